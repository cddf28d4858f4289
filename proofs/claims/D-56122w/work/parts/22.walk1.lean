/-! walk 1 (printed by gen/walk.py) -/
set_option maxRecDepth 20000
def wp_X2_pass_2 (ad : Nat → Nat) (X : Nat → gS → Prop) (K : gS → Prop) (J2 : gS → Nat → Int32 → Int32 → Prop) (G : gS) (t0 : Nat) (x1 : Int32) (x2 : Int32) : Prop :=
  (x1 ≤ x2 → K G) ∧ (¬ x1 ≤ x2 → (gIs G t0 2 ∧ wp_X2_passNight ad G t0  X (fun G1 => J2 G1 t0 x1 (x2 + (1 : Int32)))))
theorem w_X2_pass_2 {C : gCx} (hC : gOk C "GoblinHousehold$Household" cX2_pass [] none "pass" 3 7 217) {K : gS → Prop} {X : Nat → gS → Prop} (hK : ∀ G, K G → cxK C none G) (hX : ∀ q G, X q G → cxX C q G) (n : Nat) : ∀ (G : gS) (t0 : Nat) (x1 : Int32) (x2 : Int32), gLoop (fun _ _ _ _ => False) (wp_X2_pass_2 (cxA C) X K) n G t0 x1 x2 → gGo C G 2 [(0, vQ (some t0)), (1, vI x1), (2, vI x2)] [] := by
  induction n with
  | zero => intro G t0 x1 x2 h; exact h.elim
  | succ n ih =>
    intro G t0 x1 x2 h
    have hJ2 := ih
    replace h : wp_X2_pass_2 (cxA C) X K _ G t0 x1 x2 := h
    unfold wp_X2_pass_2 at h
    refine g_iload_n hC (pc := 2) 2 rfl rfl dX2_pass_2 ?_
    refine g_iload_n hC (pc := 3) 1 rfl rfl dX2_pass_3 ?_
    refine g_icmp_ge hC (pc := 4) 17 h (by decide) dX2_pass_4 (fun h => ?_) (fun h => ?_)
    · exact g_vret hC (pc := 17) (hK _ h) dX2_pass_17
    · refine g_aload_n hC (pc := 7) 0 rfl rfl dX2_pass_7 ?_
      obtain ⟨hi, h⟩ := h
      refine g_callV hC (pc := 8) (ci := 2) (As := []) gc_X2_passNight (m_X2_passNight hC.fl h) rfl hi q1637 q1639 qs19 (gle rfl) (gle rfl) rfl (gle rfl) rfl dX2_pass_8 (gk_v fun G1 h => ?_) (fun _ _ h hio => g_out0 hC (hX _ _ h) hio)
      refine g_iinc hC (pc := 11) 2 (d := (1 : Int32)) (v := (x2 + (1 : Int32))) (lv' := [(2, vI (x2 + (1 : Int32))), (0, vQ (some t0)), (1, vI x1)]) rfl (by decide) rfl (by decide) rfl dX2_pass_11 ?_
      refine g_goto hC (pc := 14) 2 (by decide) dX2_pass_14 ?_
      exact g_sub [1, 2, 0] rfl (hJ2 _ _ _ _ h)
def wp_X2_pass (ad : Nat → Nat) (G : gS) (t0 : Nat) (x1 : Int32) (X : Nat → gS → Prop) (K : gS → Prop) : Prop :=
  gLoop (fun _ _ _ _ => False) (wp_X2_pass_2 ad X K) gFuel G t0 x1 (0 : Int32)
theorem w_X2_pass {C : gCx} (hC : gOk C "GoblinHousehold$Household" cX2_pass [] none "pass" 3 7 217) {K : gS → Prop} {X : Nat → gS → Prop} (hK : ∀ G, K G → cxK C none G) (hX : ∀ q G, X q G → cxX C q G) {G : gS} {t0 : Nat} {x1 : Int32} (h : wp_X2_pass (cxA C) G t0 x1 X K) : gGo C G 0 [(0, vQ (some t0)), (1, vI x1)] [] := by
  unfold wp_X2_pass at h
  refine g_iconst hC (pc := 0) (v := (0 : Int32)) (by decide) dX2_pass_0 ?_
  refine g_istore_n hC (pc := 1) (lv' := [(2, vI (0 : Int32)), (0, vQ (some t0)), (1, vI x1)]) rfl (by decide) rfl dX2_pass_1 ?_
  exact g_sub [1, 2, 0] rfl (w_X2_pass_2 hC hK hX gFuel _ _ _ _ h)
theorem gc_X2_pass : gCode yX2_pass cX2_pass 3 none 1 := ⟨q1636, q95, ⟨by decide, by decide⟩, rfl⟩
theorem m_X2_pass {l : Launch} (hfl : l.stackTraces = false) {E : gE} {G : gS} {t0 : Nat} {x1 : Int32} {X : Nat → gS → Prop} {K : gS → Prop} (h : wp_X2_pass (gAd E) G t0 x1 X K) : gMet l yX2_pass (ws_ yX2_pass cX2_pass 3 none) 7 217 [vQ (some t0), vI x1] E G (gRv K) X :=
  g_met hfl (plainFor_of_name (by decide +kernel)) rfl rfl rfl (gle rfl) (fun p e R s m args below meth c hC => w_X2_pass hC (fun _ h => h) (fun _ _ h => h) h)
def wp_X2_passNights (ad : Nat → Nat) (G : gS) (t0 : Nat) (x1 : Int32) (X : Nat → gS → Prop) (K : Int32 → gS → Prop) : Prop :=
  wp_X1_isBetween ad G x1 (1 : Int32) (60 : Int32) X (fun r2 G1 => wp_X1_demand ad G1 r2 (some (ad 110)) X (fun G3 => wGetI G3 t0 2 9 fun i4 => (gIs G3 t0 2 ∧ wp_X2_pass ad G3 t0 x1 X (fun G5 => wGetI G5 t0 2 9 fun i6 => K (i6 - i4) G5))))
theorem w_X2_passNights {C : gCx} (hC : gOk C "GoblinHousehold$Household" cX2_passNights [] (some .int) "passNights" 3 9 247) {K : Int32 → gS → Prop} {X : Nat → gS → Prop} (hK : ∀ r G, K r G → cxK C (some (vI r)) G) (hX : ∀ q G, X q G → cxX C q G) {G : gS} {t0 : Nat} {x1 : Int32} (h : wp_X2_passNights (cxA C) G t0 x1 X K) : gGo C G 0 [(0, vQ (some t0)), (1, vI x1)] [] := by
  unfold wp_X2_passNights at h
  refine g_iload_n hC (pc := 0) 1 rfl rfl dX2_passNights_0 ?_
  refine g_iconst hC (pc := 1) (v := (1 : Int32)) (by decide) dX2_passNights_1 ?_
  refine g_bipush hC (pc := 2) (v := (60 : Int32)) (by decide) dX2_passNights_2 ?_
  refine g_callSN hC (pc := 4) (b := 0) (As := [vI x1, vI (1 : Int32), vI (60 : Int32)]) gc_X1_isBetween (m_X1_isBetween hC.fl h) (List.mem_of_getElem? (i := 2) rfl) q884 (gle rfl) (gle rfl) rfl (gle rfl) rfl dX2_passNights_4 (gk_i fun r2 G1 h => ?_) (fun _ _ h hio => g_out0 hC (hX _ _ h) hio)
  refine g_ldcS hC (pc := 7) (List.mem_of_getElem? (i := 10) rfl) dX2_passNights_7 ?_
  refine g_callSN hC (pc := 9) (b := 0) (As := [vI r2, vQ (some (cxA C 110))]) gc_X1_demand (m_X1_demand hC.fl h) (List.mem_of_getElem? (i := 3) rfl) q888 (gle rfl) (gle rfl) rfl (gle rfl) rfl dX2_passNights_9 (gk_v fun G3 h => ?_) (fun _ _ h hio => g_out0 hC (hX _ _ h) hio)
  refine g_aload_n hC (pc := 12) 0 rfl rfl dX2_passNights_12 ?_
  refine g_getI hC (pc := 13) in_X2 (ci := 2) rfl 9 (by decide) q203 (Or.inl rfl) h dX2_passNights_13 (fun i4 h => ?_)
  refine g_istore_n hC (pc := 16) (lv' := [(2, vI i4), (0, vQ (some t0)), (1, vI x1)]) rfl (by decide) rfl dX2_passNights_16 ?_
  refine g_aload_n hC (pc := 17) 1 rfl rfl dX2_passNights_17 ?_
  refine g_iload_n hC (pc := 18) 2 rfl rfl dX2_passNights_18 ?_
  obtain ⟨hi, h⟩ := h
  refine g_callV hC (pc := 19) (ci := 2) (As := [vI x1]) gc_X2_pass (m_X2_pass hC.fl h) rfl hi q1633 q1634 q1635 (gle rfl) (gle rfl) rfl (gle rfl) rfl dX2_passNights_19 (gk_v fun G5 h => ?_) (fun _ _ h hio => g_out0 hC (hX _ _ h) hio)
  refine g_aload_n hC (pc := 22) 1 rfl rfl dX2_passNights_22 ?_
  refine g_getI hC (pc := 23) in_X2 (ci := 2) rfl 9 (by decide) q203 (Or.inl rfl) h dX2_passNights_23 (fun i6 h => ?_)
  refine g_iload_n hC (pc := 26) 0 rfl rfl dX2_passNights_26 ?_
  refine g_isub hC (pc := 27) dX2_passNights_27 ?_
  exact g_iret hC (pc := 28) (hK _ _ h) dX2_passNights_28
theorem gc_X2_passNights : gCode yX2_passNights cX2_passNights 3 (some .int) 1 := ⟨q1632, q95, ⟨by decide, by decide⟩, rfl⟩
theorem m_X2_passNights {l : Launch} (hfl : l.stackTraces = false) {E : gE} {G : gS} {t0 : Nat} {x1 : Int32} {X : Nat → gS → Prop} {K : Int32 → gS → Prop} (h : wp_X2_passNights (gAd E) G t0 x1 X K) : gMet l yX2_passNights (ws_ yX2_passNights cX2_passNights 3 (some .int)) 9 247 [vQ (some t0), vI x1] E G (gRi K) X :=
  g_met hfl (plainFor_of_name (by decide +kernel)) rfl rfl rfl (gle rfl) (fun p e R s m args below meth c hC => w_X2_passNights hC (fun _ _ h => h) (fun _ _ h => h) h)
def wp_X1_lambda_passNights_11 (ad : Nat → Nat) (G : gS) (x0 : Int32) (o1 : Option Nat) (X : Nat → gS → Prop) (K : Int32 → gS → Prop) : Prop :=
  wNN o1 fun c1 => (gIs G c1 2 ∧ wp_X2_passNights ad G c1 x0 X (fun r3 G2 => K r3 G2))
theorem w_X1_lambda_passNights_11 {C : gCx} (hC : gOk C "GoblinHousehold" cX1_lambda_passNights_11 [] (some .int) "lambda$passNights$11" 2 10 277) {K : Int32 → gS → Prop} {X : Nat → gS → Prop} (hK : ∀ r G, K r G → cxK C (some (vI r)) G) (hX : ∀ q G, X q G → cxX C q G) {G : gS} {x0 : Int32} {o1 : Option Nat} (h : wp_X1_lambda_passNights_11 (cxA C) G x0 o1 X K) : gGo C G 0 [(0, vI x0), (1, vQ o1)] [] := by
  unfold wp_X1_lambda_passNights_11 at h
  refine g_aload_n hC (pc := 0) 1 rfl rfl dX1_lambda_passNights_11_0 ?_
  refine g_iload_n hC (pc := 1) 0 rfl rfl dX1_lambda_passNights_11_1 ?_
  rcases o1 with _ | c1
  · exact (gNN0 h).elim
  replace h := gNN1 h
  obtain ⟨hi, h⟩ := h
  refine g_callV hC (pc := 2) (ci := 2) (As := [vI x0]) gc_X2_passNights (m_X2_passNights hC.fl h) rfl hi q1629 q1630 q1631 (gle rfl) (gle rfl) rfl (gle rfl) rfl dX1_lambda_passNights_11_2 (gk_i fun r3 G2 h => ?_) (fun _ _ h hio => g_out0 hC (hX _ _ h) hio)
  exact g_iret hC (pc := 5) (hK _ _ h) dX1_lambda_passNights_11_5
theorem gc_X1_lambda_passNights_11 : gCode yX1_lambda_passNights_11 cX1_lambda_passNights_11 2 (some .int) 2 := ⟨q1628, q94, ⟨by decide, by decide⟩, rfl⟩
theorem m_X1_lambda_passNights_11 {l : Launch} (hfl : l.stackTraces = false) {E : gE} {G : gS} {x0 : Int32} {o1 : Option Nat} {X : Nat → gS → Prop} {K : Int32 → gS → Prop} (h : wp_X1_lambda_passNights_11 (gAd E) G x0 o1 X K) : gMet l yX1_lambda_passNights_11 (ws_ yX1_lambda_passNights_11 cX1_lambda_passNights_11 2 (some .int)) 10 277 [vI x0, vQ o1] E G (gRi K) X :=
  g_met hfl (plainFor_of_name (by decide +kernel)) rfl rfl rfl (gle rfl) (fun p e R s m args below meth c hC => w_X1_lambda_passNights_11 hC (fun _ _ h => h) (fun _ _ h => h) h)
def wp_X15_lambda_change_9 (ad : Nat → Nat) (G : gS) (x0 : Int32) (x1 : Int32) (x2 : Int32) (x3 : Int32) (o4 : Option Nat) (X : Nat → gS → Prop) (K : Int32 → gS → Prop) : Prop :=
  wNN o4 fun c1 => (gIs G c1 2 ∧ wp_X2_hire ad G c1 x0 x1 x2 x3 X (fun r3 G2 => K r3 G2))
theorem w_X15_lambda_change_9 {C : gCx} (hC : gOk C "GoblinHousehold$Parser" cX15_lambda_change_9 [] (some .int) "lambda$change$9" 5 10 279) {K : Int32 → gS → Prop} {X : Nat → gS → Prop} (hK : ∀ r G, K r G → cxK C (some (vI r)) G) (hX : ∀ q G, X q G → cxX C q G) {G : gS} {x0 : Int32} {x1 : Int32} {x2 : Int32} {x3 : Int32} {o4 : Option Nat} (h : wp_X15_lambda_change_9 (cxA C) G x0 x1 x2 x3 o4 X K) : gGo C G 0 [(0, vI x0), (1, vI x1), (2, vI x2), (3, vI x3), (4, vQ o4)] [] := by
  unfold wp_X15_lambda_change_9 at h
  refine g_aload hC (pc := 0) 4 rfl dX15_lambda_change_9_0 ?_
  refine g_iload_n hC (pc := 2) 0 rfl rfl dX15_lambda_change_9_2 ?_
  refine g_iload_n hC (pc := 3) 1 rfl rfl dX15_lambda_change_9_3 ?_
  refine g_iload_n hC (pc := 4) 2 rfl rfl dX15_lambda_change_9_4 ?_
  refine g_iload_n hC (pc := 5) 3 rfl rfl dX15_lambda_change_9_5 ?_
  rcases o4 with _ | c1
  · exact (gNN0 h).elim
  replace h := gNN1 h
  obtain ⟨hi, h⟩ := h
  refine g_callV hC (pc := 6) (ci := 2) (As := [vI x0, vI x1, vI x2, vI x3]) gc_X2_hire (m_X2_hire hC.fl h) rfl hi q2276 q1374 q1375 (gle rfl) (gle rfl) rfl (gle rfl) rfl dX15_lambda_change_9_6 (gk_i fun r3 G2 h => ?_) (fun _ _ h hio => g_out0 hC (hX _ _ h) hio)
  exact g_iret hC (pc := 9) (hK _ _ h) dX15_lambda_change_9_9
theorem gc_X15_lambda_change_9 : gCode yX15_lambda_change_9 cX15_lambda_change_9 5 (some .int) 5 := ⟨q2275, q140, ⟨by decide, by decide⟩, rfl⟩
theorem m_X15_lambda_change_9 {l : Launch} (hfl : l.stackTraces = false) {E : gE} {G : gS} {x0 : Int32} {x1 : Int32} {x2 : Int32} {x3 : Int32} {o4 : Option Nat} {X : Nat → gS → Prop} {K : Int32 → gS → Prop} (h : wp_X15_lambda_change_9 (gAd E) G x0 x1 x2 x3 o4 X K) : gMet l yX15_lambda_change_9 (ws_ yX15_lambda_change_9 cX15_lambda_change_9 5 (some .int)) 10 279 [vI x0, vI x1, vI x2, vI x3, vQ o4] E G (gRi K) X :=
  g_met hfl (plainFor_of_name (by decide +kernel)) rfl rfl rfl (gle rfl) (fun p e R s m args below meth c hC => w_X15_lambda_change_9 hC (fun _ _ h => h) (fun _ _ h => h) h)
def wp_X15_lambda_change_10 (ad : Nat → Nat) (G : gS) (x0 : Int32) (x1 : Int32) (o2 : Option Nat) (X : Nat → gS → Prop) (K : Int32 → gS → Prop) : Prop :=
  wNN o2 fun c1 => (gIs G c1 2 ∧ wp_X2_lend ad G c1 x0 x1 X (fun r3 G2 => K r3 G2))
theorem w_X15_lambda_change_10 {C : gCx} (hC : gOk C "GoblinHousehold$Parser" cX15_lambda_change_10 [] (some .int) "lambda$change$10" 3 10 278) {K : Int32 → gS → Prop} {X : Nat → gS → Prop} (hK : ∀ r G, K r G → cxK C (some (vI r)) G) (hX : ∀ q G, X q G → cxX C q G) {G : gS} {x0 : Int32} {x1 : Int32} {o2 : Option Nat} (h : wp_X15_lambda_change_10 (cxA C) G x0 x1 o2 X K) : gGo C G 0 [(0, vI x0), (1, vI x1), (2, vQ o2)] [] := by
  unfold wp_X15_lambda_change_10 at h
  refine g_aload_n hC (pc := 0) 2 rfl rfl dX15_lambda_change_10_0 ?_
  refine g_iload_n hC (pc := 1) 0 rfl rfl dX15_lambda_change_10_1 ?_
  refine g_iload_n hC (pc := 2) 1 rfl rfl dX15_lambda_change_10_2 ?_
  rcases o2 with _ | c1
  · exact (gNN0 h).elim
  replace h := gNN1 h
  obtain ⟨hi, h⟩ := h
  refine g_callV hC (pc := 3) (ci := 2) (As := [vI x0, vI x1]) gc_X2_lend (m_X2_lend hC.fl h) rfl hi q2279 q1585 q1586 (gle rfl) (gle rfl) rfl (gle rfl) rfl dX15_lambda_change_10_3 (gk_i fun r3 G2 h => ?_) (fun _ _ h hio => g_out0 hC (hX _ _ h) hio)
  exact g_iret hC (pc := 6) (hK _ _ h) dX15_lambda_change_10_6
theorem gc_X15_lambda_change_10 : gCode yX15_lambda_change_10 cX15_lambda_change_10 3 (some .int) 3 := ⟨q2278, q140, ⟨by decide, by decide⟩, rfl⟩
theorem m_X15_lambda_change_10 {l : Launch} (hfl : l.stackTraces = false) {E : gE} {G : gS} {x0 : Int32} {x1 : Int32} {o2 : Option Nat} {X : Nat → gS → Prop} {K : Int32 → gS → Prop} (h : wp_X15_lambda_change_10 (gAd E) G x0 x1 o2 X K) : gMet l yX15_lambda_change_10 (ws_ yX15_lambda_change_10 cX15_lambda_change_10 3 (some .int)) 10 278 [vI x0, vI x1, vQ o2] E G (gRi K) X :=
  g_met hfl (plainFor_of_name (by decide +kernel)) rfl rfl rfl (gle rfl) (fun p e R s m args below meth c hC => w_X15_lambda_change_10 hC (fun _ _ h => h) (fun _ _ h => h) h)
def wp_X15_lambda_change_11 (ad : Nat → Nat) (G : gS) (x0 : Int32) (o1 : Option Nat) (X : Nat → gS → Prop) (K : Int32 → gS → Prop) : Prop :=
  wNN o1 fun c1 => (gIs G c1 2 ∧ wp_X2_passNights ad G c1 x0 X (fun r3 G2 => K r3 G2))
theorem w_X15_lambda_change_11 {C : gCx} (hC : gOk C "GoblinHousehold$Parser" cX15_lambda_change_11 [] (some .int) "lambda$change$11" 2 10 277) {K : Int32 → gS → Prop} {X : Nat → gS → Prop} (hK : ∀ r G, K r G → cxK C (some (vI r)) G) (hX : ∀ q G, X q G → cxX C q G) {G : gS} {x0 : Int32} {o1 : Option Nat} (h : wp_X15_lambda_change_11 (cxA C) G x0 o1 X K) : gGo C G 0 [(0, vI x0), (1, vQ o1)] [] := by
  unfold wp_X15_lambda_change_11 at h
  refine g_aload_n hC (pc := 0) 1 rfl rfl dX15_lambda_change_11_0 ?_
  refine g_iload_n hC (pc := 1) 0 rfl rfl dX15_lambda_change_11_1 ?_
  rcases o1 with _ | c1
  · exact (gNN0 h).elim
  replace h := gNN1 h
  obtain ⟨hi, h⟩ := h
  refine g_callV hC (pc := 2) (ci := 2) (As := [vI x0]) gc_X2_passNights (m_X2_passNights hC.fl h) rfl hi q2282 q1630 q1631 (gle rfl) (gle rfl) rfl (gle rfl) rfl dX15_lambda_change_11_2 (gk_i fun r3 G2 h => ?_) (fun _ _ h hio => g_out0 hC (hX _ _ h) hio)
  exact g_iret hC (pc := 5) (hK _ _ h) dX15_lambda_change_11_5
theorem gc_X15_lambda_change_11 : gCode yX15_lambda_change_11 cX15_lambda_change_11 2 (some .int) 2 := ⟨q2281, q140, ⟨by decide, by decide⟩, rfl⟩
theorem m_X15_lambda_change_11 {l : Launch} (hfl : l.stackTraces = false) {E : gE} {G : gS} {x0 : Int32} {o1 : Option Nat} {X : Nat → gS → Prop} {K : Int32 → gS → Prop} (h : wp_X15_lambda_change_11 (gAd E) G x0 o1 X K) : gMet l yX15_lambda_change_11 (ws_ yX15_lambda_change_11 cX15_lambda_change_11 2 (some .int)) 10 277 [vI x0, vQ o1] E G (gRi K) X :=
  g_met hfl (plainFor_of_name (by decide +kernel)) rfl rfl rfl (gle rfl) (fun p e R s m args below meth c hC => w_X15_lambda_change_11 hC (fun _ _ h => h) (fun _ _ h => h) h)
def wp_X15_lambda_oneArgument_0 (ad : Nat → Nat) (G : gS) (x0 : Int32) (o1 : Option Nat) (X : Nat → gS → Prop) (K : Int32 → gS → Prop) : Prop :=
  wNN o1 fun c1 => (gIs G c1 2 ∧ wp_X2_addGoblin ad G c1 x0 X (fun r3 G2 => K r3 G2))
theorem w_X15_lambda_oneArgument_0 {C : gCx} (hC : gOk C "GoblinHousehold$Parser" cX15_lambda_oneArgument_0 [] (some .int) "lambda$oneArgument$0" 2 10 276) {K : Int32 → gS → Prop} {X : Nat → gS → Prop} (hK : ∀ r G, K r G → cxK C (some (vI r)) G) (hX : ∀ q G, X q G → cxX C q G) {G : gS} {x0 : Int32} {o1 : Option Nat} (h : wp_X15_lambda_oneArgument_0 (cxA C) G x0 o1 X K) : gGo C G 0 [(0, vI x0), (1, vQ o1)] [] := by
  unfold wp_X15_lambda_oneArgument_0 at h
  refine g_aload_n hC (pc := 0) 1 rfl rfl dX15_lambda_oneArgument_0_0 ?_
  refine g_iload_n hC (pc := 1) 0 rfl rfl dX15_lambda_oneArgument_0_1 ?_
  rcases o1 with _ | c1
  · exact (gNN0 h).elim
  replace h := gNN1 h
  obtain ⟨hi, h⟩ := h
  refine g_callV hC (pc := 2) (ci := 2) (As := [vI x0]) gc_X2_addGoblin (m_X2_addGoblin hC.fl h) rfl hi q2298 q880 q881 (gle rfl) (gle rfl) rfl (gle rfl) rfl dX15_lambda_oneArgument_0_2 (gk_i fun r3 G2 h => ?_) (fun _ _ h hio => g_out0 hC (hX _ _ h) hio)
  exact g_iret hC (pc := 5) (hK _ _ h) dX15_lambda_oneArgument_0_5
theorem gc_X15_lambda_oneArgument_0 : gCode yX15_lambda_oneArgument_0 cX15_lambda_oneArgument_0 2 (some .int) 2 := ⟨q2297, q140, ⟨by decide, by decide⟩, rfl⟩
theorem m_X15_lambda_oneArgument_0 {l : Launch} (hfl : l.stackTraces = false) {E : gE} {G : gS} {x0 : Int32} {o1 : Option Nat} {X : Nat → gS → Prop} {K : Int32 → gS → Prop} (h : wp_X15_lambda_oneArgument_0 (gAd E) G x0 o1 X K) : gMet l yX15_lambda_oneArgument_0 (ws_ yX15_lambda_oneArgument_0 cX15_lambda_oneArgument_0 2 (some .int)) 10 276 [vI x0, vQ o1] E G (gRi K) X :=
  g_met hfl (plainFor_of_name (by decide +kernel)) rfl rfl rfl (gle rfl) (fun p e R s m args below meth c hC => w_X15_lambda_oneArgument_0 hC (fun _ _ h => h) (fun _ _ h => h) h)
def wp_X15_lambda_oneArgument_1 (ad : Nat → Nat) (G : gS) (x0 : Int32) (o1 : Option Nat) (X : Nat → gS → Prop) (K : Int32 → gS → Prop) : Prop :=
  wNN o1 fun c1 => (gIs G c1 2 ∧ wp_X2_addBroom ad G c1 x0 X (fun r3 G2 => K r3 G2))
theorem w_X15_lambda_oneArgument_1 {C : gCx} (hC : gOk C "GoblinHousehold$Parser" cX15_lambda_oneArgument_1 [] (some .int) "lambda$oneArgument$1" 2 10 276) {K : Int32 → gS → Prop} {X : Nat → gS → Prop} (hK : ∀ r G, K r G → cxK C (some (vI r)) G) (hX : ∀ q G, X q G → cxX C q G) {G : gS} {x0 : Int32} {o1 : Option Nat} (h : wp_X15_lambda_oneArgument_1 (cxA C) G x0 o1 X K) : gGo C G 0 [(0, vI x0), (1, vQ o1)] [] := by
  unfold wp_X15_lambda_oneArgument_1 at h
  refine g_aload_n hC (pc := 0) 1 rfl rfl dX15_lambda_oneArgument_1_0 ?_
  refine g_iload_n hC (pc := 1) 0 rfl rfl dX15_lambda_oneArgument_1_1 ?_
  rcases o1 with _ | c1
  · exact (gNN0 h).elim
  replace h := gNN1 h
  obtain ⟨hi, h⟩ := h
  refine g_callV hC (pc := 2) (ci := 2) (As := [vI x0]) gc_X2_addBroom (m_X2_addBroom hC.fl h) rfl hi q2301 q1305 q1306 (gle rfl) (gle rfl) rfl (gle rfl) rfl dX15_lambda_oneArgument_1_2 (gk_i fun r3 G2 h => ?_) (fun _ _ h hio => g_out0 hC (hX _ _ h) hio)
  exact g_iret hC (pc := 5) (hK _ _ h) dX15_lambda_oneArgument_1_5
theorem gc_X15_lambda_oneArgument_1 : gCode yX15_lambda_oneArgument_1 cX15_lambda_oneArgument_1 2 (some .int) 2 := ⟨q2300, q140, ⟨by decide, by decide⟩, rfl⟩
theorem m_X15_lambda_oneArgument_1 {l : Launch} (hfl : l.stackTraces = false) {E : gE} {G : gS} {x0 : Int32} {o1 : Option Nat} {X : Nat → gS → Prop} {K : Int32 → gS → Prop} (h : wp_X15_lambda_oneArgument_1 (gAd E) G x0 o1 X K) : gMet l yX15_lambda_oneArgument_1 (ws_ yX15_lambda_oneArgument_1 cX15_lambda_oneArgument_1 2 (some .int)) 10 276 [vI x0, vQ o1] E G (gRi K) X :=
  g_met hfl (plainFor_of_name (by decide +kernel)) rfl rfl rfl (gle rfl) (fun p e R s m args below meth c hC => w_X15_lambda_oneArgument_1 hC (fun _ _ h => h) (fun _ _ h => h) h)
def wp_X15_lambda_oneArgument_2 (ad : Nat → Nat) (G : gS) (x0 : Int32) (o1 : Option Nat) (X : Nat → gS → Prop) (K : Int32 → gS → Prop) : Prop :=
  wNN o1 fun c1 => (gIs G c1 2 ∧ wp_X2_banish ad G c1 x0 X (fun r3 G2 => K r3 G2))
theorem w_X15_lambda_oneArgument_2 {C : gCx} (hC : gOk C "GoblinHousehold$Parser" cX15_lambda_oneArgument_2 [] (some .int) "lambda$oneArgument$2" 2 11 306) {K : Int32 → gS → Prop} {X : Nat → gS → Prop} (hK : ∀ r G, K r G → cxK C (some (vI r)) G) (hX : ∀ q G, X q G → cxX C q G) {G : gS} {x0 : Int32} {o1 : Option Nat} (h : wp_X15_lambda_oneArgument_2 (cxA C) G x0 o1 X K) : gGo C G 0 [(0, vI x0), (1, vQ o1)] [] := by
  unfold wp_X15_lambda_oneArgument_2 at h
  refine g_aload_n hC (pc := 0) 1 rfl rfl dX15_lambda_oneArgument_2_0 ?_
  refine g_iload_n hC (pc := 1) 0 rfl rfl dX15_lambda_oneArgument_2_1 ?_
  rcases o1 with _ | c1
  · exact (gNN0 h).elim
  replace h := gNN1 h
  obtain ⟨hi, h⟩ := h
  refine g_callV hC (pc := 2) (ci := 2) (As := [vI x0]) gc_X2_banish (m_X2_banish hC.fl h) rfl hi q2304 q1335 q1336 (gle rfl) (gle rfl) rfl (gle rfl) rfl dX15_lambda_oneArgument_2_2 (gk_i fun r3 G2 h => ?_) (fun _ _ h hio => g_out0 hC (hX _ _ h) hio)
  exact g_iret hC (pc := 5) (hK _ _ h) dX15_lambda_oneArgument_2_5
theorem gc_X15_lambda_oneArgument_2 : gCode yX15_lambda_oneArgument_2 cX15_lambda_oneArgument_2 2 (some .int) 2 := ⟨q2303, q140, ⟨by decide, by decide⟩, rfl⟩
theorem m_X15_lambda_oneArgument_2 {l : Launch} (hfl : l.stackTraces = false) {E : gE} {G : gS} {x0 : Int32} {o1 : Option Nat} {X : Nat → gS → Prop} {K : Int32 → gS → Prop} (h : wp_X15_lambda_oneArgument_2 (gAd E) G x0 o1 X K) : gMet l yX15_lambda_oneArgument_2 (ws_ yX15_lambda_oneArgument_2 cX15_lambda_oneArgument_2 2 (some .int)) 11 306 [vI x0, vQ o1] E G (gRi K) X :=
  g_met hfl (plainFor_of_name (by decide +kernel)) rfl rfl rfl (gle rfl) (fun p e R s m args below meth c hC => w_X15_lambda_oneArgument_2 hC (fun _ _ h => h) (fun _ _ h => h) h)
def wp_X15_lambda_oneArgument_3 (ad : Nat → Nat) (G : gS) (x0 : Int32) (o1 : Option Nat) (X : Nat → gS → Prop) (K : Int32 → gS → Prop) : Prop :=
  wNN o1 fun c1 => (gIs G c1 2 ∧ wp_X2_recall ad G c1 x0 X (fun r3 G2 => K r3 G2))
theorem w_X15_lambda_oneArgument_3 {C : gCx} (hC : gOk C "GoblinHousehold$Parser" cX15_lambda_oneArgument_3 [] (some .int) "lambda$oneArgument$3" 2 11 306) {K : Int32 → gS → Prop} {X : Nat → gS → Prop} (hK : ∀ r G, K r G → cxK C (some (vI r)) G) (hX : ∀ q G, X q G → cxX C q G) {G : gS} {x0 : Int32} {o1 : Option Nat} (h : wp_X15_lambda_oneArgument_3 (cxA C) G x0 o1 X K) : gGo C G 0 [(0, vI x0), (1, vQ o1)] [] := by
  unfold wp_X15_lambda_oneArgument_3 at h
  refine g_aload_n hC (pc := 0) 1 rfl rfl dX15_lambda_oneArgument_3_0 ?_
  refine g_iload_n hC (pc := 1) 0 rfl rfl dX15_lambda_oneArgument_3_1 ?_
  rcases o1 with _ | c1
  · exact (gNN0 h).elim
  replace h := gNN1 h
  obtain ⟨hi, h⟩ := h
  refine g_callV hC (pc := 2) (ci := 2) (As := [vI x0]) gc_X2_recall (m_X2_recall hC.fl h) rfl hi q2307 q1359 q1360 (gle rfl) (gle rfl) rfl (gle rfl) rfl dX15_lambda_oneArgument_3_2 (gk_i fun r3 G2 h => ?_) (fun _ _ h hio => g_out0 hC (hX _ _ h) hio)
  exact g_iret hC (pc := 5) (hK _ _ h) dX15_lambda_oneArgument_3_5
theorem gc_X15_lambda_oneArgument_3 : gCode yX15_lambda_oneArgument_3 cX15_lambda_oneArgument_3 2 (some .int) 2 := ⟨q2306, q140, ⟨by decide, by decide⟩, rfl⟩
theorem m_X15_lambda_oneArgument_3 {l : Launch} (hfl : l.stackTraces = false) {E : gE} {G : gS} {x0 : Int32} {o1 : Option Nat} {X : Nat → gS → Prop} {K : Int32 → gS → Prop} (h : wp_X15_lambda_oneArgument_3 (gAd E) G x0 o1 X K) : gMet l yX15_lambda_oneArgument_3 (ws_ yX15_lambda_oneArgument_3 cX15_lambda_oneArgument_3 2 (some .int)) 11 306 [vI x0, vQ o1] E G (gRi K) X :=
  g_met hfl (plainFor_of_name (by decide +kernel)) rfl rfl rfl (gle rfl) (fun p e R s m args below meth c hC => w_X15_lambda_oneArgument_3 hC (fun _ _ h => h) (fun _ _ h => h) h)
def wp_X15_lambda_oneArgument_4 (ad : Nat → Nat) (G : gS) (x0 : Int32) (o1 : Option Nat) (X : Nat → gS → Prop) (K : Int32 → gS → Prop) : Prop :=
  wNN o1 fun c1 => (gIs G c1 2 ∧ wp_X2_cancel ad G c1 x0 X (fun r3 G2 => K r3 G2))
theorem w_X15_lambda_oneArgument_4 {C : gCx} (hC : gOk C "GoblinHousehold$Parser" cX15_lambda_oneArgument_4 [] (some .int) "lambda$oneArgument$4" 2 10 278) {K : Int32 → gS → Prop} {X : Nat → gS → Prop} (hK : ∀ r G, K r G → cxK C (some (vI r)) G) (hX : ∀ q G, X q G → cxX C q G) {G : gS} {x0 : Int32} {o1 : Option Nat} (h : wp_X15_lambda_oneArgument_4 (cxA C) G x0 o1 X K) : gGo C G 0 [(0, vI x0), (1, vQ o1)] [] := by
  unfold wp_X15_lambda_oneArgument_4 at h
  refine g_aload_n hC (pc := 0) 1 rfl rfl dX15_lambda_oneArgument_4_0 ?_
  refine g_iload_n hC (pc := 1) 0 rfl rfl dX15_lambda_oneArgument_4_1 ?_
  rcases o1 with _ | c1
  · exact (gNN0 h).elim
  replace h := gNN1 h
  obtain ⟨hi, h⟩ := h
  refine g_callV hC (pc := 2) (ci := 2) (As := [vI x0]) gc_X2_cancel (m_X2_cancel hC.fl h) rfl hi q2310 q1426 q1427 (gle rfl) (gle rfl) rfl (gle rfl) rfl dX15_lambda_oneArgument_4_2 (gk_i fun r3 G2 h => ?_) (fun _ _ h hio => g_out0 hC (hX _ _ h) hio)
  exact g_iret hC (pc := 5) (hK _ _ h) dX15_lambda_oneArgument_4_5
theorem gc_X15_lambda_oneArgument_4 : gCode yX15_lambda_oneArgument_4 cX15_lambda_oneArgument_4 2 (some .int) 2 := ⟨q2309, q140, ⟨by decide, by decide⟩, rfl⟩
theorem m_X15_lambda_oneArgument_4 {l : Launch} (hfl : l.stackTraces = false) {E : gE} {G : gS} {x0 : Int32} {o1 : Option Nat} {X : Nat → gS → Prop} {K : Int32 → gS → Prop} (h : wp_X15_lambda_oneArgument_4 (gAd E) G x0 o1 X K) : gMet l yX15_lambda_oneArgument_4 (ws_ yX15_lambda_oneArgument_4 cX15_lambda_oneArgument_4 2 (some .int)) 10 278 [vI x0, vQ o1] E G (gRi K) X :=
  g_met hfl (plainFor_of_name (by decide +kernel)) rfl rfl rfl (gle rfl) (fun p e R s m args below meth c hC => w_X15_lambda_oneArgument_4 hC (fun _ _ h => h) (fun _ _ h => h) h)
def wp_X15_lambda_oneArgument_5 (ad : Nat → Nat) (G : gS) (x0 : Int32) (o1 : Option Nat) (X : Nat → gS → Prop) (K : Int32 → gS → Prop) : Prop :=
  wNN o1 fun c1 => (gIs G c1 2 ∧ wp_X2_setResting ad G c1 x0 (1 : Int32) X (fun r3 G2 => K r3 G2))
theorem w_X15_lambda_oneArgument_5 {C : gCx} (hC : gOk C "GoblinHousehold$Parser" cX15_lambda_oneArgument_5 [] (some .int) "lambda$oneArgument$5" 2 10 278) {K : Int32 → gS → Prop} {X : Nat → gS → Prop} (hK : ∀ r G, K r G → cxK C (some (vI r)) G) (hX : ∀ q G, X q G → cxX C q G) {G : gS} {x0 : Int32} {o1 : Option Nat} (h : wp_X15_lambda_oneArgument_5 (cxA C) G x0 o1 X K) : gGo C G 0 [(0, vI x0), (1, vQ o1)] [] := by
  unfold wp_X15_lambda_oneArgument_5 at h
  refine g_aload_n hC (pc := 0) 1 rfl rfl dX15_lambda_oneArgument_5_0 ?_
  refine g_iload_n hC (pc := 1) 0 rfl rfl dX15_lambda_oneArgument_5_1 ?_
  refine g_iconst hC (pc := 2) (v := (1 : Int32)) (by decide) dX15_lambda_oneArgument_5_2 ?_
  rcases o1 with _ | c1
  · exact (gNN0 h).elim
  replace h := gNN1 h
  obtain ⟨hi, h⟩ := h
  refine g_callV hC (pc := 3) (ci := 2) (As := [vI x0, vI (1 : Int32)]) gc_X2_setResting (m_X2_setResting hC.fl h) rfl hi q2313 q1559 q1560 (gle rfl) (gle rfl) rfl (gle rfl) rfl dX15_lambda_oneArgument_5_3 (gk_i fun r3 G2 h => ?_) (fun _ _ h hio => g_out0 hC (hX _ _ h) hio)
  exact g_iret hC (pc := 6) (hK _ _ h) dX15_lambda_oneArgument_5_6
theorem gc_X15_lambda_oneArgument_5 : gCode yX15_lambda_oneArgument_5 cX15_lambda_oneArgument_5 2 (some .int) 2 := ⟨q2312, q140, ⟨by decide, by decide⟩, rfl⟩
theorem m_X15_lambda_oneArgument_5 {l : Launch} (hfl : l.stackTraces = false) {E : gE} {G : gS} {x0 : Int32} {o1 : Option Nat} {X : Nat → gS → Prop} {K : Int32 → gS → Prop} (h : wp_X15_lambda_oneArgument_5 (gAd E) G x0 o1 X K) : gMet l yX15_lambda_oneArgument_5 (ws_ yX15_lambda_oneArgument_5 cX15_lambda_oneArgument_5 2 (some .int)) 10 278 [vI x0, vQ o1] E G (gRi K) X :=
  g_met hfl (plainFor_of_name (by decide +kernel)) rfl rfl rfl (gle rfl) (fun p e R s m args below meth c hC => w_X15_lambda_oneArgument_5 hC (fun _ _ h => h) (fun _ _ h => h) h)
def wp_X15_lambda_oneArgument_6 (ad : Nat → Nat) (G : gS) (x0 : Int32) (o1 : Option Nat) (X : Nat → gS → Prop) (K : Int32 → gS → Prop) : Prop :=
  wNN o1 fun c1 => (gIs G c1 2 ∧ wp_X2_setResting ad G c1 x0 (0 : Int32) X (fun r3 G2 => K r3 G2))
theorem w_X15_lambda_oneArgument_6 {C : gCx} (hC : gOk C "GoblinHousehold$Parser" cX15_lambda_oneArgument_6 [] (some .int) "lambda$oneArgument$6" 2 10 278) {K : Int32 → gS → Prop} {X : Nat → gS → Prop} (hK : ∀ r G, K r G → cxK C (some (vI r)) G) (hX : ∀ q G, X q G → cxX C q G) {G : gS} {x0 : Int32} {o1 : Option Nat} (h : wp_X15_lambda_oneArgument_6 (cxA C) G x0 o1 X K) : gGo C G 0 [(0, vI x0), (1, vQ o1)] [] := by
  unfold wp_X15_lambda_oneArgument_6 at h
  refine g_aload_n hC (pc := 0) 1 rfl rfl dX15_lambda_oneArgument_6_0 ?_
  refine g_iload_n hC (pc := 1) 0 rfl rfl dX15_lambda_oneArgument_6_1 ?_
  refine g_iconst hC (pc := 2) (v := (0 : Int32)) (by decide) dX15_lambda_oneArgument_6_2 ?_
  rcases o1 with _ | c1
  · exact (gNN0 h).elim
  replace h := gNN1 h
  obtain ⟨hi, h⟩ := h
  refine g_callV hC (pc := 3) (ci := 2) (As := [vI x0, vI (0 : Int32)]) gc_X2_setResting (m_X2_setResting hC.fl h) rfl hi q2313 q1559 q1560 (gle rfl) (gle rfl) rfl (gle rfl) rfl dX15_lambda_oneArgument_6_3 (gk_i fun r3 G2 h => ?_) (fun _ _ h hio => g_out0 hC (hX _ _ h) hio)
  exact g_iret hC (pc := 6) (hK _ _ h) dX15_lambda_oneArgument_6_6
theorem gc_X15_lambda_oneArgument_6 : gCode yX15_lambda_oneArgument_6 cX15_lambda_oneArgument_6 2 (some .int) 2 := ⟨q2315, q140, ⟨by decide, by decide⟩, rfl⟩
theorem m_X15_lambda_oneArgument_6 {l : Launch} (hfl : l.stackTraces = false) {E : gE} {G : gS} {x0 : Int32} {o1 : Option Nat} {X : Nat → gS → Prop} {K : Int32 → gS → Prop} (h : wp_X15_lambda_oneArgument_6 (gAd E) G x0 o1 X K) : gMet l yX15_lambda_oneArgument_6 (ws_ yX15_lambda_oneArgument_6 cX15_lambda_oneArgument_6 2 (some .int)) 10 278 [vI x0, vQ o1] E G (gRi K) X :=
  g_met hfl (plainFor_of_name (by decide +kernel)) rfl rfl rfl (gle rfl) (fun p e R s m args below meth c hC => w_X15_lambda_oneArgument_6 hC (fun _ _ h => h) (fun _ _ h => h) h)
def wp_X15_lambda_oneArgument_7 (ad : Nat → Nat) (G : gS) (x0 : Int32) (o1 : Option Nat) (X : Nat → gS → Prop) (K : Int32 → gS → Prop) : Prop :=
  wNN o1 fun c1 => (gIs G c1 2 ∧ wp_X2_fund ad G c1 x0 X (fun r3 G2 => K r3 G2))
theorem w_X15_lambda_oneArgument_7 {C : gCx} (hC : gOk C "GoblinHousehold$Parser" cX15_lambda_oneArgument_7 [] (some .int) "lambda$oneArgument$7" 2 10 276) {K : Int32 → gS → Prop} {X : Nat → gS → Prop} (hK : ∀ r G, K r G → cxK C (some (vI r)) G) (hX : ∀ q G, X q G → cxX C q G) {G : gS} {x0 : Int32} {o1 : Option Nat} (h : wp_X15_lambda_oneArgument_7 (cxA C) G x0 o1 X K) : gGo C G 0 [(0, vI x0), (1, vQ o1)] [] := by
  unfold wp_X15_lambda_oneArgument_7 at h
  refine g_aload_n hC (pc := 0) 1 rfl rfl dX15_lambda_oneArgument_7_0 ?_
  refine g_iload_n hC (pc := 1) 0 rfl rfl dX15_lambda_oneArgument_7_1 ?_
  rcases o1 with _ | c1
  · exact (gNN0 h).elim
  replace h := gNN1 h
  obtain ⟨hi, h⟩ := h
  refine g_callV hC (pc := 2) (ci := 2) (As := [vI x0]) gc_X2_fund (m_X2_fund hC.fl h) rfl hi q2318 q1604 q1605 (gle rfl) (gle rfl) rfl (gle rfl) rfl dX15_lambda_oneArgument_7_2 (gk_i fun r3 G2 h => ?_) (fun _ _ h hio => g_out0 hC (hX _ _ h) hio)
  exact g_iret hC (pc := 5) (hK _ _ h) dX15_lambda_oneArgument_7_5
theorem gc_X15_lambda_oneArgument_7 : gCode yX15_lambda_oneArgument_7 cX15_lambda_oneArgument_7 2 (some .int) 2 := ⟨q2317, q140, ⟨by decide, by decide⟩, rfl⟩
theorem m_X15_lambda_oneArgument_7 {l : Launch} (hfl : l.stackTraces = false) {E : gE} {G : gS} {x0 : Int32} {o1 : Option Nat} {X : Nat → gS → Prop} {K : Int32 → gS → Prop} (h : wp_X15_lambda_oneArgument_7 (gAd E) G x0 o1 X K) : gMet l yX15_lambda_oneArgument_7 (ws_ yX15_lambda_oneArgument_7 cX15_lambda_oneArgument_7 2 (some .int)) 10 276 [vI x0, vQ o1] E G (gRi K) X :=
  g_met hfl (plainFor_of_name (by decide +kernel)) rfl rfl rfl (gle rfl) (fun p e R s m args below meth c hC => w_X15_lambda_oneArgument_7 hC (fun _ _ h => h) (fun _ _ h => h) h)
def wp_X15_lambda_oneArgument_8 (ad : Nat → Nat) (G : gS) (x0 : Int32) (o1 : Option Nat) (X : Nat → gS → Prop) (K : Int32 → gS → Prop) : Prop :=
  wNN o1 fun c1 => (gIs G c1 2 ∧ wp_X2_spend ad G c1 x0 X (fun r3 G2 => K r3 G2))
theorem w_X15_lambda_oneArgument_8 {C : gCx} (hC : gOk C "GoblinHousehold$Parser" cX15_lambda_oneArgument_8 [] (some .int) "lambda$oneArgument$8" 2 10 276) {K : Int32 → gS → Prop} {X : Nat → gS → Prop} (hK : ∀ r G, K r G → cxK C (some (vI r)) G) (hX : ∀ q G, X q G → cxX C q G) {G : gS} {x0 : Int32} {o1 : Option Nat} (h : wp_X15_lambda_oneArgument_8 (cxA C) G x0 o1 X K) : gGo C G 0 [(0, vI x0), (1, vQ o1)] [] := by
  unfold wp_X15_lambda_oneArgument_8 at h
  refine g_aload_n hC (pc := 0) 1 rfl rfl dX15_lambda_oneArgument_8_0 ?_
  refine g_iload_n hC (pc := 1) 0 rfl rfl dX15_lambda_oneArgument_8_1 ?_
  rcases o1 with _ | c1
  · exact (gNN0 h).elim
  replace h := gNN1 h
  obtain ⟨hi, h⟩ := h
  refine g_callV hC (pc := 2) (ci := 2) (As := [vI x0]) gc_X2_spend (m_X2_spend hC.fl h) rfl hi q2321 q1617 q1618 (gle rfl) (gle rfl) rfl (gle rfl) rfl dX15_lambda_oneArgument_8_2 (gk_i fun r3 G2 h => ?_) (fun _ _ h hio => g_out0 hC (hX _ _ h) hio)
  exact g_iret hC (pc := 5) (hK _ _ h) dX15_lambda_oneArgument_8_5
theorem gc_X15_lambda_oneArgument_8 : gCode yX15_lambda_oneArgument_8 cX15_lambda_oneArgument_8 2 (some .int) 2 := ⟨q2320, q140, ⟨by decide, by decide⟩, rfl⟩
theorem m_X15_lambda_oneArgument_8 {l : Launch} (hfl : l.stackTraces = false) {E : gE} {G : gS} {x0 : Int32} {o1 : Option Nat} {X : Nat → gS → Prop} {K : Int32 → gS → Prop} (h : wp_X15_lambda_oneArgument_8 (gAd E) G x0 o1 X K) : gMet l yX15_lambda_oneArgument_8 (ws_ yX15_lambda_oneArgument_8 cX15_lambda_oneArgument_8 2 (some .int)) 10 276 [vI x0, vQ o1] E G (gRi K) X :=
  g_met hfl (plainFor_of_name (by decide +kernel)) rfl rfl rfl (gle rfl) (fun p e R s m args below meth c hC => w_X15_lambda_oneArgument_8 hC (fun _ _ h => h) (fun _ _ h => h) h)
def wL_Change (ad : Nat → Nat) (G : gS) (a : Nat) (o : Option Nat) (X : Nat → gS → Prop) (K : Int32 → gS → Prop) : Prop :=
  (∃ x1 : Int32, gIsL G a 1 [.int x1] ∧ wp_X1_lambda_addGoblin_0 ad G x1 o X K) ∨ (∃ x1 : Int32, gIsL G a 2 [.int x1] ∧ wp_X1_lambda_addBroom_1 ad G x1 o X K) ∨ (∃ x1 : Int32, gIsL G a 3 [.int x1] ∧ wp_X1_lambda_banishBroom_2 ad G x1 o X K) ∨ (∃ x1 : Int32, gIsL G a 4 [.int x1] ∧ wp_X1_lambda_recallBroom_3 ad G x1 o X K) ∨ (∃ x1 x2 x3 x4 : Int32, gIsL G a 5 [.int x1, .int x2, .int x3, .int x4] ∧ wp_X1_lambda_hire_4 ad G x1 x2 x3 x4 o X K) ∨ (∃ x1 : Int32, gIsL G a 6 [.int x1] ∧ wp_X1_lambda_cancelContract_5 ad G x1 o X K) ∨ (∃ x1 : Int32, gIsL G a 7 [.int x1] ∧ wp_X1_lambda_rest_6 ad G x1 o X K) ∨ (∃ x1 : Int32, gIsL G a 8 [.int x1] ∧ wp_X1_lambda_wake_7 ad G x1 o X K) ∨ (∃ x1 x2 : Int32, gIsL G a 9 [.int x1, .int x2] ∧ wp_X1_lambda_lend_8 ad G x1 x2 o X K) ∨ (∃ x1 : Int32, gIsL G a 10 [.int x1] ∧ wp_X1_lambda_fund_9 ad G x1 o X K) ∨ (∃ x1 : Int32, gIsL G a 11 [.int x1] ∧ wp_X1_lambda_spend_10 ad G x1 o X K) ∨ (∃ x1 : Int32, gIsL G a 12 [.int x1] ∧ wp_X1_lambda_passNights_11 ad G x1 o X K) ∨ (∃ x1 x2 x3 x4 : Int32, gIsL G a 17 [.int x1, .int x2, .int x3, .int x4] ∧ wp_X15_lambda_change_9 ad G x1 x2 x3 x4 o X K) ∨ (∃ x1 x2 : Int32, gIsL G a 18 [.int x1, .int x2] ∧ wp_X15_lambda_change_10 ad G x1 x2 o X K) ∨ (∃ x1 : Int32, gIsL G a 19 [.int x1] ∧ wp_X15_lambda_change_11 ad G x1 o X K) ∨ (∃ x1 : Int32, gIsL G a 20 [.int x1] ∧ wp_X15_lambda_oneArgument_0 ad G x1 o X K) ∨ (∃ x1 : Int32, gIsL G a 21 [.int x1] ∧ wp_X15_lambda_oneArgument_1 ad G x1 o X K) ∨ (∃ x1 : Int32, gIsL G a 22 [.int x1] ∧ wp_X15_lambda_oneArgument_2 ad G x1 o X K) ∨ (∃ x1 : Int32, gIsL G a 23 [.int x1] ∧ wp_X15_lambda_oneArgument_3 ad G x1 o X K) ∨ (∃ x1 : Int32, gIsL G a 24 [.int x1] ∧ wp_X15_lambda_oneArgument_4 ad G x1 o X K) ∨ (∃ x1 : Int32, gIsL G a 25 [.int x1] ∧ wp_X15_lambda_oneArgument_5 ad G x1 o X K) ∨ (∃ x1 : Int32, gIsL G a 26 [.int x1] ∧ wp_X15_lambda_oneArgument_6 ad G x1 o X K) ∨ (∃ x1 : Int32, gIsL G a 27 [.int x1] ∧ wp_X15_lambda_oneArgument_7 ad G x1 o X K) ∨ (∃ x1 : Int32, gIsL G a 28 [.int x1] ∧ wp_X15_lambda_oneArgument_8 ad G x1 o X K)
theorem g_callChange {C : gCx} {own : String} {cc : ByteArray} {hh : List (Nat × Nat × Nat × Nat)} {rt : Option FieldType} {nm : String} {nL F L : Nat} {G : gS} {pc : Nat} {lv : List (Nat × gV)} {st : List gV} (hC : gOk C own cc hh rt nm nL F L) {b index count : Nat} {o : Option Nat} {K : Int32 → gS → Prop} {X2 : Nat → gS → Prop} (h : wL_Change (cxA C) G b o X2 K) (hlink : Cond.methodLink own index ⟨"GoblinHousehold$Change", "applyTo", "(LGoblinHousehold$Household;)I"⟩ ∈ lw_all) (hF : 13 ≤ F) (hL : 364 ≤ L) (hst : st.length ≤ 8) (hd : decode cc pc = .ok (.invokeinterface index count, 5)) (kk : ∀ r G, K r G → gGo C G (pc + 5) lv (vI r :: st)) (kx : ∀ q G, X2 q G → gIsO G q → gTh C G pc lv q) : gGo C G pc lv (vQ o :: vQ (some b) :: st) := by
  unfold wL_Change at h
  rcases h with h | h | h | h | h | h | h | h | h | h | h | h | h | h | h | h | h | h | h | h | h | h | h | h
  · obtain ⟨x1, hl, h⟩ := h
    exact g_callL hC (q := gSite_1) (xs := [x1]) (List.mem_of_getElem? (i := 1) rfl) lok_1 ldec_1 rfl rfl (by decide +kernel) (List.mem_of_getElem? (i := 0) rfl) (List.mem_of_getElem? (i := 15) rfl) q3057 q877 gc_X1_lambda_addGoblin_0 (m_X1_lambda_addGoblin_0 hC.fl h) rfl hl hlink rfl (Nat.le_trans (gle rfl) hF) (Nat.le_trans (gle rfl) hL) hst hd (gk_i kk) kx
  · obtain ⟨x1, hl, h⟩ := h
    exact g_callL hC (q := gSite_2) (xs := [x1]) (List.mem_of_getElem? (i := 2) rfl) lok_2 ldec_2 rfl rfl (by decide +kernel) (List.mem_of_getElem? (i := 0) rfl) (List.mem_of_getElem? (i := 15) rfl) q3057 q1302 gc_X1_lambda_addBroom_1 (m_X1_lambda_addBroom_1 hC.fl h) rfl hl hlink rfl (Nat.le_trans (gle rfl) hF) (Nat.le_trans (gle rfl) hL) hst hd (gk_i kk) kx
  · obtain ⟨x1, hl, h⟩ := h
    exact g_callL hC (q := gSite_3) (xs := [x1]) (List.mem_of_getElem? (i := 3) rfl) lok_3 ldec_3 rfl rfl (by decide +kernel) (List.mem_of_getElem? (i := 0) rfl) (List.mem_of_getElem? (i := 15) rfl) q3057 q1332 gc_X1_lambda_banishBroom_2 (m_X1_lambda_banishBroom_2 hC.fl h) rfl hl hlink rfl (Nat.le_trans (gle rfl) hF) (Nat.le_trans (gle rfl) hL) hst hd (gk_i kk) kx
  · obtain ⟨x1, hl, h⟩ := h
    exact g_callL hC (q := gSite_4) (xs := [x1]) (List.mem_of_getElem? (i := 4) rfl) lok_4 ldec_4 rfl rfl (by decide +kernel) (List.mem_of_getElem? (i := 0) rfl) (List.mem_of_getElem? (i := 15) rfl) q3057 q1356 gc_X1_lambda_recallBroom_3 (m_X1_lambda_recallBroom_3 hC.fl h) rfl hl hlink rfl (Nat.le_trans (gle rfl) hF) (Nat.le_trans (gle rfl) hL) hst hd (gk_i kk) kx
  · obtain ⟨x1, x2, x3, x4, hl, h⟩ := h
    exact g_callL hC (q := gSite_5) (xs := [x1, x2, x3, x4]) (List.mem_of_getElem? (i := 5) rfl) lok_5 ldec_5 rfl rfl (by decide +kernel) (List.mem_of_getElem? (i := 0) rfl) (List.mem_of_getElem? (i := 15) rfl) q3057 q1371 gc_X1_lambda_hire_4 (m_X1_lambda_hire_4 hC.fl h) rfl hl hlink rfl (Nat.le_trans (gle rfl) hF) (Nat.le_trans (gle rfl) hL) hst hd (gk_i kk) kx
  · obtain ⟨x1, hl, h⟩ := h
    exact g_callL hC (q := gSite_6) (xs := [x1]) (List.mem_of_getElem? (i := 6) rfl) lok_6 ldec_6 rfl rfl (by decide +kernel) (List.mem_of_getElem? (i := 0) rfl) (List.mem_of_getElem? (i := 15) rfl) q3057 q1423 gc_X1_lambda_cancelContract_5 (m_X1_lambda_cancelContract_5 hC.fl h) rfl hl hlink rfl (Nat.le_trans (gle rfl) hF) (Nat.le_trans (gle rfl) hL) hst hd (gk_i kk) kx
  · obtain ⟨x1, hl, h⟩ := h
    exact g_callL hC (q := gSite_7) (xs := [x1]) (List.mem_of_getElem? (i := 7) rfl) lok_7 ldec_7 rfl rfl (by decide +kernel) (List.mem_of_getElem? (i := 0) rfl) (List.mem_of_getElem? (i := 15) rfl) q3057 q1556 gc_X1_lambda_rest_6 (m_X1_lambda_rest_6 hC.fl h) rfl hl hlink rfl (Nat.le_trans (gle rfl) hF) (Nat.le_trans (gle rfl) hL) hst hd (gk_i kk) kx
  · obtain ⟨x1, hl, h⟩ := h
    exact g_callL hC (q := gSite_8) (xs := [x1]) (List.mem_of_getElem? (i := 8) rfl) lok_8 ldec_8 rfl rfl (by decide +kernel) (List.mem_of_getElem? (i := 0) rfl) (List.mem_of_getElem? (i := 15) rfl) q3057 q1573 gc_X1_lambda_wake_7 (m_X1_lambda_wake_7 hC.fl h) rfl hl hlink rfl (Nat.le_trans (gle rfl) hF) (Nat.le_trans (gle rfl) hL) hst hd (gk_i kk) kx
  · obtain ⟨x1, x2, hl, h⟩ := h
    exact g_callL hC (q := gSite_9) (xs := [x1, x2]) (List.mem_of_getElem? (i := 9) rfl) lok_9 ldec_9 rfl rfl (by decide +kernel) (List.mem_of_getElem? (i := 0) rfl) (List.mem_of_getElem? (i := 15) rfl) q3057 q1582 gc_X1_lambda_lend_8 (m_X1_lambda_lend_8 hC.fl h) rfl hl hlink rfl (Nat.le_trans (gle rfl) hF) (Nat.le_trans (gle rfl) hL) hst hd (gk_i kk) kx
  · obtain ⟨x1, hl, h⟩ := h
    exact g_callL hC (q := gSite_10) (xs := [x1]) (List.mem_of_getElem? (i := 10) rfl) lok_10 ldec_10 rfl rfl (by decide +kernel) (List.mem_of_getElem? (i := 0) rfl) (List.mem_of_getElem? (i := 15) rfl) q3057 q1601 gc_X1_lambda_fund_9 (m_X1_lambda_fund_9 hC.fl h) rfl hl hlink rfl (Nat.le_trans (gle rfl) hF) (Nat.le_trans (gle rfl) hL) hst hd (gk_i kk) kx
  · obtain ⟨x1, hl, h⟩ := h
    exact g_callL hC (q := gSite_11) (xs := [x1]) (List.mem_of_getElem? (i := 11) rfl) lok_11 ldec_11 rfl rfl (by decide +kernel) (List.mem_of_getElem? (i := 0) rfl) (List.mem_of_getElem? (i := 15) rfl) q3057 q1614 gc_X1_lambda_spend_10 (m_X1_lambda_spend_10 hC.fl h) rfl hl hlink rfl (Nat.le_trans (gle rfl) hF) (Nat.le_trans (gle rfl) hL) hst hd (gk_i kk) kx
  · obtain ⟨x1, hl, h⟩ := h
    exact g_callL hC (q := gSite_12) (xs := [x1]) (List.mem_of_getElem? (i := 12) rfl) lok_12 ldec_12 rfl rfl (by decide +kernel) (List.mem_of_getElem? (i := 0) rfl) (List.mem_of_getElem? (i := 15) rfl) q3057 q1627 gc_X1_lambda_passNights_11 (m_X1_lambda_passNights_11 hC.fl h) rfl hl hlink rfl (Nat.le_trans (gle rfl) hF) (Nat.le_trans (gle rfl) hL) hst hd (gk_i kk) kx
  · obtain ⟨x1, x2, x3, x4, hl, h⟩ := h
    exact g_callL hC (q := gSite_17) (xs := [x1, x2, x3, x4]) (List.mem_of_getElem? (i := 17) rfl) lok_17 ldec_17 rfl rfl (by decide +kernel) (List.mem_of_getElem? (i := 0) rfl) (List.mem_of_getElem? (i := 15) rfl) q3057 q2274 gc_X15_lambda_change_9 (m_X15_lambda_change_9 hC.fl h) rfl hl hlink rfl (Nat.le_trans (gle rfl) hF) (Nat.le_trans (gle rfl) hL) hst hd (gk_i kk) kx
  · obtain ⟨x1, x2, hl, h⟩ := h
    exact g_callL hC (q := gSite_18) (xs := [x1, x2]) (List.mem_of_getElem? (i := 18) rfl) lok_18 ldec_18 rfl rfl (by decide +kernel) (List.mem_of_getElem? (i := 0) rfl) (List.mem_of_getElem? (i := 15) rfl) q3057 q2277 gc_X15_lambda_change_10 (m_X15_lambda_change_10 hC.fl h) rfl hl hlink rfl (Nat.le_trans (gle rfl) hF) (Nat.le_trans (gle rfl) hL) hst hd (gk_i kk) kx
  · obtain ⟨x1, hl, h⟩ := h
    exact g_callL hC (q := gSite_19) (xs := [x1]) (List.mem_of_getElem? (i := 19) rfl) lok_19 ldec_19 rfl rfl (by decide +kernel) (List.mem_of_getElem? (i := 0) rfl) (List.mem_of_getElem? (i := 15) rfl) q3057 q2280 gc_X15_lambda_change_11 (m_X15_lambda_change_11 hC.fl h) rfl hl hlink rfl (Nat.le_trans (gle rfl) hF) (Nat.le_trans (gle rfl) hL) hst hd (gk_i kk) kx
  · obtain ⟨x1, hl, h⟩ := h
    exact g_callL hC (q := gSite_20) (xs := [x1]) (List.mem_of_getElem? (i := 20) rfl) lok_20 ldec_20 rfl rfl (by decide +kernel) (List.mem_of_getElem? (i := 0) rfl) (List.mem_of_getElem? (i := 15) rfl) q3057 q2296 gc_X15_lambda_oneArgument_0 (m_X15_lambda_oneArgument_0 hC.fl h) rfl hl hlink rfl (Nat.le_trans (gle rfl) hF) (Nat.le_trans (gle rfl) hL) hst hd (gk_i kk) kx
  · obtain ⟨x1, hl, h⟩ := h
    exact g_callL hC (q := gSite_21) (xs := [x1]) (List.mem_of_getElem? (i := 21) rfl) lok_21 ldec_21 rfl rfl (by decide +kernel) (List.mem_of_getElem? (i := 0) rfl) (List.mem_of_getElem? (i := 15) rfl) q3057 q2299 gc_X15_lambda_oneArgument_1 (m_X15_lambda_oneArgument_1 hC.fl h) rfl hl hlink rfl (Nat.le_trans (gle rfl) hF) (Nat.le_trans (gle rfl) hL) hst hd (gk_i kk) kx
  · obtain ⟨x1, hl, h⟩ := h
    exact g_callL hC (q := gSite_22) (xs := [x1]) (List.mem_of_getElem? (i := 22) rfl) lok_22 ldec_22 rfl rfl (by decide +kernel) (List.mem_of_getElem? (i := 0) rfl) (List.mem_of_getElem? (i := 15) rfl) q3057 q2302 gc_X15_lambda_oneArgument_2 (m_X15_lambda_oneArgument_2 hC.fl h) rfl hl hlink rfl (Nat.le_trans (gle rfl) hF) (Nat.le_trans (gle rfl) hL) hst hd (gk_i kk) kx
  · obtain ⟨x1, hl, h⟩ := h
    exact g_callL hC (q := gSite_23) (xs := [x1]) (List.mem_of_getElem? (i := 23) rfl) lok_23 ldec_23 rfl rfl (by decide +kernel) (List.mem_of_getElem? (i := 0) rfl) (List.mem_of_getElem? (i := 15) rfl) q3057 q2305 gc_X15_lambda_oneArgument_3 (m_X15_lambda_oneArgument_3 hC.fl h) rfl hl hlink rfl (Nat.le_trans (gle rfl) hF) (Nat.le_trans (gle rfl) hL) hst hd (gk_i kk) kx
  · obtain ⟨x1, hl, h⟩ := h
    exact g_callL hC (q := gSite_24) (xs := [x1]) (List.mem_of_getElem? (i := 24) rfl) lok_24 ldec_24 rfl rfl (by decide +kernel) (List.mem_of_getElem? (i := 0) rfl) (List.mem_of_getElem? (i := 15) rfl) q3057 q2308 gc_X15_lambda_oneArgument_4 (m_X15_lambda_oneArgument_4 hC.fl h) rfl hl hlink rfl (Nat.le_trans (gle rfl) hF) (Nat.le_trans (gle rfl) hL) hst hd (gk_i kk) kx
  · obtain ⟨x1, hl, h⟩ := h
    exact g_callL hC (q := gSite_25) (xs := [x1]) (List.mem_of_getElem? (i := 25) rfl) lok_25 ldec_25 rfl rfl (by decide +kernel) (List.mem_of_getElem? (i := 0) rfl) (List.mem_of_getElem? (i := 15) rfl) q3057 q2311 gc_X15_lambda_oneArgument_5 (m_X15_lambda_oneArgument_5 hC.fl h) rfl hl hlink rfl (Nat.le_trans (gle rfl) hF) (Nat.le_trans (gle rfl) hL) hst hd (gk_i kk) kx
  · obtain ⟨x1, hl, h⟩ := h
    exact g_callL hC (q := gSite_26) (xs := [x1]) (List.mem_of_getElem? (i := 26) rfl) lok_26 ldec_26 rfl rfl (by decide +kernel) (List.mem_of_getElem? (i := 0) rfl) (List.mem_of_getElem? (i := 15) rfl) q3057 q2314 gc_X15_lambda_oneArgument_6 (m_X15_lambda_oneArgument_6 hC.fl h) rfl hl hlink rfl (Nat.le_trans (gle rfl) hF) (Nat.le_trans (gle rfl) hL) hst hd (gk_i kk) kx
  · obtain ⟨x1, hl, h⟩ := h
    exact g_callL hC (q := gSite_27) (xs := [x1]) (List.mem_of_getElem? (i := 27) rfl) lok_27 ldec_27 rfl rfl (by decide +kernel) (List.mem_of_getElem? (i := 0) rfl) (List.mem_of_getElem? (i := 15) rfl) q3057 q2316 gc_X15_lambda_oneArgument_7 (m_X15_lambda_oneArgument_7 hC.fl h) rfl hl hlink rfl (Nat.le_trans (gle rfl) hF) (Nat.le_trans (gle rfl) hL) hst hd (gk_i kk) kx
  · obtain ⟨x1, hl, h⟩ := h
    exact g_callL hC (q := gSite_28) (xs := [x1]) (List.mem_of_getElem? (i := 28) rfl) lok_28 ldec_28 rfl rfl (by decide +kernel) (List.mem_of_getElem? (i := 0) rfl) (List.mem_of_getElem? (i := 15) rfl) q3057 q2319 gc_X15_lambda_oneArgument_8 (m_X15_lambda_oneArgument_8 hC.fl h) rfl hl hlink rfl (Nat.le_trans (gle rfl) hF) (Nat.le_trans (gle rfl) hL) hst hd (gk_i kk) kx
def wp_J4_size (ad : Nat → Nat) (G : gS) (t0 : Nat) (X : Nat → gS → Prop) (K : Int32 → gS → Prop) : Prop :=
  wGetI G t0 4 1 fun i1 => K i1 G
theorem w_J4_size {C : gCx} (hC : gOk C "java/util/LinkedList" cJ4_size [] (some .int) "size" 1 0 0) {K : Int32 → gS → Prop} {X : Nat → gS → Prop} (hK : ∀ r G, K r G → cxK C (some (vI r)) G) (hX : ∀ q G, X q G → cxX C q G) {G : gS} {t0 : Nat} (h : wp_J4_size (cxA C) G t0 X K) : gGo C G 0 [(0, vQ (some t0))] [] := by
  unfold wp_J4_size at h
  refine g_aload_n hC (pc := 0) 0 rfl rfl dJ4_size_0 ?_
  refine g_getI hC (pc := 1) in_J4 (ci := 4) rfl 1 (by decide) q247 (Or.inl rfl) h dJ4_size_1 (fun i1 h => ?_)
  exact g_iret hC (pc := 4) (hK _ _ h) dJ4_size_4
theorem gc_J4_size : gCode yJ4_size cJ4_size 1 (some .int) 0 := ⟨q333, q100, ⟨by decide, by decide⟩, rfl⟩
theorem m_J4_size {l : Launch} (hfl : l.stackTraces = false) {E : gE} {G : gS} {t0 : Nat} {X : Nat → gS → Prop} {K : Int32 → gS → Prop} (h : wp_J4_size (gAd E) G t0 X K) : gMet l yJ4_size (ws_ yJ4_size cJ4_size 1 (some .int)) 0 0 [vQ (some t0)] E G (gRi K) X :=
  g_met hfl (plainFor_of_name (by decide +kernel)) rfl rfl rfl (gle rfl) (fun p e R s m args below meth c hC => w_J4_size hC (fun _ _ h => h) (fun _ _ h => h) h)
def wp_J9_init_at23 (ad : Nat → Nat) (G : gS) (t0 : Nat) (X : Nat → gS → Prop) (K : gS → Prop) : Prop :=
  wPut G t0 23 0 (va_rf (some t0)) fun G1 => wPut G1 t0 23 1 (va_rf (gOp (ad 5))) fun G2 => wPut G2 t0 23 2 (va_rf (gOp (ad 6))) fun G3 => wFill G3 t0 23 1 4 (gOp (ad 5)) (K G3)
theorem w_J9_init_at23 {C : gCx} (hC : gOk C "java/lang/Throwable" cJ9_init [] none "<init>" 1 4 100) {K : gS → Prop} {X : Nat → gS → Prop} (hK : ∀ G, K G → cxK C none G) (hX : ∀ q G, X q G → cxX C q G) {G : gS} {t0 : Nat} (h : wp_J9_init_at23 (cxA C) G t0 X K) : gGo C G 0 [(0, vQ (some t0))] [] := by
  unfold wp_J9_init_at23 at h
  refine g_aload_n hC (pc := 0) 0 rfl rfl dJ9_init_0 ?_
  refine g_objInit hC (pc := 1) q417 q151 q152 (gle rfl) (gle rfl) (gle rfl) dJ9_init_1 ?_
  refine g_aload_n hC (pc := 4) 0 rfl rfl dJ9_init_4 ?_
  refine g_aload_n hC (pc := 5) 0 rfl rfl dJ9_init_5 ?_
  refine g_put hC (pc := 6) in_J23 (ci := 23) rfl 0 (by decide) tyJ23_ok nmJ23 q659 (Or.inl rfl) rfl (gnarO _ _) (gfitO _ _) h dJ9_init_6 (fun G1 h => ?_)
  refine g_aload_n hC (pc := 9) 0 rfl rfl dJ9_init_9 ?_
  refine g_statQ hC (pc := 10) (List.mem_of_getElem? (i := 0) rfl) q418 (fun _ _ h => h) dJ9_init_10 ?_
  refine g_put hC (pc := 13) in_J23 (ci := 23) rfl 1 (by decide) tyJ23_ok nmJ23 q660 (Or.inl rfl) rfl (gnarA _ _) (gfitA _ _) h dJ9_init_13 (fun G2 h => ?_)
  refine g_aload_n hC (pc := 16) 0 rfl rfl dJ9_init_16 ?_
  refine g_statQ hC (pc := 17) (List.mem_of_getElem? (i := 1) rfl) q420 (fun _ _ h => h) dJ9_init_17 ?_
  refine g_put hC (pc := 20) in_J23 (ci := 23) rfl 2 (by decide) tyJ23_ok nmJ23 q661 (Or.inl rfl) rfl (gnarO _ _) (gfitO _ _) h dJ9_init_20 (fun G3 h => ?_)
  refine g_aload_n hC (pc := 23) 0 rfl rfl dJ9_init_23 ?_
  refine g_fill hC (pc := 24) (ci := 23) 1 4 rfl (by decide) (by decide) ⟨rfl, rfl, rfl⟩ ⟨rfl, rfl, rfl⟩ q1140 q434 q1138 (gle rfl) (gle rfl) (gle rfl) h dJ9_init_24 (fun h => ?_)
  refine g_pop hC (pc := 27) rfl dJ9_init_27 ?_
  exact g_vret hC (pc := 28) (hK _ h) dJ9_init_28
theorem gc_J9_init : gCode yJ9_init cJ9_init 1 none 0 := ⟨q416, q106, ⟨by decide, by decide⟩, rfl⟩
theorem m_J9_init_at23 {l : Launch} (hfl : l.stackTraces = false) {E : gE} {G : gS} {t0 : Nat} {X : Nat → gS → Prop} {K : gS → Prop} (h : wp_J9_init_at23 (gAd E) G t0 X K) : gMet l yJ9_init (ws_ yJ9_init cJ9_init 1 none) 4 100 [vQ (some t0)] E G (gRv K) X :=
  g_met hfl (plainFor_of_name (by decide +kernel)) rfl rfl rfl (gle rfl) (fun p e R s m args below meth c hC => w_J9_init_at23 hC (fun _ h => h) (fun _ _ h => h) h)
def wp_J10_init_3_at23 (ad : Nat → Nat) (G : gS) (t0 : Nat) (X : Nat → gS → Prop) (K : gS → Prop) : Prop :=
  wp_J9_init_at23 ad G t0  X (fun G1 => K G1)
theorem w_J10_init_3_at23 {C : gCx} (hC : gOk C "java/lang/Exception" cJ10_init_3 [] none "<init>" 1 5 128) {K : gS → Prop} {X : Nat → gS → Prop} (hK : ∀ G, K G → cxK C none G) (hX : ∀ q G, X q G → cxX C q G) {G : gS} {t0 : Nat} (h : wp_J10_init_3_at23 (cxA C) G t0 X K) : gGo C G 0 [(0, vQ (some t0))] [] := by
  unfold wp_J10_init_3_at23 at h
  refine g_aload_n hC (pc := 0) 0 rfl rfl dJ10_init_3_0 ?_
  refine g_callI hC (pc := 1) (As := []) gc_J9_init (m_J9_init_at23 hC.fl h) rfl q1153 q415 (gle rfl) (gle rfl) rfl (gle rfl) rfl dJ10_init_3_1 (gk_v fun G1 h => ?_) (fun _ _ h hio => g_out0 hC (hX _ _ h) hio)
  exact g_vret hC (pc := 4) (hK _ h) dJ10_init_3_4
theorem gc_J10_init_3 : gCode yJ10_init_3 cJ10_init_3 1 none 0 := ⟨q1152, q107, ⟨by decide, by decide⟩, rfl⟩
theorem m_J10_init_3_at23 {l : Launch} (hfl : l.stackTraces = false) {E : gE} {G : gS} {t0 : Nat} {X : Nat → gS → Prop} {K : gS → Prop} (h : wp_J10_init_3_at23 (gAd E) G t0 X K) : gMet l yJ10_init_3 (ws_ yJ10_init_3 cJ10_init_3 1 none) 5 128 [vQ (some t0)] E G (gRv K) X :=
  g_met hfl (plainFor_of_name (by decide +kernel)) rfl rfl rfl (gle rfl) (fun p e R s m args below meth c hC => w_J10_init_3_at23 hC (fun _ h => h) (fun _ _ h => h) h)
def wp_J17_init_2_at23 (ad : Nat → Nat) (G : gS) (t0 : Nat) (X : Nat → gS → Prop) (K : gS → Prop) : Prop :=
  wp_J10_init_3_at23 ad G t0  X (fun G1 => K G1)
theorem w_J17_init_2_at23 {C : gCx} (hC : gOk C "java/lang/RuntimeException" cJ17_init_2 [] none "<init>" 1 6 156) {K : gS → Prop} {X : Nat → gS → Prop} (hK : ∀ G, K G → cxK C none G) (hX : ∀ q G, X q G → cxX C q G) {G : gS} {t0 : Nat} (h : wp_J17_init_2_at23 (cxA C) G t0 X K) : gGo C G 0 [(0, vQ (some t0))] [] := by
  unfold wp_J17_init_2_at23 at h
  refine g_aload_n hC (pc := 0) 0 rfl rfl dJ17_init_2_0 ?_
  refine g_callI hC (pc := 1) (As := []) gc_J10_init_3 (m_J10_init_3_at23 hC.fl h) rfl q1150 q1151 (gle rfl) (gle rfl) rfl (gle rfl) rfl dJ17_init_2_1 (gk_v fun G1 h => ?_) (fun _ _ h hio => g_out0 hC (hX _ _ h) hio)
  exact g_vret hC (pc := 4) (hK _ h) dJ17_init_2_4
theorem gc_J17_init_2 : gCode yJ17_init_2 cJ17_init_2 1 none 0 := ⟨q1149, q120, ⟨by decide, by decide⟩, rfl⟩
theorem m_J17_init_2_at23 {l : Launch} (hfl : l.stackTraces = false) {E : gE} {G : gS} {t0 : Nat} {X : Nat → gS → Prop} {K : gS → Prop} (h : wp_J17_init_2_at23 (gAd E) G t0 X K) : gMet l yJ17_init_2 (ws_ yJ17_init_2 cJ17_init_2 1 none) 6 156 [vQ (some t0)] E G (gRv K) X :=
  g_met hfl (plainFor_of_name (by decide +kernel)) rfl rfl rfl (gle rfl) (fun p e R s m args below meth c hC => w_J17_init_2_at23 hC (fun _ h => h) (fun _ _ h => h) h)
def wp_J23_init (ad : Nat → Nat) (G : gS) (t0 : Nat) (X : Nat → gS → Prop) (K : gS → Prop) : Prop :=
  wp_J17_init_2_at23 ad G t0  X (fun G1 => K G1)
theorem w_J23_init {C : gCx} (hC : gOk C "java/util/NoSuchElementException" cJ23_init [] none "<init>" 1 7 184) {K : gS → Prop} {X : Nat → gS → Prop} (hK : ∀ G, K G → cxK C none G) (hX : ∀ q G, X q G → cxX C q G) {G : gS} {t0 : Nat} (h : wp_J23_init (cxA C) G t0 X K) : gGo C G 0 [(0, vQ (some t0))] [] := by
  unfold wp_J23_init at h
  refine g_aload_n hC (pc := 0) 0 rfl rfl dJ23_init_0 ?_
  refine g_callI hC (pc := 1) (As := []) gc_J17_init_2 (m_J17_init_2_at23 hC.fl h) rfl q1147 q1148 (gle rfl) (gle rfl) rfl (gle rfl) rfl dJ23_init_1 (gk_v fun G1 h => ?_) (fun _ _ h hio => g_out0 hC (hX _ _ h) hio)
  exact g_vret hC (pc := 4) (hK _ h) dJ23_init_4
theorem gc_J23_init : gCode yJ23_init cJ23_init 1 none 0 := ⟨q1146, q129, ⟨by decide, by decide⟩, rfl⟩
theorem m_J23_init {l : Launch} (hfl : l.stackTraces = false) {E : gE} {G : gS} {t0 : Nat} {X : Nat → gS → Prop} {K : gS → Prop} (h : wp_J23_init (gAd E) G t0 X K) : gMet l yJ23_init (ws_ yJ23_init cJ23_init 1 none) 7 184 [vQ (some t0)] E G (gRv K) X :=
  g_met hfl (plainFor_of_name (by decide +kernel)) rfl rfl rfl (gle rfl) (fun p e R s m args below meth c hC => w_J23_init hC (fun _ h => h) (fun _ _ h => h) h)
def wp_J4_unlinkFirst_42 (ad : Nat → Nat) (X : Nat → gS → Prop) (K : Option Nat → gS → Prop) (G : gS) (t0 : Nat) (o2 : Option Nat) : Prop :=
  wGetI G t0 4 1 fun i1 => wPut G t0 4 1 (.int (i1 - (1 : Int32))) fun G2 => wGetI G2 t0 4 0 fun i3 => wPut G2 t0 4 0 (.int (i3 + (1 : Int32))) fun G4 => K o2 G4
theorem w_J4_unlinkFirst_42 {C : gCx} (hC : gOk C "java/util/LinkedList" cJ4_unlinkFirst [] (some (Jvm.ClassFile.FieldType.object "java/lang/Object")) "unlinkFirst" 4 0 0) {K : Option Nat → gS → Prop} {X : Nat → gS → Prop} (hK : ∀ r G, K r G → cxK C (some (vQ r)) G) (hX : ∀ q G, X q G → cxX C q G) {G : gS} {t0 : Nat} {o2 : Option Nat} (h : wp_J4_unlinkFirst_42 (cxA C) X K G t0 o2) : gGo C G 42 [(0, vQ (some t0)), (2, vQ o2)] [] := by
  unfold wp_J4_unlinkFirst_42 at h
  refine g_aload_n hC (pc := 42) 0 rfl rfl dJ4_unlinkFirst_42 ?_
  refine g_dup hC (pc := 43) rfl dJ4_unlinkFirst_43 ?_
  refine g_getI hC (pc := 44) in_J4 (ci := 4) rfl 1 (by decide) q247 (Or.inl rfl) h dJ4_unlinkFirst_44 (fun i1 h => ?_)
  refine g_iconst hC (pc := 47) (v := (1 : Int32)) (by decide) dJ4_unlinkFirst_47 ?_
  refine g_isub hC (pc := 48) dJ4_unlinkFirst_48 ?_
  refine g_put hC (pc := 49) in_J4 (ci := 4) rfl 1 (by decide) tyJ4_ok nmJ4 q247 (Or.inl rfl) rfl rfl rfl h dJ4_unlinkFirst_49 (fun G2 h => ?_)
  refine g_aload_n hC (pc := 52) 0 rfl rfl dJ4_unlinkFirst_52 ?_
  refine g_dup hC (pc := 53) rfl dJ4_unlinkFirst_53 ?_
  refine g_getI hC (pc := 54) in_J4 (ci := 4) rfl 0 (by decide) q176 (Or.inr q177) h dJ4_unlinkFirst_54 (fun i3 h => ?_)
  refine g_iconst hC (pc := 57) (v := (1 : Int32)) (by decide) dJ4_unlinkFirst_57 ?_
  refine g_iadd hC (pc := 58) dJ4_unlinkFirst_58 ?_
  refine g_put hC (pc := 59) in_J4 (ci := 4) rfl 0 (by decide) tyJ4_ok nmJ4 q176 (Or.inr q177) rfl rfl rfl h dJ4_unlinkFirst_59 (fun G4 h => ?_)
  refine g_aload_n hC (pc := 62) 1 rfl rfl dJ4_unlinkFirst_62 ?_
  exact g_aret hC (pc := 63) (Or.inl ⟨_, rfl⟩) (hK _ _ h) dJ4_unlinkFirst_63
def wp_J4_unlinkFirst (ad : Nat → Nat) (G : gS) (t0 : Nat) (o1 : Option Nat) (X : Nat → gS → Prop) (K : Option Nat → gS → Prop) : Prop :=
  wNN o1 fun c1 => wGetQ G c1 5 0 fun q2 => wGetQ G c1 5 1 fun q3 => wPut G c1 5 0 (va_rf none) fun G4 => wPut G4 c1 5 1 (va_rf none) fun G5 => wPut G5 t0 4 2 (va_rf q3) fun G6 => (q3 = none → wPut G6 t0 4 3 (va_rf none) fun G7 => wp_J4_unlinkFirst_42 ad X K G7 t0 q2) ∧ (∀ c8, q3 = some c8 → wPut G6 c8 5 2 (va_rf none) fun G9 => wp_J4_unlinkFirst_42 ad X K G9 t0 q2)
theorem w_J4_unlinkFirst {C : gCx} (hC : gOk C "java/util/LinkedList" cJ4_unlinkFirst [] (some (Jvm.ClassFile.FieldType.object "java/lang/Object")) "unlinkFirst" 4 0 0) {K : Option Nat → gS → Prop} {X : Nat → gS → Prop} (hK : ∀ r G, K r G → cxK C (some (vQ r)) G) (hX : ∀ q G, X q G → cxX C q G) {G : gS} {t0 : Nat} {o1 : Option Nat} (h : wp_J4_unlinkFirst (cxA C) G t0 o1 X K) : gGo C G 0 [(0, vQ (some t0)), (1, vQ o1)] [] := by
  unfold wp_J4_unlinkFirst at h
  refine g_aload_n hC (pc := 0) 1 rfl rfl dJ4_unlinkFirst_0 ?_
  rcases o1 with _ | c1
  · exact (gNN0 h).elim
  replace h := gNN1 h
  refine g_getQ hC (pc := 1) in_J14 (ci := 5) rfl 0 (by decide) q1037 (Or.inl rfl) h dJ4_unlinkFirst_1 (fun q2 h => ?_)
  refine g_astore_n hC (pc := 4) (lv' := [(2, vQ q2), (0, vQ (some t0)), (1, vQ (some c1))]) rfl (by decide) rfl dJ4_unlinkFirst_4 ?_
  refine g_aload_n hC (pc := 5) 2 rfl rfl dJ4_unlinkFirst_5 ?_
  refine g_getQ hC (pc := 6) in_J14 (ci := 5) rfl 1 (by decide) q1039 (Or.inl rfl) h dJ4_unlinkFirst_6 (fun q3 h => ?_)
  refine g_astore_n hC (pc := 9) (lv' := [(3, vQ q3), (2, vQ q2), (0, vQ (some t0)), (1, vQ (some c1))]) rfl (by decide) rfl dJ4_unlinkFirst_9 ?_
  refine g_aload_n hC (pc := 10) 3 rfl rfl dJ4_unlinkFirst_10 ?_
  refine g_null hC (pc := 11) dJ4_unlinkFirst_11 ?_
  refine g_put hC (pc := 12) in_J14 (ci := 5) rfl 0 (by decide) tyJ14_ok nmJ14 q1037 (Or.inl rfl) rfl (gnarO _ _) (gfitO _ _) h dJ4_unlinkFirst_12 (fun G4 h => ?_)
  refine g_aload_n hC (pc := 15) 3 rfl rfl dJ4_unlinkFirst_15 ?_
  refine g_null hC (pc := 16) dJ4_unlinkFirst_16 ?_
  refine g_put hC (pc := 17) in_J14 (ci := 5) rfl 1 (by decide) tyJ14_ok nmJ14 q1039 (Or.inl rfl) rfl (gnarO _ _) (gfitO _ _) h dJ4_unlinkFirst_17 (fun G5 h => ?_)
  refine g_aload_n hC (pc := 20) 2 rfl rfl dJ4_unlinkFirst_20 ?_
  refine g_aload_n hC (pc := 21) 0 rfl rfl dJ4_unlinkFirst_21 ?_
  refine g_put hC (pc := 22) in_J4 (ci := 4) rfl 2 (by decide) tyJ4_ok nmJ4 q248 (Or.inl rfl) rfl (gnarO _ _) (gfitO _ _) h dJ4_unlinkFirst_22 (fun G6 h => ?_)
  refine g_aload_n hC (pc := 25) 0 rfl rfl dJ4_unlinkFirst_25 ?_
  have hn := h; clear h
  refine g_ifnonnull hC (pc := 26) 37 (P := ¬ q3 = none) (Q := _) ⟨id, hn.1⟩ (by decide) dJ4_unlinkFirst_26 (fun e0 => ?_) (fun h => ?_)
  · rcases q3 with _ | c8
    · exact absurd rfl e0
    have h := hn.2 _ rfl
    refine g_aload_n hC (pc := 37) 0 rfl rfl dJ4_unlinkFirst_37 ?_
    refine g_null hC (pc := 38) dJ4_unlinkFirst_38 ?_
    refine g_put hC (pc := 39) in_J14 (ci := 5) rfl 2 (by decide) tyJ14_ok nmJ14 q1041 (Or.inl rfl) rfl (gnarO _ _) (gfitO _ _) h dJ4_unlinkFirst_39 (fun G9 h => ?_)
    exact g_sub [2, 1] rfl (w_J4_unlinkFirst_42 hC hK hX h)
  · refine g_aload_n hC (pc := 29) 2 rfl rfl dJ4_unlinkFirst_29 ?_
    refine g_null hC (pc := 30) dJ4_unlinkFirst_30 ?_
    refine g_put hC (pc := 31) in_J4 (ci := 4) rfl 3 (by decide) tyJ4_ok nmJ4 q249 (Or.inl rfl) rfl (gnarO _ _) (gfitO _ _) h dJ4_unlinkFirst_31 (fun G7 h => ?_)
    refine g_goto hC (pc := 34) 42 (by decide) dJ4_unlinkFirst_34 ?_
    exact g_sub [2, 1] rfl (w_J4_unlinkFirst_42 hC hK hX h)
theorem gc_J4_unlinkFirst : gCode yJ4_unlinkFirst cJ4_unlinkFirst 4 (some (Jvm.ClassFile.FieldType.object "java/lang/Object")) 1 := ⟨q1159, q100, ⟨by decide, by decide⟩, rfl⟩
theorem m_J4_unlinkFirst {l : Launch} (hfl : l.stackTraces = false) {E : gE} {G : gS} {t0 : Nat} {o1 : Option Nat} {X : Nat → gS → Prop} {K : Option Nat → gS → Prop} (h : wp_J4_unlinkFirst (gAd E) G t0 o1 X K) : gMet l yJ4_unlinkFirst (ws_ yJ4_unlinkFirst cJ4_unlinkFirst 4 (some (Jvm.ClassFile.FieldType.object "java/lang/Object"))) 0 0 [vQ (some t0), vQ o1] E G (gRq K) X :=
  g_met hfl (plainFor_of_name (by decide +kernel)) rfl rfl rfl (gle rfl) (fun p e R s m args below meth c hC => w_J4_unlinkFirst hC (fun _ _ h => h) (fun _ _ h => h) h)
def wp_J4_removeFirst (ad : Nat → Nat) (G : gS) (t0 : Nat) (X : Nat → gS → Prop) (K : Option Nat → gS → Prop) : Prop :=
  wGetQ G t0 4 2 fun q1 => (q1 = none → wNew G 23 6 [.null, .null, .null, .null, .null, .int 0] fun c3 G2 => wp_J23_init ad G2 c3  X (fun G4 => wThrow G4 c3 X)) ∧ (∀ c5, q1 = some c5 → (gIs G t0 4 ∧ wp_J4_unlinkFirst ad G t0 (some c5) X (fun q7 G6 => K q7 G6)))
theorem w_J4_removeFirst {C : gCx} (hC : gOk C "java/util/LinkedList" cJ4_removeFirst [] (some (Jvm.ClassFile.FieldType.object "java/lang/Object")) "removeFirst" 2 8 212) {K : Option Nat → gS → Prop} {X : Nat → gS → Prop} (hK : ∀ r G, K r G → cxK C (some (vQ r)) G) (hX : ∀ q G, X q G → cxX C q G) {G : gS} {t0 : Nat} (h : wp_J4_removeFirst (cxA C) G t0 X K) : gGo C G 0 [(0, vQ (some t0))] [] := by
  unfold wp_J4_removeFirst at h
  refine g_aload_n hC (pc := 0) 0 rfl rfl dJ4_removeFirst_0 ?_
  refine g_getQ hC (pc := 1) in_J4 (ci := 4) rfl 2 (by decide) q248 (Or.inl rfl) h dJ4_removeFirst_1 (fun q1 h => ?_)
  refine g_astore_n hC (pc := 4) (lv' := [(1, vQ q1), (0, vQ (some t0))]) rfl (by decide) rfl dJ4_removeFirst_4 ?_
  refine g_aload_n hC (pc := 5) 0 rfl rfl dJ4_removeFirst_5 ?_
  have hn := h; clear h
  refine g_ifnonnull hC (pc := 6) 17 (P := ¬ q1 = none) (Q := _) ⟨id, hn.1⟩ (by decide) dJ4_removeFirst_6 (fun e0 => ?_) (fun h => ?_)
  · rcases q1 with _ | c5
    · exact absurd rfl e0
    have h := hn.2 _ rfl
    refine g_aload_n hC (pc := 17) 1 rfl rfl dJ4_removeFirst_17 ?_
    refine g_aload_n hC (pc := 18) 0 rfl rfl dJ4_removeFirst_18 ?_
    obtain ⟨hi, h⟩ := h
    refine g_callV hC (pc := 19) (ci := 4) (As := [vQ (some c5)]) gc_J4_unlinkFirst (m_J4_unlinkFirst hC.fl h) rfl hi q1156 q1158 qs14 (gle rfl) (gle rfl) rfl (gle rfl) rfl dJ4_removeFirst_19 (gk_q fun q7 G6 h => ?_) (fun _ _ h hio => g_out0 hC (hX _ _ h) hio)
    exact g_aret hC (pc := 22) (Or.inl ⟨_, rfl⟩) (hK _ _ h) dJ4_removeFirst_22
  · refine g_new hC (pc := 9) in_J23 (ci := 23) rfl (by decide) tyJ23_ok q1135 q1136 q129 gdf_J23 h dJ4_removeFirst_9 (fun c3 G2 h => ?_)
    refine g_dup hC (pc := 12) rfl dJ4_removeFirst_12 ?_
    refine g_callI hC (pc := 13) (As := []) gc_J23_init (m_J23_init hC.fl h) rfl q1144 q1145 (gle rfl) (gle rfl) rfl (gle rfl) rfl dJ4_removeFirst_13 (gk_v fun G4 h => ?_) (fun _ _ h hio => g_out0 hC (hX _ _ h) hio)
    exact g_athrow hC (pc := 16) dJ4_removeFirst_16 h.1 (g_out0 hC (hX _ _ h.2) h.1)
theorem gc_J4_removeFirst : gCode yJ4_removeFirst cJ4_removeFirst 2 (some (Jvm.ClassFile.FieldType.object "java/lang/Object")) 0 := ⟨q1134, q100, ⟨by decide, by decide⟩, rfl⟩
theorem m_J4_removeFirst {l : Launch} (hfl : l.stackTraces = false) {E : gE} {G : gS} {t0 : Nat} {X : Nat → gS → Prop} {K : Option Nat → gS → Prop} (h : wp_J4_removeFirst (gAd E) G t0 X K) : gMet l yJ4_removeFirst (ws_ yJ4_removeFirst cJ4_removeFirst 2 (some (Jvm.ClassFile.FieldType.object "java/lang/Object"))) 8 212 [vQ (some t0)] E G (gRq K) X :=
  g_met hfl (plainFor_of_name (by decide +kernel)) rfl rfl rfl (gle rfl) (fun p e R s m args below meth c hC => w_J4_removeFirst hC (fun _ _ h => h) (fun _ _ h => h) h)
def wp_J14_init (ad : Nat → Nat) (G : gS) (t0 : Nat) (o1 : Option Nat) (o2 : Option Nat) (o3 : Option Nat) (X : Nat → gS → Prop) (K : gS → Prop) : Prop :=
  wPut G t0 5 0 (va_rf o2) fun G1 => wPut G1 t0 5 1 (va_rf o3) fun G2 => wPut G2 t0 5 2 (va_rf o1) fun G3 => K G3
theorem w_J14_init {C : gCx} (hC : gOk C "java/util/LinkedList$Node" cJ14_init [] none "<init>" 4 1 28) {K : gS → Prop} {X : Nat → gS → Prop} (hK : ∀ G, K G → cxK C none G) (hX : ∀ q G, X q G → cxX C q G) {G : gS} {t0 : Nat} {o1 : Option Nat} {o2 : Option Nat} {o3 : Option Nat} (h : wp_J14_init (cxA C) G t0 o1 o2 o3 X K) : gGo C G 0 [(0, vQ (some t0)), (1, vQ o1), (2, vQ o2), (3, vQ o3)] [] := by
  unfold wp_J14_init at h
  refine g_aload_n hC (pc := 0) 0 rfl rfl dJ14_init_0 ?_
  refine g_objInit hC (pc := 1) q1035 q151 q152 (gle rfl) (gle rfl) (gle rfl) dJ14_init_1 ?_
  refine g_aload_n hC (pc := 4) 0 rfl rfl dJ14_init_4 ?_
  refine g_aload_n hC (pc := 5) 2 rfl rfl dJ14_init_5 ?_
  refine g_put hC (pc := 6) in_J14 (ci := 5) rfl 0 (by decide) tyJ14_ok nmJ14 q1036 (Or.inl rfl) rfl (gnarO _ _) (gfitO _ _) h dJ14_init_6 (fun G1 h => ?_)
  refine g_aload_n hC (pc := 9) 0 rfl rfl dJ14_init_9 ?_
  refine g_aload_n hC (pc := 10) 3 rfl rfl dJ14_init_10 ?_
  refine g_put hC (pc := 11) in_J14 (ci := 5) rfl 1 (by decide) tyJ14_ok nmJ14 q1038 (Or.inl rfl) rfl (gnarO _ _) (gfitO _ _) h dJ14_init_11 (fun G2 h => ?_)
  refine g_aload_n hC (pc := 14) 0 rfl rfl dJ14_init_14 ?_
  refine g_aload_n hC (pc := 15) 1 rfl rfl dJ14_init_15 ?_
  refine g_put hC (pc := 16) in_J14 (ci := 5) rfl 2 (by decide) tyJ14_ok nmJ14 q1040 (Or.inl rfl) rfl (gnarO _ _) (gfitO _ _) h dJ14_init_16 (fun G3 h => ?_)
  exact g_vret hC (pc := 19) (hK _ h) dJ14_init_19
theorem gc_J14_init : gCode yJ14_init cJ14_init 4 none 3 := ⟨q1034, q117, ⟨by decide, by decide⟩, rfl⟩
theorem m_J14_init {l : Launch} (hfl : l.stackTraces = false) {E : gE} {G : gS} {t0 : Nat} {o1 : Option Nat} {o2 : Option Nat} {o3 : Option Nat} {X : Nat → gS → Prop} {K : gS → Prop} (h : wp_J14_init (gAd E) G t0 o1 o2 o3 X K) : gMet l yJ14_init (ws_ yJ14_init cJ14_init 4 none) 1 28 [vQ (some t0), vQ o1, vQ o2, vQ o3] E G (gRv K) X :=
  g_met hfl (plainFor_of_name (by decide +kernel)) rfl rfl rfl (gle rfl) (fun p e R s m args below meth c hC => w_J14_init hC (fun _ h => h) (fun _ _ h => h) h)
def wp_J4_linkLast_38 (ad : Nat → Nat) (X : Nat → gS → Prop) (K : gS → Prop) (G : gS) (t0 : Nat) : Prop :=
  wGetI G t0 4 1 fun i1 => wPut G t0 4 1 (.int (i1 + (1 : Int32))) fun G2 => wGetI G2 t0 4 0 fun i3 => wPut G2 t0 4 0 (.int (i3 + (1 : Int32))) fun G4 => K G4
theorem w_J4_linkLast_38 {C : gCx} (hC : gOk C "java/util/LinkedList" cJ4_linkLast [] none "linkLast" 4 2 59) {K : gS → Prop} {X : Nat → gS → Prop} (hK : ∀ G, K G → cxK C none G) (hX : ∀ q G, X q G → cxX C q G) {G : gS} {t0 : Nat} (h : wp_J4_linkLast_38 (cxA C) X K G t0) : gGo C G 38 [(0, vQ (some t0))] [] := by
  unfold wp_J4_linkLast_38 at h
  refine g_aload_n hC (pc := 38) 0 rfl rfl dJ4_linkLast_38 ?_
  refine g_dup hC (pc := 39) rfl dJ4_linkLast_39 ?_
  refine g_getI hC (pc := 40) in_J4 (ci := 4) rfl 1 (by decide) q247 (Or.inl rfl) h dJ4_linkLast_40 (fun i1 h => ?_)
  refine g_iconst hC (pc := 43) (v := (1 : Int32)) (by decide) dJ4_linkLast_43 ?_
  refine g_iadd hC (pc := 44) dJ4_linkLast_44 ?_
  refine g_put hC (pc := 45) in_J4 (ci := 4) rfl 1 (by decide) tyJ4_ok nmJ4 q247 (Or.inl rfl) rfl rfl rfl h dJ4_linkLast_45 (fun G2 h => ?_)
  refine g_aload_n hC (pc := 48) 0 rfl rfl dJ4_linkLast_48 ?_
  refine g_dup hC (pc := 49) rfl dJ4_linkLast_49 ?_
  refine g_getI hC (pc := 50) in_J4 (ci := 4) rfl 0 (by decide) q176 (Or.inr q177) h dJ4_linkLast_50 (fun i3 h => ?_)
  refine g_iconst hC (pc := 53) (v := (1 : Int32)) (by decide) dJ4_linkLast_53 ?_
  refine g_iadd hC (pc := 54) dJ4_linkLast_54 ?_
  refine g_put hC (pc := 55) in_J4 (ci := 4) rfl 0 (by decide) tyJ4_ok nmJ4 q176 (Or.inr q177) rfl rfl rfl h dJ4_linkLast_55 (fun G4 h => ?_)
  exact g_vret hC (pc := 58) (hK _ h) dJ4_linkLast_58
def wp_J4_linkLast (ad : Nat → Nat) (G : gS) (t0 : Nat) (o1 : Option Nat) (X : Nat → gS → Prop) (K : gS → Prop) : Prop :=
  wGetQ G t0 4 3 fun q1 => wNew G 5 3 [.null, .null, .null] fun c3 G2 => wp_J14_init ad G2 c3 q1 o1 none X (fun G4 => wPut G4 t0 4 3 (va_rf (some c3)) fun G5 => (q1 = none → wPut G5 t0 4 2 (va_rf (some c3)) fun G6 => wp_J4_linkLast_38 ad X K G6 t0) ∧ (∀ c7, q1 = some c7 → wPut G5 c7 5 1 (va_rf (some c3)) fun G8 => wp_J4_linkLast_38 ad X K G8 t0))
theorem w_J4_linkLast {C : gCx} (hC : gOk C "java/util/LinkedList" cJ4_linkLast [] none "linkLast" 4 2 59) {K : gS → Prop} {X : Nat → gS → Prop} (hK : ∀ G, K G → cxK C none G) (hX : ∀ q G, X q G → cxX C q G) {G : gS} {t0 : Nat} {o1 : Option Nat} (h : wp_J4_linkLast (cxA C) G t0 o1 X K) : gGo C G 0 [(0, vQ (some t0)), (1, vQ o1)] [] := by
  unfold wp_J4_linkLast at h
  refine g_aload_n hC (pc := 0) 0 rfl rfl dJ4_linkLast_0 ?_
  refine g_getQ hC (pc := 1) in_J4 (ci := 4) rfl 3 (by decide) q249 (Or.inl rfl) h dJ4_linkLast_1 (fun q1 h => ?_)
  refine g_astore_n hC (pc := 4) (lv' := [(2, vQ q1), (0, vQ (some t0)), (1, vQ o1)]) rfl (by decide) rfl dJ4_linkLast_4 ?_
  refine g_new hC (pc := 5) in_J14 (ci := 5) rfl (by decide) tyJ14_ok q1030 q1031 q117 gdf_J14 h dJ4_linkLast_5 (fun c3 G2 h => ?_)
  refine g_dup hC (pc := 8) rfl dJ4_linkLast_8 ?_
  refine g_aload_n hC (pc := 9) 0 rfl rfl dJ4_linkLast_9 ?_
  refine g_aload_n hC (pc := 10) 2 rfl rfl dJ4_linkLast_10 ?_
  refine g_null hC (pc := 11) dJ4_linkLast_11 ?_
  refine g_callI hC (pc := 12) (As := [vQ q1, vQ o1, vQ none]) gc_J14_init (m_J14_init hC.fl h) rfl q1032 q1033 (gle rfl) (gle rfl) rfl (gle rfl) rfl dJ4_linkLast_12 (gk_v fun G4 h => ?_) (fun _ _ h hio => g_out0 hC (hX _ _ h) hio)
  refine g_astore_n hC (pc := 15) (lv' := [(3, vQ (some c3)), (2, vQ q1), (0, vQ (some t0)), (1, vQ o1)]) rfl (by decide) rfl dJ4_linkLast_15 ?_
  refine g_aload_n hC (pc := 16) 2 rfl rfl dJ4_linkLast_16 ?_
  refine g_aload_n hC (pc := 17) 0 rfl rfl dJ4_linkLast_17 ?_
  refine g_put hC (pc := 18) in_J4 (ci := 4) rfl 3 (by decide) tyJ4_ok nmJ4 q249 (Or.inl rfl) rfl (gnarO _ _) (gfitO _ _) h dJ4_linkLast_18 (fun G5 h => ?_)
  refine g_aload_n hC (pc := 21) 1 rfl rfl dJ4_linkLast_21 ?_
  have hn := h; clear h
  refine g_ifnonnull hC (pc := 22) 33 (P := ¬ q1 = none) (Q := _) ⟨id, hn.1⟩ (by decide) dJ4_linkLast_22 (fun e0 => ?_) (fun h => ?_)
  · rcases q1 with _ | c7
    · exact absurd rfl e0
    have h := hn.2 _ rfl
    refine g_aload_n hC (pc := 33) 1 rfl rfl dJ4_linkLast_33 ?_
    refine g_aload_n hC (pc := 34) 0 rfl rfl dJ4_linkLast_34 ?_
    refine g_put hC (pc := 35) in_J14 (ci := 5) rfl 1 (by decide) tyJ14_ok nmJ14 q1039 (Or.inl rfl) rfl (gnarO _ _) (gfitO _ _) h dJ4_linkLast_35 (fun G8 h => ?_)
    exact g_sub [2] rfl (w_J4_linkLast_38 hC hK hX h)
  · refine g_aload_n hC (pc := 25) 2 rfl rfl dJ4_linkLast_25 ?_
    refine g_aload_n hC (pc := 26) 0 rfl rfl dJ4_linkLast_26 ?_
    refine g_put hC (pc := 27) in_J4 (ci := 4) rfl 2 (by decide) tyJ4_ok nmJ4 q248 (Or.inl rfl) rfl (gnarO _ _) (gfitO _ _) h dJ4_linkLast_27 (fun G6 h => ?_)
    refine g_goto hC (pc := 30) 38 (by decide) dJ4_linkLast_30 ?_
    exact g_sub [2] rfl (w_J4_linkLast_38 hC hK hX h)
theorem gc_J4_linkLast : gCode yJ4_linkLast cJ4_linkLast 4 none 1 := ⟨q1029, q100, ⟨by decide, by decide⟩, rfl⟩
theorem m_J4_linkLast {l : Launch} (hfl : l.stackTraces = false) {E : gE} {G : gS} {t0 : Nat} {o1 : Option Nat} {X : Nat → gS → Prop} {K : gS → Prop} (h : wp_J4_linkLast (gAd E) G t0 o1 X K) : gMet l yJ4_linkLast (ws_ yJ4_linkLast cJ4_linkLast 4 none) 2 59 [vQ (some t0), vQ o1] E G (gRv K) X :=
  g_met hfl (plainFor_of_name (by decide +kernel)) rfl rfl rfl (gle rfl) (fun p e R s m args below meth c hC => w_J4_linkLast hC (fun _ h => h) (fun _ _ h => h) h)
def wp_J4_addLast (ad : Nat → Nat) (G : gS) (t0 : Nat) (o1 : Option Nat) (X : Nat → gS → Prop) (K : gS → Prop) : Prop :=
  (gIs G t0 4 ∧ wp_J4_linkLast ad G t0 o1 X (fun G1 => K G1))
theorem w_J4_addLast {C : gCx} (hC : gOk C "java/util/LinkedList" cJ4_addLast [] none "addLast" 2 3 90) {K : gS → Prop} {X : Nat → gS → Prop} (hK : ∀ G, K G → cxK C none G) (hX : ∀ q G, X q G → cxX C q G) {G : gS} {t0 : Nat} {o1 : Option Nat} (h : wp_J4_addLast (cxA C) G t0 o1 X K) : gGo C G 0 [(0, vQ (some t0)), (1, vQ o1)] [] := by
  unfold wp_J4_addLast at h
  refine g_aload_n hC (pc := 0) 0 rfl rfl dJ4_addLast_0 ?_
  refine g_aload_n hC (pc := 1) 1 rfl rfl dJ4_addLast_1 ?_
  obtain ⟨hi, h⟩ := h
  refine g_callV hC (pc := 2) (ci := 4) (As := [vQ o1]) gc_J4_linkLast (m_J4_linkLast hC.fl h) rfl hi q1026 q1027 q1028 (gle rfl) (gle rfl) rfl (gle rfl) rfl dJ4_addLast_2 (gk_v fun G1 h => ?_) (fun _ _ h hio => g_out0 hC (hX _ _ h) hio)
  exact g_vret hC (pc := 5) (hK _ h) dJ4_addLast_5
theorem gc_J4_addLast : gCode yJ4_addLast cJ4_addLast 2 none 1 := ⟨q1163, q100, ⟨by decide, by decide⟩, rfl⟩
theorem m_J4_addLast {l : Launch} (hfl : l.stackTraces = false) {E : gE} {G : gS} {t0 : Nat} {o1 : Option Nat} {X : Nat → gS → Prop} {K : gS → Prop} (h : wp_J4_addLast (gAd E) G t0 o1 X K) : gMet l yJ4_addLast (ws_ yJ4_addLast cJ4_addLast 2 none) 3 90 [vQ (some t0), vQ o1] E G (gRv K) X :=
  g_met hfl (plainFor_of_name (by decide +kernel)) rfl rfl rfl (gle rfl) (fun p e R s m args below meth c hC => w_J4_addLast hC (fun _ h => h) (fun _ _ h => h) h)
def wp_X1_commit_20 (ad : Nat → Nat) (X : Nat → gS → Prop) (K : Int32 → gS → Prop) (G : gS) (t0 : Nat) (o1 : Option Nat) (x2 : Int32) : Prop :=
  wGetQ G t0 1 2 fun q1 => wGetQ G t0 1 0 fun q2 => wNN q1 fun c3 => (gIs G c3 4 ∧ wp_J4_addLast ad G c3 q2 X (fun G4 => wPut G4 t0 1 0 (va_rf o1) fun G5 => K x2 G5))
theorem w_X1_commit_20 {C : gCx} (hC : gOk C "GoblinHousehold" cX1_commit [] (some .int) "commit" 3 9 241) {K : Int32 → gS → Prop} {X : Nat → gS → Prop} (hK : ∀ r G, K r G → cxK C (some (vI r)) G) (hX : ∀ q G, X q G → cxX C q G) {G : gS} {t0 : Nat} {o1 : Option Nat} {x2 : Int32} (h : wp_X1_commit_20 (cxA C) X K G t0 o1 x2) : gGo C G 20 [(0, vQ (some t0)), (1, vQ o1), (2, vI x2)] [] := by
  unfold wp_X1_commit_20 at h
  refine g_aload_n hC (pc := 20) 0 rfl rfl dX1_commit_20 ?_
  refine g_getQ hC (pc := 21) in_X1 (ci := 1) rfl 2 (by decide) q294 (Or.inl rfl) h dX1_commit_21 (fun q1 h => ?_)
  refine g_aload_n hC (pc := 24) 0 rfl rfl dX1_commit_24 ?_
  refine g_getQ hC (pc := 25) in_X1 (ci := 1) rfl 0 (by decide) q292 (Or.inl rfl) h dX1_commit_25 (fun q2 h => ?_)
  rcases q1 with _ | c3
  · exact (gNN0 h).elim
  replace h := gNN1 h
  obtain ⟨hi, h⟩ := h
  refine g_callV hC (pc := 28) (ci := 4) (As := [vQ q2]) gc_J4_addLast (m_J4_addLast hC.fl h) rfl hi q1160 q1161 q1162 (gle rfl) (gle rfl) rfl (gle rfl) rfl dX1_commit_28 (gk_v fun G4 h => ?_) (fun _ _ h hio => g_out0 hC (hX _ _ h) hio)
  refine g_aload_n hC (pc := 31) 0 rfl rfl dX1_commit_31 ?_
  refine g_aload_n hC (pc := 32) 1 rfl rfl dX1_commit_32 ?_
  refine g_put hC (pc := 33) in_X1 (ci := 1) rfl 0 (by decide) tyX1_ok nmX1 q292 (Or.inl rfl) rfl (gnarO _ _) (gfitO _ _) h dX1_commit_33 (fun G5 h => ?_)
  refine g_iload_n hC (pc := 36) 2 rfl rfl dX1_commit_36 ?_
  exact g_iret hC (pc := 37) (hK _ _ h) dX1_commit_37
def wp_X1_commit (ad : Nat → Nat) (G : gS) (t0 : Nat) (o1 : Option Nat) (x2 : Int32) (X : Nat → gS → Prop) (K : Int32 → gS → Prop) : Prop :=
  wGetQ G t0 1 2 fun q1 => wNN q1 fun c2 => (gIs G c2 4 ∧ wp_J4_size ad G c2  X (fun r4 G3 => (¬ r4 = (8 : Int32) → wp_X1_commit_20 ad X K G3 t0 o1 x2) ∧ (r4 = (8 : Int32) → wGetQ G3 t0 1 2 fun q5 => wNN q5 fun c6 => (gIs G3 c6 4 ∧ wp_J4_removeFirst ad G3 c6  X (fun q8 G7 => wp_X1_commit_20 ad X K G7 t0 o1 x2)))))
theorem w_X1_commit {C : gCx} (hC : gOk C "GoblinHousehold" cX1_commit [] (some .int) "commit" 3 9 241) {K : Int32 → gS → Prop} {X : Nat → gS → Prop} (hK : ∀ r G, K r G → cxK C (some (vI r)) G) (hX : ∀ q G, X q G → cxX C q G) {G : gS} {t0 : Nat} {o1 : Option Nat} {x2 : Int32} (h : wp_X1_commit (cxA C) G t0 o1 x2 X K) : gGo C G 0 [(0, vQ (some t0)), (1, vQ o1), (2, vI x2)] [] := by
  unfold wp_X1_commit at h
  refine g_aload_n hC (pc := 0) 0 rfl rfl dX1_commit_0 ?_
  refine g_getQ hC (pc := 1) in_X1 (ci := 1) rfl 2 (by decide) q294 (Or.inl rfl) h dX1_commit_1 (fun q1 h => ?_)
  rcases q1 with _ | c2
  · exact (gNN0 h).elim
  replace h := gNN1 h
  obtain ⟨hi, h⟩ := h
  refine g_callV hC (pc := 4) (ci := 4) (As := []) gc_J4_size (m_J4_size hC.fl h) rfl hi q1130 q331 q2998 (gle rfl) (gle rfl) rfl (gle rfl) rfl dX1_commit_4 (gk_i fun r4 G3 h => ?_) (fun _ _ h hio => g_out0 hC (hX _ _ h) hio)
  refine g_bipush hC (pc := 7) (v := (8 : Int32)) (by decide) dX1_commit_7 ?_
  refine g_icmp_ne hC (pc := 9) 20 h (by decide) dX1_commit_9 (fun h => ?_) (fun h => ?_)
  · exact g_sub [0, 1, 2] rfl (w_X1_commit_20 hC hK hX h)
  · refine g_aload_n hC (pc := 12) 0 rfl rfl dX1_commit_12 ?_
    refine g_getQ hC (pc := 13) in_X1 (ci := 1) rfl 2 (by decide) q294 (Or.inl rfl) h dX1_commit_13 (fun q5 h => ?_)
    rcases q5 with _ | c6
    · exact (gNN0 h).elim
    replace h := gNN1 h
    obtain ⟨hi, h⟩ := h
    refine g_callV hC (pc := 16) (ci := 4) (As := []) gc_J4_removeFirst (m_J4_removeFirst hC.fl h) rfl hi q1131 q1132 q1133 (gle rfl) (gle rfl) rfl (gle rfl) rfl dX1_commit_16 (gk_q fun q8 G7 h => ?_) (fun _ _ h hio => g_out0 hC (hX _ _ h) hio)
    refine g_pop hC (pc := 19) rfl dX1_commit_19 ?_
    exact g_sub [0, 1, 2] rfl (w_X1_commit_20 hC hK hX h)
theorem gc_X1_commit : gCode yX1_commit cX1_commit 3 (some .int) 2 := ⟨q1129, q94, ⟨by decide, by decide⟩, rfl⟩
theorem m_X1_commit {l : Launch} (hfl : l.stackTraces = false) {E : gE} {G : gS} {t0 : Nat} {o1 : Option Nat} {x2 : Int32} {X : Nat → gS → Prop} {K : Int32 → gS → Prop} (h : wp_X1_commit (gAd E) G t0 o1 x2 X K) : gMet l yX1_commit (ws_ yX1_commit cX1_commit 3 (some .int)) 9 241 [vQ (some t0), vQ o1, vI x2] E G (gRi K) X :=
  g_met hfl (plainFor_of_name (by decide +kernel)) rfl rfl rfl (gle rfl) (fun p e R s m args below meth c hC => w_X1_commit hC (fun _ _ h => h) (fun _ _ h => h) h)
def wp_J7_isLatin1 (ad : Nat → Nat) (G : gS) (t0 : Nat) (X : Nat → gS → Prop) (K : Int32 → gS → Prop) : Prop :=
  wGetI G t0 7 1 fun i1 => (¬ i1 = (0 : Int32) → K (0 : Int32) G) ∧ (i1 = (0 : Int32) → K (1 : Int32) G)
theorem w_J7_isLatin1 {C : gCx} (hC : gOk C "java/lang/String" cJ7_isLatin1 [] (some .boolean) "isLatin1" 1 0 0) {K : Int32 → gS → Prop} {X : Nat → gS → Prop} (hK : ∀ r G, K r G → cxK C (some (vI r)) G) (hX : ∀ q G, X q G → cxX C q G) {G : gS} {t0 : Nat} (h : wp_J7_isLatin1 (cxA C) G t0 X K) : gGo C G 0 [(0, vQ (some t0))] [] := by
  unfold wp_J7_isLatin1 at h
  refine g_statI hC (pc := 0) (List.mem_of_getElem? (i := 0) rfl) q533 (fun _ _ h => h) dJ7_isLatin1_0 ?_
  refine g_if_eq hC (pc := 3) 17 (P := False) (Q := True) ⟨fun e => absurd e (by decide), fun _ => trivial⟩ (by decide) dJ7_isLatin1_3 (fun e => e.elim) (fun _ => ?_)
  refine g_aload_n hC (pc := 6) 0 rfl rfl dJ7_isLatin1_6 ?_
  refine g_getI hC (pc := 7) in_J7 (ci := 7) rfl 1 (by decide) q684 (Or.inl rfl) h dJ7_isLatin1_7 (fun i1 h => ?_)
  refine g_if_ne hC (pc := 10) 17 h (by decide) dJ7_isLatin1_10 (fun h => ?_) (fun h => ?_)
  · refine g_iconst hC (pc := 17) (v := (0 : Int32)) (by decide) dJ7_isLatin1_17 ?_
    exact g_zret hC (pc := 18) rfl (hK _ _ h) dJ7_isLatin1_18
  · refine g_iconst hC (pc := 13) (v := (1 : Int32)) (by decide) dJ7_isLatin1_13 ?_
    refine g_goto hC (pc := 14) 18 (by decide) dJ7_isLatin1_14 ?_
    exact g_zret hC (pc := 18) rfl (hK _ _ h) dJ7_isLatin1_18
theorem gc_J7_isLatin1 : gCode yJ7_isLatin1 cJ7_isLatin1 1 (some .boolean) 0 := ⟨q1195, q103, ⟨by decide, by decide⟩, rfl⟩
theorem m_J7_isLatin1 {l : Launch} (hfl : l.stackTraces = false) {E : gE} {G : gS} {t0 : Nat} {X : Nat → gS → Prop} {K : Int32 → gS → Prop} (h : wp_J7_isLatin1 (gAd E) G t0 X K) : gMet l yJ7_isLatin1 (ws_ yJ7_isLatin1 cJ7_isLatin1 1 (some .boolean)) 0 0 [vQ (some t0)] E G (gRi K) X :=
  g_met hfl (plainFor_of_name (by decide +kernel)) rfl rfl rfl (gle rfl) (fun p e R s m args below meth c hC => w_J7_isLatin1 hC (fun _ _ h => h) (fun _ _ h => h) h)
def wp_J11_signedHashCode_8 (ad : Nat → Nat) (X : Nat → gS → Prop) (K : Int32 → gS → Prop) (J8 : gS → Int32 → Option Nat → Int32 → Int32 → Prop) (G : gS) (x0 : Int32) (o1 : Option Nat) (x4 : Int32) (x5 : Int32) : Prop :=
  (x4 ≤ x5 → K x0 G) ∧ (¬ x4 ≤ x5 → wNN o1 fun c1 => wAldB G c1 x5 fun i2 => J8 G (((31 : Int32) * x0) + (i2 &&& (255 : Int32))) (some c1) x4 (x5 + (1 : Int32)))
theorem w_J11_signedHashCode_8 {C : gCx} (hC : gOk C "jdk/internal/util/ArraysSupport" cJ11_signedHashCode [] (some .int) "signedHashCode" 6 0 0) {K : Int32 → gS → Prop} {X : Nat → gS → Prop} (hK : ∀ r G, K r G → cxK C (some (vI r)) G) (hX : ∀ q G, X q G → cxX C q G) (n : Nat) : ∀ (G : gS) (x0 : Int32) (o1 : Option Nat) (x4 : Int32) (x5 : Int32), gLoop (fun _ _ _ _ _ => False) (wp_J11_signedHashCode_8 (cxA C) X K) n G x0 o1 x4 x5 → gGo C G 8 [(0, vI x0), (1, vQ o1), (4, vI x4), (5, vI x5)] [] := by
  induction n with
  | zero => intro G x0 o1 x4 x5 h; exact h.elim
  | succ n ih =>
    intro G x0 o1 x4 x5 h
    have hJ8 := ih
    replace h : wp_J11_signedHashCode_8 (cxA C) X K _ G x0 o1 x4 x5 := h
    unfold wp_J11_signedHashCode_8 at h
    refine g_iload hC (pc := 8) 3 rfl dJ11_signedHashCode_8 ?_
    refine g_iload hC (pc := 10) 2 rfl dJ11_signedHashCode_10 ?_
    refine g_icmp_ge hC (pc := 12) 35 h (by decide) dJ11_signedHashCode_12 (fun h => ?_) (fun h => ?_)
    · refine g_iload_n hC (pc := 35) 0 rfl rfl dJ11_signedHashCode_35 ?_
      exact g_iret hC (pc := 36) (hK _ _ h) dJ11_signedHashCode_36
    · refine g_bipush hC (pc := 15) (v := (31 : Int32)) (by decide) dJ11_signedHashCode_15 ?_
      refine g_iload_n hC (pc := 17) 0 rfl rfl dJ11_signedHashCode_17 ?_
      refine g_imul hC (pc := 18) dJ11_signedHashCode_18 ?_
      refine g_aload_n hC (pc := 19) 1 rfl rfl dJ11_signedHashCode_19 ?_
      refine g_iload hC (pc := 20) 3 rfl dJ11_signedHashCode_20 ?_
      rcases o1 with _ | c1
      · exact (gNN0 h).elim
      replace h := gNN1 h
      refine g_aldB hC (pc := 22) h dJ11_signedHashCode_22 (fun i2 h => ?_)
      refine g_sipush hC (pc := 23) (v := (255 : Int32)) (by decide) dJ11_signedHashCode_23 ?_
      refine g_iand hC (pc := 26) dJ11_signedHashCode_26 ?_
      refine g_iadd hC (pc := 27) dJ11_signedHashCode_27 ?_
      refine g_istore_n hC (pc := 28) (lv' := [(0, vI (((31 : Int32) * x0) + (i2 &&& (255 : Int32)))), (1, vQ (some c1)), (4, vI x4), (5, vI x5)]) rfl (by decide) rfl dJ11_signedHashCode_28 ?_
      refine g_iinc hC (pc := 29) 3 (d := (1 : Int32)) (v := (x5 + (1 : Int32))) (lv' := [(5, vI (x5 + (1 : Int32))), (0, vI (((31 : Int32) * x0) + (i2 &&& (255 : Int32)))), (1, vQ (some c1)), (4, vI x4)]) rfl (by decide) rfl (by decide) rfl dJ11_signedHashCode_29 ?_
      refine g_goto hC (pc := 32) 8 (by decide) dJ11_signedHashCode_32 ?_
      exact g_sub [1, 2, 3, 0] rfl (hJ8 _ _ _ _ _ h)
def wp_J11_signedHashCode (ad : Nat → Nat) (G : gS) (x0 : Int32) (o1 : Option Nat) (x2 : Int32) (x3 : Int32) (X : Nat → gS → Prop) (K : Int32 → gS → Prop) : Prop :=
  gLoop (fun _ _ _ _ _ => False) (wp_J11_signedHashCode_8 ad X K) gFuel G x0 o1 (x2 + x3) x2
theorem w_J11_signedHashCode {C : gCx} (hC : gOk C "jdk/internal/util/ArraysSupport" cJ11_signedHashCode [] (some .int) "signedHashCode" 6 0 0) {K : Int32 → gS → Prop} {X : Nat → gS → Prop} (hK : ∀ r G, K r G → cxK C (some (vI r)) G) (hX : ∀ q G, X q G → cxX C q G) {G : gS} {x0 : Int32} {o1 : Option Nat} {x2 : Int32} {x3 : Int32} (h : wp_J11_signedHashCode (cxA C) G x0 o1 x2 x3 X K) : gGo C G 0 [(0, vI x0), (1, vQ o1), (2, vI x2), (3, vI x3)] [] := by
  unfold wp_J11_signedHashCode at h
  refine g_iload_n hC (pc := 0) 2 rfl rfl dJ11_signedHashCode_0 ?_
  refine g_iload_n hC (pc := 1) 3 rfl rfl dJ11_signedHashCode_1 ?_
  refine g_iadd hC (pc := 2) dJ11_signedHashCode_2 ?_
  refine g_istore hC (pc := 3) (lv' := [(4, vI (x2 + x3)), (0, vI x0), (1, vQ o1), (2, vI x2), (3, vI x3)]) (by decide) rfl dJ11_signedHashCode_3 ?_
  refine g_iload_n hC (pc := 5) 3 rfl rfl dJ11_signedHashCode_5 ?_
  refine g_istore hC (pc := 6) (lv' := [(5, vI x2), (4, vI (x2 + x3)), (0, vI x0), (1, vQ o1), (2, vI x2), (3, vI x3)]) (by decide) rfl dJ11_signedHashCode_6 ?_
  exact g_sub [2, 3, 1, 0] rfl (w_J11_signedHashCode_8 hC hK hX gFuel _ _ _ _ _ h)
theorem gc_J11_signedHashCode : gCode yJ11_signedHashCode cJ11_signedHashCode 6 (some .int) 4 := ⟨q1205, q113, ⟨by decide, by decide⟩, rfl⟩
theorem m_J11_signedHashCode {l : Launch} (hfl : l.stackTraces = false) {E : gE} {G : gS} {x0 : Int32} {o1 : Option Nat} {x2 : Int32} {x3 : Int32} {X : Nat → gS → Prop} {K : Int32 → gS → Prop} (h : wp_J11_signedHashCode (gAd E) G x0 o1 x2 x3 X K) : gMet l yJ11_signedHashCode (ws_ yJ11_signedHashCode cJ11_signedHashCode 6 (some .int)) 0 0 [vI x0, vQ o1, vI x2, vI x3] E G (gRi K) X :=
  g_met hfl (plainFor_of_name (by decide +kernel)) rfl rfl rfl (gle rfl) (fun p e R s m args below meth c hC => w_J11_signedHashCode hC (fun _ _ h => h) (fun _ _ h => h) h)
def wp_J5_newCapacity (ad : Nat → Nat) (G : gS) (t0 : Nat) (x1 : Int32) (X : Nat → gS → Prop) (K : Int32 → gS → Prop) : Prop :=
  wGetQ G t0 6 0 fun q1 => wNN q1 fun c2 => wLen G c2 fun i3 => wGetI G t0 6 1 fun i4 => wGetI G t0 6 1 fun i5 => wp_J11_newLength ad G i3 ((x1 <<< (i4 &&& 31)) - i3) (i3 + ((2 : Int32) <<< (i5 &&& 31))) X (fun r7 G6 => (¬ r7 = (2147483647 : Int32) → wGetI G6 t0 6 1 fun i8 => K (r7 >>> (i8 &&& 31)) G6) ∧ (r7 = (2147483647 : Int32) → False))
theorem w_J5_newCapacity {C : gCx} (hC : gOk C "java/lang/AbstractStringBuilder" cJ5_newCapacity [] (some .int) "newCapacity" 6 2 61) {K : Int32 → gS → Prop} {X : Nat → gS → Prop} (hK : ∀ r G, K r G → cxK C (some (vI r)) G) (hX : ∀ q G, X q G → cxX C q G) {G : gS} {t0 : Nat} {x1 : Int32} (h : wp_J5_newCapacity (cxA C) G t0 x1 X K) : gGo C G 0 [(0, vQ (some t0)), (1, vI x1)] [] := by
  unfold wp_J5_newCapacity at h
  refine g_aload_n hC (pc := 0) 0 rfl rfl dJ5_newCapacity_0 ?_
  refine g_getQ hC (pc := 1) in_J6 (ci := 6) rfl 0 (by decide) q276 (Or.inl rfl) h dJ5_newCapacity_1 (fun q1 h => ?_)
  rcases q1 with _ | c2
  · exact (gNN0 h).elim
  replace h := gNN1 h
  refine g_len hC (pc := 4) h dJ5_newCapacity_4 (fun i3 h => ?_)
  refine g_istore_n hC (pc := 5) (lv' := [(2, vI i3), (0, vQ (some t0)), (1, vI x1)]) rfl (by decide) rfl dJ5_newCapacity_5 ?_
  refine g_iload_n hC (pc := 6) 2 rfl rfl dJ5_newCapacity_6 ?_
  refine g_aload_n hC (pc := 7) 1 rfl rfl dJ5_newCapacity_7 ?_
  refine g_getI hC (pc := 8) in_J6 (ci := 6) rfl 1 (by decide) q277 (Or.inl rfl) h dJ5_newCapacity_8 (fun i4 h => ?_)
  refine g_ishl hC (pc := 11) dJ5_newCapacity_11 ?_
  refine g_istore_n hC (pc := 12) (lv' := [(3, vI (x1 <<< (i4 &&& 31))), (2, vI i3), (0, vQ (some t0)), (1, vI x1)]) rfl (by decide) rfl dJ5_newCapacity_12 ?_
  refine g_iload_n hC (pc := 13) 0 rfl rfl dJ5_newCapacity_13 ?_
  refine g_iload_n hC (pc := 14) 1 rfl rfl dJ5_newCapacity_14 ?_
  refine g_isub hC (pc := 15) dJ5_newCapacity_15 ?_
  refine g_istore hC (pc := 16) (lv' := [(4, vI ((x1 <<< (i4 &&& 31)) - i3)), (3, vI (x1 <<< (i4 &&& 31))), (2, vI i3), (0, vQ (some t0)), (1, vI x1)]) (by decide) rfl dJ5_newCapacity_16 ?_
  refine g_iload_n hC (pc := 18) 2 rfl rfl dJ5_newCapacity_18 ?_
  refine g_iload hC (pc := 19) 0 rfl dJ5_newCapacity_19 ?_
  refine g_iload_n hC (pc := 21) 2 rfl rfl dJ5_newCapacity_21 ?_
  refine g_iconst hC (pc := 22) (v := (2 : Int32)) (by decide) dJ5_newCapacity_22 ?_
  refine g_aload_n hC (pc := 23) 3 rfl rfl dJ5_newCapacity_23 ?_
  refine g_getI hC (pc := 24) in_J6 (ci := 6) rfl 1 (by decide) q277 (Or.inl rfl) h dJ5_newCapacity_24 (fun i5 h => ?_)
  refine g_ishl hC (pc := 27) dJ5_newCapacity_27 ?_
  refine g_iadd hC (pc := 28) dJ5_newCapacity_28 ?_
  refine g_callS hC (pc := 29) (b := 0) (As := [vI i3, vI ((x1 <<< (i4 &&& 31)) - i3), vI (i3 + ((2 : Int32) <<< (i5 &&& 31)))]) gc_J11_newLength (m_J11_newLength hC.fl h) q467 q468 (gle rfl) (gle rfl) rfl (gle rfl) rfl dJ5_newCapacity_29 (gk_i fun r7 G6 h => ?_) (fun _ _ h hio => g_out0 hC (hX _ _ h) hio)
  refine g_istore hC (pc := 32) (lv' := [(5, vI r7), (4, vI ((x1 <<< (i4 &&& 31)) - i3)), (3, vI (x1 <<< (i4 &&& 31))), (2, vI i3), (0, vQ (some t0)), (1, vI x1)]) (by decide) rfl dJ5_newCapacity_32 ?_
  refine g_iload hC (pc := 34) 0 rfl dJ5_newCapacity_34 ?_
  refine g_ldcI hC (pc := 36) q477 dJ5_newCapacity_36 ?_
  refine g_icmp_ne hC (pc := 38) 51 h (by decide) dJ5_newCapacity_38 (fun h => ?_) (fun h => ?_)
  · refine g_iload hC (pc := 51) 0 rfl dJ5_newCapacity_51 ?_
    refine g_aload_n hC (pc := 53) 4 rfl rfl dJ5_newCapacity_53 ?_
    refine g_getI hC (pc := 54) in_J6 (ci := 6) rfl 1 (by decide) q277 (Or.inl rfl) h dJ5_newCapacity_54 (fun i8 h => ?_)
    refine g_ishr hC (pc := 57) dJ5_newCapacity_57 ?_
    exact g_iret hC (pc := 58) (hK _ _ h) dJ5_newCapacity_58
  · exact h.elim
theorem gc_J5_newCapacity : gCode yJ5_newCapacity cJ5_newCapacity 6 (some .int) 1 := ⟨q466, q101, ⟨by decide, by decide⟩, rfl⟩
theorem m_J5_newCapacity {l : Launch} (hfl : l.stackTraces = false) {E : gE} {G : gS} {t0 : Nat} {x1 : Int32} {X : Nat → gS → Prop} {K : Int32 → gS → Prop} (h : wp_J5_newCapacity (gAd E) G t0 x1 X K) : gMet l yJ5_newCapacity (ws_ yJ5_newCapacity cJ5_newCapacity 6 (some .int)) 2 61 [vQ (some t0), vI x1] E G (gRi K) X :=
  g_met hfl (plainFor_of_name (by decide +kernel)) rfl rfl rfl (gle rfl) (fun p e R s m args below meth c hC => w_J5_newCapacity hC (fun _ _ h => h) (fun _ _ h => h) h)
def wp_J13_copyOf (ad : Nat → Nat) (G : gS) (o0 : Option Nat) (x1 : Int32) (X : Nat → gS → Prop) (K : Option Nat → gS → Prop) : Prop :=
  wNN o0 fun c1 => wLen G c1 fun i2 => (¬ x1 = i2 → wNewB G x1 fun c4 G3 => wLen G3 c1 fun i5 => wCopyB G3 c1 (0 : Int32) c4 (0 : Int32) (if x1 < i5 then x1 else i5) fun G6 => K (some c4) G6) ∧ (x1 = i2 → wCloneB G c1 fun c7 G8 => wIsB G8 c7 (K (some c7) G8))
theorem w_J13_copyOf {C : gCx} (hC : gOk C "java/util/Arrays" cJ13_copyOf [] (some (Jvm.ClassFile.FieldType.array Jvm.ClassFile.FieldType.byte)) "copyOf" 3 1 64) {K : Option Nat → gS → Prop} {X : Nat → gS → Prop} (hK : ∀ r G, K r G → cxK C (some (vQ r)) G) (hX : ∀ q G, X q G → cxX C q G) {G : gS} {o0 : Option Nat} {x1 : Int32} (h : wp_J13_copyOf (cxA C) G o0 x1 X K) : gGo C G 0 [(0, vQ o0), (1, vI x1)] [] := by
  unfold wp_J13_copyOf at h
  refine g_iload_n hC (pc := 0) 1 rfl rfl dJ13_copyOf_0 ?_
  refine g_aload_n hC (pc := 1) 0 rfl rfl dJ13_copyOf_1 ?_
  rcases o0 with _ | c1
  · exact (gNN0 h).elim
  replace h := gNN1 h
  refine g_len hC (pc := 2) h dJ13_copyOf_2 (fun i2 h => ?_)
  refine g_icmp_ne hC (pc := 3) 14 h (by decide) dJ13_copyOf_3 (fun h => ?_) (fun h => ?_)
  · refine g_iload_n hC (pc := 14) 1 rfl rfl dJ13_copyOf_14 ?_
    refine g_newB hC (pc := 15) q290 h dJ13_copyOf_15 (fun c4 G3 h => ?_)
    refine g_astore_n hC (pc := 17) (lv' := [(2, vQ (some c4)), (0, vQ (some c1)), (1, vI x1)]) rfl (by decide) rfl dJ13_copyOf_17 ?_
    refine g_aload_n hC (pc := 18) 1 rfl rfl dJ13_copyOf_18 ?_
    refine g_iconst hC (pc := 19) (v := (0 : Int32)) (by decide) dJ13_copyOf_19 ?_
    refine g_aload_n hC (pc := 20) 0 rfl rfl dJ13_copyOf_20 ?_
    refine g_iconst hC (pc := 21) (v := (0 : Int32)) (by decide) dJ13_copyOf_21 ?_
    refine g_aload_n hC (pc := 22) 1 rfl rfl dJ13_copyOf_22 ?_
    refine g_len hC (pc := 23) h dJ13_copyOf_23 (fun i5 h => ?_)
    refine g_iload_n hC (pc := 24) 2 rfl rfl dJ13_copyOf_24 ?_
    refine g_min hC (pc := 25) q488 q489 q114 q490 (gle rfl) (gle rfl) (gle rfl) dJ13_copyOf_25 ?_
    refine g_copyB hC (pc := 28) q491 q493 q492 q116 (gle rfl) (gle rfl) (gle rfl) h dJ13_copyOf_28 (fun G6 h => ?_)
    refine g_aload_n hC (pc := 31) 0 rfl rfl dJ13_copyOf_31 ?_
    exact g_aret hC (pc := 32) (Or.inr ⟨_, rfl⟩) (hK _ _ h) dJ13_copyOf_32
  · refine g_aload_n hC (pc := 6) 0 rfl rfl dJ13_copyOf_6 ?_
    refine g_cloneB hC (pc := 7) q481 q482 q483 q484 q485 (List.mem_of_getElem? (i := 3) rfl) (gle rfl) (gle rfl) (gle rfl) h dJ13_copyOf_7 (fun c7 G8 h => ?_)
    refine g_castB hC (pc := 10) q487 h dJ13_copyOf_10 (fun h => ?_)
    exact g_aret hC (pc := 13) (Or.inr ⟨_, rfl⟩) (hK _ _ h) dJ13_copyOf_13
theorem gc_J13_copyOf : gCode yJ13_copyOf cJ13_copyOf 3 (some (Jvm.ClassFile.FieldType.array Jvm.ClassFile.FieldType.byte)) 2 := ⟨q480, q115, ⟨by decide, by decide⟩, rfl⟩
theorem m_J13_copyOf {l : Launch} (hfl : l.stackTraces = false) {E : gE} {G : gS} {o0 : Option Nat} {x1 : Int32} {X : Nat → gS → Prop} {K : Option Nat → gS → Prop} (h : wp_J13_copyOf (gAd E) G o0 x1 X K) : gMet l yJ13_copyOf (ws_ yJ13_copyOf cJ13_copyOf 3 (some (Jvm.ClassFile.FieldType.array Jvm.ClassFile.FieldType.byte))) 1 64 [vQ o0, vI x1] E G (gRq K) X :=
  g_met hfl (plainFor_of_name (by decide +kernel)) rfl rfl rfl (gle rfl) (fun p e R s m args below meth c hC => w_J13_copyOf hC (fun _ _ h => h) (fun _ _ h => h) h)
def wp_J5_ensureCapacityInternal (ad : Nat → Nat) (G : gS) (t0 : Nat) (x1 : Int32) (X : Nat → gS → Prop) (K : gS → Prop) : Prop :=
  wGetQ G t0 6 0 fun q1 => wNN q1 fun c2 => wLen G c2 fun i3 => wGetI G t0 6 1 fun i4 => ((x1 - (i3 >>> (i4 &&& 31))) ≤ (0 : Int32) → K G) ∧ (¬ (x1 - (i3 >>> (i4 &&& 31))) ≤ (0 : Int32) → wGetQ G t0 6 0 fun q5 => (gIs G t0 6 ∧ wp_J5_newCapacity ad G t0 x1 X (fun r7 G6 => wGetI G6 t0 6 1 fun i8 => wp_J13_copyOf ad G6 q5 (r7 <<< (i8 &&& 31)) X (fun q10 G9 => wPut G9 t0 6 0 (va_rf q10) fun G11 => K G11))))
theorem w_J5_ensureCapacityInternal {C : gCx} (hC : gOk C "java/lang/AbstractStringBuilder" cJ5_ensureCapacityInternal [] none "ensureCapacityInternal" 3 3 94) {K : gS → Prop} {X : Nat → gS → Prop} (hK : ∀ G, K G → cxK C none G) (hX : ∀ q G, X q G → cxX C q G) {G : gS} {t0 : Nat} {x1 : Int32} (h : wp_J5_ensureCapacityInternal (cxA C) G t0 x1 X K) : gGo C G 0 [(0, vQ (some t0)), (1, vI x1)] [] := by
  unfold wp_J5_ensureCapacityInternal at h
  refine g_aload_n hC (pc := 0) 0 rfl rfl dJ5_ensureCapacityInternal_0 ?_
  refine g_getQ hC (pc := 1) in_J6 (ci := 6) rfl 0 (by decide) q276 (Or.inl rfl) h dJ5_ensureCapacityInternal_1 (fun q1 h => ?_)
  rcases q1 with _ | c2
  · exact (gNN0 h).elim
  replace h := gNN1 h
  refine g_len hC (pc := 4) h dJ5_ensureCapacityInternal_4 (fun i3 h => ?_)
  refine g_aload_n hC (pc := 5) 0 rfl rfl dJ5_ensureCapacityInternal_5 ?_
  refine g_getI hC (pc := 6) in_J6 (ci := 6) rfl 1 (by decide) q277 (Or.inl rfl) h dJ5_ensureCapacityInternal_6 (fun i4 h => ?_)
  refine g_ishr hC (pc := 9) dJ5_ensureCapacityInternal_9 ?_
  refine g_istore_n hC (pc := 10) (lv' := [(2, vI (i3 >>> (i4 &&& 31))), (0, vQ (some t0)), (1, vI x1)]) rfl (by decide) rfl dJ5_ensureCapacityInternal_10 ?_
  refine g_iload_n hC (pc := 11) 2 rfl rfl dJ5_ensureCapacityInternal_11 ?_
  refine g_iload_n hC (pc := 12) 0 rfl rfl dJ5_ensureCapacityInternal_12 ?_
  refine g_isub hC (pc := 13) dJ5_ensureCapacityInternal_13 ?_
  refine g_if_le hC (pc := 14) 38 h (by decide) dJ5_ensureCapacityInternal_14 (fun h => ?_) (fun h => ?_)
  · exact g_vret hC (pc := 38) (hK _ h) dJ5_ensureCapacityInternal_38
  · refine g_aload_n hC (pc := 17) 1 rfl rfl dJ5_ensureCapacityInternal_17 ?_
    refine g_aload_n hC (pc := 18) 1 rfl rfl dJ5_ensureCapacityInternal_18 ?_
    refine g_getQ hC (pc := 19) in_J6 (ci := 6) rfl 0 (by decide) q276 (Or.inl rfl) h dJ5_ensureCapacityInternal_19 (fun q5 h => ?_)
    refine g_aload_n hC (pc := 22) 1 rfl rfl dJ5_ensureCapacityInternal_22 ?_
    refine g_iload_n hC (pc := 23) 2 rfl rfl dJ5_ensureCapacityInternal_23 ?_
    obtain ⟨hi, h⟩ := h
    refine g_callP hC (pc := 24) (ci := 6) (As := [vI x1]) gc_J5_newCapacity (m_J5_newCapacity hC.fl h) rfl hi q463 q2993 (List.mem_of_getElem? (i := 2) rfl) q465 (gle rfl) (gle rfl) rfl (gle rfl) rfl dJ5_ensureCapacityInternal_24 (gk_i fun r7 G6 h => ?_) (fun _ _ h hio => g_out0 hC (hX _ _ h) hio)
    refine g_aload_n hC (pc := 27) 1 rfl rfl dJ5_ensureCapacityInternal_27 ?_
    refine g_getI hC (pc := 28) in_J6 (ci := 6) rfl 1 (by decide) q277 (Or.inl rfl) h dJ5_ensureCapacityInternal_28 (fun i8 h => ?_)
    refine g_ishl hC (pc := 31) dJ5_ensureCapacityInternal_31 ?_
    refine g_callS hC (pc := 32) (b := 0) (As := [vQ q5, vI (r7 <<< (i8 &&& 31))]) gc_J13_copyOf (m_J13_copyOf hC.fl h) q478 q479 (gle rfl) (gle rfl) rfl (gle rfl) rfl dJ5_ensureCapacityInternal_32 (gk_q fun q10 G9 h => ?_) (fun _ _ h hio => g_out0 hC (hX _ _ h) hio)
    refine g_put hC (pc := 35) in_J6 (ci := 6) rfl 0 (by decide) tyJ6_ok nmJ6 q276 (Or.inl rfl) rfl (gnarA _ _) (gfitA _ _) h dJ5_ensureCapacityInternal_35 (fun G11 h => ?_)
    exact g_vret hC (pc := 38) (hK _ h) dJ5_ensureCapacityInternal_38
theorem gc_J5_ensureCapacityInternal : gCode yJ5_ensureCapacityInternal cJ5_ensureCapacityInternal 3 none 1 := ⟨q462, q101, ⟨by decide, by decide⟩, rfl⟩
theorem m_J5_ensureCapacityInternal {l : Launch} (hfl : l.stackTraces = false) {E : gE} {G : gS} {t0 : Nat} {x1 : Int32} {X : Nat → gS → Prop} {K : gS → Prop} (h : wp_J5_ensureCapacityInternal (gAd E) G t0 x1 X K) : gMet l yJ5_ensureCapacityInternal (ws_ yJ5_ensureCapacityInternal cJ5_ensureCapacityInternal 3 none) 3 94 [vQ (some t0), vI x1] E G (gRv K) X :=
  g_met hfl (plainFor_of_name (by decide +kernel)) rfl rfl rfl (gle rfl) (fun p e R s m args below meth c hC => w_J5_ensureCapacityInternal hC (fun _ h => h) (fun _ _ h => h) h)
def wp_J5_isLatin1 (ad : Nat → Nat) (G : gS) (t0 : Nat) (X : Nat → gS → Prop) (K : Int32 → gS → Prop) : Prop :=
  wGetI G t0 6 1 fun i1 => (¬ i1 = (0 : Int32) → K (0 : Int32) G) ∧ (i1 = (0 : Int32) → K (1 : Int32) G)
theorem w_J5_isLatin1 {C : gCx} (hC : gOk C "java/lang/AbstractStringBuilder" cJ5_isLatin1 [] (some .boolean) "isLatin1" 1 0 0) {K : Int32 → gS → Prop} {X : Nat → gS → Prop} (hK : ∀ r G, K r G → cxK C (some (vI r)) G) (hX : ∀ q G, X q G → cxX C q G) {G : gS} {t0 : Nat} (h : wp_J5_isLatin1 (cxA C) G t0 X K) : gGo C G 0 [(0, vQ (some t0))] [] := by
  unfold wp_J5_isLatin1 at h
  refine g_statI hC (pc := 0) (List.mem_of_getElem? (i := 0) rfl) q267 (fun _ _ h => h) dJ5_isLatin1_0 ?_
  refine g_if_eq hC (pc := 3) 17 (P := False) (Q := True) ⟨fun e => absurd e (by decide), fun _ => trivial⟩ (by decide) dJ5_isLatin1_3 (fun e => e.elim) (fun _ => ?_)
  refine g_aload_n hC (pc := 6) 0 rfl rfl dJ5_isLatin1_6 ?_
  refine g_getI hC (pc := 7) in_J6 (ci := 6) rfl 1 (by decide) q277 (Or.inl rfl) h dJ5_isLatin1_7 (fun i1 h => ?_)
  refine g_if_ne hC (pc := 10) 17 h (by decide) dJ5_isLatin1_10 (fun h => ?_) (fun h => ?_)
  · refine g_iconst hC (pc := 17) (v := (0 : Int32)) (by decide) dJ5_isLatin1_17 ?_
    exact g_zret hC (pc := 18) rfl (hK _ _ h) dJ5_isLatin1_18
  · refine g_iconst hC (pc := 13) (v := (1 : Int32)) (by decide) dJ5_isLatin1_13 ?_
    refine g_goto hC (pc := 14) 18 (by decide) dJ5_isLatin1_14 ?_
    exact g_zret hC (pc := 18) rfl (hK _ _ h) dJ5_isLatin1_18
theorem gc_J5_isLatin1 : gCode yJ5_isLatin1 cJ5_isLatin1 1 (some .boolean) 0 := ⟨q498, q101, ⟨by decide, by decide⟩, rfl⟩
theorem m_J5_isLatin1 {l : Launch} (hfl : l.stackTraces = false) {E : gE} {G : gS} {t0 : Nat} {X : Nat → gS → Prop} {K : Int32 → gS → Prop} (h : wp_J5_isLatin1 (gAd E) G t0 X K) : gMet l yJ5_isLatin1 (ws_ yJ5_isLatin1 cJ5_isLatin1 1 (some .boolean)) 0 0 [vQ (some t0)] E G (gRi K) X :=
  g_met hfl (plainFor_of_name (by decide +kernel)) rfl rfl rfl (gle rfl) (fun p e R s m args below meth c hC => w_J5_isLatin1 hC (fun _ _ h => h) (fun _ _ h => h) h)
def wp_J5_appendNull_76 (ad : Nat → Nat) (X : Nat → gS → Prop) (K : Option Nat → gS → Prop) (G : gS) (t0 : Nat) (x1 : Int32) : Prop :=
  wPut G t0 6 3 (.int x1) fun G1 => K (some t0) G1
theorem w_J5_appendNull_76 {C : gCx} (hC : gOk C "java/lang/AbstractStringBuilder" cJ5_appendNull [] (some (Jvm.ClassFile.FieldType.object "java/lang/AbstractStringBuilder")) "appendNull" 3 4 124) {K : Option Nat → gS → Prop} {X : Nat → gS → Prop} (hK : ∀ r G, K r G → cxK C (some (vQ r)) G) (hX : ∀ q G, X q G → cxX C q G) {G : gS} {t0 : Nat} {x1 : Int32} (h : wp_J5_appendNull_76 (cxA C) X K G t0 x1) : gGo C G 76 [(0, vQ (some t0)), (1, vI x1)] [] := by
  unfold wp_J5_appendNull_76 at h
  refine g_aload_n hC (pc := 76) 0 rfl rfl dJ5_appendNull_76 ?_
  refine g_iload_n hC (pc := 77) 1 rfl rfl dJ5_appendNull_77 ?_
  refine g_put hC (pc := 78) in_J6 (ci := 6) rfl 3 (by decide) tyJ6_ok nmJ6 q280 (Or.inl rfl) rfl rfl rfl h dJ5_appendNull_78 (fun G1 h => ?_)
  refine g_aload_n hC (pc := 81) 0 rfl rfl dJ5_appendNull_81 ?_
  exact g_aret hC (pc := 82) (Or.inl ⟨_, rfl⟩) (hK _ _ h) dJ5_appendNull_82
def wp_J5_appendNull (ad : Nat → Nat) (G : gS) (t0 : Nat) (X : Nat → gS → Prop) (K : Option Nat → gS → Prop) : Prop :=
  wGetI G t0 6 3 fun i1 => (gIs G t0 6 ∧ wp_J5_ensureCapacityInternal ad G t0 (i1 + (4 : Int32)) X (fun G2 => wGetI G2 t0 6 3 fun i3 => wGetQ G2 t0 6 0 fun q4 => (gIs G2 t0 6 ∧ wp_J5_isLatin1 ad G2 t0  X (fun r6 G5 => (r6 = (0 : Int32) → False) ∧ (¬ r6 = (0 : Int32) → wNN q4 fun c7 => wAstB G5 c7 i3 (110 : Int32) fun G8 => wAstB G8 c7 (i3 + (1 : Int32)) (117 : Int32) fun G9 => wAstB G9 c7 ((i3 + (1 : Int32)) + (1 : Int32)) (108 : Int32) fun G10 => wAstB G10 c7 (((i3 + (1 : Int32)) + (1 : Int32)) + (1 : Int32)) (108 : Int32) fun G11 => wp_J5_appendNull_76 ad X K G11 t0 ((((i3 + (1 : Int32)) + (1 : Int32)) + (1 : Int32)) + (1 : Int32)))))))
theorem w_J5_appendNull {C : gCx} (hC : gOk C "java/lang/AbstractStringBuilder" cJ5_appendNull [] (some (Jvm.ClassFile.FieldType.object "java/lang/AbstractStringBuilder")) "appendNull" 3 4 124) {K : Option Nat → gS → Prop} {X : Nat → gS → Prop} (hK : ∀ r G, K r G → cxK C (some (vQ r)) G) (hX : ∀ q G, X q G → cxX C q G) {G : gS} {t0 : Nat} (h : wp_J5_appendNull (cxA C) G t0 X K) : gGo C G 0 [(0, vQ (some t0))] [] := by
  unfold wp_J5_appendNull at h
  refine g_aload_n hC (pc := 0) 0 rfl rfl dJ5_appendNull_0 ?_
  refine g_aload_n hC (pc := 1) 0 rfl rfl dJ5_appendNull_1 ?_
  refine g_getI hC (pc := 2) in_J6 (ci := 6) rfl 3 (by decide) q280 (Or.inl rfl) h dJ5_appendNull_2 (fun i1 h => ?_)
  refine g_iconst hC (pc := 5) (v := (4 : Int32)) (by decide) dJ5_appendNull_5 ?_
  refine g_iadd hC (pc := 6) dJ5_appendNull_6 ?_
  obtain ⟨hi, h⟩ := h
  refine g_callP hC (pc := 7) (ci := 6) (As := [vI (i1 + (4 : Int32))]) gc_J5_ensureCapacityInternal (m_J5_ensureCapacityInternal hC.fl h) rfl hi q459 q2992 (List.mem_of_getElem? (i := 1) rfl) q461 (gle rfl) (gle rfl) rfl (gle rfl) rfl dJ5_appendNull_7 (gk_v fun G2 h => ?_) (fun _ _ h hio => g_out0 hC (hX _ _ h) hio)
  refine g_aload_n hC (pc := 10) 0 rfl rfl dJ5_appendNull_10 ?_
  refine g_getI hC (pc := 11) in_J6 (ci := 6) rfl 3 (by decide) q280 (Or.inl rfl) h dJ5_appendNull_11 (fun i3 h => ?_)
  refine g_istore_n hC (pc := 14) (lv' := [(1, vI i3), (0, vQ (some t0))]) rfl (by decide) rfl dJ5_appendNull_14 ?_
  refine g_aload_n hC (pc := 15) 1 rfl rfl dJ5_appendNull_15 ?_
  refine g_getQ hC (pc := 16) in_J6 (ci := 6) rfl 0 (by decide) q276 (Or.inl rfl) h dJ5_appendNull_16 (fun q4 h => ?_)
  refine g_astore_n hC (pc := 19) (lv' := [(2, vQ q4), (1, vI i3), (0, vQ (some t0))]) rfl (by decide) rfl dJ5_appendNull_19 ?_
  refine g_aload_n hC (pc := 20) 2 rfl rfl dJ5_appendNull_20 ?_
  obtain ⟨hi, h⟩ := h
  refine g_callV hC (pc := 21) (ci := 6) (As := []) gc_J5_isLatin1 (m_J5_isLatin1 hC.fl h) rfl hi q494 q495 q497 (gle rfl) (gle rfl) rfl (gle rfl) rfl dJ5_appendNull_21 (gk_i fun r6 G5 h => ?_) (fun _ _ h hio => g_out0 hC (hX _ _ h) hio)
  refine g_if_eq hC (pc := 24) 62 h (by decide) dJ5_appendNull_24 (fun h => ?_) (fun h => ?_)
  · refine g_aload_n hC (pc := 62) 0 rfl rfl dJ5_appendNull_62 ?_
    refine g_iload_n hC (pc := 63) 1 rfl rfl dJ5_appendNull_63 ?_
    refine g_bipush hC (pc := 64) (v := (110 : Int32)) (by decide) dJ5_appendNull_64 ?_
    refine g_bipush hC (pc := 66) (v := (117 : Int32)) (by decide) dJ5_appendNull_66 ?_
    refine g_bipush hC (pc := 68) (v := (108 : Int32)) (by decide) dJ5_appendNull_68 ?_
    refine g_bipush hC (pc := 70) (v := (108 : Int32)) (by decide) dJ5_appendNull_70 ?_
    exact h.elim
  · refine g_aload_n hC (pc := 27) 0 rfl rfl dJ5_appendNull_27 ?_
    refine g_iload_n hC (pc := 28) 1 rfl rfl dJ5_appendNull_28 ?_
    refine g_iinc hC (pc := 29) 1 (d := (1 : Int32)) (v := (i3 + (1 : Int32))) (lv' := [(1, vI (i3 + (1 : Int32))), (2, vQ q4), (0, vQ (some t0))]) rfl (by decide) rfl (by decide) rfl dJ5_appendNull_29 ?_
    refine g_bipush hC (pc := 32) (v := (110 : Int32)) (by decide) dJ5_appendNull_32 ?_
    rcases q4 with _ | c7
    · exact (gNN0 h).elim
    replace h := gNN1 h
    refine g_astB hC (pc := 34) h dJ5_appendNull_34 (fun G8 h => ?_)
    refine g_aload_n hC (pc := 35) 1 rfl rfl dJ5_appendNull_35 ?_
    refine g_iload_n hC (pc := 36) 0 rfl rfl dJ5_appendNull_36 ?_
    refine g_iinc hC (pc := 37) 0 (d := (1 : Int32)) (v := ((i3 + (1 : Int32)) + (1 : Int32))) (lv' := [(1, vI ((i3 + (1 : Int32)) + (1 : Int32))), (2, vQ (some c7)), (0, vQ (some t0))]) rfl (by decide) rfl (by decide) rfl dJ5_appendNull_37 ?_
    refine g_bipush hC (pc := 40) (v := (117 : Int32)) (by decide) dJ5_appendNull_40 ?_
    refine g_astB hC (pc := 42) h dJ5_appendNull_42 (fun G9 h => ?_)
    refine g_aload_n hC (pc := 43) 1 rfl rfl dJ5_appendNull_43 ?_
    refine g_iload_n hC (pc := 44) 0 rfl rfl dJ5_appendNull_44 ?_
    refine g_iinc hC (pc := 45) 0 (d := (1 : Int32)) (v := (((i3 + (1 : Int32)) + (1 : Int32)) + (1 : Int32))) (lv' := [(1, vI (((i3 + (1 : Int32)) + (1 : Int32)) + (1 : Int32))), (2, vQ (some c7)), (0, vQ (some t0))]) rfl (by decide) rfl (by decide) rfl dJ5_appendNull_45 ?_
    refine g_bipush hC (pc := 48) (v := (108 : Int32)) (by decide) dJ5_appendNull_48 ?_
    refine g_astB hC (pc := 50) h dJ5_appendNull_50 (fun G10 h => ?_)
    refine g_aload_n hC (pc := 51) 1 rfl rfl dJ5_appendNull_51 ?_
    refine g_iload_n hC (pc := 52) 0 rfl rfl dJ5_appendNull_52 ?_
    refine g_iinc hC (pc := 53) 0 (d := (1 : Int32)) (v := ((((i3 + (1 : Int32)) + (1 : Int32)) + (1 : Int32)) + (1 : Int32))) (lv' := [(1, vI ((((i3 + (1 : Int32)) + (1 : Int32)) + (1 : Int32)) + (1 : Int32))), (2, vQ (some c7)), (0, vQ (some t0))]) rfl (by decide) rfl (by decide) rfl dJ5_appendNull_53 ?_
    refine g_bipush hC (pc := 56) (v := (108 : Int32)) (by decide) dJ5_appendNull_56 ?_
    refine g_astB hC (pc := 58) h dJ5_appendNull_58 (fun G11 h => ?_)
    refine g_goto hC (pc := 59) 76 (by decide) dJ5_appendNull_59 ?_
    exact g_sub [2, 0] rfl (w_J5_appendNull_76 hC hK hX h)
theorem gc_J5_appendNull : gCode yJ5_appendNull cJ5_appendNull 3 (some (Jvm.ClassFile.FieldType.object "java/lang/AbstractStringBuilder")) 0 := ⟨q458, q101, ⟨by decide, by decide⟩, rfl⟩
theorem m_J5_appendNull {l : Launch} (hfl : l.stackTraces = false) {E : gE} {G : gS} {t0 : Nat} {X : Nat → gS → Prop} {K : Option Nat → gS → Prop} (h : wp_J5_appendNull (gAd E) G t0 X K) : gMet l yJ5_appendNull (ws_ yJ5_appendNull cJ5_appendNull 3 (some (Jvm.ClassFile.FieldType.object "java/lang/AbstractStringBuilder"))) 4 124 [vQ (some t0)] E G (gRq K) X :=
  g_met hfl (plainFor_of_name (by decide +kernel)) rfl rfl rfl (gle rfl) (fun p e R s m args below meth c hC => w_J5_appendNull hC (fun _ _ h => h) (fun _ _ h => h) h)
def wp_J7_coder (ad : Nat → Nat) (G : gS) (t0 : Nat) (X : Nat → gS → Prop) (K : Int32 → gS → Prop) : Prop :=
  wGetI G t0 7 1 fun i1 => gNar .byte i1 ∧ K i1 G
theorem w_J7_coder {C : gCx} (hC : gOk C "java/lang/String" cJ7_coder [] (some .byte) "coder" 1 0 0) {K : Int32 → gS → Prop} {X : Nat → gS → Prop} (hK : ∀ r G, K r G → cxK C (some (vI r)) G) (hX : ∀ q G, X q G → cxX C q G) {G : gS} {t0 : Nat} (h : wp_J7_coder (cxA C) G t0 X K) : gGo C G 0 [(0, vQ (some t0))] [] := by
  unfold wp_J7_coder at h
  refine g_statI hC (pc := 0) (List.mem_of_getElem? (i := 0) rfl) q533 (fun _ _ h => h) dJ7_coder_0 ?_
  refine g_if_eq hC (pc := 3) 13 (P := False) (Q := True) ⟨fun e => absurd e (by decide), fun _ => trivial⟩ (by decide) dJ7_coder_3 (fun e => e.elim) (fun _ => ?_)
  refine g_aload_n hC (pc := 6) 0 rfl rfl dJ7_coder_6 ?_
  refine g_getI hC (pc := 7) in_J7 (ci := 7) rfl 1 (by decide) q684 (Or.inl rfl) h dJ7_coder_7 (fun i1 h => ?_)
  refine g_goto hC (pc := 10) 14 (by decide) dJ7_coder_10 ?_
  exact g_zret hC (pc := 14) h.1 (hK _ _ h.2) dJ7_coder_14
theorem gc_J7_coder : gCode yJ7_coder cJ7_coder 1 (some .byte) 0 := ⟨q532, q103, ⟨by decide, by decide⟩, rfl⟩
theorem m_J7_coder {l : Launch} (hfl : l.stackTraces = false) {E : gE} {G : gS} {t0 : Nat} {X : Nat → gS → Prop} {K : Int32 → gS → Prop} (h : wp_J7_coder (gAd E) G t0 X K) : gMet l yJ7_coder (ws_ yJ7_coder cJ7_coder 1 (some .byte)) 0 0 [vQ (some t0)] E G (gRi K) X :=
  g_met hfl (plainFor_of_name (by decide +kernel)) rfl rfl rfl (gle rfl) (fun p e R s m args below meth c hC => w_J7_coder hC (fun _ _ h => h) (fun _ _ h => h) h)
def wp_J7_length (ad : Nat → Nat) (G : gS) (t0 : Nat) (X : Nat → gS → Prop) (K : Int32 → gS → Prop) : Prop :=
  wGetQ G t0 7 0 fun q1 => wNN q1 fun c2 => wLen G c2 fun i3 => (gIs G t0 7 ∧ wp_J7_coder ad G t0  X (fun r5 G4 => K (i3 >>> (r5 &&& 31)) G4))
theorem w_J7_length {C : gCx} (hC : gOk C "java/lang/String" cJ7_length [] (some .int) "length" 1 1 28) {K : Int32 → gS → Prop} {X : Nat → gS → Prop} (hK : ∀ r G, K r G → cxK C (some (vI r)) G) (hX : ∀ q G, X q G → cxX C q G) {G : gS} {t0 : Nat} (h : wp_J7_length (cxA C) G t0 X K) : gGo C G 0 [(0, vQ (some t0))] [] := by
  unfold wp_J7_length at h
  refine g_aload_n hC (pc := 0) 0 rfl rfl dJ7_length_0 ?_
  refine g_getQ hC (pc := 1) in_J7 (ci := 7) rfl 0 (by decide) q683 (Or.inl rfl) h dJ7_length_1 (fun q1 h => ?_)
  rcases q1 with _ | c2
  · exact (gNN0 h).elim
  replace h := gNN1 h
  refine g_len hC (pc := 4) h dJ7_length_4 (fun i3 h => ?_)
  refine g_aload_n hC (pc := 5) 0 rfl rfl dJ7_length_5 ?_
  obtain ⟨hi, h⟩ := h
  refine g_callV hC (pc := 6) (ci := 7) (As := []) gc_J7_coder (m_J7_coder hC.fl h) rfl hi q529 q530 q531 (gle rfl) (gle rfl) rfl (gle rfl) rfl dJ7_length_6 (gk_i fun r5 G4 h => ?_) (fun _ _ h hio => g_out0 hC (hX _ _ h) hio)
  refine g_ishr hC (pc := 9) dJ7_length_9 ?_
  exact g_iret hC (pc := 10) (hK _ _ h) dJ7_length_10
theorem gc_J7_length : gCode yJ7_length cJ7_length 1 (some .int) 0 := ⟨q528, q103, ⟨by decide, by decide⟩, rfl⟩
theorem m_J7_length {l : Launch} (hfl : l.stackTraces = false) {E : gE} {G : gS} {t0 : Nat} {X : Nat → gS → Prop} {K : Int32 → gS → Prop} (h : wp_J7_length (gAd E) G t0 X K) : gMet l yJ7_length (ws_ yJ7_length cJ7_length 1 (some .int)) 1 28 [vQ (some t0)] E G (gRi K) X :=
  g_met hfl (plainFor_of_name (by decide +kernel)) rfl rfl rfl (gle rfl) (fun p e R s m args below meth c hC => w_J7_length hC (fun _ _ h => h) (fun _ _ h => h) h)
def wp_J5_inflate (ad : Nat → Nat) (G : gS) (t0 : Nat) (X : Nat → gS → Prop) (K : gS → Prop) : Prop :=
  (gIs G t0 6 ∧ wp_J5_isLatin1 ad G t0  X (fun r2 G1 => (¬ r2 = (0 : Int32) → wGetQ G1 t0 6 0 fun q3 => wNN q3 fun c4 => wLen G1 c4 fun i5 => False) ∧ (r2 = (0 : Int32) → K G1)))
theorem w_J5_inflate {C : gCx} (hC : gOk C "java/lang/AbstractStringBuilder" cJ5_inflate [] none "inflate" 2 1 28) {K : gS → Prop} {X : Nat → gS → Prop} (hK : ∀ G, K G → cxK C none G) (hX : ∀ q G, X q G → cxX C q G) {G : gS} {t0 : Nat} (h : wp_J5_inflate (cxA C) G t0 X K) : gGo C G 0 [(0, vQ (some t0))] [] := by
  unfold wp_J5_inflate at h
  refine g_aload_n hC (pc := 0) 0 rfl rfl dJ5_inflate_0 ?_
  obtain ⟨hi, h⟩ := h
  refine g_callV hC (pc := 1) (ci := 6) (As := []) gc_J5_isLatin1 (m_J5_isLatin1 hC.fl h) rfl hi q494 q495 q497 (gle rfl) (gle rfl) rfl (gle rfl) rfl dJ5_inflate_1 (gk_i fun r2 G1 h => ?_) (fun _ _ h hio => g_out0 hC (hX _ _ h) hio)
  refine g_if_ne hC (pc := 4) 8 h (by decide) dJ5_inflate_4 (fun h => ?_) (fun h => ?_)
  · refine g_aload_n hC (pc := 8) 0 rfl rfl dJ5_inflate_8 ?_
    refine g_getQ hC (pc := 9) in_J6 (ci := 6) rfl 0 (by decide) q276 (Or.inl rfl) h dJ5_inflate_9 (fun q3 h => ?_)
    rcases q3 with _ | c4
    · exact (gNN0 h).elim
    replace h := gNN1 h
    refine g_len hC (pc := 12) h dJ5_inflate_12 (fun i5 h => ?_)
    exact h.elim
  · exact g_vret hC (pc := 7) (hK _ h) dJ5_inflate_7
theorem gc_J5_inflate : gCode yJ5_inflate cJ5_inflate 2 none 0 := ⟨q546, q101, ⟨by decide, by decide⟩, rfl⟩
theorem m_J5_inflate {l : Launch} (hfl : l.stackTraces = false) {E : gE} {G : gS} {t0 : Nat} {X : Nat → gS → Prop} {K : gS → Prop} (h : wp_J5_inflate (gAd E) G t0 X K) : gMet l yJ5_inflate (ws_ yJ5_inflate cJ5_inflate 2 none) 1 28 [vQ (some t0)] E G (gRv K) X :=
  g_met hfl (plainFor_of_name (by decide +kernel)) rfl rfl rfl (gle rfl) (fun p e R s m args below meth c hC => w_J5_inflate hC (fun _ h => h) (fun _ _ h => h) h)
def wp_J5_inflateIfNeededFor (ad : Nat → Nat) (G : gS) (t0 : Nat) (o1 : Option Nat) (X : Nat → gS → Prop) (K : gS → Prop) : Prop :=
  wGetI G t0 6 1 fun i1 => wNN o1 fun c2 => (gIs G c2 7 ∧ wp_J7_coder ad G c2  X (fun r4 G3 => (i1 = r4 → K G3) ∧ (¬ i1 = r4 → (gIs G3 t0 6 ∧ wp_J5_inflate ad G3 t0  X (fun G5 => K G5)))))
theorem w_J5_inflateIfNeededFor {C : gCx} (hC : gOk C "java/lang/AbstractStringBuilder" cJ5_inflateIfNeededFor [] none "inflateIfNeededFor" 2 2 57) {K : gS → Prop} {X : Nat → gS → Prop} (hK : ∀ G, K G → cxK C none G) (hX : ∀ q G, X q G → cxX C q G) {G : gS} {t0 : Nat} {o1 : Option Nat} (h : wp_J5_inflateIfNeededFor (cxA C) G t0 o1 X K) : gGo C G 0 [(0, vQ (some t0)), (1, vQ o1)] [] := by
  unfold wp_J5_inflateIfNeededFor at h
  refine g_statI hC (pc := 0) (List.mem_of_getElem? (i := 0) rfl) q267 (fun _ _ h => h) dJ5_inflateIfNeededFor_0 ?_
  refine g_if_eq hC (pc := 3) 21 (P := False) (Q := True) ⟨fun e => absurd e (by decide), fun _ => trivial⟩ (by decide) dJ5_inflateIfNeededFor_3 (fun e => e.elim) (fun _ => ?_)
  refine g_aload_n hC (pc := 6) 0 rfl rfl dJ5_inflateIfNeededFor_6 ?_
  refine g_getI hC (pc := 7) in_J6 (ci := 6) rfl 1 (by decide) q277 (Or.inl rfl) h dJ5_inflateIfNeededFor_7 (fun i1 h => ?_)
  refine g_aload_n hC (pc := 10) 1 rfl rfl dJ5_inflateIfNeededFor_10 ?_
  rcases o1 with _ | c2
  · exact (gNN0 h).elim
  replace h := gNN1 h
  obtain ⟨hi, h⟩ := h
  refine g_callV hC (pc := 11) (ci := 7) (As := []) gc_J7_coder (m_J7_coder hC.fl h) rfl hi q542 q530 q531 (gle rfl) (gle rfl) rfl (gle rfl) rfl dJ5_inflateIfNeededFor_11 (gk_i fun r4 G3 h => ?_) (fun _ _ h hio => g_out0 hC (hX _ _ h) hio)
  refine g_icmp_eq hC (pc := 14) 21 h (by decide) dJ5_inflateIfNeededFor_14 (fun h => ?_) (fun h => ?_)
  · exact g_vret hC (pc := 21) (hK _ h) dJ5_inflateIfNeededFor_21
  · refine g_aload_n hC (pc := 17) 0 rfl rfl dJ5_inflateIfNeededFor_17 ?_
    obtain ⟨hi, h⟩ := h
    refine g_callP hC (pc := 18) (ci := 6) (As := []) gc_J5_inflate (m_J5_inflate hC.fl h) rfl hi q543 q2996 (List.mem_of_getElem? (i := 5) rfl) q545 (gle rfl) (gle rfl) rfl (gle rfl) rfl dJ5_inflateIfNeededFor_18 (gk_v fun G5 h => ?_) (fun _ _ h hio => g_out0 hC (hX _ _ h) hio)
    exact g_vret hC (pc := 21) (hK _ h) dJ5_inflateIfNeededFor_21
theorem gc_J5_inflateIfNeededFor : gCode yJ5_inflateIfNeededFor cJ5_inflateIfNeededFor 2 none 1 := ⟨q541, q101, ⟨by decide, by decide⟩, rfl⟩
theorem m_J5_inflateIfNeededFor {l : Launch} (hfl : l.stackTraces = false) {E : gE} {G : gS} {t0 : Nat} {o1 : Option Nat} {X : Nat → gS → Prop} {K : gS → Prop} (h : wp_J5_inflateIfNeededFor (gAd E) G t0 o1 X K) : gMet l yJ5_inflateIfNeededFor (ws_ yJ5_inflateIfNeededFor cJ5_inflateIfNeededFor 2 none) 2 57 [vQ (some t0), vQ o1] E G (gRv K) X :=
  g_met hfl (plainFor_of_name (by decide +kernel)) rfl rfl rfl (gle rfl) (fun p e R s m args below meth c hC => w_J5_inflateIfNeededFor hC (fun _ h => h) (fun _ _ h => h) h)
def wp_J19_inflate (ad : Nat → Nat) (G : gS) (o0 : Option Nat) (x1 : Int32) (o2 : Option Nat) (x3 : Int32) (x4 : Int32) (X : Nat → gS → Prop) (K : gS → Prop) : Prop :=
  False
theorem w_J19_inflate {C : gCx} (hC : gOk C "java/lang/StringLatin1" cJ19_inflate [] none "inflate" 5 0 0) {K : gS → Prop} {X : Nat → gS → Prop} (hK : ∀ G, K G → cxK C none G) (hX : ∀ q G, X q G → cxX C q G) {G : gS} {o0 : Option Nat} {x1 : Int32} {o2 : Option Nat} {x3 : Int32} {x4 : Int32} (h : wp_J19_inflate (cxA C) G o0 x1 o2 x3 x4 X K) : gGo C G 0 [(0, vQ o0), (1, vI x1), (2, vQ o2), (3, vI x3), (4, vI x4)] [] := by
  unfold wp_J19_inflate at h
  refine g_aload_n hC (pc := 0) 0 rfl rfl dJ19_inflate_0 ?_
  refine g_iload_n hC (pc := 1) 1 rfl rfl dJ19_inflate_1 ?_
  refine g_aload_n hC (pc := 2) 2 rfl rfl dJ19_inflate_2 ?_
  refine g_iload_n hC (pc := 3) 3 rfl rfl dJ19_inflate_3 ?_
  refine g_iload hC (pc := 4) 4 rfl dJ19_inflate_4 ?_
  exact h.elim
theorem gc_J19_inflate : gCode yJ19_inflate cJ19_inflate 5 none 5 := ⟨q549, q122, ⟨by decide, by decide⟩, rfl⟩
theorem m_J19_inflate {l : Launch} (hfl : l.stackTraces = false) {E : gE} {G : gS} {o0 : Option Nat} {x1 : Int32} {o2 : Option Nat} {x3 : Int32} {x4 : Int32} {X : Nat → gS → Prop} {K : gS → Prop} (h : wp_J19_inflate (gAd E) G o0 x1 o2 x3 x4 X K) : gMet l yJ19_inflate (ws_ yJ19_inflate cJ19_inflate 5 none) 0 0 [vQ o0, vI x1, vQ o2, vI x3, vI x4] E G (gRv K) X :=
  g_met hfl (plainFor_of_name (by decide +kernel)) rfl rfl rfl (gle rfl) (fun p e R s m args below meth c hC => w_J19_inflate hC (fun _ h => h) (fun _ _ h => h) h)
def wp_J7_getBytes (ad : Nat → Nat) (G : gS) (t0 : Nat) (o1 : Option Nat) (x2 : Int32) (x3 : Int32) (X : Nat → gS → Prop) (K : gS → Prop) : Prop :=
  (gIs G t0 7 ∧ wp_J7_coder ad G t0  X (fun r2 G1 => (¬ r2 = x3 → wGetQ G1 t0 7 0 fun q3 => wGetQ G1 t0 7 0 fun q4 => wNN q4 fun c5 => wLen G1 c5 fun i6 => wp_J19_inflate ad G1 q3 (0 : Int32) o1 x2 i6 X (fun G7 => K G7)) ∧ (r2 = x3 → wGetQ G1 t0 7 0 fun q8 => wGetQ G1 t0 7 0 fun q9 => wNN q9 fun c10 => wLen G1 c10 fun i11 => wNN q8 fun c12 => wNN o1 fun c13 => wCopyB G1 c12 (0 : Int32) c13 (x2 <<< (x3 &&& 31)) i11 fun G14 => K G14)))
theorem w_J7_getBytes {C : gCx} (hC : gOk C "java/lang/String" cJ7_getBytes [] none "getBytes" 4 1 64) {K : gS → Prop} {X : Nat → gS → Prop} (hK : ∀ G, K G → cxK C none G) (hX : ∀ q G, X q G → cxX C q G) {G : gS} {t0 : Nat} {o1 : Option Nat} {x2 : Int32} {x3 : Int32} (h : wp_J7_getBytes (cxA C) G t0 o1 x2 x3 X K) : gGo C G 0 [(0, vQ (some t0)), (1, vQ o1), (2, vI x2), (3, vI x3)] [] := by
  unfold wp_J7_getBytes at h
  refine g_aload_n hC (pc := 0) 0 rfl rfl dJ7_getBytes_0 ?_
  obtain ⟨hi, h⟩ := h
  refine g_callV hC (pc := 1) (ci := 7) (As := []) gc_J7_coder (m_J7_coder hC.fl h) rfl hi q529 q530 q531 (gle rfl) (gle rfl) rfl (gle rfl) rfl dJ7_getBytes_1 (gk_i fun r2 G1 h => ?_) (fun _ _ h hio => g_out0 hC (hX _ _ h) hio)
  refine g_iload_n hC (pc := 4) 3 rfl rfl dJ7_getBytes_4 ?_
  refine g_icmp_ne hC (pc := 5) 28 h (by decide) dJ7_getBytes_5 (fun h => ?_) (fun h => ?_)
  · refine g_aload_n hC (pc := 28) 0 rfl rfl dJ7_getBytes_28 ?_
    refine g_getQ hC (pc := 29) in_J7 (ci := 7) rfl 0 (by decide) q683 (Or.inl rfl) h dJ7_getBytes_29 (fun q3 h => ?_)
    refine g_iconst hC (pc := 32) (v := (0 : Int32)) (by decide) dJ7_getBytes_32 ?_
    refine g_aload_n hC (pc := 33) 1 rfl rfl dJ7_getBytes_33 ?_
    refine g_iload_n hC (pc := 34) 2 rfl rfl dJ7_getBytes_34 ?_
    refine g_aload_n hC (pc := 35) 0 rfl rfl dJ7_getBytes_35 ?_
    refine g_getQ hC (pc := 36) in_J7 (ci := 7) rfl 0 (by decide) q683 (Or.inl rfl) h dJ7_getBytes_36 (fun q4 h => ?_)
    rcases q4 with _ | c5
    · exact (gNN0 h).elim
    replace h := gNN1 h
    refine g_len hC (pc := 39) h dJ7_getBytes_39 (fun i6 h => ?_)
    refine g_callS hC (pc := 40) (b := 0) (As := [vQ q3, vI (0 : Int32), vQ o1, vI x2, vI i6]) gc_J19_inflate (m_J19_inflate hC.fl h) q567 q548 (gle rfl) (gle rfl) rfl (gle rfl) rfl dJ7_getBytes_40 (gk_v fun G7 h => ?_) (fun _ _ h hio => g_out0 hC (hX _ _ h) hio)
    exact g_vret hC (pc := 43) (hK _ h) dJ7_getBytes_43
  · refine g_aload_n hC (pc := 8) 0 rfl rfl dJ7_getBytes_8 ?_
    refine g_getQ hC (pc := 9) in_J7 (ci := 7) rfl 0 (by decide) q683 (Or.inl rfl) h dJ7_getBytes_9 (fun q8 h => ?_)
    refine g_iconst hC (pc := 12) (v := (0 : Int32)) (by decide) dJ7_getBytes_12 ?_
    refine g_aload_n hC (pc := 13) 1 rfl rfl dJ7_getBytes_13 ?_
    refine g_iload_n hC (pc := 14) 2 rfl rfl dJ7_getBytes_14 ?_
    refine g_iload_n hC (pc := 15) 3 rfl rfl dJ7_getBytes_15 ?_
    refine g_ishl hC (pc := 16) dJ7_getBytes_16 ?_
    refine g_aload_n hC (pc := 17) 0 rfl rfl dJ7_getBytes_17 ?_
    refine g_getQ hC (pc := 18) in_J7 (ci := 7) rfl 0 (by decide) q683 (Or.inl rfl) h dJ7_getBytes_18 (fun q9 h => ?_)
    rcases q9 with _ | c10
    · exact (gNN0 h).elim
    replace h := gNN1 h
    refine g_len hC (pc := 21) h dJ7_getBytes_21 (fun i11 h => ?_)
    rcases q8 with _ | c12
    · exact (gNN0 h).elim
    replace h := gNN1 h
    rcases o1 with _ | c13
    · exact (gNN0 h).elim
    replace h := gNN1 h
    refine g_copyB hC (pc := 22) q566 q493 q492 q116 (gle rfl) (gle rfl) (gle rfl) h dJ7_getBytes_22 (fun G14 h => ?_)
    refine g_goto hC (pc := 25) 43 (by decide) dJ7_getBytes_25 ?_
    exact g_vret hC (pc := 43) (hK _ h) dJ7_getBytes_43
theorem gc_J7_getBytes : gCode yJ7_getBytes cJ7_getBytes 4 none 3 := ⟨q565, q103, ⟨by decide, by decide⟩, rfl⟩
theorem m_J7_getBytes {l : Launch} (hfl : l.stackTraces = false) {E : gE} {G : gS} {t0 : Nat} {o1 : Option Nat} {x2 : Int32} {x3 : Int32} {X : Nat → gS → Prop} {K : gS → Prop} (h : wp_J7_getBytes (gAd E) G t0 o1 x2 x3 X K) : gMet l yJ7_getBytes (ws_ yJ7_getBytes cJ7_getBytes 4 none) 1 64 [vQ (some t0), vQ o1, vI x2, vI x3] E G (gRv K) X :=
  g_met hfl (plainFor_of_name (by decide +kernel)) rfl rfl rfl (gle rfl) (fun p e R s m args below meth c hC => w_J7_getBytes hC (fun _ h => h) (fun _ _ h => h) h)
def wp_J5_putStringAt (ad : Nat → Nat) (G : gS) (t0 : Nat) (x1 : Int32) (o2 : Option Nat) (X : Nat → gS → Prop) (K : gS → Prop) : Prop :=
  (gIs G t0 6 ∧ wp_J5_inflateIfNeededFor ad G t0 o2 X (fun G1 => wGetQ G1 t0 6 0 fun q2 => wGetI G1 t0 6 1 fun i3 => wNN o2 fun c4 => (gIs G1 c4 7 ∧ wp_J7_getBytes ad G1 c4 q2 x1 i3 X (fun G5 => K G5))))
theorem w_J5_putStringAt {C : gCx} (hC : gOk C "java/lang/AbstractStringBuilder" cJ5_putStringAt [] none "putStringAt" 3 3 95) {K : gS → Prop} {X : Nat → gS → Prop} (hK : ∀ G, K G → cxK C none G) (hX : ∀ q G, X q G → cxX C q G) {G : gS} {t0 : Nat} {x1 : Int32} {o2 : Option Nat} (h : wp_J5_putStringAt (cxA C) G t0 x1 o2 X K) : gGo C G 0 [(0, vQ (some t0)), (1, vI x1), (2, vQ o2)] [] := by
  unfold wp_J5_putStringAt at h
  refine g_aload_n hC (pc := 0) 0 rfl rfl dJ5_putStringAt_0 ?_
  refine g_aload_n hC (pc := 1) 2 rfl rfl dJ5_putStringAt_1 ?_
  obtain ⟨hi, h⟩ := h
  refine g_callP hC (pc := 2) (ci := 6) (As := [vQ o2]) gc_J5_inflateIfNeededFor (m_J5_inflateIfNeededFor hC.fl h) rfl hi q538 q2995 (List.mem_of_getElem? (i := 4) rfl) q540 (gle rfl) (gle rfl) rfl (gle rfl) rfl dJ5_putStringAt_2 (gk_v fun G1 h => ?_) (fun _ _ h hio => g_out0 hC (hX _ _ h) hio)
  refine g_aload_n hC (pc := 5) 2 rfl rfl dJ5_putStringAt_5 ?_
  refine g_aload_n hC (pc := 6) 0 rfl rfl dJ5_putStringAt_6 ?_
  refine g_getQ hC (pc := 7) in_J6 (ci := 6) rfl 0 (by decide) q276 (Or.inl rfl) h dJ5_putStringAt_7 (fun q2 h => ?_)
  refine g_iload_n hC (pc := 10) 1 rfl rfl dJ5_putStringAt_10 ?_
  refine g_aload_n hC (pc := 11) 0 rfl rfl dJ5_putStringAt_11 ?_
  refine g_getI hC (pc := 12) in_J6 (ci := 6) rfl 1 (by decide) q277 (Or.inl rfl) h dJ5_putStringAt_12 (fun i3 h => ?_)
  rcases o2 with _ | c4
  · exact (gNN0 h).elim
  replace h := gNN1 h
  obtain ⟨hi, h⟩ := h
  refine g_callV hC (pc := 15) (ci := 7) (As := [vQ q2, vI x1, vI i3]) gc_J7_getBytes (m_J7_getBytes hC.fl h) rfl hi q562 q563 q564 (gle rfl) (gle rfl) rfl (gle rfl) rfl dJ5_putStringAt_15 (gk_v fun G5 h => ?_) (fun _ _ h hio => g_out0 hC (hX _ _ h) hio)
  exact g_vret hC (pc := 18) (hK _ h) dJ5_putStringAt_18
theorem gc_J5_putStringAt : gCode yJ5_putStringAt cJ5_putStringAt 3 none 2 := ⟨q537, q101, ⟨by decide, by decide⟩, rfl⟩
theorem m_J5_putStringAt {l : Launch} (hfl : l.stackTraces = false) {E : gE} {G : gS} {t0 : Nat} {x1 : Int32} {o2 : Option Nat} {X : Nat → gS → Prop} {K : gS → Prop} (h : wp_J5_putStringAt (gAd E) G t0 x1 o2 X K) : gMet l yJ5_putStringAt (ws_ yJ5_putStringAt cJ5_putStringAt 3 none) 3 95 [vQ (some t0), vI x1, vQ o2] E G (gRv K) X :=
  g_met hfl (plainFor_of_name (by decide +kernel)) rfl rfl rfl (gle rfl) (fun p e R s m args below meth c hC => w_J5_putStringAt hC (fun _ h => h) (fun _ _ h => h) h)
def wp_J5_append (ad : Nat → Nat) (G : gS) (t0 : Nat) (o1 : Option Nat) (X : Nat → gS → Prop) (K : Option Nat → gS → Prop) : Prop :=
  (o1 = none → (gIs G t0 6 ∧ wp_J5_appendNull ad G t0  X (fun q2 G1 => K q2 G1))) ∧ (∀ c3, o1 = some c3 → (gIs G c3 7 ∧ wp_J7_length ad G c3  X (fun r5 G4 => wGetI G4 t0 6 3 fun i6 => (gIs G4 t0 6 ∧ wp_J5_ensureCapacityInternal ad G4 t0 (i6 + r5) X (fun G7 => wGetI G7 t0 6 3 fun i8 => (gIs G7 t0 6 ∧ wp_J5_putStringAt ad G7 t0 i8 (some c3) X (fun G9 => wGetI G9 t0 6 3 fun i10 => wPut G9 t0 6 3 (.int (i10 + r5)) fun G11 => K (some t0) G11)))))))
theorem w_J5_append {C : gCx} (hC : gOk C "java/lang/AbstractStringBuilder" cJ5_append [] (some (Jvm.ClassFile.FieldType.object "java/lang/AbstractStringBuilder")) "append" 3 5 154) {K : Option Nat → gS → Prop} {X : Nat → gS → Prop} (hK : ∀ r G, K r G → cxK C (some (vQ r)) G) (hX : ∀ q G, X q G → cxX C q G) {G : gS} {t0 : Nat} {o1 : Option Nat} (h : wp_J5_append (cxA C) G t0 o1 X K) : gGo C G 0 [(0, vQ (some t0)), (1, vQ o1)] [] := by
  unfold wp_J5_append at h
  refine g_aload_n hC (pc := 0) 1 rfl rfl dJ5_append_0 ?_
  have hn := h; clear h
  refine g_ifnonnull hC (pc := 1) 9 (P := ¬ o1 = none) (Q := _) ⟨id, hn.1⟩ (by decide) dJ5_append_1 (fun e0 => ?_) (fun h => ?_)
  · rcases o1 with _ | c3
    · exact absurd rfl e0
    have h := hn.2 _ rfl
    refine g_aload_n hC (pc := 9) 1 rfl rfl dJ5_append_9 ?_
    obtain ⟨hi, h⟩ := h
    refine g_callV hC (pc := 10) (ci := 7) (As := []) gc_J7_length (m_J7_length hC.fl h) rfl hi q525 q526 q527 (gle rfl) (gle rfl) rfl (gle rfl) rfl dJ5_append_10 (gk_i fun r5 G4 h => ?_) (fun _ _ h hio => g_out0 hC (hX _ _ h) hio)
    refine g_istore_n hC (pc := 13) (lv' := [(2, vI r5), (0, vQ (some t0)), (1, vQ (some c3))]) rfl (by decide) rfl dJ5_append_13 ?_
    refine g_aload_n hC (pc := 14) 1 rfl rfl dJ5_append_14 ?_
    refine g_aload_n hC (pc := 15) 1 rfl rfl dJ5_append_15 ?_
    refine g_getI hC (pc := 16) in_J6 (ci := 6) rfl 3 (by decide) q280 (Or.inl rfl) h dJ5_append_16 (fun i6 h => ?_)
    refine g_iload_n hC (pc := 19) 0 rfl rfl dJ5_append_19 ?_
    refine g_iadd hC (pc := 20) dJ5_append_20 ?_
    obtain ⟨hi, h⟩ := h
    refine g_callP hC (pc := 21) (ci := 6) (As := [vI (i6 + r5)]) gc_J5_ensureCapacityInternal (m_J5_ensureCapacityInternal hC.fl h) rfl hi q459 q2992 (List.mem_of_getElem? (i := 1) rfl) q461 (gle rfl) (gle rfl) rfl (gle rfl) rfl dJ5_append_21 (gk_v fun G7 h => ?_) (fun _ _ h hio => g_out0 hC (hX _ _ h) hio)
    refine g_aload_n hC (pc := 24) 1 rfl rfl dJ5_append_24 ?_
    refine g_aload_n hC (pc := 25) 1 rfl rfl dJ5_append_25 ?_
    refine g_getI hC (pc := 26) in_J6 (ci := 6) rfl 3 (by decide) q280 (Or.inl rfl) h dJ5_append_26 (fun i8 h => ?_)
    refine g_aload_n hC (pc := 29) 2 rfl rfl dJ5_append_29 ?_
    obtain ⟨hi, h⟩ := h
    refine g_callP hC (pc := 30) (ci := 6) (As := [vI i8, vQ (some c3)]) gc_J5_putStringAt (m_J5_putStringAt hC.fl h) rfl hi q534 q2994 (List.mem_of_getElem? (i := 3) rfl) q536 (gle rfl) (gle rfl) rfl (gle rfl) rfl dJ5_append_30 (gk_v fun G9 h => ?_) (fun _ _ h hio => g_out0 hC (hX _ _ h) hio)
    refine g_aload_n hC (pc := 33) 1 rfl rfl dJ5_append_33 ?_
    refine g_dup hC (pc := 34) rfl dJ5_append_34 ?_
    refine g_getI hC (pc := 35) in_J6 (ci := 6) rfl 3 (by decide) q280 (Or.inl rfl) h dJ5_append_35 (fun i10 h => ?_)
    refine g_iload_n hC (pc := 38) 0 rfl rfl dJ5_append_38 ?_
    refine g_iadd hC (pc := 39) dJ5_append_39 ?_
    refine g_put hC (pc := 40) in_J6 (ci := 6) rfl 3 (by decide) tyJ6_ok nmJ6 q280 (Or.inl rfl) rfl rfl rfl h dJ5_append_40 (fun G11 h => ?_)
    refine g_aload_n hC (pc := 43) 1 rfl rfl dJ5_append_43 ?_
    exact g_aret hC (pc := 44) (Or.inl ⟨_, rfl⟩) (hK _ _ h) dJ5_append_44
  · refine g_aload_n hC (pc := 4) 0 rfl rfl dJ5_append_4 ?_
    obtain ⟨hi, h⟩ := h
    refine g_callP hC (pc := 5) (ci := 6) (As := []) gc_J5_appendNull (m_J5_appendNull hC.fl h) rfl hi q455 q2991 (List.mem_of_getElem? (i := 0) rfl) q457 (gle rfl) (gle rfl) rfl (gle rfl) rfl dJ5_append_5 (gk_q fun q2 G1 h => ?_) (fun _ _ h hio => g_out0 hC (hX _ _ h) hio)
    exact g_aret hC (pc := 8) (Or.inl ⟨_, rfl⟩) (hK _ _ h) dJ5_append_8
theorem gc_J5_append : gCode yJ5_append cJ5_append 3 (some (Jvm.ClassFile.FieldType.object "java/lang/AbstractStringBuilder")) 1 := ⟨q454, q101, ⟨by decide, by decide⟩, rfl⟩
theorem m_J5_append {l : Launch} (hfl : l.stackTraces = false) {E : gE} {G : gS} {t0 : Nat} {o1 : Option Nat} {X : Nat → gS → Prop} {K : Option Nat → gS → Prop} (h : wp_J5_append (gAd E) G t0 o1 X K) : gMet l yJ5_append (ws_ yJ5_append cJ5_append 3 (some (Jvm.ClassFile.FieldType.object "java/lang/AbstractStringBuilder"))) 5 154 [vQ (some t0), vQ o1] E G (gRq K) X :=
  g_met hfl (plainFor_of_name (by decide +kernel)) rfl rfl rfl (gle rfl) (fun p e R s m args below meth c hC => w_J5_append hC (fun _ _ h => h) (fun _ _ h => h) h)
def wp_J6_append (ad : Nat → Nat) (G : gS) (t0 : Nat) (o1 : Option Nat) (X : Nat → gS → Prop) (K : Option Nat → gS → Prop) : Prop :=
  (gIs G t0 6 ∧ wp_J5_append ad G t0 o1 X (fun q2 G1 => K (some t0) G1))
theorem w_J6_append {C : gCx} (hC : gOk C "java/lang/StringBuilder" cJ6_append [] (some (Jvm.ClassFile.FieldType.object "java/lang/StringBuilder")) "append" 2 6 184) {K : Option Nat → gS → Prop} {X : Nat → gS → Prop} (hK : ∀ r G, K r G → cxK C (some (vQ r)) G) (hX : ∀ q G, X q G → cxX C q G) {G : gS} {t0 : Nat} {o1 : Option Nat} (h : wp_J6_append (cxA C) G t0 o1 X K) : gGo C G 0 [(0, vQ (some t0)), (1, vQ o1)] [] := by
  unfold wp_J6_append at h
  refine g_aload_n hC (pc := 0) 0 rfl rfl dJ6_append_0 ?_
  refine g_aload_n hC (pc := 1) 1 rfl rfl dJ6_append_1 ?_
  obtain ⟨hi, h⟩ := h
  refine g_callSU hC (pc := 2) (ci := 6) (As := [vQ o1]) gc_J5_append (m_J5_append hC.fl h) rfl hi q452 q2990 q289 q453 (by decide) (gle rfl) (gle rfl) rfl (gle rfl) rfl dJ6_append_2 (gk_q fun q2 G1 h => ?_) (fun _ _ h hio => g_out0 hC (hX _ _ h) hio)
  refine g_pop hC (pc := 5) rfl dJ6_append_5 ?_
  refine g_aload_n hC (pc := 6) 0 rfl rfl dJ6_append_6 ?_
  exact g_aret hC (pc := 7) (Or.inl ⟨_, rfl⟩) (hK _ _ h) dJ6_append_7
theorem gc_J6_append : gCode yJ6_append cJ6_append 2 (some (Jvm.ClassFile.FieldType.object "java/lang/StringBuilder")) 1 := ⟨q451, q102, ⟨by decide, by decide⟩, rfl⟩
theorem m_J6_append {l : Launch} (hfl : l.stackTraces = false) {E : gE} {G : gS} {t0 : Nat} {o1 : Option Nat} {X : Nat → gS → Prop} {K : Option Nat → gS → Prop} (h : wp_J6_append (gAd E) G t0 o1 X K) : gMet l yJ6_append (ws_ yJ6_append cJ6_append 2 (some (Jvm.ClassFile.FieldType.object "java/lang/StringBuilder"))) 6 184 [vQ (some t0), vQ o1] E G (gRq K) X :=
  g_met hfl (plainFor_of_name (by decide +kernel)) rfl rfl rfl (gle rfl) (fun p e R s m args below meth c hC => w_J6_append hC (fun _ _ h => h) (fun _ _ h => h) h)
def wp_J20_stringSize_16 (ad : Nat → Nat) (X : Nat → gS → Prop) (K : Int32 → gS → Prop) (J16 : gS → Int32 → Int32 → Int32 → Int32 → Prop) (G : gS) (x0 : Int32) (x1 : Int32) (x2 : Int32) (x3 : Int32) : Prop :=
  ((10 : Int32) ≤ x3 → K ((10 : Int32) + x1) G) ∧ (¬ (10 : Int32) ≤ x3 → (x0 ≤ x2 → J16 G x0 x1 ((10 : Int32) * x2) (x3 + (1 : Int32))) ∧ (¬ x0 ≤ x2 → K (x3 + x1) G))
theorem w_J20_stringSize_16 {C : gCx} (hC : gOk C "java/lang/Integer" cJ20_stringSize [] (some .int) "stringSize" 4 0 0) {K : Int32 → gS → Prop} {X : Nat → gS → Prop} (hK : ∀ r G, K r G → cxK C (some (vI r)) G) (hX : ∀ q G, X q G → cxX C q G) (n : Nat) : ∀ (G : gS) (x0 : Int32) (x1 : Int32) (x2 : Int32) (x3 : Int32), gLoop (fun _ _ _ _ _ => False) (wp_J20_stringSize_16 (cxA C) X K) n G x0 x1 x2 x3 → gGo C G 16 [(0, vI x0), (1, vI x1), (2, vI x2), (3, vI x3)] [] := by
  induction n with
  | zero => intro G x0 x1 x2 x3 h; exact h.elim
  | succ n ih =>
    intro G x0 x1 x2 x3 h
    have hJ16 := ih
    replace h : wp_J20_stringSize_16 (cxA C) X K _ G x0 x1 x2 x3 := h
    unfold wp_J20_stringSize_16 at h
    refine g_iload_n hC (pc := 16) 3 rfl rfl dJ20_stringSize_16 ?_
    refine g_bipush hC (pc := 17) (v := (10 : Int32)) (by decide) dJ20_stringSize_17 ?_
    refine g_icmp_ge hC (pc := 19) 42 h (by decide) dJ20_stringSize_19 (fun h => ?_) (fun h => ?_)
    · refine g_bipush hC (pc := 42) (v := (10 : Int32)) (by decide) dJ20_stringSize_42 ?_
      refine g_iload_n hC (pc := 44) 1 rfl rfl dJ20_stringSize_44 ?_
      refine g_iadd hC (pc := 45) dJ20_stringSize_45 ?_
      exact g_iret hC (pc := 46) (hK _ _ h) dJ20_stringSize_46
    · refine g_iload_n hC (pc := 22) 0 rfl rfl dJ20_stringSize_22 ?_
      refine g_iload_n hC (pc := 23) 2 rfl rfl dJ20_stringSize_23 ?_
      refine g_icmp_le hC (pc := 24) 31 h (by decide) dJ20_stringSize_24 (fun h => ?_) (fun h => ?_)
      · refine g_bipush hC (pc := 31) (v := (10 : Int32)) (by decide) dJ20_stringSize_31 ?_
        refine g_iload_n hC (pc := 33) 2 rfl rfl dJ20_stringSize_33 ?_
        refine g_imul hC (pc := 34) dJ20_stringSize_34 ?_
        refine g_istore_n hC (pc := 35) (lv' := [(2, vI ((10 : Int32) * x2)), (0, vI x0), (1, vI x1), (3, vI x3)]) rfl (by decide) rfl dJ20_stringSize_35 ?_
        refine g_iinc hC (pc := 36) 3 (d := (1 : Int32)) (v := (x3 + (1 : Int32))) (lv' := [(3, vI (x3 + (1 : Int32))), (2, vI ((10 : Int32) * x2)), (0, vI x0), (1, vI x1)]) rfl (by decide) rfl (by decide) rfl dJ20_stringSize_36 ?_
        refine g_goto hC (pc := 39) 16 (by decide) dJ20_stringSize_39 ?_
        exact g_sub [2, 3, 1, 0] rfl (hJ16 _ _ _ _ _ h)
      · refine g_iload_n hC (pc := 27) 3 rfl rfl dJ20_stringSize_27 ?_
        refine g_iload_n hC (pc := 28) 1 rfl rfl dJ20_stringSize_28 ?_
        refine g_iadd hC (pc := 29) dJ20_stringSize_29 ?_
        exact g_iret hC (pc := 30) (hK _ _ h) dJ20_stringSize_30
def wp_J20_stringSize_11 (ad : Nat → Nat) (X : Nat → gS → Prop) (K : Int32 → gS → Prop) (G : gS) (x0 : Int32) (x1 : Int32) : Prop :=
  gLoop (fun _ _ _ _ _ => False) (wp_J20_stringSize_16 ad X K) gFuel G x0 x1 (-10 : Int32) (1 : Int32)
theorem w_J20_stringSize_11 {C : gCx} (hC : gOk C "java/lang/Integer" cJ20_stringSize [] (some .int) "stringSize" 4 0 0) {K : Int32 → gS → Prop} {X : Nat → gS → Prop} (hK : ∀ r G, K r G → cxK C (some (vI r)) G) (hX : ∀ q G, X q G → cxX C q G) {G : gS} {x0 : Int32} {x1 : Int32} (h : wp_J20_stringSize_11 (cxA C) X K G x0 x1) : gGo C G 11 [(0, vI x0), (1, vI x1)] [] := by
  unfold wp_J20_stringSize_11 at h
  refine g_bipush hC (pc := 11) (v := (-10 : Int32)) (by decide) dJ20_stringSize_11 ?_
  refine g_istore_n hC (pc := 13) (lv' := [(2, vI (-10 : Int32)), (0, vI x0), (1, vI x1)]) rfl (by decide) rfl dJ20_stringSize_13 ?_
  refine g_iconst hC (pc := 14) (v := (1 : Int32)) (by decide) dJ20_stringSize_14 ?_
  refine g_istore_n hC (pc := 15) (lv' := [(3, vI (1 : Int32)), (2, vI (-10 : Int32)), (0, vI x0), (1, vI x1)]) rfl (by decide) rfl dJ20_stringSize_15 ?_
  exact g_sub [2, 3, 1, 0] rfl (w_J20_stringSize_16 hC hK hX gFuel _ _ _ _ _ h)
def wp_J20_stringSize (ad : Nat → Nat) (G : gS) (x0 : Int32) (X : Nat → gS → Prop) (K : Int32 → gS → Prop) : Prop :=
  (x0 < (0 : Int32) → wp_J20_stringSize_11 ad X K G x0 (1 : Int32)) ∧ (¬ x0 < (0 : Int32) → wp_J20_stringSize_11 ad X K G (-x0) (0 : Int32))
theorem w_J20_stringSize {C : gCx} (hC : gOk C "java/lang/Integer" cJ20_stringSize [] (some .int) "stringSize" 4 0 0) {K : Int32 → gS → Prop} {X : Nat → gS → Prop} (hK : ∀ r G, K r G → cxK C (some (vI r)) G) (hX : ∀ q G, X q G → cxX C q G) {G : gS} {x0 : Int32} (h : wp_J20_stringSize (cxA C) G x0 X K) : gGo C G 0 [(0, vI x0)] [] := by
  unfold wp_J20_stringSize at h
  refine g_iconst hC (pc := 0) (v := (1 : Int32)) (by decide) dJ20_stringSize_0 ?_
  refine g_istore_n hC (pc := 1) (lv' := [(1, vI (1 : Int32)), (0, vI x0)]) rfl (by decide) rfl dJ20_stringSize_1 ?_
  refine g_iload_n hC (pc := 2) 1 rfl rfl dJ20_stringSize_2 ?_
  refine g_if_lt hC (pc := 3) 11 h (by decide) dJ20_stringSize_3 (fun h => ?_) (fun h => ?_)
  · exact g_sub [1, 0] rfl (w_J20_stringSize_11 hC hK hX h)
  · refine g_iconst hC (pc := 6) (v := (0 : Int32)) (by decide) dJ20_stringSize_6 ?_
    refine g_istore_n hC (pc := 7) (lv' := [(1, vI (0 : Int32)), (0, vI x0)]) rfl (by decide) rfl dJ20_stringSize_7 ?_
    refine g_iload_n hC (pc := 8) 1 rfl rfl dJ20_stringSize_8 ?_
    refine g_ineg hC (pc := 9) dJ20_stringSize_9 ?_
    refine g_istore_n hC (pc := 10) (lv' := [(0, vI (-x0)), (1, vI (0 : Int32))]) rfl (by decide) rfl dJ20_stringSize_10 ?_
    exact g_sub [0, 1] rfl (w_J20_stringSize_11 hC hK hX h)
theorem gc_J20_stringSize : gCode yJ20_stringSize cJ20_stringSize 4 (some .int) 1 := ⟨q577, q124, ⟨by decide, by decide⟩, rfl⟩
theorem m_J20_stringSize {l : Launch} (hfl : l.stackTraces = false) {E : gE} {G : gS} {x0 : Int32} {X : Nat → gS → Prop} {K : Int32 → gS → Prop} (h : wp_J20_stringSize (gAd E) G x0 X K) : gMet l yJ20_stringSize (ws_ yJ20_stringSize cJ20_stringSize 4 (some .int)) 0 0 [vI x0] E G (gRi K) X :=
  g_met hfl (plainFor_of_name (by decide +kernel)) rfl rfl rfl (gle rfl) (fun p e R s m args below meth c hC => w_J20_stringSize hC (fun _ _ h => h) (fun _ _ h => h) h)
def wp_J20_getChars_104 (ad : Nat → Nat) (X : Nat → gS → Prop) (K : Int32 → gS → Prop) (G : gS) (t2 : Nat) (x5 : Int32) (x6 : Int32) : Prop :=
  (x6 = (0 : Int32) → K x5 G) ∧ (¬ x6 = (0 : Int32) → wAstB G t2 (x5 + (-1 : Int32)) (45 : Int32) fun G1 => K (x5 + (-1 : Int32)) G1)
theorem w_J20_getChars_104 {C : gCx} (hC : gOk C "java/lang/Integer" cJ20_getChars [] (some .int) "getChars" 7 0 0) {K : Int32 → gS → Prop} {X : Nat → gS → Prop} (hK : ∀ r G, K r G → cxK C (some (vI r)) G) (hX : ∀ q G, X q G → cxX C q G) {G : gS} {t2 : Nat} {x5 : Int32} {x6 : Int32} (h : wp_J20_getChars_104 (cxA C) X K G t2 x5 x6) : gGo C G 104 [(2, vQ (some t2)), (5, vI x5), (6, vI x6)] [] := by
  unfold wp_J20_getChars_104 at h
  refine g_iload hC (pc := 104) 2 rfl dJ20_getChars_104 ?_
  refine g_if_eq hC (pc := 106) 118 h (by decide) dJ20_getChars_106 (fun h => ?_) (fun h => ?_)
  · refine g_iload hC (pc := 118) 1 rfl dJ20_getChars_118 ?_
    exact g_iret hC (pc := 120) (hK _ _ h) dJ20_getChars_120
  · refine g_aload_n hC (pc := 109) 0 rfl rfl dJ20_getChars_109 ?_
    refine g_iinc hC (pc := 110) 1 (d := (-1 : Int32)) (v := (x5 + (-1 : Int32))) (lv' := [(5, vI (x5 + (-1 : Int32))), (2, vQ (some t2)), (6, vI x6)]) rfl (by decide) rfl (by decide) rfl dJ20_getChars_110 ?_
    refine g_iload hC (pc := 113) 0 rfl dJ20_getChars_113 ?_
    refine g_bipush hC (pc := 115) (v := (45 : Int32)) (by decide) dJ20_getChars_115 ?_
    refine g_astB hC (pc := 117) h dJ20_getChars_117 (fun G1 h => ?_)
    refine g_iload hC (pc := 118) 0 rfl dJ20_getChars_118 ?_
    exact g_iret hC (pc := 120) (hK _ _ h) dJ20_getChars_120
def wp_J20_getChars_72 (ad : Nat → Nat) (X : Nat → gS → Prop) (K : Int32 → gS → Prop) (G : gS) (x0 : Int32) (o2 : Option Nat) (x5 : Int32) (x6 : Int32) : Prop :=
  wAldB G (ad 3) (-x0) fun i1 => wNN o2 fun c2 => wAstB G c2 (x5 + (-1 : Int32)) i1 fun G3 => ((-9 : Int32) ≤ x0 → wp_J20_getChars_104 ad X K G3 c2 (x5 + (-1 : Int32)) x6) ∧ (¬ (-9 : Int32) ≤ x0 → wAldB G3 (ad 4) (-x0) fun i4 => wAstB G3 c2 ((x5 + (-1 : Int32)) + (-1 : Int32)) i4 fun G5 => wp_J20_getChars_104 ad X K G5 c2 ((x5 + (-1 : Int32)) + (-1 : Int32)) x6)
theorem w_J20_getChars_72 {C : gCx} (hC : gOk C "java/lang/Integer" cJ20_getChars [] (some .int) "getChars" 7 0 0) {K : Int32 → gS → Prop} {X : Nat → gS → Prop} (hK : ∀ r G, K r G → cxK C (some (vI r)) G) (hX : ∀ q G, X q G → cxX C q G) {G : gS} {x0 : Int32} {o2 : Option Nat} {x5 : Int32} {x6 : Int32} (h : wp_J20_getChars_72 (cxA C) X K G x0 o2 x5 x6) : gGo C G 72 [(0, vI x0), (2, vQ o2), (5, vI x5), (6, vI x6)] [] := by
  unfold wp_J20_getChars_72 at h
  refine g_aload_n hC (pc := 72) 1 rfl rfl dJ20_getChars_72 ?_
  refine g_iinc hC (pc := 73) 2 (d := (-1 : Int32)) (v := (x5 + (-1 : Int32))) (lv' := [(5, vI (x5 + (-1 : Int32))), (0, vI x0), (2, vQ o2), (6, vI x6)]) rfl (by decide) rfl (by decide) rfl dJ20_getChars_73 ?_
  refine g_iload hC (pc := 76) 0 rfl dJ20_getChars_76 ?_
  refine g_stat hC (pc := 78) (List.mem_of_getElem? (i := 3) rfl) q581 (fun _ _ h => h) dJ20_getChars_78 ?_
  refine g_iload_n hC (pc := 81) 1 rfl rfl dJ20_getChars_81 ?_
  refine g_ineg hC (pc := 82) dJ20_getChars_82 ?_
  refine g_aldB hC (pc := 83) h dJ20_getChars_83 (fun i1 h => ?_)
  rcases o2 with _ | c2
  · exact (gNN0 h).elim
  replace h := gNN1 h
  refine g_astB hC (pc := 84) h dJ20_getChars_84 (fun G3 h => ?_)
  refine g_iload_n hC (pc := 85) 1 rfl rfl dJ20_getChars_85 ?_
  refine g_bipush hC (pc := 86) (v := (-9 : Int32)) (by decide) dJ20_getChars_86 ?_
  refine g_icmp_ge hC (pc := 88) 104 h (by decide) dJ20_getChars_88 (fun h => ?_) (fun h => ?_)
  · exact g_sub [2, 0, 3] rfl (w_J20_getChars_104 hC hK hX h)
  · refine g_aload_n hC (pc := 91) 2 rfl rfl dJ20_getChars_91 ?_
    refine g_iinc hC (pc := 92) 0 (d := (-1 : Int32)) (v := ((x5 + (-1 : Int32)) + (-1 : Int32))) (lv' := [(5, vI ((x5 + (-1 : Int32)) + (-1 : Int32))), (0, vI x0), (2, vQ (some c2)), (6, vI x6)]) rfl (by decide) rfl (by decide) rfl dJ20_getChars_92 ?_
    refine g_iload hC (pc := 95) 0 rfl dJ20_getChars_95 ?_
    refine g_stat hC (pc := 97) (List.mem_of_getElem? (i := 4) rfl) q583 (fun _ _ h => h) dJ20_getChars_97 ?_
    refine g_iload_n hC (pc := 100) 1 rfl rfl dJ20_getChars_100 ?_
    refine g_ineg hC (pc := 101) dJ20_getChars_101 ?_
    refine g_aldB hC (pc := 102) h dJ20_getChars_102 (fun i4 h => ?_)
    refine g_astB hC (pc := 103) h dJ20_getChars_103 (fun G5 h => ?_)
    exact g_sub [2, 0, 3] rfl (w_J20_getChars_104 hC hK hX h)
def wp_J20_getChars_22 (ad : Nat → Nat) (X : Nat → gS → Prop) (K : Int32 → gS → Prop) (J22 : gS → Int32 → Option Nat → Int32 → Int32 → Prop) (G : gS) (x0 : Int32) (o2 : Option Nat) (x5 : Int32) (x6 : Int32) : Prop :=
  ((-100 : Int32) < x0 → wp_J20_getChars_72 ad X K G x0 o2 x5 x6) ∧ (¬ (-100 : Int32) < x0 → wAldB G (ad 3) (((x0 / (100 : Int32)) * (100 : Int32)) - x0) fun i1 => wNN o2 fun c2 => wAstB G c2 (x5 + (-1 : Int32)) i1 fun G3 => wAldB G3 (ad 4) (((x0 / (100 : Int32)) * (100 : Int32)) - x0) fun i4 => wAstB G3 c2 ((x5 + (-1 : Int32)) + (-1 : Int32)) i4 fun G5 => J22 G5 (x0 / (100 : Int32)) (some c2) ((x5 + (-1 : Int32)) + (-1 : Int32)) x6)
theorem w_J20_getChars_22 {C : gCx} (hC : gOk C "java/lang/Integer" cJ20_getChars [] (some .int) "getChars" 7 0 0) {K : Int32 → gS → Prop} {X : Nat → gS → Prop} (hK : ∀ r G, K r G → cxK C (some (vI r)) G) (hX : ∀ q G, X q G → cxX C q G) (n : Nat) : ∀ (G : gS) (x0 : Int32) (o2 : Option Nat) (x5 : Int32) (x6 : Int32), gLoop (fun _ _ _ _ _ => False) (wp_J20_getChars_22 (cxA C) X K) n G x0 o2 x5 x6 → gGo C G 22 [(0, vI x0), (2, vQ o2), (5, vI x5), (6, vI x6)] [] := by
  induction n with
  | zero => intro G x0 o2 x5 x6 h; exact h.elim
  | succ n ih =>
    intro G x0 o2 x5 x6 h
    have hJ22 := ih
    replace h : wp_J20_getChars_22 (cxA C) X K _ G x0 o2 x5 x6 := h
    unfold wp_J20_getChars_22 at h
    refine g_iload_n hC (pc := 22) 0 rfl rfl dJ20_getChars_22 ?_
    refine g_bipush hC (pc := 23) (v := (-100 : Int32)) (by decide) dJ20_getChars_23 ?_
    refine g_icmp_gt hC (pc := 25) 72 h (by decide) dJ20_getChars_25 (fun h => ?_) (fun h => ?_)
    · exact g_sub [0, 1, 2, 3] rfl (w_J20_getChars_72 hC hK hX h)
    · refine g_iload_n hC (pc := 28) 0 rfl rfl dJ20_getChars_28 ?_
      refine g_bipush hC (pc := 29) (v := (100 : Int32)) (by decide) dJ20_getChars_29 ?_
      refine g_idiv hC (pc := 31) (by decide) dJ20_getChars_31 ?_
      refine g_istore_n hC (pc := 32) (lv' := [(3, vI (x0 / (100 : Int32))), (0, vI x0), (2, vQ o2), (5, vI x5), (6, vI x6)]) rfl (by decide) rfl dJ20_getChars_32 ?_
      refine g_iload_n hC (pc := 33) 0 rfl rfl dJ20_getChars_33 ?_
      refine g_bipush hC (pc := 34) (v := (100 : Int32)) (by decide) dJ20_getChars_34 ?_
      refine g_imul hC (pc := 36) dJ20_getChars_36 ?_
      refine g_iload_n hC (pc := 37) 1 rfl rfl dJ20_getChars_37 ?_
      refine g_isub hC (pc := 38) dJ20_getChars_38 ?_
      refine g_istore hC (pc := 39) (lv' := [(4, vI (((x0 / (100 : Int32)) * (100 : Int32)) - x0)), (3, vI (x0 / (100 : Int32))), (0, vI x0), (2, vQ o2), (5, vI x5), (6, vI x6)]) (by decide) rfl dJ20_getChars_39 ?_
      refine g_iload_n hC (pc := 41) 1 rfl rfl dJ20_getChars_41 ?_
      refine g_istore_n hC (pc := 42) (lv' := [(0, vI (x0 / (100 : Int32))), (4, vI (((x0 / (100 : Int32)) * (100 : Int32)) - x0)), (3, vI (x0 / (100 : Int32))), (2, vQ o2), (5, vI x5), (6, vI x6)]) rfl (by decide) rfl dJ20_getChars_42 ?_
      refine g_aload_n hC (pc := 43) 3 rfl rfl dJ20_getChars_43 ?_
      refine g_iinc hC (pc := 44) 4 (d := (-1 : Int32)) (v := (x5 + (-1 : Int32))) (lv' := [(5, vI (x5 + (-1 : Int32))), (0, vI (x0 / (100 : Int32))), (4, vI (((x0 / (100 : Int32)) * (100 : Int32)) - x0)), (3, vI (x0 / (100 : Int32))), (2, vQ o2), (6, vI x6)]) rfl (by decide) rfl (by decide) rfl dJ20_getChars_44 ?_
      refine g_iload hC (pc := 47) 0 rfl dJ20_getChars_47 ?_
      refine g_stat hC (pc := 49) (List.mem_of_getElem? (i := 3) rfl) q581 (fun _ _ h => h) dJ20_getChars_49 ?_
      refine g_iload hC (pc := 52) 2 rfl dJ20_getChars_52 ?_
      refine g_aldB hC (pc := 54) h dJ20_getChars_54 (fun i1 h => ?_)
      rcases o2 with _ | c2
      · exact (gNN0 h).elim
      replace h := gNN1 h
      refine g_astB hC (pc := 55) h dJ20_getChars_55 (fun G3 h => ?_)
      refine g_aload_n hC (pc := 56) 4 rfl rfl dJ20_getChars_56 ?_
      refine g_iinc hC (pc := 57) 0 (d := (-1 : Int32)) (v := ((x5 + (-1 : Int32)) + (-1 : Int32))) (lv' := [(5, vI ((x5 + (-1 : Int32)) + (-1 : Int32))), (0, vI (x0 / (100 : Int32))), (4, vI (((x0 / (100 : Int32)) * (100 : Int32)) - x0)), (3, vI (x0 / (100 : Int32))), (2, vQ (some c2)), (6, vI x6)]) rfl (by decide) rfl (by decide) rfl dJ20_getChars_57 ?_
      refine g_iload hC (pc := 60) 0 rfl dJ20_getChars_60 ?_
      refine g_stat hC (pc := 62) (List.mem_of_getElem? (i := 4) rfl) q583 (fun _ _ h => h) dJ20_getChars_62 ?_
      refine g_iload hC (pc := 65) 2 rfl dJ20_getChars_65 ?_
      refine g_aldB hC (pc := 67) h dJ20_getChars_67 (fun i4 h => ?_)
      refine g_astB hC (pc := 68) h dJ20_getChars_68 (fun G5 h => ?_)
      refine g_goto hC (pc := 69) 22 (by decide) dJ20_getChars_69 ?_
      exact g_sub [1, 4, 0, 5] rfl (hJ22 _ _ _ _ _ h)
def wp_J20_getChars_12 (ad : Nat → Nat) (X : Nat → gS → Prop) (K : Int32 → gS → Prop) (G : gS) (x0 : Int32) (o2 : Option Nat) (x5 : Int32) (xs0 : Int32) : Prop :=
  (¬ xs0 = (0 : Int32) → gLoop (fun _ _ _ _ _ => False) (wp_J20_getChars_22 ad X K) gFuel G x0 o2 x5 xs0) ∧ (xs0 = (0 : Int32) → gLoop (fun _ _ _ _ _ => False) (wp_J20_getChars_22 ad X K) gFuel G (-x0) o2 x5 xs0)
theorem w_J20_getChars_12 {C : gCx} (hC : gOk C "java/lang/Integer" cJ20_getChars [] (some .int) "getChars" 7 0 0) {K : Int32 → gS → Prop} {X : Nat → gS → Prop} (hK : ∀ r G, K r G → cxK C (some (vI r)) G) (hX : ∀ q G, X q G → cxX C q G) {G : gS} {x0 : Int32} {o2 : Option Nat} {x5 : Int32} {xs0 : Int32} (h : wp_J20_getChars_12 (cxA C) X K G x0 o2 x5 xs0) : gGo C G 12 [(0, vI x0), (2, vQ o2), (5, vI x5)] [vI xs0] := by
  unfold wp_J20_getChars_12 at h
  refine g_istore hC (pc := 12) (lv' := [(6, vI xs0), (0, vI x0), (2, vQ o2), (5, vI x5)]) (by decide) rfl dJ20_getChars_12 ?_
  refine g_iload hC (pc := 14) 0 rfl dJ20_getChars_14 ?_
  refine g_if_ne hC (pc := 16) 22 h (by decide) dJ20_getChars_16 (fun h => ?_) (fun h => ?_)
  · exact g_sub [1, 2, 3, 0] rfl (w_J20_getChars_22 hC hK hX gFuel _ _ _ _ _ h)
  · refine g_iload_n hC (pc := 19) 1 rfl rfl dJ20_getChars_19 ?_
    refine g_ineg hC (pc := 20) dJ20_getChars_20 ?_
    refine g_istore_n hC (pc := 21) (lv' := [(0, vI (-x0)), (6, vI xs0), (2, vQ o2), (5, vI x5)]) rfl (by decide) rfl dJ20_getChars_21 ?_
    exact g_sub [0, 2, 3, 1] rfl (w_J20_getChars_22 hC hK hX gFuel _ _ _ _ _ h)
def wp_J20_getChars (ad : Nat → Nat) (G : gS) (x0 : Int32) (x1 : Int32) (o2 : Option Nat) (X : Nat → gS → Prop) (K : Int32 → gS → Prop) : Prop :=
  ((0 : Int32) ≤ x0 → wp_J20_getChars_12 ad X K G x0 o2 x1 (0 : Int32)) ∧ (¬ (0 : Int32) ≤ x0 → wp_J20_getChars_12 ad X K G x0 o2 x1 (1 : Int32))
theorem w_J20_getChars {C : gCx} (hC : gOk C "java/lang/Integer" cJ20_getChars [] (some .int) "getChars" 7 0 0) {K : Int32 → gS → Prop} {X : Nat → gS → Prop} (hK : ∀ r G, K r G → cxK C (some (vI r)) G) (hX : ∀ q G, X q G → cxX C q G) {G : gS} {x0 : Int32} {x1 : Int32} {o2 : Option Nat} (h : wp_J20_getChars (cxA C) G x0 x1 o2 X K) : gGo C G 0 [(0, vI x0), (1, vI x1), (2, vQ o2)] [] := by
  unfold wp_J20_getChars at h
  refine g_iload_n hC (pc := 0) 1 rfl rfl dJ20_getChars_0 ?_
  refine g_istore hC (pc := 1) (lv' := [(5, vI x1), (0, vI x0), (1, vI x1), (2, vQ o2)]) (by decide) rfl dJ20_getChars_1 ?_
  refine g_iload_n hC (pc := 3) 1 rfl rfl dJ20_getChars_3 ?_
  refine g_if_ge hC (pc := 4) 11 h (by decide) dJ20_getChars_4 (fun h => ?_) (fun h => ?_)
  · refine g_iconst hC (pc := 11) (v := (0 : Int32)) (by decide) dJ20_getChars_11 ?_
    exact g_sub [1, 3, 0] rfl (w_J20_getChars_12 hC hK hX h)
  · refine g_iconst hC (pc := 7) (v := (1 : Int32)) (by decide) dJ20_getChars_7 ?_
    refine g_goto hC (pc := 8) 12 (by decide) dJ20_getChars_8 ?_
    exact g_sub [1, 3, 0] rfl (w_J20_getChars_12 hC hK hX h)
theorem gc_J20_getChars : gCode yJ20_getChars cJ20_getChars 7 (some .int) 3 := ⟨q580, q124, ⟨by decide, by decide⟩, rfl⟩
theorem m_J20_getChars {l : Launch} (hfl : l.stackTraces = false) {E : gE} {G : gS} {x0 : Int32} {x1 : Int32} {o2 : Option Nat} {X : Nat → gS → Prop} {K : Int32 → gS → Prop} (h : wp_J20_getChars (gAd E) G x0 x1 o2 X K) : gMet l yJ20_getChars (ws_ yJ20_getChars cJ20_getChars 7 (some .int)) 0 0 [vI x0, vI x1, vQ o2] E G (gRi K) X :=
  g_met hfl (plainFor_of_name (by decide +kernel)) rfl rfl rfl (gle rfl) (fun p e R s m args below meth c hC => w_J20_getChars hC (fun _ _ h => h) (fun _ _ h => h) h)
def wp_J5_append_2_48 (ad : Nat → Nat) (X : Nat → gS → Prop) (K : Option Nat → gS → Prop) (G : gS) (t0 : Nat) (x3 : Int32) : Prop :=
  wPut G t0 6 3 (.int x3) fun G1 => K (some t0) G1
theorem w_J5_append_2_48 {C : gCx} (hC : gOk C "java/lang/AbstractStringBuilder" cJ5_append_2 [] (some (Jvm.ClassFile.FieldType.object "java/lang/AbstractStringBuilder")) "append" 4 4 124) {K : Option Nat → gS → Prop} {X : Nat → gS → Prop} (hK : ∀ r G, K r G → cxK C (some (vQ r)) G) (hX : ∀ q G, X q G → cxX C q G) {G : gS} {t0 : Nat} {x3 : Int32} (h : wp_J5_append_2_48 (cxA C) X K G t0 x3) : gGo C G 48 [(0, vQ (some t0)), (3, vI x3)] [] := by
  unfold wp_J5_append_2_48 at h
  refine g_aload_n hC (pc := 48) 0 rfl rfl dJ5_append_2_48 ?_
  refine g_iload_n hC (pc := 49) 1 rfl rfl dJ5_append_2_49 ?_
  refine g_put hC (pc := 50) in_J6 (ci := 6) rfl 3 (by decide) tyJ6_ok nmJ6 q280 (Or.inl rfl) rfl rfl rfl h dJ5_append_2_50 (fun G1 h => ?_)
  refine g_aload_n hC (pc := 53) 0 rfl rfl dJ5_append_2_53 ?_
  exact g_aret hC (pc := 54) (Or.inl ⟨_, rfl⟩) (hK _ _ h) dJ5_append_2_54
def wp_J5_append_2 (ad : Nat → Nat) (G : gS) (t0 : Nat) (x1 : Int32) (X : Nat → gS → Prop) (K : Option Nat → gS → Prop) : Prop :=
  wGetI G t0 6 3 fun i1 => wp_J20_stringSize ad G x1 X (fun r3 G2 => (gIs G2 t0 6 ∧ wp_J5_ensureCapacityInternal ad G2 t0 (i1 + r3) X (fun G4 => (gIs G4 t0 6 ∧ wp_J5_isLatin1 ad G4 t0  X (fun r6 G5 => (r6 = (0 : Int32) → wGetQ G5 t0 6 0 fun q7 => False) ∧ (¬ r6 = (0 : Int32) → wGetQ G5 t0 6 0 fun q8 => wp_J20_getChars ad G5 x1 (i1 + r3) q8 X (fun r10 G9 => wp_J5_append_2_48 ad X K G9 t0 (i1 + r3))))))))
theorem w_J5_append_2 {C : gCx} (hC : gOk C "java/lang/AbstractStringBuilder" cJ5_append_2 [] (some (Jvm.ClassFile.FieldType.object "java/lang/AbstractStringBuilder")) "append" 4 4 124) {K : Option Nat → gS → Prop} {X : Nat → gS → Prop} (hK : ∀ r G, K r G → cxK C (some (vQ r)) G) (hX : ∀ q G, X q G → cxX C q G) {G : gS} {t0 : Nat} {x1 : Int32} (h : wp_J5_append_2 (cxA C) G t0 x1 X K) : gGo C G 0 [(0, vQ (some t0)), (1, vI x1)] [] := by
  unfold wp_J5_append_2 at h
  refine g_aload_n hC (pc := 0) 0 rfl rfl dJ5_append_2_0 ?_
  refine g_getI hC (pc := 1) in_J6 (ci := 6) rfl 3 (by decide) q280 (Or.inl rfl) h dJ5_append_2_1 (fun i1 h => ?_)
  refine g_istore_n hC (pc := 4) (lv' := [(2, vI i1), (0, vQ (some t0)), (1, vI x1)]) rfl (by decide) rfl dJ5_append_2_4 ?_
  refine g_iload_n hC (pc := 5) 0 rfl rfl dJ5_append_2_5 ?_
  refine g_iload_n hC (pc := 6) 2 rfl rfl dJ5_append_2_6 ?_
  refine g_callS hC (pc := 7) (b := 0) (As := [vI x1]) gc_J20_stringSize (m_J20_stringSize hC.fl h) q575 q576 (gle rfl) (gle rfl) rfl (gle rfl) rfl dJ5_append_2_7 (gk_i fun r3 G2 h => ?_) (fun _ _ h hio => g_out0 hC (hX _ _ h) hio)
  refine g_iadd hC (pc := 10) dJ5_append_2_10 ?_
  refine g_istore_n hC (pc := 11) (lv' := [(3, vI (i1 + r3)), (2, vI i1), (0, vQ (some t0)), (1, vI x1)]) rfl (by decide) rfl dJ5_append_2_11 ?_
  refine g_aload_n hC (pc := 12) 2 rfl rfl dJ5_append_2_12 ?_
  refine g_iload_n hC (pc := 13) 0 rfl rfl dJ5_append_2_13 ?_
  obtain ⟨hi, h⟩ := h
  refine g_callP hC (pc := 14) (ci := 6) (As := [vI (i1 + r3)]) gc_J5_ensureCapacityInternal (m_J5_ensureCapacityInternal hC.fl h) rfl hi q459 q2992 (List.mem_of_getElem? (i := 1) rfl) q461 (gle rfl) (gle rfl) rfl (gle rfl) rfl dJ5_append_2_14 (gk_v fun G4 h => ?_) (fun _ _ h hio => g_out0 hC (hX _ _ h) hio)
  refine g_aload_n hC (pc := 17) 2 rfl rfl dJ5_append_2_17 ?_
  obtain ⟨hi, h⟩ := h
  refine g_callV hC (pc := 18) (ci := 6) (As := []) gc_J5_isLatin1 (m_J5_isLatin1 hC.fl h) rfl hi q494 q495 q497 (gle rfl) (gle rfl) rfl (gle rfl) rfl dJ5_append_2_18 (gk_i fun r6 G5 h => ?_) (fun _ _ h hio => g_out0 hC (hX _ _ h) hio)
  refine g_if_eq hC (pc := 21) 37 h (by decide) dJ5_append_2_21 (fun h => ?_) (fun h => ?_)
  · refine g_iload_n hC (pc := 37) 3 rfl rfl dJ5_append_2_37 ?_
    refine g_iload_n hC (pc := 38) 1 rfl rfl dJ5_append_2_38 ?_
    refine g_iload_n hC (pc := 39) 0 rfl rfl dJ5_append_2_39 ?_
    refine g_aload_n hC (pc := 40) 2 rfl rfl dJ5_append_2_40 ?_
    refine g_getQ hC (pc := 41) in_J6 (ci := 6) rfl 0 (by decide) q276 (Or.inl rfl) h dJ5_append_2_41 (fun q7 h => ?_)
    exact h.elim
  · refine g_iload_n hC (pc := 24) 3 rfl rfl dJ5_append_2_24 ?_
    refine g_iload_n hC (pc := 25) 0 rfl rfl dJ5_append_2_25 ?_
    refine g_aload_n hC (pc := 26) 2 rfl rfl dJ5_append_2_26 ?_
    refine g_getQ hC (pc := 27) in_J6 (ci := 6) rfl 0 (by decide) q276 (Or.inl rfl) h dJ5_append_2_27 (fun q8 h => ?_)
    refine g_callS hC (pc := 30) (b := 0) (As := [vI x1, vI (i1 + r3), vQ q8]) gc_J20_getChars (m_J20_getChars hC.fl h) q578 q579 (gle rfl) (gle rfl) rfl (gle rfl) rfl dJ5_append_2_30 (gk_i fun r10 G9 h => ?_) (fun _ _ h hio => g_out0 hC (hX _ _ h) hio)
    refine g_pop hC (pc := 33) rfl dJ5_append_2_33 ?_
    refine g_goto hC (pc := 34) 48 (by decide) dJ5_append_2_34 ?_
    exact g_sub [2, 0] rfl (w_J5_append_2_48 hC hK hX h)
theorem gc_J5_append_2 : gCode yJ5_append_2 cJ5_append_2 4 (some (Jvm.ClassFile.FieldType.object "java/lang/AbstractStringBuilder")) 1 := ⟨q574, q101, ⟨by decide, by decide⟩, rfl⟩
theorem m_J5_append_2 {l : Launch} (hfl : l.stackTraces = false) {E : gE} {G : gS} {t0 : Nat} {x1 : Int32} {X : Nat → gS → Prop} {K : Option Nat → gS → Prop} (h : wp_J5_append_2 (gAd E) G t0 x1 X K) : gMet l yJ5_append_2 (ws_ yJ5_append_2 cJ5_append_2 4 (some (Jvm.ClassFile.FieldType.object "java/lang/AbstractStringBuilder"))) 4 124 [vQ (some t0), vI x1] E G (gRq K) X :=
  g_met hfl (plainFor_of_name (by decide +kernel)) rfl rfl rfl (gle rfl) (fun p e R s m args below meth c hC => w_J5_append_2 hC (fun _ _ h => h) (fun _ _ h => h) h)
def wp_J6_append_2 (ad : Nat → Nat) (G : gS) (t0 : Nat) (x1 : Int32) (X : Nat → gS → Prop) (K : Option Nat → gS → Prop) : Prop :=
  (gIs G t0 6 ∧ wp_J5_append_2 ad G t0 x1 X (fun q2 G1 => K (some t0) G1))
theorem w_J6_append_2 {C : gCx} (hC : gOk C "java/lang/StringBuilder" cJ6_append_2 [] (some (Jvm.ClassFile.FieldType.object "java/lang/StringBuilder")) "append" 2 5 155) {K : Option Nat → gS → Prop} {X : Nat → gS → Prop} (hK : ∀ r G, K r G → cxK C (some (vQ r)) G) (hX : ∀ q G, X q G → cxX C q G) {G : gS} {t0 : Nat} {x1 : Int32} (h : wp_J6_append_2 (cxA C) G t0 x1 X K) : gGo C G 0 [(0, vQ (some t0)), (1, vI x1)] [] := by
  unfold wp_J6_append_2 at h
  refine g_aload_n hC (pc := 0) 0 rfl rfl dJ6_append_2_0 ?_
  refine g_iload_n hC (pc := 1) 1 rfl rfl dJ6_append_2_1 ?_
  obtain ⟨hi, h⟩ := h
  refine g_callSU hC (pc := 2) (ci := 6) (As := [vI x1]) gc_J5_append_2 (m_J5_append_2 hC.fl h) rfl hi q572 q2997 q289 q573 (by decide) (gle rfl) (gle rfl) rfl (gle rfl) rfl dJ6_append_2_2 (gk_q fun q2 G1 h => ?_) (fun _ _ h hio => g_out0 hC (hX _ _ h) hio)
  refine g_pop hC (pc := 5) rfl dJ6_append_2_5 ?_
  refine g_aload_n hC (pc := 6) 0 rfl rfl dJ6_append_2_6 ?_
  exact g_aret hC (pc := 7) (Or.inl ⟨_, rfl⟩) (hK _ _ h) dJ6_append_2_7
theorem gc_J6_append_2 : gCode yJ6_append_2 cJ6_append_2 2 (some (Jvm.ClassFile.FieldType.object "java/lang/StringBuilder")) 1 := ⟨q571, q102, ⟨by decide, by decide⟩, rfl⟩
theorem m_J6_append_2 {l : Launch} (hfl : l.stackTraces = false) {E : gE} {G : gS} {t0 : Nat} {x1 : Int32} {X : Nat → gS → Prop} {K : Option Nat → gS → Prop} (h : wp_J6_append_2 (gAd E) G t0 x1 X K) : gMet l yJ6_append_2 (ws_ yJ6_append_2 cJ6_append_2 2 (some (Jvm.ClassFile.FieldType.object "java/lang/StringBuilder"))) 5 155 [vQ (some t0), vI x1] E G (gRq K) X :=
  g_met hfl (plainFor_of_name (by decide +kernel)) rfl rfl rfl (gle rfl) (fun p e R s m args below meth c hC => w_J6_append_2 hC (fun _ _ h => h) (fun _ _ h => h) h)
def wp_J5_getValue (ad : Nat → Nat) (G : gS) (t0 : Nat) (X : Nat → gS → Prop) (K : Option Nat → gS → Prop) : Prop :=
  wGetQ G t0 6 0 fun q1 => K q1 G
theorem w_J5_getValue {C : gCx} (hC : gOk C "java/lang/AbstractStringBuilder" cJ5_getValue [] (some (Jvm.ClassFile.FieldType.array Jvm.ClassFile.FieldType.byte)) "getValue" 1 0 0) {K : Option Nat → gS → Prop} {X : Nat → gS → Prop} (hK : ∀ r G, K r G → cxK C (some (vQ r)) G) (hX : ∀ q G, X q G → cxX C q G) {G : gS} {t0 : Nat} (h : wp_J5_getValue (cxA C) G t0 X K) : gGo C G 0 [(0, vQ (some t0))] [] := by
  unfold wp_J5_getValue at h
  refine g_aload_n hC (pc := 0) 0 rfl rfl dJ5_getValue_0 ?_
  refine g_getQ hC (pc := 1) in_J6 (ci := 6) rfl 0 (by decide) q276 (Or.inl rfl) h dJ5_getValue_1 (fun q1 h => ?_)
  exact g_aret hC (pc := 4) (Or.inr ⟨_, rfl⟩) (hK _ _ h) dJ5_getValue_4
theorem gc_J5_getValue : gCode yJ5_getValue cJ5_getValue 1 (some (Jvm.ClassFile.FieldType.array Jvm.ClassFile.FieldType.byte)) 0 := ⟨q611, q101, ⟨by decide, by decide⟩, rfl⟩
theorem m_J5_getValue {l : Launch} (hfl : l.stackTraces = false) {E : gE} {G : gS} {t0 : Nat} {X : Nat → gS → Prop} {K : Option Nat → gS → Prop} (h : wp_J5_getValue (gAd E) G t0 X K) : gMet l yJ5_getValue (ws_ yJ5_getValue cJ5_getValue 1 (some (Jvm.ClassFile.FieldType.array Jvm.ClassFile.FieldType.byte))) 0 0 [vQ (some t0)] E G (gRq K) X :=
  g_met hfl (plainFor_of_name (by decide +kernel)) rfl rfl rfl (gle rfl) (fun p e R s m args below meth c hC => w_J5_getValue hC (fun _ _ h => h) (fun _ _ h => h) h)
def wp_J5_length (ad : Nat → Nat) (G : gS) (t0 : Nat) (X : Nat → gS → Prop) (K : Int32 → gS → Prop) : Prop :=
  wGetI G t0 6 3 fun i1 => K i1 G
theorem w_J5_length {C : gCx} (hC : gOk C "java/lang/AbstractStringBuilder" cJ5_length [] (some .int) "length" 1 0 0) {K : Int32 → gS → Prop} {X : Nat → gS → Prop} (hK : ∀ r G, K r G → cxK C (some (vI r)) G) (hX : ∀ q G, X q G → cxX C q G) {G : gS} {t0 : Nat} (h : wp_J5_length (cxA C) G t0 X K) : gGo C G 0 [(0, vQ (some t0))] [] := by
  unfold wp_J5_length at h
  refine g_aload_n hC (pc := 0) 0 rfl rfl dJ5_length_0 ?_
  refine g_getI hC (pc := 1) in_J6 (ci := 6) rfl 3 (by decide) q280 (Or.inl rfl) h dJ5_length_1 (fun i1 h => ?_)
  exact g_iret hC (pc := 4) (hK _ _ h) dJ5_length_4
theorem gc_J5_length : gCode yJ5_length cJ5_length 1 (some .int) 0 := ⟨q619, q101, ⟨by decide, by decide⟩, rfl⟩
theorem m_J5_length {l : Launch} (hfl : l.stackTraces = false) {E : gE} {G : gS} {t0 : Nat} {X : Nat → gS → Prop} {K : Int32 → gS → Prop} (h : wp_J5_length (gAd E) G t0 X K) : gMet l yJ5_length (ws_ yJ5_length cJ5_length 1 (some .int)) 0 0 [vQ (some t0)] E G (gRi K) X :=
  g_met hfl (plainFor_of_name (by decide +kernel)) rfl rfl rfl (gle rfl) (fun p e R s m args below meth c hC => w_J5_length hC (fun _ _ h => h) (fun _ _ h => h) h)
def wp_J6_length (ad : Nat → Nat) (G : gS) (t0 : Nat) (X : Nat → gS → Prop) (K : Int32 → gS → Prop) : Prop :=
  (gIs G t0 6 ∧ wp_J5_length ad G t0  X (fun r2 G1 => K r2 G1))
theorem w_J6_length {C : gCx} (hC : gOk C "java/lang/StringBuilder" cJ6_length [] (some .int) "length" 1 1 28) {K : Int32 → gS → Prop} {X : Nat → gS → Prop} (hK : ∀ r G, K r G → cxK C (some (vI r)) G) (hX : ∀ q G, X q G → cxX C q G) {G : gS} {t0 : Nat} (h : wp_J6_length (cxA C) G t0 X K) : gGo C G 0 [(0, vQ (some t0))] [] := by
  unfold wp_J6_length at h
  refine g_aload_n hC (pc := 0) 0 rfl rfl dJ6_length_0 ?_
  obtain ⟨hi, h⟩ := h
  refine g_callSU hC (pc := 1) (ci := 6) (As := []) gc_J5_length (m_J5_length hC.fl h) rfl hi q618 q614 q289 q613 (by decide) (gle rfl) (gle rfl) rfl (gle rfl) rfl dJ6_length_1 (gk_i fun r2 G1 h => ?_) (fun _ _ h hio => g_out0 hC (hX _ _ h) hio)
  exact g_iret hC (pc := 4) (hK _ _ h) dJ6_length_4
theorem gc_J6_length : gCode yJ6_length cJ6_length 1 (some .int) 0 := ⟨q617, q102, ⟨by decide, by decide⟩, rfl⟩
theorem m_J6_length {l : Launch} (hfl : l.stackTraces = false) {E : gE} {G : gS} {t0 : Nat} {X : Nat → gS → Prop} {K : Int32 → gS → Prop} (h : wp_J6_length (gAd E) G t0 X K) : gMet l yJ6_length (ws_ yJ6_length cJ6_length 1 (some .int)) 1 28 [vQ (some t0)] E G (gRi K) X :=
  g_met hfl (plainFor_of_name (by decide +kernel)) rfl rfl rfl (gle rfl) (fun p e R s m args below meth c hC => w_J6_length hC (fun _ _ h => h) (fun _ _ h => h) h)
def wp_J13_checkLength (ad : Nat → Nat) (G : gS) (x0 : Int32) (x1 : Int32) (X : Nat → gS → Prop) (K : gS → Prop) : Prop :=
  (x0 ≤ x1 → K G) ∧ (¬ x0 ≤ x1 → wNew G 21 6 [.null, .null, .null, .null, .null, .int 0] fun c2 G1 => wNew G1 6 4 [.null, .int 0, .int 0, .int 0] fun c4 G3 => wp_J6_init ad G3 c4  X (fun G5 => (gIs G5 c4 6 ∧ wp_J6_append_2 ad G5 c4 x0 X (fun q7 G6 => wNN q7 fun c8 => (gIs G6 c8 6 ∧ wp_J6_append ad G6 c8 (some (ad 103)) X (fun q10 G9 => wNN q10 fun c11 => (gIs G9 c11 6 ∧ wp_J6_append_2 ad G9 c11 x1 X (fun q13 G12 => False))))))))
theorem w_J13_checkLength {C : gCx} (hC : gOk C "java/util/Arrays" cJ13_checkLength [] none "checkLength" 2 7 213) {K : gS → Prop} {X : Nat → gS → Prop} (hK : ∀ G, K G → cxK C none G) (hX : ∀ q G, X q G → cxX C q G) {G : gS} {x0 : Int32} {x1 : Int32} (h : wp_J13_checkLength (cxA C) G x0 x1 X K) : gGo C G 0 [(0, vI x0), (1, vI x1)] [] := by
  unfold wp_J13_checkLength at h
  refine g_iload_n hC (pc := 0) 1 rfl rfl dJ13_checkLength_0 ?_
  refine g_iload_n hC (pc := 1) 0 rfl rfl dJ13_checkLength_1 ?_
  refine g_icmp_ge hC (pc := 2) 37 h (by decide) dJ13_checkLength_2 (fun h => ?_) (fun h => ?_)
  · exact g_vret hC (pc := 37) (hK _ h) dJ13_checkLength_37
  · refine g_new hC (pc := 5) in_J21 (ci := 21) rfl (by decide) tyJ21_ok q630 q631 q125 gdf_J21 h dJ13_checkLength_5 (fun c2 G1 h => ?_)
    refine g_dup hC (pc := 8) rfl dJ13_checkLength_8 ?_
    refine g_new hC (pc := 9) in_J6 (ci := 6) rfl (by decide) tyJ6_ok q639 q259 q102 gdf_J6 h dJ13_checkLength_9 (fun c4 G3 h => ?_)
    refine g_dup hC (pc := 12) rfl dJ13_checkLength_12 ?_
    refine g_callI hC (pc := 13) (As := []) gc_J6_init (m_J6_init hC.fl h) rfl q640 q261 (gle rfl) (gle rfl) rfl (gle rfl) rfl dJ13_checkLength_13 (gk_v fun G5 h => ?_) (fun _ _ h hio => g_out0 hC (hX _ _ h) hio)
    refine g_iload_n hC (pc := 16) 0 rfl rfl dJ13_checkLength_16 ?_
    obtain ⟨hi, h⟩ := h
    refine g_callV hC (pc := 17) (ci := 6) (As := [vI x0]) gc_J6_append_2 (m_J6_append_2 hC.fl h) rfl hi q641 q569 q570 (gle rfl) (gle rfl) rfl (gle rfl) rfl dJ13_checkLength_17 (gk_q fun q7 G6 h => ?_) (fun _ _ h hio => g_out0 hC (hX _ _ h) hio)
    refine g_ldcSW hC (pc := 20) (List.mem_of_getElem? (i := 3) rfl) dJ13_checkLength_20 ?_
    rcases q7 with _ | c8
    · exact (gNN0 h).elim
    replace h := gNN1 h
    obtain ⟨hi, h⟩ := h
    refine g_callV hC (pc := 23) (ci := 6) (As := [vQ (some (cxA C 103))]) gc_J6_append (m_J6_append hC.fl h) rfl hi q643 q449 q450 (gle rfl) (gle rfl) rfl (gle rfl) rfl dJ13_checkLength_23 (gk_q fun q10 G9 h => ?_) (fun _ _ h hio => g_out0 hC (hX _ _ h) hio)
    refine g_iload_n hC (pc := 26) 1 rfl rfl dJ13_checkLength_26 ?_
    rcases q10 with _ | c11
    · exact (gNN0 h).elim
    replace h := gNN1 h
    obtain ⟨hi, h⟩ := h
    refine g_callV hC (pc := 27) (ci := 6) (As := [vI x1]) gc_J6_append_2 (m_J6_append_2 hC.fl h) rfl hi q641 q569 q570 (gle rfl) (gle rfl) rfl (gle rfl) rfl dJ13_checkLength_27 (gk_q fun q13 G12 h => ?_) (fun _ _ h hio => g_out0 hC (hX _ _ h) hio)
    exact h.elim
theorem gc_J13_checkLength : gCode yJ13_checkLength cJ13_checkLength 2 none 2 := ⟨q629, q115, ⟨by decide, by decide⟩, rfl⟩
theorem m_J13_checkLength {l : Launch} (hfl : l.stackTraces = false) {E : gE} {G : gS} {x0 : Int32} {x1 : Int32} {X : Nat → gS → Prop} {K : gS → Prop} (h : wp_J13_checkLength (gAd E) G x0 x1 X K) : gMet l yJ13_checkLength (ws_ yJ13_checkLength cJ13_checkLength 2 none) 7 213 [vI x0, vI x1] E G (gRv K) X :=
  g_met hfl (plainFor_of_name (by decide +kernel)) rfl rfl rfl (gle rfl) (fun p e R s m args below meth c hC => w_J13_checkLength hC (fun _ h => h) (fun _ _ h => h) h)
def wp_J13_copyOfRangeByte (ad : Nat → Nat) (G : gS) (o0 : Option Nat) (x1 : Int32) (x2 : Int32) (X : Nat → gS → Prop) (K : Option Nat → gS → Prop) : Prop :=
  wp_J13_checkLength ad G x1 x2 X (fun G1 => wNewB G1 (x2 - x1) fun c3 G2 => wNN o0 fun c4 => wLen G2 c4 fun i5 => wCopyB G2 c4 x1 c3 (0 : Int32) (if (x2 - x1) < (i5 - x1) then (x2 - x1) else (i5 - x1)) fun G6 => K (some c3) G6)
theorem w_J13_copyOfRangeByte {C : gCx} (hC : gOk C "java/util/Arrays" cJ13_copyOfRangeByte [] (some (Jvm.ClassFile.FieldType.array Jvm.ClassFile.FieldType.byte)) "copyOfRangeByte" 5 8 242) {K : Option Nat → gS → Prop} {X : Nat → gS → Prop} (hK : ∀ r G, K r G → cxK C (some (vQ r)) G) (hX : ∀ q G, X q G → cxX C q G) {G : gS} {o0 : Option Nat} {x1 : Int32} {x2 : Int32} (h : wp_J13_copyOfRangeByte (cxA C) G o0 x1 x2 X K) : gGo C G 0 [(0, vQ o0), (1, vI x1), (2, vI x2)] [] := by
  unfold wp_J13_copyOfRangeByte at h
  refine g_iload_n hC (pc := 0) 1 rfl rfl dJ13_copyOfRangeByte_0 ?_
  refine g_iload_n hC (pc := 1) 2 rfl rfl dJ13_copyOfRangeByte_1 ?_
  refine g_callS hC (pc := 2) (b := 0) (As := [vI x1, vI x2]) gc_J13_checkLength (m_J13_checkLength hC.fl h) q627 q628 (gle rfl) (gle rfl) rfl (gle rfl) rfl dJ13_copyOfRangeByte_2 (gk_v fun G1 h => ?_) (fun _ _ h hio => g_out0 hC (hX _ _ h) hio)
  refine g_iload_n hC (pc := 5) 2 rfl rfl dJ13_copyOfRangeByte_5 ?_
  refine g_iload_n hC (pc := 6) 1 rfl rfl dJ13_copyOfRangeByte_6 ?_
  refine g_isub hC (pc := 7) dJ13_copyOfRangeByte_7 ?_
  refine g_istore_n hC (pc := 8) (lv' := [(3, vI (x2 - x1)), (0, vQ o0), (1, vI x1), (2, vI x2)]) rfl (by decide) rfl dJ13_copyOfRangeByte_8 ?_
  refine g_iload_n hC (pc := 9) 0 rfl rfl dJ13_copyOfRangeByte_9 ?_
  refine g_newB hC (pc := 10) q290 h dJ13_copyOfRangeByte_10 (fun c3 G2 h => ?_)
  refine g_astore hC (pc := 12) (lv' := [(4, vQ (some c3)), (3, vI (x2 - x1)), (0, vQ o0), (1, vI x1), (2, vI x2)]) (by decide) rfl dJ13_copyOfRangeByte_12 ?_
  refine g_aload_n hC (pc := 14) 2 rfl rfl dJ13_copyOfRangeByte_14 ?_
  refine g_iload_n hC (pc := 15) 3 rfl rfl dJ13_copyOfRangeByte_15 ?_
  refine g_aload hC (pc := 16) 0 rfl dJ13_copyOfRangeByte_16 ?_
  refine g_iconst hC (pc := 18) (v := (0 : Int32)) (by decide) dJ13_copyOfRangeByte_18 ?_
  refine g_aload_n hC (pc := 19) 2 rfl rfl dJ13_copyOfRangeByte_19 ?_
  rcases o0 with _ | c4
  · exact (gNN0 h).elim
  replace h := gNN1 h
  refine g_len hC (pc := 20) h dJ13_copyOfRangeByte_20 (fun i5 h => ?_)
  refine g_iload_n hC (pc := 21) 3 rfl rfl dJ13_copyOfRangeByte_21 ?_
  refine g_isub hC (pc := 22) dJ13_copyOfRangeByte_22 ?_
  refine g_iload_n hC (pc := 23) 1 rfl rfl dJ13_copyOfRangeByte_23 ?_
  refine g_min hC (pc := 24) q488 q489 q114 q490 (gle rfl) (gle rfl) (gle rfl) dJ13_copyOfRangeByte_24 ?_
  refine g_copyB hC (pc := 27) q491 q493 q492 q116 (gle rfl) (gle rfl) (gle rfl) h dJ13_copyOfRangeByte_27 (fun G6 h => ?_)
  refine g_aload hC (pc := 30) 0 rfl dJ13_copyOfRangeByte_30 ?_
  exact g_aret hC (pc := 32) (Or.inr ⟨_, rfl⟩) (hK _ _ h) dJ13_copyOfRangeByte_32
theorem gc_J13_copyOfRangeByte : gCode yJ13_copyOfRangeByte cJ13_copyOfRangeByte 5 (some (Jvm.ClassFile.FieldType.array Jvm.ClassFile.FieldType.byte)) 3 := ⟨q626, q115, ⟨by decide, by decide⟩, rfl⟩
theorem m_J13_copyOfRangeByte {l : Launch} (hfl : l.stackTraces = false) {E : gE} {G : gS} {o0 : Option Nat} {x1 : Int32} {x2 : Int32} {X : Nat → gS → Prop} {K : Option Nat → gS → Prop} (h : wp_J13_copyOfRangeByte (gAd E) G o0 x1 x2 X K) : gMet l yJ13_copyOfRangeByte (ws_ yJ13_copyOfRangeByte cJ13_copyOfRangeByte 5 (some (Jvm.ClassFile.FieldType.array Jvm.ClassFile.FieldType.byte))) 8 242 [vQ o0, vI x1, vI x2] E G (gRq K) X :=
  g_met hfl (plainFor_of_name (by decide +kernel)) rfl rfl rfl (gle rfl) (fun p e R s m args below meth c hC => w_J13_copyOfRangeByte hC (fun _ _ h => h) (fun _ _ h => h) h)
def wp_J13_copyOfRange_10 (ad : Nat → Nat) (X : Nat → gS → Prop) (K : Option Nat → gS → Prop) (G : gS) (o0 : Option Nat) (x1 : Int32) (x2 : Int32) : Prop :=
  wp_J13_copyOfRangeByte ad G o0 x1 x2 X (fun q2 G1 => K q2 G1)
theorem w_J13_copyOfRange_10 {C : gCx} (hC : gOk C "java/util/Arrays" cJ13_copyOfRange [] (some (Jvm.ClassFile.FieldType.array Jvm.ClassFile.FieldType.byte)) "copyOfRange" 3 9 274) {K : Option Nat → gS → Prop} {X : Nat → gS → Prop} (hK : ∀ r G, K r G → cxK C (some (vQ r)) G) (hX : ∀ q G, X q G → cxX C q G) {G : gS} {o0 : Option Nat} {x1 : Int32} {x2 : Int32} (h : wp_J13_copyOfRange_10 (cxA C) X K G o0 x1 x2) : gGo C G 10 [(0, vQ o0), (1, vI x1), (2, vI x2)] [] := by
  unfold wp_J13_copyOfRange_10 at h
  refine g_aload_n hC (pc := 10) 0 rfl rfl dJ13_copyOfRange_10 ?_
  refine g_iload_n hC (pc := 11) 1 rfl rfl dJ13_copyOfRange_11 ?_
  refine g_iload_n hC (pc := 12) 2 rfl rfl dJ13_copyOfRange_12 ?_
  refine g_callS hC (pc := 13) (b := 0) (As := [vQ o0, vI x1, vI x2]) gc_J13_copyOfRangeByte (m_J13_copyOfRangeByte hC.fl h) q624 q625 (gle rfl) (gle rfl) rfl (gle rfl) rfl dJ13_copyOfRange_13 (gk_q fun q2 G1 h => ?_) (fun _ _ h hio => g_out0 hC (hX _ _ h) hio)
  exact g_aret hC (pc := 16) (Or.inr ⟨_, rfl⟩) (hK _ _ h) dJ13_copyOfRange_16
def wp_J13_copyOfRange (ad : Nat → Nat) (G : gS) (o0 : Option Nat) (x1 : Int32) (x2 : Int32) (X : Nat → gS → Prop) (K : Option Nat → gS → Prop) : Prop :=
  (¬ x1 = (0 : Int32) → wp_J13_copyOfRange_10 ad X K G o0 x1 x2) ∧ (x1 = (0 : Int32) → wNN o0 fun c1 => wLen G c1 fun i2 => (x2 = i2 → wCloneB G c1 fun c3 G4 => wIsB G4 c3 (K (some c3) G4)) ∧ (¬ x2 = i2 → wp_J13_copyOfRange_10 ad X K G (some c1) x1 x2))
theorem w_J13_copyOfRange {C : gCx} (hC : gOk C "java/util/Arrays" cJ13_copyOfRange [] (some (Jvm.ClassFile.FieldType.array Jvm.ClassFile.FieldType.byte)) "copyOfRange" 3 9 274) {K : Option Nat → gS → Prop} {X : Nat → gS → Prop} (hK : ∀ r G, K r G → cxK C (some (vQ r)) G) (hX : ∀ q G, X q G → cxX C q G) {G : gS} {o0 : Option Nat} {x1 : Int32} {x2 : Int32} (h : wp_J13_copyOfRange (cxA C) G o0 x1 x2 X K) : gGo C G 0 [(0, vQ o0), (1, vI x1), (2, vI x2)] [] := by
  unfold wp_J13_copyOfRange at h
  refine g_iload_n hC (pc := 0) 1 rfl rfl dJ13_copyOfRange_0 ?_
  refine g_if_ne hC (pc := 1) 10 h (by decide) dJ13_copyOfRange_1 (fun h => ?_) (fun h => ?_)
  · exact g_sub [0, 1, 2] rfl (w_J13_copyOfRange_10 hC hK hX h)
  · refine g_iload_n hC (pc := 4) 2 rfl rfl dJ13_copyOfRange_4 ?_
    refine g_aload_n hC (pc := 5) 0 rfl rfl dJ13_copyOfRange_5 ?_
    rcases o0 with _ | c1
    · exact (gNN0 h).elim
    replace h := gNN1 h
    refine g_len hC (pc := 6) h dJ13_copyOfRange_6 (fun i2 h => ?_)
    refine g_icmp_eq hC (pc := 7) 17 h (by decide) dJ13_copyOfRange_7 (fun h => ?_) (fun h => ?_)
    · refine g_aload_n hC (pc := 17) 0 rfl rfl dJ13_copyOfRange_17 ?_
      refine g_cloneB hC (pc := 18) q481 q482 q483 q484 q485 (List.mem_of_getElem? (i := 3) rfl) (gle rfl) (gle rfl) (gle rfl) h dJ13_copyOfRange_18 (fun c3 G4 h => ?_)
      refine g_castB hC (pc := 21) q487 h dJ13_copyOfRange_21 (fun h => ?_)
      exact g_aret hC (pc := 24) (Or.inr ⟨_, rfl⟩) (hK _ _ h) dJ13_copyOfRange_24
    · exact g_sub [0, 1, 2] rfl (w_J13_copyOfRange_10 hC hK hX h)
theorem gc_J13_copyOfRange : gCode yJ13_copyOfRange cJ13_copyOfRange 3 (some (Jvm.ClassFile.FieldType.array Jvm.ClassFile.FieldType.byte)) 3 := ⟨q623, q115, ⟨by decide, by decide⟩, rfl⟩
theorem m_J13_copyOfRange {l : Launch} (hfl : l.stackTraces = false) {E : gE} {G : gS} {o0 : Option Nat} {x1 : Int32} {x2 : Int32} {X : Nat → gS → Prop} {K : Option Nat → gS → Prop} (h : wp_J13_copyOfRange (gAd E) G o0 x1 x2 X K) : gMet l yJ13_copyOfRange (ws_ yJ13_copyOfRange cJ13_copyOfRange 3 (some (Jvm.ClassFile.FieldType.array Jvm.ClassFile.FieldType.byte))) 9 274 [vQ o0, vI x1, vI x2] E G (gRq K) X :=
  g_met hfl (plainFor_of_name (by decide +kernel)) rfl rfl rfl (gle rfl) (fun p e R s m args below meth c hC => w_J13_copyOfRange hC (fun _ _ h => h) (fun _ _ h => h) h)
def wp_J7_init_2_79 (ad : Nat → Nat) (X : Nat → gS → Prop) (K : gS → Prop) (G : gS) (t0 : Nat) (o3 : Option Nat) (x4 : Int32) : Prop :=
  wPut G t0 7 1 (.int (1 : Int32)) fun G1 => wp_J13_copyOfRange ad G1 o3 (0 : Int32) (x4 <<< ((1 : Int32) &&& 31)) X (fun q3 G2 => wPut G2 t0 7 0 (va_rf q3) fun G4 => K G4)
theorem w_J7_init_2_79 {C : gCx} (hC : gOk C "java/lang/String" cJ7_init_2 [] none "<init>" 5 10 304) {K : gS → Prop} {X : Nat → gS → Prop} (hK : ∀ G, K G → cxK C none G) (hX : ∀ q G, X q G → cxX C q G) {G : gS} {t0 : Nat} {o3 : Option Nat} {x4 : Int32} (h : wp_J7_init_2_79 (cxA C) X K G t0 o3 x4) : gGo C G 79 [(0, vQ (some t0)), (3, vQ o3), (4, vI x4)] [] := by
  unfold wp_J7_init_2_79 at h
  refine g_aload_n hC (pc := 79) 0 rfl rfl dJ7_init_2_79 ?_
  refine g_iconst hC (pc := 80) (v := (1 : Int32)) (by decide) dJ7_init_2_80 ?_
  refine g_putF hC (pc := 81) in_J7 (ci := 7) rfl 1 (by decide) tyJ7_ok nmJ7 q684 (Or.inl rfl) rfl rfl rfl rfl rfl h dJ7_init_2_81 (fun G1 h => ?_)
  refine g_aload_n hC (pc := 84) 0 rfl rfl dJ7_init_2_84 ?_
  refine g_aload_n hC (pc := 85) 1 rfl rfl dJ7_init_2_85 ?_
  refine g_iconst hC (pc := 86) (v := (0 : Int32)) (by decide) dJ7_init_2_86 ?_
  refine g_iload hC (pc := 87) 2 rfl dJ7_init_2_87 ?_
  refine g_iconst hC (pc := 89) (v := (1 : Int32)) (by decide) dJ7_init_2_89 ?_
  refine g_ishl hC (pc := 90) dJ7_init_2_90 ?_
  refine g_callS hC (pc := 91) (b := 0) (As := [vQ o3, vI (0 : Int32), vI (x4 <<< ((1 : Int32) &&& 31))]) gc_J13_copyOfRange (m_J13_copyOfRange hC.fl h) q621 q622 (gle rfl) (gle rfl) rfl (gle rfl) rfl dJ7_init_2_91 (gk_q fun q3 G2 h => ?_) (fun _ _ h hio => g_out0 hC (hX _ _ h) hio)
  refine g_putF hC (pc := 94) in_J7 (ci := 7) rfl 0 (by decide) tyJ7_ok nmJ7 q683 (Or.inl rfl) rfl rfl rfl (gnarA _ _) (gfitA _ _) h dJ7_init_2_94 (fun G4 h => ?_)
  exact g_vret hC (pc := 97) (hK _ h) dJ7_init_2_97
def wp_J7_init_2 (ad : Nat → Nat) (G : gS) (t0 : Nat) (o1 : Option Nat) (o2 : Option Nat) (X : Nat → gS → Prop) (K : gS → Prop) : Prop :=
  wNN o1 fun c1 => (gIs G c1 6 ∧ wp_J5_getValue ad G c1  X (fun q3 G2 => (gIs G2 c1 6 ∧ wp_J6_length ad G2 c1  X (fun r5 G4 => (gIs G4 c1 6 ∧ wp_J5_isLatin1 ad G4 c1  X (fun r7 G6 => (r7 = (0 : Int32) → wGetI G6 c1 6 2 fun i8 => (i8 = (0 : Int32) → wp_J7_init_2_79 ad X K G6 t0 q3 r5) ∧ (¬ i8 = (0 : Int32) → False)) ∧ (¬ r7 = (0 : Int32) → wPut G6 t0 7 1 (.int (0 : Int32)) fun G9 => wp_J13_copyOfRange ad G9 q3 (0 : Int32) r5 X (fun q11 G10 => wPut G10 t0 7 0 (va_rf q11) fun G12 => K G12))))))))
theorem w_J7_init_2 {C : gCx} (hC : gOk C "java/lang/String" cJ7_init_2 [] none "<init>" 5 10 304) {K : gS → Prop} {X : Nat → gS → Prop} (hK : ∀ G, K G → cxK C none G) (hX : ∀ q G, X q G → cxX C q G) {G : gS} {t0 : Nat} {o1 : Option Nat} {o2 : Option Nat} (h : wp_J7_init_2 (cxA C) G t0 o1 o2 X K) : gGo C G 0 [(0, vQ (some t0)), (1, vQ o1), (2, vQ o2)] [] := by
  unfold wp_J7_init_2 at h
  refine g_aload_n hC (pc := 0) 0 rfl rfl dJ7_init_2_0 ?_
  refine g_objInit hC (pc := 1) q606 q151 q152 (gle rfl) (gle rfl) (gle rfl) dJ7_init_2_1 ?_
  refine g_aload_n hC (pc := 4) 1 rfl rfl dJ7_init_2_4 ?_
  rcases o1 with _ | c1
  · exact (gNN0 h).elim
  replace h := gNN1 h
  obtain ⟨hi, h⟩ := h
  refine g_callV hC (pc := 5) (ci := 6) (As := []) gc_J5_getValue (m_J5_getValue hC.fl h) rfl hi q607 q608 q610 (gle rfl) (gle rfl) rfl (gle rfl) rfl dJ7_init_2_5 (gk_q fun q3 G2 h => ?_) (fun _ _ h hio => g_out0 hC (hX _ _ h) hio)
  refine g_astore_n hC (pc := 8) (lv' := [(3, vQ q3), (0, vQ (some t0)), (1, vQ (some c1)), (2, vQ o2)]) rfl (by decide) rfl dJ7_init_2_8 ?_
  refine g_aload_n hC (pc := 9) 2 rfl rfl dJ7_init_2_9 ?_
  obtain ⟨hi, h⟩ := h
  refine g_callU hC (pc := 10) (ci := 6) (As := []) gc_J6_length (m_J6_length hC.fl h) (x := yJ5_length) (owner := "java/lang/AbstractStringBuilder") rfl hi q612 q614 q613 q619 ⟨by decide, by decide⟩ rfl q615 q616 (gle rfl) (gle rfl) rfl (gle rfl) rfl dJ7_init_2_10 (gk_i fun r5 G4 h => ?_) (fun _ _ h hio => g_out0 hC (hX _ _ h) hio)
  refine g_istore hC (pc := 13) (lv' := [(4, vI r5), (3, vQ q3), (0, vQ (some t0)), (1, vQ (some c1)), (2, vQ o2)]) (by decide) rfl dJ7_init_2_13 ?_
  refine g_aload_n hC (pc := 15) 3 rfl rfl dJ7_init_2_15 ?_
  obtain ⟨hi, h⟩ := h
  refine g_callV hC (pc := 16) (ci := 6) (As := []) gc_J5_isLatin1 (m_J5_isLatin1 hC.fl h) rfl hi q620 q495 q497 (gle rfl) (gle rfl) rfl (gle rfl) rfl dJ7_init_2_16 (gk_i fun r7 G6 h => ?_) (fun _ _ h hio => g_out0 hC (hX _ _ h) hio)
  refine g_if_eq hC (pc := 19) 41 h (by decide) dJ7_init_2_19 (fun h => ?_) (fun h => ?_)
  · refine g_statI hC (pc := 41) (List.mem_of_getElem? (i := 0) rfl) q533 (fun _ _ h => h) dJ7_init_2_41 ?_
    refine g_if_eq hC (pc := 44) 79 (P := False) (Q := True) ⟨fun e => absurd e (by decide), fun _ => trivial⟩ (by decide) dJ7_init_2_44 (fun e => e.elim) (fun _ => ?_)
    refine g_aload_n hC (pc := 47) 3 rfl rfl dJ7_init_2_47 ?_
    refine g_getI hC (pc := 48) in_J6 (ci := 6) rfl 2 (by decide) q279 (Or.inl rfl) h dJ7_init_2_48 (fun i8 h => ?_)
    refine g_if_eq hC (pc := 51) 79 h (by decide) dJ7_init_2_51 (fun h => ?_) (fun h => ?_)
    · exact g_sub [2, 1, 0] rfl (w_J7_init_2_79 hC hK hX h)
    · refine g_aload_n hC (pc := 54) 2 rfl rfl dJ7_init_2_54 ?_
      refine g_aload_n hC (pc := 55) 1 rfl rfl dJ7_init_2_55 ?_
      refine g_iconst hC (pc := 56) (v := (0 : Int32)) (by decide) dJ7_init_2_56 ?_
      refine g_iload hC (pc := 57) 0 rfl dJ7_init_2_57 ?_
      exact h.elim
  · refine g_aload_n hC (pc := 22) 2 rfl rfl dJ7_init_2_22 ?_
    refine g_iconst hC (pc := 23) (v := (0 : Int32)) (by decide) dJ7_init_2_23 ?_
    refine g_putF hC (pc := 24) in_J7 (ci := 7) rfl 1 (by decide) tyJ7_ok nmJ7 q684 (Or.inl rfl) rfl rfl rfl rfl rfl h dJ7_init_2_24 (fun G9 h => ?_)
    refine g_aload_n hC (pc := 27) 2 rfl rfl dJ7_init_2_27 ?_
    refine g_aload_n hC (pc := 28) 1 rfl rfl dJ7_init_2_28 ?_
    refine g_iconst hC (pc := 29) (v := (0 : Int32)) (by decide) dJ7_init_2_29 ?_
    refine g_iload hC (pc := 30) 0 rfl dJ7_init_2_30 ?_
    refine g_callS hC (pc := 32) (b := 0) (As := [vQ q3, vI (0 : Int32), vI r5]) gc_J13_copyOfRange (m_J13_copyOfRange hC.fl h) q621 q622 (gle rfl) (gle rfl) rfl (gle rfl) rfl dJ7_init_2_32 (gk_q fun q11 G10 h => ?_) (fun _ _ h hio => g_out0 hC (hX _ _ h) hio)
    refine g_putF hC (pc := 35) in_J7 (ci := 7) rfl 0 (by decide) tyJ7_ok nmJ7 q683 (Or.inl rfl) rfl rfl rfl (gnarA _ _) (gfitA _ _) h dJ7_init_2_35 (fun G12 h => ?_)
    refine g_goto hC (pc := 38) 97 (by decide) dJ7_init_2_38 ?_
    exact g_vret hC (pc := 97) (hK _ h) dJ7_init_2_97
theorem gc_J7_init_2 : gCode yJ7_init_2 cJ7_init_2 5 none 2 := ⟨q605, q103, ⟨by decide, by decide⟩, rfl⟩
theorem m_J7_init_2 {l : Launch} (hfl : l.stackTraces = false) {E : gE} {G : gS} {t0 : Nat} {o1 : Option Nat} {o2 : Option Nat} {X : Nat → gS → Prop} {K : gS → Prop} (h : wp_J7_init_2 (gAd E) G t0 o1 o2 X K) : gMet l yJ7_init_2 (ws_ yJ7_init_2 cJ7_init_2 5 none) 10 304 [vQ (some t0), vQ o1, vQ o2] E G (gRv K) X :=
  g_met hfl (plainFor_of_name (by decide +kernel)) rfl rfl rfl (gle rfl) (fun p e R s m args below meth c hC => w_J7_init_2 hC (fun _ h => h) (fun _ _ h => h) h)
def wp_J7_init (ad : Nat → Nat) (G : gS) (t0 : Nat) (o1 : Option Nat) (X : Nat → gS → Prop) (K : gS → Prop) : Prop :=
  wp_J7_init_2 ad G t0 o1 none X (fun G1 => K G1)
theorem w_J7_init {C : gCx} (hC : gOk C "java/lang/String" cJ7_init [] none "<init>" 2 11 336) {K : gS → Prop} {X : Nat → gS → Prop} (hK : ∀ G, K G → cxK C none G) (hX : ∀ q G, X q G → cxX C q G) {G : gS} {t0 : Nat} {o1 : Option Nat} (h : wp_J7_init (cxA C) G t0 o1 X K) : gGo C G 0 [(0, vQ (some t0)), (1, vQ o1)] [] := by
  unfold wp_J7_init at h
  refine g_aload_n hC (pc := 0) 0 rfl rfl dJ7_init_0 ?_
  refine g_aload_n hC (pc := 1) 1 rfl rfl dJ7_init_1 ?_
  refine g_null hC (pc := 2) dJ7_init_2 ?_
  refine g_callI hC (pc := 3) (As := [vQ o1, vQ none]) gc_J7_init_2 (m_J7_init_2 hC.fl h) rfl q603 q604 (gle rfl) (gle rfl) rfl (gle rfl) rfl dJ7_init_3 (gk_v fun G1 h => ?_) (fun _ _ h hio => g_out0 hC (hX _ _ h) hio)
  exact g_vret hC (pc := 6) (hK _ h) dJ7_init_6
theorem gc_J7_init : gCode yJ7_init cJ7_init 2 none 1 := ⟨q602, q103, ⟨by decide, by decide⟩, rfl⟩
theorem m_J7_init {l : Launch} (hfl : l.stackTraces = false) {E : gE} {G : gS} {t0 : Nat} {o1 : Option Nat} {X : Nat → gS → Prop} {K : gS → Prop} (h : wp_J7_init (gAd E) G t0 o1 X K) : gMet l yJ7_init (ws_ yJ7_init cJ7_init 2 none) 11 336 [vQ (some t0), vQ o1] E G (gRv K) X :=
  g_met hfl (plainFor_of_name (by decide +kernel)) rfl rfl rfl (gle rfl) (fun p e R s m args below meth c hC => w_J7_init hC (fun _ h => h) (fun _ _ h => h) h)
def wp_J6_toString (ad : Nat → Nat) (G : gS) (t0 : Nat) (X : Nat → gS → Prop) (K : Option Nat → gS → Prop) : Prop :=
  wNew G 7 4 [.null, .int 0, .int 0, .int 0] fun c2 G1 => wp_J7_init ad G1 c2 (some t0) X (fun G3 => K (some c2) G3)
theorem w_J6_toString {C : gCx} (hC : gOk C "java/lang/StringBuilder" cJ6_toString [] (some (Jvm.ClassFile.FieldType.object "java/lang/String")) "toString" 1 12 365) {K : Option Nat → gS → Prop} {X : Nat → gS → Prop} (hK : ∀ r G, K r G → cxK C (some (vQ r)) G) (hX : ∀ q G, X q G → cxX C q G) {G : gS} {t0 : Nat} (h : wp_J6_toString (cxA C) G t0 X K) : gGo C G 0 [(0, vQ (some t0))] [] := by
  unfold wp_J6_toString at h
  refine g_new hC (pc := 0) in_J7 (ci := 7) rfl (by decide) tyJ7_ok q598 q599 q103 gdf_J7 h dJ6_toString_0 (fun c2 G1 h => ?_)
  refine g_dup hC (pc := 3) rfl dJ6_toString_3 ?_
  refine g_aload_n hC (pc := 4) 0 rfl rfl dJ6_toString_4 ?_
  refine g_callI hC (pc := 5) (As := [vQ (some t0)]) gc_J7_init (m_J7_init hC.fl h) rfl q600 q601 (gle rfl) (gle rfl) rfl (gle rfl) rfl dJ6_toString_5 (gk_v fun G3 h => ?_) (fun _ _ h hio => g_out0 hC (hX _ _ h) hio)
  exact g_aret hC (pc := 8) (Or.inl ⟨_, rfl⟩) (hK _ _ h) dJ6_toString_8
theorem gc_J6_toString : gCode yJ6_toString cJ6_toString 1 (some (Jvm.ClassFile.FieldType.object "java/lang/String")) 0 := ⟨q597, q102, ⟨by decide, by decide⟩, rfl⟩
theorem m_J6_toString {l : Launch} (hfl : l.stackTraces = false) {E : gE} {G : gS} {t0 : Nat} {X : Nat → gS → Prop} {K : Option Nat → gS → Prop} (h : wp_J6_toString (gAd E) G t0 X K) : gMet l yJ6_toString (ws_ yJ6_toString cJ6_toString 1 (some (Jvm.ClassFile.FieldType.object "java/lang/String"))) 12 365 [vQ (some t0)] E G (gRq K) X :=
  g_met hfl (plainFor_of_name (by decide +kernel)) rfl rfl rfl (gle rfl) (fun p e R s m args below meth c hC => w_J6_toString hC (fun _ _ h => h) (fun _ _ h => h) h)
def wp_J9_init_2_at21 (ad : Nat → Nat) (G : gS) (t0 : Nat) (o1 : Option Nat) (X : Nat → gS → Prop) (K : gS → Prop) : Prop :=
  wPut G t0 21 0 (va_rf (some t0)) fun G1 => wPut G1 t0 21 1 (va_rf (gOp (ad 5))) fun G2 => wPut G2 t0 21 2 (va_rf (gOp (ad 6))) fun G3 => wFill G3 t0 21 1 4 (gOp (ad 5)) (wPut G3 t0 21 3 (va_rf o1) fun G4 => K G4)
theorem w_J9_init_2_at21 {C : gCx} (hC : gOk C "java/lang/Throwable" cJ9_init_2 [] none "<init>" 2 4 100) {K : gS → Prop} {X : Nat → gS → Prop} (hK : ∀ G, K G → cxK C none G) (hX : ∀ q G, X q G → cxX C q G) {G : gS} {t0 : Nat} {o1 : Option Nat} (h : wp_J9_init_2_at21 (cxA C) G t0 o1 X K) : gGo C G 0 [(0, vQ (some t0)), (1, vQ o1)] [] := by
  unfold wp_J9_init_2_at21 at h
  refine g_aload_n hC (pc := 0) 0 rfl rfl dJ9_init_2_0 ?_
  refine g_objInit hC (pc := 1) q417 q151 q152 (gle rfl) (gle rfl) (gle rfl) dJ9_init_2_1 ?_
  refine g_aload_n hC (pc := 4) 0 rfl rfl dJ9_init_2_4 ?_
  refine g_aload_n hC (pc := 5) 0 rfl rfl dJ9_init_2_5 ?_
  refine g_put hC (pc := 6) in_J21 (ci := 21) rfl 0 (by decide) tyJ21_ok nmJ21 q659 (Or.inl rfl) rfl (gnarO _ _) (gfitO _ _) h dJ9_init_2_6 (fun G1 h => ?_)
  refine g_aload_n hC (pc := 9) 0 rfl rfl dJ9_init_2_9 ?_
  refine g_statQ hC (pc := 10) (List.mem_of_getElem? (i := 0) rfl) q418 (fun _ _ h => h) dJ9_init_2_10 ?_
  refine g_put hC (pc := 13) in_J21 (ci := 21) rfl 1 (by decide) tyJ21_ok nmJ21 q660 (Or.inl rfl) rfl (gnarA _ _) (gfitA _ _) h dJ9_init_2_13 (fun G2 h => ?_)
  refine g_aload_n hC (pc := 16) 0 rfl rfl dJ9_init_2_16 ?_
  refine g_statQ hC (pc := 17) (List.mem_of_getElem? (i := 1) rfl) q420 (fun _ _ h => h) dJ9_init_2_17 ?_
  refine g_put hC (pc := 20) in_J21 (ci := 21) rfl 2 (by decide) tyJ21_ok nmJ21 q661 (Or.inl rfl) rfl (gnarO _ _) (gfitO _ _) h dJ9_init_2_20 (fun G3 h => ?_)
  refine g_aload_n hC (pc := 23) 0 rfl rfl dJ9_init_2_23 ?_
  refine g_fill hC (pc := 24) (ci := 21) 1 4 rfl (by decide) (by decide) ⟨rfl, rfl, rfl⟩ ⟨rfl, rfl, rfl⟩ q635 q430 q633 (gle rfl) (gle rfl) (gle rfl) h dJ9_init_2_24 (fun h => ?_)
  refine g_pop hC (pc := 27) rfl dJ9_init_2_27 ?_
  refine g_aload_n hC (pc := 28) 0 rfl rfl dJ9_init_2_28 ?_
  refine g_aload_n hC (pc := 29) 1 rfl rfl dJ9_init_2_29 ?_
  refine g_put hC (pc := 30) in_J21 (ci := 21) rfl 3 (by decide) tyJ21_ok nmJ21 q658 (Or.inl rfl) rfl (gnarO _ _) (gfitO _ _) h dJ9_init_2_30 (fun G4 h => ?_)
  exact g_vret hC (pc := 33) (hK _ h) dJ9_init_2_33
theorem gc_J9_init_2 : gCode yJ9_init_2 cJ9_init_2 2 none 1 := ⟨q656, q106, ⟨by decide, by decide⟩, rfl⟩
theorem m_J9_init_2_at21 {l : Launch} (hfl : l.stackTraces = false) {E : gE} {G : gS} {t0 : Nat} {o1 : Option Nat} {X : Nat → gS → Prop} {K : gS → Prop} (h : wp_J9_init_2_at21 (gAd E) G t0 o1 X K) : gMet l yJ9_init_2 (ws_ yJ9_init_2 cJ9_init_2 2 none) 4 100 [vQ (some t0), vQ o1] E G (gRv K) X :=
  g_met hfl (plainFor_of_name (by decide +kernel)) rfl rfl rfl (gle rfl) (fun p e R s m args below meth c hC => w_J9_init_2_at21 hC (fun _ h => h) (fun _ _ h => h) h)
def wp_J10_init_at21 (ad : Nat → Nat) (G : gS) (t0 : Nat) (o1 : Option Nat) (X : Nat → gS → Prop) (K : gS → Prop) : Prop :=
  wp_J9_init_2_at21 ad G t0 o1 X (fun G1 => K G1)
theorem w_J10_init_at21 {C : gCx} (hC : gOk C "java/lang/Exception" cJ10_init [] none "<init>" 2 5 129) {K : gS → Prop} {X : Nat → gS → Prop} (hK : ∀ G, K G → cxK C none G) (hX : ∀ q G, X q G → cxX C q G) {G : gS} {t0 : Nat} {o1 : Option Nat} (h : wp_J10_init_at21 (cxA C) G t0 o1 X K) : gGo C G 0 [(0, vQ (some t0)), (1, vQ o1)] [] := by
  unfold wp_J10_init_at21 at h
  refine g_aload_n hC (pc := 0) 0 rfl rfl dJ10_init_0 ?_
  refine g_aload_n hC (pc := 1) 1 rfl rfl dJ10_init_1 ?_
  refine g_callI hC (pc := 2) (As := [vQ o1]) gc_J9_init_2 (m_J9_init_2_at21 hC.fl h) rfl q654 q655 (gle rfl) (gle rfl) rfl (gle rfl) rfl dJ10_init_2 (gk_v fun G1 h => ?_) (fun _ _ h hio => g_out0 hC (hX _ _ h) hio)
  exact g_vret hC (pc := 5) (hK _ h) dJ10_init_5
theorem gc_J10_init : gCode yJ10_init cJ10_init 2 none 1 := ⟨q653, q107, ⟨by decide, by decide⟩, rfl⟩
theorem m_J10_init_at21 {l : Launch} (hfl : l.stackTraces = false) {E : gE} {G : gS} {t0 : Nat} {o1 : Option Nat} {X : Nat → gS → Prop} {K : gS → Prop} (h : wp_J10_init_at21 (gAd E) G t0 o1 X K) : gMet l yJ10_init (ws_ yJ10_init cJ10_init 2 none) 5 129 [vQ (some t0), vQ o1] E G (gRv K) X :=
  g_met hfl (plainFor_of_name (by decide +kernel)) rfl rfl rfl (gle rfl) (fun p e R s m args below meth c hC => w_J10_init_at21 hC (fun _ h => h) (fun _ _ h => h) h)
def wp_J17_init_at21 (ad : Nat → Nat) (G : gS) (t0 : Nat) (o1 : Option Nat) (X : Nat → gS → Prop) (K : gS → Prop) : Prop :=
  wp_J10_init_at21 ad G t0 o1 X (fun G1 => K G1)
theorem w_J17_init_at21 {C : gCx} (hC : gOk C "java/lang/RuntimeException" cJ17_init [] none "<init>" 2 6 158) {K : gS → Prop} {X : Nat → gS → Prop} (hK : ∀ G, K G → cxK C none G) (hX : ∀ q G, X q G → cxX C q G) {G : gS} {t0 : Nat} {o1 : Option Nat} (h : wp_J17_init_at21 (cxA C) G t0 o1 X K) : gGo C G 0 [(0, vQ (some t0)), (1, vQ o1)] [] := by
  unfold wp_J17_init_at21 at h
  refine g_aload_n hC (pc := 0) 0 rfl rfl dJ17_init_0 ?_
  refine g_aload_n hC (pc := 1) 1 rfl rfl dJ17_init_1 ?_
  refine g_callI hC (pc := 2) (As := [vQ o1]) gc_J10_init (m_J10_init_at21 hC.fl h) rfl q651 q652 (gle rfl) (gle rfl) rfl (gle rfl) rfl dJ17_init_2 (gk_v fun G1 h => ?_) (fun _ _ h hio => g_out0 hC (hX _ _ h) hio)
  exact g_vret hC (pc := 5) (hK _ h) dJ17_init_5
theorem gc_J17_init : gCode yJ17_init cJ17_init 2 none 1 := ⟨q650, q120, ⟨by decide, by decide⟩, rfl⟩
theorem m_J17_init_at21 {l : Launch} (hfl : l.stackTraces = false) {E : gE} {G : gS} {t0 : Nat} {o1 : Option Nat} {X : Nat → gS → Prop} {K : gS → Prop} (h : wp_J17_init_at21 (gAd E) G t0 o1 X K) : gMet l yJ17_init (ws_ yJ17_init cJ17_init 2 none) 6 158 [vQ (some t0), vQ o1] E G (gRv K) X :=
  g_met hfl (plainFor_of_name (by decide +kernel)) rfl rfl rfl (gle rfl) (fun p e R s m args below meth c hC => w_J17_init_at21 hC (fun _ h => h) (fun _ _ h => h) h)
def wp_J21_init (ad : Nat → Nat) (G : gS) (t0 : Nat) (o1 : Option Nat) (X : Nat → gS → Prop) (K : gS → Prop) : Prop :=
  wp_J17_init_at21 ad G t0 o1 X (fun G1 => K G1)
theorem w_J21_init {C : gCx} (hC : gOk C "java/lang/IllegalArgumentException" cJ21_init [] none "<init>" 2 7 187) {K : gS → Prop} {X : Nat → gS → Prop} (hK : ∀ G, K G → cxK C none G) (hX : ∀ q G, X q G → cxX C q G) {G : gS} {t0 : Nat} {o1 : Option Nat} (h : wp_J21_init (cxA C) G t0 o1 X K) : gGo C G 0 [(0, vQ (some t0)), (1, vQ o1)] [] := by
  unfold wp_J21_init at h
  refine g_aload_n hC (pc := 0) 0 rfl rfl dJ21_init_0 ?_
  refine g_aload_n hC (pc := 1) 1 rfl rfl dJ21_init_1 ?_
  refine g_callI hC (pc := 2) (As := [vQ o1]) gc_J17_init (m_J17_init_at21 hC.fl h) rfl q648 q649 (gle rfl) (gle rfl) rfl (gle rfl) rfl dJ21_init_2 (gk_v fun G1 h => ?_) (fun _ _ h hio => g_out0 hC (hX _ _ h) hio)
  exact g_vret hC (pc := 5) (hK _ h) dJ21_init_5
theorem gc_J21_init : gCode yJ21_init cJ21_init 2 none 1 := ⟨q647, q125, ⟨by decide, by decide⟩, rfl⟩
theorem m_J21_init {l : Launch} (hfl : l.stackTraces = false) {E : gE} {G : gS} {t0 : Nat} {o1 : Option Nat} {X : Nat → gS → Prop} {K : gS → Prop} (h : wp_J21_init (gAd E) G t0 o1 X K) : gMet l yJ21_init (ws_ yJ21_init cJ21_init 2 none) 7 187 [vQ (some t0), vQ o1] E G (gRv K) X :=
  g_met hfl (plainFor_of_name (by decide +kernel)) rfl rfl rfl (gle rfl) (fun p e R s m args below meth c hC => w_J21_init hC (fun _ h => h) (fun _ _ h => h) h)
def wp_J11_hashCode_2_8 (ad : Nat → Nat) (X : Nat → gS → Prop) (K : Int32 → gS → Prop) (J8 : gS → Int32 → Option Nat → Int32 → Int32 → Prop) (G : gS) (x0 : Int32) (o1 : Option Nat) (x4 : Int32) (x5 : Int32) : Prop :=
  (x4 ≤ x5 → K x0 G) ∧ (¬ x4 ≤ x5 → wNN o1 fun c1 => wAldB G c1 x5 fun i2 => J8 G (((31 : Int32) * x0) + i2) (some c1) x4 (x5 + (1 : Int32)))
theorem w_J11_hashCode_2_8 {C : gCx} (hC : gOk C "jdk/internal/util/ArraysSupport" cJ11_hashCode_2 [] (some .int) "hashCode" 6 0 0) {K : Int32 → gS → Prop} {X : Nat → gS → Prop} (hK : ∀ r G, K r G → cxK C (some (vI r)) G) (hX : ∀ q G, X q G → cxX C q G) (n : Nat) : ∀ (G : gS) (x0 : Int32) (o1 : Option Nat) (x4 : Int32) (x5 : Int32), gLoop (fun _ _ _ _ _ => False) (wp_J11_hashCode_2_8 (cxA C) X K) n G x0 o1 x4 x5 → gGo C G 8 [(0, vI x0), (1, vQ o1), (4, vI x4), (5, vI x5)] [] := by
  induction n with
  | zero => intro G x0 o1 x4 x5 h; exact h.elim
  | succ n ih =>
    intro G x0 o1 x4 x5 h
    have hJ8 := ih
    replace h : wp_J11_hashCode_2_8 (cxA C) X K _ G x0 o1 x4 x5 := h
    unfold wp_J11_hashCode_2_8 at h
    refine g_iload hC (pc := 8) 3 rfl dJ11_hashCode_2_8 ?_
    refine g_iload hC (pc := 10) 2 rfl dJ11_hashCode_2_10 ?_
    refine g_icmp_ge hC (pc := 12) 31 h (by decide) dJ11_hashCode_2_12 (fun h => ?_) (fun h => ?_)
    · refine g_iload_n hC (pc := 31) 0 rfl rfl dJ11_hashCode_2_31 ?_
      exact g_iret hC (pc := 32) (hK _ _ h) dJ11_hashCode_2_32
    · refine g_bipush hC (pc := 15) (v := (31 : Int32)) (by decide) dJ11_hashCode_2_15 ?_
      refine g_iload_n hC (pc := 17) 0 rfl rfl dJ11_hashCode_2_17 ?_
      refine g_imul hC (pc := 18) dJ11_hashCode_2_18 ?_
      refine g_aload_n hC (pc := 19) 1 rfl rfl dJ11_hashCode_2_19 ?_
      refine g_iload hC (pc := 20) 3 rfl dJ11_hashCode_2_20 ?_
      rcases o1 with _ | c1
      · exact (gNN0 h).elim
      replace h := gNN1 h
      refine g_aldB hC (pc := 22) h dJ11_hashCode_2_22 (fun i2 h => ?_)
      refine g_iadd hC (pc := 23) dJ11_hashCode_2_23 ?_
      refine g_istore_n hC (pc := 24) (lv' := [(0, vI (((31 : Int32) * x0) + i2)), (1, vQ (some c1)), (4, vI x4), (5, vI x5)]) rfl (by decide) rfl dJ11_hashCode_2_24 ?_
      refine g_iinc hC (pc := 25) 3 (d := (1 : Int32)) (v := (x5 + (1 : Int32))) (lv' := [(5, vI (x5 + (1 : Int32))), (0, vI (((31 : Int32) * x0) + i2)), (1, vQ (some c1)), (4, vI x4)]) rfl (by decide) rfl (by decide) rfl dJ11_hashCode_2_25 ?_
      refine g_goto hC (pc := 28) 8 (by decide) dJ11_hashCode_2_28 ?_
      exact g_sub [1, 2, 3, 0] rfl (hJ8 _ _ _ _ _ h)
def wp_J11_hashCode_2 (ad : Nat → Nat) (G : gS) (x0 : Int32) (o1 : Option Nat) (x2 : Int32) (x3 : Int32) (X : Nat → gS → Prop) (K : Int32 → gS → Prop) : Prop :=
  gLoop (fun _ _ _ _ _ => False) (wp_J11_hashCode_2_8 ad X K) gFuel G x0 o1 (x2 + x3) x2
theorem w_J11_hashCode_2 {C : gCx} (hC : gOk C "jdk/internal/util/ArraysSupport" cJ11_hashCode_2 [] (some .int) "hashCode" 6 0 0) {K : Int32 → gS → Prop} {X : Nat → gS → Prop} (hK : ∀ r G, K r G → cxK C (some (vI r)) G) (hX : ∀ q G, X q G → cxX C q G) {G : gS} {x0 : Int32} {o1 : Option Nat} {x2 : Int32} {x3 : Int32} (h : wp_J11_hashCode_2 (cxA C) G x0 o1 x2 x3 X K) : gGo C G 0 [(0, vI x0), (1, vQ o1), (2, vI x2), (3, vI x3)] [] := by
  unfold wp_J11_hashCode_2 at h
  refine g_iload_n hC (pc := 0) 2 rfl rfl dJ11_hashCode_2_0 ?_
  refine g_iload_n hC (pc := 1) 3 rfl rfl dJ11_hashCode_2_1 ?_
  refine g_iadd hC (pc := 2) dJ11_hashCode_2_2 ?_
  refine g_istore hC (pc := 3) (lv' := [(4, vI (x2 + x3)), (0, vI x0), (1, vQ o1), (2, vI x2), (3, vI x3)]) (by decide) rfl dJ11_hashCode_2_3 ?_
  refine g_iload_n hC (pc := 5) 3 rfl rfl dJ11_hashCode_2_5 ?_
  refine g_istore hC (pc := 6) (lv' := [(5, vI x2), (4, vI (x2 + x3)), (0, vI x0), (1, vQ o1), (2, vI x2), (3, vI x3)]) (by decide) rfl dJ11_hashCode_2_6 ?_
  exact g_sub [2, 3, 1, 0] rfl (w_J11_hashCode_2_8 hC hK hX gFuel _ _ _ _ _ h)
theorem gc_J11_hashCode_2 : gCode yJ11_hashCode_2 cJ11_hashCode_2 6 (some .int) 4 := ⟨q1228, q113, ⟨by decide, by decide⟩, rfl⟩
theorem m_J11_hashCode_2 {l : Launch} (hfl : l.stackTraces = false) {E : gE} {G : gS} {x0 : Int32} {o1 : Option Nat} {x2 : Int32} {x3 : Int32} {X : Nat → gS → Prop} {K : Int32 → gS → Prop} (h : wp_J11_hashCode_2 (gAd E) G x0 o1 x2 x3 X K) : gMet l yJ11_hashCode_2 (ws_ yJ11_hashCode_2 cJ11_hashCode_2 6 (some .int)) 0 0 [vI x0, vQ o1, vI x2, vI x3] E G (gRi K) X :=
  g_met hfl (plainFor_of_name (by decide +kernel)) rfl rfl rfl (gle rfl) (fun p e R s m args below meth c hC => w_J11_hashCode_2 hC (fun _ _ h => h) (fun _ _ h => h) h)
def wp_J11_vectorizedHashCode (ad : Nat → Nat) (G : gS) (o0 : Option Nat) (x1 : Int32) (x2 : Int32) (x3 : Int32) (x4 : Int32) (X : Nat → gS → Prop) (K : Int32 → gS → Prop) : Prop :=
  (x4 = (4 : Int32) → wNN o0 fun c1 => wIsB G c1 (wp_J11_signedHashCode ad G x3 (some c1) x1 x2 X (fun r3 G2 => K r3 G2))) ∧ (x4 = (5 : Int32) → False) ∧ (x4 = (6 : Int32) → wNew G 21 6 [.null, .null, .null, .null, .null, .int 0] fun c6 G5 => wNew G5 6 4 [.null, .int 0, .int 0, .int 0] fun c8 G7 => wp_J6_init ad G7 c8  X (fun G9 => (gIs G9 c8 6 ∧ wp_J6_append ad G9 c8 (some (ad 112)) X (fun q11 G10 => wNN q11 fun c12 => (gIs G10 c12 6 ∧ wp_J6_append_2 ad G10 c12 x4 X (fun q14 G13 => wNN q14 fun c15 => (gIs G13 c15 6 ∧ wp_J6_toString ad G13 c15  X (fun q17 G16 => wp_J21_init ad G16 c6 q17 X (fun G18 => wThrow G18 c6 X))))))))) ∧ (x4 = (7 : Int32) → wNew G 21 6 [.null, .null, .null, .null, .null, .int 0] fun c20 G19 => wNew G19 6 4 [.null, .int 0, .int 0, .int 0] fun c22 G21 => wp_J6_init ad G21 c22  X (fun G23 => (gIs G23 c22 6 ∧ wp_J6_append ad G23 c22 (some (ad 112)) X (fun q25 G24 => wNN q25 fun c26 => (gIs G24 c26 6 ∧ wp_J6_append_2 ad G24 c26 x4 X (fun q28 G27 => wNN q28 fun c29 => (gIs G27 c29 6 ∧ wp_J6_toString ad G27 c29  X (fun q31 G30 => wp_J21_init ad G30 c20 q31 X (fun G32 => wThrow G32 c20 X))))))))) ∧ (x4 = (8 : Int32) → wNN o0 fun c33 => wIsB G c33 (wp_J11_hashCode_2 ad G x3 (some c33) x1 x2 X (fun r35 G34 => K r35 G34))) ∧ (x4 = (9 : Int32) → False) ∧ (x4 = (10 : Int32) → False) ∧ (¬ x4 = (4 : Int32) → ¬ x4 = (5 : Int32) → ¬ x4 = (6 : Int32) → ¬ x4 = (7 : Int32) → ¬ x4 = (8 : Int32) → ¬ x4 = (9 : Int32) → ¬ x4 = (10 : Int32) → wNew G 21 6 [.null, .null, .null, .null, .null, .int 0] fun c37 G36 => wNew G36 6 4 [.null, .int 0, .int 0, .int 0] fun c39 G38 => wp_J6_init ad G38 c39  X (fun G40 => (gIs G40 c39 6 ∧ wp_J6_append ad G40 c39 (some (ad 112)) X (fun q42 G41 => wNN q42 fun c43 => (gIs G41 c43 6 ∧ wp_J6_append_2 ad G41 c43 x4 X (fun q45 G44 => wNN q45 fun c46 => (gIs G44 c46 6 ∧ wp_J6_toString ad G44 c46  X (fun q48 G47 => wp_J21_init ad G47 c37 q48 X (fun G49 => wThrow G49 c37 X)))))))))
theorem w_J11_vectorizedHashCode {C : gCx} (hC : gOk C "jdk/internal/util/ArraysSupport" cJ11_vectorizedHashCode [] (some .int) "vectorizedHashCode" 5 13 393) {K : Int32 → gS → Prop} {X : Nat → gS → Prop} (hK : ∀ r G, K r G → cxK C (some (vI r)) G) (hX : ∀ q G, X q G → cxX C q G) {G : gS} {o0 : Option Nat} {x1 : Int32} {x2 : Int32} {x3 : Int32} {x4 : Int32} (h : wp_J11_vectorizedHashCode (cxA C) G o0 x1 x2 x3 x4 X K) : gGo C G 0 [(0, vQ o0), (1, vI x1), (2, vI x2), (3, vI x3), (4, vI x4)] [] := by
  unfold wp_J11_vectorizedHashCode at h
  refine g_iload hC (pc := 0) 4 rfl dJ11_vectorizedHashCode_0 ?_
  by_cases e0 : x4 = (4 : Int32)
  · refine g_tableIn hC (pc := 2) 44 (by rw [e0]; decide) (by rw [e0]; decide) (by rw [e0]; rfl) (by decide) dJ11_vectorizedHashCode_2 ?_
    replace h := h.1 e0
    refine g_iload_n hC (pc := 44) 3 rfl rfl dJ11_vectorizedHashCode_44 ?_
    refine g_aload_n hC (pc := 45) 0 rfl rfl dJ11_vectorizedHashCode_45 ?_
    rcases o0 with _ | c1
    · exact (gNN0 h).elim
    replace h := gNN1 h
    refine g_castB hC (pc := 46) q1202 h dJ11_vectorizedHashCode_46 (fun h => ?_)
    refine g_iload_n hC (pc := 49) 1 rfl rfl dJ11_vectorizedHashCode_49 ?_
    refine g_iload_n hC (pc := 50) 2 rfl rfl dJ11_vectorizedHashCode_50 ?_
    refine g_callS hC (pc := 51) (b := 0) (As := [vI x3, vQ (some c1), vI x1, vI x2]) gc_J11_signedHashCode (m_J11_signedHashCode hC.fl h) q1203 q1204 (gle rfl) (gle rfl) rfl (gle rfl) rfl dJ11_vectorizedHashCode_51 (gk_i fun r3 G2 h => ?_) (fun _ _ h hio => g_out0 hC (hX _ _ h) hio)
    refine g_goto hC (pc := 54) 157 (by decide) dJ11_vectorizedHashCode_54 ?_
    exact g_iret hC (pc := 157) (hK _ _ h) dJ11_vectorizedHashCode_157
  by_cases e1 : x4 = (5 : Int32)
  · refine g_tableIn hC (pc := 2) 57 (by rw [e1]; decide) (by rw [e1]; decide) (by rw [e1]; rfl) (by decide) dJ11_vectorizedHashCode_2 ?_
    replace h := h.2.1 e1
    refine g_aload_n hC (pc := 57) 0 rfl rfl dJ11_vectorizedHashCode_57 ?_
    exact h.elim
  by_cases e2 : x4 = (6 : Int32)
  · refine g_tableIn hC (pc := 2) 129 (by rw [e2]; decide) (by rw [e2]; decide) (by rw [e2]; rfl) (by decide) dJ11_vectorizedHashCode_2 ?_
    replace h := h.2.2.1 e2
    refine g_new hC (pc := 129) in_J21 (ci := 21) rfl (by decide) tyJ21_ok q1237 q631 q125 gdf_J21 h dJ11_vectorizedHashCode_129 (fun c6 G5 h => ?_)
    refine g_dup hC (pc := 132) rfl dJ11_vectorizedHashCode_132 ?_
    refine g_new hC (pc := 133) in_J6 (ci := 6) rfl (by decide) tyJ6_ok q1238 q259 q102 gdf_J6 h dJ11_vectorizedHashCode_133 (fun c8 G7 h => ?_)
    refine g_dup hC (pc := 136) rfl dJ11_vectorizedHashCode_136 ?_
    refine g_callI hC (pc := 137) (As := []) gc_J6_init (m_J6_init hC.fl h) rfl q1239 q261 (gle rfl) (gle rfl) rfl (gle rfl) rfl dJ11_vectorizedHashCode_137 (gk_v fun G9 h => ?_) (fun _ _ h hio => g_out0 hC (hX _ _ h) hio)
    refine g_ldcS hC (pc := 140) (List.mem_of_getElem? (i := 12) rfl) dJ11_vectorizedHashCode_140 ?_
    obtain ⟨hi, h⟩ := h
    refine g_callV hC (pc := 142) (ci := 6) (As := [vQ (some (cxA C 112))]) gc_J6_append (m_J6_append hC.fl h) rfl hi q1241 q449 q450 (gle rfl) (gle rfl) rfl (gle rfl) rfl dJ11_vectorizedHashCode_142 (gk_q fun q11 G10 h => ?_) (fun _ _ h hio => g_out0 hC (hX _ _ h) hio)
    refine g_iload hC (pc := 145) 4 rfl dJ11_vectorizedHashCode_145 ?_
    rcases q11 with _ | c12
    · exact (gNN0 h).elim
    replace h := gNN1 h
    obtain ⟨hi, h⟩ := h
    refine g_callV hC (pc := 147) (ci := 6) (As := [vI x4]) gc_J6_append_2 (m_J6_append_2 hC.fl h) rfl hi q1242 q569 q570 (gle rfl) (gle rfl) rfl (gle rfl) rfl dJ11_vectorizedHashCode_147 (gk_q fun q14 G13 h => ?_) (fun _ _ h hio => g_out0 hC (hX _ _ h) hio)
    rcases q14 with _ | c15
    · exact (gNN0 h).elim
    replace h := gNN1 h
    obtain ⟨hi, h⟩ := h
    refine g_callV hC (pc := 150) (ci := 6) (As := []) gc_J6_toString (m_J6_toString hC.fl h) rfl hi q1243 q595 q596 (gle rfl) (gle rfl) rfl (gle rfl) rfl dJ11_vectorizedHashCode_150 (gk_q fun q17 G16 h => ?_) (fun _ _ h hio => g_out0 hC (hX _ _ h) hio)
    refine g_callI hC (pc := 153) (As := [vQ q17]) gc_J21_init (m_J21_init hC.fl h) rfl q1244 q646 (gle rfl) (gle rfl) rfl (gle rfl) rfl dJ11_vectorizedHashCode_153 (gk_v fun G18 h => ?_) (fun _ _ h hio => g_out0 hC (hX _ _ h) hio)
    exact g_athrow hC (pc := 156) dJ11_vectorizedHashCode_156 h.1 (g_out0 hC (hX _ _ h.2) h.1)
  by_cases e3 : x4 = (7 : Int32)
  · refine g_tableIn hC (pc := 2) 129 (by rw [e3]; decide) (by rw [e3]; decide) (by rw [e3]; rfl) (by decide) dJ11_vectorizedHashCode_2 ?_
    replace h := h.2.2.2.1 e3
    refine g_new hC (pc := 129) in_J21 (ci := 21) rfl (by decide) tyJ21_ok q1237 q631 q125 gdf_J21 h dJ11_vectorizedHashCode_129 (fun c20 G19 h => ?_)
    refine g_dup hC (pc := 132) rfl dJ11_vectorizedHashCode_132 ?_
    refine g_new hC (pc := 133) in_J6 (ci := 6) rfl (by decide) tyJ6_ok q1238 q259 q102 gdf_J6 h dJ11_vectorizedHashCode_133 (fun c22 G21 h => ?_)
    refine g_dup hC (pc := 136) rfl dJ11_vectorizedHashCode_136 ?_
    refine g_callI hC (pc := 137) (As := []) gc_J6_init (m_J6_init hC.fl h) rfl q1239 q261 (gle rfl) (gle rfl) rfl (gle rfl) rfl dJ11_vectorizedHashCode_137 (gk_v fun G23 h => ?_) (fun _ _ h hio => g_out0 hC (hX _ _ h) hio)
    refine g_ldcS hC (pc := 140) (List.mem_of_getElem? (i := 12) rfl) dJ11_vectorizedHashCode_140 ?_
    obtain ⟨hi, h⟩ := h
    refine g_callV hC (pc := 142) (ci := 6) (As := [vQ (some (cxA C 112))]) gc_J6_append (m_J6_append hC.fl h) rfl hi q1241 q449 q450 (gle rfl) (gle rfl) rfl (gle rfl) rfl dJ11_vectorizedHashCode_142 (gk_q fun q25 G24 h => ?_) (fun _ _ h hio => g_out0 hC (hX _ _ h) hio)
    refine g_iload hC (pc := 145) 4 rfl dJ11_vectorizedHashCode_145 ?_
    rcases q25 with _ | c26
    · exact (gNN0 h).elim
    replace h := gNN1 h
    obtain ⟨hi, h⟩ := h
    refine g_callV hC (pc := 147) (ci := 6) (As := [vI x4]) gc_J6_append_2 (m_J6_append_2 hC.fl h) rfl hi q1242 q569 q570 (gle rfl) (gle rfl) rfl (gle rfl) rfl dJ11_vectorizedHashCode_147 (gk_q fun q28 G27 h => ?_) (fun _ _ h hio => g_out0 hC (hX _ _ h) hio)
    rcases q28 with _ | c29
    · exact (gNN0 h).elim
    replace h := gNN1 h
    obtain ⟨hi, h⟩ := h
    refine g_callV hC (pc := 150) (ci := 6) (As := []) gc_J6_toString (m_J6_toString hC.fl h) rfl hi q1243 q595 q596 (gle rfl) (gle rfl) rfl (gle rfl) rfl dJ11_vectorizedHashCode_150 (gk_q fun q31 G30 h => ?_) (fun _ _ h hio => g_out0 hC (hX _ _ h) hio)
    refine g_callI hC (pc := 153) (As := [vQ q31]) gc_J21_init (m_J21_init hC.fl h) rfl q1244 q646 (gle rfl) (gle rfl) rfl (gle rfl) rfl dJ11_vectorizedHashCode_153 (gk_v fun G32 h => ?_) (fun _ _ h hio => g_out0 hC (hX _ _ h) hio)
    exact g_athrow hC (pc := 156) dJ11_vectorizedHashCode_156 h.1 (g_out0 hC (hX _ _ h.2) h.1)
  by_cases e4 : x4 = (8 : Int32)
  · refine g_tableIn hC (pc := 2) 90 (by rw [e4]; decide) (by rw [e4]; decide) (by rw [e4]; rfl) (by decide) dJ11_vectorizedHashCode_2 ?_
    replace h := h.2.2.2.2.1 e4
    refine g_iload_n hC (pc := 90) 3 rfl rfl dJ11_vectorizedHashCode_90 ?_
    refine g_aload_n hC (pc := 91) 0 rfl rfl dJ11_vectorizedHashCode_91 ?_
    rcases o0 with _ | c33
    · exact (gNN0 h).elim
    replace h := gNN1 h
    refine g_castB hC (pc := 92) q1202 h dJ11_vectorizedHashCode_92 (fun h => ?_)
    refine g_iload_n hC (pc := 95) 1 rfl rfl dJ11_vectorizedHashCode_95 ?_
    refine g_iload_n hC (pc := 96) 2 rfl rfl dJ11_vectorizedHashCode_96 ?_
    refine g_callS hC (pc := 97) (b := 0) (As := [vI x3, vQ (some c33), vI x1, vI x2]) gc_J11_hashCode_2 (m_J11_hashCode_2 hC.fl h) q1226 q1227 (gle rfl) (gle rfl) rfl (gle rfl) rfl dJ11_vectorizedHashCode_97 (gk_i fun r35 G34 h => ?_) (fun _ _ h hio => g_out0 hC (hX _ _ h) hio)
    refine g_goto hC (pc := 100) 157 (by decide) dJ11_vectorizedHashCode_100 ?_
    exact g_iret hC (pc := 157) (hK _ _ h) dJ11_vectorizedHashCode_157
  by_cases e5 : x4 = (9 : Int32)
  · refine g_tableIn hC (pc := 2) 103 (by rw [e5]; decide) (by rw [e5]; decide) (by rw [e5]; rfl) (by decide) dJ11_vectorizedHashCode_2 ?_
    replace h := h.2.2.2.2.2.1 e5
    refine g_iload_n hC (pc := 103) 3 rfl rfl dJ11_vectorizedHashCode_103 ?_
    refine g_aload_n hC (pc := 104) 0 rfl rfl dJ11_vectorizedHashCode_104 ?_
    exact h.elim
  by_cases e6 : x4 = (10 : Int32)
  · refine g_tableIn hC (pc := 2) 116 (by rw [e6]; decide) (by rw [e6]; decide) (by rw [e6]; rfl) (by decide) dJ11_vectorizedHashCode_2 ?_
    replace h := h.2.2.2.2.2.2.1 e6
    refine g_iload_n hC (pc := 116) 3 rfl rfl dJ11_vectorizedHashCode_116 ?_
    refine g_aload_n hC (pc := 117) 0 rfl rfl dJ11_vectorizedHashCode_117 ?_
    exact h.elim
  refine g_tableOut hC (pc := 2) 129 (by have f0 := gne (n := 4) rfl e0; have f1 := gne (n := 5) rfl e1; have f2 := gne (n := 6) rfl e2; have f3 := gne (n := 7) rfl e3; have f4 := gne (n := 8) rfl e4; have f5 := gne (n := 9) rfl e5; have f6 := gne (n := 10) rfl e6; omega) (by decide) dJ11_vectorizedHashCode_2 ?_
  replace h := h.2.2.2.2.2.2.2 e0 e1 e2 e3 e4 e5 e6
  refine g_new hC (pc := 129) in_J21 (ci := 21) rfl (by decide) tyJ21_ok q1237 q631 q125 gdf_J21 h dJ11_vectorizedHashCode_129 (fun c37 G36 h => ?_)
  refine g_dup hC (pc := 132) rfl dJ11_vectorizedHashCode_132 ?_
  refine g_new hC (pc := 133) in_J6 (ci := 6) rfl (by decide) tyJ6_ok q1238 q259 q102 gdf_J6 h dJ11_vectorizedHashCode_133 (fun c39 G38 h => ?_)
  refine g_dup hC (pc := 136) rfl dJ11_vectorizedHashCode_136 ?_
  refine g_callI hC (pc := 137) (As := []) gc_J6_init (m_J6_init hC.fl h) rfl q1239 q261 (gle rfl) (gle rfl) rfl (gle rfl) rfl dJ11_vectorizedHashCode_137 (gk_v fun G40 h => ?_) (fun _ _ h hio => g_out0 hC (hX _ _ h) hio)
  refine g_ldcS hC (pc := 140) (List.mem_of_getElem? (i := 12) rfl) dJ11_vectorizedHashCode_140 ?_
  obtain ⟨hi, h⟩ := h
  refine g_callV hC (pc := 142) (ci := 6) (As := [vQ (some (cxA C 112))]) gc_J6_append (m_J6_append hC.fl h) rfl hi q1241 q449 q450 (gle rfl) (gle rfl) rfl (gle rfl) rfl dJ11_vectorizedHashCode_142 (gk_q fun q42 G41 h => ?_) (fun _ _ h hio => g_out0 hC (hX _ _ h) hio)
  refine g_iload hC (pc := 145) 4 rfl dJ11_vectorizedHashCode_145 ?_
  rcases q42 with _ | c43
  · exact (gNN0 h).elim
  replace h := gNN1 h
  obtain ⟨hi, h⟩ := h
  refine g_callV hC (pc := 147) (ci := 6) (As := [vI x4]) gc_J6_append_2 (m_J6_append_2 hC.fl h) rfl hi q1242 q569 q570 (gle rfl) (gle rfl) rfl (gle rfl) rfl dJ11_vectorizedHashCode_147 (gk_q fun q45 G44 h => ?_) (fun _ _ h hio => g_out0 hC (hX _ _ h) hio)
  rcases q45 with _ | c46
  · exact (gNN0 h).elim
  replace h := gNN1 h
  obtain ⟨hi, h⟩ := h
  refine g_callV hC (pc := 150) (ci := 6) (As := []) gc_J6_toString (m_J6_toString hC.fl h) rfl hi q1243 q595 q596 (gle rfl) (gle rfl) rfl (gle rfl) rfl dJ11_vectorizedHashCode_150 (gk_q fun q48 G47 h => ?_) (fun _ _ h hio => g_out0 hC (hX _ _ h) hio)
  refine g_callI hC (pc := 153) (As := [vQ q48]) gc_J21_init (m_J21_init hC.fl h) rfl q1244 q646 (gle rfl) (gle rfl) rfl (gle rfl) rfl dJ11_vectorizedHashCode_153 (gk_v fun G49 h => ?_) (fun _ _ h hio => g_out0 hC (hX _ _ h) hio)
  exact g_athrow hC (pc := 156) dJ11_vectorizedHashCode_156 h.1 (g_out0 hC (hX _ _ h.2) h.1)
theorem gc_J11_vectorizedHashCode : gCode yJ11_vectorizedHashCode cJ11_vectorizedHashCode 5 (some .int) 5 := ⟨q1201, q113, ⟨by decide, by decide⟩, rfl⟩
theorem m_J11_vectorizedHashCode {l : Launch} (hfl : l.stackTraces = false) {E : gE} {G : gS} {o0 : Option Nat} {x1 : Int32} {x2 : Int32} {x3 : Int32} {x4 : Int32} {X : Nat → gS → Prop} {K : Int32 → gS → Prop} (h : wp_J11_vectorizedHashCode (gAd E) G o0 x1 x2 x3 x4 X K) : gMet l yJ11_vectorizedHashCode (ws_ yJ11_vectorizedHashCode cJ11_vectorizedHashCode 5 (some .int)) 13 393 [vQ o0, vI x1, vI x2, vI x3, vI x4] E G (gRi K) X :=
  g_met hfl (plainFor_of_name (by decide +kernel)) rfl rfl rfl (gle rfl) (fun p e R s m args below meth c hC => w_J11_vectorizedHashCode hC (fun _ _ h => h) (fun _ _ h => h) h)
def wp_J19_hashCode (ad : Nat → Nat) (G : gS) (o0 : Option Nat) (X : Nat → gS → Prop) (K : Int32 → gS → Prop) : Prop :=
  wNN o0 fun c1 => wLen G c1 fun i2 => (i2 = (0 : Int32) → K (0 : Int32) G) ∧ (i2 = (1 : Int32) → wAldB G c1 (0 : Int32) fun i3 => K (i3 &&& (255 : Int32)) G) ∧ (¬ i2 = (0 : Int32) → ¬ i2 = (1 : Int32) → wLen G c1 fun i4 => wp_J11_vectorizedHashCode ad G (some c1) (0 : Int32) i4 (0 : Int32) (4 : Int32) X (fun r6 G5 => K r6 G5))
theorem w_J19_hashCode {C : gCx} (hC : gOk C "java/lang/StringLatin1" cJ19_hashCode [] (some .int) "hashCode" 1 14 425) {K : Int32 → gS → Prop} {X : Nat → gS → Prop} (hK : ∀ r G, K r G → cxK C (some (vI r)) G) (hX : ∀ q G, X q G → cxX C q G) {G : gS} {o0 : Option Nat} (h : wp_J19_hashCode (cxA C) G o0 X K) : gGo C G 0 [(0, vQ o0)] [] := by
  unfold wp_J19_hashCode at h
  refine g_aload_n hC (pc := 0) 0 rfl rfl dJ19_hashCode_0 ?_
  rcases o0 with _ | c1
  · exact (gNN0 h).elim
  replace h := gNN1 h
  refine g_len hC (pc := 1) h dJ19_hashCode_1 (fun i2 h => ?_)
  by_cases e0 : i2 = (0 : Int32)
  · refine g_lookup hC (pc := 2) (off := 26) 28 (by decide) (by rw [e0]; decide) (by decide) dJ19_hashCode_2 ?_
    replace h := h.1 e0
    refine g_iconst hC (pc := 28) (v := (0 : Int32)) (by decide) dJ19_hashCode_28 ?_
    refine g_goto hC (pc := 29) 51 (by decide) dJ19_hashCode_29 ?_
    exact g_iret hC (pc := 51) (hK _ _ h) dJ19_hashCode_51
  by_cases e1 : i2 = (1 : Int32)
  · refine g_lookup hC (pc := 2) (off := 30) 32 (by decide) (by rw [e1]; decide) (by decide) dJ19_hashCode_2 ?_
    replace h := h.2.1 e1
    refine g_aload_n hC (pc := 32) 0 rfl rfl dJ19_hashCode_32 ?_
    refine g_iconst hC (pc := 33) (v := (0 : Int32)) (by decide) dJ19_hashCode_33 ?_
    refine g_aldB hC (pc := 34) h dJ19_hashCode_34 (fun i3 h => ?_)
    refine g_sipush hC (pc := 35) (v := (255 : Int32)) (by decide) dJ19_hashCode_35 ?_
    refine g_iand hC (pc := 38) dJ19_hashCode_38 ?_
    refine g_goto hC (pc := 39) 51 (by decide) dJ19_hashCode_39 ?_
    exact g_iret hC (pc := 51) (hK _ _ h) dJ19_hashCode_51
  refine g_lookup hC (pc := 2) (off := 40) 42 (by decide) (by have f0 := (gne (n := 0) (by decide) e0).symm; have f1 := (gne (n := 1) (by decide) e1).symm; simp [Op.lookupswitch.offset, f0, f1]) (by decide) dJ19_hashCode_2 ?_
  replace h := h.2.2 e0 e1
  refine g_aload_n hC (pc := 42) 0 rfl rfl dJ19_hashCode_42 ?_
  refine g_iconst hC (pc := 43) (v := (0 : Int32)) (by decide) dJ19_hashCode_43 ?_
  refine g_aload_n hC (pc := 44) 0 rfl rfl dJ19_hashCode_44 ?_
  refine g_len hC (pc := 45) h dJ19_hashCode_45 (fun i4 h => ?_)
  refine g_iconst hC (pc := 46) (v := (0 : Int32)) (by decide) dJ19_hashCode_46 ?_
  refine g_iconst hC (pc := 47) (v := (4 : Int32)) (by decide) dJ19_hashCode_47 ?_
  refine g_callS hC (pc := 48) (b := 0) (As := [vQ (some c1), vI (0 : Int32), vI i4, vI (0 : Int32), vI (4 : Int32)]) gc_J11_vectorizedHashCode (m_J11_vectorizedHashCode hC.fl h) q1199 q1200 (gle rfl) (gle rfl) rfl (gle rfl) rfl dJ19_hashCode_48 (gk_i fun r6 G5 h => ?_) (fun _ _ h hio => g_out0 hC (hX _ _ h) hio)
  exact g_iret hC (pc := 51) (hK _ _ h) dJ19_hashCode_51
theorem gc_J19_hashCode : gCode yJ19_hashCode cJ19_hashCode 1 (some .int) 1 := ⟨q1198, q122, ⟨by decide, by decide⟩, rfl⟩
theorem m_J19_hashCode {l : Launch} (hfl : l.stackTraces = false) {E : gE} {G : gS} {o0 : Option Nat} {X : Nat → gS → Prop} {K : Int32 → gS → Prop} (h : wp_J19_hashCode (gAd E) G o0 X K) : gMet l yJ19_hashCode (ws_ yJ19_hashCode cJ19_hashCode 1 (some .int)) 14 425 [vQ o0] E G (gRi K) X :=
  g_met hfl (plainFor_of_name (by decide +kernel)) rfl rfl rfl (gle rfl) (fun p e R s m args below meth c hC => w_J19_hashCode hC (fun _ _ h => h) (fun _ _ h => h) h)
def wp_J7_hashCode_40 (ad : Nat → Nat) (X : Nat → gS → Prop) (K : Int32 → gS → Prop) (G : gS) (t0 : Nat) (xs0 : Int32) : Prop :=
  (¬ xs0 = (0 : Int32) → wPut G t0 7 2 (.int xs0) fun G1 => K xs0 G1) ∧ (xs0 = (0 : Int32) → wPut G t0 7 3 (.int (1 : Int32)) fun G2 => K xs0 G2)
theorem w_J7_hashCode_40 {C : gCx} (hC : gOk C "java/lang/String" cJ7_hashCode [] (some .int) "hashCode" 2 15 453) {K : Int32 → gS → Prop} {X : Nat → gS → Prop} (hK : ∀ r G, K r G → cxK C (some (vI r)) G) (hX : ∀ q G, X q G → cxX C q G) {G : gS} {t0 : Nat} {xs0 : Int32} (h : wp_J7_hashCode_40 (cxA C) X K G t0 xs0) : gGo C G 40 [(0, vQ (some t0))] [vI xs0] := by
  unfold wp_J7_hashCode_40 at h
  refine g_istore_n hC (pc := 40) (lv' := [(1, vI xs0), (0, vQ (some t0))]) rfl (by decide) rfl dJ7_hashCode_40 ?_
  refine g_iload_n hC (pc := 41) 0 rfl rfl dJ7_hashCode_41 ?_
  refine g_if_ne hC (pc := 42) 53 h (by decide) dJ7_hashCode_42 (fun h => ?_) (fun h => ?_)
  · refine g_aload_n hC (pc := 53) 1 rfl rfl dJ7_hashCode_53 ?_
    refine g_iload_n hC (pc := 54) 0 rfl rfl dJ7_hashCode_54 ?_
    refine g_put hC (pc := 55) in_J7 (ci := 7) rfl 2 (by decide) tyJ7_ok nmJ7 q685 (Or.inl rfl) rfl rfl rfl h dJ7_hashCode_55 (fun G1 h => ?_)
    refine g_iload_n hC (pc := 58) 0 rfl rfl dJ7_hashCode_58 ?_
    exact g_iret hC (pc := 59) (hK _ _ h) dJ7_hashCode_59
  · refine g_aload_n hC (pc := 45) 1 rfl rfl dJ7_hashCode_45 ?_
    refine g_iconst hC (pc := 46) (v := (1 : Int32)) (by decide) dJ7_hashCode_46 ?_
    refine g_put hC (pc := 47) in_J7 (ci := 7) rfl 3 (by decide) tyJ7_ok nmJ7 q686 (Or.inl rfl) rfl rfl rfl h dJ7_hashCode_47 (fun G2 h => ?_)
    refine g_goto hC (pc := 50) 58 (by decide) dJ7_hashCode_50 ?_
    refine g_iload_n hC (pc := 58) 0 rfl rfl dJ7_hashCode_58 ?_
    exact g_iret hC (pc := 59) (hK _ _ h) dJ7_hashCode_59
def wp_J7_hashCode (ad : Nat → Nat) (G : gS) (t0 : Nat) (X : Nat → gS → Prop) (K : Int32 → gS → Prop) : Prop :=
  wGetI G t0 7 2 fun i1 => (¬ i1 = (0 : Int32) → K i1 G) ∧ (i1 = (0 : Int32) → wGetI G t0 7 3 fun i2 => (¬ i2 = (0 : Int32) → K i1 G) ∧ (i2 = (0 : Int32) → (gIs G t0 7 ∧ wp_J7_isLatin1 ad G t0  X (fun r4 G3 => (r4 = (0 : Int32) → wGetQ G3 t0 7 0 fun q5 => False) ∧ (¬ r4 = (0 : Int32) → wGetQ G3 t0 7 0 fun q6 => wp_J19_hashCode ad G3 q6 X (fun r8 G7 => wp_J7_hashCode_40 ad X K G7 t0 r8))))))
theorem w_J7_hashCode {C : gCx} (hC : gOk C "java/lang/String" cJ7_hashCode [] (some .int) "hashCode" 2 15 453) {K : Int32 → gS → Prop} {X : Nat → gS → Prop} (hK : ∀ r G, K r G → cxK C (some (vI r)) G) (hX : ∀ q G, X q G → cxX C q G) {G : gS} {t0 : Nat} (h : wp_J7_hashCode (cxA C) G t0 X K) : gGo C G 0 [(0, vQ (some t0))] [] := by
  unfold wp_J7_hashCode at h
  refine g_aload_n hC (pc := 0) 0 rfl rfl dJ7_hashCode_0 ?_
  refine g_getI hC (pc := 1) in_J7 (ci := 7) rfl 2 (by decide) q685 (Or.inl rfl) h dJ7_hashCode_1 (fun i1 h => ?_)
  refine g_istore_n hC (pc := 4) (lv' := [(1, vI i1), (0, vQ (some t0))]) rfl (by decide) rfl dJ7_hashCode_4 ?_
  refine g_iload_n hC (pc := 5) 0 rfl rfl dJ7_hashCode_5 ?_
  refine g_if_ne hC (pc := 6) 58 h (by decide) dJ7_hashCode_6 (fun h => ?_) (fun h => ?_)
  · refine g_iload_n hC (pc := 58) 0 rfl rfl dJ7_hashCode_58 ?_
    exact g_iret hC (pc := 59) (hK _ _ h) dJ7_hashCode_59
  · refine g_aload_n hC (pc := 9) 1 rfl rfl dJ7_hashCode_9 ?_
    refine g_getI hC (pc := 10) in_J7 (ci := 7) rfl 3 (by decide) q686 (Or.inl rfl) h dJ7_hashCode_10 (fun i2 h => ?_)
    refine g_if_ne hC (pc := 13) 58 h (by decide) dJ7_hashCode_13 (fun h => ?_) (fun h => ?_)
    · refine g_iload_n hC (pc := 58) 0 rfl rfl dJ7_hashCode_58 ?_
      exact g_iret hC (pc := 59) (hK _ _ h) dJ7_hashCode_59
    · refine g_aload_n hC (pc := 16) 1 rfl rfl dJ7_hashCode_16 ?_
      obtain ⟨hi, h⟩ := h
      refine g_callV hC (pc := 17) (ci := 7) (As := []) gc_J7_isLatin1 (m_J7_isLatin1 hC.fl h) rfl hi q1192 q1193 q1194 (gle rfl) (gle rfl) rfl (gle rfl) rfl dJ7_hashCode_17 (gk_i fun r4 G3 h => ?_) (fun _ _ h hio => g_out0 hC (hX _ _ h) hio)
      refine g_if_eq hC (pc := 20) 33 h (by decide) dJ7_hashCode_20 (fun h => ?_) (fun h => ?_)
      · refine g_aload_n hC (pc := 33) 1 rfl rfl dJ7_hashCode_33 ?_
        refine g_getQ hC (pc := 34) in_J7 (ci := 7) rfl 0 (by decide) q683 (Or.inl rfl) h dJ7_hashCode_34 (fun q5 h => ?_)
        exact h.elim
      · refine g_aload_n hC (pc := 23) 1 rfl rfl dJ7_hashCode_23 ?_
        refine g_getQ hC (pc := 24) in_J7 (ci := 7) rfl 0 (by decide) q683 (Or.inl rfl) h dJ7_hashCode_24 (fun q6 h => ?_)
        refine g_callS hC (pc := 27) (b := 0) (As := [vQ q6]) gc_J19_hashCode (m_J19_hashCode hC.fl h) q1196 q1197 (gle rfl) (gle rfl) rfl (gle rfl) rfl dJ7_hashCode_27 (gk_i fun r8 G7 h => ?_) (fun _ _ h hio => g_out0 hC (hX _ _ h) hio)
        refine g_goto hC (pc := 30) 40 (by decide) dJ7_hashCode_30 ?_
        exact g_sub [1] rfl (w_J7_hashCode_40 hC hK hX h)
theorem gc_J7_hashCode : gCode yJ7_hashCode cJ7_hashCode 2 (some .int) 0 := ⟨q1191, q103, ⟨by decide, by decide⟩, rfl⟩
theorem m_J7_hashCode {l : Launch} (hfl : l.stackTraces = false) {E : gE} {G : gS} {t0 : Nat} {X : Nat → gS → Prop} {K : Int32 → gS → Prop} (h : wp_J7_hashCode (gAd E) G t0 X K) : gMet l yJ7_hashCode (ws_ yJ7_hashCode cJ7_hashCode 2 (some .int)) 15 453 [vQ (some t0)] E G (gRi K) X :=
  g_met hfl (plainFor_of_name (by decide +kernel)) rfl rfl rfl (gle rfl) (fun p e R s m args below meth c hC => w_J7_hashCode hC (fun _ _ h => h) (fun _ _ h => h) h)
def wp_J19_equals_9 (ad : Nat → Nat) (X : Nat → gS → Prop) (K : Int32 → gS → Prop) (J9 : gS → Nat → Nat → Int32 → Prop) (G : gS) (t0 : Nat) (t1 : Nat) (x2 : Int32) : Prop :=
  wLen G t0 fun i1 => (i1 ≤ x2 → K (1 : Int32) G) ∧ (¬ i1 ≤ x2 → wAldB G t0 x2 fun i2 => wAldB G t1 x2 fun i3 => (i2 = i3 → J9 G t0 t1 (x2 + (1 : Int32))) ∧ (¬ i2 = i3 → K (0 : Int32) G))
theorem w_J19_equals_9 {C : gCx} (hC : gOk C "java/lang/StringLatin1" cJ19_equals [] (some .boolean) "equals" 3 0 0) {K : Int32 → gS → Prop} {X : Nat → gS → Prop} (hK : ∀ r G, K r G → cxK C (some (vI r)) G) (hX : ∀ q G, X q G → cxX C q G) (n : Nat) : ∀ (G : gS) (t0 : Nat) (t1 : Nat) (x2 : Int32), gLoop (fun _ _ _ _ => False) (wp_J19_equals_9 (cxA C) X K) n G t0 t1 x2 → gGo C G 9 [(0, vQ (some t0)), (1, vQ (some t1)), (2, vI x2)] [] := by
  induction n with
  | zero => intro G t0 t1 x2 h; exact h.elim
  | succ n ih =>
    intro G t0 t1 x2 h
    have hJ9 := ih
    replace h : wp_J19_equals_9 (cxA C) X K _ G t0 t1 x2 := h
    unfold wp_J19_equals_9 at h
    refine g_iload_n hC (pc := 9) 2 rfl rfl dJ19_equals_9 ?_
    refine g_aload_n hC (pc := 10) 0 rfl rfl dJ19_equals_10 ?_
    refine g_len hC (pc := 11) h dJ19_equals_11 (fun i1 h => ?_)
    refine g_icmp_ge hC (pc := 12) 32 h (by decide) dJ19_equals_12 (fun h => ?_) (fun h => ?_)
    · refine g_iconst hC (pc := 32) (v := (1 : Int32)) (by decide) dJ19_equals_32 ?_
      exact g_zret hC (pc := 33) rfl (hK _ _ h) dJ19_equals_33
    · refine g_aload_n hC (pc := 15) 0 rfl rfl dJ19_equals_15 ?_
      refine g_iload_n hC (pc := 16) 2 rfl rfl dJ19_equals_16 ?_
      refine g_aldB hC (pc := 17) h dJ19_equals_17 (fun i2 h => ?_)
      refine g_aload_n hC (pc := 18) 1 rfl rfl dJ19_equals_18 ?_
      refine g_iload_n hC (pc := 19) 2 rfl rfl dJ19_equals_19 ?_
      refine g_aldB hC (pc := 20) h dJ19_equals_20 (fun i3 h => ?_)
      refine g_icmp_eq hC (pc := 21) 26 h (by decide) dJ19_equals_21 (fun h => ?_) (fun h => ?_)
      · refine g_iinc hC (pc := 26) 2 (d := (1 : Int32)) (v := (x2 + (1 : Int32))) (lv' := [(2, vI (x2 + (1 : Int32))), (0, vQ (some t0)), (1, vQ (some t1))]) rfl (by decide) rfl (by decide) rfl dJ19_equals_26 ?_
        refine g_goto hC (pc := 29) 9 (by decide) dJ19_equals_29 ?_
        exact g_sub [1, 2, 0] rfl (hJ9 _ _ _ _ h)
      · refine g_iconst hC (pc := 24) (v := (0 : Int32)) (by decide) dJ19_equals_24 ?_
        exact g_zret hC (pc := 25) rfl (hK _ _ h) dJ19_equals_25
def wp_J19_equals (ad : Nat → Nat) (G : gS) (o0 : Option Nat) (o1 : Option Nat) (X : Nat → gS → Prop) (K : Int32 → gS → Prop) : Prop :=
  wNN o0 fun c1 => wLen G c1 fun i2 => wNN o1 fun c3 => wLen G c3 fun i4 => (¬ i2 = i4 → K (0 : Int32) G) ∧ (i2 = i4 → gLoop (fun _ _ _ _ => False) (wp_J19_equals_9 ad X K) gFuel G c1 c3 (0 : Int32))
theorem w_J19_equals {C : gCx} (hC : gOk C "java/lang/StringLatin1" cJ19_equals [] (some .boolean) "equals" 3 0 0) {K : Int32 → gS → Prop} {X : Nat → gS → Prop} (hK : ∀ r G, K r G → cxK C (some (vI r)) G) (hX : ∀ q G, X q G → cxX C q G) {G : gS} {o0 : Option Nat} {o1 : Option Nat} (h : wp_J19_equals (cxA C) G o0 o1 X K) : gGo C G 0 [(0, vQ o0), (1, vQ o1)] [] := by
  unfold wp_J19_equals at h
  refine g_aload_n hC (pc := 0) 0 rfl rfl dJ19_equals_0 ?_
  rcases o0 with _ | c1
  · exact (gNN0 h).elim
  replace h := gNN1 h
  refine g_len hC (pc := 1) h dJ19_equals_1 (fun i2 h => ?_)
  refine g_aload_n hC (pc := 2) 1 rfl rfl dJ19_equals_2 ?_
  rcases o1 with _ | c3
  · exact (gNN0 h).elim
  replace h := gNN1 h
  refine g_len hC (pc := 3) h dJ19_equals_3 (fun i4 h => ?_)
  refine g_icmp_ne hC (pc := 4) 34 h (by decide) dJ19_equals_4 (fun h => ?_) (fun h => ?_)
  · refine g_iconst hC (pc := 34) (v := (0 : Int32)) (by decide) dJ19_equals_34 ?_
    exact g_zret hC (pc := 35) rfl (hK _ _ h) dJ19_equals_35
  · refine g_iconst hC (pc := 7) (v := (0 : Int32)) (by decide) dJ19_equals_7 ?_
    refine g_istore_n hC (pc := 8) (lv' := [(2, vI (0 : Int32)), (0, vQ (some c1)), (1, vQ (some c3))]) rfl (by decide) rfl dJ19_equals_8 ?_
    exact g_sub [1, 2, 0] rfl (w_J19_equals_9 hC hK hX gFuel _ _ _ _ h)
theorem gc_J19_equals : gCode yJ19_equals cJ19_equals 3 (some .boolean) 2 := ⟨q1257, q122, ⟨by decide, by decide⟩, rfl⟩
theorem m_J19_equals {l : Launch} (hfl : l.stackTraces = false) {E : gE} {G : gS} {o0 : Option Nat} {o1 : Option Nat} {X : Nat → gS → Prop} {K : Int32 → gS → Prop} (h : wp_J19_equals (gAd E) G o0 o1 X K) : gMet l yJ19_equals (ws_ yJ19_equals cJ19_equals 3 (some .boolean)) 0 0 [vQ o0, vQ o1] E G (gRi K) X :=
  g_met hfl (plainFor_of_name (by decide +kernel)) rfl rfl rfl (gle rfl) (fun p e R s m args below meth c hC => w_J19_equals hC (fun _ _ h => h) (fun _ _ h => h) h)
def wp_J7_equals_36 (ad : Nat → Nat) (X : Nat → gS → Prop) (K : Int32 → gS → Prop) (G : gS) (t0 : Nat) (t2 : Nat) : Prop :=
  wGetQ G t0 7 0 fun q1 => wGetQ G t2 7 0 fun q2 => wp_J19_equals ad G q1 q2 X (fun r4 G3 => (r4 = (0 : Int32) → K (0 : Int32) G3) ∧ (¬ r4 = (0 : Int32) → K (1 : Int32) G3))
theorem w_J7_equals_36 {C : gCx} (hC : gOk C "java/lang/String" cJ7_equals [] (some .boolean) "equals" 3 1 30) {K : Int32 → gS → Prop} {X : Nat → gS → Prop} (hK : ∀ r G, K r G → cxK C (some (vI r)) G) (hX : ∀ q G, X q G → cxX C q G) {G : gS} {t0 : Nat} {t2 : Nat} (h : wp_J7_equals_36 (cxA C) X K G t0 t2) : gGo C G 36 [(0, vQ (some t0)), (2, vQ (some t2))] [] := by
  unfold wp_J7_equals_36 at h
  refine g_aload_n hC (pc := 36) 0 rfl rfl dJ7_equals_36 ?_
  refine g_getQ hC (pc := 37) in_J7 (ci := 7) rfl 0 (by decide) q683 (Or.inl rfl) h dJ7_equals_37 (fun q1 h => ?_)
  refine g_aload_n hC (pc := 40) 1 rfl rfl dJ7_equals_40 ?_
  refine g_getQ hC (pc := 41) in_J7 (ci := 7) rfl 0 (by decide) q683 (Or.inl rfl) h dJ7_equals_41 (fun q2 h => ?_)
  refine g_callS hC (pc := 44) (b := 0) (As := [vQ q1, vQ q2]) gc_J19_equals (m_J19_equals hC.fl h) q1255 q1256 (gle rfl) (gle rfl) rfl (gle rfl) rfl dJ7_equals_44 (gk_i fun r4 G3 h => ?_) (fun _ _ h hio => g_out0 hC (hX _ _ h) hio)
  refine g_if_eq hC (pc := 47) 54 h (by decide) dJ7_equals_47 (fun h => ?_) (fun h => ?_)
  · refine g_iconst hC (pc := 54) (v := (0 : Int32)) (by decide) dJ7_equals_54 ?_
    exact g_zret hC (pc := 55) rfl (hK _ _ h) dJ7_equals_55
  · refine g_iconst hC (pc := 50) (v := (1 : Int32)) (by decide) dJ7_equals_50 ?_
    refine g_goto hC (pc := 51) 55 (by decide) dJ7_equals_51 ?_
    exact g_zret hC (pc := 55) rfl (hK _ _ h) dJ7_equals_55
def wp_J7_equals (ad : Nat → Nat) (G : gS) (t0 : Nat) (o1 : Option Nat) (X : Nat → gS → Prop) (K : Int32 → gS → Prop) : Prop :=
  (¬ (some t0) = o1 → wNN o1 fun c1 => (gIs G c1 7 ∧ (wCast G (some c1) [7] (wGetI G t0 7 1 fun i2 => wGetI G c1 7 1 fun i3 => (¬ i2 = i3 → K (0 : Int32) G) ∧ (i2 = i3 → wp_J7_equals_36 ad X K G t0 c1))))) ∧ ((some t0) = o1 → K (1 : Int32) G)
theorem w_J7_equals {C : gCx} (hC : gOk C "java/lang/String" cJ7_equals [] (some .boolean) "equals" 3 1 30) {K : Int32 → gS → Prop} {X : Nat → gS → Prop} (hK : ∀ r G, K r G → cxK C (some (vI r)) G) (hX : ∀ q G, X q G → cxX C q G) {G : gS} {t0 : Nat} {o1 : Option Nat} (h : wp_J7_equals (cxA C) G t0 o1 X K) : gGo C G 0 [(0, vQ (some t0)), (1, vQ o1)] [] := by
  unfold wp_J7_equals at h
  refine g_aload_n hC (pc := 0) 0 rfl rfl dJ7_equals_0 ?_
  refine g_aload_n hC (pc := 1) 1 rfl rfl dJ7_equals_1 ?_
  refine g_acmp_ne hC (pc := 2) 7 h (by decide) dJ7_equals_2 (fun h => ?_) (fun h => ?_)
  · refine g_aload_n hC (pc := 7) 1 rfl rfl dJ7_equals_7 ?_
    rcases o1 with _ | c1
    · exact (gNN0 h).elim
    replace h := gNN1 h
    obtain ⟨hi, h⟩ := h
    refine g_instS hC (pc := 8) (ci := 7) rfl (by decide) q1254 hi dJ7_equals_8 ?_
    refine g_if_eq hC (pc := 11) 54 (P := False) (Q := True) ⟨fun e => absurd e (by decide), fun _ => trivial⟩ (by decide) dJ7_equals_11 (fun e => e.elim) (fun _ => ?_)
    refine g_aload_n hC (pc := 14) 1 rfl rfl dJ7_equals_14 ?_
    refine g_cast hC (pc := 15) q1254 h (List.forall_mem_cons.mpr ⟨⟨_, rfl, Or.inr ⟨rfl, by decide⟩⟩, fun _ h => nomatch h⟩) dJ7_equals_15 (fun h => ?_)
    refine g_astore_n hC (pc := 18) (lv' := [(2, vQ (some c1)), (0, vQ (some t0)), (1, vQ (some c1))]) rfl (by decide) rfl dJ7_equals_18 ?_
    refine g_statI hC (pc := 19) (List.mem_of_getElem? (i := 0) rfl) q533 (fun _ _ h => h) dJ7_equals_19 ?_
    refine g_if_eq hC (pc := 22) 36 (P := False) (Q := True) ⟨fun e => absurd e (by decide), fun _ => trivial⟩ (by decide) dJ7_equals_22 (fun e => e.elim) (fun _ => ?_)
    refine g_aload_n hC (pc := 25) 1 rfl rfl dJ7_equals_25 ?_
    refine g_getI hC (pc := 26) in_J7 (ci := 7) rfl 1 (by decide) q684 (Or.inl rfl) h dJ7_equals_26 (fun i2 h => ?_)
    refine g_aload_n hC (pc := 29) 0 rfl rfl dJ7_equals_29 ?_
    refine g_getI hC (pc := 30) in_J7 (ci := 7) rfl 1 (by decide) q684 (Or.inl rfl) h dJ7_equals_30 (fun i3 h => ?_)
    refine g_icmp_ne hC (pc := 33) 54 h (by decide) dJ7_equals_33 (fun h => ?_) (fun h => ?_)
    · refine g_iconst hC (pc := 54) (v := (0 : Int32)) (by decide) dJ7_equals_54 ?_
      exact g_zret hC (pc := 55) rfl (hK _ _ h) dJ7_equals_55
    · exact g_sub [1, 0] rfl (w_J7_equals_36 hC hK hX h)
  · refine g_iconst hC (pc := 5) (v := (1 : Int32)) (by decide) dJ7_equals_5 ?_
    exact g_zret hC (pc := 6) rfl (hK _ _ h) dJ7_equals_6
theorem gc_J7_equals : gCode yJ7_equals cJ7_equals 3 (some .boolean) 1 := ⟨q1253, q103, ⟨by decide, by decide⟩, rfl⟩
theorem m_J7_equals {l : Launch} (hfl : l.stackTraces = false) {E : gE} {G : gS} {t0 : Nat} {o1 : Option Nat} {X : Nat → gS → Prop} {K : Int32 → gS → Prop} (h : wp_J7_equals (gAd E) G t0 o1 X K) : gMet l yJ7_equals (ws_ yJ7_equals cJ7_equals 3 (some .boolean)) 1 30 [vQ (some t0), vQ o1] E G (gRi K) X :=
  g_met hfl (plainFor_of_name (by decide +kernel)) rfl rfl rfl (gle rfl) (fun p e R s m args below meth c hC => w_J7_equals hC (fun _ _ h => h) (fun _ _ h => h) h)
def wp_J9_init_at20 (ad : Nat → Nat) (G : gS) (t0 : Nat) (X : Nat → gS → Prop) (K : gS → Prop) : Prop :=
  wPut G t0 20 0 (va_rf (some t0)) fun G1 => wPut G1 t0 20 1 (va_rf (gOp (ad 5))) fun G2 => wPut G2 t0 20 2 (va_rf (gOp (ad 6))) fun G3 => wFill G3 t0 20 1 4 (gOp (ad 5)) (K G3)
theorem w_J9_init_at20 {C : gCx} (hC : gOk C "java/lang/Throwable" cJ9_init [] none "<init>" 1 4 100) {K : gS → Prop} {X : Nat → gS → Prop} (hK : ∀ G, K G → cxK C none G) (hX : ∀ q G, X q G → cxX C q G) {G : gS} {t0 : Nat} (h : wp_J9_init_at20 (cxA C) G t0 X K) : gGo C G 0 [(0, vQ (some t0))] [] := by
  unfold wp_J9_init_at20 at h
  refine g_aload_n hC (pc := 0) 0 rfl rfl dJ9_init_0 ?_
  refine g_objInit hC (pc := 1) q417 q151 q152 (gle rfl) (gle rfl) (gle rfl) dJ9_init_1 ?_
  refine g_aload_n hC (pc := 4) 0 rfl rfl dJ9_init_4 ?_
  refine g_aload_n hC (pc := 5) 0 rfl rfl dJ9_init_5 ?_
  refine g_put hC (pc := 6) in_J18 (ci := 20) rfl 0 (by decide) tyJ18_ok nmJ18 q659 (Or.inl rfl) rfl (gnarO _ _) (gfitO _ _) h dJ9_init_6 (fun G1 h => ?_)
  refine g_aload_n hC (pc := 9) 0 rfl rfl dJ9_init_9 ?_
  refine g_statQ hC (pc := 10) (List.mem_of_getElem? (i := 0) rfl) q418 (fun _ _ h => h) dJ9_init_10 ?_
  refine g_put hC (pc := 13) in_J18 (ci := 20) rfl 1 (by decide) tyJ18_ok nmJ18 q660 (Or.inl rfl) rfl (gnarA _ _) (gfitA _ _) h dJ9_init_13 (fun G2 h => ?_)
  refine g_aload_n hC (pc := 16) 0 rfl rfl dJ9_init_16 ?_
  refine g_statQ hC (pc := 17) (List.mem_of_getElem? (i := 1) rfl) q420 (fun _ _ h => h) dJ9_init_17 ?_
  refine g_put hC (pc := 20) in_J18 (ci := 20) rfl 2 (by decide) tyJ18_ok nmJ18 q661 (Or.inl rfl) rfl (gnarO _ _) (gfitO _ _) h dJ9_init_20 (fun G3 h => ?_)
  refine g_aload_n hC (pc := 23) 0 rfl rfl dJ9_init_23 ?_
  refine g_fill hC (pc := 24) (ci := 20) 1 4 rfl (by decide) (by decide) ⟨rfl, rfl, rfl⟩ ⟨rfl, rfl, rfl⟩ q405 q402 q401 (gle rfl) (gle rfl) (gle rfl) h dJ9_init_24 (fun h => ?_)
  refine g_pop hC (pc := 27) rfl dJ9_init_27 ?_
  exact g_vret hC (pc := 28) (hK _ h) dJ9_init_28
theorem m_J9_init_at20 {l : Launch} (hfl : l.stackTraces = false) {E : gE} {G : gS} {t0 : Nat} {X : Nat → gS → Prop} {K : gS → Prop} (h : wp_J9_init_at20 (gAd E) G t0 X K) : gMet l yJ9_init (ws_ yJ9_init cJ9_init 1 none) 4 100 [vQ (some t0)] E G (gRv K) X :=
  g_met hfl (plainFor_of_name (by decide +kernel)) rfl rfl rfl (gle rfl) (fun p e R s m args below meth c hC => w_J9_init_at20 hC (fun _ h => h) (fun _ _ h => h) h)
def wp_J10_init_3_at20 (ad : Nat → Nat) (G : gS) (t0 : Nat) (X : Nat → gS → Prop) (K : gS → Prop) : Prop :=
  wp_J9_init_at20 ad G t0  X (fun G1 => K G1)
theorem w_J10_init_3_at20 {C : gCx} (hC : gOk C "java/lang/Exception" cJ10_init_3 [] none "<init>" 1 5 128) {K : gS → Prop} {X : Nat → gS → Prop} (hK : ∀ G, K G → cxK C none G) (hX : ∀ q G, X q G → cxX C q G) {G : gS} {t0 : Nat} (h : wp_J10_init_3_at20 (cxA C) G t0 X K) : gGo C G 0 [(0, vQ (some t0))] [] := by
  unfold wp_J10_init_3_at20 at h
  refine g_aload_n hC (pc := 0) 0 rfl rfl dJ10_init_3_0 ?_
  refine g_callI hC (pc := 1) (As := []) gc_J9_init (m_J9_init_at20 hC.fl h) rfl q1153 q415 (gle rfl) (gle rfl) rfl (gle rfl) rfl dJ10_init_3_1 (gk_v fun G1 h => ?_) (fun _ _ h hio => g_out0 hC (hX _ _ h) hio)
  exact g_vret hC (pc := 4) (hK _ h) dJ10_init_3_4
theorem m_J10_init_3_at20 {l : Launch} (hfl : l.stackTraces = false) {E : gE} {G : gS} {t0 : Nat} {X : Nat → gS → Prop} {K : gS → Prop} (h : wp_J10_init_3_at20 (gAd E) G t0 X K) : gMet l yJ10_init_3 (ws_ yJ10_init_3 cJ10_init_3 1 none) 5 128 [vQ (some t0)] E G (gRv K) X :=
  g_met hfl (plainFor_of_name (by decide +kernel)) rfl rfl rfl (gle rfl) (fun p e R s m args below meth c hC => w_J10_init_3_at20 hC (fun _ h => h) (fun _ _ h => h) h)
def wp_J17_init_2_at20 (ad : Nat → Nat) (G : gS) (t0 : Nat) (X : Nat → gS → Prop) (K : gS → Prop) : Prop :=
  wp_J10_init_3_at20 ad G t0  X (fun G1 => K G1)
theorem w_J17_init_2_at20 {C : gCx} (hC : gOk C "java/lang/RuntimeException" cJ17_init_2 [] none "<init>" 1 6 156) {K : gS → Prop} {X : Nat → gS → Prop} (hK : ∀ G, K G → cxK C none G) (hX : ∀ q G, X q G → cxX C q G) {G : gS} {t0 : Nat} (h : wp_J17_init_2_at20 (cxA C) G t0 X K) : gGo C G 0 [(0, vQ (some t0))] [] := by
  unfold wp_J17_init_2_at20 at h
  refine g_aload_n hC (pc := 0) 0 rfl rfl dJ17_init_2_0 ?_
  refine g_callI hC (pc := 1) (As := []) gc_J10_init_3 (m_J10_init_3_at20 hC.fl h) rfl q1150 q1151 (gle rfl) (gle rfl) rfl (gle rfl) rfl dJ17_init_2_1 (gk_v fun G1 h => ?_) (fun _ _ h hio => g_out0 hC (hX _ _ h) hio)
  exact g_vret hC (pc := 4) (hK _ h) dJ17_init_2_4
theorem m_J17_init_2_at20 {l : Launch} (hfl : l.stackTraces = false) {E : gE} {G : gS} {t0 : Nat} {X : Nat → gS → Prop} {K : gS → Prop} (h : wp_J17_init_2_at20 (gAd E) G t0 X K) : gMet l yJ17_init_2 (ws_ yJ17_init_2 cJ17_init_2 1 none) 6 156 [vQ (some t0)] E G (gRv K) X :=
  g_met hfl (plainFor_of_name (by decide +kernel)) rfl rfl rfl (gle rfl) (fun p e R s m args below meth c hC => w_J17_init_2_at20 hC (fun _ h => h) (fun _ _ h => h) h)
def wp_J18_init_2 (ad : Nat → Nat) (G : gS) (t0 : Nat) (X : Nat → gS → Prop) (K : gS → Prop) : Prop :=
  wp_J17_init_2_at20 ad G t0  X (fun G1 => K G1)
theorem w_J18_init_2 {C : gCx} (hC : gOk C "java/lang/IndexOutOfBoundsException" cJ18_init_2 [] none "<init>" 1 7 184) {K : gS → Prop} {X : Nat → gS → Prop} (hK : ∀ G, K G → cxK C none G) (hX : ∀ q G, X q G → cxX C q G) {G : gS} {t0 : Nat} (h : wp_J18_init_2 (cxA C) G t0 X K) : gGo C G 0 [(0, vQ (some t0))] [] := by
  unfold wp_J18_init_2 at h
  refine g_aload_n hC (pc := 0) 0 rfl rfl dJ18_init_2_0 ?_
  refine g_callI hC (pc := 1) (As := []) gc_J17_init_2 (m_J17_init_2_at20 hC.fl h) rfl q1265 q1148 (gle rfl) (gle rfl) rfl (gle rfl) rfl dJ18_init_2_1 (gk_v fun G1 h => ?_) (fun _ _ h hio => g_out0 hC (hX _ _ h) hio)
  exact g_vret hC (pc := 4) (hK _ h) dJ18_init_2_4
theorem gc_J18_init_2 : gCode yJ18_init_2 cJ18_init_2 1 none 0 := ⟨q1264, q121, ⟨by decide, by decide⟩, rfl⟩
theorem m_J18_init_2 {l : Launch} (hfl : l.stackTraces = false) {E : gE} {G : gS} {t0 : Nat} {X : Nat → gS → Prop} {K : gS → Prop} (h : wp_J18_init_2 (gAd E) G t0 X K) : gMet l yJ18_init_2 (ws_ yJ18_init_2 cJ18_init_2 1 none) 7 184 [vQ (some t0)] E G (gRv K) X :=
  g_met hfl (plainFor_of_name (by decide +kernel)) rfl rfl rfl (gle rfl) (fun p e R s m args below meth c hC => w_J18_init_2 hC (fun _ h => h) (fun _ _ h => h) h)
def wp_J9_init_at21 (ad : Nat → Nat) (G : gS) (t0 : Nat) (X : Nat → gS → Prop) (K : gS → Prop) : Prop :=
  wPut G t0 21 0 (va_rf (some t0)) fun G1 => wPut G1 t0 21 1 (va_rf (gOp (ad 5))) fun G2 => wPut G2 t0 21 2 (va_rf (gOp (ad 6))) fun G3 => wFill G3 t0 21 1 4 (gOp (ad 5)) (K G3)
theorem w_J9_init_at21 {C : gCx} (hC : gOk C "java/lang/Throwable" cJ9_init [] none "<init>" 1 4 100) {K : gS → Prop} {X : Nat → gS → Prop} (hK : ∀ G, K G → cxK C none G) (hX : ∀ q G, X q G → cxX C q G) {G : gS} {t0 : Nat} (h : wp_J9_init_at21 (cxA C) G t0 X K) : gGo C G 0 [(0, vQ (some t0))] [] := by
  unfold wp_J9_init_at21 at h
  refine g_aload_n hC (pc := 0) 0 rfl rfl dJ9_init_0 ?_
  refine g_objInit hC (pc := 1) q417 q151 q152 (gle rfl) (gle rfl) (gle rfl) dJ9_init_1 ?_
  refine g_aload_n hC (pc := 4) 0 rfl rfl dJ9_init_4 ?_
  refine g_aload_n hC (pc := 5) 0 rfl rfl dJ9_init_5 ?_
  refine g_put hC (pc := 6) in_J21 (ci := 21) rfl 0 (by decide) tyJ21_ok nmJ21 q659 (Or.inl rfl) rfl (gnarO _ _) (gfitO _ _) h dJ9_init_6 (fun G1 h => ?_)
  refine g_aload_n hC (pc := 9) 0 rfl rfl dJ9_init_9 ?_
  refine g_statQ hC (pc := 10) (List.mem_of_getElem? (i := 0) rfl) q418 (fun _ _ h => h) dJ9_init_10 ?_
  refine g_put hC (pc := 13) in_J21 (ci := 21) rfl 1 (by decide) tyJ21_ok nmJ21 q660 (Or.inl rfl) rfl (gnarA _ _) (gfitA _ _) h dJ9_init_13 (fun G2 h => ?_)
  refine g_aload_n hC (pc := 16) 0 rfl rfl dJ9_init_16 ?_
  refine g_statQ hC (pc := 17) (List.mem_of_getElem? (i := 1) rfl) q420 (fun _ _ h => h) dJ9_init_17 ?_
  refine g_put hC (pc := 20) in_J21 (ci := 21) rfl 2 (by decide) tyJ21_ok nmJ21 q661 (Or.inl rfl) rfl (gnarO _ _) (gfitO _ _) h dJ9_init_20 (fun G3 h => ?_)
  refine g_aload_n hC (pc := 23) 0 rfl rfl dJ9_init_23 ?_
  refine g_fill hC (pc := 24) (ci := 21) 1 4 rfl (by decide) (by decide) ⟨rfl, rfl, rfl⟩ ⟨rfl, rfl, rfl⟩ q635 q430 q633 (gle rfl) (gle rfl) (gle rfl) h dJ9_init_24 (fun h => ?_)
  refine g_pop hC (pc := 27) rfl dJ9_init_27 ?_
  exact g_vret hC (pc := 28) (hK _ h) dJ9_init_28
theorem m_J9_init_at21 {l : Launch} (hfl : l.stackTraces = false) {E : gE} {G : gS} {t0 : Nat} {X : Nat → gS → Prop} {K : gS → Prop} (h : wp_J9_init_at21 (gAd E) G t0 X K) : gMet l yJ9_init (ws_ yJ9_init cJ9_init 1 none) 4 100 [vQ (some t0)] E G (gRv K) X :=
  g_met hfl (plainFor_of_name (by decide +kernel)) rfl rfl rfl (gle rfl) (fun p e R s m args below meth c hC => w_J9_init_at21 hC (fun _ h => h) (fun _ _ h => h) h)
def wp_J10_init_3_at21 (ad : Nat → Nat) (G : gS) (t0 : Nat) (X : Nat → gS → Prop) (K : gS → Prop) : Prop :=
  wp_J9_init_at21 ad G t0  X (fun G1 => K G1)
theorem w_J10_init_3_at21 {C : gCx} (hC : gOk C "java/lang/Exception" cJ10_init_3 [] none "<init>" 1 5 128) {K : gS → Prop} {X : Nat → gS → Prop} (hK : ∀ G, K G → cxK C none G) (hX : ∀ q G, X q G → cxX C q G) {G : gS} {t0 : Nat} (h : wp_J10_init_3_at21 (cxA C) G t0 X K) : gGo C G 0 [(0, vQ (some t0))] [] := by
  unfold wp_J10_init_3_at21 at h
  refine g_aload_n hC (pc := 0) 0 rfl rfl dJ10_init_3_0 ?_
  refine g_callI hC (pc := 1) (As := []) gc_J9_init (m_J9_init_at21 hC.fl h) rfl q1153 q415 (gle rfl) (gle rfl) rfl (gle rfl) rfl dJ10_init_3_1 (gk_v fun G1 h => ?_) (fun _ _ h hio => g_out0 hC (hX _ _ h) hio)
  exact g_vret hC (pc := 4) (hK _ h) dJ10_init_3_4
theorem m_J10_init_3_at21 {l : Launch} (hfl : l.stackTraces = false) {E : gE} {G : gS} {t0 : Nat} {X : Nat → gS → Prop} {K : gS → Prop} (h : wp_J10_init_3_at21 (gAd E) G t0 X K) : gMet l yJ10_init_3 (ws_ yJ10_init_3 cJ10_init_3 1 none) 5 128 [vQ (some t0)] E G (gRv K) X :=
  g_met hfl (plainFor_of_name (by decide +kernel)) rfl rfl rfl (gle rfl) (fun p e R s m args below meth c hC => w_J10_init_3_at21 hC (fun _ h => h) (fun _ _ h => h) h)
def wp_J17_init_2_at21 (ad : Nat → Nat) (G : gS) (t0 : Nat) (X : Nat → gS → Prop) (K : gS → Prop) : Prop :=
  wp_J10_init_3_at21 ad G t0  X (fun G1 => K G1)
theorem w_J17_init_2_at21 {C : gCx} (hC : gOk C "java/lang/RuntimeException" cJ17_init_2 [] none "<init>" 1 6 156) {K : gS → Prop} {X : Nat → gS → Prop} (hK : ∀ G, K G → cxK C none G) (hX : ∀ q G, X q G → cxX C q G) {G : gS} {t0 : Nat} (h : wp_J17_init_2_at21 (cxA C) G t0 X K) : gGo C G 0 [(0, vQ (some t0))] [] := by
  unfold wp_J17_init_2_at21 at h
  refine g_aload_n hC (pc := 0) 0 rfl rfl dJ17_init_2_0 ?_
  refine g_callI hC (pc := 1) (As := []) gc_J10_init_3 (m_J10_init_3_at21 hC.fl h) rfl q1150 q1151 (gle rfl) (gle rfl) rfl (gle rfl) rfl dJ17_init_2_1 (gk_v fun G1 h => ?_) (fun _ _ h hio => g_out0 hC (hX _ _ h) hio)
  exact g_vret hC (pc := 4) (hK _ h) dJ17_init_2_4
theorem m_J17_init_2_at21 {l : Launch} (hfl : l.stackTraces = false) {E : gE} {G : gS} {t0 : Nat} {X : Nat → gS → Prop} {K : gS → Prop} (h : wp_J17_init_2_at21 (gAd E) G t0 X K) : gMet l yJ17_init_2 (ws_ yJ17_init_2 cJ17_init_2 1 none) 6 156 [vQ (some t0)] E G (gRv K) X :=
  g_met hfl (plainFor_of_name (by decide +kernel)) rfl rfl rfl (gle rfl) (fun p e R s m args below meth c hC => w_J17_init_2_at21 hC (fun _ h => h) (fun _ _ h => h) h)
def wp_J21_init_2 (ad : Nat → Nat) (G : gS) (t0 : Nat) (X : Nat → gS → Prop) (K : gS → Prop) : Prop :=
  wp_J17_init_2_at21 ad G t0  X (fun G1 => K G1)
theorem w_J21_init_2 {C : gCx} (hC : gOk C "java/lang/IllegalArgumentException" cJ21_init_2 [] none "<init>" 1 7 184) {K : gS → Prop} {X : Nat → gS → Prop} (hK : ∀ G, K G → cxK C none G) (hX : ∀ q G, X q G → cxX C q G) {G : gS} {t0 : Nat} (h : wp_J21_init_2 (cxA C) G t0 X K) : gGo C G 0 [(0, vQ (some t0))] [] := by
  unfold wp_J21_init_2 at h
  refine g_aload_n hC (pc := 0) 0 rfl rfl dJ21_init_2_0 ?_
  refine g_callI hC (pc := 1) (As := []) gc_J17_init_2 (m_J17_init_2_at21 hC.fl h) rfl q1270 q1148 (gle rfl) (gle rfl) rfl (gle rfl) rfl dJ21_init_2_1 (gk_v fun G1 h => ?_) (fun _ _ h hio => g_out0 hC (hX _ _ h) hio)
  exact g_vret hC (pc := 4) (hK _ h) dJ21_init_2_4
theorem gc_J21_init_2 : gCode yJ21_init_2 cJ21_init_2 1 none 0 := ⟨q1269, q125, ⟨by decide, by decide⟩, rfl⟩
theorem m_J21_init_2 {l : Launch} (hfl : l.stackTraces = false) {E : gE} {G : gS} {t0 : Nat} {X : Nat → gS → Prop} {K : gS → Prop} (h : wp_J21_init_2 (gAd E) G t0 X K) : gMet l yJ21_init_2 (ws_ yJ21_init_2 cJ21_init_2 1 none) 7 184 [vQ (some t0)] E G (gRv K) X :=
  g_met hfl (plainFor_of_name (by decide +kernel)) rfl rfl rfl (gle rfl) (fun p e R s m args below meth c hC => w_J21_init_2 hC (fun _ h => h) (fun _ _ h => h) h)
def wp_J9_init_at22 (ad : Nat → Nat) (G : gS) (t0 : Nat) (X : Nat → gS → Prop) (K : gS → Prop) : Prop :=
  wPut G t0 22 0 (va_rf (some t0)) fun G1 => wPut G1 t0 22 1 (va_rf (gOp (ad 5))) fun G2 => wPut G2 t0 22 2 (va_rf (gOp (ad 6))) fun G3 => wFill G3 t0 22 1 4 (gOp (ad 5)) (K G3)
theorem w_J9_init_at22 {C : gCx} (hC : gOk C "java/lang/Throwable" cJ9_init [] none "<init>" 1 4 100) {K : gS → Prop} {X : Nat → gS → Prop} (hK : ∀ G, K G → cxK C none G) (hX : ∀ q G, X q G → cxX C q G) {G : gS} {t0 : Nat} (h : wp_J9_init_at22 (cxA C) G t0 X K) : gGo C G 0 [(0, vQ (some t0))] [] := by
  unfold wp_J9_init_at22 at h
  refine g_aload_n hC (pc := 0) 0 rfl rfl dJ9_init_0 ?_
  refine g_objInit hC (pc := 1) q417 q151 q152 (gle rfl) (gle rfl) (gle rfl) dJ9_init_1 ?_
  refine g_aload_n hC (pc := 4) 0 rfl rfl dJ9_init_4 ?_
  refine g_aload_n hC (pc := 5) 0 rfl rfl dJ9_init_5 ?_
  refine g_put hC (pc := 6) in_J24 (ci := 22) rfl 0 (by decide) tyJ24_ok nmJ24 q659 (Or.inl rfl) rfl (gnarO _ _) (gfitO _ _) h dJ9_init_6 (fun G1 h => ?_)
  refine g_aload_n hC (pc := 9) 0 rfl rfl dJ9_init_9 ?_
  refine g_statQ hC (pc := 10) (List.mem_of_getElem? (i := 0) rfl) q418 (fun _ _ h => h) dJ9_init_10 ?_
  refine g_put hC (pc := 13) in_J24 (ci := 22) rfl 1 (by decide) tyJ24_ok nmJ24 q660 (Or.inl rfl) rfl (gnarA _ _) (gfitA _ _) h dJ9_init_13 (fun G2 h => ?_)
  refine g_aload_n hC (pc := 16) 0 rfl rfl dJ9_init_16 ?_
  refine g_statQ hC (pc := 17) (List.mem_of_getElem? (i := 1) rfl) q420 (fun _ _ h => h) dJ9_init_17 ?_
  refine g_put hC (pc := 20) in_J24 (ci := 22) rfl 2 (by decide) tyJ24_ok nmJ24 q661 (Or.inl rfl) rfl (gnarO _ _) (gfitO _ _) h dJ9_init_20 (fun G3 h => ?_)
  refine g_aload_n hC (pc := 23) 0 rfl rfl dJ9_init_23 ?_
  refine g_fill hC (pc := 24) (ci := 22) 1 4 rfl (by decide) (by decide) ⟨rfl, rfl, rfl⟩ ⟨rfl, rfl, rfl⟩ q1175 q431 q1173 (gle rfl) (gle rfl) (gle rfl) h dJ9_init_24 (fun h => ?_)
  refine g_pop hC (pc := 27) rfl dJ9_init_27 ?_
  exact g_vret hC (pc := 28) (hK _ h) dJ9_init_28
theorem m_J9_init_at22 {l : Launch} (hfl : l.stackTraces = false) {E : gE} {G : gS} {t0 : Nat} {X : Nat → gS → Prop} {K : gS → Prop} (h : wp_J9_init_at22 (gAd E) G t0 X K) : gMet l yJ9_init (ws_ yJ9_init cJ9_init 1 none) 4 100 [vQ (some t0)] E G (gRv K) X :=
  g_met hfl (plainFor_of_name (by decide +kernel)) rfl rfl rfl (gle rfl) (fun p e R s m args below meth c hC => w_J9_init_at22 hC (fun _ h => h) (fun _ _ h => h) h)
def wp_J10_init_3_at22 (ad : Nat → Nat) (G : gS) (t0 : Nat) (X : Nat → gS → Prop) (K : gS → Prop) : Prop :=
  wp_J9_init_at22 ad G t0  X (fun G1 => K G1)
theorem w_J10_init_3_at22 {C : gCx} (hC : gOk C "java/lang/Exception" cJ10_init_3 [] none "<init>" 1 5 128) {K : gS → Prop} {X : Nat → gS → Prop} (hK : ∀ G, K G → cxK C none G) (hX : ∀ q G, X q G → cxX C q G) {G : gS} {t0 : Nat} (h : wp_J10_init_3_at22 (cxA C) G t0 X K) : gGo C G 0 [(0, vQ (some t0))] [] := by
  unfold wp_J10_init_3_at22 at h
  refine g_aload_n hC (pc := 0) 0 rfl rfl dJ10_init_3_0 ?_
  refine g_callI hC (pc := 1) (As := []) gc_J9_init (m_J9_init_at22 hC.fl h) rfl q1153 q415 (gle rfl) (gle rfl) rfl (gle rfl) rfl dJ10_init_3_1 (gk_v fun G1 h => ?_) (fun _ _ h hio => g_out0 hC (hX _ _ h) hio)
  exact g_vret hC (pc := 4) (hK _ h) dJ10_init_3_4
theorem m_J10_init_3_at22 {l : Launch} (hfl : l.stackTraces = false) {E : gE} {G : gS} {t0 : Nat} {X : Nat → gS → Prop} {K : gS → Prop} (h : wp_J10_init_3_at22 (gAd E) G t0 X K) : gMet l yJ10_init_3 (ws_ yJ10_init_3 cJ10_init_3 1 none) 5 128 [vQ (some t0)] E G (gRv K) X :=
  g_met hfl (plainFor_of_name (by decide +kernel)) rfl rfl rfl (gle rfl) (fun p e R s m args below meth c hC => w_J10_init_3_at22 hC (fun _ h => h) (fun _ _ h => h) h)
def wp_J17_init_2_at22 (ad : Nat → Nat) (G : gS) (t0 : Nat) (X : Nat → gS → Prop) (K : gS → Prop) : Prop :=
  wp_J10_init_3_at22 ad G t0  X (fun G1 => K G1)
theorem w_J17_init_2_at22 {C : gCx} (hC : gOk C "java/lang/RuntimeException" cJ17_init_2 [] none "<init>" 1 6 156) {K : gS → Prop} {X : Nat → gS → Prop} (hK : ∀ G, K G → cxK C none G) (hX : ∀ q G, X q G → cxX C q G) {G : gS} {t0 : Nat} (h : wp_J17_init_2_at22 (cxA C) G t0 X K) : gGo C G 0 [(0, vQ (some t0))] [] := by
  unfold wp_J17_init_2_at22 at h
  refine g_aload_n hC (pc := 0) 0 rfl rfl dJ17_init_2_0 ?_
  refine g_callI hC (pc := 1) (As := []) gc_J10_init_3 (m_J10_init_3_at22 hC.fl h) rfl q1150 q1151 (gle rfl) (gle rfl) rfl (gle rfl) rfl dJ17_init_2_1 (gk_v fun G1 h => ?_) (fun _ _ h hio => g_out0 hC (hX _ _ h) hio)
  exact g_vret hC (pc := 4) (hK _ h) dJ17_init_2_4
theorem m_J17_init_2_at22 {l : Launch} (hfl : l.stackTraces = false) {E : gE} {G : gS} {t0 : Nat} {X : Nat → gS → Prop} {K : gS → Prop} (h : wp_J17_init_2_at22 (gAd E) G t0 X K) : gMet l yJ17_init_2 (ws_ yJ17_init_2 cJ17_init_2 1 none) 6 156 [vQ (some t0)] E G (gRv K) X :=
  g_met hfl (plainFor_of_name (by decide +kernel)) rfl rfl rfl (gle rfl) (fun p e R s m args below meth c hC => w_J17_init_2_at22 hC (fun _ h => h) (fun _ _ h => h) h)
def wp_J24_init (ad : Nat → Nat) (G : gS) (t0 : Nat) (X : Nat → gS → Prop) (K : gS → Prop) : Prop :=
  wp_J17_init_2_at22 ad G t0  X (fun G1 => K G1)
theorem w_J24_init {C : gCx} (hC : gOk C "java/lang/IllegalStateException" cJ24_init [] none "<init>" 1 7 184) {K : gS → Prop} {X : Nat → gS → Prop} (hK : ∀ G, K G → cxK C none G) (hX : ∀ q G, X q G → cxX C q G) {G : gS} {t0 : Nat} (h : wp_J24_init (cxA C) G t0 X K) : gGo C G 0 [(0, vQ (some t0))] [] := by
  unfold wp_J24_init at h
  refine g_aload_n hC (pc := 0) 0 rfl rfl dJ24_init_0 ?_
  refine g_callI hC (pc := 1) (As := []) gc_J17_init_2 (m_J17_init_2_at22 hC.fl h) rfl q1182 q1148 (gle rfl) (gle rfl) rfl (gle rfl) rfl dJ24_init_1 (gk_v fun G1 h => ?_) (fun _ _ h hio => g_out0 hC (hX _ _ h) hio)
  exact g_vret hC (pc := 4) (hK _ h) dJ24_init_4
theorem gc_J24_init : gCode yJ24_init cJ24_init 1 none 0 := ⟨q1181, q130, ⟨by decide, by decide⟩, rfl⟩
theorem m_J24_init {l : Launch} (hfl : l.stackTraces = false) {E : gE} {G : gS} {t0 : Nat} {X : Nat → gS → Prop} {K : gS → Prop} (h : wp_J24_init (gAd E) G t0 X K) : gMet l yJ24_init (ws_ yJ24_init cJ24_init 1 none) 7 184 [vQ (some t0)] E G (gRv K) X :=
  g_met hfl (plainFor_of_name (by decide +kernel)) rfl rfl rfl (gle rfl) (fun p e R s m args below meth c hC => w_J24_init hC (fun _ h => h) (fun _ _ h => h) h)
def wp_J9_init_at24 (ad : Nat → Nat) (G : gS) (t0 : Nat) (X : Nat → gS → Prop) (K : gS → Prop) : Prop :=
  wPut G t0 24 0 (va_rf (some t0)) fun G1 => wPut G1 t0 24 1 (va_rf (gOp (ad 5))) fun G2 => wPut G2 t0 24 2 (va_rf (gOp (ad 6))) fun G3 => wFill G3 t0 24 1 4 (gOp (ad 5)) (K G3)
theorem w_J9_init_at24 {C : gCx} (hC : gOk C "java/lang/Throwable" cJ9_init [] none "<init>" 1 4 100) {K : gS → Prop} {X : Nat → gS → Prop} (hK : ∀ G, K G → cxK C none G) (hX : ∀ q G, X q G → cxX C q G) {G : gS} {t0 : Nat} (h : wp_J9_init_at24 (cxA C) G t0 X K) : gGo C G 0 [(0, vQ (some t0))] [] := by
  unfold wp_J9_init_at24 at h
  refine g_aload_n hC (pc := 0) 0 rfl rfl dJ9_init_0 ?_
  refine g_objInit hC (pc := 1) q417 q151 q152 (gle rfl) (gle rfl) (gle rfl) dJ9_init_1 ?_
  refine g_aload_n hC (pc := 4) 0 rfl rfl dJ9_init_4 ?_
  refine g_aload_n hC (pc := 5) 0 rfl rfl dJ9_init_5 ?_
  refine g_put hC (pc := 6) in_J25 (ci := 24) rfl 0 (by decide) tyJ25_ok nmJ25 q659 (Or.inl rfl) rfl (gnarO _ _) (gfitO _ _) h dJ9_init_6 (fun G1 h => ?_)
  refine g_aload_n hC (pc := 9) 0 rfl rfl dJ9_init_9 ?_
  refine g_statQ hC (pc := 10) (List.mem_of_getElem? (i := 0) rfl) q418 (fun _ _ h => h) dJ9_init_10 ?_
  refine g_put hC (pc := 13) in_J25 (ci := 24) rfl 1 (by decide) tyJ25_ok nmJ25 q660 (Or.inl rfl) rfl (gnarA _ _) (gfitA _ _) h dJ9_init_13 (fun G2 h => ?_)
  refine g_aload_n hC (pc := 16) 0 rfl rfl dJ9_init_16 ?_
  refine g_statQ hC (pc := 17) (List.mem_of_getElem? (i := 1) rfl) q420 (fun _ _ h => h) dJ9_init_17 ?_
  refine g_put hC (pc := 20) in_J25 (ci := 24) rfl 2 (by decide) tyJ25_ok nmJ25 q661 (Or.inl rfl) rfl (gnarO _ _) (gfitO _ _) h dJ9_init_20 (fun G3 h => ?_)
  refine g_aload_n hC (pc := 23) 0 rfl rfl dJ9_init_23 ?_
  refine g_fill hC (pc := 24) (ci := 24) 1 4 rfl (by decide) (by decide) ⟨rfl, rfl, rfl⟩ ⟨rfl, rfl, rfl⟩ q1280 q433 q1278 (gle rfl) (gle rfl) (gle rfl) h dJ9_init_24 (fun h => ?_)
  refine g_pop hC (pc := 27) rfl dJ9_init_27 ?_
  exact g_vret hC (pc := 28) (hK _ h) dJ9_init_28
theorem m_J9_init_at24 {l : Launch} (hfl : l.stackTraces = false) {E : gE} {G : gS} {t0 : Nat} {X : Nat → gS → Prop} {K : gS → Prop} (h : wp_J9_init_at24 (gAd E) G t0 X K) : gMet l yJ9_init (ws_ yJ9_init cJ9_init 1 none) 4 100 [vQ (some t0)] E G (gRv K) X :=
  g_met hfl (plainFor_of_name (by decide +kernel)) rfl rfl rfl (gle rfl) (fun p e R s m args below meth c hC => w_J9_init_at24 hC (fun _ h => h) (fun _ _ h => h) h)
def wp_J10_init_3_at24 (ad : Nat → Nat) (G : gS) (t0 : Nat) (X : Nat → gS → Prop) (K : gS → Prop) : Prop :=
  wp_J9_init_at24 ad G t0  X (fun G1 => K G1)
theorem w_J10_init_3_at24 {C : gCx} (hC : gOk C "java/lang/Exception" cJ10_init_3 [] none "<init>" 1 5 128) {K : gS → Prop} {X : Nat → gS → Prop} (hK : ∀ G, K G → cxK C none G) (hX : ∀ q G, X q G → cxX C q G) {G : gS} {t0 : Nat} (h : wp_J10_init_3_at24 (cxA C) G t0 X K) : gGo C G 0 [(0, vQ (some t0))] [] := by
  unfold wp_J10_init_3_at24 at h
  refine g_aload_n hC (pc := 0) 0 rfl rfl dJ10_init_3_0 ?_
  refine g_callI hC (pc := 1) (As := []) gc_J9_init (m_J9_init_at24 hC.fl h) rfl q1153 q415 (gle rfl) (gle rfl) rfl (gle rfl) rfl dJ10_init_3_1 (gk_v fun G1 h => ?_) (fun _ _ h hio => g_out0 hC (hX _ _ h) hio)
  exact g_vret hC (pc := 4) (hK _ h) dJ10_init_3_4
theorem m_J10_init_3_at24 {l : Launch} (hfl : l.stackTraces = false) {E : gE} {G : gS} {t0 : Nat} {X : Nat → gS → Prop} {K : gS → Prop} (h : wp_J10_init_3_at24 (gAd E) G t0 X K) : gMet l yJ10_init_3 (ws_ yJ10_init_3 cJ10_init_3 1 none) 5 128 [vQ (some t0)] E G (gRv K) X :=
  g_met hfl (plainFor_of_name (by decide +kernel)) rfl rfl rfl (gle rfl) (fun p e R s m args below meth c hC => w_J10_init_3_at24 hC (fun _ h => h) (fun _ _ h => h) h)
def wp_J17_init_2_at24 (ad : Nat → Nat) (G : gS) (t0 : Nat) (X : Nat → gS → Prop) (K : gS → Prop) : Prop :=
  wp_J10_init_3_at24 ad G t0  X (fun G1 => K G1)
theorem w_J17_init_2_at24 {C : gCx} (hC : gOk C "java/lang/RuntimeException" cJ17_init_2 [] none "<init>" 1 6 156) {K : gS → Prop} {X : Nat → gS → Prop} (hK : ∀ G, K G → cxK C none G) (hX : ∀ q G, X q G → cxX C q G) {G : gS} {t0 : Nat} (h : wp_J17_init_2_at24 (cxA C) G t0 X K) : gGo C G 0 [(0, vQ (some t0))] [] := by
  unfold wp_J17_init_2_at24 at h
  refine g_aload_n hC (pc := 0) 0 rfl rfl dJ17_init_2_0 ?_
  refine g_callI hC (pc := 1) (As := []) gc_J10_init_3 (m_J10_init_3_at24 hC.fl h) rfl q1150 q1151 (gle rfl) (gle rfl) rfl (gle rfl) rfl dJ17_init_2_1 (gk_v fun G1 h => ?_) (fun _ _ h hio => g_out0 hC (hX _ _ h) hio)
  exact g_vret hC (pc := 4) (hK _ h) dJ17_init_2_4
theorem m_J17_init_2_at24 {l : Launch} (hfl : l.stackTraces = false) {E : gE} {G : gS} {t0 : Nat} {X : Nat → gS → Prop} {K : gS → Prop} (h : wp_J17_init_2_at24 (gAd E) G t0 X K) : gMet l yJ17_init_2 (ws_ yJ17_init_2 cJ17_init_2 1 none) 6 156 [vQ (some t0)] E G (gRv K) X :=
  g_met hfl (plainFor_of_name (by decide +kernel)) rfl rfl rfl (gle rfl) (fun p e R s m args below meth c hC => w_J17_init_2_at24 hC (fun _ h => h) (fun _ _ h => h) h)
def wp_J25_init (ad : Nat → Nat) (G : gS) (t0 : Nat) (X : Nat → gS → Prop) (K : gS → Prop) : Prop :=
  wp_J17_init_2_at24 ad G t0  X (fun G1 => K G1)
theorem w_J25_init {C : gCx} (hC : gOk C "java/lang/UnsupportedOperationException" cJ25_init [] none "<init>" 1 7 184) {K : gS → Prop} {X : Nat → gS → Prop} (hK : ∀ G, K G → cxK C none G) (hX : ∀ q G, X q G → cxX C q G) {G : gS} {t0 : Nat} (h : wp_J25_init (cxA C) G t0 X K) : gGo C G 0 [(0, vQ (some t0))] [] := by
  unfold wp_J25_init at h
  refine g_aload_n hC (pc := 0) 0 rfl rfl dJ25_init_0 ?_
  refine g_callI hC (pc := 1) (As := []) gc_J17_init_2 (m_J17_init_2_at24 hC.fl h) rfl q1287 q1148 (gle rfl) (gle rfl) rfl (gle rfl) rfl dJ25_init_1 (gk_v fun G1 h => ?_) (fun _ _ h hio => g_out0 hC (hX _ _ h) hio)
  exact g_vret hC (pc := 4) (hK _ h) dJ25_init_4
theorem gc_J25_init : gCode yJ25_init cJ25_init 1 none 0 := ⟨q1286, q131, ⟨by decide, by decide⟩, rfl⟩
theorem m_J25_init {l : Launch} (hfl : l.stackTraces = false) {E : gE} {G : gS} {t0 : Nat} {X : Nat → gS → Prop} {K : gS → Prop} (h : wp_J25_init (gAd E) G t0 X K) : gMet l yJ25_init (ws_ yJ25_init cJ25_init 1 none) 7 184 [vQ (some t0)] E G (gRv K) X :=
  g_met hfl (plainFor_of_name (by decide +kernel)) rfl rfl rfl (gle rfl) (fun p e R s m args below meth c hC => w_J25_init hC (fun _ h => h) (fun _ _ h => h) h)
def wp_X5_asPublicException_105 (ad : Nat → Nat) (X : Nat → gS → Prop) (K : Option Nat → gS → Prop) (G : gS) (x2 : Int32) : Prop :=
  (x2 = (0 : Int32) → wNew G 20 6 [.null, .null, .null, .null, .null, .int 0] fun c2 G1 => wp_J18_init_2 ad G1 c2  X (fun G3 => K (some c2) G3)) ∧ (x2 = (1 : Int32) → wNew G 21 6 [.null, .null, .null, .null, .null, .int 0] fun c5 G4 => wp_J21_init_2 ad G4 c5  X (fun G6 => K (some c5) G6)) ∧ (x2 = (2 : Int32) → wNew G 22 6 [.null, .null, .null, .null, .null, .int 0] fun c8 G7 => wp_J24_init ad G7 c8  X (fun G9 => K (some c8) G9)) ∧ (x2 = (3 : Int32) → wNew G 23 6 [.null, .null, .null, .null, .null, .int 0] fun c11 G10 => wp_J23_init ad G10 c11  X (fun G12 => K (some c11) G12)) ∧ (¬ x2 = (0 : Int32) → ¬ x2 = (1 : Int32) → ¬ x2 = (2 : Int32) → ¬ x2 = (3 : Int32) → wNew G 24 6 [.null, .null, .null, .null, .null, .int 0] fun c14 G13 => wp_J25_init ad G13 c14  X (fun G15 => K (some c14) G15))
theorem w_X5_asPublicException_105 {C : gCx} (hC : gOk C "GoblinHousehold$ConditionFailure" cX5_asPublicException [] (some (Jvm.ClassFile.FieldType.object "java/lang/RuntimeException")) "asPublicException" 3 16 482) {K : Option Nat → gS → Prop} {X : Nat → gS → Prop} (hK : ∀ r G, K r G → cxK C (some (vQ r)) G) (hX : ∀ q G, X q G → cxX C q G) {G : gS} {x2 : Int32} (h : wp_X5_asPublicException_105 (cxA C) X K G x2) : gGo C G 105 [(2, vI x2)] [] := by
  unfold wp_X5_asPublicException_105 at h
  refine g_iload_n hC (pc := 105) 0 rfl rfl dX5_asPublicException_105 ?_
  by_cases e0 : x2 = (0 : Int32)
  · refine g_tableIn hC (pc := 106) 136 (by rw [e0]; decide) (by rw [e0]; decide) (by rw [e0]; rfl) (by decide) dX5_asPublicException_106 ?_
    replace h := h.1 e0
    refine g_new hC (pc := 136) in_J18 (ci := 20) rfl (by decide) tyJ18_ok q1261 q393 q121 gdf_J18 h dX5_asPublicException_136 (fun c2 G1 h => ?_)
    refine g_dup hC (pc := 139) rfl dX5_asPublicException_139 ?_
    refine g_callI hC (pc := 140) (As := []) gc_J18_init_2 (m_J18_init_2 hC.fl h) rfl q1262 q1263 (gle rfl) (gle rfl) rfl (gle rfl) rfl dX5_asPublicException_140 (gk_v fun G3 h => ?_) (fun _ _ h hio => g_out0 hC (hX _ _ h) hio)
    exact g_aret hC (pc := 143) (Or.inl ⟨_, rfl⟩) (hK _ _ h) dX5_asPublicException_143
  by_cases e1 : x2 = (1 : Int32)
  · refine g_tableIn hC (pc := 106) 144 (by rw [e1]; decide) (by rw [e1]; decide) (by rw [e1]; rfl) (by decide) dX5_asPublicException_106 ?_
    replace h := h.2.1 e1
    refine g_new hC (pc := 144) in_J21 (ci := 21) rfl (by decide) tyJ21_ok q1266 q631 q125 gdf_J21 h dX5_asPublicException_144 (fun c5 G4 h => ?_)
    refine g_dup hC (pc := 147) rfl dX5_asPublicException_147 ?_
    refine g_callI hC (pc := 148) (As := []) gc_J21_init_2 (m_J21_init_2 hC.fl h) rfl q1267 q1268 (gle rfl) (gle rfl) rfl (gle rfl) rfl dX5_asPublicException_148 (gk_v fun G6 h => ?_) (fun _ _ h hio => g_out0 hC (hX _ _ h) hio)
    exact g_aret hC (pc := 151) (Or.inl ⟨_, rfl⟩) (hK _ _ h) dX5_asPublicException_151
  by_cases e2 : x2 = (2 : Int32)
  · refine g_tableIn hC (pc := 106) 152 (by rw [e2]; decide) (by rw [e2]; decide) (by rw [e2]; rfl) (by decide) dX5_asPublicException_106 ?_
    replace h := h.2.2.1 e2
    refine g_new hC (pc := 152) in_J24 (ci := 22) rfl (by decide) tyJ24_ok q1271 q1171 q130 gdf_J24 h dX5_asPublicException_152 (fun c8 G7 h => ?_)
    refine g_dup hC (pc := 155) rfl dX5_asPublicException_155 ?_
    refine g_callI hC (pc := 156) (As := []) gc_J24_init (m_J24_init hC.fl h) rfl q1272 q1180 (gle rfl) (gle rfl) rfl (gle rfl) rfl dX5_asPublicException_156 (gk_v fun G9 h => ?_) (fun _ _ h hio => g_out0 hC (hX _ _ h) hio)
    exact g_aret hC (pc := 159) (Or.inl ⟨_, rfl⟩) (hK _ _ h) dX5_asPublicException_159
  by_cases e3 : x2 = (3 : Int32)
  · refine g_tableIn hC (pc := 106) 160 (by rw [e3]; decide) (by rw [e3]; decide) (by rw [e3]; rfl) (by decide) dX5_asPublicException_106 ?_
    replace h := h.2.2.2.1 e3
    refine g_new hC (pc := 160) in_J23 (ci := 23) rfl (by decide) tyJ23_ok q1273 q1136 q129 gdf_J23 h dX5_asPublicException_160 (fun c11 G10 h => ?_)
    refine g_dup hC (pc := 163) rfl dX5_asPublicException_163 ?_
    refine g_callI hC (pc := 164) (As := []) gc_J23_init (m_J23_init hC.fl h) rfl q1274 q1145 (gle rfl) (gle rfl) rfl (gle rfl) rfl dX5_asPublicException_164 (gk_v fun G12 h => ?_) (fun _ _ h hio => g_out0 hC (hX _ _ h) hio)
    exact g_aret hC (pc := 167) (Or.inl ⟨_, rfl⟩) (hK _ _ h) dX5_asPublicException_167
  refine g_tableOut hC (pc := 106) 168 (by have f0 := gne (n := 0) rfl e0; have f1 := gne (n := 1) rfl e1; have f2 := gne (n := 2) rfl e2; have f3 := gne (n := 3) rfl e3; omega) (by decide) dX5_asPublicException_106 ?_
  replace h := h.2.2.2.2 e0 e1 e2 e3
  refine g_new hC (pc := 168) in_J25 (ci := 24) rfl (by decide) tyJ25_ok q1275 q1276 q131 gdf_J25 h dX5_asPublicException_168 (fun c14 G13 h => ?_)
  refine g_dup hC (pc := 171) rfl dX5_asPublicException_171 ?_
  refine g_callI hC (pc := 172) (As := []) gc_J25_init (m_J25_init hC.fl h) rfl q1284 q1285 (gle rfl) (gle rfl) rfl (gle rfl) rfl dX5_asPublicException_172 (gk_v fun G15 h => ?_) (fun _ _ h hio => g_out0 hC (hX _ _ h) hio)
  exact g_aret hC (pc := 175) (Or.inl ⟨_, rfl⟩) (hK _ _ h) dX5_asPublicException_175
def wp_X5_asPublicException (ad : Nat → Nat) (G : gS) (t0 : Nat) (X : Nat → gS → Prop) (K : Option Nat → gS → Prop) : Prop :=
  wGetQ G t0 17 6 fun q1 => wNN q1 fun c2 => (gIs G c2 7 ∧ wp_J7_hashCode ad G c2  X (fun r4 G3 => (r4 = (-1662836996 : Int32) → (gIs G3 c2 7 ∧ wp_J7_equals ad G3 c2 (some (ad 116)) X (fun r6 G5 => (r6 = (0 : Int32) → wp_X5_asPublicException_105 ad X K G5 (-1 : Int32)) ∧ (¬ r6 = (0 : Int32) → wp_X5_asPublicException_105 ad X K G5 (3 : Int32))))) ∧ (r4 = (-1589682499 : Int32) → (gIs G3 c2 7 ∧ wp_J7_equals ad G3 c2 (some (ad 114)) X (fun r8 G7 => (r8 = (0 : Int32) → wp_X5_asPublicException_105 ad X K G7 (-1 : Int32)) ∧ (¬ r8 = (0 : Int32) → wp_X5_asPublicException_105 ad X K G7 (1 : Int32))))) ∧ (r4 = (100346066 : Int32) → (gIs G3 c2 7 ∧ wp_J7_equals ad G3 c2 (some (ad 113)) X (fun r10 G9 => (r10 = (0 : Int32) → wp_X5_asPublicException_105 ad X K G9 (-1 : Int32)) ∧ (¬ r10 = (0 : Int32) → wp_X5_asPublicException_105 ad X K G9 (0 : Int32))))) ∧ (r4 = (109757585 : Int32) → (gIs G3 c2 7 ∧ wp_J7_equals ad G3 c2 (some (ad 115)) X (fun r12 G11 => (r12 = (0 : Int32) → wp_X5_asPublicException_105 ad X K G11 (-1 : Int32)) ∧ (¬ r12 = (0 : Int32) → wp_X5_asPublicException_105 ad X K G11 (2 : Int32))))) ∧ (¬ r4 = (-1662836996 : Int32) → ¬ r4 = (-1589682499 : Int32) → ¬ r4 = (100346066 : Int32) → ¬ r4 = (109757585 : Int32) → wp_X5_asPublicException_105 ad X K G3 (-1 : Int32))))
theorem w_X5_asPublicException {C : gCx} (hC : gOk C "GoblinHousehold$ConditionFailure" cX5_asPublicException [] (some (Jvm.ClassFile.FieldType.object "java/lang/RuntimeException")) "asPublicException" 3 16 482) {K : Option Nat → gS → Prop} {X : Nat → gS → Prop} (hK : ∀ r G, K r G → cxK C (some (vQ r)) G) (hX : ∀ q G, X q G → cxX C q G) {G : gS} {t0 : Nat} (h : wp_X5_asPublicException (cxA C) G t0 X K) : gGo C G 0 [(0, vQ (some t0))] [] := by
  unfold wp_X5_asPublicException at h
  refine g_aload_n hC (pc := 0) 0 rfl rfl dX5_asPublicException_0 ?_
  refine g_getQ hC (pc := 1) in_X5 (ci := 17) rfl 6 (by decide) q911 (Or.inl rfl) h dX5_asPublicException_1 (fun q1 h => ?_)
  refine g_astore_n hC (pc := 4) (lv' := [(1, vQ q1), (0, vQ (some t0))]) rfl (by decide) rfl dX5_asPublicException_4 ?_
  refine g_iconst hC (pc := 5) (v := (-1 : Int32)) (by decide) dX5_asPublicException_5 ?_
  refine g_istore_n hC (pc := 6) (lv' := [(2, vI (-1 : Int32)), (1, vQ q1), (0, vQ (some t0))]) rfl (by decide) rfl dX5_asPublicException_6 ?_
  refine g_aload_n hC (pc := 7) 1 rfl rfl dX5_asPublicException_7 ?_
  rcases q1 with _ | c2
  · exact (gNN0 h).elim
  replace h := gNN1 h
  obtain ⟨hi, h⟩ := h
  refine g_callV hC (pc := 8) (ci := 7) (As := []) gc_J7_hashCode (m_J7_hashCode hC.fl h) rfl hi q1188 q1189 q1190 (gle rfl) (gle rfl) rfl (gle rfl) rfl dX5_asPublicException_8 (gk_i fun r4 G3 h => ?_) (fun _ _ h hio => g_out0 hC (hX _ _ h) hio)
  by_cases e0 : r4 = (-1662836996 : Int32)
  · refine g_lookup hC (pc := 11) (off := 83) 94 (by decide) (by rw [e0]; decide) (by decide) dX5_asPublicException_11 ?_
    replace h := h.1 e0
    refine g_aload_n hC (pc := 94) 1 rfl rfl dX5_asPublicException_94 ?_
    refine g_ldcS hC (pc := 95) (List.mem_of_getElem? (i := 16) rfl) dX5_asPublicException_95 ?_
    obtain ⟨hi, h⟩ := h
    refine g_callV hC (pc := 97) (ci := 7) (As := [vQ (some (cxA C 116))]) gc_J7_equals (m_J7_equals hC.fl h) rfl hi q1250 q1251 q1252 (gle rfl) (gle rfl) rfl (gle rfl) rfl dX5_asPublicException_97 (gk_i fun r6 G5 h => ?_) (fun _ _ h hio => g_out0 hC (hX _ _ h) hio)
    refine g_if_eq hC (pc := 100) 105 h (by decide) dX5_asPublicException_100 (fun h => ?_) (fun h => ?_)
    · exact g_sub [0] rfl (w_X5_asPublicException_105 hC hK hX h)
    · refine g_iconst hC (pc := 103) (v := (3 : Int32)) (by decide) dX5_asPublicException_103 ?_
      refine g_istore_n hC (pc := 104) (lv' := [(2, vI (3 : Int32)), (1, vQ (some c2)), (0, vQ (some t0))]) rfl (by decide) rfl dX5_asPublicException_104 ?_
      exact g_sub [0] rfl (w_X5_asPublicException_105 hC hK hX h)
  by_cases e1 : r4 = (-1589682499 : Int32)
  · refine g_lookup hC (pc := 11) (off := 55) 66 (by decide) (by rw [e1]; decide) (by decide) dX5_asPublicException_11 ?_
    replace h := h.2.1 e1
    refine g_aload_n hC (pc := 66) 1 rfl rfl dX5_asPublicException_66 ?_
    refine g_ldcS hC (pc := 67) (List.mem_of_getElem? (i := 14) rfl) dX5_asPublicException_67 ?_
    obtain ⟨hi, h⟩ := h
    refine g_callV hC (pc := 69) (ci := 7) (As := [vQ (some (cxA C 114))]) gc_J7_equals (m_J7_equals hC.fl h) rfl hi q1250 q1251 q1252 (gle rfl) (gle rfl) rfl (gle rfl) rfl dX5_asPublicException_69 (gk_i fun r8 G7 h => ?_) (fun _ _ h hio => g_out0 hC (hX _ _ h) hio)
    refine g_if_eq hC (pc := 72) 105 h (by decide) dX5_asPublicException_72 (fun h => ?_) (fun h => ?_)
    · exact g_sub [0] rfl (w_X5_asPublicException_105 hC hK hX h)
    · refine g_iconst hC (pc := 75) (v := (1 : Int32)) (by decide) dX5_asPublicException_75 ?_
      refine g_istore_n hC (pc := 76) (lv' := [(2, vI (1 : Int32)), (1, vQ (some c2)), (0, vQ (some t0))]) rfl (by decide) rfl dX5_asPublicException_76 ?_
      refine g_goto hC (pc := 77) 105 (by decide) dX5_asPublicException_77 ?_
      exact g_sub [0] rfl (w_X5_asPublicException_105 hC hK hX h)
  by_cases e2 : r4 = (100346066 : Int32)
  · refine g_lookup hC (pc := 11) (off := 41) 52 (by decide) (by rw [e2]; decide) (by decide) dX5_asPublicException_11 ?_
    replace h := h.2.2.1 e2
    refine g_aload_n hC (pc := 52) 1 rfl rfl dX5_asPublicException_52 ?_
    refine g_ldcS hC (pc := 53) (List.mem_of_getElem? (i := 13) rfl) dX5_asPublicException_53 ?_
    obtain ⟨hi, h⟩ := h
    refine g_callV hC (pc := 55) (ci := 7) (As := [vQ (some (cxA C 113))]) gc_J7_equals (m_J7_equals hC.fl h) rfl hi q1250 q1251 q1252 (gle rfl) (gle rfl) rfl (gle rfl) rfl dX5_asPublicException_55 (gk_i fun r10 G9 h => ?_) (fun _ _ h hio => g_out0 hC (hX _ _ h) hio)
    refine g_if_eq hC (pc := 58) 105 h (by decide) dX5_asPublicException_58 (fun h => ?_) (fun h => ?_)
    · exact g_sub [0] rfl (w_X5_asPublicException_105 hC hK hX h)
    · refine g_iconst hC (pc := 61) (v := (0 : Int32)) (by decide) dX5_asPublicException_61 ?_
      refine g_istore_n hC (pc := 62) (lv' := [(2, vI (0 : Int32)), (1, vQ (some c2)), (0, vQ (some t0))]) rfl (by decide) rfl dX5_asPublicException_62 ?_
      refine g_goto hC (pc := 63) 105 (by decide) dX5_asPublicException_63 ?_
      exact g_sub [0] rfl (w_X5_asPublicException_105 hC hK hX h)
  by_cases e3 : r4 = (109757585 : Int32)
  · refine g_lookup hC (pc := 11) (off := 69) 80 (by decide) (by rw [e3]; decide) (by decide) dX5_asPublicException_11 ?_
    replace h := h.2.2.2.1 e3
    refine g_aload_n hC (pc := 80) 1 rfl rfl dX5_asPublicException_80 ?_
    refine g_ldcS hC (pc := 81) (List.mem_of_getElem? (i := 15) rfl) dX5_asPublicException_81 ?_
    obtain ⟨hi, h⟩ := h
    refine g_callV hC (pc := 83) (ci := 7) (As := [vQ (some (cxA C 115))]) gc_J7_equals (m_J7_equals hC.fl h) rfl hi q1250 q1251 q1252 (gle rfl) (gle rfl) rfl (gle rfl) rfl dX5_asPublicException_83 (gk_i fun r12 G11 h => ?_) (fun _ _ h hio => g_out0 hC (hX _ _ h) hio)
    refine g_if_eq hC (pc := 86) 105 h (by decide) dX5_asPublicException_86 (fun h => ?_) (fun h => ?_)
    · exact g_sub [0] rfl (w_X5_asPublicException_105 hC hK hX h)
    · refine g_iconst hC (pc := 89) (v := (2 : Int32)) (by decide) dX5_asPublicException_89 ?_
      refine g_istore_n hC (pc := 90) (lv' := [(2, vI (2 : Int32)), (1, vQ (some c2)), (0, vQ (some t0))]) rfl (by decide) rfl dX5_asPublicException_90 ?_
      refine g_goto hC (pc := 91) 105 (by decide) dX5_asPublicException_91 ?_
      exact g_sub [0] rfl (w_X5_asPublicException_105 hC hK hX h)
  refine g_lookup hC (pc := 11) (off := 94) 105 (by decide) (by have f0 := (gne (n := -1662836996) (by decide) e0).symm; have f1 := (gne (n := -1589682499) (by decide) e1).symm; have f2 := (gne (n := 100346066) (by decide) e2).symm; have f3 := (gne (n := 109757585) (by decide) e3).symm; simp [Op.lookupswitch.offset, f0, f1, f2, f3]) (by decide) dX5_asPublicException_11 ?_
  replace h := h.2.2.2.2 e0 e1 e2 e3
  exact g_sub [0] rfl (w_X5_asPublicException_105 hC hK hX h)
theorem gc_X5_asPublicException : gCode yX5_asPublicException cX5_asPublicException 3 (some (Jvm.ClassFile.FieldType.object "java/lang/RuntimeException")) 0 := ⟨q1187, q109, ⟨by decide, by decide⟩, rfl⟩
theorem m_X5_asPublicException {l : Launch} (hfl : l.stackTraces = false) {E : gE} {G : gS} {t0 : Nat} {X : Nat → gS → Prop} {K : Option Nat → gS → Prop} (h : wp_X5_asPublicException (gAd E) G t0 X K) : gMet l yX5_asPublicException (ws_ yX5_asPublicException cX5_asPublicException 3 (some (Jvm.ClassFile.FieldType.object "java/lang/RuntimeException"))) 16 482 [vQ (some t0)] E G (gRq K) X :=
  g_met hfl (plainFor_of_name (by decide +kernel)) rfl rfl rfl (gle rfl) (fun p e R s m args below meth c hC => w_X5_asPublicException hC (fun _ _ h => h) (fun _ _ h => h) h)
def wp_X1_apply_21 (ad : Nat → Nat) (X : Nat → gS → Prop) (K : Int32 → gS → Prop) (G : gS) (ts0 : Nat) : Prop :=
  (gIs G ts0 17 ∧ wp_X5_asPublicException ad G ts0  X (fun q2 G1 => wNN q2 fun c3 => wThrow G1 c3 X))
theorem w_X1_apply_21 {C : gCx} (hC : gOk C "GoblinHousehold" cX1_apply [(8, 20, 21, 89)] (some .int) "apply" 4 17 512) {K : Int32 → gS → Prop} {X : Nat → gS → Prop} (hK : ∀ r G, K r G → cxK C (some (vI r)) G) (hX : ∀ q G, X q G → cxX C q G) {G : gS} {ts0 : Nat} (h : wp_X1_apply_21 (cxA C) X K G ts0) : gGo C G 21 [] [vQ (some ts0)] := by
  unfold wp_X1_apply_21 at h
  refine g_astore_n hC (pc := 21) (lv' := [(3, vQ (some ts0))]) rfl (by decide) rfl dX1_apply_21 ?_
  refine g_aload_n hC (pc := 22) 0 rfl rfl dX1_apply_22 ?_
  obtain ⟨hi, h⟩ := h
  refine g_callA hC (pc := 23) (ci := 17) (As := []) gc_X5_asPublicException (m_X5_asPublicException hC.fl h) (x := ⟨"GoblinHousehold$Failure", "asPublicException", "()Ljava/lang/RuntimeException;"⟩) (owner := "GoblinHousehold$Failure") rfl hi q1164 q1166 (List.mem_of_getElem? (i := 16) rfl) ⟨by decide, by decide⟩ rfl q1185 q1186 (gle rfl) (gle rfl) rfl (gle rfl) rfl dX1_apply_23 (gk_q fun q2 G1 h => ?_) (fun _ _ h hio => g_out hC (gcov rfl) (hX _ _ h) hio)
  rcases q2 with _ | c3
  · exact (gNN0 h).elim
  replace h := gNN1 h
  exact g_athrow hC (pc := 26) dX1_apply_26 h.1 (g_out hC (gcov rfl) (hX _ _ h.2) h.1)
def wp_X1_apply (ad : Nat → Nat) (G : gS) (t0 : Nat) (o1 : Option Nat) (X : Nat → gS → Prop) (K : Int32 → gS → Prop) : Prop :=
  wGetQ G t0 1 0 fun q1 => wNN q1 fun c2 => (gIs G c2 2 ∧ wp_X2_copy ad G c2  X (fun q4 G3 => wNN o1 fun c5 => wL_Change ad G3 c5 q4 (fun y7 G8 => (gHas G8 y7 17 ∧ (wp_X1_apply_21 ad X K G8 y7))) (fun r9 G6 => (gIs G6 t0 1 ∧ wp_X1_commit ad G6 t0 q4 r9 (fun y11 G12 => (gHas G12 y11 17 ∧ (wp_X1_apply_21 ad X K G12 y11))) (fun r13 G10 => K r13 G10)))))
theorem w_X1_apply {C : gCx} (hC : gOk C "GoblinHousehold" cX1_apply [(8, 20, 21, 89)] (some .int) "apply" 4 17 512) {K : Int32 → gS → Prop} {X : Nat → gS → Prop} (hK : ∀ r G, K r G → cxK C (some (vI r)) G) (hX : ∀ q G, X q G → cxX C q G) {G : gS} {t0 : Nat} {o1 : Option Nat} (h : wp_X1_apply (cxA C) G t0 o1 X K) : gGo C G 0 [(0, vQ (some t0)), (1, vQ o1)] [] := by
  unfold wp_X1_apply at h
  refine g_aload_n hC (pc := 0) 0 rfl rfl dX1_apply_0 ?_
  refine g_getQ hC (pc := 1) in_X1 (ci := 1) rfl 0 (by decide) q292 (Or.inl rfl) h dX1_apply_1 (fun q1 h => ?_)
  rcases q1 with _ | c2
  · exact (gNN0 h).elim
  replace h := gNN1 h
  obtain ⟨hi, h⟩ := h
  refine g_callV hC (pc := 4) (ci := 2) (As := []) gc_X2_copy (m_X2_copy hC.fl h) rfl hi q1054 q1055 q1056 (gle rfl) (gle rfl) rfl (gle rfl) rfl dX1_apply_4 (gk_q fun q4 G3 h => ?_) (fun _ _ h hio => g_out hC (gcov rfl) (hX _ _ h) hio)
  refine g_astore_n hC (pc := 7) (lv' := [(2, vQ q4), (0, vQ (some t0)), (1, vQ o1)]) rfl (by decide) rfl dX1_apply_7 ?_
  refine g_aload_n hC (pc := 8) 1 rfl rfl dX1_apply_8 ?_
  refine g_aload_n hC (pc := 9) 0 rfl rfl dX1_apply_9 ?_
  refine g_aload_n hC (pc := 10) 2 rfl rfl dX1_apply_10 ?_
  refine g_aload_n hC (pc := 11) 0 rfl rfl dX1_apply_11 ?_
  rcases o1 with _ | c5
  · exact (gNN0 h).elim
  replace h := gNN1 h
  refine g_callChange hC (pc := 12) h q1123 (gle rfl) (gle rfl) (gle rfl) dX1_apply_12 (fun r9 G6 h => ?_) (fun y7 G8 h hio => ?_)
  · obtain ⟨hi, h⟩ := h
    refine g_callV hC (pc := 17) (ci := 1) (As := [vQ q4, vI r9]) gc_X1_commit (m_X1_commit hC.fl h) rfl hi q1126 q1128 qs13 (gle rfl) (gle rfl) rfl (gle rfl) rfl dX1_apply_17 (gk_i fun r13 G10 h => ?_) (fun y11 G12 h hio => ?_)
    · exact g_iret hC (pc := 20) (hK _ _ h) dX1_apply_20
    · obtain ⟨hq, h⟩ := h
      refine g_catchI hC (pc := 17) (ci := 17) rfl hq 0 rfl (fun _ h => nomatch h) rfl (by decide) q1053 (List.mem_of_getElem? (i := 22) rfl) rfl ?_
      exact g_sub [] rfl (w_X1_apply_21 hC hK hX h)
  · obtain ⟨hq, h⟩ := h
    refine g_catchI hC (pc := 12) (ci := 17) rfl hq 0 rfl (fun _ h => nomatch h) rfl (by decide) q1053 (List.mem_of_getElem? (i := 22) rfl) rfl ?_
    exact g_sub [] rfl (w_X1_apply_21 hC hK hX h)
theorem gc_X1_apply : gCodeW yX1_apply cX1_apply 4 (some .int) [(8, 20, 21, 89)] 1 := ⟨q1052, q94, ⟨by decide, by decide⟩, rfl⟩
theorem m_X1_apply {l : Launch} (hfl : l.stackTraces = false) {E : gE} {G : gS} {t0 : Nat} {o1 : Option Nat} {X : Nat → gS → Prop} {K : Int32 → gS → Prop} (h : wp_X1_apply (gAd E) G t0 o1 X K) : gMet l yX1_apply (wsW_ yX1_apply cX1_apply 4 (some .int) [(8, 20, 21, 89)]) 17 512 [vQ (some t0), vQ o1] E G (gRi K) X :=
  g_metW hfl (plainFor_of_name (by decide +kernel)) rfl rfl rfl (gle rfl) (fun p e R s m args below meth c hC => w_X1_apply hC (fun _ _ h => h) (fun _ _ h => h) h)
def wp_X1_addGoblin (ad : Nat → Nat) (G : gS) (t0 : Nat) (x1 : Int32) (X : Nat → gS → Prop) (K : Int32 → gS → Prop) : Prop :=
  wMkL G 1 [x1] fun c2 G1 => (gIs G1 t0 1 ∧ wp_X1_apply ad G1 t0 (some c2) X (fun r4 G3 => K r4 G3))
theorem w_X1_addGoblin {C : gCx} (hC : gOk C "GoblinHousehold" cX1_addGoblin [] (some .int) "addGoblin" 2 18 3088) (hN : gNm C yX1_addGoblin) {K : Int32 → gS → Prop} {X : Nat → gS → Prop} (hK : ∀ r G, K r G → cxK C (some (vI r)) G) (hX : ∀ q G, X q G → cxX C q G) {G : gS} {t0 : Nat} {x1 : Int32} (h : wp_X1_addGoblin (cxA C) G t0 x1 X K) : gGo C G 0 [(0, vQ (some t0)), (1, vI x1)] [] := by
  unfold wp_X1_addGoblin at h
  refine g_aload_n hC (pc := 0) 0 rfl rfl dX1_addGoblin_0 ?_
  refine g_iload_n hC (pc := 1) 1 rfl rfl dX1_addGoblin_1 ?_
  refine g_indyM hC (pc := 2) (q := gSite_1) (xs := [x1]) hN (List.mem_of_getElem? (i := 1) rfl) rfl (by decide) lok_1 q3057 q877 gc_X1_lambda_addGoblin_0 rfl rfl (gle rfl) (gle rfl) rfl rfl h dX1_addGoblin_2 (fun c2 G1 h => ?_)
  obtain ⟨hi, h⟩ := h
  refine g_callVW hC (pc := 7) (ci := 1) (As := [vQ (some c2)]) gc_X1_apply (m_X1_apply hC.fl h) rfl hi q1049 q1051 qs12 (gle rfl) (gle rfl) rfl (gle rfl) rfl dX1_addGoblin_7 (gk_i fun r4 G3 h => ?_) (fun _ _ h hio => g_out0 hC (hX _ _ h) hio)
  exact g_iret hC (pc := 10) (hK _ _ h) dX1_addGoblin_10
theorem gc_X1_addGoblin : gCode yX1_addGoblin cX1_addGoblin 2 (some .int) 1 := ⟨q876, q94, ⟨by decide, by decide⟩, rfl⟩
theorem m_X1_addGoblin {l : Launch} (hfl : l.stackTraces = false) {E : gE} {G : gS} {t0 : Nat} {x1 : Int32} {X : Nat → gS → Prop} {K : Int32 → gS → Prop} (h : wp_X1_addGoblin (gAd E) G t0 x1 X K) : gMet l yX1_addGoblin (ws_ yX1_addGoblin cX1_addGoblin 2 (some .int)) 18 3088 [vQ (some t0), vI x1] E G (gRi K) X :=
  g_metN hfl (plainFor_of_name (by decide +kernel)) rfl rfl rfl (gle rfl) (fun p e R s m args below meth c hC hN => w_X1_addGoblin hC hN (fun _ _ h => h) (fun _ _ h => h) h)
def wp_X0_addGoblin_12 (ad : Nat → Nat) (X : Nat → gS → Prop) (K : Int32 → gS → Prop) (G : gS) (ts0 : Nat) : Prop :=
  K (1 : Int32) G
theorem w_X0_addGoblin_12 {C : gCx} (hC : gOk C "GoblinHouseholdLaw" cX0_addGoblin [(0, 9, 12, 13), (0, 9, 15, 15)] (some .int) "addGoblin" 4 19 3117) {K : Int32 → gS → Prop} {X : Nat → gS → Prop} (hK : ∀ r G, K r G → cxK C (some (vI r)) G) (hX : ∀ q G, X q G → cxX C q G) {G : gS} {ts0 : Nat} (h : wp_X0_addGoblin_12 (cxA C) X K G ts0) : gGo C G 12 [] [vQ (some ts0)] := by
  unfold wp_X0_addGoblin_12 at h
  refine g_astore_n hC (pc := 12) (lv' := [(3, vQ (some ts0))]) rfl (by decide) rfl dX0_addGoblin_12 ?_
  refine g_iconst hC (pc := 13) (v := (1 : Int32)) (by decide) dX0_addGoblin_13 ?_
  exact g_iret hC (pc := 14) (hK _ _ h) dX0_addGoblin_14
def wp_X0_addGoblin_15 (ad : Nat → Nat) (X : Nat → gS → Prop) (K : Int32 → gS → Prop) (G : gS) (ts0 : Nat) : Prop :=
  K (2 : Int32) G
theorem w_X0_addGoblin_15 {C : gCx} (hC : gOk C "GoblinHouseholdLaw" cX0_addGoblin [(0, 9, 12, 13), (0, 9, 15, 15)] (some .int) "addGoblin" 4 19 3117) {K : Int32 → gS → Prop} {X : Nat → gS → Prop} (hK : ∀ r G, K r G → cxK C (some (vI r)) G) (hX : ∀ q G, X q G → cxX C q G) {G : gS} {ts0 : Nat} (h : wp_X0_addGoblin_15 (cxA C) X K G ts0) : gGo C G 15 [] [vQ (some ts0)] := by
  unfold wp_X0_addGoblin_15 at h
  refine g_astore_n hC (pc := 15) (lv' := [(3, vQ (some ts0))]) rfl (by decide) rfl dX0_addGoblin_15 ?_
  refine g_iconst hC (pc := 16) (v := (2 : Int32)) (by decide) dX0_addGoblin_16 ?_
  exact g_iret hC (pc := 17) (hK _ _ h) dX0_addGoblin_17
def wp_X0_addGoblin (ad : Nat → Nat) (G : gS) (o0 : Option Nat) (x1 : Int32) (o2 : Option Nat) (X : Nat → gS → Prop) (K : Int32 → gS → Prop) : Prop :=
  wNN o0 fun c1 => (gIs G c1 1 ∧ wp_X1_addGoblin ad G c1 x1 (fun y3 G4 => (gHas G4 y3 21 ∧ (wp_X0_addGoblin_12 ad X K G4 y3)) ∨ (gHas G4 y3 22 ∧ (wp_X0_addGoblin_15 ad X K G4 y3))) (fun r5 G2 => wNN o2 fun c6 => wAstL G2 c6 (0 : Int32) ((r5).toInt64) fun G7 => K (0 : Int32) G7))
theorem w_X0_addGoblin {C : gCx} (hC : gOk C "GoblinHouseholdLaw" cX0_addGoblin [(0, 9, 12, 13), (0, 9, 15, 15)] (some .int) "addGoblin" 4 19 3117) {K : Int32 → gS → Prop} {X : Nat → gS → Prop} (hK : ∀ r G, K r G → cxK C (some (vI r)) G) (hX : ∀ q G, X q G → cxX C q G) {G : gS} {o0 : Option Nat} {x1 : Int32} {o2 : Option Nat} (h : wp_X0_addGoblin (cxA C) G o0 x1 o2 X K) : gGo C G 0 [(0, vQ o0), (1, vI x1), (2, vQ o2)] [] := by
  unfold wp_X0_addGoblin at h
  refine g_aload_n hC (pc := 0) 2 rfl rfl dX0_addGoblin_0 ?_
  refine g_iconst hC (pc := 1) (v := (0 : Int32)) (by decide) dX0_addGoblin_1 ?_
  refine g_aload_n hC (pc := 2) 0 rfl rfl dX0_addGoblin_2 ?_
  refine g_iload_n hC (pc := 3) 1 rfl rfl dX0_addGoblin_3 ?_
  rcases o0 with _ | c1
  · exact (gNN0 h).elim
  replace h := gNN1 h
  obtain ⟨hi, h⟩ := h
  refine g_callV hC (pc := 4) (ci := 1) (As := [vI x1]) gc_X1_addGoblin (m_X1_addGoblin hC.fl h) rfl hi q873 q874 q875 (gle rfl) (gle rfl) rfl (gle rfl) rfl dX0_addGoblin_4 (gk_i fun r5 G2 h => ?_) (fun y3 G4 h hio => ?_)
  · refine g_i2l hC (pc := 7) dX0_addGoblin_7 ?_
    rcases o2 with _ | c6
    · exact (gNN0 h).elim
    replace h := gNN1 h
    refine g_astL hC (pc := 8) h dX0_addGoblin_8 (fun G7 h => ?_)
    refine g_goto hC (pc := 9) 18 (by decide) dX0_addGoblin_9 ?_
    refine g_iconst hC (pc := 18) (v := (0 : Int32)) (by decide) dX0_addGoblin_18 ?_
    exact g_iret hC (pc := 19) (hK _ _ h) dX0_addGoblin_19
  · rcases h with h | h
    · obtain ⟨hq, h⟩ := h
      refine g_catchI hC (pc := 4) (ci := 21) rfl hq 0 rfl (fun _ h => nomatch h) rfl (by decide) q871 (List.mem_of_getElem? (i := 4) rfl) rfl ?_
      exact g_sub [] rfl (w_X0_addGoblin_12 hC hK hX h)
    · obtain ⟨hq, h⟩ := h
      refine g_catchI hC (pc := 4) (ci := 22) rfl hq 1 rfl (List.forall_mem_cons.mpr ⟨Or.inr ⟨by decide, "java/lang/IllegalArgumentException", q871, (List.mem_of_getElem? (i := 11) rfl)⟩, fun _ h => nomatch h⟩) rfl (by decide) q872 (List.mem_of_getElem? (i := 9) rfl) rfl ?_
      exact g_sub [] rfl (w_X0_addGoblin_15 hC hK hX h)
theorem gc_X0_addGoblin : gCodeW yX0_addGoblin cX0_addGoblin 4 (some .int) [(0, 9, 12, 13), (0, 9, 15, 15)] 3 := ⟨q870, q93, ⟨by decide, by decide⟩, rfl⟩
theorem m_X0_addGoblin {l : Launch} (hfl : l.stackTraces = false) {E : gE} {G : gS} {o0 : Option Nat} {x1 : Int32} {o2 : Option Nat} {X : Nat → gS → Prop} {K : Int32 → gS → Prop} (h : wp_X0_addGoblin (gAd E) G o0 x1 o2 X K) : gMet l yX0_addGoblin (wsW_ yX0_addGoblin cX0_addGoblin 4 (some .int) [(0, 9, 12, 13), (0, 9, 15, 15)]) 19 3117 [vQ o0, vI x1, vQ o2] E G (gRi K) X :=
  g_metW hfl (plainFor_of_name (by decide +kernel)) rfl rfl rfl (gle rfl) (fun p e R s m args below meth c hC => w_X0_addGoblin hC (fun _ _ h => h) (fun _ _ h => h) h)
def wp_X3_copies_3 (ad : Nat → Nat) (X : Nat → gS → Prop) (K : gS → Prop) (J3 : gS → Option Nat → Int32 → Option Nat → Int32 → Int32 → Prop) (G : gS) (o0 : Option Nat) (x1 : Int32) (o2 : Option Nat) (x3 : Int32) (x4 : Int32) : Prop :=
  ((91 : Int32) ≤ x4 → K G) ∧ (¬ (91 : Int32) ≤ x4 → wNN o0 fun c1 => wAldI G c1 (x1 + x4) fun i2 => wNN o2 fun c3 => wAstI G c3 (x3 + x4) i2 fun G4 => J3 G4 (some c1) x1 (some c3) x3 (x4 + (1 : Int32)))
theorem w_X3_copies_3 {C : gCx} (hC : gOk C "GoblinHouseholdModel" cX3_copies [] none "copies" 5 0 0) {K : gS → Prop} {X : Nat → gS → Prop} (hK : ∀ G, K G → cxK C none G) (hX : ∀ q G, X q G → cxX C q G) (n : Nat) : ∀ (G : gS) (o0 : Option Nat) (x1 : Int32) (o2 : Option Nat) (x3 : Int32) (x4 : Int32), gLoop (fun _ _ _ _ _ _ => False) (wp_X3_copies_3 (cxA C) X K) n G o0 x1 o2 x3 x4 → gGo C G 3 [(0, vQ o0), (1, vI x1), (2, vQ o2), (3, vI x3), (4, vI x4)] [] := by
  induction n with
  | zero => intro G o0 x1 o2 x3 x4 h; exact h.elim
  | succ n ih =>
    intro G o0 x1 o2 x3 x4 h
    have hJ3 := ih
    replace h : wp_X3_copies_3 (cxA C) X K _ G o0 x1 o2 x3 x4 := h
    unfold wp_X3_copies_3 at h
    refine g_iload hC (pc := 3) 4 rfl dX3_copies_3 ?_
    refine g_bipush hC (pc := 5) (v := (91 : Int32)) (by decide) dX3_copies_5 ?_
    refine g_icmp_ge hC (pc := 7) 28 h (by decide) dX3_copies_7 (fun h => ?_) (fun h => ?_)
    · exact g_vret hC (pc := 28) (hK _ h) dX3_copies_28
    · refine g_aload_n hC (pc := 10) 2 rfl rfl dX3_copies_10 ?_
      refine g_iload_n hC (pc := 11) 3 rfl rfl dX3_copies_11 ?_
      refine g_iload hC (pc := 12) 4 rfl dX3_copies_12 ?_
      refine g_iadd hC (pc := 14) dX3_copies_14 ?_
      refine g_aload_n hC (pc := 15) 0 rfl rfl dX3_copies_15 ?_
      refine g_iload_n hC (pc := 16) 1 rfl rfl dX3_copies_16 ?_
      refine g_iload hC (pc := 17) 4 rfl dX3_copies_17 ?_
      refine g_iadd hC (pc := 19) dX3_copies_19 ?_
      rcases o0 with _ | c1
      · exact (gNN0 h).elim
      replace h := gNN1 h
      refine g_aldI hC (pc := 20) h dX3_copies_20 (fun i2 h => ?_)
      rcases o2 with _ | c3
      · exact (gNN0 h).elim
      replace h := gNN1 h
      refine g_astI hC (pc := 21) h dX3_copies_21 (fun G4 h => ?_)
      refine g_iinc hC (pc := 22) 4 (d := (1 : Int32)) (v := (x4 + (1 : Int32))) (lv' := [(4, vI (x4 + (1 : Int32))), (0, vQ (some c1)), (1, vI x1), (2, vQ (some c3)), (3, vI x3)]) rfl (by decide) rfl (by decide) rfl dX3_copies_22 ?_
      refine g_goto hC (pc := 25) 3 (by decide) dX3_copies_25 ?_
      exact g_sub [1, 2, 3, 4, 0] rfl (hJ3 _ _ _ _ _ _ h)
def wp_X3_copies (ad : Nat → Nat) (G : gS) (o0 : Option Nat) (x1 : Int32) (o2 : Option Nat) (x3 : Int32) (X : Nat → gS → Prop) (K : gS → Prop) : Prop :=
  gLoop (fun _ _ _ _ _ _ => False) (wp_X3_copies_3 ad X K) gFuel G o0 x1 o2 x3 (0 : Int32)
theorem w_X3_copies {C : gCx} (hC : gOk C "GoblinHouseholdModel" cX3_copies [] none "copies" 5 0 0) {K : gS → Prop} {X : Nat → gS → Prop} (hK : ∀ G, K G → cxK C none G) (hX : ∀ q G, X q G → cxX C q G) {G : gS} {o0 : Option Nat} {x1 : Int32} {o2 : Option Nat} {x3 : Int32} (h : wp_X3_copies (cxA C) G o0 x1 o2 x3 X K) : gGo C G 0 [(0, vQ o0), (1, vI x1), (2, vQ o2), (3, vI x3)] [] := by
  unfold wp_X3_copies at h
  refine g_iconst hC (pc := 0) (v := (0 : Int32)) (by decide) dX3_copies_0 ?_
  refine g_istore hC (pc := 1) (lv' := [(4, vI (0 : Int32)), (0, vQ o0), (1, vI x1), (2, vQ o2), (3, vI x3)]) (by decide) rfl dX3_copies_1 ?_
  exact g_sub [1, 2, 3, 4, 0] rfl (w_X3_copies_3 hC hK hX gFuel _ _ _ _ _ _ h)
theorem gc_X3_copies : gCode yX3_copies cX3_copies 5 none 4 := ⟨q2556, q105, ⟨by decide, by decide⟩, rfl⟩
theorem m_X3_copies {l : Launch} (hfl : l.stackTraces = false) {E : gE} {G : gS} {o0 : Option Nat} {x1 : Int32} {o2 : Option Nat} {x3 : Int32} {X : Nat → gS → Prop} {K : gS → Prop} (h : wp_X3_copies (gAd E) G o0 x1 o2 x3 X K) : gMet l yX3_copies (ws_ yX3_copies cX3_copies 5 none) 0 0 [vQ o0, vI x1, vQ o2, vI x3] E G (gRv K) X :=
  g_met hfl (plainFor_of_name (by decide +kernel)) rfl rfl rfl (gle rfl) (fun p e R s m args below meth c hC => w_X3_copies hC (fun _ h => h) (fun _ _ h => h) h)
def wp_X3_begins (ad : Nat → Nat) (G : gS) (t0 : Nat) (X : Nat → gS → Prop) (K : gS → Prop) : Prop :=
  wGetQ G t0 0 0 fun q1 => wGetQ G t0 0 1 fun q2 => wp_X3_copies ad G q1 (0 : Int32) q2 (0 : Int32) X (fun G3 => K G3)
theorem w_X3_begins {C : gCx} (hC : gOk C "GoblinHouseholdModel" cX3_begins [] none "begins" 1 1 32) {K : gS → Prop} {X : Nat → gS → Prop} (hK : ∀ G, K G → cxK C none G) (hX : ∀ q G, X q G → cxX C q G) {G : gS} {t0 : Nat} (h : wp_X3_begins (cxA C) G t0 X K) : gGo C G 0 [(0, vQ (some t0))] [] := by
  unfold wp_X3_begins at h
  refine g_aload_n hC (pc := 0) 0 rfl rfl dX3_begins_0 ?_
  refine g_getQ hC (pc := 1) in_X3 (ci := 0) rfl 0 (by decide) q2477 (Or.inl rfl) h dX3_begins_1 (fun q1 h => ?_)
  refine g_iconst hC (pc := 4) (v := (0 : Int32)) (by decide) dX3_begins_4 ?_
  refine g_aload_n hC (pc := 5) 0 rfl rfl dX3_begins_5 ?_
  refine g_getQ hC (pc := 6) in_X3 (ci := 0) rfl 1 (by decide) q2478 (Or.inl rfl) h dX3_begins_6 (fun q2 h => ?_)
  refine g_iconst hC (pc := 9) (v := (0 : Int32)) (by decide) dX3_begins_9 ?_
  refine g_callS hC (pc := 10) (b := 0) (As := [vQ q1, vI (0 : Int32), vQ q2, vI (0 : Int32)]) gc_X3_copies (m_X3_copies hC.fl h) q2554 q2555 (gle rfl) (gle rfl) rfl (gle rfl) rfl dX3_begins_10 (gk_v fun G3 h => ?_) (fun _ _ h hio => g_out0 hC (hX _ _ h) hio)
  exact g_vret hC (pc := 13) (hK _ h) dX3_begins_13
theorem gc_X3_begins : gCode yX3_begins cX3_begins 1 none 0 := ⟨q2572, q105, ⟨by decide, by decide⟩, rfl⟩
theorem m_X3_begins {l : Launch} (hfl : l.stackTraces = false) {E : gE} {G : gS} {t0 : Nat} {X : Nat → gS → Prop} {K : gS → Prop} (h : wp_X3_begins (gAd E) G t0 X K) : gMet l yX3_begins (ws_ yX3_begins cX3_begins 1 none) 1 32 [vQ (some t0)] E G (gRv K) X :=
  g_met hfl (plainFor_of_name (by decide +kernel)) rfl rfl rfl (gle rfl) (fun p e R s m args below meth c hC => w_X3_begins hC (fun _ h => h) (fun _ _ h => h) h)
def wp_X3_isIn (ad : Nat → Nat) (G : gS) (x0 : Int32) (x1 : Int32) (x2 : Int32) (X : Nat → gS → Prop) (K : Int32 → gS → Prop) : Prop :=
  (x0 < x1 → K (0 : Int32) G) ∧ (¬ x0 < x1 → (x2 < x0 → K (0 : Int32) G) ∧ (¬ x2 < x0 → K (1 : Int32) G))
theorem w_X3_isIn {C : gCx} (hC : gOk C "GoblinHouseholdModel" cX3_isIn [] (some .boolean) "isIn" 3 0 0) {K : Int32 → gS → Prop} {X : Nat → gS → Prop} (hK : ∀ r G, K r G → cxK C (some (vI r)) G) (hX : ∀ q G, X q G → cxX C q G) {G : gS} {x0 : Int32} {x1 : Int32} {x2 : Int32} (h : wp_X3_isIn (cxA C) G x0 x1 x2 X K) : gGo C G 0 [(0, vI x0), (1, vI x1), (2, vI x2)] [] := by
  unfold wp_X3_isIn at h
  refine g_iload_n hC (pc := 0) 0 rfl rfl dX3_isIn_0 ?_
  refine g_iload_n hC (pc := 1) 1 rfl rfl dX3_isIn_1 ?_
  refine g_icmp_lt hC (pc := 2) 14 h (by decide) dX3_isIn_2 (fun h => ?_) (fun h => ?_)
  · refine g_iconst hC (pc := 14) (v := (0 : Int32)) (by decide) dX3_isIn_14 ?_
    exact g_zret hC (pc := 15) rfl (hK _ _ h) dX3_isIn_15
  · refine g_iload_n hC (pc := 5) 0 rfl rfl dX3_isIn_5 ?_
    refine g_iload_n hC (pc := 6) 2 rfl rfl dX3_isIn_6 ?_
    refine g_icmp_gt hC (pc := 7) 14 h (by decide) dX3_isIn_7 (fun h => ?_) (fun h => ?_)
    · refine g_iconst hC (pc := 14) (v := (0 : Int32)) (by decide) dX3_isIn_14 ?_
      exact g_zret hC (pc := 15) rfl (hK _ _ h) dX3_isIn_15
    · refine g_iconst hC (pc := 10) (v := (1 : Int32)) (by decide) dX3_isIn_10 ?_
      refine g_goto hC (pc := 11) 15 (by decide) dX3_isIn_11 ?_
      exact g_zret hC (pc := 15) rfl (hK _ _ h) dX3_isIn_15
theorem gc_X3_isIn : gCode yX3_isIn cX3_isIn 3 (some .boolean) 3 := ⟨q2579, q105, ⟨by decide, by decide⟩, rfl⟩
theorem m_X3_isIn {l : Launch} (hfl : l.stackTraces = false) {E : gE} {G : gS} {x0 : Int32} {x1 : Int32} {x2 : Int32} {X : Nat → gS → Prop} {K : Int32 → gS → Prop} (h : wp_X3_isIn (gAd E) G x0 x1 x2 X K) : gMet l yX3_isIn (ws_ yX3_isIn cX3_isIn 3 (some .boolean)) 0 0 [vI x0, vI x1, vI x2] E G (gRi K) X :=
  g_met hfl (plainFor_of_name (by decide +kernel)) rfl rfl rfl (gle rfl) (fun p e R s m args below meth c hC => w_X3_isIn hC (fun _ _ h => h) (fun _ _ h => h) h)
def wp_X3_holds_35 (ad : Nat → Nat) (X : Nat → gS → Prop) (K : Int32 → gS → Prop) (G : gS) (t0 : Nat) (xs0 : Int32) (ts1 : Nat) : Prop :=
  wPut G ts1 0 14 (.int xs0) fun G1 => wGetI G1 t0 0 14 fun i2 => (¬ i2 = (0 : Int32) → K (0 : Int32) G1) ∧ (i2 = (0 : Int32) → K (1 : Int32) G1)
theorem w_X3_holds_35 {C : gCx} (hC : gOk C "GoblinHouseholdModel" cX3_holds [] (some .boolean) "holds" 5 0 0) {K : Int32 → gS → Prop} {X : Nat → gS → Prop} (hK : ∀ r G, K r G → cxK C (some (vI r)) G) (hX : ∀ q G, X q G → cxX C q G) {G : gS} {t0 : Nat} {xs0 : Int32} {ts1 : Nat} (h : wp_X3_holds_35 (cxA C) X K G t0 xs0 ts1) : gGo C G 35 [(0, vQ (some t0))] [vI xs0, vQ (some ts1)] := by
  unfold wp_X3_holds_35 at h
  refine g_put hC (pc := 35) in_X3 (ci := 0) rfl 14 (by decide) tyX3_ok nmX3 q2491 (Or.inl rfl) rfl rfl rfl h dX3_holds_35 (fun G1 h => ?_)
  refine g_aload_n hC (pc := 38) 0 rfl rfl dX3_holds_38 ?_
  refine g_getI hC (pc := 39) in_X3 (ci := 0) rfl 14 (by decide) q2491 (Or.inl rfl) h dX3_holds_39 (fun i2 h => ?_)
  refine g_if_ne hC (pc := 42) 49 h (by decide) dX3_holds_42 (fun h => ?_) (fun h => ?_)
  · refine g_iconst hC (pc := 49) (v := (0 : Int32)) (by decide) dX3_holds_49 ?_
    exact g_zret hC (pc := 50) rfl (hK _ _ h) dX3_holds_50
  · refine g_iconst hC (pc := 45) (v := (1 : Int32)) (by decide) dX3_holds_45 ?_
    refine g_goto hC (pc := 46) 50 (by decide) dX3_holds_46 ?_
    exact g_zret hC (pc := 50) rfl (hK _ _ h) dX3_holds_50
def wp_X3_holds (ad : Nat → Nat) (G : gS) (t0 : Nat) (x1 : Int32) (x2 : Int32) (x3 : Int32) (x4 : Int32) (X : Nat → gS → Prop) (K : Int32 → gS → Prop) : Prop :=
  (¬ x1 = (0 : Int32) → (¬ x2 = (0 : Int32) → (¬ x3 = (0 : Int32) → (¬ x4 = (0 : Int32) → wp_X3_holds_35 ad X K G t0 (0 : Int32) t0) ∧ (x4 = (0 : Int32) → wp_X3_holds_35 ad X K G t0 (4 : Int32) t0)) ∧ (x3 = (0 : Int32) → wp_X3_holds_35 ad X K G t0 (3 : Int32) t0)) ∧ (x2 = (0 : Int32) → wp_X3_holds_35 ad X K G t0 (2 : Int32) t0)) ∧ (x1 = (0 : Int32) → wp_X3_holds_35 ad X K G t0 (1 : Int32) t0)
theorem w_X3_holds {C : gCx} (hC : gOk C "GoblinHouseholdModel" cX3_holds [] (some .boolean) "holds" 5 0 0) {K : Int32 → gS → Prop} {X : Nat → gS → Prop} (hK : ∀ r G, K r G → cxK C (some (vI r)) G) (hX : ∀ q G, X q G → cxX C q G) {G : gS} {t0 : Nat} {x1 : Int32} {x2 : Int32} {x3 : Int32} {x4 : Int32} (h : wp_X3_holds (cxA C) G t0 x1 x2 x3 x4 X K) : gGo C G 0 [(0, vQ (some t0)), (1, vI x1), (2, vI x2), (3, vI x3), (4, vI x4)] [] := by
  unfold wp_X3_holds at h
  refine g_aload_n hC (pc := 0) 0 rfl rfl dX3_holds_0 ?_
  refine g_iload_n hC (pc := 1) 1 rfl rfl dX3_holds_1 ?_
  refine g_if_ne hC (pc := 2) 9 h (by decide) dX3_holds_2 (fun h => ?_) (fun h => ?_)
  · refine g_iload_n hC (pc := 9) 2 rfl rfl dX3_holds_9 ?_
    refine g_if_ne hC (pc := 10) 17 h (by decide) dX3_holds_10 (fun h => ?_) (fun h => ?_)
    · refine g_iload_n hC (pc := 17) 3 rfl rfl dX3_holds_17 ?_
      refine g_if_ne hC (pc := 18) 25 h (by decide) dX3_holds_18 (fun h => ?_) (fun h => ?_)
      · refine g_iload hC (pc := 25) 4 rfl dX3_holds_25 ?_
        refine g_if_ne hC (pc := 27) 34 h (by decide) dX3_holds_27 (fun h => ?_) (fun h => ?_)
        · refine g_iconst hC (pc := 34) (v := (0 : Int32)) (by decide) dX3_holds_34 ?_
          exact g_sub [0] rfl (w_X3_holds_35 hC hK hX h)
        · refine g_iconst hC (pc := 30) (v := (4 : Int32)) (by decide) dX3_holds_30 ?_
          refine g_goto hC (pc := 31) 35 (by decide) dX3_holds_31 ?_
          exact g_sub [0] rfl (w_X3_holds_35 hC hK hX h)
      · refine g_iconst hC (pc := 21) (v := (3 : Int32)) (by decide) dX3_holds_21 ?_
        refine g_goto hC (pc := 22) 35 (by decide) dX3_holds_22 ?_
        exact g_sub [0] rfl (w_X3_holds_35 hC hK hX h)
    · refine g_iconst hC (pc := 13) (v := (2 : Int32)) (by decide) dX3_holds_13 ?_
      refine g_goto hC (pc := 14) 35 (by decide) dX3_holds_14 ?_
      exact g_sub [0] rfl (w_X3_holds_35 hC hK hX h)
  · refine g_iconst hC (pc := 5) (v := (1 : Int32)) (by decide) dX3_holds_5 ?_
    refine g_goto hC (pc := 6) 35 (by decide) dX3_holds_6 ?_
    exact g_sub [0] rfl (w_X3_holds_35 hC hK hX h)
theorem gc_X3_holds : gCode yX3_holds cX3_holds 5 (some .boolean) 4 := ⟨q2553, q105, ⟨by decide, by decide⟩, rfl⟩
theorem m_X3_holds {l : Launch} (hfl : l.stackTraces = false) {E : gE} {G : gS} {t0 : Nat} {x1 : Int32} {x2 : Int32} {x3 : Int32} {x4 : Int32} {X : Nat → gS → Prop} {K : Int32 → gS → Prop} (h : wp_X3_holds (gAd E) G t0 x1 x2 x3 x4 X K) : gMet l yX3_holds (ws_ yX3_holds cX3_holds 5 (some .boolean)) 0 0 [vQ (some t0), vI x1, vI x2, vI x3, vI x4] E G (gRi K) X :=
  g_met hfl (plainFor_of_name (by decide +kernel)) rfl rfl rfl (gle rfl) (fun p e R s m args below meth c hC => w_X3_holds hC (fun _ _ h => h) (fun _ _ h => h) h)
def wp_X3_addsGoblin_70 (ad : Nat → Nat) (X : Nat → gS → Prop) (K : Int32 → gS → Prop) (J49 : gS → Nat → Int32 → Int32 → Int32 → Prop) (G : gS) (t0 : Nat) (x1 : Int32) (x2 : Int32) (x3 : Int32) (xs0 : Int32) (xs1 : Int32) (os2 : Option Nat) : Prop :=
  wNN os2 fun c1 => wAstI G c1 xs1 xs0 fun G2 => J49 G2 t0 x1 x2 (x3 + (1 : Int32))
theorem w_X3_addsGoblin_70 {C : gCx} (hC : gOk C "GoblinHouseholdModel" cX3_addsGoblin [] (some .int) "addsGoblin" 4 1 32) {K : Int32 → gS → Prop} {X : Nat → gS → Prop} (hK : ∀ r G, K r G → cxK C (some (vI r)) G) (hX : ∀ q G, X q G → cxX C q G) {J49 : gS → Nat → Int32 → Int32 → Int32 → Prop} (hJ49 : ∀ G z0 z1 z2 z3, J49 G z0 z1 z2 z3 → gGo C G 49 [(0, vQ (some z0)), (1, vI z1), (2, vI z2), (3, vI z3)] []) {G : gS} {t0 : Nat} {x1 : Int32} {x2 : Int32} {x3 : Int32} {xs0 : Int32} {xs1 : Int32} {os2 : Option Nat} (h : wp_X3_addsGoblin_70 (cxA C) X K J49 G t0 x1 x2 x3 xs0 xs1 os2) : gGo C G 70 [(0, vQ (some t0)), (1, vI x1), (2, vI x2), (3, vI x3)] [vI xs0, vI xs1, vQ os2] := by
  unfold wp_X3_addsGoblin_70 at h
  rcases os2 with _ | c1
  · exact (gNN0 h).elim
  replace h := gNN1 h
  refine g_astI hC (pc := 70) h dX3_addsGoblin_70 (fun G2 h => ?_)
  refine g_iinc hC (pc := 71) 3 (d := (1 : Int32)) (v := (x3 + (1 : Int32))) (lv' := [(3, vI (x3 + (1 : Int32))), (0, vQ (some t0)), (1, vI x1), (2, vI x2)]) rfl (by decide) rfl (by decide) rfl dX3_addsGoblin_71 ?_
  refine g_goto hC (pc := 74) 49 (by decide) dX3_addsGoblin_74 ?_
  exact g_sub [1, 2, 3, 0] rfl (hJ49 _ _ _ _ _ h)
def wp_X3_addsGoblin_77 (ad : Nat → Nat) (X : Nat → gS → Prop) (K : Int32 → gS → Prop) (G : gS) (t0 : Nat) : Prop :=
  wGetQ G t0 0 0 fun q1 => wNN q1 fun c2 => wAldI G c2 (9 : Int32) fun i3 => wAstI G c2 (9 : Int32) (i3 + (1 : Int32)) fun G4 => wGetQ G4 t0 0 0 fun q5 => wNN q5 fun c6 => wAldI G4 c6 (9 : Int32) fun i7 => K (i7 - (1 : Int32)) G4
theorem w_X3_addsGoblin_77 {C : gCx} (hC : gOk C "GoblinHouseholdModel" cX3_addsGoblin [] (some .int) "addsGoblin" 4 1 32) {K : Int32 → gS → Prop} {X : Nat → gS → Prop} (hK : ∀ r G, K r G → cxK C (some (vI r)) G) (hX : ∀ q G, X q G → cxX C q G) {G : gS} {t0 : Nat} (h : wp_X3_addsGoblin_77 (cxA C) X K G t0) : gGo C G 77 [(0, vQ (some t0))] [] := by
  unfold wp_X3_addsGoblin_77 at h
  refine g_aload_n hC (pc := 77) 0 rfl rfl dX3_addsGoblin_77 ?_
  refine g_getQ hC (pc := 78) in_X3 (ci := 0) rfl 0 (by decide) q2477 (Or.inl rfl) h dX3_addsGoblin_78 (fun q1 h => ?_)
  refine g_bipush hC (pc := 81) (v := (9 : Int32)) (by decide) dX3_addsGoblin_81 ?_
  refine g_dup2 hC (pc := 83) rfl rfl dX3_addsGoblin_83 ?_
  rcases q1 with _ | c2
  · exact (gNN0 h).elim
  replace h := gNN1 h
  refine g_aldI hC (pc := 84) h dX3_addsGoblin_84 (fun i3 h => ?_)
  refine g_iconst hC (pc := 85) (v := (1 : Int32)) (by decide) dX3_addsGoblin_85 ?_
  refine g_iadd hC (pc := 86) dX3_addsGoblin_86 ?_
  refine g_astI hC (pc := 87) h dX3_addsGoblin_87 (fun G4 h => ?_)
  refine g_aload_n hC (pc := 88) 0 rfl rfl dX3_addsGoblin_88 ?_
  refine g_getQ hC (pc := 89) in_X3 (ci := 0) rfl 0 (by decide) q2477 (Or.inl rfl) h dX3_addsGoblin_89 (fun q5 h => ?_)
  refine g_bipush hC (pc := 92) (v := (9 : Int32)) (by decide) dX3_addsGoblin_92 ?_
  rcases q5 with _ | c6
  · exact (gNN0 h).elim
  replace h := gNN1 h
  refine g_aldI hC (pc := 94) h dX3_addsGoblin_94 (fun i7 h => ?_)
  refine g_iconst hC (pc := 95) (v := (1 : Int32)) (by decide) dX3_addsGoblin_95 ?_
  refine g_isub hC (pc := 96) dX3_addsGoblin_96 ?_
  exact g_iret hC (pc := 97) (hK _ _ h) dX3_addsGoblin_97
def wp_X3_addsGoblin_49 (ad : Nat → Nat) (X : Nat → gS → Prop) (K : Int32 → gS → Prop) (J49 : gS → Nat → Int32 → Int32 → Int32 → Prop) (G : gS) (t0 : Nat) (x1 : Int32) (x2 : Int32) (x3 : Int32) : Prop :=
  ((5 : Int32) ≤ x3 → wp_X3_addsGoblin_77 ad X K G t0) ∧ (¬ (5 : Int32) ≤ x3 → wGetQ G t0 0 0 fun q1 => (¬ x3 = (0 : Int32) → wp_X3_addsGoblin_70 ad X K J49 G t0 x1 x2 x3 (0 : Int32) (x2 + x3) q1) ∧ (x3 = (0 : Int32) → wp_X3_addsGoblin_70 ad X K J49 G t0 x1 x2 x3 x1 (x2 + x3) q1))
theorem w_X3_addsGoblin_49 {C : gCx} (hC : gOk C "GoblinHouseholdModel" cX3_addsGoblin [] (some .int) "addsGoblin" 4 1 32) {K : Int32 → gS → Prop} {X : Nat → gS → Prop} (hK : ∀ r G, K r G → cxK C (some (vI r)) G) (hX : ∀ q G, X q G → cxX C q G) (n : Nat) : ∀ (G : gS) (t0 : Nat) (x1 : Int32) (x2 : Int32) (x3 : Int32), gLoop (fun _ _ _ _ _ => False) (wp_X3_addsGoblin_49 (cxA C) X K) n G t0 x1 x2 x3 → gGo C G 49 [(0, vQ (some t0)), (1, vI x1), (2, vI x2), (3, vI x3)] [] := by
  induction n with
  | zero => intro G t0 x1 x2 x3 h; exact h.elim
  | succ n ih =>
    intro G t0 x1 x2 x3 h
    have hJ49 := ih
    replace h : wp_X3_addsGoblin_49 (cxA C) X K _ G t0 x1 x2 x3 := h
    unfold wp_X3_addsGoblin_49 at h
    refine g_iload_n hC (pc := 49) 3 rfl rfl dX3_addsGoblin_49 ?_
    refine g_iconst hC (pc := 50) (v := (5 : Int32)) (by decide) dX3_addsGoblin_50 ?_
    refine g_icmp_ge hC (pc := 51) 77 h (by decide) dX3_addsGoblin_51 (fun h => ?_) (fun h => ?_)
    · exact g_sub [0] rfl (w_X3_addsGoblin_77 hC hK hX h)
    · refine g_aload_n hC (pc := 54) 0 rfl rfl dX3_addsGoblin_54 ?_
      refine g_getQ hC (pc := 55) in_X3 (ci := 0) rfl 0 (by decide) q2477 (Or.inl rfl) h dX3_addsGoblin_55 (fun q1 h => ?_)
      refine g_iload_n hC (pc := 58) 2 rfl rfl dX3_addsGoblin_58 ?_
      refine g_iload_n hC (pc := 59) 3 rfl rfl dX3_addsGoblin_59 ?_
      refine g_iadd hC (pc := 60) dX3_addsGoblin_60 ?_
      refine g_iload_n hC (pc := 61) 3 rfl rfl dX3_addsGoblin_61 ?_
      refine g_if_ne hC (pc := 62) 69 h (by decide) dX3_addsGoblin_62 (fun h => ?_) (fun h => ?_)
      · refine g_iconst hC (pc := 69) (v := (0 : Int32)) (by decide) dX3_addsGoblin_69 ?_
        exact g_sub [0, 1, 2, 3] rfl (w_X3_addsGoblin_70 hC hK hX hJ49 h)
      · refine g_iload_n hC (pc := 65) 1 rfl rfl dX3_addsGoblin_65 ?_
        refine g_goto hC (pc := 66) 70 (by decide) dX3_addsGoblin_66 ?_
        exact g_sub [0, 1, 2, 3] rfl (w_X3_addsGoblin_70 hC hK hX hJ49 h)
def wp_X3_addsGoblin_24 (ad : Nat → Nat) (X : Nat → gS → Prop) (K : Int32 → gS → Prop) (G : gS) (t0 : Nat) (x1 : Int32) (xs0 : Int32) (xs1 : Int32) (ts2 : Nat) : Prop :=
  (gIs G ts2 0 ∧ wp_X3_holds ad G ts2 xs1 xs0 (1 : Int32) (1 : Int32) X (fun r2 G1 => (¬ r2 = (0 : Int32) → wGetQ G1 t0 0 0 fun q3 => wNN q3 fun c4 => wAldI G1 c4 (9 : Int32) fun i5 => gLoop (fun _ _ _ _ _ => False) (wp_X3_addsGoblin_49 ad X K) gFuel G1 t0 x1 ((26 : Int32) + ((5 : Int32) * i5)) (0 : Int32)) ∧ (r2 = (0 : Int32) → K (0 : Int32) G1)))
theorem w_X3_addsGoblin_24 {C : gCx} (hC : gOk C "GoblinHouseholdModel" cX3_addsGoblin [] (some .int) "addsGoblin" 4 1 32) {K : Int32 → gS → Prop} {X : Nat → gS → Prop} (hK : ∀ r G, K r G → cxK C (some (vI r)) G) (hX : ∀ q G, X q G → cxX C q G) {G : gS} {t0 : Nat} {x1 : Int32} {xs0 : Int32} {xs1 : Int32} {ts2 : Nat} (h : wp_X3_addsGoblin_24 (cxA C) X K G t0 x1 xs0 xs1 ts2) : gGo C G 24 [(0, vQ (some t0)), (1, vI x1)] [vI xs0, vI xs1, vQ (some ts2)] := by
  unfold wp_X3_addsGoblin_24 at h
  refine g_iconst hC (pc := 24) (v := (1 : Int32)) (by decide) dX3_addsGoblin_24 ?_
  refine g_iconst hC (pc := 25) (v := (1 : Int32)) (by decide) dX3_addsGoblin_25 ?_
  obtain ⟨hi, h⟩ := h
  refine g_callV hC (pc := 26) (ci := 0) (As := [vI xs1, vI xs0, vI (1 : Int32), vI (1 : Int32)]) gc_X3_holds (m_X3_holds hC.fl h) rfl hi q2550 q2552 qs44 (gle rfl) (gle rfl) rfl (gle rfl) rfl dX3_addsGoblin_26 (gk_i fun r2 G1 h => ?_) (fun _ _ h hio => g_out0 hC (hX _ _ h) hio)
  refine g_if_ne hC (pc := 29) 34 h (by decide) dX3_addsGoblin_29 (fun h => ?_) (fun h => ?_)
  · refine g_bipush hC (pc := 34) (v := (26 : Int32)) (by decide) dX3_addsGoblin_34 ?_
    refine g_iconst hC (pc := 36) (v := (5 : Int32)) (by decide) dX3_addsGoblin_36 ?_
    refine g_aload_n hC (pc := 37) 0 rfl rfl dX3_addsGoblin_37 ?_
    refine g_getQ hC (pc := 38) in_X3 (ci := 0) rfl 0 (by decide) q2477 (Or.inl rfl) h dX3_addsGoblin_38 (fun q3 h => ?_)
    refine g_bipush hC (pc := 41) (v := (9 : Int32)) (by decide) dX3_addsGoblin_41 ?_
    rcases q3 with _ | c4
    · exact (gNN0 h).elim
    replace h := gNN1 h
    refine g_aldI hC (pc := 43) h dX3_addsGoblin_43 (fun i5 h => ?_)
    refine g_imul hC (pc := 44) dX3_addsGoblin_44 ?_
    refine g_iadd hC (pc := 45) dX3_addsGoblin_45 ?_
    refine g_istore_n hC (pc := 46) (lv' := [(2, vI ((26 : Int32) + ((5 : Int32) * i5))), (0, vQ (some t0)), (1, vI x1)]) rfl (by decide) rfl dX3_addsGoblin_46 ?_
    refine g_iconst hC (pc := 47) (v := (0 : Int32)) (by decide) dX3_addsGoblin_47 ?_
    refine g_istore_n hC (pc := 48) (lv' := [(3, vI (0 : Int32)), (2, vI ((26 : Int32) + ((5 : Int32) * i5))), (0, vQ (some t0)), (1, vI x1)]) rfl (by decide) rfl dX3_addsGoblin_48 ?_
    exact g_sub [2, 3, 1, 0] rfl (w_X3_addsGoblin_49 hC hK hX gFuel _ _ _ _ _ h)
  · refine g_iconst hC (pc := 32) (v := (0 : Int32)) (by decide) dX3_addsGoblin_32 ?_
    exact g_iret hC (pc := 33) (hK _ _ h) dX3_addsGoblin_33
def wp_X3_addsGoblin (ad : Nat → Nat) (G : gS) (t0 : Nat) (x1 : Int32) (X : Nat → gS → Prop) (K : Int32 → gS → Prop) : Prop :=
  wp_X3_isIn ad G x1 (1 : Int32) (9 : Int32) X (fun r2 G1 => wGetQ G1 t0 0 0 fun q3 => wNN q3 fun c4 => wAldI G1 c4 (9 : Int32) fun i5 => ((5 : Int32) ≤ i5 → wp_X3_addsGoblin_24 ad X K G1 t0 x1 (0 : Int32) r2 t0) ∧ (¬ (5 : Int32) ≤ i5 → wp_X3_addsGoblin_24 ad X K G1 t0 x1 (1 : Int32) r2 t0))
theorem w_X3_addsGoblin {C : gCx} (hC : gOk C "GoblinHouseholdModel" cX3_addsGoblin [] (some .int) "addsGoblin" 4 1 32) {K : Int32 → gS → Prop} {X : Nat → gS → Prop} (hK : ∀ r G, K r G → cxK C (some (vI r)) G) (hX : ∀ q G, X q G → cxX C q G) {G : gS} {t0 : Nat} {x1 : Int32} (h : wp_X3_addsGoblin (cxA C) G t0 x1 X K) : gGo C G 0 [(0, vQ (some t0)), (1, vI x1)] [] := by
  unfold wp_X3_addsGoblin at h
  refine g_aload_n hC (pc := 0) 0 rfl rfl dX3_addsGoblin_0 ?_
  refine g_iload_n hC (pc := 1) 1 rfl rfl dX3_addsGoblin_1 ?_
  refine g_iconst hC (pc := 2) (v := (1 : Int32)) (by decide) dX3_addsGoblin_2 ?_
  refine g_bipush hC (pc := 3) (v := (9 : Int32)) (by decide) dX3_addsGoblin_3 ?_
  refine g_callS hC (pc := 5) (b := 0) (As := [vI x1, vI (1 : Int32), vI (9 : Int32)]) gc_X3_isIn (m_X3_isIn hC.fl h) q2577 q2578 (gle rfl) (gle rfl) rfl (gle rfl) rfl dX3_addsGoblin_5 (gk_i fun r2 G1 h => ?_) (fun _ _ h hio => g_out0 hC (hX _ _ h) hio)
  refine g_aload_n hC (pc := 8) 0 rfl rfl dX3_addsGoblin_8 ?_
  refine g_getQ hC (pc := 9) in_X3 (ci := 0) rfl 0 (by decide) q2477 (Or.inl rfl) h dX3_addsGoblin_9 (fun q3 h => ?_)
  refine g_bipush hC (pc := 12) (v := (9 : Int32)) (by decide) dX3_addsGoblin_12 ?_
  rcases q3 with _ | c4
  · exact (gNN0 h).elim
  replace h := gNN1 h
  refine g_aldI hC (pc := 14) h dX3_addsGoblin_14 (fun i5 h => ?_)
  refine g_iconst hC (pc := 15) (v := (5 : Int32)) (by decide) dX3_addsGoblin_15 ?_
  refine g_icmp_ge hC (pc := 16) 23 h (by decide) dX3_addsGoblin_16 (fun h => ?_) (fun h => ?_)
  · refine g_iconst hC (pc := 23) (v := (0 : Int32)) (by decide) dX3_addsGoblin_23 ?_
    exact g_sub [0, 1] rfl (w_X3_addsGoblin_24 hC hK hX h)
  · refine g_iconst hC (pc := 19) (v := (1 : Int32)) (by decide) dX3_addsGoblin_19 ?_
    refine g_goto hC (pc := 20) 24 (by decide) dX3_addsGoblin_20 ?_
    exact g_sub [0, 1] rfl (w_X3_addsGoblin_24 hC hK hX h)
theorem gc_X3_addsGoblin : gCode yX3_addsGoblin cX3_addsGoblin 4 (some .int) 1 := ⟨q2576, q105, ⟨by decide, by decide⟩, rfl⟩
theorem m_X3_addsGoblin {l : Launch} (hfl : l.stackTraces = false) {E : gE} {G : gS} {t0 : Nat} {x1 : Int32} {X : Nat → gS → Prop} {K : Int32 → gS → Prop} (h : wp_X3_addsGoblin (gAd E) G t0 x1 X K) : gMet l yX3_addsGoblin (ws_ yX3_addsGoblin cX3_addsGoblin 4 (some .int)) 1 32 [vQ (some t0), vI x1] E G (gRi K) X :=
  g_met hfl (plainFor_of_name (by decide +kernel)) rfl rfl rfl (gle rfl) (fun p e R s m args below meth c hC => w_X3_addsGoblin hC (fun _ _ h => h) (fun _ _ h => h) h)
def wp_X3_remembers_49 (ad : Nat → Nat) (X : Nat → gS → Prop) (K : gS → Prop) (G : gS) (t0 : Nat) : Prop :=
  wGetQ G t0 0 1 fun q1 => wGetQ G t0 0 4 fun q2 => wGetI G t0 0 6 fun i3 => wp_X3_copies ad G q1 (0 : Int32) q2 (i3 * (91 : Int32)) X (fun G4 => wGetI G4 t0 0 6 fun i5 => wPut G4 t0 0 6 (.int (i5 + (1 : Int32))) fun G6 => K G6)
theorem w_X3_remembers_49 {C : gCx} (hC : gOk C "GoblinHouseholdModel" cX3_remembers [] none "remembers" 2 1 32) {K : gS → Prop} {X : Nat → gS → Prop} (hK : ∀ G, K G → cxK C none G) (hX : ∀ q G, X q G → cxX C q G) {G : gS} {t0 : Nat} (h : wp_X3_remembers_49 (cxA C) X K G t0) : gGo C G 49 [(0, vQ (some t0))] [] := by
  unfold wp_X3_remembers_49 at h
  refine g_aload_n hC (pc := 49) 0 rfl rfl dX3_remembers_49 ?_
  refine g_getQ hC (pc := 50) in_X3 (ci := 0) rfl 1 (by decide) q2478 (Or.inl rfl) h dX3_remembers_50 (fun q1 h => ?_)
  refine g_iconst hC (pc := 53) (v := (0 : Int32)) (by decide) dX3_remembers_53 ?_
  refine g_aload_n hC (pc := 54) 0 rfl rfl dX3_remembers_54 ?_
  refine g_getQ hC (pc := 55) in_X3 (ci := 0) rfl 4 (by decide) q2481 (Or.inl rfl) h dX3_remembers_55 (fun q2 h => ?_)
  refine g_aload_n hC (pc := 58) 0 rfl rfl dX3_remembers_58 ?_
  refine g_getI hC (pc := 59) in_X3 (ci := 0) rfl 6 (by decide) q2483 (Or.inl rfl) h dX3_remembers_59 (fun i3 h => ?_)
  refine g_bipush hC (pc := 62) (v := (91 : Int32)) (by decide) dX3_remembers_62 ?_
  refine g_imul hC (pc := 64) dX3_remembers_64 ?_
  refine g_callS hC (pc := 65) (b := 0) (As := [vQ q1, vI (0 : Int32), vQ q2, vI (i3 * (91 : Int32))]) gc_X3_copies (m_X3_copies hC.fl h) q2554 q2555 (gle rfl) (gle rfl) rfl (gle rfl) rfl dX3_remembers_65 (gk_v fun G4 h => ?_) (fun _ _ h hio => g_out0 hC (hX _ _ h) hio)
  refine g_aload_n hC (pc := 68) 0 rfl rfl dX3_remembers_68 ?_
  refine g_dup hC (pc := 69) rfl dX3_remembers_69 ?_
  refine g_getI hC (pc := 70) in_X3 (ci := 0) rfl 6 (by decide) q2483 (Or.inl rfl) h dX3_remembers_70 (fun i5 h => ?_)
  refine g_iconst hC (pc := 73) (v := (1 : Int32)) (by decide) dX3_remembers_73 ?_
  refine g_iadd hC (pc := 74) dX3_remembers_74 ?_
  refine g_put hC (pc := 75) in_X3 (ci := 0) rfl 6 (by decide) tyX3_ok nmX3 q2483 (Or.inl rfl) rfl rfl rfl h dX3_remembers_75 (fun G6 h => ?_)
  exact g_vret hC (pc := 78) (hK _ h) dX3_remembers_78
def wp_X3_remembers_39 (ad : Nat → Nat) (X : Nat → gS → Prop) (K : gS → Prop) (G : gS) (t0 : Nat) : Prop :=
  wGetI G t0 0 6 fun i1 => wPut G t0 0 6 (.int (i1 - (1 : Int32))) fun G2 => wp_X3_remembers_49 ad X K G2 t0
theorem w_X3_remembers_39 {C : gCx} (hC : gOk C "GoblinHouseholdModel" cX3_remembers [] none "remembers" 2 1 32) {K : gS → Prop} {X : Nat → gS → Prop} (hK : ∀ G, K G → cxK C none G) (hX : ∀ q G, X q G → cxX C q G) {G : gS} {t0 : Nat} (h : wp_X3_remembers_39 (cxA C) X K G t0) : gGo C G 39 [(0, vQ (some t0))] [] := by
  unfold wp_X3_remembers_39 at h
  refine g_aload_n hC (pc := 39) 0 rfl rfl dX3_remembers_39 ?_
  refine g_dup hC (pc := 40) rfl dX3_remembers_40 ?_
  refine g_getI hC (pc := 41) in_X3 (ci := 0) rfl 6 (by decide) q2483 (Or.inl rfl) h dX3_remembers_41 (fun i1 h => ?_)
  refine g_iconst hC (pc := 44) (v := (1 : Int32)) (by decide) dX3_remembers_44 ?_
  refine g_isub hC (pc := 45) dX3_remembers_45 ?_
  refine g_put hC (pc := 46) in_X3 (ci := 0) rfl 6 (by decide) tyX3_ok nmX3 q2483 (Or.inl rfl) rfl rfl rfl h dX3_remembers_46 (fun G2 h => ?_)
  exact g_sub [0] rfl (w_X3_remembers_49 hC hK hX h)
def wp_X3_remembers_11 (ad : Nat → Nat) (X : Nat → gS → Prop) (K : gS → Prop) (J11 : gS → Nat → Int32 → Prop) (G : gS) (t0 : Nat) (x1 : Int32) : Prop :=
  ((637 : Int32) ≤ x1 → wp_X3_remembers_39 ad X K G t0) ∧ (¬ (637 : Int32) ≤ x1 → wGetQ G t0 0 4 fun q1 => wGetQ G t0 0 4 fun q2 => wNN q2 fun c3 => wAldI G c3 (x1 + (91 : Int32)) fun i4 => wNN q1 fun c5 => wAstI G c5 x1 i4 fun G6 => J11 G6 t0 (x1 + (1 : Int32)))
theorem w_X3_remembers_11 {C : gCx} (hC : gOk C "GoblinHouseholdModel" cX3_remembers [] none "remembers" 2 1 32) {K : gS → Prop} {X : Nat → gS → Prop} (hK : ∀ G, K G → cxK C none G) (hX : ∀ q G, X q G → cxX C q G) (n : Nat) : ∀ (G : gS) (t0 : Nat) (x1 : Int32), gLoop (fun _ _ _ => False) (wp_X3_remembers_11 (cxA C) X K) n G t0 x1 → gGo C G 11 [(0, vQ (some t0)), (1, vI x1)] [] := by
  induction n with
  | zero => intro G t0 x1 h; exact h.elim
  | succ n ih =>
    intro G t0 x1 h
    have hJ11 := ih
    replace h : wp_X3_remembers_11 (cxA C) X K _ G t0 x1 := h
    unfold wp_X3_remembers_11 at h
    refine g_iload_n hC (pc := 11) 1 rfl rfl dX3_remembers_11 ?_
    refine g_sipush hC (pc := 12) (v := (637 : Int32)) (by decide) dX3_remembers_12 ?_
    refine g_icmp_ge hC (pc := 15) 39 h (by decide) dX3_remembers_15 (fun h => ?_) (fun h => ?_)
    · exact g_sub [0] rfl (w_X3_remembers_39 hC hK hX h)
    · refine g_aload_n hC (pc := 18) 0 rfl rfl dX3_remembers_18 ?_
      refine g_getQ hC (pc := 19) in_X3 (ci := 0) rfl 4 (by decide) q2481 (Or.inl rfl) h dX3_remembers_19 (fun q1 h => ?_)
      refine g_iload_n hC (pc := 22) 1 rfl rfl dX3_remembers_22 ?_
      refine g_aload_n hC (pc := 23) 0 rfl rfl dX3_remembers_23 ?_
      refine g_getQ hC (pc := 24) in_X3 (ci := 0) rfl 4 (by decide) q2481 (Or.inl rfl) h dX3_remembers_24 (fun q2 h => ?_)
      refine g_iload_n hC (pc := 27) 1 rfl rfl dX3_remembers_27 ?_
      refine g_bipush hC (pc := 28) (v := (91 : Int32)) (by decide) dX3_remembers_28 ?_
      refine g_iadd hC (pc := 30) dX3_remembers_30 ?_
      rcases q2 with _ | c3
      · exact (gNN0 h).elim
      replace h := gNN1 h
      refine g_aldI hC (pc := 31) h dX3_remembers_31 (fun i4 h => ?_)
      rcases q1 with _ | c5
      · exact (gNN0 h).elim
      replace h := gNN1 h
      refine g_astI hC (pc := 32) h dX3_remembers_32 (fun G6 h => ?_)
      refine g_iinc hC (pc := 33) 1 (d := (1 : Int32)) (v := (x1 + (1 : Int32))) (lv' := [(1, vI (x1 + (1 : Int32))), (0, vQ (some t0))]) rfl (by decide) rfl (by decide) rfl dX3_remembers_33 ?_
      refine g_goto hC (pc := 36) 11 (by decide) dX3_remembers_36 ?_
      exact g_sub [1, 0] rfl (hJ11 _ _ _ h)
def wp_X3_remembers (ad : Nat → Nat) (G : gS) (t0 : Nat) (X : Nat → gS → Prop) (K : gS → Prop) : Prop :=
  wGetI G t0 0 6 fun i1 => (¬ i1 = (8 : Int32) → wp_X3_remembers_49 ad X K G t0) ∧ (i1 = (8 : Int32) → gLoop (fun _ _ _ => False) (wp_X3_remembers_11 ad X K) gFuel G t0 (0 : Int32))
theorem w_X3_remembers {C : gCx} (hC : gOk C "GoblinHouseholdModel" cX3_remembers [] none "remembers" 2 1 32) {K : gS → Prop} {X : Nat → gS → Prop} (hK : ∀ G, K G → cxK C none G) (hX : ∀ q G, X q G → cxX C q G) {G : gS} {t0 : Nat} (h : wp_X3_remembers (cxA C) G t0 X K) : gGo C G 0 [(0, vQ (some t0))] [] := by
  unfold wp_X3_remembers at h
  refine g_aload_n hC (pc := 0) 0 rfl rfl dX3_remembers_0 ?_
  refine g_getI hC (pc := 1) in_X3 (ci := 0) rfl 6 (by decide) q2483 (Or.inl rfl) h dX3_remembers_1 (fun i1 h => ?_)
  refine g_bipush hC (pc := 4) (v := (8 : Int32)) (by decide) dX3_remembers_4 ?_
  refine g_icmp_ne hC (pc := 6) 49 h (by decide) dX3_remembers_6 (fun h => ?_) (fun h => ?_)
  · exact g_sub [0] rfl (w_X3_remembers_49 hC hK hX h)
  · refine g_iconst hC (pc := 9) (v := (0 : Int32)) (by decide) dX3_remembers_9 ?_
    refine g_istore_n hC (pc := 10) (lv' := [(1, vI (0 : Int32)), (0, vQ (some t0))]) rfl (by decide) rfl dX3_remembers_10 ?_
    exact g_sub [1, 0] rfl (w_X3_remembers_11 hC hK hX gFuel _ _ _ h)
theorem gc_X3_remembers : gCode yX3_remembers cX3_remembers 2 none 0 := ⟨q2587, q105, ⟨by decide, by decide⟩, rfl⟩
theorem m_X3_remembers {l : Launch} (hfl : l.stackTraces = false) {E : gE} {G : gS} {t0 : Nat} {X : Nat → gS → Prop} {K : gS → Prop} (h : wp_X3_remembers (gAd E) G t0 X K) : gMet l yX3_remembers (ws_ yX3_remembers cX3_remembers 2 none) 1 32 [vQ (some t0)] E G (gRv K) X :=
  g_met hfl (plainFor_of_name (by decide +kernel)) rfl rfl rfl (gle rfl) (fun p e R s m args below meth c hC => w_X3_remembers hC (fun _ h => h) (fun _ _ h => h) h)
def wp_X3_ends (ad : Nat → Nat) (G : gS) (t0 : Nat) (x1 : Int32) (X : Nat → gS → Prop) (K : Int32 → gS → Prop) : Prop :=
  wGetI G t0 0 14 fun i1 => (i1 = (0 : Int32) → (gIs G t0 0 ∧ wp_X3_remembers ad G t0  X (fun G2 => K x1 G2))) ∧ (¬ i1 = (0 : Int32) → wGetQ G t0 0 1 fun q3 => wGetQ G t0 0 0 fun q4 => wp_X3_copies ad G q3 (0 : Int32) q4 (0 : Int32) X (fun G5 => K (0 : Int32) G5))
theorem w_X3_ends {C : gCx} (hC : gOk C "GoblinHouseholdModel" cX3_ends [] (some .int) "ends" 2 2 61) {K : Int32 → gS → Prop} {X : Nat → gS → Prop} (hK : ∀ r G, K r G → cxK C (some (vI r)) G) (hX : ∀ q G, X q G → cxX C q G) {G : gS} {t0 : Nat} {x1 : Int32} (h : wp_X3_ends (cxA C) G t0 x1 X K) : gGo C G 0 [(0, vQ (some t0)), (1, vI x1)] [] := by
  unfold wp_X3_ends at h
  refine g_aload_n hC (pc := 0) 0 rfl rfl dX3_ends_0 ?_
  refine g_getI hC (pc := 1) in_X3 (ci := 0) rfl 14 (by decide) q2491 (Or.inl rfl) h dX3_ends_1 (fun i1 h => ?_)
  refine g_if_eq hC (pc := 4) 22 h (by decide) dX3_ends_4 (fun h => ?_) (fun h => ?_)
  · refine g_aload_n hC (pc := 22) 0 rfl rfl dX3_ends_22 ?_
    obtain ⟨hi, h⟩ := h
    refine g_callV hC (pc := 23) (ci := 0) (As := []) gc_X3_remembers (m_X3_remembers hC.fl h) rfl hi q2584 q2586 qs48 (gle rfl) (gle rfl) rfl (gle rfl) rfl dX3_ends_23 (gk_v fun G2 h => ?_) (fun _ _ h hio => g_out0 hC (hX _ _ h) hio)
    refine g_iload_n hC (pc := 26) 1 rfl rfl dX3_ends_26 ?_
    exact g_iret hC (pc := 27) (hK _ _ h) dX3_ends_27
  · refine g_aload_n hC (pc := 7) 0 rfl rfl dX3_ends_7 ?_
    refine g_getQ hC (pc := 8) in_X3 (ci := 0) rfl 1 (by decide) q2478 (Or.inl rfl) h dX3_ends_8 (fun q3 h => ?_)
    refine g_iconst hC (pc := 11) (v := (0 : Int32)) (by decide) dX3_ends_11 ?_
    refine g_aload_n hC (pc := 12) 0 rfl rfl dX3_ends_12 ?_
    refine g_getQ hC (pc := 13) in_X3 (ci := 0) rfl 0 (by decide) q2477 (Or.inl rfl) h dX3_ends_13 (fun q4 h => ?_)
    refine g_iconst hC (pc := 16) (v := (0 : Int32)) (by decide) dX3_ends_16 ?_
    refine g_callS hC (pc := 17) (b := 0) (As := [vQ q3, vI (0 : Int32), vQ q4, vI (0 : Int32)]) gc_X3_copies (m_X3_copies hC.fl h) q2554 q2555 (gle rfl) (gle rfl) rfl (gle rfl) rfl dX3_ends_17 (gk_v fun G5 h => ?_) (fun _ _ h hio => g_out0 hC (hX _ _ h) hio)
    refine g_iconst hC (pc := 20) (v := (0 : Int32)) (by decide) dX3_ends_20 ?_
    exact g_iret hC (pc := 21) (hK _ _ h) dX3_ends_21
theorem gc_X3_ends : gCode yX3_ends cX3_ends 2 (some .int) 1 := ⟨q2583, q105, ⟨by decide, by decide⟩, rfl⟩
theorem m_X3_ends {l : Launch} (hfl : l.stackTraces = false) {E : gE} {G : gS} {t0 : Nat} {x1 : Int32} {X : Nat → gS → Prop} {K : Int32 → gS → Prop} (h : wp_X3_ends (gAd E) G t0 x1 X K) : gMet l yX3_ends (ws_ yX3_ends cX3_ends 2 (some .int)) 2 61 [vQ (some t0), vI x1] E G (gRi K) X :=
  g_met hfl (plainFor_of_name (by decide +kernel)) rfl rfl rfl (gle rfl) (fun p e R s m args below meth c hC => w_X3_ends hC (fun _ _ h => h) (fun _ _ h => h) h)
def wp_X3_addGoblin (ad : Nat → Nat) (G : gS) (t0 : Nat) (x1 : Int32) (X : Nat → gS → Prop) (K : Int32 → gS → Prop) : Prop :=
  (gIs G t0 0 ∧ wp_X3_begins ad G t0  X (fun G1 => (gIs G1 t0 0 ∧ wp_X3_addsGoblin ad G1 t0 x1 X (fun r3 G2 => (gIs G2 t0 0 ∧ wp_X3_ends ad G2 t0 r3 X (fun r5 G4 => K r5 G4))))))
theorem w_X3_addGoblin {C : gCx} (hC : gOk C "GoblinHouseholdModel" cX3_addGoblin [] (some .int) "addGoblin" 2 3 90) {K : Int32 → gS → Prop} {X : Nat → gS → Prop} (hK : ∀ r G, K r G → cxK C (some (vI r)) G) (hX : ∀ q G, X q G → cxX C q G) {G : gS} {t0 : Nat} {x1 : Int32} (h : wp_X3_addGoblin (cxA C) G t0 x1 X K) : gGo C G 0 [(0, vQ (some t0)), (1, vI x1)] [] := by
  unfold wp_X3_addGoblin at h
  refine g_aload_n hC (pc := 0) 0 rfl rfl dX3_addGoblin_0 ?_
  obtain ⟨hi, h⟩ := h
  refine g_callV hC (pc := 1) (ci := 0) (As := []) gc_X3_begins (m_X3_begins hC.fl h) rfl hi q2569 q2571 qs45 (gle rfl) (gle rfl) rfl (gle rfl) rfl dX3_addGoblin_1 (gk_v fun G1 h => ?_) (fun _ _ h hio => g_out0 hC (hX _ _ h) hio)
  refine g_aload_n hC (pc := 4) 0 rfl rfl dX3_addGoblin_4 ?_
  refine g_aload_n hC (pc := 5) 0 rfl rfl dX3_addGoblin_5 ?_
  refine g_iload_n hC (pc := 6) 1 rfl rfl dX3_addGoblin_6 ?_
  obtain ⟨hi, h⟩ := h
  refine g_callV hC (pc := 7) (ci := 0) (As := [vI x1]) gc_X3_addsGoblin (m_X3_addsGoblin hC.fl h) rfl hi q2573 q2575 qs46 (gle rfl) (gle rfl) rfl (gle rfl) rfl dX3_addGoblin_7 (gk_i fun r3 G2 h => ?_) (fun _ _ h hio => g_out0 hC (hX _ _ h) hio)
  obtain ⟨hi, h⟩ := h
  refine g_callV hC (pc := 10) (ci := 0) (As := [vI r3]) gc_X3_ends (m_X3_ends hC.fl h) rfl hi q2580 q2582 qs47 (gle rfl) (gle rfl) rfl (gle rfl) rfl dX3_addGoblin_10 (gk_i fun r5 G4 h => ?_) (fun _ _ h hio => g_out0 hC (hX _ _ h) hio)
  exact g_iret hC (pc := 13) (hK _ _ h) dX3_addGoblin_13
theorem gc_X3_addGoblin : gCode yX3_addGoblin cX3_addGoblin 2 (some .int) 1 := ⟨q2568, q105, ⟨by decide, by decide⟩, rfl⟩
theorem m_X3_addGoblin {l : Launch} (hfl : l.stackTraces = false) {E : gE} {G : gS} {t0 : Nat} {x1 : Int32} {X : Nat → gS → Prop} {K : Int32 → gS → Prop} (h : wp_X3_addGoblin (gAd E) G t0 x1 X K) : gMet l yX3_addGoblin (ws_ yX3_addGoblin cX3_addGoblin 2 (some .int)) 3 90 [vQ (some t0), vI x1] E G (gRi K) X :=
  g_met hfl (plainFor_of_name (by decide +kernel)) rfl rfl rfl (gle rfl) (fun p e R s m args below meth c hC => w_X3_addGoblin hC (fun _ _ h => h) (fun _ _ h => h) h)
def wp_X3_thrown (ad : Nat → Nat) (G : gS) (t0 : Nat) (X : Nat → gS → Prop) (K : Int32 → gS → Prop) : Prop :=
  wGetI G t0 0 14 fun i1 => K i1 G
theorem w_X3_thrown {C : gCx} (hC : gOk C "GoblinHouseholdModel" cX3_thrown [] (some .int) "thrown" 1 0 0) {K : Int32 → gS → Prop} {X : Nat → gS → Prop} (hK : ∀ r G, K r G → cxK C (some (vI r)) G) (hX : ∀ q G, X q G → cxX C q G) {G : gS} {t0 : Nat} (h : wp_X3_thrown (cxA C) G t0 X K) : gGo C G 0 [(0, vQ (some t0))] [] := by
  unfold wp_X3_thrown at h
  refine g_aload_n hC (pc := 0) 0 rfl rfl dX3_thrown_0 ?_
  refine g_getI hC (pc := 1) in_X3 (ci := 0) rfl 14 (by decide) q2491 (Or.inl rfl) h dX3_thrown_1 (fun i1 h => ?_)
  exact g_iret hC (pc := 4) (hK _ _ h) dX3_thrown_4
theorem gc_X3_thrown : gCode yX3_thrown cX3_thrown 1 (some .int) 0 := ⟨q2541, q105, ⟨by decide, by decide⟩, rfl⟩
theorem m_X3_thrown {l : Launch} (hfl : l.stackTraces = false) {E : gE} {G : gS} {t0 : Nat} {X : Nat → gS → Prop} {K : Int32 → gS → Prop} (h : wp_X3_thrown (gAd E) G t0 X K) : gMet l yX3_thrown (ws_ yX3_thrown cX3_thrown 1 (some .int)) 0 0 [vQ (some t0)] E G (gRi K) X :=
  g_met hfl (plainFor_of_name (by decide +kernel)) rfl rfl rfl (gle rfl) (fun p e R s m args below meth c hC => w_X3_thrown hC (fun _ _ h => h) (fun _ _ h => h) h)
def wp_X1_addBroom (ad : Nat → Nat) (G : gS) (t0 : Nat) (x1 : Int32) (X : Nat → gS → Prop) (K : Int32 → gS → Prop) : Prop :=
  wMkL G 2 [x1] fun c2 G1 => (gIs G1 t0 1 ∧ wp_X1_apply ad G1 t0 (some c2) X (fun r4 G3 => K r4 G3))
theorem w_X1_addBroom {C : gCx} (hC : gOk C "GoblinHousehold" cX1_addBroom [] (some .int) "addBroom" 2 18 3088) (hN : gNm C yX1_addBroom) {K : Int32 → gS → Prop} {X : Nat → gS → Prop} (hK : ∀ r G, K r G → cxK C (some (vI r)) G) (hX : ∀ q G, X q G → cxX C q G) {G : gS} {t0 : Nat} {x1 : Int32} (h : wp_X1_addBroom (cxA C) G t0 x1 X K) : gGo C G 0 [(0, vQ (some t0)), (1, vI x1)] [] := by
  unfold wp_X1_addBroom at h
  refine g_aload_n hC (pc := 0) 0 rfl rfl dX1_addBroom_0 ?_
  refine g_iload_n hC (pc := 1) 1 rfl rfl dX1_addBroom_1 ?_
  refine g_indyM hC (pc := 2) (q := gSite_2) (xs := [x1]) hN (List.mem_of_getElem? (i := 2) rfl) rfl (by decide) lok_2 q3057 q1302 gc_X1_lambda_addBroom_1 rfl rfl (gle rfl) (gle rfl) rfl rfl h dX1_addBroom_2 (fun c2 G1 h => ?_)
  obtain ⟨hi, h⟩ := h
  refine g_callVW hC (pc := 7) (ci := 1) (As := [vQ (some c2)]) gc_X1_apply (m_X1_apply hC.fl h) rfl hi q1049 q1051 qs12 (gle rfl) (gle rfl) rfl (gle rfl) rfl dX1_addBroom_7 (gk_i fun r4 G3 h => ?_) (fun _ _ h hio => g_out0 hC (hX _ _ h) hio)
  exact g_iret hC (pc := 10) (hK _ _ h) dX1_addBroom_10
theorem gc_X1_addBroom : gCode yX1_addBroom cX1_addBroom 2 (some .int) 1 := ⟨q1301, q94, ⟨by decide, by decide⟩, rfl⟩
theorem m_X1_addBroom {l : Launch} (hfl : l.stackTraces = false) {E : gE} {G : gS} {t0 : Nat} {x1 : Int32} {X : Nat → gS → Prop} {K : Int32 → gS → Prop} (h : wp_X1_addBroom (gAd E) G t0 x1 X K) : gMet l yX1_addBroom (ws_ yX1_addBroom cX1_addBroom 2 (some .int)) 18 3088 [vQ (some t0), vI x1] E G (gRi K) X :=
  g_metN hfl (plainFor_of_name (by decide +kernel)) rfl rfl rfl (gle rfl) (fun p e R s m args below meth c hC hN => w_X1_addBroom hC hN (fun _ _ h => h) (fun _ _ h => h) h)
def wp_X0_addBroom_12 (ad : Nat → Nat) (X : Nat → gS → Prop) (K : Int32 → gS → Prop) (G : gS) (ts0 : Nat) : Prop :=
  K (1 : Int32) G
theorem w_X0_addBroom_12 {C : gCx} (hC : gOk C "GoblinHouseholdLaw" cX0_addBroom [(0, 9, 12, 13), (0, 9, 15, 15)] (some .int) "addBroom" 4 19 3117) {K : Int32 → gS → Prop} {X : Nat → gS → Prop} (hK : ∀ r G, K r G → cxK C (some (vI r)) G) (hX : ∀ q G, X q G → cxX C q G) {G : gS} {ts0 : Nat} (h : wp_X0_addBroom_12 (cxA C) X K G ts0) : gGo C G 12 [] [vQ (some ts0)] := by
  unfold wp_X0_addBroom_12 at h
  refine g_astore_n hC (pc := 12) (lv' := [(3, vQ (some ts0))]) rfl (by decide) rfl dX0_addBroom_12 ?_
  refine g_iconst hC (pc := 13) (v := (1 : Int32)) (by decide) dX0_addBroom_13 ?_
  exact g_iret hC (pc := 14) (hK _ _ h) dX0_addBroom_14
def wp_X0_addBroom_15 (ad : Nat → Nat) (X : Nat → gS → Prop) (K : Int32 → gS → Prop) (G : gS) (ts0 : Nat) : Prop :=
  K (2 : Int32) G
theorem w_X0_addBroom_15 {C : gCx} (hC : gOk C "GoblinHouseholdLaw" cX0_addBroom [(0, 9, 12, 13), (0, 9, 15, 15)] (some .int) "addBroom" 4 19 3117) {K : Int32 → gS → Prop} {X : Nat → gS → Prop} (hK : ∀ r G, K r G → cxK C (some (vI r)) G) (hX : ∀ q G, X q G → cxX C q G) {G : gS} {ts0 : Nat} (h : wp_X0_addBroom_15 (cxA C) X K G ts0) : gGo C G 15 [] [vQ (some ts0)] := by
  unfold wp_X0_addBroom_15 at h
  refine g_astore_n hC (pc := 15) (lv' := [(3, vQ (some ts0))]) rfl (by decide) rfl dX0_addBroom_15 ?_
  refine g_iconst hC (pc := 16) (v := (2 : Int32)) (by decide) dX0_addBroom_16 ?_
  exact g_iret hC (pc := 17) (hK _ _ h) dX0_addBroom_17
def wp_X0_addBroom (ad : Nat → Nat) (G : gS) (o0 : Option Nat) (x1 : Int32) (o2 : Option Nat) (X : Nat → gS → Prop) (K : Int32 → gS → Prop) : Prop :=
  wNN o0 fun c1 => (gIs G c1 1 ∧ wp_X1_addBroom ad G c1 x1 (fun y3 G4 => (gHas G4 y3 21 ∧ (wp_X0_addBroom_12 ad X K G4 y3)) ∨ (gHas G4 y3 22 ∧ (wp_X0_addBroom_15 ad X K G4 y3))) (fun r5 G2 => wNN o2 fun c6 => wAstL G2 c6 (0 : Int32) ((r5).toInt64) fun G7 => K (0 : Int32) G7))
theorem w_X0_addBroom {C : gCx} (hC : gOk C "GoblinHouseholdLaw" cX0_addBroom [(0, 9, 12, 13), (0, 9, 15, 15)] (some .int) "addBroom" 4 19 3117) {K : Int32 → gS → Prop} {X : Nat → gS → Prop} (hK : ∀ r G, K r G → cxK C (some (vI r)) G) (hX : ∀ q G, X q G → cxX C q G) {G : gS} {o0 : Option Nat} {x1 : Int32} {o2 : Option Nat} (h : wp_X0_addBroom (cxA C) G o0 x1 o2 X K) : gGo C G 0 [(0, vQ o0), (1, vI x1), (2, vQ o2)] [] := by
  unfold wp_X0_addBroom at h
  refine g_aload_n hC (pc := 0) 2 rfl rfl dX0_addBroom_0 ?_
  refine g_iconst hC (pc := 1) (v := (0 : Int32)) (by decide) dX0_addBroom_1 ?_
  refine g_aload_n hC (pc := 2) 0 rfl rfl dX0_addBroom_2 ?_
  refine g_iload_n hC (pc := 3) 1 rfl rfl dX0_addBroom_3 ?_
  rcases o0 with _ | c1
  · exact (gNN0 h).elim
  replace h := gNN1 h
  obtain ⟨hi, h⟩ := h
  refine g_callV hC (pc := 4) (ci := 1) (As := [vI x1]) gc_X1_addBroom (m_X1_addBroom hC.fl h) rfl hi q1298 q1299 q1300 (gle rfl) (gle rfl) rfl (gle rfl) rfl dX0_addBroom_4 (gk_i fun r5 G2 h => ?_) (fun y3 G4 h hio => ?_)
  · refine g_i2l hC (pc := 7) dX0_addBroom_7 ?_
    rcases o2 with _ | c6
    · exact (gNN0 h).elim
    replace h := gNN1 h
    refine g_astL hC (pc := 8) h dX0_addBroom_8 (fun G7 h => ?_)
    refine g_goto hC (pc := 9) 18 (by decide) dX0_addBroom_9 ?_
    refine g_iconst hC (pc := 18) (v := (0 : Int32)) (by decide) dX0_addBroom_18 ?_
    exact g_iret hC (pc := 19) (hK _ _ h) dX0_addBroom_19
  · rcases h with h | h
    · obtain ⟨hq, h⟩ := h
      refine g_catchI hC (pc := 4) (ci := 21) rfl hq 0 rfl (fun _ h => nomatch h) rfl (by decide) q871 (List.mem_of_getElem? (i := 4) rfl) rfl ?_
      exact g_sub [] rfl (w_X0_addBroom_12 hC hK hX h)
    · obtain ⟨hq, h⟩ := h
      refine g_catchI hC (pc := 4) (ci := 22) rfl hq 1 rfl (List.forall_mem_cons.mpr ⟨Or.inr ⟨by decide, "java/lang/IllegalArgumentException", q871, (List.mem_of_getElem? (i := 11) rfl)⟩, fun _ h => nomatch h⟩) rfl (by decide) q872 (List.mem_of_getElem? (i := 9) rfl) rfl ?_
      exact g_sub [] rfl (w_X0_addBroom_15 hC hK hX h)
theorem gc_X0_addBroom : gCodeW yX0_addBroom cX0_addBroom 4 (some .int) [(0, 9, 12, 13), (0, 9, 15, 15)] 3 := ⟨q1297, q93, ⟨by decide, by decide⟩, rfl⟩
theorem m_X0_addBroom {l : Launch} (hfl : l.stackTraces = false) {E : gE} {G : gS} {o0 : Option Nat} {x1 : Int32} {o2 : Option Nat} {X : Nat → gS → Prop} {K : Int32 → gS → Prop} (h : wp_X0_addBroom (gAd E) G o0 x1 o2 X K) : gMet l yX0_addBroom (wsW_ yX0_addBroom cX0_addBroom 4 (some .int) [(0, 9, 12, 13), (0, 9, 15, 15)]) 19 3117 [vQ o0, vI x1, vQ o2] E G (gRi K) X :=
  g_metW hfl (plainFor_of_name (by decide +kernel)) rfl rfl rfl (gle rfl) (fun p e R s m args below meth c hC => w_X0_addBroom hC (fun _ _ h => h) (fun _ _ h => h) h)
def wp_X3_addsBroom_24 (ad : Nat → Nat) (X : Nat → gS → Prop) (K : Int32 → gS → Prop) (G : gS) (t0 : Nat) (x1 : Int32) (xs0 : Int32) (xs1 : Int32) (ts2 : Nat) : Prop :=
  (gIs G ts2 0 ∧ wp_X3_holds ad G ts2 xs1 xs0 (1 : Int32) (1 : Int32) X (fun r2 G1 => (¬ r2 = (0 : Int32) → wGetQ G1 t0 0 0 fun q3 => wGetQ G1 t0 0 0 fun q4 => wNN q4 fun c5 => wAldI G1 c5 (8 : Int32) fun i6 => wNN q3 fun c7 => wAstI G1 c7 (((18 : Int32) + ((2 : Int32) * i6)) + (0 : Int32)) x1 fun G8 => wGetQ G8 t0 0 0 fun q9 => wGetQ G8 t0 0 0 fun q10 => wNN q10 fun c11 => wAldI G8 c11 (8 : Int32) fun i12 => wNN q9 fun c13 => wAstI G8 c13 (((18 : Int32) + ((2 : Int32) * i12)) + (1 : Int32)) (0 : Int32) fun G14 => wGetQ G14 t0 0 0 fun q15 => wNN q15 fun c16 => wAldI G14 c16 (8 : Int32) fun i17 => wAstI G14 c16 (8 : Int32) (i17 + (1 : Int32)) fun G18 => wGetQ G18 t0 0 0 fun q19 => wNN q19 fun c20 => wAldI G18 c20 (8 : Int32) fun i21 => K (i21 - (1 : Int32)) G18) ∧ (r2 = (0 : Int32) → K (0 : Int32) G1)))
theorem w_X3_addsBroom_24 {C : gCx} (hC : gOk C "GoblinHouseholdModel" cX3_addsBroom [] (some .int) "addsBroom" 2 1 32) {K : Int32 → gS → Prop} {X : Nat → gS → Prop} (hK : ∀ r G, K r G → cxK C (some (vI r)) G) (hX : ∀ q G, X q G → cxX C q G) {G : gS} {t0 : Nat} {x1 : Int32} {xs0 : Int32} {xs1 : Int32} {ts2 : Nat} (h : wp_X3_addsBroom_24 (cxA C) X K G t0 x1 xs0 xs1 ts2) : gGo C G 24 [(0, vQ (some t0)), (1, vI x1)] [vI xs0, vI xs1, vQ (some ts2)] := by
  unfold wp_X3_addsBroom_24 at h
  refine g_iconst hC (pc := 24) (v := (1 : Int32)) (by decide) dX3_addsBroom_24 ?_
  refine g_iconst hC (pc := 25) (v := (1 : Int32)) (by decide) dX3_addsBroom_25 ?_
  obtain ⟨hi, h⟩ := h
  refine g_callV hC (pc := 26) (ci := 0) (As := [vI xs1, vI xs0, vI (1 : Int32), vI (1 : Int32)]) gc_X3_holds (m_X3_holds hC.fl h) rfl hi q2550 q2552 qs44 (gle rfl) (gle rfl) rfl (gle rfl) rfl dX3_addsBroom_26 (gk_i fun r2 G1 h => ?_) (fun _ _ h hio => g_out0 hC (hX _ _ h) hio)
  refine g_if_ne hC (pc := 29) 34 h (by decide) dX3_addsBroom_29 (fun h => ?_) (fun h => ?_)
  · refine g_aload_n hC (pc := 34) 0 rfl rfl dX3_addsBroom_34 ?_
    refine g_getQ hC (pc := 35) in_X3 (ci := 0) rfl 0 (by decide) q2477 (Or.inl rfl) h dX3_addsBroom_35 (fun q3 h => ?_)
    refine g_bipush hC (pc := 38) (v := (18 : Int32)) (by decide) dX3_addsBroom_38 ?_
    refine g_iconst hC (pc := 40) (v := (2 : Int32)) (by decide) dX3_addsBroom_40 ?_
    refine g_aload_n hC (pc := 41) 0 rfl rfl dX3_addsBroom_41 ?_
    refine g_getQ hC (pc := 42) in_X3 (ci := 0) rfl 0 (by decide) q2477 (Or.inl rfl) h dX3_addsBroom_42 (fun q4 h => ?_)
    refine g_bipush hC (pc := 45) (v := (8 : Int32)) (by decide) dX3_addsBroom_45 ?_
    rcases q4 with _ | c5
    · exact (gNN0 h).elim
    replace h := gNN1 h
    refine g_aldI hC (pc := 47) h dX3_addsBroom_47 (fun i6 h => ?_)
    refine g_imul hC (pc := 48) dX3_addsBroom_48 ?_
    refine g_iadd hC (pc := 49) dX3_addsBroom_49 ?_
    refine g_iconst hC (pc := 50) (v := (0 : Int32)) (by decide) dX3_addsBroom_50 ?_
    refine g_iadd hC (pc := 51) dX3_addsBroom_51 ?_
    refine g_iload_n hC (pc := 52) 1 rfl rfl dX3_addsBroom_52 ?_
    rcases q3 with _ | c7
    · exact (gNN0 h).elim
    replace h := gNN1 h
    refine g_astI hC (pc := 53) h dX3_addsBroom_53 (fun G8 h => ?_)
    refine g_aload_n hC (pc := 54) 0 rfl rfl dX3_addsBroom_54 ?_
    refine g_getQ hC (pc := 55) in_X3 (ci := 0) rfl 0 (by decide) q2477 (Or.inl rfl) h dX3_addsBroom_55 (fun q9 h => ?_)
    refine g_bipush hC (pc := 58) (v := (18 : Int32)) (by decide) dX3_addsBroom_58 ?_
    refine g_iconst hC (pc := 60) (v := (2 : Int32)) (by decide) dX3_addsBroom_60 ?_
    refine g_aload_n hC (pc := 61) 0 rfl rfl dX3_addsBroom_61 ?_
    refine g_getQ hC (pc := 62) in_X3 (ci := 0) rfl 0 (by decide) q2477 (Or.inl rfl) h dX3_addsBroom_62 (fun q10 h => ?_)
    refine g_bipush hC (pc := 65) (v := (8 : Int32)) (by decide) dX3_addsBroom_65 ?_
    rcases q10 with _ | c11
    · exact (gNN0 h).elim
    replace h := gNN1 h
    refine g_aldI hC (pc := 67) h dX3_addsBroom_67 (fun i12 h => ?_)
    refine g_imul hC (pc := 68) dX3_addsBroom_68 ?_
    refine g_iadd hC (pc := 69) dX3_addsBroom_69 ?_
    refine g_iconst hC (pc := 70) (v := (1 : Int32)) (by decide) dX3_addsBroom_70 ?_
    refine g_iadd hC (pc := 71) dX3_addsBroom_71 ?_
    refine g_iconst hC (pc := 72) (v := (0 : Int32)) (by decide) dX3_addsBroom_72 ?_
    rcases q9 with _ | c13
    · exact (gNN0 h).elim
    replace h := gNN1 h
    refine g_astI hC (pc := 73) h dX3_addsBroom_73 (fun G14 h => ?_)
    refine g_aload_n hC (pc := 74) 0 rfl rfl dX3_addsBroom_74 ?_
    refine g_getQ hC (pc := 75) in_X3 (ci := 0) rfl 0 (by decide) q2477 (Or.inl rfl) h dX3_addsBroom_75 (fun q15 h => ?_)
    refine g_bipush hC (pc := 78) (v := (8 : Int32)) (by decide) dX3_addsBroom_78 ?_
    refine g_dup2 hC (pc := 80) rfl rfl dX3_addsBroom_80 ?_
    rcases q15 with _ | c16
    · exact (gNN0 h).elim
    replace h := gNN1 h
    refine g_aldI hC (pc := 81) h dX3_addsBroom_81 (fun i17 h => ?_)
    refine g_iconst hC (pc := 82) (v := (1 : Int32)) (by decide) dX3_addsBroom_82 ?_
    refine g_iadd hC (pc := 83) dX3_addsBroom_83 ?_
    refine g_astI hC (pc := 84) h dX3_addsBroom_84 (fun G18 h => ?_)
    refine g_aload_n hC (pc := 85) 0 rfl rfl dX3_addsBroom_85 ?_
    refine g_getQ hC (pc := 86) in_X3 (ci := 0) rfl 0 (by decide) q2477 (Or.inl rfl) h dX3_addsBroom_86 (fun q19 h => ?_)
    refine g_bipush hC (pc := 89) (v := (8 : Int32)) (by decide) dX3_addsBroom_89 ?_
    rcases q19 with _ | c20
    · exact (gNN0 h).elim
    replace h := gNN1 h
    refine g_aldI hC (pc := 91) h dX3_addsBroom_91 (fun i21 h => ?_)
    refine g_iconst hC (pc := 92) (v := (1 : Int32)) (by decide) dX3_addsBroom_92 ?_
    refine g_isub hC (pc := 93) dX3_addsBroom_93 ?_
    exact g_iret hC (pc := 94) (hK _ _ h) dX3_addsBroom_94
  · refine g_iconst hC (pc := 32) (v := (0 : Int32)) (by decide) dX3_addsBroom_32 ?_
    exact g_iret hC (pc := 33) (hK _ _ h) dX3_addsBroom_33
def wp_X3_addsBroom (ad : Nat → Nat) (G : gS) (t0 : Nat) (x1 : Int32) (X : Nat → gS → Prop) (K : Int32 → gS → Prop) : Prop :=
  wp_X3_isIn ad G x1 (1 : Int32) (20 : Int32) X (fun r2 G1 => wGetQ G1 t0 0 0 fun q3 => wNN q3 fun c4 => wAldI G1 c4 (8 : Int32) fun i5 => ((4 : Int32) ≤ i5 → wp_X3_addsBroom_24 ad X K G1 t0 x1 (0 : Int32) r2 t0) ∧ (¬ (4 : Int32) ≤ i5 → wp_X3_addsBroom_24 ad X K G1 t0 x1 (1 : Int32) r2 t0))
theorem w_X3_addsBroom {C : gCx} (hC : gOk C "GoblinHouseholdModel" cX3_addsBroom [] (some .int) "addsBroom" 2 1 32) {K : Int32 → gS → Prop} {X : Nat → gS → Prop} (hK : ∀ r G, K r G → cxK C (some (vI r)) G) (hX : ∀ q G, X q G → cxX C q G) {G : gS} {t0 : Nat} {x1 : Int32} (h : wp_X3_addsBroom (cxA C) G t0 x1 X K) : gGo C G 0 [(0, vQ (some t0)), (1, vI x1)] [] := by
  unfold wp_X3_addsBroom at h
  refine g_aload_n hC (pc := 0) 0 rfl rfl dX3_addsBroom_0 ?_
  refine g_iload_n hC (pc := 1) 1 rfl rfl dX3_addsBroom_1 ?_
  refine g_iconst hC (pc := 2) (v := (1 : Int32)) (by decide) dX3_addsBroom_2 ?_
  refine g_bipush hC (pc := 3) (v := (20 : Int32)) (by decide) dX3_addsBroom_3 ?_
  refine g_callS hC (pc := 5) (b := 0) (As := [vI x1, vI (1 : Int32), vI (20 : Int32)]) gc_X3_isIn (m_X3_isIn hC.fl h) q2577 q2578 (gle rfl) (gle rfl) rfl (gle rfl) rfl dX3_addsBroom_5 (gk_i fun r2 G1 h => ?_) (fun _ _ h hio => g_out0 hC (hX _ _ h) hio)
  refine g_aload_n hC (pc := 8) 0 rfl rfl dX3_addsBroom_8 ?_
  refine g_getQ hC (pc := 9) in_X3 (ci := 0) rfl 0 (by decide) q2477 (Or.inl rfl) h dX3_addsBroom_9 (fun q3 h => ?_)
  refine g_bipush hC (pc := 12) (v := (8 : Int32)) (by decide) dX3_addsBroom_12 ?_
  rcases q3 with _ | c4
  · exact (gNN0 h).elim
  replace h := gNN1 h
  refine g_aldI hC (pc := 14) h dX3_addsBroom_14 (fun i5 h => ?_)
  refine g_iconst hC (pc := 15) (v := (4 : Int32)) (by decide) dX3_addsBroom_15 ?_
  refine g_icmp_ge hC (pc := 16) 23 h (by decide) dX3_addsBroom_16 (fun h => ?_) (fun h => ?_)
  · refine g_iconst hC (pc := 23) (v := (0 : Int32)) (by decide) dX3_addsBroom_23 ?_
    exact g_sub [0, 1] rfl (w_X3_addsBroom_24 hC hK hX h)
  · refine g_iconst hC (pc := 19) (v := (1 : Int32)) (by decide) dX3_addsBroom_19 ?_
    refine g_goto hC (pc := 20) 24 (by decide) dX3_addsBroom_20 ?_
    exact g_sub [0, 1] rfl (w_X3_addsBroom_24 hC hK hX h)
theorem gc_X3_addsBroom : gCode yX3_addsBroom cX3_addsBroom 2 (some .int) 1 := ⟨q2595, q105, ⟨by decide, by decide⟩, rfl⟩
theorem m_X3_addsBroom {l : Launch} (hfl : l.stackTraces = false) {E : gE} {G : gS} {t0 : Nat} {x1 : Int32} {X : Nat → gS → Prop} {K : Int32 → gS → Prop} (h : wp_X3_addsBroom (gAd E) G t0 x1 X K) : gMet l yX3_addsBroom (ws_ yX3_addsBroom cX3_addsBroom 2 (some .int)) 1 32 [vQ (some t0), vI x1] E G (gRi K) X :=
  g_met hfl (plainFor_of_name (by decide +kernel)) rfl rfl rfl (gle rfl) (fun p e R s m args below meth c hC => w_X3_addsBroom hC (fun _ _ h => h) (fun _ _ h => h) h)
def wp_X3_addBroom (ad : Nat → Nat) (G : gS) (t0 : Nat) (x1 : Int32) (X : Nat → gS → Prop) (K : Int32 → gS → Prop) : Prop :=
  (gIs G t0 0 ∧ wp_X3_begins ad G t0  X (fun G1 => (gIs G1 t0 0 ∧ wp_X3_addsBroom ad G1 t0 x1 X (fun r3 G2 => (gIs G2 t0 0 ∧ wp_X3_ends ad G2 t0 r3 X (fun r5 G4 => K r5 G4))))))
theorem w_X3_addBroom {C : gCx} (hC : gOk C "GoblinHouseholdModel" cX3_addBroom [] (some .int) "addBroom" 2 3 90) {K : Int32 → gS → Prop} {X : Nat → gS → Prop} (hK : ∀ r G, K r G → cxK C (some (vI r)) G) (hX : ∀ q G, X q G → cxX C q G) {G : gS} {t0 : Nat} {x1 : Int32} (h : wp_X3_addBroom (cxA C) G t0 x1 X K) : gGo C G 0 [(0, vQ (some t0)), (1, vI x1)] [] := by
  unfold wp_X3_addBroom at h
  refine g_aload_n hC (pc := 0) 0 rfl rfl dX3_addBroom_0 ?_
  obtain ⟨hi, h⟩ := h
  refine g_callV hC (pc := 1) (ci := 0) (As := []) gc_X3_begins (m_X3_begins hC.fl h) rfl hi q2569 q2571 qs45 (gle rfl) (gle rfl) rfl (gle rfl) rfl dX3_addBroom_1 (gk_v fun G1 h => ?_) (fun _ _ h hio => g_out0 hC (hX _ _ h) hio)
  refine g_aload_n hC (pc := 4) 0 rfl rfl dX3_addBroom_4 ?_
  refine g_aload_n hC (pc := 5) 0 rfl rfl dX3_addBroom_5 ?_
  refine g_iload_n hC (pc := 6) 1 rfl rfl dX3_addBroom_6 ?_
  obtain ⟨hi, h⟩ := h
  refine g_callV hC (pc := 7) (ci := 0) (As := [vI x1]) gc_X3_addsBroom (m_X3_addsBroom hC.fl h) rfl hi q2592 q2594 qs49 (gle rfl) (gle rfl) rfl (gle rfl) rfl dX3_addBroom_7 (gk_i fun r3 G2 h => ?_) (fun _ _ h hio => g_out0 hC (hX _ _ h) hio)
  obtain ⟨hi, h⟩ := h
  refine g_callV hC (pc := 10) (ci := 0) (As := [vI r3]) gc_X3_ends (m_X3_ends hC.fl h) rfl hi q2580 q2582 qs47 (gle rfl) (gle rfl) rfl (gle rfl) rfl dX3_addBroom_10 (gk_i fun r5 G4 h => ?_) (fun _ _ h hio => g_out0 hC (hX _ _ h) hio)
  exact g_iret hC (pc := 13) (hK _ _ h) dX3_addBroom_13
theorem gc_X3_addBroom : gCode yX3_addBroom cX3_addBroom 2 (some .int) 1 := ⟨q2591, q105, ⟨by decide, by decide⟩, rfl⟩
theorem m_X3_addBroom {l : Launch} (hfl : l.stackTraces = false) {E : gE} {G : gS} {t0 : Nat} {x1 : Int32} {X : Nat → gS → Prop} {K : Int32 → gS → Prop} (h : wp_X3_addBroom (gAd E) G t0 x1 X K) : gMet l yX3_addBroom (ws_ yX3_addBroom cX3_addBroom 2 (some .int)) 3 90 [vQ (some t0), vI x1] E G (gRi K) X :=
  g_met hfl (plainFor_of_name (by decide +kernel)) rfl rfl rfl (gle rfl) (fun p e R s m args below meth c hC => w_X3_addBroom hC (fun _ _ h => h) (fun _ _ h => h) h)
def wp_X1_banishBroom (ad : Nat → Nat) (G : gS) (t0 : Nat) (x1 : Int32) (X : Nat → gS → Prop) (K : Int32 → gS → Prop) : Prop :=
  wMkL G 3 [x1] fun c2 G1 => (gIs G1 t0 1 ∧ wp_X1_apply ad G1 t0 (some c2) X (fun r4 G3 => K r4 G3))
theorem w_X1_banishBroom {C : gCx} (hC : gOk C "GoblinHousehold" cX1_banishBroom [] (some .int) "banishBroom" 2 18 3088) (hN : gNm C yX1_banishBroom) {K : Int32 → gS → Prop} {X : Nat → gS → Prop} (hK : ∀ r G, K r G → cxK C (some (vI r)) G) (hX : ∀ q G, X q G → cxX C q G) {G : gS} {t0 : Nat} {x1 : Int32} (h : wp_X1_banishBroom (cxA C) G t0 x1 X K) : gGo C G 0 [(0, vQ (some t0)), (1, vI x1)] [] := by
  unfold wp_X1_banishBroom at h
  refine g_aload_n hC (pc := 0) 0 rfl rfl dX1_banishBroom_0 ?_
  refine g_iload_n hC (pc := 1) 1 rfl rfl dX1_banishBroom_1 ?_
  refine g_indyM hC (pc := 2) (q := gSite_3) (xs := [x1]) hN (List.mem_of_getElem? (i := 3) rfl) rfl (by decide) lok_3 q3057 q1332 gc_X1_lambda_banishBroom_2 rfl rfl (gle rfl) (gle rfl) rfl rfl h dX1_banishBroom_2 (fun c2 G1 h => ?_)
  obtain ⟨hi, h⟩ := h
  refine g_callVW hC (pc := 7) (ci := 1) (As := [vQ (some c2)]) gc_X1_apply (m_X1_apply hC.fl h) rfl hi q1049 q1051 qs12 (gle rfl) (gle rfl) rfl (gle rfl) rfl dX1_banishBroom_7 (gk_i fun r4 G3 h => ?_) (fun _ _ h hio => g_out0 hC (hX _ _ h) hio)
  exact g_iret hC (pc := 10) (hK _ _ h) dX1_banishBroom_10
theorem gc_X1_banishBroom : gCode yX1_banishBroom cX1_banishBroom 2 (some .int) 1 := ⟨q1331, q94, ⟨by decide, by decide⟩, rfl⟩
theorem m_X1_banishBroom {l : Launch} (hfl : l.stackTraces = false) {E : gE} {G : gS} {t0 : Nat} {x1 : Int32} {X : Nat → gS → Prop} {K : Int32 → gS → Prop} (h : wp_X1_banishBroom (gAd E) G t0 x1 X K) : gMet l yX1_banishBroom (ws_ yX1_banishBroom cX1_banishBroom 2 (some .int)) 18 3088 [vQ (some t0), vI x1] E G (gRi K) X :=
  g_metN hfl (plainFor_of_name (by decide +kernel)) rfl rfl rfl (gle rfl) (fun p e R s m args below meth c hC hN => w_X1_banishBroom hC hN (fun _ _ h => h) (fun _ _ h => h) h)
def wp_X0_banishBroom_12 (ad : Nat → Nat) (X : Nat → gS → Prop) (K : Int32 → gS → Prop) (G : gS) (ts0 : Nat) : Prop :=
  K (1 : Int32) G
theorem w_X0_banishBroom_12 {C : gCx} (hC : gOk C "GoblinHouseholdLaw" cX0_banishBroom [(0, 9, 12, 23), (0, 9, 15, 15)] (some .int) "banishBroom" 4 19 3117) {K : Int32 → gS → Prop} {X : Nat → gS → Prop} (hK : ∀ r G, K r G → cxK C (some (vI r)) G) (hX : ∀ q G, X q G → cxX C q G) {G : gS} {ts0 : Nat} (h : wp_X0_banishBroom_12 (cxA C) X K G ts0) : gGo C G 12 [] [vQ (some ts0)] := by
  unfold wp_X0_banishBroom_12 at h
  refine g_astore_n hC (pc := 12) (lv' := [(3, vQ (some ts0))]) rfl (by decide) rfl dX0_banishBroom_12 ?_
  refine g_iconst hC (pc := 13) (v := (1 : Int32)) (by decide) dX0_banishBroom_13 ?_
  exact g_iret hC (pc := 14) (hK _ _ h) dX0_banishBroom_14
def wp_X0_banishBroom_15 (ad : Nat → Nat) (X : Nat → gS → Prop) (K : Int32 → gS → Prop) (G : gS) (ts0 : Nat) : Prop :=
  K (2 : Int32) G
theorem w_X0_banishBroom_15 {C : gCx} (hC : gOk C "GoblinHouseholdLaw" cX0_banishBroom [(0, 9, 12, 23), (0, 9, 15, 15)] (some .int) "banishBroom" 4 19 3117) {K : Int32 → gS → Prop} {X : Nat → gS → Prop} (hK : ∀ r G, K r G → cxK C (some (vI r)) G) (hX : ∀ q G, X q G → cxX C q G) {G : gS} {ts0 : Nat} (h : wp_X0_banishBroom_15 (cxA C) X K G ts0) : gGo C G 15 [] [vQ (some ts0)] := by
  unfold wp_X0_banishBroom_15 at h
  refine g_astore_n hC (pc := 15) (lv' := [(3, vQ (some ts0))]) rfl (by decide) rfl dX0_banishBroom_15 ?_
  refine g_iconst hC (pc := 16) (v := (2 : Int32)) (by decide) dX0_banishBroom_16 ?_
  exact g_iret hC (pc := 17) (hK _ _ h) dX0_banishBroom_17
def wp_X0_banishBroom (ad : Nat → Nat) (G : gS) (o0 : Option Nat) (x1 : Int32) (o2 : Option Nat) (X : Nat → gS → Prop) (K : Int32 → gS → Prop) : Prop :=
  wNN o0 fun c1 => (gIs G c1 1 ∧ wp_X1_banishBroom ad G c1 x1 (fun y3 G4 => (gHas G4 y3 20 ∧ (wp_X0_banishBroom_12 ad X K G4 y3)) ∨ (gHas G4 y3 22 ∧ (wp_X0_banishBroom_15 ad X K G4 y3))) (fun r5 G2 => wNN o2 fun c6 => wAstL G2 c6 (0 : Int32) ((r5).toInt64) fun G7 => K (0 : Int32) G7))
theorem w_X0_banishBroom {C : gCx} (hC : gOk C "GoblinHouseholdLaw" cX0_banishBroom [(0, 9, 12, 23), (0, 9, 15, 15)] (some .int) "banishBroom" 4 19 3117) {K : Int32 → gS → Prop} {X : Nat → gS → Prop} (hK : ∀ r G, K r G → cxK C (some (vI r)) G) (hX : ∀ q G, X q G → cxX C q G) {G : gS} {o0 : Option Nat} {x1 : Int32} {o2 : Option Nat} (h : wp_X0_banishBroom (cxA C) G o0 x1 o2 X K) : gGo C G 0 [(0, vQ o0), (1, vI x1), (2, vQ o2)] [] := by
  unfold wp_X0_banishBroom at h
  refine g_aload_n hC (pc := 0) 2 rfl rfl dX0_banishBroom_0 ?_
  refine g_iconst hC (pc := 1) (v := (0 : Int32)) (by decide) dX0_banishBroom_1 ?_
  refine g_aload_n hC (pc := 2) 0 rfl rfl dX0_banishBroom_2 ?_
  refine g_iload_n hC (pc := 3) 1 rfl rfl dX0_banishBroom_3 ?_
  rcases o0 with _ | c1
  · exact (gNN0 h).elim
  replace h := gNN1 h
  obtain ⟨hi, h⟩ := h
  refine g_callV hC (pc := 4) (ci := 1) (As := [vI x1]) gc_X1_banishBroom (m_X1_banishBroom hC.fl h) rfl hi q1328 q1329 q1330 (gle rfl) (gle rfl) rfl (gle rfl) rfl dX0_banishBroom_4 (gk_i fun r5 G2 h => ?_) (fun y3 G4 h hio => ?_)
  · refine g_i2l hC (pc := 7) dX0_banishBroom_7 ?_
    rcases o2 with _ | c6
    · exact (gNN0 h).elim
    replace h := gNN1 h
    refine g_astL hC (pc := 8) h dX0_banishBroom_8 (fun G7 h => ?_)
    refine g_goto hC (pc := 9) 18 (by decide) dX0_banishBroom_9 ?_
    refine g_iconst hC (pc := 18) (v := (0 : Int32)) (by decide) dX0_banishBroom_18 ?_
    exact g_iret hC (pc := 19) (hK _ _ h) dX0_banishBroom_19
  · rcases h with h | h
    · obtain ⟨hq, h⟩ := h
      refine g_catchI hC (pc := 4) (ci := 20) rfl hq 0 rfl (fun _ h => nomatch h) rfl (by decide) q1312 (List.mem_of_getElem? (i := 2) rfl) rfl ?_
      exact g_sub [] rfl (w_X0_banishBroom_12 hC hK hX h)
    · obtain ⟨hq, h⟩ := h
      refine g_catchI hC (pc := 4) (ci := 22) rfl hq 1 rfl (List.forall_mem_cons.mpr ⟨Or.inr ⟨by decide, "java/lang/IndexOutOfBoundsException", q1312, (List.mem_of_getElem? (i := 10) rfl)⟩, fun _ h => nomatch h⟩) rfl (by decide) q872 (List.mem_of_getElem? (i := 9) rfl) rfl ?_
      exact g_sub [] rfl (w_X0_banishBroom_15 hC hK hX h)
theorem gc_X0_banishBroom : gCodeW yX0_banishBroom cX0_banishBroom 4 (some .int) [(0, 9, 12, 23), (0, 9, 15, 15)] 3 := ⟨q1311, q93, ⟨by decide, by decide⟩, rfl⟩
theorem m_X0_banishBroom {l : Launch} (hfl : l.stackTraces = false) {E : gE} {G : gS} {o0 : Option Nat} {x1 : Int32} {o2 : Option Nat} {X : Nat → gS → Prop} {K : Int32 → gS → Prop} (h : wp_X0_banishBroom (gAd E) G o0 x1 o2 X K) : gMet l yX0_banishBroom (wsW_ yX0_banishBroom cX0_banishBroom 4 (some .int) [(0, 9, 12, 23), (0, 9, 15, 15)]) 19 3117 [vQ o0, vI x1, vQ o2] E G (gRi K) X :=
  g_metW hfl (plainFor_of_name (by decide +kernel)) rfl rfl rfl (gle rfl) (fun p e R s m args below meth c hC => w_X0_banishBroom hC (fun _ _ h => h) (fun _ _ h => h) h)
def wp_X3_isBroom (ad : Nat → Nat) (G : gS) (t0 : Nat) (x1 : Int32) (X : Nat → gS → Prop) (K : Int32 → gS → Prop) : Prop :=
  wGetQ G t0 0 0 fun q1 => wNN q1 fun c2 => wAldI G c2 (8 : Int32) fun i3 => wp_X3_isIn ad G x1 (0 : Int32) (i3 - (1 : Int32)) X (fun r5 G4 => gNar .boolean r5 ∧ K r5 G4)
theorem w_X3_isBroom {C : gCx} (hC : gOk C "GoblinHouseholdModel" cX3_isBroom [] (some .boolean) "isBroom" 2 1 30) {K : Int32 → gS → Prop} {X : Nat → gS → Prop} (hK : ∀ r G, K r G → cxK C (some (vI r)) G) (hX : ∀ q G, X q G → cxX C q G) {G : gS} {t0 : Nat} {x1 : Int32} (h : wp_X3_isBroom (cxA C) G t0 x1 X K) : gGo C G 0 [(0, vQ (some t0)), (1, vI x1)] [] := by
  unfold wp_X3_isBroom at h
  refine g_iload_n hC (pc := 0) 1 rfl rfl dX3_isBroom_0 ?_
  refine g_iconst hC (pc := 1) (v := (0 : Int32)) (by decide) dX3_isBroom_1 ?_
  refine g_aload_n hC (pc := 2) 0 rfl rfl dX3_isBroom_2 ?_
  refine g_getQ hC (pc := 3) in_X3 (ci := 0) rfl 0 (by decide) q2477 (Or.inl rfl) h dX3_isBroom_3 (fun q1 h => ?_)
  refine g_bipush hC (pc := 6) (v := (8 : Int32)) (by decide) dX3_isBroom_6 ?_
  rcases q1 with _ | c2
  · exact (gNN0 h).elim
  replace h := gNN1 h
  refine g_aldI hC (pc := 8) h dX3_isBroom_8 (fun i3 h => ?_)
  refine g_iconst hC (pc := 9) (v := (1 : Int32)) (by decide) dX3_isBroom_9 ?_
  refine g_isub hC (pc := 10) dX3_isBroom_10 ?_
  refine g_callS hC (pc := 11) (b := 0) (As := [vI x1, vI (0 : Int32), vI (i3 - (1 : Int32))]) gc_X3_isIn (m_X3_isIn hC.fl h) q2577 q2578 (gle rfl) (gle rfl) rfl (gle rfl) rfl dX3_isBroom_11 (gk_i fun r5 G4 h => ?_) (fun _ _ h hio => g_out0 hC (hX _ _ h) hio)
  exact g_zret hC (pc := 14) h.1 (hK _ _ h.2) dX3_isBroom_14
theorem gc_X3_isBroom : gCode yX3_isBroom cX3_isBroom 2 (some .boolean) 1 := ⟨q2607, q105, ⟨by decide, by decide⟩, rfl⟩
theorem m_X3_isBroom {l : Launch} (hfl : l.stackTraces = false) {E : gE} {G : gS} {t0 : Nat} {x1 : Int32} {X : Nat → gS → Prop} {K : Int32 → gS → Prop} (h : wp_X3_isBroom (gAd E) G t0 x1 X K) : gMet l yX3_isBroom (ws_ yX3_isBroom cX3_isBroom 2 (some .boolean)) 1 30 [vQ (some t0), vI x1] E G (gRi K) X :=
  g_met hfl (plainFor_of_name (by decide +kernel)) rfl rfl rfl (gle rfl) (fun p e R s m args below meth c hC => w_X3_isBroom hC (fun _ _ h => h) (fun _ _ h => h) h)
def wp_X3_ofBroom_20 (ad : Nat → Nat) (X : Nat → gS → Prop) (K : Int32 → gS → Prop) (G : gS) (x2 : Int32) (xs0 : Int32) (xs1 : Int32) (xs2 : Int32) (os3 : Option Nat) : Prop :=
  wNN os3 fun c1 => wAldI G c1 ((xs2 + (xs1 * xs0)) + x2) fun i2 => K i2 G
theorem w_X3_ofBroom_20 {C : gCx} (hC : gOk C "GoblinHouseholdModel" cX3_ofBroom [] (some .int) "ofBroom" 3 2 59) {K : Int32 → gS → Prop} {X : Nat → gS → Prop} (hK : ∀ r G, K r G → cxK C (some (vI r)) G) (hX : ∀ q G, X q G → cxX C q G) {G : gS} {x2 : Int32} {xs0 : Int32} {xs1 : Int32} {xs2 : Int32} {os3 : Option Nat} (h : wp_X3_ofBroom_20 (cxA C) X K G x2 xs0 xs1 xs2 os3) : gGo C G 20 [(2, vI x2)] [vI xs0, vI xs1, vI xs2, vQ os3] := by
  unfold wp_X3_ofBroom_20 at h
  refine g_imul hC (pc := 20) dX3_ofBroom_20 ?_
  refine g_iadd hC (pc := 21) dX3_ofBroom_21 ?_
  refine g_iload_n hC (pc := 22) 0 rfl rfl dX3_ofBroom_22 ?_
  refine g_iadd hC (pc := 23) dX3_ofBroom_23 ?_
  rcases os3 with _ | c1
  · exact (gNN0 h).elim
  replace h := gNN1 h
  refine g_aldI hC (pc := 24) h dX3_ofBroom_24 (fun i2 h => ?_)
  exact g_iret hC (pc := 25) (hK _ _ h) dX3_ofBroom_25
def wp_X3_ofBroom (ad : Nat → Nat) (G : gS) (t0 : Nat) (x1 : Int32) (x2 : Int32) (X : Nat → gS → Prop) (K : Int32 → gS → Prop) : Prop :=
  wGetQ G t0 0 0 fun q1 => (gIs G t0 0 ∧ wp_X3_isBroom ad G t0 x1 X (fun r3 G2 => (r3 = (0 : Int32) → wp_X3_ofBroom_20 ad X K G2 x2 (0 : Int32) (2 : Int32) (18 : Int32) q1) ∧ (¬ r3 = (0 : Int32) → wp_X3_ofBroom_20 ad X K G2 x2 x1 (2 : Int32) (18 : Int32) q1)))
theorem w_X3_ofBroom {C : gCx} (hC : gOk C "GoblinHouseholdModel" cX3_ofBroom [] (some .int) "ofBroom" 3 2 59) {K : Int32 → gS → Prop} {X : Nat → gS → Prop} (hK : ∀ r G, K r G → cxK C (some (vI r)) G) (hX : ∀ q G, X q G → cxX C q G) {G : gS} {t0 : Nat} {x1 : Int32} {x2 : Int32} (h : wp_X3_ofBroom (cxA C) G t0 x1 x2 X K) : gGo C G 0 [(0, vQ (some t0)), (1, vI x1), (2, vI x2)] [] := by
  unfold wp_X3_ofBroom at h
  refine g_aload_n hC (pc := 0) 0 rfl rfl dX3_ofBroom_0 ?_
  refine g_getQ hC (pc := 1) in_X3 (ci := 0) rfl 0 (by decide) q2477 (Or.inl rfl) h dX3_ofBroom_1 (fun q1 h => ?_)
  refine g_bipush hC (pc := 4) (v := (18 : Int32)) (by decide) dX3_ofBroom_4 ?_
  refine g_iconst hC (pc := 6) (v := (2 : Int32)) (by decide) dX3_ofBroom_6 ?_
  refine g_aload_n hC (pc := 7) 0 rfl rfl dX3_ofBroom_7 ?_
  refine g_iload_n hC (pc := 8) 1 rfl rfl dX3_ofBroom_8 ?_
  obtain ⟨hi, h⟩ := h
  refine g_callV hC (pc := 9) (ci := 0) (As := [vI x1]) gc_X3_isBroom (m_X3_isBroom hC.fl h) rfl hi q2604 q2606 qs51 (gle rfl) (gle rfl) rfl (gle rfl) rfl dX3_ofBroom_9 (gk_i fun r3 G2 h => ?_) (fun _ _ h hio => g_out0 hC (hX _ _ h) hio)
  refine g_if_eq hC (pc := 12) 19 h (by decide) dX3_ofBroom_12 (fun h => ?_) (fun h => ?_)
  · refine g_iconst hC (pc := 19) (v := (0 : Int32)) (by decide) dX3_ofBroom_19 ?_
    exact g_sub [2] rfl (w_X3_ofBroom_20 hC hK hX h)
  · refine g_iload_n hC (pc := 15) 1 rfl rfl dX3_ofBroom_15 ?_
    refine g_goto hC (pc := 16) 20 (by decide) dX3_ofBroom_16 ?_
    exact g_sub [2] rfl (w_X3_ofBroom_20 hC hK hX h)
theorem gc_X3_ofBroom : gCode yX3_ofBroom cX3_ofBroom 3 (some .int) 2 := ⟨q2611, q105, ⟨by decide, by decide⟩, rfl⟩
theorem m_X3_ofBroom {l : Launch} (hfl : l.stackTraces = false) {E : gE} {G : gS} {t0 : Nat} {x1 : Int32} {x2 : Int32} {X : Nat → gS → Prop} {K : Int32 → gS → Prop} (h : wp_X3_ofBroom (gAd E) G t0 x1 x2 X K) : gMet l yX3_ofBroom (ws_ yX3_ofBroom cX3_ofBroom 3 (some .int)) 2 59 [vQ (some t0), vI x1, vI x2] E G (gRi K) X :=
  g_met hfl (plainFor_of_name (by decide +kernel)) rfl rfl rfl (gle rfl) (fun p e R s m args below meth c hC => w_X3_ofBroom hC (fun _ _ h => h) (fun _ _ h => h) h)
def wp_X3_inUse_4 (ad : Nat → Nat) (X : Nat → gS → Prop) (K : Int32 → gS → Prop) (J4 : gS → Nat → Int32 → Int32 → Prop) (G : gS) (t0 : Nat) (x1 : Int32) (x2 : Int32) : Prop :=
  wGetQ G t0 0 0 fun q1 => wNN q1 fun c2 => wAldI G c2 (8 : Int32) fun i3 => (i3 ≤ x2 → K x1 G) ∧ (¬ i3 ≤ x2 → (gIs G t0 0 ∧ wp_X3_ofBroom ad G t0 x2 (1 : Int32) X (fun r5 G4 => J4 G4 t0 (x1 + ((1 : Int32) - r5)) (x2 + (1 : Int32)))))
theorem w_X3_inUse_4 {C : gCx} (hC : gOk C "GoblinHouseholdModel" cX3_inUse [] (some .int) "inUse" 3 3 89) {K : Int32 → gS → Prop} {X : Nat → gS → Prop} (hK : ∀ r G, K r G → cxK C (some (vI r)) G) (hX : ∀ q G, X q G → cxX C q G) (n : Nat) : ∀ (G : gS) (t0 : Nat) (x1 : Int32) (x2 : Int32), gLoop (fun _ _ _ _ => False) (wp_X3_inUse_4 (cxA C) X K) n G t0 x1 x2 → gGo C G 4 [(0, vQ (some t0)), (1, vI x1), (2, vI x2)] [] := by
  induction n with
  | zero => intro G t0 x1 x2 h; exact h.elim
  | succ n ih =>
    intro G t0 x1 x2 h
    have hJ4 := ih
    replace h : wp_X3_inUse_4 (cxA C) X K _ G t0 x1 x2 := h
    unfold wp_X3_inUse_4 at h
    refine g_iload_n hC (pc := 4) 2 rfl rfl dX3_inUse_4 ?_
    refine g_aload_n hC (pc := 5) 0 rfl rfl dX3_inUse_5 ?_
    refine g_getQ hC (pc := 6) in_X3 (ci := 0) rfl 0 (by decide) q2477 (Or.inl rfl) h dX3_inUse_6 (fun q1 h => ?_)
    refine g_bipush hC (pc := 9) (v := (8 : Int32)) (by decide) dX3_inUse_9 ?_
    rcases q1 with _ | c2
    · exact (gNN0 h).elim
    replace h := gNN1 h
    refine g_aldI hC (pc := 11) h dX3_inUse_11 (fun i3 h => ?_)
    refine g_icmp_ge hC (pc := 12) 32 h (by decide) dX3_inUse_12 (fun h => ?_) (fun h => ?_)
    · refine g_iload_n hC (pc := 32) 1 rfl rfl dX3_inUse_32 ?_
      exact g_iret hC (pc := 33) (hK _ _ h) dX3_inUse_33
    · refine g_iload_n hC (pc := 15) 1 rfl rfl dX3_inUse_15 ?_
      refine g_iconst hC (pc := 16) (v := (1 : Int32)) (by decide) dX3_inUse_16 ?_
      refine g_aload_n hC (pc := 17) 0 rfl rfl dX3_inUse_17 ?_
      refine g_iload_n hC (pc := 18) 2 rfl rfl dX3_inUse_18 ?_
      refine g_iconst hC (pc := 19) (v := (1 : Int32)) (by decide) dX3_inUse_19 ?_
      obtain ⟨hi, h⟩ := h
      refine g_callV hC (pc := 20) (ci := 0) (As := [vI x2, vI (1 : Int32)]) gc_X3_ofBroom (m_X3_ofBroom hC.fl h) rfl hi q2608 q2610 qs52 (gle rfl) (gle rfl) rfl (gle rfl) rfl dX3_inUse_20 (gk_i fun r5 G4 h => ?_) (fun _ _ h hio => g_out0 hC (hX _ _ h) hio)
      refine g_isub hC (pc := 23) dX3_inUse_23 ?_
      refine g_iadd hC (pc := 24) dX3_inUse_24 ?_
      refine g_istore_n hC (pc := 25) (lv' := [(1, vI (x1 + ((1 : Int32) - r5))), (0, vQ (some t0)), (2, vI x2)]) rfl (by decide) rfl dX3_inUse_25 ?_
      refine g_iinc hC (pc := 26) 2 (d := (1 : Int32)) (v := (x2 + (1 : Int32))) (lv' := [(2, vI (x2 + (1 : Int32))), (1, vI (x1 + ((1 : Int32) - r5))), (0, vQ (some t0))]) rfl (by decide) rfl (by decide) rfl dX3_inUse_26 ?_
      refine g_goto hC (pc := 29) 4 (by decide) dX3_inUse_29 ?_
      exact g_sub [2, 1, 0] rfl (hJ4 _ _ _ _ h)
def wp_X3_inUse (ad : Nat → Nat) (G : gS) (t0 : Nat) (X : Nat → gS → Prop) (K : Int32 → gS → Prop) : Prop :=
  gLoop (fun _ _ _ _ => False) (wp_X3_inUse_4 ad X K) gFuel G t0 (0 : Int32) (0 : Int32)
theorem w_X3_inUse {C : gCx} (hC : gOk C "GoblinHouseholdModel" cX3_inUse [] (some .int) "inUse" 3 3 89) {K : Int32 → gS → Prop} {X : Nat → gS → Prop} (hK : ∀ r G, K r G → cxK C (some (vI r)) G) (hX : ∀ q G, X q G → cxX C q G) {G : gS} {t0 : Nat} (h : wp_X3_inUse (cxA C) G t0 X K) : gGo C G 0 [(0, vQ (some t0))] [] := by
  unfold wp_X3_inUse at h
  refine g_iconst hC (pc := 0) (v := (0 : Int32)) (by decide) dX3_inUse_0 ?_
  refine g_istore_n hC (pc := 1) (lv' := [(1, vI (0 : Int32)), (0, vQ (some t0))]) rfl (by decide) rfl dX3_inUse_1 ?_
  refine g_iconst hC (pc := 2) (v := (0 : Int32)) (by decide) dX3_inUse_2 ?_
  refine g_istore_n hC (pc := 3) (lv' := [(2, vI (0 : Int32)), (1, vI (0 : Int32)), (0, vQ (some t0))]) rfl (by decide) rfl dX3_inUse_3 ?_
  exact g_sub [2, 1, 0] rfl (w_X3_inUse_4 hC hK hX gFuel _ _ _ _ h)
theorem gc_X3_inUse : gCode yX3_inUse cX3_inUse 3 (some .int) 0 := ⟨q2615, q105, ⟨by decide, by decide⟩, rfl⟩
theorem m_X3_inUse {l : Launch} (hfl : l.stackTraces = false) {E : gE} {G : gS} {t0 : Nat} {X : Nat → gS → Prop} {K : Int32 → gS → Prop} (h : wp_X3_inUse (gAd E) G t0 X K) : gMet l yX3_inUse (ws_ yX3_inUse cX3_inUse 3 (some .int)) 3 89 [vQ (some t0)] E G (gRi K) X :=
  g_met hfl (plainFor_of_name (by decide +kernel)) rfl rfl rfl (gle rfl) (fun p e R s m args below meth c hC => w_X3_inUse hC (fun _ _ h => h) (fun _ _ h => h) h)
def wp_X3_banishes_21 (ad : Nat → Nat) (X : Nat → gS → Prop) (K : Int32 → gS → Prop) (G : gS) (t0 : Nat) (x1 : Int32) (x2 : Int32) (xs0 : Int32) (xs1 : Int32) (ts2 : Nat) : Prop :=
  (gIs G ts2 0 ∧ wp_X3_holds ad G ts2 xs1 xs0 (1 : Int32) (1 : Int32) X (fun r2 G1 => (¬ r2 = (0 : Int32) → wGetQ G1 t0 0 0 fun q3 => wNN q3 fun c4 => wAstI G1 c4 (((18 : Int32) + ((2 : Int32) * x1)) + (1 : Int32)) x2 fun G5 => (gIs G5 t0 0 ∧ wp_X3_inUse ad G5 t0  X (fun r7 G6 => K r7 G6))) ∧ (r2 = (0 : Int32) → K (0 : Int32) G1)))
theorem w_X3_banishes_21 {C : gCx} (hC : gOk C "GoblinHouseholdModel" cX3_banishes [] (some .int) "banishes" 3 4 119) {K : Int32 → gS → Prop} {X : Nat → gS → Prop} (hK : ∀ r G, K r G → cxK C (some (vI r)) G) (hX : ∀ q G, X q G → cxX C q G) {G : gS} {t0 : Nat} {x1 : Int32} {x2 : Int32} {xs0 : Int32} {xs1 : Int32} {ts2 : Nat} (h : wp_X3_banishes_21 (cxA C) X K G t0 x1 x2 xs0 xs1 ts2) : gGo C G 21 [(0, vQ (some t0)), (1, vI x1), (2, vI x2)] [vI xs0, vI xs1, vQ (some ts2)] := by
  unfold wp_X3_banishes_21 at h
  refine g_iconst hC (pc := 21) (v := (1 : Int32)) (by decide) dX3_banishes_21 ?_
  refine g_iconst hC (pc := 22) (v := (1 : Int32)) (by decide) dX3_banishes_22 ?_
  obtain ⟨hi, h⟩ := h
  refine g_callV hC (pc := 23) (ci := 0) (As := [vI xs1, vI xs0, vI (1 : Int32), vI (1 : Int32)]) gc_X3_holds (m_X3_holds hC.fl h) rfl hi q2550 q2552 qs44 (gle rfl) (gle rfl) rfl (gle rfl) rfl dX3_banishes_23 (gk_i fun r2 G1 h => ?_) (fun _ _ h hio => g_out0 hC (hX _ _ h) hio)
  refine g_if_ne hC (pc := 26) 31 h (by decide) dX3_banishes_26 (fun h => ?_) (fun h => ?_)
  · refine g_aload_n hC (pc := 31) 0 rfl rfl dX3_banishes_31 ?_
    refine g_getQ hC (pc := 32) in_X3 (ci := 0) rfl 0 (by decide) q2477 (Or.inl rfl) h dX3_banishes_32 (fun q3 h => ?_)
    refine g_bipush hC (pc := 35) (v := (18 : Int32)) (by decide) dX3_banishes_35 ?_
    refine g_iconst hC (pc := 37) (v := (2 : Int32)) (by decide) dX3_banishes_37 ?_
    refine g_iload_n hC (pc := 38) 1 rfl rfl dX3_banishes_38 ?_
    refine g_imul hC (pc := 39) dX3_banishes_39 ?_
    refine g_iadd hC (pc := 40) dX3_banishes_40 ?_
    refine g_iconst hC (pc := 41) (v := (1 : Int32)) (by decide) dX3_banishes_41 ?_
    refine g_iadd hC (pc := 42) dX3_banishes_42 ?_
    refine g_iload_n hC (pc := 43) 2 rfl rfl dX3_banishes_43 ?_
    rcases q3 with _ | c4
    · exact (gNN0 h).elim
    replace h := gNN1 h
    refine g_astI hC (pc := 44) h dX3_banishes_44 (fun G5 h => ?_)
    refine g_aload_n hC (pc := 45) 0 rfl rfl dX3_banishes_45 ?_
    obtain ⟨hi, h⟩ := h
    refine g_callV hC (pc := 46) (ci := 0) (As := []) gc_X3_inUse (m_X3_inUse hC.fl h) rfl hi q2612 q2614 qs53 (gle rfl) (gle rfl) rfl (gle rfl) rfl dX3_banishes_46 (gk_i fun r7 G6 h => ?_) (fun _ _ h hio => g_out0 hC (hX _ _ h) hio)
    exact g_iret hC (pc := 49) (hK _ _ h) dX3_banishes_49
  · refine g_iconst hC (pc := 29) (v := (0 : Int32)) (by decide) dX3_banishes_29 ?_
    exact g_iret hC (pc := 30) (hK _ _ h) dX3_banishes_30
def wp_X3_banishes (ad : Nat → Nat) (G : gS) (t0 : Nat) (x1 : Int32) (x2 : Int32) (X : Nat → gS → Prop) (K : Int32 → gS → Prop) : Prop :=
  (gIs G t0 0 ∧ wp_X3_isBroom ad G t0 x1 X (fun r2 G1 => (gIs G1 t0 0 ∧ wp_X3_ofBroom ad G1 t0 x1 (1 : Int32) X (fun r4 G3 => (r4 = x2 → wp_X3_banishes_21 ad X K G3 t0 x1 x2 (0 : Int32) r2 t0) ∧ (¬ r4 = x2 → wp_X3_banishes_21 ad X K G3 t0 x1 x2 (1 : Int32) r2 t0)))))
theorem w_X3_banishes {C : gCx} (hC : gOk C "GoblinHouseholdModel" cX3_banishes [] (some .int) "banishes" 3 4 119) {K : Int32 → gS → Prop} {X : Nat → gS → Prop} (hK : ∀ r G, K r G → cxK C (some (vI r)) G) (hX : ∀ q G, X q G → cxX C q G) {G : gS} {t0 : Nat} {x1 : Int32} {x2 : Int32} (h : wp_X3_banishes (cxA C) G t0 x1 x2 X K) : gGo C G 0 [(0, vQ (some t0)), (1, vI x1), (2, vI x2)] [] := by
  unfold wp_X3_banishes at h
  refine g_aload_n hC (pc := 0) 0 rfl rfl dX3_banishes_0 ?_
  refine g_aload_n hC (pc := 1) 0 rfl rfl dX3_banishes_1 ?_
  refine g_iload_n hC (pc := 2) 1 rfl rfl dX3_banishes_2 ?_
  obtain ⟨hi, h⟩ := h
  refine g_callV hC (pc := 3) (ci := 0) (As := [vI x1]) gc_X3_isBroom (m_X3_isBroom hC.fl h) rfl hi q2604 q2606 qs51 (gle rfl) (gle rfl) rfl (gle rfl) rfl dX3_banishes_3 (gk_i fun r2 G1 h => ?_) (fun _ _ h hio => g_out0 hC (hX _ _ h) hio)
  refine g_aload_n hC (pc := 6) 0 rfl rfl dX3_banishes_6 ?_
  refine g_iload_n hC (pc := 7) 1 rfl rfl dX3_banishes_7 ?_
  refine g_iconst hC (pc := 8) (v := (1 : Int32)) (by decide) dX3_banishes_8 ?_
  obtain ⟨hi, h⟩ := h
  refine g_callV hC (pc := 9) (ci := 0) (As := [vI x1, vI (1 : Int32)]) gc_X3_ofBroom (m_X3_ofBroom hC.fl h) rfl hi q2608 q2610 qs52 (gle rfl) (gle rfl) rfl (gle rfl) rfl dX3_banishes_9 (gk_i fun r4 G3 h => ?_) (fun _ _ h hio => g_out0 hC (hX _ _ h) hio)
  refine g_iload_n hC (pc := 12) 2 rfl rfl dX3_banishes_12 ?_
  refine g_icmp_eq hC (pc := 13) 20 h (by decide) dX3_banishes_13 (fun h => ?_) (fun h => ?_)
  · refine g_iconst hC (pc := 20) (v := (0 : Int32)) (by decide) dX3_banishes_20 ?_
    exact g_sub [0, 1, 2] rfl (w_X3_banishes_21 hC hK hX h)
  · refine g_iconst hC (pc := 16) (v := (1 : Int32)) (by decide) dX3_banishes_16 ?_
    refine g_goto hC (pc := 17) 21 (by decide) dX3_banishes_17 ?_
    exact g_sub [0, 1, 2] rfl (w_X3_banishes_21 hC hK hX h)
theorem gc_X3_banishes : gCode yX3_banishes cX3_banishes 3 (some .int) 2 := ⟨q2603, q105, ⟨by decide, by decide⟩, rfl⟩
theorem m_X3_banishes {l : Launch} (hfl : l.stackTraces = false) {E : gE} {G : gS} {t0 : Nat} {x1 : Int32} {x2 : Int32} {X : Nat → gS → Prop} {K : Int32 → gS → Prop} (h : wp_X3_banishes (gAd E) G t0 x1 x2 X K) : gMet l yX3_banishes (ws_ yX3_banishes cX3_banishes 3 (some .int)) 4 119 [vQ (some t0), vI x1, vI x2] E G (gRi K) X :=
  g_met hfl (plainFor_of_name (by decide +kernel)) rfl rfl rfl (gle rfl) (fun p e R s m args below meth c hC => w_X3_banishes hC (fun _ _ h => h) (fun _ _ h => h) h)
def wp_X3_banishBroom (ad : Nat → Nat) (G : gS) (t0 : Nat) (x1 : Int32) (X : Nat → gS → Prop) (K : Int32 → gS → Prop) : Prop :=
  (gIs G t0 0 ∧ wp_X3_begins ad G t0  X (fun G1 => (gIs G1 t0 0 ∧ wp_X3_banishes ad G1 t0 x1 (1 : Int32) X (fun r3 G2 => (gIs G2 t0 0 ∧ wp_X3_ends ad G2 t0 r3 X (fun r5 G4 => K r5 G4))))))
theorem w_X3_banishBroom {C : gCx} (hC : gOk C "GoblinHouseholdModel" cX3_banishBroom [] (some .int) "banishBroom" 2 5 149) {K : Int32 → gS → Prop} {X : Nat → gS → Prop} (hK : ∀ r G, K r G → cxK C (some (vI r)) G) (hX : ∀ q G, X q G → cxX C q G) {G : gS} {t0 : Nat} {x1 : Int32} (h : wp_X3_banishBroom (cxA C) G t0 x1 X K) : gGo C G 0 [(0, vQ (some t0)), (1, vI x1)] [] := by
  unfold wp_X3_banishBroom at h
  refine g_aload_n hC (pc := 0) 0 rfl rfl dX3_banishBroom_0 ?_
  obtain ⟨hi, h⟩ := h
  refine g_callV hC (pc := 1) (ci := 0) (As := []) gc_X3_begins (m_X3_begins hC.fl h) rfl hi q2569 q2571 qs45 (gle rfl) (gle rfl) rfl (gle rfl) rfl dX3_banishBroom_1 (gk_v fun G1 h => ?_) (fun _ _ h hio => g_out0 hC (hX _ _ h) hio)
  refine g_aload_n hC (pc := 4) 0 rfl rfl dX3_banishBroom_4 ?_
  refine g_aload_n hC (pc := 5) 0 rfl rfl dX3_banishBroom_5 ?_
  refine g_iload_n hC (pc := 6) 1 rfl rfl dX3_banishBroom_6 ?_
  refine g_iconst hC (pc := 7) (v := (1 : Int32)) (by decide) dX3_banishBroom_7 ?_
  obtain ⟨hi, h⟩ := h
  refine g_callV hC (pc := 8) (ci := 0) (As := [vI x1, vI (1 : Int32)]) gc_X3_banishes (m_X3_banishes hC.fl h) rfl hi q2600 q2602 qs50 (gle rfl) (gle rfl) rfl (gle rfl) rfl dX3_banishBroom_8 (gk_i fun r3 G2 h => ?_) (fun _ _ h hio => g_out0 hC (hX _ _ h) hio)
  obtain ⟨hi, h⟩ := h
  refine g_callV hC (pc := 11) (ci := 0) (As := [vI r3]) gc_X3_ends (m_X3_ends hC.fl h) rfl hi q2580 q2582 qs47 (gle rfl) (gle rfl) rfl (gle rfl) rfl dX3_banishBroom_11 (gk_i fun r5 G4 h => ?_) (fun _ _ h hio => g_out0 hC (hX _ _ h) hio)
  exact g_iret hC (pc := 14) (hK _ _ h) dX3_banishBroom_14
theorem gc_X3_banishBroom : gCode yX3_banishBroom cX3_banishBroom 2 (some .int) 1 := ⟨q2599, q105, ⟨by decide, by decide⟩, rfl⟩
theorem m_X3_banishBroom {l : Launch} (hfl : l.stackTraces = false) {E : gE} {G : gS} {t0 : Nat} {x1 : Int32} {X : Nat → gS → Prop} {K : Int32 → gS → Prop} (h : wp_X3_banishBroom (gAd E) G t0 x1 X K) : gMet l yX3_banishBroom (ws_ yX3_banishBroom cX3_banishBroom 2 (some .int)) 5 149 [vQ (some t0), vI x1] E G (gRi K) X :=
  g_met hfl (plainFor_of_name (by decide +kernel)) rfl rfl rfl (gle rfl) (fun p e R s m args below meth c hC => w_X3_banishBroom hC (fun _ _ h => h) (fun _ _ h => h) h)
def wp_X1_recallBroom (ad : Nat → Nat) (G : gS) (t0 : Nat) (x1 : Int32) (X : Nat → gS → Prop) (K : Int32 → gS → Prop) : Prop :=
  wMkL G 4 [x1] fun c2 G1 => (gIs G1 t0 1 ∧ wp_X1_apply ad G1 t0 (some c2) X (fun r4 G3 => K r4 G3))
theorem w_X1_recallBroom {C : gCx} (hC : gOk C "GoblinHousehold" cX1_recallBroom [] (some .int) "recallBroom" 2 18 3088) (hN : gNm C yX1_recallBroom) {K : Int32 → gS → Prop} {X : Nat → gS → Prop} (hK : ∀ r G, K r G → cxK C (some (vI r)) G) (hX : ∀ q G, X q G → cxX C q G) {G : gS} {t0 : Nat} {x1 : Int32} (h : wp_X1_recallBroom (cxA C) G t0 x1 X K) : gGo C G 0 [(0, vQ (some t0)), (1, vI x1)] [] := by
  unfold wp_X1_recallBroom at h
  refine g_aload_n hC (pc := 0) 0 rfl rfl dX1_recallBroom_0 ?_
  refine g_iload_n hC (pc := 1) 1 rfl rfl dX1_recallBroom_1 ?_
  refine g_indyM hC (pc := 2) (q := gSite_4) (xs := [x1]) hN (List.mem_of_getElem? (i := 4) rfl) rfl (by decide) lok_4 q3057 q1356 gc_X1_lambda_recallBroom_3 rfl rfl (gle rfl) (gle rfl) rfl rfl h dX1_recallBroom_2 (fun c2 G1 h => ?_)
  obtain ⟨hi, h⟩ := h
  refine g_callVW hC (pc := 7) (ci := 1) (As := [vQ (some c2)]) gc_X1_apply (m_X1_apply hC.fl h) rfl hi q1049 q1051 qs12 (gle rfl) (gle rfl) rfl (gle rfl) rfl dX1_recallBroom_7 (gk_i fun r4 G3 h => ?_) (fun _ _ h hio => g_out0 hC (hX _ _ h) hio)
  exact g_iret hC (pc := 10) (hK _ _ h) dX1_recallBroom_10
theorem gc_X1_recallBroom : gCode yX1_recallBroom cX1_recallBroom 2 (some .int) 1 := ⟨q1355, q94, ⟨by decide, by decide⟩, rfl⟩
theorem m_X1_recallBroom {l : Launch} (hfl : l.stackTraces = false) {E : gE} {G : gS} {t0 : Nat} {x1 : Int32} {X : Nat → gS → Prop} {K : Int32 → gS → Prop} (h : wp_X1_recallBroom (gAd E) G t0 x1 X K) : gMet l yX1_recallBroom (ws_ yX1_recallBroom cX1_recallBroom 2 (some .int)) 18 3088 [vQ (some t0), vI x1] E G (gRi K) X :=
  g_metN hfl (plainFor_of_name (by decide +kernel)) rfl rfl rfl (gle rfl) (fun p e R s m args below meth c hC hN => w_X1_recallBroom hC hN (fun _ _ h => h) (fun _ _ h => h) h)
