/-! walk 2 (printed by gen/walk.py) -/
set_option maxRecDepth 20000
def wp_X0_recallBroom_12 (ad : Nat → Nat) (X : Nat → gS → Prop) (K : Int32 → gS → Prop) (G : gS) (ts0 : Nat) : Prop :=
  K (1 : Int32) G
theorem w_X0_recallBroom_12 {C : gCx} (hC : gOk C "GoblinHouseholdLaw" cX0_recallBroom [(0, 9, 12, 23), (0, 9, 15, 15)] (some .int) "recallBroom" 4 19 3117) {K : Int32 → gS → Prop} {X : Nat → gS → Prop} (hK : ∀ r G, K r G → cxK C (some (vI r)) G) (hX : ∀ q G, X q G → cxX C q G) {G : gS} {ts0 : Nat} (h : wp_X0_recallBroom_12 (cxA C) X K G ts0) : gGo C G 12 [] [vQ (some ts0)] := by
  unfold wp_X0_recallBroom_12 at h
  refine g_astore_n hC (pc := 12) (lv' := [(3, vQ (some ts0))]) rfl (by decide) rfl dX0_recallBroom_12 ?_
  refine g_iconst hC (pc := 13) (v := (1 : Int32)) (by decide) dX0_recallBroom_13 ?_
  exact g_iret hC (pc := 14) (hK _ _ h) dX0_recallBroom_14
def wp_X0_recallBroom_15 (ad : Nat → Nat) (X : Nat → gS → Prop) (K : Int32 → gS → Prop) (G : gS) (ts0 : Nat) : Prop :=
  K (2 : Int32) G
theorem w_X0_recallBroom_15 {C : gCx} (hC : gOk C "GoblinHouseholdLaw" cX0_recallBroom [(0, 9, 12, 23), (0, 9, 15, 15)] (some .int) "recallBroom" 4 19 3117) {K : Int32 → gS → Prop} {X : Nat → gS → Prop} (hK : ∀ r G, K r G → cxK C (some (vI r)) G) (hX : ∀ q G, X q G → cxX C q G) {G : gS} {ts0 : Nat} (h : wp_X0_recallBroom_15 (cxA C) X K G ts0) : gGo C G 15 [] [vQ (some ts0)] := by
  unfold wp_X0_recallBroom_15 at h
  refine g_astore_n hC (pc := 15) (lv' := [(3, vQ (some ts0))]) rfl (by decide) rfl dX0_recallBroom_15 ?_
  refine g_iconst hC (pc := 16) (v := (2 : Int32)) (by decide) dX0_recallBroom_16 ?_
  exact g_iret hC (pc := 17) (hK _ _ h) dX0_recallBroom_17
def wp_X0_recallBroom (ad : Nat → Nat) (G : gS) (o0 : Option Nat) (x1 : Int32) (o2 : Option Nat) (X : Nat → gS → Prop) (K : Int32 → gS → Prop) : Prop :=
  wNN o0 fun c1 => (gIs G c1 1 ∧ wp_X1_recallBroom ad G c1 x1 (fun y3 G4 => (gHas G4 y3 20 ∧ (wp_X0_recallBroom_12 ad X K G4 y3)) ∨ (gHas G4 y3 22 ∧ (wp_X0_recallBroom_15 ad X K G4 y3))) (fun r5 G2 => wNN o2 fun c6 => wAstL G2 c6 (0 : Int32) ((r5).toInt64) fun G7 => K (0 : Int32) G7))
theorem w_X0_recallBroom {C : gCx} (hC : gOk C "GoblinHouseholdLaw" cX0_recallBroom [(0, 9, 12, 23), (0, 9, 15, 15)] (some .int) "recallBroom" 4 19 3117) {K : Int32 → gS → Prop} {X : Nat → gS → Prop} (hK : ∀ r G, K r G → cxK C (some (vI r)) G) (hX : ∀ q G, X q G → cxX C q G) {G : gS} {o0 : Option Nat} {x1 : Int32} {o2 : Option Nat} (h : wp_X0_recallBroom (cxA C) G o0 x1 o2 X K) : gGo C G 0 [(0, vQ o0), (1, vI x1), (2, vQ o2)] [] := by
  unfold wp_X0_recallBroom at h
  refine g_aload_n hC (pc := 0) 2 rfl rfl dX0_recallBroom_0 ?_
  refine g_iconst hC (pc := 1) (v := (0 : Int32)) (by decide) dX0_recallBroom_1 ?_
  refine g_aload_n hC (pc := 2) 0 rfl rfl dX0_recallBroom_2 ?_
  refine g_iload_n hC (pc := 3) 1 rfl rfl dX0_recallBroom_3 ?_
  rcases o0 with _ | c1
  · exact (gNN0 h).elim
  replace h := gNN1 h
  obtain ⟨hi, h⟩ := h
  refine g_callV hC (pc := 4) (ci := 1) (As := [vI x1]) gc_X1_recallBroom (m_X1_recallBroom hC.fl h) rfl hi q1352 q1353 q1354 (gle rfl) (gle rfl) rfl (gle rfl) rfl dX0_recallBroom_4 (gk_i fun r5 G2 h => ?_) (fun y3 G4 h hio => ?_)
  · refine g_i2l hC (pc := 7) dX0_recallBroom_7 ?_
    rcases o2 with _ | c6
    · exact (gNN0 h).elim
    replace h := gNN1 h
    refine g_astL hC (pc := 8) h dX0_recallBroom_8 (fun G7 h => ?_)
    refine g_goto hC (pc := 9) 18 (by decide) dX0_recallBroom_9 ?_
    refine g_iconst hC (pc := 18) (v := (0 : Int32)) (by decide) dX0_recallBroom_18 ?_
    exact g_iret hC (pc := 19) (hK _ _ h) dX0_recallBroom_19
  · rcases h with h | h
    · obtain ⟨hq, h⟩ := h
      refine g_catchI hC (pc := 4) (ci := 20) rfl hq 0 rfl (fun _ h => nomatch h) rfl (by decide) q1312 (List.mem_of_getElem? (i := 2) rfl) rfl ?_
      exact g_sub [] rfl (w_X0_recallBroom_12 hC hK hX h)
    · obtain ⟨hq, h⟩ := h
      refine g_catchI hC (pc := 4) (ci := 22) rfl hq 1 rfl (List.forall_mem_cons.mpr ⟨Or.inr ⟨by decide, "java/lang/IndexOutOfBoundsException", q1312, (List.mem_of_getElem? (i := 10) rfl)⟩, fun _ h => nomatch h⟩) rfl (by decide) q872 (List.mem_of_getElem? (i := 9) rfl) rfl ?_
      exact g_sub [] rfl (w_X0_recallBroom_15 hC hK hX h)
theorem gc_X0_recallBroom : gCodeW yX0_recallBroom cX0_recallBroom 4 (some .int) [(0, 9, 12, 23), (0, 9, 15, 15)] 3 := ⟨q1351, q93, ⟨by decide, by decide⟩, rfl⟩
theorem m_X0_recallBroom {l : Launch} (hfl : l.stackTraces = false) {E : gE} {G : gS} {o0 : Option Nat} {x1 : Int32} {o2 : Option Nat} {X : Nat → gS → Prop} {K : Int32 → gS → Prop} (h : wp_X0_recallBroom (gAd E) G o0 x1 o2 X K) : gMet l yX0_recallBroom (wsW_ yX0_recallBroom cX0_recallBroom 4 (some .int) [(0, 9, 12, 23), (0, 9, 15, 15)]) 19 3117 [vQ o0, vI x1, vQ o2] E G (gRi K) X :=
  g_metW hfl (plainFor_of_name (by decide +kernel)) rfl rfl rfl (gle rfl) (fun p e R s m args below meth c hC => w_X0_recallBroom hC (fun _ _ h => h) (fun _ _ h => h) h)
def wp_X3_recallBroom (ad : Nat → Nat) (G : gS) (t0 : Nat) (x1 : Int32) (X : Nat → gS → Prop) (K : Int32 → gS → Prop) : Prop :=
  (gIs G t0 0 ∧ wp_X3_begins ad G t0  X (fun G1 => (gIs G1 t0 0 ∧ wp_X3_banishes ad G1 t0 x1 (0 : Int32) X (fun r3 G2 => (gIs G2 t0 0 ∧ wp_X3_ends ad G2 t0 r3 X (fun r5 G4 => K r5 G4))))))
theorem w_X3_recallBroom {C : gCx} (hC : gOk C "GoblinHouseholdModel" cX3_recallBroom [] (some .int) "recallBroom" 2 5 149) {K : Int32 → gS → Prop} {X : Nat → gS → Prop} (hK : ∀ r G, K r G → cxK C (some (vI r)) G) (hX : ∀ q G, X q G → cxX C q G) {G : gS} {t0 : Nat} {x1 : Int32} (h : wp_X3_recallBroom (cxA C) G t0 x1 X K) : gGo C G 0 [(0, vQ (some t0)), (1, vI x1)] [] := by
  unfold wp_X3_recallBroom at h
  refine g_aload_n hC (pc := 0) 0 rfl rfl dX3_recallBroom_0 ?_
  obtain ⟨hi, h⟩ := h
  refine g_callV hC (pc := 1) (ci := 0) (As := []) gc_X3_begins (m_X3_begins hC.fl h) rfl hi q2569 q2571 qs45 (gle rfl) (gle rfl) rfl (gle rfl) rfl dX3_recallBroom_1 (gk_v fun G1 h => ?_) (fun _ _ h hio => g_out0 hC (hX _ _ h) hio)
  refine g_aload_n hC (pc := 4) 0 rfl rfl dX3_recallBroom_4 ?_
  refine g_aload_n hC (pc := 5) 0 rfl rfl dX3_recallBroom_5 ?_
  refine g_iload_n hC (pc := 6) 1 rfl rfl dX3_recallBroom_6 ?_
  refine g_iconst hC (pc := 7) (v := (0 : Int32)) (by decide) dX3_recallBroom_7 ?_
  obtain ⟨hi, h⟩ := h
  refine g_callV hC (pc := 8) (ci := 0) (As := [vI x1, vI (0 : Int32)]) gc_X3_banishes (m_X3_banishes hC.fl h) rfl hi q2600 q2602 qs50 (gle rfl) (gle rfl) rfl (gle rfl) rfl dX3_recallBroom_8 (gk_i fun r3 G2 h => ?_) (fun _ _ h hio => g_out0 hC (hX _ _ h) hio)
  obtain ⟨hi, h⟩ := h
  refine g_callV hC (pc := 11) (ci := 0) (As := [vI r3]) gc_X3_ends (m_X3_ends hC.fl h) rfl hi q2580 q2582 qs47 (gle rfl) (gle rfl) rfl (gle rfl) rfl dX3_recallBroom_11 (gk_i fun r5 G4 h => ?_) (fun _ _ h hio => g_out0 hC (hX _ _ h) hio)
  exact g_iret hC (pc := 14) (hK _ _ h) dX3_recallBroom_14
theorem gc_X3_recallBroom : gCode yX3_recallBroom cX3_recallBroom 2 (some .int) 1 := ⟨q2619, q105, ⟨by decide, by decide⟩, rfl⟩
theorem m_X3_recallBroom {l : Launch} (hfl : l.stackTraces = false) {E : gE} {G : gS} {t0 : Nat} {x1 : Int32} {X : Nat → gS → Prop} {K : Int32 → gS → Prop} (h : wp_X3_recallBroom (gAd E) G t0 x1 X K) : gMet l yX3_recallBroom (ws_ yX3_recallBroom cX3_recallBroom 2 (some .int)) 5 149 [vQ (some t0), vI x1] E G (gRi K) X :=
  g_met hfl (plainFor_of_name (by decide +kernel)) rfl rfl rfl (gle rfl) (fun p e R s m args below meth c hC => w_X3_recallBroom hC (fun _ _ h => h) (fun _ _ h => h) h)
def wp_X1_hire (ad : Nat → Nat) (G : gS) (t0 : Nat) (x1 : Int32) (x2 : Int32) (x3 : Int32) (x4 : Int32) (X : Nat → gS → Prop) (K : Int32 → gS → Prop) : Prop :=
  wMkL G 5 [x1, x2, x3, x4] fun c2 G1 => (gIs G1 t0 1 ∧ wp_X1_apply ad G1 t0 (some c2) X (fun r4 G3 => K r4 G3))
theorem w_X1_hire {C : gCx} (hC : gOk C "GoblinHousehold" cX1_hire [] (some .int) "hire" 5 18 3088) (hN : gNm C yX1_hire) {K : Int32 → gS → Prop} {X : Nat → gS → Prop} (hK : ∀ r G, K r G → cxK C (some (vI r)) G) (hX : ∀ q G, X q G → cxX C q G) {G : gS} {t0 : Nat} {x1 : Int32} {x2 : Int32} {x3 : Int32} {x4 : Int32} (h : wp_X1_hire (cxA C) G t0 x1 x2 x3 x4 X K) : gGo C G 0 [(0, vQ (some t0)), (1, vI x1), (2, vI x2), (3, vI x3), (4, vI x4)] [] := by
  unfold wp_X1_hire at h
  refine g_aload_n hC (pc := 0) 0 rfl rfl dX1_hire_0 ?_
  refine g_iload_n hC (pc := 1) 1 rfl rfl dX1_hire_1 ?_
  refine g_iload_n hC (pc := 2) 2 rfl rfl dX1_hire_2 ?_
  refine g_iload_n hC (pc := 3) 3 rfl rfl dX1_hire_3 ?_
  refine g_iload hC (pc := 4) 4 rfl dX1_hire_4 ?_
  refine g_indyM hC (pc := 6) (q := gSite_5) (xs := [x1, x2, x3, x4]) hN (List.mem_of_getElem? (i := 5) rfl) rfl (by decide) lok_5 q3057 q1371 gc_X1_lambda_hire_4 rfl rfl (gle rfl) (gle rfl) rfl rfl h dX1_hire_6 (fun c2 G1 h => ?_)
  obtain ⟨hi, h⟩ := h
  refine g_callVW hC (pc := 11) (ci := 1) (As := [vQ (some c2)]) gc_X1_apply (m_X1_apply hC.fl h) rfl hi q1049 q1051 qs12 (gle rfl) (gle rfl) rfl (gle rfl) rfl dX1_hire_11 (gk_i fun r4 G3 h => ?_) (fun _ _ h hio => g_out0 hC (hX _ _ h) hio)
  exact g_iret hC (pc := 14) (hK _ _ h) dX1_hire_14
theorem gc_X1_hire : gCode yX1_hire cX1_hire 5 (some .int) 4 := ⟨q1370, q94, ⟨by decide, by decide⟩, rfl⟩
theorem m_X1_hire {l : Launch} (hfl : l.stackTraces = false) {E : gE} {G : gS} {t0 : Nat} {x1 : Int32} {x2 : Int32} {x3 : Int32} {x4 : Int32} {X : Nat → gS → Prop} {K : Int32 → gS → Prop} (h : wp_X1_hire (gAd E) G t0 x1 x2 x3 x4 X K) : gMet l yX1_hire (ws_ yX1_hire cX1_hire 5 (some .int)) 18 3088 [vQ (some t0), vI x1, vI x2, vI x3, vI x4] E G (gRi K) X :=
  g_metN hfl (plainFor_of_name (by decide +kernel)) rfl rfl rfl (gle rfl) (fun p e R s m args below meth c hC hN => w_X1_hire hC hN (fun _ _ h => h) (fun _ _ h => h) h)
def wp_X0_hire_17 (ad : Nat → Nat) (X : Nat → gS → Prop) (K : Int32 → gS → Prop) (G : gS) (ts0 : Nat) : Prop :=
  K (1 : Int32) G
theorem w_X0_hire_17 {C : gCx} (hC : gOk C "GoblinHouseholdLaw" cX0_hire [(0, 14, 17, 23), (0, 14, 21, 13), (0, 14, 25, 15), (0, 14, 29, 32)] (some .int) "hire" 7 19 3120) {K : Int32 → gS → Prop} {X : Nat → gS → Prop} (hK : ∀ r G, K r G → cxK C (some (vI r)) G) (hX : ∀ q G, X q G → cxX C q G) {G : gS} {ts0 : Nat} (h : wp_X0_hire_17 (cxA C) X K G ts0) : gGo C G 17 [] [vQ (some ts0)] := by
  unfold wp_X0_hire_17 at h
  refine g_astore hC (pc := 17) (lv' := [(6, vQ (some ts0))]) (by decide) rfl dX0_hire_17 ?_
  refine g_iconst hC (pc := 19) (v := (1 : Int32)) (by decide) dX0_hire_19 ?_
  exact g_iret hC (pc := 20) (hK _ _ h) dX0_hire_20
def wp_X0_hire_21 (ad : Nat → Nat) (X : Nat → gS → Prop) (K : Int32 → gS → Prop) (G : gS) (ts0 : Nat) : Prop :=
  K (2 : Int32) G
theorem w_X0_hire_21 {C : gCx} (hC : gOk C "GoblinHouseholdLaw" cX0_hire [(0, 14, 17, 23), (0, 14, 21, 13), (0, 14, 25, 15), (0, 14, 29, 32)] (some .int) "hire" 7 19 3120) {K : Int32 → gS → Prop} {X : Nat → gS → Prop} (hK : ∀ r G, K r G → cxK C (some (vI r)) G) (hX : ∀ q G, X q G → cxX C q G) {G : gS} {ts0 : Nat} (h : wp_X0_hire_21 (cxA C) X K G ts0) : gGo C G 21 [] [vQ (some ts0)] := by
  unfold wp_X0_hire_21 at h
  refine g_astore hC (pc := 21) (lv' := [(6, vQ (some ts0))]) (by decide) rfl dX0_hire_21 ?_
  refine g_iconst hC (pc := 23) (v := (2 : Int32)) (by decide) dX0_hire_23 ?_
  exact g_iret hC (pc := 24) (hK _ _ h) dX0_hire_24
def wp_X0_hire_25 (ad : Nat → Nat) (X : Nat → gS → Prop) (K : Int32 → gS → Prop) (G : gS) (ts0 : Nat) : Prop :=
  K (3 : Int32) G
theorem w_X0_hire_25 {C : gCx} (hC : gOk C "GoblinHouseholdLaw" cX0_hire [(0, 14, 17, 23), (0, 14, 21, 13), (0, 14, 25, 15), (0, 14, 29, 32)] (some .int) "hire" 7 19 3120) {K : Int32 → gS → Prop} {X : Nat → gS → Prop} (hK : ∀ r G, K r G → cxK C (some (vI r)) G) (hX : ∀ q G, X q G → cxX C q G) {G : gS} {ts0 : Nat} (h : wp_X0_hire_25 (cxA C) X K G ts0) : gGo C G 25 [] [vQ (some ts0)] := by
  unfold wp_X0_hire_25 at h
  refine g_astore hC (pc := 25) (lv' := [(6, vQ (some ts0))]) (by decide) rfl dX0_hire_25 ?_
  refine g_iconst hC (pc := 27) (v := (3 : Int32)) (by decide) dX0_hire_27 ?_
  exact g_iret hC (pc := 28) (hK _ _ h) dX0_hire_28
def wp_X0_hire_29 (ad : Nat → Nat) (X : Nat → gS → Prop) (K : Int32 → gS → Prop) (G : gS) (ts0 : Nat) : Prop :=
  K (4 : Int32) G
theorem w_X0_hire_29 {C : gCx} (hC : gOk C "GoblinHouseholdLaw" cX0_hire [(0, 14, 17, 23), (0, 14, 21, 13), (0, 14, 25, 15), (0, 14, 29, 32)] (some .int) "hire" 7 19 3120) {K : Int32 → gS → Prop} {X : Nat → gS → Prop} (hK : ∀ r G, K r G → cxK C (some (vI r)) G) (hX : ∀ q G, X q G → cxX C q G) {G : gS} {ts0 : Nat} (h : wp_X0_hire_29 (cxA C) X K G ts0) : gGo C G 29 [] [vQ (some ts0)] := by
  unfold wp_X0_hire_29 at h
  refine g_astore hC (pc := 29) (lv' := [(6, vQ (some ts0))]) (by decide) rfl dX0_hire_29 ?_
  refine g_iconst hC (pc := 31) (v := (4 : Int32)) (by decide) dX0_hire_31 ?_
  exact g_iret hC (pc := 32) (hK _ _ h) dX0_hire_32
def wp_X0_hire (ad : Nat → Nat) (G : gS) (o0 : Option Nat) (x1 : Int32) (x2 : Int32) (x3 : Int32) (x4 : Int32) (o5 : Option Nat) (X : Nat → gS → Prop) (K : Int32 → gS → Prop) : Prop :=
  wNN o0 fun c1 => (gIs G c1 1 ∧ wp_X1_hire ad G c1 x1 x2 x3 x4 (fun y3 G4 => (gHas G4 y3 20 ∧ (wp_X0_hire_17 ad X K G4 y3)) ∨ (gHas G4 y3 21 ∧ (wp_X0_hire_21 ad X K G4 y3)) ∨ (gHas G4 y3 22 ∧ (wp_X0_hire_25 ad X K G4 y3)) ∨ (gHas G4 y3 24 ∧ (wp_X0_hire_29 ad X K G4 y3))) (fun r5 G2 => wNN o5 fun c6 => wAstL G2 c6 (0 : Int32) ((r5).toInt64) fun G7 => K (0 : Int32) G7))
theorem w_X0_hire {C : gCx} (hC : gOk C "GoblinHouseholdLaw" cX0_hire [(0, 14, 17, 23), (0, 14, 21, 13), (0, 14, 25, 15), (0, 14, 29, 32)] (some .int) "hire" 7 19 3120) {K : Int32 → gS → Prop} {X : Nat → gS → Prop} (hK : ∀ r G, K r G → cxK C (some (vI r)) G) (hX : ∀ q G, X q G → cxX C q G) {G : gS} {o0 : Option Nat} {x1 : Int32} {x2 : Int32} {x3 : Int32} {x4 : Int32} {o5 : Option Nat} (h : wp_X0_hire (cxA C) G o0 x1 x2 x3 x4 o5 X K) : gGo C G 0 [(0, vQ o0), (1, vI x1), (2, vI x2), (3, vI x3), (4, vI x4), (5, vQ o5)] [] := by
  unfold wp_X0_hire at h
  refine g_aload hC (pc := 0) 5 rfl dX0_hire_0 ?_
  refine g_iconst hC (pc := 2) (v := (0 : Int32)) (by decide) dX0_hire_2 ?_
  refine g_aload_n hC (pc := 3) 0 rfl rfl dX0_hire_3 ?_
  refine g_iload_n hC (pc := 4) 1 rfl rfl dX0_hire_4 ?_
  refine g_iload_n hC (pc := 5) 2 rfl rfl dX0_hire_5 ?_
  refine g_iload_n hC (pc := 6) 3 rfl rfl dX0_hire_6 ?_
  refine g_iload hC (pc := 7) 4 rfl dX0_hire_7 ?_
  rcases o0 with _ | c1
  · exact (gNN0 h).elim
  replace h := gNN1 h
  obtain ⟨hi, h⟩ := h
  refine g_callV hC (pc := 9) (ci := 1) (As := [vI x1, vI x2, vI x3, vI x4]) gc_X1_hire (m_X1_hire hC.fl h) rfl hi q1367 q1368 q1369 (gle rfl) (gle rfl) rfl (gle rfl) rfl dX0_hire_9 (gk_i fun r5 G2 h => ?_) (fun y3 G4 h hio => ?_)
  · refine g_i2l hC (pc := 12) dX0_hire_12 ?_
    rcases o5 with _ | c6
    · exact (gNN0 h).elim
    replace h := gNN1 h
    refine g_astL hC (pc := 13) h dX0_hire_13 (fun G7 h => ?_)
    refine g_goto hC (pc := 14) 33 (by decide) dX0_hire_14 ?_
    refine g_iconst hC (pc := 33) (v := (0 : Int32)) (by decide) dX0_hire_33 ?_
    exact g_iret hC (pc := 34) (hK _ _ h) dX0_hire_34
  · rcases h with h | h | h | h
    · obtain ⟨hq, h⟩ := h
      refine g_catchI hC (pc := 9) (ci := 20) rfl hq 0 rfl (fun _ h => nomatch h) rfl (by decide) q1312 (List.mem_of_getElem? (i := 2) rfl) rfl ?_
      exact g_sub [] rfl (w_X0_hire_17 hC hK hX h)
    · obtain ⟨hq, h⟩ := h
      refine g_catchI hC (pc := 9) (ci := 21) rfl hq 1 rfl (List.forall_mem_cons.mpr ⟨Or.inr ⟨by decide, "java/lang/IndexOutOfBoundsException", q1312, (List.mem_of_getElem? (i := 5) rfl)⟩, fun _ h => nomatch h⟩) rfl (by decide) q871 (List.mem_of_getElem? (i := 4) rfl) rfl ?_
      exact g_sub [] rfl (w_X0_hire_21 hC hK hX h)
    · obtain ⟨hq, h⟩ := h
      refine g_catchI hC (pc := 9) (ci := 22) rfl hq 2 rfl (List.forall_mem_cons.mpr ⟨Or.inr ⟨by decide, "java/lang/IndexOutOfBoundsException", q1312, (List.mem_of_getElem? (i := 10) rfl)⟩, List.forall_mem_cons.mpr ⟨Or.inr ⟨by decide, "java/lang/IllegalArgumentException", q871, (List.mem_of_getElem? (i := 11) rfl)⟩, fun _ h => nomatch h⟩⟩) rfl (by decide) q872 (List.mem_of_getElem? (i := 9) rfl) rfl ?_
      exact g_sub [] rfl (w_X0_hire_25 hC hK hX h)
    · obtain ⟨hq, h⟩ := h
      refine g_catchI hC (pc := 9) (ci := 24) rfl hq 3 rfl (List.forall_mem_cons.mpr ⟨Or.inr ⟨by decide, "java/lang/IndexOutOfBoundsException", q1312, (List.mem_of_getElem? (i := 20) rfl)⟩, List.forall_mem_cons.mpr ⟨Or.inr ⟨by decide, "java/lang/IllegalArgumentException", q871, (List.mem_of_getElem? (i := 21) rfl)⟩, List.forall_mem_cons.mpr ⟨Or.inr ⟨by decide, "java/lang/IllegalStateException", q872, (List.mem_of_getElem? (i := 22) rfl)⟩, fun _ h => nomatch h⟩⟩⟩) rfl (by decide) q1366 (List.mem_of_getElem? (i := 11) rfl) rfl ?_
      exact g_sub [] rfl (w_X0_hire_29 hC hK hX h)
theorem gc_X0_hire : gCodeW yX0_hire cX0_hire 7 (some .int) [(0, 14, 17, 23), (0, 14, 21, 13), (0, 14, 25, 15), (0, 14, 29, 32)] 6 := ⟨q1365, q93, ⟨by decide, by decide⟩, rfl⟩
theorem m_X0_hire {l : Launch} (hfl : l.stackTraces = false) {E : gE} {G : gS} {o0 : Option Nat} {x1 : Int32} {x2 : Int32} {x3 : Int32} {x4 : Int32} {o5 : Option Nat} {X : Nat → gS → Prop} {K : Int32 → gS → Prop} (h : wp_X0_hire (gAd E) G o0 x1 x2 x3 x4 o5 X K) : gMet l yX0_hire (wsW_ yX0_hire cX0_hire 7 (some .int) [(0, 14, 17, 23), (0, 14, 21, 13), (0, 14, 25, 15), (0, 14, 29, 32)]) 19 3120 [vQ o0, vI x1, vI x2, vI x3, vI x4, vQ o5] E G (gRi K) X :=
  g_metW hfl (plainFor_of_name (by decide +kernel)) rfl rfl rfl (gle rfl) (fun p e R s m args below meth c hC => w_X0_hire hC (fun _ _ h => h) (fun _ _ h => h) h)
def wp_X3_isGoblin (ad : Nat → Nat) (G : gS) (t0 : Nat) (x1 : Int32) (X : Nat → gS → Prop) (K : Int32 → gS → Prop) : Prop :=
  wGetQ G t0 0 0 fun q1 => wNN q1 fun c2 => wAldI G c2 (9 : Int32) fun i3 => wp_X3_isIn ad G x1 (0 : Int32) (i3 - (1 : Int32)) X (fun r5 G4 => gNar .boolean r5 ∧ K r5 G4)
theorem w_X3_isGoblin {C : gCx} (hC : gOk C "GoblinHouseholdModel" cX3_isGoblin [] (some .boolean) "isGoblin" 2 1 30) {K : Int32 → gS → Prop} {X : Nat → gS → Prop} (hK : ∀ r G, K r G → cxK C (some (vI r)) G) (hX : ∀ q G, X q G → cxX C q G) {G : gS} {t0 : Nat} {x1 : Int32} (h : wp_X3_isGoblin (cxA C) G t0 x1 X K) : gGo C G 0 [(0, vQ (some t0)), (1, vI x1)] [] := by
  unfold wp_X3_isGoblin at h
  refine g_iload_n hC (pc := 0) 1 rfl rfl dX3_isGoblin_0 ?_
  refine g_iconst hC (pc := 1) (v := (0 : Int32)) (by decide) dX3_isGoblin_1 ?_
  refine g_aload_n hC (pc := 2) 0 rfl rfl dX3_isGoblin_2 ?_
  refine g_getQ hC (pc := 3) in_X3 (ci := 0) rfl 0 (by decide) q2477 (Or.inl rfl) h dX3_isGoblin_3 (fun q1 h => ?_)
  refine g_bipush hC (pc := 6) (v := (9 : Int32)) (by decide) dX3_isGoblin_6 ?_
  rcases q1 with _ | c2
  · exact (gNN0 h).elim
  replace h := gNN1 h
  refine g_aldI hC (pc := 8) h dX3_isGoblin_8 (fun i3 h => ?_)
  refine g_iconst hC (pc := 9) (v := (1 : Int32)) (by decide) dX3_isGoblin_9 ?_
  refine g_isub hC (pc := 10) dX3_isGoblin_10 ?_
  refine g_callS hC (pc := 11) (b := 0) (As := [vI x1, vI (0 : Int32), vI (i3 - (1 : Int32))]) gc_X3_isIn (m_X3_isIn hC.fl h) q2577 q2578 (gle rfl) (gle rfl) rfl (gle rfl) rfl dX3_isGoblin_11 (gk_i fun r5 G4 h => ?_) (fun _ _ h hio => g_out0 hC (hX _ _ h) hio)
  exact g_zret hC (pc := 14) h.1 (hK _ _ h.2) dX3_isGoblin_14
theorem gc_X3_isGoblin : gCode yX3_isGoblin cX3_isGoblin 2 (some .boolean) 1 := ⟨q2631, q105, ⟨by decide, by decide⟩, rfl⟩
theorem m_X3_isGoblin {l : Launch} (hfl : l.stackTraces = false) {E : gE} {G : gS} {t0 : Nat} {x1 : Int32} {X : Nat → gS → Prop} {K : Int32 → gS → Prop} (h : wp_X3_isGoblin (gAd E) G t0 x1 X K) : gMet l yX3_isGoblin (ws_ yX3_isGoblin cX3_isGoblin 2 (some .boolean)) 1 30 [vQ (some t0), vI x1] E G (gRi K) X :=
  g_met hfl (plainFor_of_name (by decide +kernel)) rfl rfl rfl (gle rfl) (fun p e R s m args below meth c hC => w_X3_isGoblin hC (fun _ _ h => h) (fun _ _ h => h) h)
def wp_X3_isRoom (ad : Nat → Nat) (G : gS) (x0 : Int32) (X : Nat → gS → Prop) (K : Int32 → gS → Prop) : Prop :=
  wp_X3_isIn ad G x0 (0 : Int32) (5 : Int32) X (fun r2 G1 => gNar .boolean r2 ∧ K r2 G1)
theorem w_X3_isRoom {C : gCx} (hC : gOk C "GoblinHouseholdModel" cX3_isRoom [] (some .boolean) "isRoom" 1 1 30) {K : Int32 → gS → Prop} {X : Nat → gS → Prop} (hK : ∀ r G, K r G → cxK C (some (vI r)) G) (hX : ∀ q G, X q G → cxX C q G) {G : gS} {x0 : Int32} (h : wp_X3_isRoom (cxA C) G x0 X K) : gGo C G 0 [(0, vI x0)] [] := by
  unfold wp_X3_isRoom at h
  refine g_iload_n hC (pc := 0) 0 rfl rfl dX3_isRoom_0 ?_
  refine g_iconst hC (pc := 1) (v := (0 : Int32)) (by decide) dX3_isRoom_1 ?_
  refine g_iconst hC (pc := 2) (v := (5 : Int32)) (by decide) dX3_isRoom_2 ?_
  refine g_callS hC (pc := 3) (b := 0) (As := [vI x0, vI (0 : Int32), vI (5 : Int32)]) gc_X3_isIn (m_X3_isIn hC.fl h) q2577 q2578 (gle rfl) (gle rfl) rfl (gle rfl) rfl dX3_isRoom_3 (gk_i fun r2 G1 h => ?_) (fun _ _ h hio => g_out0 hC (hX _ _ h) hio)
  exact g_zret hC (pc := 6) h.1 (hK _ _ h.2) dX3_isRoom_6
theorem gc_X3_isRoom : gCode yX3_isRoom cX3_isRoom 1 (some .boolean) 1 := ⟨q2654, q105, ⟨by decide, by decide⟩, rfl⟩
theorem m_X3_isRoom {l : Launch} (hfl : l.stackTraces = false) {E : gE} {G : gS} {x0 : Int32} {X : Nat → gS → Prop} {K : Int32 → gS → Prop} (h : wp_X3_isRoom (gAd E) G x0 X K) : gMet l yX3_isRoom (ws_ yX3_isRoom cX3_isRoom 1 (some .boolean)) 1 30 [vI x0] E G (gRi K) X :=
  g_met hfl (plainFor_of_name (by decide +kernel)) rfl rfl rfl (gle rfl) (fun p e R s m args below meth c hC => w_X3_isRoom hC (fun _ _ h => h) (fun _ _ h => h) h)
def wp_X3_ofContract (ad : Nat → Nat) (G : gS) (t0 : Nat) (x1 : Int32) (x2 : Int32) (X : Nat → gS → Prop) (K : Int32 → gS → Prop) : Prop :=
  wGetQ G t0 0 0 fun q1 => wNN q1 fun c2 => wAldI G c2 (((51 : Int32) + ((5 : Int32) * x1)) + x2) fun i3 => K i3 G
theorem w_X3_ofContract {C : gCx} (hC : gOk C "GoblinHouseholdModel" cX3_ofContract [] (some .int) "ofContract" 3 0 0) {K : Int32 → gS → Prop} {X : Nat → gS → Prop} (hK : ∀ r G, K r G → cxK C (some (vI r)) G) (hX : ∀ q G, X q G → cxX C q G) {G : gS} {t0 : Nat} {x1 : Int32} {x2 : Int32} (h : wp_X3_ofContract (cxA C) G t0 x1 x2 X K) : gGo C G 0 [(0, vQ (some t0)), (1, vI x1), (2, vI x2)] [] := by
  unfold wp_X3_ofContract at h
  refine g_aload_n hC (pc := 0) 0 rfl rfl dX3_ofContract_0 ?_
  refine g_getQ hC (pc := 1) in_X3 (ci := 0) rfl 0 (by decide) q2477 (Or.inl rfl) h dX3_ofContract_1 (fun q1 h => ?_)
  refine g_bipush hC (pc := 4) (v := (51 : Int32)) (by decide) dX3_ofContract_4 ?_
  refine g_iconst hC (pc := 6) (v := (5 : Int32)) (by decide) dX3_ofContract_6 ?_
  refine g_iload_n hC (pc := 7) 1 rfl rfl dX3_ofContract_7 ?_
  refine g_imul hC (pc := 8) dX3_ofContract_8 ?_
  refine g_iadd hC (pc := 9) dX3_ofContract_9 ?_
  refine g_iload_n hC (pc := 10) 2 rfl rfl dX3_ofContract_10 ?_
  refine g_iadd hC (pc := 11) dX3_ofContract_11 ?_
  rcases q1 with _ | c2
  · exact (gNN0 h).elim
  replace h := gNN1 h
  refine g_aldI hC (pc := 12) h dX3_ofContract_12 (fun i3 h => ?_)
  exact g_iret hC (pc := 13) (hK _ _ h) dX3_ofContract_13
theorem gc_X3_ofContract : gCode yX3_ofContract cX3_ofContract 3 (some .int) 2 := ⟨q2662, q105, ⟨by decide, by decide⟩, rfl⟩
theorem m_X3_ofContract {l : Launch} (hfl : l.stackTraces = false) {E : gE} {G : gS} {t0 : Nat} {x1 : Int32} {x2 : Int32} {X : Nat → gS → Prop} {K : Int32 → gS → Prop} (h : wp_X3_ofContract (gAd E) G t0 x1 x2 X K) : gMet l yX3_ofContract (ws_ yX3_ofContract cX3_ofContract 3 (some .int)) 0 0 [vQ (some t0), vI x1, vI x2] E G (gRi K) X :=
  g_met hfl (plainFor_of_name (by decide +kernel)) rfl rfl rfl (gle rfl) (fun p e R s m args below meth c hC => w_X3_ofContract hC (fun _ _ h => h) (fun _ _ h => h) h)
def wp_X3_hasFor_48 (ad : Nat → Nat) (X : Nat → gS → Prop) (K : Int32 → gS → Prop) (J5 : gS → Nat → Int32 → Int32 → Int32 → Int32 → Prop) (G : gS) (t0 : Nat) (x1 : Int32) (x2 : Int32) (x4 : Int32) (xs0 : Int32) : Prop :=
  J5 G t0 x1 x2 xs0 (x4 + (1 : Int32))
theorem w_X3_hasFor_48 {C : gCx} (hC : gOk C "GoblinHouseholdModel" cX3_hasFor [] (some .boolean) "hasFor" 5 1 30) {K : Int32 → gS → Prop} {X : Nat → gS → Prop} (hK : ∀ r G, K r G → cxK C (some (vI r)) G) (hX : ∀ q G, X q G → cxX C q G) {J5 : gS → Nat → Int32 → Int32 → Int32 → Int32 → Prop} (hJ5 : ∀ G z0 z1 z2 z3 z4, J5 G z0 z1 z2 z3 z4 → gGo C G 5 [(0, vQ (some z0)), (1, vI z1), (2, vI z2), (3, vI z3), (4, vI z4)] []) {G : gS} {t0 : Nat} {x1 : Int32} {x2 : Int32} {x4 : Int32} {xs0 : Int32} (h : wp_X3_hasFor_48 (cxA C) X K J5 G t0 x1 x2 x4 xs0) : gGo C G 48 [(0, vQ (some t0)), (1, vI x1), (2, vI x2), (4, vI x4)] [vI xs0] := by
  unfold wp_X3_hasFor_48 at h
  refine g_istore_n hC (pc := 48) (lv' := [(3, vI xs0), (0, vQ (some t0)), (1, vI x1), (2, vI x2), (4, vI x4)]) rfl (by decide) rfl dX3_hasFor_48 ?_
  refine g_iinc hC (pc := 49) 4 (d := (1 : Int32)) (v := (x4 + (1 : Int32))) (lv' := [(4, vI (x4 + (1 : Int32))), (3, vI xs0), (0, vQ (some t0)), (1, vI x1), (2, vI x2)]) rfl (by decide) rfl (by decide) rfl dX3_hasFor_49 ?_
  refine g_goto hC (pc := 52) 5 (by decide) dX3_hasFor_52 ?_
  exact g_sub [2, 3, 4, 1, 0] rfl (hJ5 _ _ _ _ _ _ h)
def wp_X3_hasFor_43 (ad : Nat → Nat) (X : Nat → gS → Prop) (K : Int32 → gS → Prop) (J5 : gS → Nat → Int32 → Int32 → Int32 → Int32 → Prop) (G : gS) (t0 : Nat) (x1 : Int32) (x2 : Int32) (x4 : Int32) : Prop :=
  wp_X3_hasFor_48 ad X K J5 G t0 x1 x2 x4 (1 : Int32)
theorem w_X3_hasFor_43 {C : gCx} (hC : gOk C "GoblinHouseholdModel" cX3_hasFor [] (some .boolean) "hasFor" 5 1 30) {K : Int32 → gS → Prop} {X : Nat → gS → Prop} (hK : ∀ r G, K r G → cxK C (some (vI r)) G) (hX : ∀ q G, X q G → cxX C q G) {J5 : gS → Nat → Int32 → Int32 → Int32 → Int32 → Prop} (hJ5 : ∀ G z0 z1 z2 z3 z4, J5 G z0 z1 z2 z3 z4 → gGo C G 5 [(0, vQ (some z0)), (1, vI z1), (2, vI z2), (3, vI z3), (4, vI z4)] []) {G : gS} {t0 : Nat} {x1 : Int32} {x2 : Int32} {x4 : Int32} (h : wp_X3_hasFor_43 (cxA C) X K J5 G t0 x1 x2 x4) : gGo C G 43 [(0, vQ (some t0)), (1, vI x1), (2, vI x2), (4, vI x4)] [] := by
  unfold wp_X3_hasFor_43 at h
  refine g_iconst hC (pc := 43) (v := (1 : Int32)) (by decide) dX3_hasFor_43 ?_
  refine g_goto hC (pc := 44) 48 (by decide) dX3_hasFor_44 ?_
  exact g_sub [0, 1, 2, 3] rfl (w_X3_hasFor_48 hC hK hX hJ5 h)
def wp_X3_hasFor_47 (ad : Nat → Nat) (X : Nat → gS → Prop) (K : Int32 → gS → Prop) (J5 : gS → Nat → Int32 → Int32 → Int32 → Int32 → Prop) (G : gS) (t0 : Nat) (x1 : Int32) (x2 : Int32) (x4 : Int32) : Prop :=
  wp_X3_hasFor_48 ad X K J5 G t0 x1 x2 x4 (0 : Int32)
theorem w_X3_hasFor_47 {C : gCx} (hC : gOk C "GoblinHouseholdModel" cX3_hasFor [] (some .boolean) "hasFor" 5 1 30) {K : Int32 → gS → Prop} {X : Nat → gS → Prop} (hK : ∀ r G, K r G → cxK C (some (vI r)) G) (hX : ∀ q G, X q G → cxX C q G) {J5 : gS → Nat → Int32 → Int32 → Int32 → Int32 → Prop} (hJ5 : ∀ G z0 z1 z2 z3 z4, J5 G z0 z1 z2 z3 z4 → gGo C G 5 [(0, vQ (some z0)), (1, vI z1), (2, vI z2), (3, vI z3), (4, vI z4)] []) {G : gS} {t0 : Nat} {x1 : Int32} {x2 : Int32} {x4 : Int32} (h : wp_X3_hasFor_47 (cxA C) X K J5 G t0 x1 x2 x4) : gGo C G 47 [(0, vQ (some t0)), (1, vI x1), (2, vI x2), (4, vI x4)] [] := by
  unfold wp_X3_hasFor_47 at h
  refine g_iconst hC (pc := 47) (v := (0 : Int32)) (by decide) dX3_hasFor_47 ?_
  exact g_sub [0, 1, 2, 3] rfl (w_X3_hasFor_48 hC hK hX hJ5 h)
def wp_X3_hasFor_5 (ad : Nat → Nat) (X : Nat → gS → Prop) (K : Int32 → gS → Prop) (J5 : gS → Nat → Int32 → Int32 → Int32 → Int32 → Prop) (G : gS) (t0 : Nat) (x1 : Int32) (x2 : Int32) (x3 : Int32) (x4 : Int32) : Prop :=
  wGetQ G t0 0 0 fun q1 => wNN q1 fun c2 => wAldI G c2 (11 : Int32) fun i3 => (i3 ≤ x4 → gNar .boolean x3 ∧ K x3 G) ∧ (¬ i3 ≤ x4 → (¬ x3 = (0 : Int32) → wp_X3_hasFor_43 ad X K J5 G t0 x1 x2 x4) ∧ (x3 = (0 : Int32) → (gIs G t0 0 ∧ wp_X3_ofContract ad G t0 x4 (1 : Int32) X (fun r5 G4 => (¬ r5 = x1 → wp_X3_hasFor_47 ad X K J5 G4 t0 x1 x2 x4) ∧ (r5 = x1 → (gIs G4 t0 0 ∧ wp_X3_ofContract ad G4 t0 x4 (2 : Int32) X (fun r7 G6 => (¬ r7 = x2 → wp_X3_hasFor_47 ad X K J5 G6 t0 x1 x2 x4) ∧ (r7 = x2 → wp_X3_hasFor_43 ad X K J5 G6 t0 x1 x2 x4))))))))
theorem w_X3_hasFor_5 {C : gCx} (hC : gOk C "GoblinHouseholdModel" cX3_hasFor [] (some .boolean) "hasFor" 5 1 30) {K : Int32 → gS → Prop} {X : Nat → gS → Prop} (hK : ∀ r G, K r G → cxK C (some (vI r)) G) (hX : ∀ q G, X q G → cxX C q G) (n : Nat) : ∀ (G : gS) (t0 : Nat) (x1 : Int32) (x2 : Int32) (x3 : Int32) (x4 : Int32), gLoop (fun _ _ _ _ _ _ => False) (wp_X3_hasFor_5 (cxA C) X K) n G t0 x1 x2 x3 x4 → gGo C G 5 [(0, vQ (some t0)), (1, vI x1), (2, vI x2), (3, vI x3), (4, vI x4)] [] := by
  induction n with
  | zero => intro G t0 x1 x2 x3 x4 h; exact h.elim
  | succ n ih =>
    intro G t0 x1 x2 x3 x4 h
    have hJ5 := ih
    replace h : wp_X3_hasFor_5 (cxA C) X K _ G t0 x1 x2 x3 x4 := h
    unfold wp_X3_hasFor_5 at h
    refine g_iload hC (pc := 5) 4 rfl dX3_hasFor_5 ?_
    refine g_aload_n hC (pc := 7) 0 rfl rfl dX3_hasFor_7 ?_
    refine g_getQ hC (pc := 8) in_X3 (ci := 0) rfl 0 (by decide) q2477 (Or.inl rfl) h dX3_hasFor_8 (fun q1 h => ?_)
    refine g_bipush hC (pc := 11) (v := (11 : Int32)) (by decide) dX3_hasFor_11 ?_
    rcases q1 with _ | c2
    · exact (gNN0 h).elim
    replace h := gNN1 h
    refine g_aldI hC (pc := 13) h dX3_hasFor_13 (fun i3 h => ?_)
    refine g_icmp_ge hC (pc := 14) 55 h (by decide) dX3_hasFor_14 (fun h => ?_) (fun h => ?_)
    · refine g_iload_n hC (pc := 55) 3 rfl rfl dX3_hasFor_55 ?_
      exact g_zret hC (pc := 56) h.1 (hK _ _ h.2) dX3_hasFor_56
    · refine g_iload_n hC (pc := 17) 3 rfl rfl dX3_hasFor_17 ?_
      refine g_if_ne hC (pc := 18) 43 h (by decide) dX3_hasFor_18 (fun h => ?_) (fun h => ?_)
      · exact g_sub [0, 1, 2, 4] rfl (w_X3_hasFor_43 hC hK hX hJ5 h)
      · refine g_aload_n hC (pc := 21) 0 rfl rfl dX3_hasFor_21 ?_
        refine g_iload hC (pc := 22) 4 rfl dX3_hasFor_22 ?_
        refine g_iconst hC (pc := 24) (v := (1 : Int32)) (by decide) dX3_hasFor_24 ?_
        obtain ⟨hi, h⟩ := h
        refine g_callV hC (pc := 25) (ci := 0) (As := [vI x4, vI (1 : Int32)]) gc_X3_ofContract (m_X3_ofContract hC.fl h) rfl hi q2659 q2661 qs60 (gle rfl) (gle rfl) rfl (gle rfl) rfl dX3_hasFor_25 (gk_i fun r5 G4 h => ?_) (fun _ _ h hio => g_out0 hC (hX _ _ h) hio)
        refine g_iload_n hC (pc := 28) 1 rfl rfl dX3_hasFor_28 ?_
        refine g_icmp_ne hC (pc := 29) 47 h (by decide) dX3_hasFor_29 (fun h => ?_) (fun h => ?_)
        · exact g_sub [0, 1, 2, 4] rfl (w_X3_hasFor_47 hC hK hX hJ5 h)
        · refine g_aload_n hC (pc := 32) 0 rfl rfl dX3_hasFor_32 ?_
          refine g_iload hC (pc := 33) 4 rfl dX3_hasFor_33 ?_
          refine g_iconst hC (pc := 35) (v := (2 : Int32)) (by decide) dX3_hasFor_35 ?_
          obtain ⟨hi, h⟩ := h
          refine g_callV hC (pc := 36) (ci := 0) (As := [vI x4, vI (2 : Int32)]) gc_X3_ofContract (m_X3_ofContract hC.fl h) rfl hi q2659 q2661 qs60 (gle rfl) (gle rfl) rfl (gle rfl) rfl dX3_hasFor_36 (gk_i fun r7 G6 h => ?_) (fun _ _ h hio => g_out0 hC (hX _ _ h) hio)
          refine g_iload_n hC (pc := 39) 2 rfl rfl dX3_hasFor_39 ?_
          refine g_icmp_ne hC (pc := 40) 47 h (by decide) dX3_hasFor_40 (fun h => ?_) (fun h => ?_)
          · exact g_sub [0, 1, 2, 4] rfl (w_X3_hasFor_47 hC hK hX hJ5 h)
          · exact g_sub [0, 1, 2, 4] rfl (w_X3_hasFor_43 hC hK hX hJ5 h)
def wp_X3_hasFor (ad : Nat → Nat) (G : gS) (t0 : Nat) (x1 : Int32) (x2 : Int32) (X : Nat → gS → Prop) (K : Int32 → gS → Prop) : Prop :=
  gLoop (fun _ _ _ _ _ _ => False) (wp_X3_hasFor_5 ad X K) gFuel G t0 x1 x2 (0 : Int32) (0 : Int32)
theorem w_X3_hasFor {C : gCx} (hC : gOk C "GoblinHouseholdModel" cX3_hasFor [] (some .boolean) "hasFor" 5 1 30) {K : Int32 → gS → Prop} {X : Nat → gS → Prop} (hK : ∀ r G, K r G → cxK C (some (vI r)) G) (hX : ∀ q G, X q G → cxX C q G) {G : gS} {t0 : Nat} {x1 : Int32} {x2 : Int32} (h : wp_X3_hasFor (cxA C) G t0 x1 x2 X K) : gGo C G 0 [(0, vQ (some t0)), (1, vI x1), (2, vI x2)] [] := by
  unfold wp_X3_hasFor at h
  refine g_iconst hC (pc := 0) (v := (0 : Int32)) (by decide) dX3_hasFor_0 ?_
  refine g_istore_n hC (pc := 1) (lv' := [(3, vI (0 : Int32)), (0, vQ (some t0)), (1, vI x1), (2, vI x2)]) rfl (by decide) rfl dX3_hasFor_1 ?_
  refine g_iconst hC (pc := 2) (v := (0 : Int32)) (by decide) dX3_hasFor_2 ?_
  refine g_istore hC (pc := 3) (lv' := [(4, vI (0 : Int32)), (3, vI (0 : Int32)), (0, vQ (some t0)), (1, vI x1), (2, vI x2)]) (by decide) rfl dX3_hasFor_3 ?_
  exact g_sub [2, 3, 4, 1, 0] rfl (w_X3_hasFor_5 hC hK hX gFuel _ _ _ _ _ _ h)
theorem gc_X3_hasFor : gCode yX3_hasFor cX3_hasFor 5 (some .boolean) 2 := ⟨q2658, q105, ⟨by decide, by decide⟩, rfl⟩
theorem m_X3_hasFor {l : Launch} (hfl : l.stackTraces = false) {E : gE} {G : gS} {t0 : Nat} {x1 : Int32} {x2 : Int32} {X : Nat → gS → Prop} {K : Int32 → gS → Prop} (h : wp_X3_hasFor (gAd E) G t0 x1 x2 X K) : gMet l yX3_hasFor (ws_ yX3_hasFor cX3_hasFor 5 (some .boolean)) 1 30 [vQ (some t0), vI x1, vI x2] E G (gRi K) X :=
  g_met hfl (plainFor_of_name (by decide +kernel)) rfl rfl rfl (gle rfl) (fun p e R s m args below meth c hC => w_X3_hasFor hC (fun _ _ h => h) (fun _ _ h => h) h)
def wp_X3_hires_82 (ad : Nat → Nat) (X : Nat → gS → Prop) (K : Int32 → gS → Prop) (G : gS) (t0 : Nat) (x1 : Int32) (x2 : Int32) (x3 : Int32) (x4 : Int32) (xs0 : Int32) (xs1 : Int32) (xs2 : Int32) (xs3 : Int32) (ts4 : Nat) : Prop :=
  (gIs G ts4 0 ∧ wp_X3_holds ad G ts4 xs3 xs2 xs1 xs0 X (fun r2 G1 => (¬ r2 = (0 : Int32) → wGetQ G1 t0 0 0 fun q3 => wNN q3 fun c4 => wAldI G1 c4 (11 : Int32) fun i5 => wGetQ G1 t0 0 0 fun q6 => wGetQ G1 t0 0 0 fun q7 => wNN q7 fun c8 => wAldI G1 c8 (10 : Int32) fun i9 => wNN q6 fun c10 => wAstI G1 c10 (((51 : Int32) + ((5 : Int32) * i5)) + (0 : Int32)) i9 fun G11 => wGetQ G11 t0 0 0 fun q12 => wNN q12 fun c13 => wAstI G11 c13 (((51 : Int32) + ((5 : Int32) * i5)) + (1 : Int32)) x1 fun G14 => wGetQ G14 t0 0 0 fun q15 => wNN q15 fun c16 => wAstI G14 c16 (((51 : Int32) + ((5 : Int32) * i5)) + (2 : Int32)) x2 fun G17 => wGetQ G17 t0 0 0 fun q18 => wNN q18 fun c19 => wAstI G17 c19 (((51 : Int32) + ((5 : Int32) * i5)) + (3 : Int32)) x3 fun G20 => wGetQ G20 t0 0 0 fun q21 => wNN q21 fun c22 => wAstI G20 c22 (((51 : Int32) + ((5 : Int32) * i5)) + (4 : Int32)) x4 fun G23 => wGetQ G23 t0 0 0 fun q24 => wNN q24 fun c25 => wAldI G23 c25 (11 : Int32) fun i26 => wAstI G23 c25 (11 : Int32) (i26 + (1 : Int32)) fun G27 => wGetQ G27 t0 0 0 fun q28 => wNN q28 fun c29 => wAldI G27 c29 (10 : Int32) fun i30 => wAstI G27 c29 (10 : Int32) (i30 + (1 : Int32)) fun G31 => wGetQ G31 t0 0 0 fun q32 => wNN q32 fun c33 => wAldI G31 c33 (10 : Int32) fun i34 => K (i34 - (1 : Int32)) G31) ∧ (r2 = (0 : Int32) → K (0 : Int32) G1)))
theorem w_X3_hires_82 {C : gCx} (hC : gOk C "GoblinHouseholdModel" cX3_hires [] (some .int) "hires" 7 2 62) {K : Int32 → gS → Prop} {X : Nat → gS → Prop} (hK : ∀ r G, K r G → cxK C (some (vI r)) G) (hX : ∀ q G, X q G → cxX C q G) {G : gS} {t0 : Nat} {x1 : Int32} {x2 : Int32} {x3 : Int32} {x4 : Int32} {xs0 : Int32} {xs1 : Int32} {xs2 : Int32} {xs3 : Int32} {ts4 : Nat} (h : wp_X3_hires_82 (cxA C) X K G t0 x1 x2 x3 x4 xs0 xs1 xs2 xs3 ts4) : gGo C G 82 [(0, vQ (some t0)), (1, vI x1), (2, vI x2), (3, vI x3), (4, vI x4)] [vI xs0, vI xs1, vI xs2, vI xs3, vQ (some ts4)] := by
  unfold wp_X3_hires_82 at h
  obtain ⟨hi, h⟩ := h
  refine g_callV hC (pc := 82) (ci := 0) (As := [vI xs3, vI xs2, vI xs1, vI xs0]) gc_X3_holds (m_X3_holds hC.fl h) rfl hi q2550 q2552 qs44 (gle rfl) (gle rfl) rfl (gle rfl) rfl dX3_hires_82 (gk_i fun r2 G1 h => ?_) (fun _ _ h hio => g_out0 hC (hX _ _ h) hio)
  refine g_if_ne hC (pc := 85) 90 h (by decide) dX3_hires_85 (fun h => ?_) (fun h => ?_)
  · refine g_bipush hC (pc := 90) (v := (51 : Int32)) (by decide) dX3_hires_90 ?_
    refine g_iconst hC (pc := 92) (v := (5 : Int32)) (by decide) dX3_hires_92 ?_
    refine g_aload_n hC (pc := 93) 0 rfl rfl dX3_hires_93 ?_
    refine g_getQ hC (pc := 94) in_X3 (ci := 0) rfl 0 (by decide) q2477 (Or.inl rfl) h dX3_hires_94 (fun q3 h => ?_)
    refine g_bipush hC (pc := 97) (v := (11 : Int32)) (by decide) dX3_hires_97 ?_
    rcases q3 with _ | c4
    · exact (gNN0 h).elim
    replace h := gNN1 h
    refine g_aldI hC (pc := 99) h dX3_hires_99 (fun i5 h => ?_)
    refine g_imul hC (pc := 100) dX3_hires_100 ?_
    refine g_iadd hC (pc := 101) dX3_hires_101 ?_
    refine g_istore hC (pc := 102) (lv' := [(6, vI ((51 : Int32) + ((5 : Int32) * i5))), (0, vQ (some t0)), (1, vI x1), (2, vI x2), (3, vI x3), (4, vI x4)]) (by decide) rfl dX3_hires_102 ?_
    refine g_aload_n hC (pc := 104) 1 rfl rfl dX3_hires_104 ?_
    refine g_getQ hC (pc := 105) in_X3 (ci := 0) rfl 0 (by decide) q2477 (Or.inl rfl) h dX3_hires_105 (fun q6 h => ?_)
    refine g_iload hC (pc := 108) 0 rfl dX3_hires_108 ?_
    refine g_iconst hC (pc := 110) (v := (0 : Int32)) (by decide) dX3_hires_110 ?_
    refine g_iadd hC (pc := 111) dX3_hires_111 ?_
    refine g_aload_n hC (pc := 112) 1 rfl rfl dX3_hires_112 ?_
    refine g_getQ hC (pc := 113) in_X3 (ci := 0) rfl 0 (by decide) q2477 (Or.inl rfl) h dX3_hires_113 (fun q7 h => ?_)
    refine g_bipush hC (pc := 116) (v := (10 : Int32)) (by decide) dX3_hires_116 ?_
    rcases q7 with _ | c8
    · exact (gNN0 h).elim
    replace h := gNN1 h
    refine g_aldI hC (pc := 118) h dX3_hires_118 (fun i9 h => ?_)
    rcases q6 with _ | c10
    · exact (gNN0 h).elim
    replace h := gNN1 h
    refine g_astI hC (pc := 119) h dX3_hires_119 (fun G11 h => ?_)
    refine g_aload_n hC (pc := 120) 1 rfl rfl dX3_hires_120 ?_
    refine g_getQ hC (pc := 121) in_X3 (ci := 0) rfl 0 (by decide) q2477 (Or.inl rfl) h dX3_hires_121 (fun q12 h => ?_)
    refine g_iload hC (pc := 124) 0 rfl dX3_hires_124 ?_
    refine g_iconst hC (pc := 126) (v := (1 : Int32)) (by decide) dX3_hires_126 ?_
    refine g_iadd hC (pc := 127) dX3_hires_127 ?_
    refine g_iload_n hC (pc := 128) 2 rfl rfl dX3_hires_128 ?_
    rcases q12 with _ | c13
    · exact (gNN0 h).elim
    replace h := gNN1 h
    refine g_astI hC (pc := 129) h dX3_hires_129 (fun G14 h => ?_)
    refine g_aload_n hC (pc := 130) 1 rfl rfl dX3_hires_130 ?_
    refine g_getQ hC (pc := 131) in_X3 (ci := 0) rfl 0 (by decide) q2477 (Or.inl rfl) h dX3_hires_131 (fun q15 h => ?_)
    refine g_iload hC (pc := 134) 0 rfl dX3_hires_134 ?_
    refine g_iconst hC (pc := 136) (v := (2 : Int32)) (by decide) dX3_hires_136 ?_
    refine g_iadd hC (pc := 137) dX3_hires_137 ?_
    refine g_iload_n hC (pc := 138) 3 rfl rfl dX3_hires_138 ?_
    rcases q15 with _ | c16
    · exact (gNN0 h).elim
    replace h := gNN1 h
    refine g_astI hC (pc := 139) h dX3_hires_139 (fun G17 h => ?_)
    refine g_aload_n hC (pc := 140) 1 rfl rfl dX3_hires_140 ?_
    refine g_getQ hC (pc := 141) in_X3 (ci := 0) rfl 0 (by decide) q2477 (Or.inl rfl) h dX3_hires_141 (fun q18 h => ?_)
    refine g_iload hC (pc := 144) 0 rfl dX3_hires_144 ?_
    refine g_iconst hC (pc := 146) (v := (3 : Int32)) (by decide) dX3_hires_146 ?_
    refine g_iadd hC (pc := 147) dX3_hires_147 ?_
    refine g_iload_n hC (pc := 148) 4 rfl rfl dX3_hires_148 ?_
    rcases q18 with _ | c19
    · exact (gNN0 h).elim
    replace h := gNN1 h
    refine g_astI hC (pc := 149) h dX3_hires_149 (fun G20 h => ?_)
    refine g_aload_n hC (pc := 150) 1 rfl rfl dX3_hires_150 ?_
    refine g_getQ hC (pc := 151) in_X3 (ci := 0) rfl 0 (by decide) q2477 (Or.inl rfl) h dX3_hires_151 (fun q21 h => ?_)
    refine g_iload hC (pc := 154) 0 rfl dX3_hires_154 ?_
    refine g_iconst hC (pc := 156) (v := (4 : Int32)) (by decide) dX3_hires_156 ?_
    refine g_iadd hC (pc := 157) dX3_hires_157 ?_
    refine g_iload hC (pc := 158) 5 rfl dX3_hires_158 ?_
    rcases q21 with _ | c22
    · exact (gNN0 h).elim
    replace h := gNN1 h
    refine g_astI hC (pc := 160) h dX3_hires_160 (fun G23 h => ?_)
    refine g_aload_n hC (pc := 161) 1 rfl rfl dX3_hires_161 ?_
    refine g_getQ hC (pc := 162) in_X3 (ci := 0) rfl 0 (by decide) q2477 (Or.inl rfl) h dX3_hires_162 (fun q24 h => ?_)
    refine g_bipush hC (pc := 165) (v := (11 : Int32)) (by decide) dX3_hires_165 ?_
    refine g_dup2 hC (pc := 167) rfl rfl dX3_hires_167 ?_
    rcases q24 with _ | c25
    · exact (gNN0 h).elim
    replace h := gNN1 h
    refine g_aldI hC (pc := 168) h dX3_hires_168 (fun i26 h => ?_)
    refine g_iconst hC (pc := 169) (v := (1 : Int32)) (by decide) dX3_hires_169 ?_
    refine g_iadd hC (pc := 170) dX3_hires_170 ?_
    refine g_astI hC (pc := 171) h dX3_hires_171 (fun G27 h => ?_)
    refine g_aload_n hC (pc := 172) 1 rfl rfl dX3_hires_172 ?_
    refine g_getQ hC (pc := 173) in_X3 (ci := 0) rfl 0 (by decide) q2477 (Or.inl rfl) h dX3_hires_173 (fun q28 h => ?_)
    refine g_bipush hC (pc := 176) (v := (10 : Int32)) (by decide) dX3_hires_176 ?_
    refine g_dup2 hC (pc := 178) rfl rfl dX3_hires_178 ?_
    rcases q28 with _ | c29
    · exact (gNN0 h).elim
    replace h := gNN1 h
    refine g_aldI hC (pc := 179) h dX3_hires_179 (fun i30 h => ?_)
    refine g_iconst hC (pc := 180) (v := (1 : Int32)) (by decide) dX3_hires_180 ?_
    refine g_iadd hC (pc := 181) dX3_hires_181 ?_
    refine g_astI hC (pc := 182) h dX3_hires_182 (fun G31 h => ?_)
    refine g_aload_n hC (pc := 183) 1 rfl rfl dX3_hires_183 ?_
    refine g_getQ hC (pc := 184) in_X3 (ci := 0) rfl 0 (by decide) q2477 (Or.inl rfl) h dX3_hires_184 (fun q32 h => ?_)
    refine g_bipush hC (pc := 187) (v := (10 : Int32)) (by decide) dX3_hires_187 ?_
    rcases q32 with _ | c33
    · exact (gNN0 h).elim
    replace h := gNN1 h
    refine g_aldI hC (pc := 189) h dX3_hires_189 (fun i34 h => ?_)
    refine g_iconst hC (pc := 190) (v := (1 : Int32)) (by decide) dX3_hires_190 ?_
    refine g_isub hC (pc := 191) dX3_hires_191 ?_
    exact g_iret hC (pc := 192) (hK _ _ h) dX3_hires_192
  · refine g_iconst hC (pc := 88) (v := (0 : Int32)) (by decide) dX3_hires_88 ?_
    exact g_iret hC (pc := 89) (hK _ _ h) dX3_hires_89
def wp_X3_hires_68 (ad : Nat → Nat) (X : Nat → gS → Prop) (K : Int32 → gS → Prop) (G : gS) (t0 : Nat) (x1 : Int32) (x2 : Int32) (x3 : Int32) (x4 : Int32) (xs0 : Int32) (xs1 : Int32) (xs2 : Int32) (ts3 : Nat) : Prop :=
  (gIs G t0 0 ∧ wp_X3_hasFor ad G t0 x1 x2 X (fun r2 G1 => (¬ r2 = (0 : Int32) → wp_X3_hires_82 ad X K G1 t0 x1 x2 x3 x4 (0 : Int32) xs0 xs1 xs2 ts3) ∧ (r2 = (0 : Int32) → wp_X3_hires_82 ad X K G1 t0 x1 x2 x3 x4 (1 : Int32) xs0 xs1 xs2 ts3)))
theorem w_X3_hires_68 {C : gCx} (hC : gOk C "GoblinHouseholdModel" cX3_hires [] (some .int) "hires" 7 2 62) {K : Int32 → gS → Prop} {X : Nat → gS → Prop} (hK : ∀ r G, K r G → cxK C (some (vI r)) G) (hX : ∀ q G, X q G → cxX C q G) {G : gS} {t0 : Nat} {x1 : Int32} {x2 : Int32} {x3 : Int32} {x4 : Int32} {xs0 : Int32} {xs1 : Int32} {xs2 : Int32} {ts3 : Nat} (h : wp_X3_hires_68 (cxA C) X K G t0 x1 x2 x3 x4 xs0 xs1 xs2 ts3) : gGo C G 68 [(0, vQ (some t0)), (1, vI x1), (2, vI x2), (3, vI x3), (4, vI x4)] [vI xs0, vI xs1, vI xs2, vQ (some ts3)] := by
  unfold wp_X3_hires_68 at h
  refine g_aload_n hC (pc := 68) 0 rfl rfl dX3_hires_68 ?_
  refine g_iload_n hC (pc := 69) 1 rfl rfl dX3_hires_69 ?_
  refine g_iload_n hC (pc := 70) 2 rfl rfl dX3_hires_70 ?_
  obtain ⟨hi, h⟩ := h
  refine g_callV hC (pc := 71) (ci := 0) (As := [vI x1, vI x2]) gc_X3_hasFor (m_X3_hasFor hC.fl h) rfl hi q2655 q2657 qs59 (gle rfl) (gle rfl) rfl (gle rfl) rfl dX3_hires_71 (gk_i fun r2 G1 h => ?_) (fun _ _ h hio => g_out0 hC (hX _ _ h) hio)
  refine g_if_ne hC (pc := 74) 81 h (by decide) dX3_hires_74 (fun h => ?_) (fun h => ?_)
  · refine g_iconst hC (pc := 81) (v := (0 : Int32)) (by decide) dX3_hires_81 ?_
    exact g_sub [0, 1, 2, 3, 4] rfl (w_X3_hires_82 hC hK hX h)
  · refine g_iconst hC (pc := 77) (v := (1 : Int32)) (by decide) dX3_hires_77 ?_
    refine g_goto hC (pc := 78) 82 (by decide) dX3_hires_78 ?_
    exact g_sub [0, 1, 2, 3, 4] rfl (w_X3_hires_82 hC hK hX h)
def wp_X3_hires_49 (ad : Nat → Nat) (X : Nat → gS → Prop) (K : Int32 → gS → Prop) (G : gS) (t0 : Nat) (x1 : Int32) (x2 : Int32) (x3 : Int32) (x4 : Int32) (x5 : Int32) (xs0 : Int32) (ts1 : Nat) : Prop :=
  wGetQ G t0 0 0 fun q1 => wNN q1 fun c2 => wAldI G c2 (11 : Int32) fun i3 => ((8 : Int32) ≤ i3 → wp_X3_hires_68 ad X K G t0 x1 x2 x3 x4 (0 : Int32) x5 xs0 ts1) ∧ (¬ (8 : Int32) ≤ i3 → wp_X3_hires_68 ad X K G t0 x1 x2 x3 x4 (1 : Int32) x5 xs0 ts1)
theorem w_X3_hires_49 {C : gCx} (hC : gOk C "GoblinHouseholdModel" cX3_hires [] (some .int) "hires" 7 2 62) {K : Int32 → gS → Prop} {X : Nat → gS → Prop} (hK : ∀ r G, K r G → cxK C (some (vI r)) G) (hX : ∀ q G, X q G → cxX C q G) {G : gS} {t0 : Nat} {x1 : Int32} {x2 : Int32} {x3 : Int32} {x4 : Int32} {x5 : Int32} {xs0 : Int32} {ts1 : Nat} (h : wp_X3_hires_49 (cxA C) X K G t0 x1 x2 x3 x4 x5 xs0 ts1) : gGo C G 49 [(0, vQ (some t0)), (1, vI x1), (2, vI x2), (3, vI x3), (4, vI x4), (5, vI x5)] [vI xs0, vQ (some ts1)] := by
  unfold wp_X3_hires_49 at h
  refine g_iload hC (pc := 49) 5 rfl dX3_hires_49 ?_
  refine g_aload_n hC (pc := 51) 0 rfl rfl dX3_hires_51 ?_
  refine g_getQ hC (pc := 52) in_X3 (ci := 0) rfl 0 (by decide) q2477 (Or.inl rfl) h dX3_hires_52 (fun q1 h => ?_)
  refine g_bipush hC (pc := 55) (v := (11 : Int32)) (by decide) dX3_hires_55 ?_
  rcases q1 with _ | c2
  · exact (gNN0 h).elim
  replace h := gNN1 h
  refine g_aldI hC (pc := 57) h dX3_hires_57 (fun i3 h => ?_)
  refine g_bipush hC (pc := 58) (v := (8 : Int32)) (by decide) dX3_hires_58 ?_
  refine g_icmp_ge hC (pc := 60) 67 h (by decide) dX3_hires_60 (fun h => ?_) (fun h => ?_)
  · refine g_iconst hC (pc := 67) (v := (0 : Int32)) (by decide) dX3_hires_67 ?_
    exact g_sub [0, 1, 2, 3, 4] rfl (w_X3_hires_68 hC hK hX h)
  · refine g_iconst hC (pc := 63) (v := (1 : Int32)) (by decide) dX3_hires_63 ?_
    refine g_goto hC (pc := 64) 68 (by decide) dX3_hires_64 ?_
    exact g_sub [0, 1, 2, 3, 4] rfl (w_X3_hires_68 hC hK hX h)
def wp_X3_hires_48 (ad : Nat → Nat) (X : Nat → gS → Prop) (K : Int32 → gS → Prop) (G : gS) (t0 : Nat) (x1 : Int32) (x2 : Int32) (x3 : Int32) (x4 : Int32) (x5 : Int32) (ts0 : Nat) : Prop :=
  wp_X3_hires_49 ad X K G t0 x1 x2 x3 x4 x5 (0 : Int32) ts0
theorem w_X3_hires_48 {C : gCx} (hC : gOk C "GoblinHouseholdModel" cX3_hires [] (some .int) "hires" 7 2 62) {K : Int32 → gS → Prop} {X : Nat → gS → Prop} (hK : ∀ r G, K r G → cxK C (some (vI r)) G) (hX : ∀ q G, X q G → cxX C q G) {G : gS} {t0 : Nat} {x1 : Int32} {x2 : Int32} {x3 : Int32} {x4 : Int32} {x5 : Int32} {ts0 : Nat} (h : wp_X3_hires_48 (cxA C) X K G t0 x1 x2 x3 x4 x5 ts0) : gGo C G 48 [(0, vQ (some t0)), (1, vI x1), (2, vI x2), (3, vI x3), (4, vI x4), (5, vI x5)] [vQ (some ts0)] := by
  unfold wp_X3_hires_48 at h
  refine g_iconst hC (pc := 48) (v := (0 : Int32)) (by decide) dX3_hires_48 ?_
  exact g_sub [0, 1, 2, 3, 4, 5] rfl (w_X3_hires_49 hC hK hX h)
def wp_X3_hires_26 (ad : Nat → Nat) (X : Nat → gS → Prop) (K : Int32 → gS → Prop) (G : gS) (t0 : Nat) (x1 : Int32) (x2 : Int32) (x3 : Int32) (x4 : Int32) (xs0 : Int32) : Prop :=
  (gIs G t0 0 ∧ wp_X3_isGoblin ad G t0 x1 X (fun r2 G1 => (r2 = (0 : Int32) → wp_X3_hires_48 ad X K G1 t0 x1 x2 x3 x4 xs0 t0) ∧ (¬ r2 = (0 : Int32) → wp_X3_isRoom ad G1 x2 X (fun r4 G3 => (r4 = (0 : Int32) → wp_X3_hires_48 ad X K G3 t0 x1 x2 x3 x4 xs0 t0) ∧ (¬ r4 = (0 : Int32) → wp_X3_hires_49 ad X K G3 t0 x1 x2 x3 x4 xs0 (1 : Int32) t0)))))
theorem w_X3_hires_26 {C : gCx} (hC : gOk C "GoblinHouseholdModel" cX3_hires [] (some .int) "hires" 7 2 62) {K : Int32 → gS → Prop} {X : Nat → gS → Prop} (hK : ∀ r G, K r G → cxK C (some (vI r)) G) (hX : ∀ q G, X q G → cxX C q G) {G : gS} {t0 : Nat} {x1 : Int32} {x2 : Int32} {x3 : Int32} {x4 : Int32} {xs0 : Int32} (h : wp_X3_hires_26 (cxA C) X K G t0 x1 x2 x3 x4 xs0) : gGo C G 26 [(0, vQ (some t0)), (1, vI x1), (2, vI x2), (3, vI x3), (4, vI x4)] [vI xs0] := by
  unfold wp_X3_hires_26 at h
  refine g_istore hC (pc := 26) (lv' := [(5, vI xs0), (0, vQ (some t0)), (1, vI x1), (2, vI x2), (3, vI x3), (4, vI x4)]) (by decide) rfl dX3_hires_26 ?_
  refine g_aload_n hC (pc := 28) 1 rfl rfl dX3_hires_28 ?_
  refine g_aload_n hC (pc := 29) 1 rfl rfl dX3_hires_29 ?_
  refine g_iload_n hC (pc := 30) 2 rfl rfl dX3_hires_30 ?_
  obtain ⟨hi, h⟩ := h
  refine g_callV hC (pc := 31) (ci := 0) (As := [vI x1]) gc_X3_isGoblin (m_X3_isGoblin hC.fl h) rfl hi q2628 q2630 qs55 (gle rfl) (gle rfl) rfl (gle rfl) rfl dX3_hires_31 (gk_i fun r2 G1 h => ?_) (fun _ _ h hio => g_out0 hC (hX _ _ h) hio)
  refine g_if_eq hC (pc := 34) 48 h (by decide) dX3_hires_34 (fun h => ?_) (fun h => ?_)
  · exact g_sub [1, 2, 3, 4, 5, 0] rfl (w_X3_hires_48 hC hK hX h)
  · refine g_iload_n hC (pc := 37) 3 rfl rfl dX3_hires_37 ?_
    refine g_callS hC (pc := 38) (b := 0) (As := [vI x2]) gc_X3_isRoom (m_X3_isRoom hC.fl h) q2652 q2653 (gle rfl) (gle rfl) rfl (gle rfl) rfl dX3_hires_38 (gk_i fun r4 G3 h => ?_) (fun _ _ h hio => g_out0 hC (hX _ _ h) hio)
    refine g_if_eq hC (pc := 41) 48 h (by decide) dX3_hires_41 (fun h => ?_) (fun h => ?_)
    · exact g_sub [1, 2, 3, 4, 5, 0] rfl (w_X3_hires_48 hC hK hX h)
    · refine g_iconst hC (pc := 44) (v := (1 : Int32)) (by decide) dX3_hires_44 ?_
      refine g_goto hC (pc := 45) 49 (by decide) dX3_hires_45 ?_
      exact g_sub [1, 2, 3, 4, 5, 0] rfl (w_X3_hires_49 hC hK hX h)
def wp_X3_hires_25 (ad : Nat → Nat) (X : Nat → gS → Prop) (K : Int32 → gS → Prop) (G : gS) (t0 : Nat) (x1 : Int32) (x2 : Int32) (x3 : Int32) (x4 : Int32) : Prop :=
  wp_X3_hires_26 ad X K G t0 x1 x2 x3 x4 (0 : Int32)
theorem w_X3_hires_25 {C : gCx} (hC : gOk C "GoblinHouseholdModel" cX3_hires [] (some .int) "hires" 7 2 62) {K : Int32 → gS → Prop} {X : Nat → gS → Prop} (hK : ∀ r G, K r G → cxK C (some (vI r)) G) (hX : ∀ q G, X q G → cxX C q G) {G : gS} {t0 : Nat} {x1 : Int32} {x2 : Int32} {x3 : Int32} {x4 : Int32} (h : wp_X3_hires_25 (cxA C) X K G t0 x1 x2 x3 x4) : gGo C G 25 [(0, vQ (some t0)), (1, vI x1), (2, vI x2), (3, vI x3), (4, vI x4)] [] := by
  unfold wp_X3_hires_25 at h
  refine g_iconst hC (pc := 25) (v := (0 : Int32)) (by decide) dX3_hires_25 ?_
  exact g_sub [0, 1, 2, 3, 4] rfl (w_X3_hires_26 hC hK hX h)
def wp_X3_hires (ad : Nat → Nat) (G : gS) (t0 : Nat) (x1 : Int32) (x2 : Int32) (x3 : Int32) (x4 : Int32) (X : Nat → gS → Prop) (K : Int32 → gS → Prop) : Prop :=
  wp_X3_isIn ad G x3 (1 : Int32) (50 : Int32) X (fun r2 G1 => (r2 = (0 : Int32) → wp_X3_hires_25 ad X K G1 t0 x1 x2 x3 x4) ∧ (¬ r2 = (0 : Int32) → wp_X3_isIn ad G1 x4 (1 : Int32) (20 : Int32) X (fun r4 G3 => (r4 = (0 : Int32) → wp_X3_hires_25 ad X K G3 t0 x1 x2 x3 x4) ∧ (¬ r4 = (0 : Int32) → wp_X3_hires_26 ad X K G3 t0 x1 x2 x3 x4 (1 : Int32)))))
theorem w_X3_hires {C : gCx} (hC : gOk C "GoblinHouseholdModel" cX3_hires [] (some .int) "hires" 7 2 62) {K : Int32 → gS → Prop} {X : Nat → gS → Prop} (hK : ∀ r G, K r G → cxK C (some (vI r)) G) (hX : ∀ q G, X q G → cxX C q G) {G : gS} {t0 : Nat} {x1 : Int32} {x2 : Int32} {x3 : Int32} {x4 : Int32} (h : wp_X3_hires (cxA C) G t0 x1 x2 x3 x4 X K) : gGo C G 0 [(0, vQ (some t0)), (1, vI x1), (2, vI x2), (3, vI x3), (4, vI x4)] [] := by
  unfold wp_X3_hires at h
  refine g_iload_n hC (pc := 0) 3 rfl rfl dX3_hires_0 ?_
  refine g_iconst hC (pc := 1) (v := (1 : Int32)) (by decide) dX3_hires_1 ?_
  refine g_bipush hC (pc := 2) (v := (50 : Int32)) (by decide) dX3_hires_2 ?_
  refine g_callS hC (pc := 4) (b := 0) (As := [vI x3, vI (1 : Int32), vI (50 : Int32)]) gc_X3_isIn (m_X3_isIn hC.fl h) q2577 q2578 (gle rfl) (gle rfl) rfl (gle rfl) rfl dX3_hires_4 (gk_i fun r2 G1 h => ?_) (fun _ _ h hio => g_out0 hC (hX _ _ h) hio)
  refine g_if_eq hC (pc := 7) 25 h (by decide) dX3_hires_7 (fun h => ?_) (fun h => ?_)
  · exact g_sub [0, 1, 2, 3, 4] rfl (w_X3_hires_25 hC hK hX h)
  · refine g_iload hC (pc := 10) 4 rfl dX3_hires_10 ?_
    refine g_iconst hC (pc := 12) (v := (1 : Int32)) (by decide) dX3_hires_12 ?_
    refine g_bipush hC (pc := 13) (v := (20 : Int32)) (by decide) dX3_hires_13 ?_
    refine g_callS hC (pc := 15) (b := 0) (As := [vI x4, vI (1 : Int32), vI (20 : Int32)]) gc_X3_isIn (m_X3_isIn hC.fl h) q2577 q2578 (gle rfl) (gle rfl) rfl (gle rfl) rfl dX3_hires_15 (gk_i fun r4 G3 h => ?_) (fun _ _ h hio => g_out0 hC (hX _ _ h) hio)
    refine g_if_eq hC (pc := 18) 25 h (by decide) dX3_hires_18 (fun h => ?_) (fun h => ?_)
    · exact g_sub [0, 1, 2, 3, 4] rfl (w_X3_hires_25 hC hK hX h)
    · refine g_iconst hC (pc := 21) (v := (1 : Int32)) (by decide) dX3_hires_21 ?_
      refine g_goto hC (pc := 22) 26 (by decide) dX3_hires_22 ?_
      exact g_sub [0, 1, 2, 3, 4] rfl (w_X3_hires_26 hC hK hX h)
theorem gc_X3_hires : gCode yX3_hires cX3_hires 7 (some .int) 4 := ⟨q2651, q105, ⟨by decide, by decide⟩, rfl⟩
theorem m_X3_hires {l : Launch} (hfl : l.stackTraces = false) {E : gE} {G : gS} {t0 : Nat} {x1 : Int32} {x2 : Int32} {x3 : Int32} {x4 : Int32} {X : Nat → gS → Prop} {K : Int32 → gS → Prop} (h : wp_X3_hires (gAd E) G t0 x1 x2 x3 x4 X K) : gMet l yX3_hires (ws_ yX3_hires cX3_hires 7 (some .int)) 2 62 [vQ (some t0), vI x1, vI x2, vI x3, vI x4] E G (gRi K) X :=
  g_met hfl (plainFor_of_name (by decide +kernel)) rfl rfl rfl (gle rfl) (fun p e R s m args below meth c hC => w_X3_hires hC (fun _ _ h => h) (fun _ _ h => h) h)
def wp_X3_hire (ad : Nat → Nat) (G : gS) (t0 : Nat) (x1 : Int32) (x2 : Int32) (x3 : Int32) (x4 : Int32) (X : Nat → gS → Prop) (K : Int32 → gS → Prop) : Prop :=
  (gIs G t0 0 ∧ wp_X3_begins ad G t0  X (fun G1 => (gIs G1 t0 0 ∧ wp_X3_hires ad G1 t0 x1 x2 x3 x4 X (fun r3 G2 => (gIs G2 t0 0 ∧ wp_X3_ends ad G2 t0 r3 X (fun r5 G4 => K r5 G4))))))
theorem w_X3_hire {C : gCx} (hC : gOk C "GoblinHouseholdModel" cX3_hire [] (some .int) "hire" 5 3 96) {K : Int32 → gS → Prop} {X : Nat → gS → Prop} (hK : ∀ r G, K r G → cxK C (some (vI r)) G) (hX : ∀ q G, X q G → cxX C q G) {G : gS} {t0 : Nat} {x1 : Int32} {x2 : Int32} {x3 : Int32} {x4 : Int32} (h : wp_X3_hire (cxA C) G t0 x1 x2 x3 x4 X K) : gGo C G 0 [(0, vQ (some t0)), (1, vI x1), (2, vI x2), (3, vI x3), (4, vI x4)] [] := by
  unfold wp_X3_hire at h
  refine g_aload_n hC (pc := 0) 0 rfl rfl dX3_hire_0 ?_
  obtain ⟨hi, h⟩ := h
  refine g_callV hC (pc := 1) (ci := 0) (As := []) gc_X3_begins (m_X3_begins hC.fl h) rfl hi q2569 q2571 qs45 (gle rfl) (gle rfl) rfl (gle rfl) rfl dX3_hire_1 (gk_v fun G1 h => ?_) (fun _ _ h hio => g_out0 hC (hX _ _ h) hio)
  refine g_aload_n hC (pc := 4) 0 rfl rfl dX3_hire_4 ?_
  refine g_aload_n hC (pc := 5) 0 rfl rfl dX3_hire_5 ?_
  refine g_iload_n hC (pc := 6) 1 rfl rfl dX3_hire_6 ?_
  refine g_iload_n hC (pc := 7) 2 rfl rfl dX3_hire_7 ?_
  refine g_iload_n hC (pc := 8) 3 rfl rfl dX3_hire_8 ?_
  refine g_iload hC (pc := 9) 4 rfl dX3_hire_9 ?_
  obtain ⟨hi, h⟩ := h
  refine g_callV hC (pc := 11) (ci := 0) (As := [vI x1, vI x2, vI x3, vI x4]) gc_X3_hires (m_X3_hires hC.fl h) rfl hi q2648 q2650 qs58 (gle rfl) (gle rfl) rfl (gle rfl) rfl dX3_hire_11 (gk_i fun r3 G2 h => ?_) (fun _ _ h hio => g_out0 hC (hX _ _ h) hio)
  obtain ⟨hi, h⟩ := h
  refine g_callV hC (pc := 14) (ci := 0) (As := [vI r3]) gc_X3_ends (m_X3_ends hC.fl h) rfl hi q2580 q2582 qs47 (gle rfl) (gle rfl) rfl (gle rfl) rfl dX3_hire_14 (gk_i fun r5 G4 h => ?_) (fun _ _ h hio => g_out0 hC (hX _ _ h) hio)
  exact g_iret hC (pc := 17) (hK _ _ h) dX3_hire_17
theorem gc_X3_hire : gCode yX3_hire cX3_hire 5 (some .int) 4 := ⟨q2647, q105, ⟨by decide, by decide⟩, rfl⟩
theorem m_X3_hire {l : Launch} (hfl : l.stackTraces = false) {E : gE} {G : gS} {t0 : Nat} {x1 : Int32} {x2 : Int32} {x3 : Int32} {x4 : Int32} {X : Nat → gS → Prop} {K : Int32 → gS → Prop} (h : wp_X3_hire (gAd E) G t0 x1 x2 x3 x4 X K) : gMet l yX3_hire (ws_ yX3_hire cX3_hire 5 (some .int)) 3 96 [vQ (some t0), vI x1, vI x2, vI x3, vI x4] E G (gRi K) X :=
  g_met hfl (plainFor_of_name (by decide +kernel)) rfl rfl rfl (gle rfl) (fun p e R s m args below meth c hC => w_X3_hire hC (fun _ _ h => h) (fun _ _ h => h) h)
def wp_X1_cancelContract (ad : Nat → Nat) (G : gS) (t0 : Nat) (x1 : Int32) (X : Nat → gS → Prop) (K : Int32 → gS → Prop) : Prop :=
  wMkL G 6 [x1] fun c2 G1 => (gIs G1 t0 1 ∧ wp_X1_apply ad G1 t0 (some c2) X (fun r4 G3 => K r4 G3))
theorem w_X1_cancelContract {C : gCx} (hC : gOk C "GoblinHousehold" cX1_cancelContract [] (some .int) "cancelContract" 2 18 3088) (hN : gNm C yX1_cancelContract) {K : Int32 → gS → Prop} {X : Nat → gS → Prop} (hK : ∀ r G, K r G → cxK C (some (vI r)) G) (hX : ∀ q G, X q G → cxX C q G) {G : gS} {t0 : Nat} {x1 : Int32} (h : wp_X1_cancelContract (cxA C) G t0 x1 X K) : gGo C G 0 [(0, vQ (some t0)), (1, vI x1)] [] := by
  unfold wp_X1_cancelContract at h
  refine g_aload_n hC (pc := 0) 0 rfl rfl dX1_cancelContract_0 ?_
  refine g_iload_n hC (pc := 1) 1 rfl rfl dX1_cancelContract_1 ?_
  refine g_indyM hC (pc := 2) (q := gSite_6) (xs := [x1]) hN (List.mem_of_getElem? (i := 6) rfl) rfl (by decide) lok_6 q3057 q1423 gc_X1_lambda_cancelContract_5 rfl rfl (gle rfl) (gle rfl) rfl rfl h dX1_cancelContract_2 (fun c2 G1 h => ?_)
  obtain ⟨hi, h⟩ := h
  refine g_callVW hC (pc := 7) (ci := 1) (As := [vQ (some c2)]) gc_X1_apply (m_X1_apply hC.fl h) rfl hi q1049 q1051 qs12 (gle rfl) (gle rfl) rfl (gle rfl) rfl dX1_cancelContract_7 (gk_i fun r4 G3 h => ?_) (fun _ _ h hio => g_out0 hC (hX _ _ h) hio)
  exact g_iret hC (pc := 10) (hK _ _ h) dX1_cancelContract_10
theorem gc_X1_cancelContract : gCode yX1_cancelContract cX1_cancelContract 2 (some .int) 1 := ⟨q1422, q94, ⟨by decide, by decide⟩, rfl⟩
theorem m_X1_cancelContract {l : Launch} (hfl : l.stackTraces = false) {E : gE} {G : gS} {t0 : Nat} {x1 : Int32} {X : Nat → gS → Prop} {K : Int32 → gS → Prop} (h : wp_X1_cancelContract (gAd E) G t0 x1 X K) : gMet l yX1_cancelContract (ws_ yX1_cancelContract cX1_cancelContract 2 (some .int)) 18 3088 [vQ (some t0), vI x1] E G (gRi K) X :=
  g_metN hfl (plainFor_of_name (by decide +kernel)) rfl rfl rfl (gle rfl) (fun p e R s m args below meth c hC hN => w_X1_cancelContract hC hN (fun _ _ h => h) (fun _ _ h => h) h)
def wp_X0_cancelContract_12 (ad : Nat → Nat) (X : Nat → gS → Prop) (K : Int32 → gS → Prop) (G : gS) (ts0 : Nat) : Prop :=
  K (1 : Int32) G
theorem w_X0_cancelContract_12 {C : gCx} (hC : gOk C "GoblinHouseholdLaw" cX0_cancelContract [(0, 9, 12, 37)] (some .int) "cancelContract" 4 19 3117) {K : Int32 → gS → Prop} {X : Nat → gS → Prop} (hK : ∀ r G, K r G → cxK C (some (vI r)) G) (hX : ∀ q G, X q G → cxX C q G) {G : gS} {ts0 : Nat} (h : wp_X0_cancelContract_12 (cxA C) X K G ts0) : gGo C G 12 [] [vQ (some ts0)] := by
  unfold wp_X0_cancelContract_12 at h
  refine g_astore_n hC (pc := 12) (lv' := [(3, vQ (some ts0))]) rfl (by decide) rfl dX0_cancelContract_12 ?_
  refine g_iconst hC (pc := 13) (v := (1 : Int32)) (by decide) dX0_cancelContract_13 ?_
  exact g_iret hC (pc := 14) (hK _ _ h) dX0_cancelContract_14
def wp_X0_cancelContract (ad : Nat → Nat) (G : gS) (o0 : Option Nat) (x1 : Int32) (o2 : Option Nat) (X : Nat → gS → Prop) (K : Int32 → gS → Prop) : Prop :=
  wNN o0 fun c1 => (gIs G c1 1 ∧ wp_X1_cancelContract ad G c1 x1 (fun y3 G4 => (gHas G4 y3 23 ∧ (wp_X0_cancelContract_12 ad X K G4 y3))) (fun r5 G2 => wNN o2 fun c6 => wAstL G2 c6 (0 : Int32) ((r5).toInt64) fun G7 => K (0 : Int32) G7))
theorem w_X0_cancelContract {C : gCx} (hC : gOk C "GoblinHouseholdLaw" cX0_cancelContract [(0, 9, 12, 37)] (some .int) "cancelContract" 4 19 3117) {K : Int32 → gS → Prop} {X : Nat → gS → Prop} (hK : ∀ r G, K r G → cxK C (some (vI r)) G) (hX : ∀ q G, X q G → cxX C q G) {G : gS} {o0 : Option Nat} {x1 : Int32} {o2 : Option Nat} (h : wp_X0_cancelContract (cxA C) G o0 x1 o2 X K) : gGo C G 0 [(0, vQ o0), (1, vI x1), (2, vQ o2)] [] := by
  unfold wp_X0_cancelContract at h
  refine g_aload_n hC (pc := 0) 2 rfl rfl dX0_cancelContract_0 ?_
  refine g_iconst hC (pc := 1) (v := (0 : Int32)) (by decide) dX0_cancelContract_1 ?_
  refine g_aload_n hC (pc := 2) 0 rfl rfl dX0_cancelContract_2 ?_
  refine g_iload_n hC (pc := 3) 1 rfl rfl dX0_cancelContract_3 ?_
  rcases o0 with _ | c1
  · exact (gNN0 h).elim
  replace h := gNN1 h
  obtain ⟨hi, h⟩ := h
  refine g_callV hC (pc := 4) (ci := 1) (As := [vI x1]) gc_X1_cancelContract (m_X1_cancelContract hC.fl h) rfl hi q1419 q1420 q1421 (gle rfl) (gle rfl) rfl (gle rfl) rfl dX0_cancelContract_4 (gk_i fun r5 G2 h => ?_) (fun y3 G4 h hio => ?_)
  · refine g_i2l hC (pc := 7) dX0_cancelContract_7 ?_
    rcases o2 with _ | c6
    · exact (gNN0 h).elim
    replace h := gNN1 h
    refine g_astL hC (pc := 8) h dX0_cancelContract_8 (fun G7 h => ?_)
    refine g_goto hC (pc := 9) 15 (by decide) dX0_cancelContract_9 ?_
    refine g_iconst hC (pc := 15) (v := (0 : Int32)) (by decide) dX0_cancelContract_15 ?_
    exact g_iret hC (pc := 16) (hK _ _ h) dX0_cancelContract_16
  · obtain ⟨hq, h⟩ := h
    refine g_catchI hC (pc := 4) (ci := 23) rfl hq 0 rfl (fun _ h => nomatch h) rfl (by decide) q1418 (List.mem_of_getElem? (i := 8) rfl) rfl ?_
    exact g_sub [] rfl (w_X0_cancelContract_12 hC hK hX h)
theorem gc_X0_cancelContract : gCodeW yX0_cancelContract cX0_cancelContract 4 (some .int) [(0, 9, 12, 37)] 3 := ⟨q1417, q93, ⟨by decide, by decide⟩, rfl⟩
theorem m_X0_cancelContract {l : Launch} (hfl : l.stackTraces = false) {E : gE} {G : gS} {o0 : Option Nat} {x1 : Int32} {o2 : Option Nat} {X : Nat → gS → Prop} {K : Int32 → gS → Prop} (h : wp_X0_cancelContract (gAd E) G o0 x1 o2 X K) : gMet l yX0_cancelContract (wsW_ yX0_cancelContract cX0_cancelContract 4 (some .int) [(0, 9, 12, 37)]) 19 3117 [vQ o0, vI x1, vQ o2] E G (gRi K) X :=
  g_metW hfl (plainFor_of_name (by decide +kernel)) rfl rfl rfl (gle rfl) (fun p e R s m args below meth c hC => w_X0_cancelContract hC (fun _ _ h => h) (fun _ _ h => h) h)
def wp_X3_find_30 (ad : Nat → Nat) (X : Nat → gS → Prop) (K : Int32 → gS → Prop) (J4 : gS → Nat → Int32 → Int32 → Int32 → Prop) (G : gS) (t0 : Nat) (x1 : Int32) (x3 : Int32) (xs0 : Int32) : Prop :=
  J4 G t0 x1 xs0 (x3 + (1 : Int32))
theorem w_X3_find_30 {C : gCx} (hC : gOk C "GoblinHouseholdModel" cX3_find [] (some .int) "find" 4 1 30) {K : Int32 → gS → Prop} {X : Nat → gS → Prop} (hK : ∀ r G, K r G → cxK C (some (vI r)) G) (hX : ∀ q G, X q G → cxX C q G) {J4 : gS → Nat → Int32 → Int32 → Int32 → Prop} (hJ4 : ∀ G z0 z1 z2 z3, J4 G z0 z1 z2 z3 → gGo C G 4 [(0, vQ (some z0)), (1, vI z1), (2, vI z2), (3, vI z3)] []) {G : gS} {t0 : Nat} {x1 : Int32} {x3 : Int32} {xs0 : Int32} (h : wp_X3_find_30 (cxA C) X K J4 G t0 x1 x3 xs0) : gGo C G 30 [(0, vQ (some t0)), (1, vI x1), (3, vI x3)] [vI xs0] := by
  unfold wp_X3_find_30 at h
  refine g_istore_n hC (pc := 30) (lv' := [(2, vI xs0), (0, vQ (some t0)), (1, vI x1), (3, vI x3)]) rfl (by decide) rfl dX3_find_30 ?_
  refine g_iinc hC (pc := 31) 3 (d := (1 : Int32)) (v := (x3 + (1 : Int32))) (lv' := [(3, vI (x3 + (1 : Int32))), (2, vI xs0), (0, vQ (some t0)), (1, vI x1)]) rfl (by decide) rfl (by decide) rfl dX3_find_31 ?_
  refine g_goto hC (pc := 34) 4 (by decide) dX3_find_34 ?_
  exact g_sub [2, 3, 1, 0] rfl (hJ4 _ _ _ _ _ h)
def wp_X3_find_4 (ad : Nat → Nat) (X : Nat → gS → Prop) (K : Int32 → gS → Prop) (J4 : gS → Nat → Int32 → Int32 → Int32 → Prop) (G : gS) (t0 : Nat) (x1 : Int32) (x2 : Int32) (x3 : Int32) : Prop :=
  wGetQ G t0 0 0 fun q1 => wNN q1 fun c2 => wAldI G c2 (11 : Int32) fun i3 => (i3 ≤ x3 → K x2 G) ∧ (¬ i3 ≤ x3 → (gIs G t0 0 ∧ wp_X3_ofContract ad G t0 x3 (0 : Int32) X (fun r5 G4 => (¬ r5 = x1 → wp_X3_find_30 ad X K J4 G4 t0 x1 x3 x2) ∧ (r5 = x1 → wp_X3_find_30 ad X K J4 G4 t0 x1 x3 x3))))
theorem w_X3_find_4 {C : gCx} (hC : gOk C "GoblinHouseholdModel" cX3_find [] (some .int) "find" 4 1 30) {K : Int32 → gS → Prop} {X : Nat → gS → Prop} (hK : ∀ r G, K r G → cxK C (some (vI r)) G) (hX : ∀ q G, X q G → cxX C q G) (n : Nat) : ∀ (G : gS) (t0 : Nat) (x1 : Int32) (x2 : Int32) (x3 : Int32), gLoop (fun _ _ _ _ _ => False) (wp_X3_find_4 (cxA C) X K) n G t0 x1 x2 x3 → gGo C G 4 [(0, vQ (some t0)), (1, vI x1), (2, vI x2), (3, vI x3)] [] := by
  induction n with
  | zero => intro G t0 x1 x2 x3 h; exact h.elim
  | succ n ih =>
    intro G t0 x1 x2 x3 h
    have hJ4 := ih
    replace h : wp_X3_find_4 (cxA C) X K _ G t0 x1 x2 x3 := h
    unfold wp_X3_find_4 at h
    refine g_iload_n hC (pc := 4) 3 rfl rfl dX3_find_4 ?_
    refine g_aload_n hC (pc := 5) 0 rfl rfl dX3_find_5 ?_
    refine g_getQ hC (pc := 6) in_X3 (ci := 0) rfl 0 (by decide) q2477 (Or.inl rfl) h dX3_find_6 (fun q1 h => ?_)
    refine g_bipush hC (pc := 9) (v := (11 : Int32)) (by decide) dX3_find_9 ?_
    rcases q1 with _ | c2
    · exact (gNN0 h).elim
    replace h := gNN1 h
    refine g_aldI hC (pc := 11) h dX3_find_11 (fun i3 h => ?_)
    refine g_icmp_ge hC (pc := 12) 37 h (by decide) dX3_find_12 (fun h => ?_) (fun h => ?_)
    · refine g_iload_n hC (pc := 37) 2 rfl rfl dX3_find_37 ?_
      exact g_iret hC (pc := 38) (hK _ _ h) dX3_find_38
    · refine g_aload_n hC (pc := 15) 0 rfl rfl dX3_find_15 ?_
      refine g_iload_n hC (pc := 16) 3 rfl rfl dX3_find_16 ?_
      refine g_iconst hC (pc := 17) (v := (0 : Int32)) (by decide) dX3_find_17 ?_
      obtain ⟨hi, h⟩ := h
      refine g_callV hC (pc := 18) (ci := 0) (As := [vI x3, vI (0 : Int32)]) gc_X3_ofContract (m_X3_ofContract hC.fl h) rfl hi q2659 q2661 qs60 (gle rfl) (gle rfl) rfl (gle rfl) rfl dX3_find_18 (gk_i fun r5 G4 h => ?_) (fun _ _ h hio => g_out0 hC (hX _ _ h) hio)
      refine g_iload_n hC (pc := 21) 1 rfl rfl dX3_find_21 ?_
      refine g_icmp_ne hC (pc := 22) 29 h (by decide) dX3_find_22 (fun h => ?_) (fun h => ?_)
      · refine g_iload_n hC (pc := 29) 2 rfl rfl dX3_find_29 ?_
        exact g_sub [0, 1, 3] rfl (w_X3_find_30 hC hK hX hJ4 h)
      · refine g_iload_n hC (pc := 25) 3 rfl rfl dX3_find_25 ?_
        refine g_goto hC (pc := 26) 30 (by decide) dX3_find_26 ?_
        exact g_sub [0, 1, 3] rfl (w_X3_find_30 hC hK hX hJ4 h)
def wp_X3_find (ad : Nat → Nat) (G : gS) (t0 : Nat) (x1 : Int32) (X : Nat → gS → Prop) (K : Int32 → gS → Prop) : Prop :=
  gLoop (fun _ _ _ _ _ => False) (wp_X3_find_4 ad X K) gFuel G t0 x1 (-1 : Int32) (0 : Int32)
theorem w_X3_find {C : gCx} (hC : gOk C "GoblinHouseholdModel" cX3_find [] (some .int) "find" 4 1 30) {K : Int32 → gS → Prop} {X : Nat → gS → Prop} (hK : ∀ r G, K r G → cxK C (some (vI r)) G) (hX : ∀ q G, X q G → cxX C q G) {G : gS} {t0 : Nat} {x1 : Int32} (h : wp_X3_find (cxA C) G t0 x1 X K) : gGo C G 0 [(0, vQ (some t0)), (1, vI x1)] [] := by
  unfold wp_X3_find at h
  refine g_iconst hC (pc := 0) (v := (-1 : Int32)) (by decide) dX3_find_0 ?_
  refine g_istore_n hC (pc := 1) (lv' := [(2, vI (-1 : Int32)), (0, vQ (some t0)), (1, vI x1)]) rfl (by decide) rfl dX3_find_1 ?_
  refine g_iconst hC (pc := 2) (v := (0 : Int32)) (by decide) dX3_find_2 ?_
  refine g_istore_n hC (pc := 3) (lv' := [(3, vI (0 : Int32)), (2, vI (-1 : Int32)), (0, vQ (some t0)), (1, vI x1)]) rfl (by decide) rfl dX3_find_3 ?_
  exact g_sub [2, 3, 1, 0] rfl (w_X3_find_4 hC hK hX gFuel _ _ _ _ _ h)
theorem gc_X3_find : gCode yX3_find cX3_find 4 (some .int) 1 := ⟨q2674, q105, ⟨by decide, by decide⟩, rfl⟩
theorem m_X3_find {l : Launch} (hfl : l.stackTraces = false) {E : gE} {G : gS} {t0 : Nat} {x1 : Int32} {X : Nat → gS → Prop} {K : Int32 → gS → Prop} (h : wp_X3_find (gAd E) G t0 x1 X K) : gMet l yX3_find (ws_ yX3_find cX3_find 4 (some .int)) 1 30 [vQ (some t0), vI x1] E G (gRi K) X :=
  g_met hfl (plainFor_of_name (by decide +kernel)) rfl rfl rfl (gle rfl) (fun p e R s m args below meth c hC => w_X3_find hC (fun _ _ h => h) (fun _ _ h => h) h)
def wp_X3_goes (ad : Nat → Nat) (G : gS) (t0 : Nat) (x1 : Int32) (X : Nat → gS → Prop) (K : Int32 → gS → Prop) : Prop :=
  (gIs G t0 0 ∧ wp_X3_holds ad G t0 x1 (1 : Int32) (1 : Int32) (1 : Int32) X (fun r2 G1 => gNar .boolean r2 ∧ K r2 G1))
theorem w_X3_goes {C : gCx} (hC : gOk C "GoblinHouseholdModel" cX3_goes [] (some .boolean) "goes" 2 1 32) {K : Int32 → gS → Prop} {X : Nat → gS → Prop} (hK : ∀ r G, K r G → cxK C (some (vI r)) G) (hX : ∀ q G, X q G → cxX C q G) {G : gS} {t0 : Nat} {x1 : Int32} (h : wp_X3_goes (cxA C) G t0 x1 X K) : gGo C G 0 [(0, vQ (some t0)), (1, vI x1)] [] := by
  unfold wp_X3_goes at h
  refine g_aload_n hC (pc := 0) 0 rfl rfl dX3_goes_0 ?_
  refine g_iload_n hC (pc := 1) 1 rfl rfl dX3_goes_1 ?_
  refine g_iconst hC (pc := 2) (v := (1 : Int32)) (by decide) dX3_goes_2 ?_
  refine g_iconst hC (pc := 3) (v := (1 : Int32)) (by decide) dX3_goes_3 ?_
  refine g_iconst hC (pc := 4) (v := (1 : Int32)) (by decide) dX3_goes_4 ?_
  obtain ⟨hi, h⟩ := h
  refine g_callV hC (pc := 5) (ci := 0) (As := [vI x1, vI (1 : Int32), vI (1 : Int32), vI (1 : Int32)]) gc_X3_holds (m_X3_holds hC.fl h) rfl hi q2550 q2552 qs44 (gle rfl) (gle rfl) rfl (gle rfl) rfl dX3_goes_5 (gk_i fun r2 G1 h => ?_) (fun _ _ h hio => g_out0 hC (hX _ _ h) hio)
  exact g_zret hC (pc := 8) h.1 (hK _ _ h.2) dX3_goes_8
theorem gc_X3_goes : gCode yX3_goes cX3_goes 2 (some .boolean) 1 := ⟨q2549, q105, ⟨by decide, by decide⟩, rfl⟩
theorem m_X3_goes {l : Launch} (hfl : l.stackTraces = false) {E : gE} {G : gS} {t0 : Nat} {x1 : Int32} {X : Nat → gS → Prop} {K : Int32 → gS → Prop} (h : wp_X3_goes (gAd E) G t0 x1 X K) : gMet l yX3_goes (ws_ yX3_goes cX3_goes 2 (some .boolean)) 1 32 [vQ (some t0), vI x1] E G (gRi K) X :=
  g_met hfl (plainFor_of_name (by decide +kernel)) rfl rfl rfl (gle rfl) (fun p e R s m args below meth c hC => w_X3_goes hC (fun _ _ h => h) (fun _ _ h => h) h)
def wp_X3_place (ad : Nat → Nat) (G : gS) (t0 : Nat) (x1 : Int32) (x2 : Int32) (X : Nat → gS → Prop) (K : Int32 → gS → Prop) : Prop :=
  (gIs G t0 0 ∧ wp_X3_isGoblin ad G t0 x1 X (fun r2 G1 => (r2 = (0 : Int32) → K (((26 : Int32) + ((5 : Int32) * (0 : Int32))) + x2) G1) ∧ (¬ r2 = (0 : Int32) → K (((26 : Int32) + ((5 : Int32) * x1)) + x2) G1)))
theorem w_X3_place {C : gCx} (hC : gOk C "GoblinHouseholdModel" cX3_place [] (some .int) "place" 3 2 59) {K : Int32 → gS → Prop} {X : Nat → gS → Prop} (hK : ∀ r G, K r G → cxK C (some (vI r)) G) (hX : ∀ q G, X q G → cxX C q G) {G : gS} {t0 : Nat} {x1 : Int32} {x2 : Int32} (h : wp_X3_place (cxA C) G t0 x1 x2 X K) : gGo C G 0 [(0, vQ (some t0)), (1, vI x1), (2, vI x2)] [] := by
  unfold wp_X3_place at h
  refine g_bipush hC (pc := 0) (v := (26 : Int32)) (by decide) dX3_place_0 ?_
  refine g_iconst hC (pc := 2) (v := (5 : Int32)) (by decide) dX3_place_2 ?_
  refine g_aload_n hC (pc := 3) 0 rfl rfl dX3_place_3 ?_
  refine g_iload_n hC (pc := 4) 1 rfl rfl dX3_place_4 ?_
  obtain ⟨hi, h⟩ := h
  refine g_callV hC (pc := 5) (ci := 0) (As := [vI x1]) gc_X3_isGoblin (m_X3_isGoblin hC.fl h) rfl hi q2628 q2630 qs55 (gle rfl) (gle rfl) rfl (gle rfl) rfl dX3_place_5 (gk_i fun r2 G1 h => ?_) (fun _ _ h hio => g_out0 hC (hX _ _ h) hio)
  refine g_if_eq hC (pc := 8) 15 h (by decide) dX3_place_8 (fun h => ?_) (fun h => ?_)
  · refine g_iconst hC (pc := 15) (v := (0 : Int32)) (by decide) dX3_place_15 ?_
    refine g_imul hC (pc := 16) dX3_place_16 ?_
    refine g_iadd hC (pc := 17) dX3_place_17 ?_
    refine g_iload_n hC (pc := 18) 2 rfl rfl dX3_place_18 ?_
    refine g_iadd hC (pc := 19) dX3_place_19 ?_
    exact g_iret hC (pc := 20) (hK _ _ h) dX3_place_20
  · refine g_iload_n hC (pc := 11) 1 rfl rfl dX3_place_11 ?_
    refine g_goto hC (pc := 12) 16 (by decide) dX3_place_12 ?_
    refine g_imul hC (pc := 16) dX3_place_16 ?_
    refine g_iadd hC (pc := 17) dX3_place_17 ?_
    refine g_iload_n hC (pc := 18) 2 rfl rfl dX3_place_18 ?_
    refine g_iadd hC (pc := 19) dX3_place_19 ?_
    exact g_iret hC (pc := 20) (hK _ _ h) dX3_place_20
theorem gc_X3_place : gCode yX3_place cX3_place 3 (some .int) 2 := ⟨q2639, q105, ⟨by decide, by decide⟩, rfl⟩
theorem m_X3_place {l : Launch} (hfl : l.stackTraces = false) {E : gE} {G : gS} {t0 : Nat} {x1 : Int32} {x2 : Int32} {X : Nat → gS → Prop} {K : Int32 → gS → Prop} (h : wp_X3_place (gAd E) G t0 x1 x2 X K) : gMet l yX3_place (ws_ yX3_place cX3_place 3 (some .int)) 2 59 [vQ (some t0), vI x1, vI x2] E G (gRi K) X :=
  g_met hfl (plainFor_of_name (by decide +kernel)) rfl rfl rfl (gle rfl) (fun p e R s m args below meth c hC => w_X3_place hC (fun _ _ h => h) (fun _ _ h => h) h)
def wp_X3_drops_33 (ad : Nat → Nat) (X : Nat → gS → Prop) (K : gS → Prop) (G : gS) (t0 : Nat) : Prop :=
  wGetQ G t0 0 0 fun q1 => wNN q1 fun c2 => wAldI G c2 (11 : Int32) fun i3 => wAstI G c2 (11 : Int32) (i3 - (1 : Int32)) fun G4 => K G4
theorem w_X3_drops_33 {C : gCx} (hC : gOk C "GoblinHouseholdModel" cX3_drops [] none "drops" 3 0 0) {K : gS → Prop} {X : Nat → gS → Prop} (hK : ∀ G, K G → cxK C none G) (hX : ∀ q G, X q G → cxX C q G) {G : gS} {t0 : Nat} (h : wp_X3_drops_33 (cxA C) X K G t0) : gGo C G 33 [(0, vQ (some t0))] [] := by
  unfold wp_X3_drops_33 at h
  refine g_aload_n hC (pc := 33) 0 rfl rfl dX3_drops_33 ?_
  refine g_getQ hC (pc := 34) in_X3 (ci := 0) rfl 0 (by decide) q2477 (Or.inl rfl) h dX3_drops_34 (fun q1 h => ?_)
  refine g_bipush hC (pc := 37) (v := (11 : Int32)) (by decide) dX3_drops_37 ?_
  refine g_dup2 hC (pc := 39) rfl rfl dX3_drops_39 ?_
  rcases q1 with _ | c2
  · exact (gNN0 h).elim
  replace h := gNN1 h
  refine g_aldI hC (pc := 40) h dX3_drops_40 (fun i3 h => ?_)
  refine g_iconst hC (pc := 41) (v := (1 : Int32)) (by decide) dX3_drops_41 ?_
  refine g_isub hC (pc := 42) dX3_drops_42 ?_
  refine g_astI hC (pc := 43) h dX3_drops_43 (fun G4 h => ?_)
  exact g_vret hC (pc := 44) (hK _ h) dX3_drops_44
def wp_X3_drops_7 (ad : Nat → Nat) (X : Nat → gS → Prop) (K : gS → Prop) (J7 : gS → Nat → Int32 → Prop) (G : gS) (t0 : Nat) (x2 : Int32) : Prop :=
  ((86 : Int32) ≤ x2 → wp_X3_drops_33 ad X K G t0) ∧ (¬ (86 : Int32) ≤ x2 → wGetQ G t0 0 0 fun q1 => wGetQ G t0 0 0 fun q2 => wNN q2 fun c3 => wAldI G c3 (x2 + (5 : Int32)) fun i4 => wNN q1 fun c5 => wAstI G c5 x2 i4 fun G6 => J7 G6 t0 (x2 + (1 : Int32)))
theorem w_X3_drops_7 {C : gCx} (hC : gOk C "GoblinHouseholdModel" cX3_drops [] none "drops" 3 0 0) {K : gS → Prop} {X : Nat → gS → Prop} (hK : ∀ G, K G → cxK C none G) (hX : ∀ q G, X q G → cxX C q G) (n : Nat) : ∀ (G : gS) (t0 : Nat) (x2 : Int32), gLoop (fun _ _ _ => False) (wp_X3_drops_7 (cxA C) X K) n G t0 x2 → gGo C G 7 [(0, vQ (some t0)), (2, vI x2)] [] := by
  induction n with
  | zero => intro G t0 x2 h; exact h.elim
  | succ n ih =>
    intro G t0 x2 h
    have hJ7 := ih
    replace h : wp_X3_drops_7 (cxA C) X K _ G t0 x2 := h
    unfold wp_X3_drops_7 at h
    refine g_iload_n hC (pc := 7) 1 rfl rfl dX3_drops_7 ?_
    refine g_bipush hC (pc := 8) (v := (86 : Int32)) (by decide) dX3_drops_8 ?_
    refine g_icmp_ge hC (pc := 10) 33 h (by decide) dX3_drops_10 (fun h => ?_) (fun h => ?_)
    · exact g_sub [0] rfl (w_X3_drops_33 hC hK hX h)
    · refine g_aload_n hC (pc := 13) 0 rfl rfl dX3_drops_13 ?_
      refine g_getQ hC (pc := 14) in_X3 (ci := 0) rfl 0 (by decide) q2477 (Or.inl rfl) h dX3_drops_14 (fun q1 h => ?_)
      refine g_iload_n hC (pc := 17) 1 rfl rfl dX3_drops_17 ?_
      refine g_aload_n hC (pc := 18) 0 rfl rfl dX3_drops_18 ?_
      refine g_getQ hC (pc := 19) in_X3 (ci := 0) rfl 0 (by decide) q2477 (Or.inl rfl) h dX3_drops_19 (fun q2 h => ?_)
      refine g_iload_n hC (pc := 22) 1 rfl rfl dX3_drops_22 ?_
      refine g_iconst hC (pc := 23) (v := (5 : Int32)) (by decide) dX3_drops_23 ?_
      refine g_iadd hC (pc := 24) dX3_drops_24 ?_
      rcases q2 with _ | c3
      · exact (gNN0 h).elim
      replace h := gNN1 h
      refine g_aldI hC (pc := 25) h dX3_drops_25 (fun i4 h => ?_)
      rcases q1 with _ | c5
      · exact (gNN0 h).elim
      replace h := gNN1 h
      refine g_astI hC (pc := 26) h dX3_drops_26 (fun G6 h => ?_)
      refine g_iinc hC (pc := 27) 1 (d := (1 : Int32)) (v := (x2 + (1 : Int32))) (lv' := [(2, vI (x2 + (1 : Int32))), (0, vQ (some t0))]) rfl (by decide) rfl (by decide) rfl dX3_drops_27 ?_
      refine g_goto hC (pc := 30) 7 (by decide) dX3_drops_30 ?_
      exact g_sub [1, 0] rfl (hJ7 _ _ _ h)
def wp_X3_drops (ad : Nat → Nat) (G : gS) (t0 : Nat) (x1 : Int32) (X : Nat → gS → Prop) (K : gS → Prop) : Prop :=
  gLoop (fun _ _ _ => False) (wp_X3_drops_7 ad X K) gFuel G t0 ((51 : Int32) + ((5 : Int32) * x1))
theorem w_X3_drops {C : gCx} (hC : gOk C "GoblinHouseholdModel" cX3_drops [] none "drops" 3 0 0) {K : gS → Prop} {X : Nat → gS → Prop} (hK : ∀ G, K G → cxK C none G) (hX : ∀ q G, X q G → cxX C q G) {G : gS} {t0 : Nat} {x1 : Int32} (h : wp_X3_drops (cxA C) G t0 x1 X K) : gGo C G 0 [(0, vQ (some t0)), (1, vI x1)] [] := by
  unfold wp_X3_drops at h
  refine g_bipush hC (pc := 0) (v := (51 : Int32)) (by decide) dX3_drops_0 ?_
  refine g_iconst hC (pc := 2) (v := (5 : Int32)) (by decide) dX3_drops_2 ?_
  refine g_iload_n hC (pc := 3) 1 rfl rfl dX3_drops_3 ?_
  refine g_imul hC (pc := 4) dX3_drops_4 ?_
  refine g_iadd hC (pc := 5) dX3_drops_5 ?_
  refine g_istore_n hC (pc := 6) (lv' := [(2, vI ((51 : Int32) + ((5 : Int32) * x1))), (0, vQ (some t0)), (1, vI x1)]) rfl (by decide) rfl dX3_drops_6 ?_
  exact g_sub [1, 0] rfl (w_X3_drops_7 hC hK hX gFuel _ _ _ h)
theorem gc_X3_drops : gCode yX3_drops cX3_drops 3 none 1 := ⟨q2679, q105, ⟨by decide, by decide⟩, rfl⟩
theorem m_X3_drops {l : Launch} (hfl : l.stackTraces = false) {E : gE} {G : gS} {t0 : Nat} {x1 : Int32} {X : Nat → gS → Prop} {K : gS → Prop} (h : wp_X3_drops (gAd E) G t0 x1 X K) : gMet l yX3_drops (ws_ yX3_drops cX3_drops 3 none) 0 0 [vQ (some t0), vI x1] E G (gRv K) X :=
  g_met hfl (plainFor_of_name (by decide +kernel)) rfl rfl rfl (gle rfl) (fun p e R s m args below meth c hC => w_X3_drops hC (fun _ h => h) (fun _ _ h => h) h)
def wp_X3_cancels_17 (ad : Nat → Nat) (X : Nat → gS → Prop) (K : Int32 → gS → Prop) (G : gS) (t0 : Nat) (x2 : Int32) (xs0 : Int32) (ts1 : Nat) : Prop :=
  (gIs G ts1 0 ∧ wp_X3_goes ad G ts1 xs0 X (fun r2 G1 => (¬ r2 = (0 : Int32) → (gIs G1 t0 0 ∧ wp_X3_ofContract ad G1 t0 x2 (3 : Int32) X (fun r4 G3 => wGetQ G3 t0 0 0 fun q5 => wNN q5 fun c6 => wAldI G3 c6 (1 : Int32) fun i7 => wGetQ G3 t0 0 0 fun q8 => wNN q8 fun c9 => wAldI G3 c9 (1 : Int32) fun i10 => wAstI G3 c9 (1 : Int32) (i10 - (if i7 < (r4 / (10 : Int32)) then i7 else (r4 / (10 : Int32)))) fun G11 => wGetQ G11 t0 0 0 fun q12 => (gIs G11 t0 0 ∧ wp_X3_ofContract ad G11 t0 x2 (1 : Int32) X (fun r14 G13 => (gIs G13 t0 0 ∧ wp_X3_place ad G13 t0 r14 (1 : Int32) X (fun r16 G15 => wNN q12 fun c17 => wAldI G15 c17 r16 fun i18 => wAstI G15 c17 r16 (i18 + (if i7 < (r4 / (10 : Int32)) then i7 else (r4 / (10 : Int32)))) fun G19 => (gIs G19 t0 0 ∧ wp_X3_drops ad G19 t0 x2 X (fun G20 => K (if i7 < (r4 / (10 : Int32)) then i7 else (r4 / (10 : Int32))) G20))))))))) ∧ (r2 = (0 : Int32) → K (0 : Int32) G1)))
theorem w_X3_cancels_17 {C : gCx} (hC : gOk C "GoblinHouseholdModel" cX3_cancels [] (some .int) "cancels" 4 3 89) {K : Int32 → gS → Prop} {X : Nat → gS → Prop} (hK : ∀ r G, K r G → cxK C (some (vI r)) G) (hX : ∀ q G, X q G → cxX C q G) {G : gS} {t0 : Nat} {x2 : Int32} {xs0 : Int32} {ts1 : Nat} (h : wp_X3_cancels_17 (cxA C) X K G t0 x2 xs0 ts1) : gGo C G 17 [(0, vQ (some t0)), (2, vI x2)] [vI xs0, vQ (some ts1)] := by
  unfold wp_X3_cancels_17 at h
  obtain ⟨hi, h⟩ := h
  refine g_callV hC (pc := 17) (ci := 0) (As := [vI xs0]) gc_X3_goes (m_X3_goes hC.fl h) rfl hi q2546 q2548 qs43 (gle rfl) (gle rfl) rfl (gle rfl) rfl dX3_cancels_17 (gk_i fun r2 G1 h => ?_) (fun _ _ h hio => g_out0 hC (hX _ _ h) hio)
  refine g_if_ne hC (pc := 20) 25 h (by decide) dX3_cancels_20 (fun h => ?_) (fun h => ?_)
  · refine g_aload_n hC (pc := 25) 0 rfl rfl dX3_cancels_25 ?_
    refine g_iload_n hC (pc := 26) 1 rfl rfl dX3_cancels_26 ?_
    refine g_iconst hC (pc := 27) (v := (3 : Int32)) (by decide) dX3_cancels_27 ?_
    obtain ⟨hi, h⟩ := h
    refine g_callV hC (pc := 28) (ci := 0) (As := [vI x2, vI (3 : Int32)]) gc_X3_ofContract (m_X3_ofContract hC.fl h) rfl hi q2659 q2661 qs60 (gle rfl) (gle rfl) rfl (gle rfl) rfl dX3_cancels_28 (gk_i fun r4 G3 h => ?_) (fun _ _ h hio => g_out0 hC (hX _ _ h) hio)
    refine g_bipush hC (pc := 31) (v := (10 : Int32)) (by decide) dX3_cancels_31 ?_
    refine g_idiv hC (pc := 33) (by decide) dX3_cancels_33 ?_
    refine g_aload_n hC (pc := 34) 0 rfl rfl dX3_cancels_34 ?_
    refine g_getQ hC (pc := 35) in_X3 (ci := 0) rfl 0 (by decide) q2477 (Or.inl rfl) h dX3_cancels_35 (fun q5 h => ?_)
    refine g_iconst hC (pc := 38) (v := (1 : Int32)) (by decide) dX3_cancels_38 ?_
    rcases q5 with _ | c6
    · exact (gNN0 h).elim
    replace h := gNN1 h
    refine g_aldI hC (pc := 39) h dX3_cancels_39 (fun i7 h => ?_)
    refine g_min hC (pc := 40) q2675 q489 q114 q490 (gle rfl) (gle rfl) (gle rfl) dX3_cancels_40 ?_
    refine g_istore_n hC (pc := 43) (lv' := [(3, vI (if i7 < (r4 / (10 : Int32)) then i7 else (r4 / (10 : Int32)))), (0, vQ (some t0)), (2, vI x2)]) rfl (by decide) rfl dX3_cancels_43 ?_
    refine g_aload_n hC (pc := 44) 1 rfl rfl dX3_cancels_44 ?_
    refine g_getQ hC (pc := 45) in_X3 (ci := 0) rfl 0 (by decide) q2477 (Or.inl rfl) h dX3_cancels_45 (fun q8 h => ?_)
    refine g_iconst hC (pc := 48) (v := (1 : Int32)) (by decide) dX3_cancels_48 ?_
    refine g_dup2 hC (pc := 49) rfl rfl dX3_cancels_49 ?_
    rcases q8 with _ | c9
    · exact (gNN0 h).elim
    replace h := gNN1 h
    refine g_aldI hC (pc := 50) h dX3_cancels_50 (fun i10 h => ?_)
    refine g_iload_n hC (pc := 51) 0 rfl rfl dX3_cancels_51 ?_
    refine g_isub hC (pc := 52) dX3_cancels_52 ?_
    refine g_astI hC (pc := 53) h dX3_cancels_53 (fun G11 h => ?_)
    refine g_aload_n hC (pc := 54) 1 rfl rfl dX3_cancels_54 ?_
    refine g_getQ hC (pc := 55) in_X3 (ci := 0) rfl 0 (by decide) q2477 (Or.inl rfl) h dX3_cancels_55 (fun q12 h => ?_)
    refine g_aload_n hC (pc := 58) 1 rfl rfl dX3_cancels_58 ?_
    refine g_aload_n hC (pc := 59) 1 rfl rfl dX3_cancels_59 ?_
    refine g_iload_n hC (pc := 60) 2 rfl rfl dX3_cancels_60 ?_
    refine g_iconst hC (pc := 61) (v := (1 : Int32)) (by decide) dX3_cancels_61 ?_
    obtain ⟨hi, h⟩ := h
    refine g_callV hC (pc := 62) (ci := 0) (As := [vI x2, vI (1 : Int32)]) gc_X3_ofContract (m_X3_ofContract hC.fl h) rfl hi q2659 q2661 qs60 (gle rfl) (gle rfl) rfl (gle rfl) rfl dX3_cancels_62 (gk_i fun r14 G13 h => ?_) (fun _ _ h hio => g_out0 hC (hX _ _ h) hio)
    refine g_iconst hC (pc := 65) (v := (1 : Int32)) (by decide) dX3_cancels_65 ?_
    obtain ⟨hi, h⟩ := h
    refine g_callV hC (pc := 66) (ci := 0) (As := [vI r14, vI (1 : Int32)]) gc_X3_place (m_X3_place hC.fl h) rfl hi q2636 q2638 qs57 (gle rfl) (gle rfl) rfl (gle rfl) rfl dX3_cancels_66 (gk_i fun r16 G15 h => ?_) (fun _ _ h hio => g_out0 hC (hX _ _ h) hio)
    refine g_dup2 hC (pc := 69) rfl rfl dX3_cancels_69 ?_
    rcases q12 with _ | c17
    · exact (gNN0 h).elim
    replace h := gNN1 h
    refine g_aldI hC (pc := 70) h dX3_cancels_70 (fun i18 h => ?_)
    refine g_iload_n hC (pc := 71) 0 rfl rfl dX3_cancels_71 ?_
    refine g_iadd hC (pc := 72) dX3_cancels_72 ?_
    refine g_astI hC (pc := 73) h dX3_cancels_73 (fun G19 h => ?_)
    refine g_aload_n hC (pc := 74) 1 rfl rfl dX3_cancels_74 ?_
    refine g_iload_n hC (pc := 75) 2 rfl rfl dX3_cancels_75 ?_
    obtain ⟨hi, h⟩ := h
    refine g_callV hC (pc := 76) (ci := 0) (As := [vI x2]) gc_X3_drops (m_X3_drops hC.fl h) rfl hi q2676 q2678 qs63 (gle rfl) (gle rfl) rfl (gle rfl) rfl dX3_cancels_76 (gk_v fun G20 h => ?_) (fun _ _ h hio => g_out0 hC (hX _ _ h) hio)
    refine g_iload_n hC (pc := 79) 0 rfl rfl dX3_cancels_79 ?_
    exact g_iret hC (pc := 80) (hK _ _ h) dX3_cancels_80
  · refine g_iconst hC (pc := 23) (v := (0 : Int32)) (by decide) dX3_cancels_23 ?_
    exact g_iret hC (pc := 24) (hK _ _ h) dX3_cancels_24
def wp_X3_cancels (ad : Nat → Nat) (G : gS) (t0 : Nat) (x1 : Int32) (X : Nat → gS → Prop) (K : Int32 → gS → Prop) : Prop :=
  (gIs G t0 0 ∧ wp_X3_find ad G t0 x1 X (fun r2 G1 => (r2 = (-1 : Int32) → wp_X3_cancels_17 ad X K G1 t0 r2 (0 : Int32) t0) ∧ (¬ r2 = (-1 : Int32) → wp_X3_cancels_17 ad X K G1 t0 r2 (1 : Int32) t0)))
theorem w_X3_cancels {C : gCx} (hC : gOk C "GoblinHouseholdModel" cX3_cancels [] (some .int) "cancels" 4 3 89) {K : Int32 → gS → Prop} {X : Nat → gS → Prop} (hK : ∀ r G, K r G → cxK C (some (vI r)) G) (hX : ∀ q G, X q G → cxX C q G) {G : gS} {t0 : Nat} {x1 : Int32} (h : wp_X3_cancels (cxA C) G t0 x1 X K) : gGo C G 0 [(0, vQ (some t0)), (1, vI x1)] [] := by
  unfold wp_X3_cancels at h
  refine g_aload_n hC (pc := 0) 0 rfl rfl dX3_cancels_0 ?_
  refine g_iload_n hC (pc := 1) 1 rfl rfl dX3_cancels_1 ?_
  obtain ⟨hi, h⟩ := h
  refine g_callV hC (pc := 2) (ci := 0) (As := [vI x1]) gc_X3_find (m_X3_find hC.fl h) rfl hi q2671 q2673 qs62 (gle rfl) (gle rfl) rfl (gle rfl) rfl dX3_cancels_2 (gk_i fun r2 G1 h => ?_) (fun _ _ h hio => g_out0 hC (hX _ _ h) hio)
  refine g_istore_n hC (pc := 5) (lv' := [(2, vI r2), (0, vQ (some t0)), (1, vI x1)]) rfl (by decide) rfl dX3_cancels_5 ?_
  refine g_aload_n hC (pc := 6) 1 rfl rfl dX3_cancels_6 ?_
  refine g_iload_n hC (pc := 7) 0 rfl rfl dX3_cancels_7 ?_
  refine g_iconst hC (pc := 8) (v := (-1 : Int32)) (by decide) dX3_cancels_8 ?_
  refine g_icmp_eq hC (pc := 9) 16 h (by decide) dX3_cancels_9 (fun h => ?_) (fun h => ?_)
  · refine g_iconst hC (pc := 16) (v := (0 : Int32)) (by decide) dX3_cancels_16 ?_
    exact g_sub [1, 0] rfl (w_X3_cancels_17 hC hK hX h)
  · refine g_iconst hC (pc := 12) (v := (1 : Int32)) (by decide) dX3_cancels_12 ?_
    refine g_goto hC (pc := 13) 17 (by decide) dX3_cancels_13 ?_
    exact g_sub [1, 0] rfl (w_X3_cancels_17 hC hK hX h)
theorem gc_X3_cancels : gCode yX3_cancels cX3_cancels 4 (some .int) 1 := ⟨q2670, q105, ⟨by decide, by decide⟩, rfl⟩
theorem m_X3_cancels {l : Launch} (hfl : l.stackTraces = false) {E : gE} {G : gS} {t0 : Nat} {x1 : Int32} {X : Nat → gS → Prop} {K : Int32 → gS → Prop} (h : wp_X3_cancels (gAd E) G t0 x1 X K) : gMet l yX3_cancels (ws_ yX3_cancels cX3_cancels 4 (some .int)) 3 89 [vQ (some t0), vI x1] E G (gRi K) X :=
  g_met hfl (plainFor_of_name (by decide +kernel)) rfl rfl rfl (gle rfl) (fun p e R s m args below meth c hC => w_X3_cancels hC (fun _ _ h => h) (fun _ _ h => h) h)
def wp_X3_cancelContract (ad : Nat → Nat) (G : gS) (t0 : Nat) (x1 : Int32) (X : Nat → gS → Prop) (K : Int32 → gS → Prop) : Prop :=
  (gIs G t0 0 ∧ wp_X3_begins ad G t0  X (fun G1 => (gIs G1 t0 0 ∧ wp_X3_cancels ad G1 t0 x1 X (fun r3 G2 => (gIs G2 t0 0 ∧ wp_X3_ends ad G2 t0 r3 X (fun r5 G4 => K r5 G4))))))
theorem w_X3_cancelContract {C : gCx} (hC : gOk C "GoblinHouseholdModel" cX3_cancelContract [] (some .int) "cancelContract" 2 4 120) {K : Int32 → gS → Prop} {X : Nat → gS → Prop} (hK : ∀ r G, K r G → cxK C (some (vI r)) G) (hX : ∀ q G, X q G → cxX C q G) {G : gS} {t0 : Nat} {x1 : Int32} (h : wp_X3_cancelContract (cxA C) G t0 x1 X K) : gGo C G 0 [(0, vQ (some t0)), (1, vI x1)] [] := by
  unfold wp_X3_cancelContract at h
  refine g_aload_n hC (pc := 0) 0 rfl rfl dX3_cancelContract_0 ?_
  obtain ⟨hi, h⟩ := h
  refine g_callV hC (pc := 1) (ci := 0) (As := []) gc_X3_begins (m_X3_begins hC.fl h) rfl hi q2569 q2571 qs45 (gle rfl) (gle rfl) rfl (gle rfl) rfl dX3_cancelContract_1 (gk_v fun G1 h => ?_) (fun _ _ h hio => g_out0 hC (hX _ _ h) hio)
  refine g_aload_n hC (pc := 4) 0 rfl rfl dX3_cancelContract_4 ?_
  refine g_aload_n hC (pc := 5) 0 rfl rfl dX3_cancelContract_5 ?_
  refine g_iload_n hC (pc := 6) 1 rfl rfl dX3_cancelContract_6 ?_
  obtain ⟨hi, h⟩ := h
  refine g_callV hC (pc := 7) (ci := 0) (As := [vI x1]) gc_X3_cancels (m_X3_cancels hC.fl h) rfl hi q2667 q2669 qs61 (gle rfl) (gle rfl) rfl (gle rfl) rfl dX3_cancelContract_7 (gk_i fun r3 G2 h => ?_) (fun _ _ h hio => g_out0 hC (hX _ _ h) hio)
  obtain ⟨hi, h⟩ := h
  refine g_callV hC (pc := 10) (ci := 0) (As := [vI r3]) gc_X3_ends (m_X3_ends hC.fl h) rfl hi q2580 q2582 qs47 (gle rfl) (gle rfl) rfl (gle rfl) rfl dX3_cancelContract_10 (gk_i fun r5 G4 h => ?_) (fun _ _ h hio => g_out0 hC (hX _ _ h) hio)
  exact g_iret hC (pc := 13) (hK _ _ h) dX3_cancelContract_13
theorem gc_X3_cancelContract : gCode yX3_cancelContract cX3_cancelContract 2 (some .int) 1 := ⟨q2666, q105, ⟨by decide, by decide⟩, rfl⟩
theorem m_X3_cancelContract {l : Launch} (hfl : l.stackTraces = false) {E : gE} {G : gS} {t0 : Nat} {x1 : Int32} {X : Nat → gS → Prop} {K : Int32 → gS → Prop} (h : wp_X3_cancelContract (gAd E) G t0 x1 X K) : gMet l yX3_cancelContract (ws_ yX3_cancelContract cX3_cancelContract 2 (some .int)) 4 120 [vQ (some t0), vI x1] E G (gRi K) X :=
  g_met hfl (plainFor_of_name (by decide +kernel)) rfl rfl rfl (gle rfl) (fun p e R s m args below meth c hC => w_X3_cancelContract hC (fun _ _ h => h) (fun _ _ h => h) h)
def wp_X1_rest (ad : Nat → Nat) (G : gS) (t0 : Nat) (x1 : Int32) (X : Nat → gS → Prop) (K : Int32 → gS → Prop) : Prop :=
  wMkL G 7 [x1] fun c2 G1 => (gIs G1 t0 1 ∧ wp_X1_apply ad G1 t0 (some c2) X (fun r4 G3 => K r4 G3))
theorem w_X1_rest {C : gCx} (hC : gOk C "GoblinHousehold" cX1_rest [] (some .int) "rest" 2 18 3088) (hN : gNm C yX1_rest) {K : Int32 → gS → Prop} {X : Nat → gS → Prop} (hK : ∀ r G, K r G → cxK C (some (vI r)) G) (hX : ∀ q G, X q G → cxX C q G) {G : gS} {t0 : Nat} {x1 : Int32} (h : wp_X1_rest (cxA C) G t0 x1 X K) : gGo C G 0 [(0, vQ (some t0)), (1, vI x1)] [] := by
  unfold wp_X1_rest at h
  refine g_aload_n hC (pc := 0) 0 rfl rfl dX1_rest_0 ?_
  refine g_iload_n hC (pc := 1) 1 rfl rfl dX1_rest_1 ?_
  refine g_indyM hC (pc := 2) (q := gSite_7) (xs := [x1]) hN (List.mem_of_getElem? (i := 7) rfl) rfl (by decide) lok_7 q3057 q1556 gc_X1_lambda_rest_6 rfl rfl (gle rfl) (gle rfl) rfl rfl h dX1_rest_2 (fun c2 G1 h => ?_)
  obtain ⟨hi, h⟩ := h
  refine g_callVW hC (pc := 7) (ci := 1) (As := [vQ (some c2)]) gc_X1_apply (m_X1_apply hC.fl h) rfl hi q1049 q1051 qs12 (gle rfl) (gle rfl) rfl (gle rfl) rfl dX1_rest_7 (gk_i fun r4 G3 h => ?_) (fun _ _ h hio => g_out0 hC (hX _ _ h) hio)
  exact g_iret hC (pc := 10) (hK _ _ h) dX1_rest_10
theorem gc_X1_rest : gCode yX1_rest cX1_rest 2 (some .int) 1 := ⟨q1555, q94, ⟨by decide, by decide⟩, rfl⟩
theorem m_X1_rest {l : Launch} (hfl : l.stackTraces = false) {E : gE} {G : gS} {t0 : Nat} {x1 : Int32} {X : Nat → gS → Prop} {K : Int32 → gS → Prop} (h : wp_X1_rest (gAd E) G t0 x1 X K) : gMet l yX1_rest (ws_ yX1_rest cX1_rest 2 (some .int)) 18 3088 [vQ (some t0), vI x1] E G (gRi K) X :=
  g_metN hfl (plainFor_of_name (by decide +kernel)) rfl rfl rfl (gle rfl) (fun p e R s m args below meth c hC hN => w_X1_rest hC hN (fun _ _ h => h) (fun _ _ h => h) h)
def wp_X0_rest_12 (ad : Nat → Nat) (X : Nat → gS → Prop) (K : Int32 → gS → Prop) (G : gS) (ts0 : Nat) : Prop :=
  K (1 : Int32) G
theorem w_X0_rest_12 {C : gCx} (hC : gOk C "GoblinHouseholdLaw" cX0_rest [(0, 9, 12, 23), (0, 9, 15, 15)] (some .int) "rest" 4 19 3117) {K : Int32 → gS → Prop} {X : Nat → gS → Prop} (hK : ∀ r G, K r G → cxK C (some (vI r)) G) (hX : ∀ q G, X q G → cxX C q G) {G : gS} {ts0 : Nat} (h : wp_X0_rest_12 (cxA C) X K G ts0) : gGo C G 12 [] [vQ (some ts0)] := by
  unfold wp_X0_rest_12 at h
  refine g_astore_n hC (pc := 12) (lv' := [(3, vQ (some ts0))]) rfl (by decide) rfl dX0_rest_12 ?_
  refine g_iconst hC (pc := 13) (v := (1 : Int32)) (by decide) dX0_rest_13 ?_
  exact g_iret hC (pc := 14) (hK _ _ h) dX0_rest_14
def wp_X0_rest_15 (ad : Nat → Nat) (X : Nat → gS → Prop) (K : Int32 → gS → Prop) (G : gS) (ts0 : Nat) : Prop :=
  K (2 : Int32) G
theorem w_X0_rest_15 {C : gCx} (hC : gOk C "GoblinHouseholdLaw" cX0_rest [(0, 9, 12, 23), (0, 9, 15, 15)] (some .int) "rest" 4 19 3117) {K : Int32 → gS → Prop} {X : Nat → gS → Prop} (hK : ∀ r G, K r G → cxK C (some (vI r)) G) (hX : ∀ q G, X q G → cxX C q G) {G : gS} {ts0 : Nat} (h : wp_X0_rest_15 (cxA C) X K G ts0) : gGo C G 15 [] [vQ (some ts0)] := by
  unfold wp_X0_rest_15 at h
  refine g_astore_n hC (pc := 15) (lv' := [(3, vQ (some ts0))]) rfl (by decide) rfl dX0_rest_15 ?_
  refine g_iconst hC (pc := 16) (v := (2 : Int32)) (by decide) dX0_rest_16 ?_
  exact g_iret hC (pc := 17) (hK _ _ h) dX0_rest_17
def wp_X0_rest (ad : Nat → Nat) (G : gS) (o0 : Option Nat) (x1 : Int32) (o2 : Option Nat) (X : Nat → gS → Prop) (K : Int32 → gS → Prop) : Prop :=
  wNN o0 fun c1 => (gIs G c1 1 ∧ wp_X1_rest ad G c1 x1 (fun y3 G4 => (gHas G4 y3 20 ∧ (wp_X0_rest_12 ad X K G4 y3)) ∨ (gHas G4 y3 22 ∧ (wp_X0_rest_15 ad X K G4 y3))) (fun r5 G2 => wNN o2 fun c6 => wAstL G2 c6 (0 : Int32) ((r5).toInt64) fun G7 => K (0 : Int32) G7))
theorem w_X0_rest {C : gCx} (hC : gOk C "GoblinHouseholdLaw" cX0_rest [(0, 9, 12, 23), (0, 9, 15, 15)] (some .int) "rest" 4 19 3117) {K : Int32 → gS → Prop} {X : Nat → gS → Prop} (hK : ∀ r G, K r G → cxK C (some (vI r)) G) (hX : ∀ q G, X q G → cxX C q G) {G : gS} {o0 : Option Nat} {x1 : Int32} {o2 : Option Nat} (h : wp_X0_rest (cxA C) G o0 x1 o2 X K) : gGo C G 0 [(0, vQ o0), (1, vI x1), (2, vQ o2)] [] := by
  unfold wp_X0_rest at h
  refine g_aload_n hC (pc := 0) 2 rfl rfl dX0_rest_0 ?_
  refine g_iconst hC (pc := 1) (v := (0 : Int32)) (by decide) dX0_rest_1 ?_
  refine g_aload_n hC (pc := 2) 0 rfl rfl dX0_rest_2 ?_
  refine g_iload_n hC (pc := 3) 1 rfl rfl dX0_rest_3 ?_
  rcases o0 with _ | c1
  · exact (gNN0 h).elim
  replace h := gNN1 h
  obtain ⟨hi, h⟩ := h
  refine g_callV hC (pc := 4) (ci := 1) (As := [vI x1]) gc_X1_rest (m_X1_rest hC.fl h) rfl hi q1552 q1553 q1554 (gle rfl) (gle rfl) rfl (gle rfl) rfl dX0_rest_4 (gk_i fun r5 G2 h => ?_) (fun y3 G4 h hio => ?_)
  · refine g_i2l hC (pc := 7) dX0_rest_7 ?_
    rcases o2 with _ | c6
    · exact (gNN0 h).elim
    replace h := gNN1 h
    refine g_astL hC (pc := 8) h dX0_rest_8 (fun G7 h => ?_)
    refine g_goto hC (pc := 9) 18 (by decide) dX0_rest_9 ?_
    refine g_iconst hC (pc := 18) (v := (0 : Int32)) (by decide) dX0_rest_18 ?_
    exact g_iret hC (pc := 19) (hK _ _ h) dX0_rest_19
  · rcases h with h | h
    · obtain ⟨hq, h⟩ := h
      refine g_catchI hC (pc := 4) (ci := 20) rfl hq 0 rfl (fun _ h => nomatch h) rfl (by decide) q1312 (List.mem_of_getElem? (i := 2) rfl) rfl ?_
      exact g_sub [] rfl (w_X0_rest_12 hC hK hX h)
    · obtain ⟨hq, h⟩ := h
      refine g_catchI hC (pc := 4) (ci := 22) rfl hq 1 rfl (List.forall_mem_cons.mpr ⟨Or.inr ⟨by decide, "java/lang/IndexOutOfBoundsException", q1312, (List.mem_of_getElem? (i := 10) rfl)⟩, fun _ h => nomatch h⟩) rfl (by decide) q872 (List.mem_of_getElem? (i := 9) rfl) rfl ?_
      exact g_sub [] rfl (w_X0_rest_15 hC hK hX h)
theorem gc_X0_rest : gCodeW yX0_rest cX0_rest 4 (some .int) [(0, 9, 12, 23), (0, 9, 15, 15)] 3 := ⟨q1551, q93, ⟨by decide, by decide⟩, rfl⟩
theorem m_X0_rest {l : Launch} (hfl : l.stackTraces = false) {E : gE} {G : gS} {o0 : Option Nat} {x1 : Int32} {o2 : Option Nat} {X : Nat → gS → Prop} {K : Int32 → gS → Prop} (h : wp_X0_rest (gAd E) G o0 x1 o2 X K) : gMet l yX0_rest (wsW_ yX0_rest cX0_rest 4 (some .int) [(0, 9, 12, 23), (0, 9, 15, 15)]) 19 3117 [vQ o0, vI x1, vQ o2] E G (gRi K) X :=
  g_metW hfl (plainFor_of_name (by decide +kernel)) rfl rfl rfl (gle rfl) (fun p e R s m args below meth c hC => w_X0_rest hC (fun _ _ h => h) (fun _ _ h => h) h)
def wp_X3_of (ad : Nat → Nat) (G : gS) (t0 : Nat) (x1 : Int32) (x2 : Int32) (X : Nat → gS → Prop) (K : Int32 → gS → Prop) : Prop :=
  wGetQ G t0 0 0 fun q1 => (gIs G t0 0 ∧ wp_X3_place ad G t0 x1 x2 X (fun r3 G2 => wNN q1 fun c4 => wAldI G2 c4 r3 fun i5 => K i5 G2))
theorem w_X3_of {C : gCx} (hC : gOk C "GoblinHouseholdModel" cX3_of [] (some .int) "of" 3 3 89) {K : Int32 → gS → Prop} {X : Nat → gS → Prop} (hK : ∀ r G, K r G → cxK C (some (vI r)) G) (hX : ∀ q G, X q G → cxX C q G) {G : gS} {t0 : Nat} {x1 : Int32} {x2 : Int32} (h : wp_X3_of (cxA C) G t0 x1 x2 X K) : gGo C G 0 [(0, vQ (some t0)), (1, vI x1), (2, vI x2)] [] := by
  unfold wp_X3_of at h
  refine g_aload_n hC (pc := 0) 0 rfl rfl dX3_of_0 ?_
  refine g_getQ hC (pc := 1) in_X3 (ci := 0) rfl 0 (by decide) q2477 (Or.inl rfl) h dX3_of_1 (fun q1 h => ?_)
  refine g_aload_n hC (pc := 4) 0 rfl rfl dX3_of_4 ?_
  refine g_iload_n hC (pc := 5) 1 rfl rfl dX3_of_5 ?_
  refine g_iload_n hC (pc := 6) 2 rfl rfl dX3_of_6 ?_
  obtain ⟨hi, h⟩ := h
  refine g_callV hC (pc := 7) (ci := 0) (As := [vI x1, vI x2]) gc_X3_place (m_X3_place hC.fl h) rfl hi q2636 q2638 qs57 (gle rfl) (gle rfl) rfl (gle rfl) rfl dX3_of_7 (gk_i fun r3 G2 h => ?_) (fun _ _ h hio => g_out0 hC (hX _ _ h) hio)
  rcases q1 with _ | c4
  · exact (gNN0 h).elim
  replace h := gNN1 h
  refine g_aldI hC (pc := 10) h dX3_of_10 (fun i5 h => ?_)
  exact g_iret hC (pc := 11) (hK _ _ h) dX3_of_11
theorem gc_X3_of : gCode yX3_of cX3_of 3 (some .int) 2 := ⟨q2635, q105, ⟨by decide, by decide⟩, rfl⟩
theorem m_X3_of {l : Launch} (hfl : l.stackTraces = false) {E : gE} {G : gS} {t0 : Nat} {x1 : Int32} {x2 : Int32} {X : Nat → gS → Prop} {K : Int32 → gS → Prop} (h : wp_X3_of (gAd E) G t0 x1 x2 X K) : gMet l yX3_of (ws_ yX3_of cX3_of 3 (some .int)) 3 89 [vQ (some t0), vI x1, vI x2] E G (gRi K) X :=
  g_met hfl (plainFor_of_name (by decide +kernel)) rfl rfl rfl (gle rfl) (fun p e R s m args below meth c hC => w_X3_of hC (fun _ _ h => h) (fun _ _ h => h) h)
def wp_X3_rests_76 (ad : Nat → Nat) (X : Nat → gS → Prop) (K : Int32 → gS → Prop) (G : gS) (t0 : Nat) (x1 : Int32) (x2 : Int32) (x3 : Int32) : Prop :=
  (¬ x2 = (1 : Int32) → (gIs G t0 0 ∧ wp_X3_of ad G t0 x1 (3 : Int32) X (fun r2 G1 => K r2 G1))) ∧ (x2 = (1 : Int32) → K x3 G)
theorem w_X3_rests_76 {C : gCx} (hC : gOk C "GoblinHouseholdModel" cX3_rests [] (some .int) "rests" 5 4 119) {K : Int32 → gS → Prop} {X : Nat → gS → Prop} (hK : ∀ r G, K r G → cxK C (some (vI r)) G) (hX : ∀ q G, X q G → cxX C q G) {G : gS} {t0 : Nat} {x1 : Int32} {x2 : Int32} {x3 : Int32} (h : wp_X3_rests_76 (cxA C) X K G t0 x1 x2 x3) : gGo C G 76 [(0, vQ (some t0)), (1, vI x1), (2, vI x2), (3, vI x3)] [] := by
  unfold wp_X3_rests_76 at h
  refine g_iload_n hC (pc := 76) 2 rfl rfl dX3_rests_76 ?_
  refine g_iconst hC (pc := 77) (v := (1 : Int32)) (by decide) dX3_rests_77 ?_
  refine g_icmp_ne hC (pc := 78) 85 h (by decide) dX3_rests_78 (fun h => ?_) (fun h => ?_)
  · refine g_aload_n hC (pc := 85) 0 rfl rfl dX3_rests_85 ?_
    refine g_iload_n hC (pc := 86) 1 rfl rfl dX3_rests_86 ?_
    refine g_iconst hC (pc := 87) (v := (3 : Int32)) (by decide) dX3_rests_87 ?_
    obtain ⟨hi, h⟩ := h
    refine g_callV hC (pc := 88) (ci := 0) (As := [vI x1, vI (3 : Int32)]) gc_X3_of (m_X3_of hC.fl h) rfl hi q2632 q2634 qs56 (gle rfl) (gle rfl) rfl (gle rfl) rfl dX3_rests_88 (gk_i fun r2 G1 h => ?_) (fun _ _ h hio => g_out0 hC (hX _ _ h) hio)
    exact g_iret hC (pc := 91) (hK _ _ h) dX3_rests_91
  · refine g_iload_n hC (pc := 81) 3 rfl rfl dX3_rests_81 ?_
    refine g_goto hC (pc := 82) 91 (by decide) dX3_rests_82 ?_
    exact g_iret hC (pc := 91) (hK _ _ h) dX3_rests_91
def wp_X3_rests_48 (ad : Nat → Nat) (X : Nat → gS → Prop) (K : Int32 → gS → Prop) (J48 : gS → Nat → Int32 → Int32 → Int32 → Int32 → Prop) (G : gS) (t0 : Nat) (x1 : Int32) (x2 : Int32) (x3 : Int32) (x4 : Int32) : Prop :=
  wGetQ G t0 0 0 fun q1 => wNN q1 fun c2 => wAldI G c2 (9 : Int32) fun i3 => (i3 ≤ x4 → wp_X3_rests_76 ad X K G t0 x1 x2 x3) ∧ (¬ i3 ≤ x4 → (gIs G t0 0 ∧ wp_X3_of ad G t0 x4 (4 : Int32) X (fun r5 G4 => J48 G4 t0 x1 x2 (x3 + r5) (x4 + (1 : Int32)))))
theorem w_X3_rests_48 {C : gCx} (hC : gOk C "GoblinHouseholdModel" cX3_rests [] (some .int) "rests" 5 4 119) {K : Int32 → gS → Prop} {X : Nat → gS → Prop} (hK : ∀ r G, K r G → cxK C (some (vI r)) G) (hX : ∀ q G, X q G → cxX C q G) (n : Nat) : ∀ (G : gS) (t0 : Nat) (x1 : Int32) (x2 : Int32) (x3 : Int32) (x4 : Int32), gLoop (fun _ _ _ _ _ _ => False) (wp_X3_rests_48 (cxA C) X K) n G t0 x1 x2 x3 x4 → gGo C G 48 [(0, vQ (some t0)), (1, vI x1), (2, vI x2), (3, vI x3), (4, vI x4)] [] := by
  induction n with
  | zero => intro G t0 x1 x2 x3 x4 h; exact h.elim
  | succ n ih =>
    intro G t0 x1 x2 x3 x4 h
    have hJ48 := ih
    replace h : wp_X3_rests_48 (cxA C) X K _ G t0 x1 x2 x3 x4 := h
    unfold wp_X3_rests_48 at h
    refine g_iload hC (pc := 48) 4 rfl dX3_rests_48 ?_
    refine g_aload_n hC (pc := 50) 0 rfl rfl dX3_rests_50 ?_
    refine g_getQ hC (pc := 51) in_X3 (ci := 0) rfl 0 (by decide) q2477 (Or.inl rfl) h dX3_rests_51 (fun q1 h => ?_)
    refine g_bipush hC (pc := 54) (v := (9 : Int32)) (by decide) dX3_rests_54 ?_
    rcases q1 with _ | c2
    · exact (gNN0 h).elim
    replace h := gNN1 h
    refine g_aldI hC (pc := 56) h dX3_rests_56 (fun i3 h => ?_)
    refine g_icmp_ge hC (pc := 57) 76 h (by decide) dX3_rests_57 (fun h => ?_) (fun h => ?_)
    · exact g_sub [0, 1, 2, 3] rfl (w_X3_rests_76 hC hK hX h)
    · refine g_iload_n hC (pc := 60) 3 rfl rfl dX3_rests_60 ?_
      refine g_aload_n hC (pc := 61) 0 rfl rfl dX3_rests_61 ?_
      refine g_iload hC (pc := 62) 4 rfl dX3_rests_62 ?_
      refine g_iconst hC (pc := 64) (v := (4 : Int32)) (by decide) dX3_rests_64 ?_
      obtain ⟨hi, h⟩ := h
      refine g_callV hC (pc := 65) (ci := 0) (As := [vI x4, vI (4 : Int32)]) gc_X3_of (m_X3_of hC.fl h) rfl hi q2632 q2634 qs56 (gle rfl) (gle rfl) rfl (gle rfl) rfl dX3_rests_65 (gk_i fun r5 G4 h => ?_) (fun _ _ h hio => g_out0 hC (hX _ _ h) hio)
      refine g_iadd hC (pc := 68) dX3_rests_68 ?_
      refine g_istore_n hC (pc := 69) (lv' := [(3, vI (x3 + r5)), (0, vQ (some t0)), (1, vI x1), (2, vI x2), (4, vI x4)]) rfl (by decide) rfl dX3_rests_69 ?_
      refine g_iinc hC (pc := 70) 4 (d := (1 : Int32)) (v := (x4 + (1 : Int32))) (lv' := [(4, vI (x4 + (1 : Int32))), (3, vI (x3 + r5)), (0, vQ (some t0)), (1, vI x1), (2, vI x2)]) rfl (by decide) rfl (by decide) rfl dX3_rests_70 ?_
      refine g_goto hC (pc := 73) 48 (by decide) dX3_rests_73 ?_
      exact g_sub [2, 3, 4, 1, 0] rfl (hJ48 _ _ _ _ _ _ h)
def wp_X3_rests_21 (ad : Nat → Nat) (X : Nat → gS → Prop) (K : Int32 → gS → Prop) (G : gS) (t0 : Nat) (x1 : Int32) (x2 : Int32) (xs0 : Int32) (xs1 : Int32) (ts2 : Nat) : Prop :=
  (gIs G ts2 0 ∧ wp_X3_holds ad G ts2 xs1 xs0 (1 : Int32) (1 : Int32) X (fun r2 G1 => (¬ r2 = (0 : Int32) → wGetQ G1 t0 0 0 fun q3 => (gIs G1 t0 0 ∧ wp_X3_place ad G1 t0 x1 (4 : Int32) X (fun r5 G4 => wNN q3 fun c6 => wAstI G4 c6 r5 x2 fun G7 => gLoop (fun _ _ _ _ _ _ => False) (wp_X3_rests_48 ad X K) gFuel G7 t0 x1 x2 (0 : Int32) (0 : Int32)))) ∧ (r2 = (0 : Int32) → K (0 : Int32) G1)))
theorem w_X3_rests_21 {C : gCx} (hC : gOk C "GoblinHouseholdModel" cX3_rests [] (some .int) "rests" 5 4 119) {K : Int32 → gS → Prop} {X : Nat → gS → Prop} (hK : ∀ r G, K r G → cxK C (some (vI r)) G) (hX : ∀ q G, X q G → cxX C q G) {G : gS} {t0 : Nat} {x1 : Int32} {x2 : Int32} {xs0 : Int32} {xs1 : Int32} {ts2 : Nat} (h : wp_X3_rests_21 (cxA C) X K G t0 x1 x2 xs0 xs1 ts2) : gGo C G 21 [(0, vQ (some t0)), (1, vI x1), (2, vI x2)] [vI xs0, vI xs1, vQ (some ts2)] := by
  unfold wp_X3_rests_21 at h
  refine g_iconst hC (pc := 21) (v := (1 : Int32)) (by decide) dX3_rests_21 ?_
  refine g_iconst hC (pc := 22) (v := (1 : Int32)) (by decide) dX3_rests_22 ?_
  obtain ⟨hi, h⟩ := h
  refine g_callV hC (pc := 23) (ci := 0) (As := [vI xs1, vI xs0, vI (1 : Int32), vI (1 : Int32)]) gc_X3_holds (m_X3_holds hC.fl h) rfl hi q2550 q2552 qs44 (gle rfl) (gle rfl) rfl (gle rfl) rfl dX3_rests_23 (gk_i fun r2 G1 h => ?_) (fun _ _ h hio => g_out0 hC (hX _ _ h) hio)
  refine g_if_ne hC (pc := 26) 31 h (by decide) dX3_rests_26 (fun h => ?_) (fun h => ?_)
  · refine g_aload_n hC (pc := 31) 0 rfl rfl dX3_rests_31 ?_
    refine g_getQ hC (pc := 32) in_X3 (ci := 0) rfl 0 (by decide) q2477 (Or.inl rfl) h dX3_rests_32 (fun q3 h => ?_)
    refine g_aload_n hC (pc := 35) 0 rfl rfl dX3_rests_35 ?_
    refine g_iload_n hC (pc := 36) 1 rfl rfl dX3_rests_36 ?_
    refine g_iconst hC (pc := 37) (v := (4 : Int32)) (by decide) dX3_rests_37 ?_
    obtain ⟨hi, h⟩ := h
    refine g_callV hC (pc := 38) (ci := 0) (As := [vI x1, vI (4 : Int32)]) gc_X3_place (m_X3_place hC.fl h) rfl hi q2636 q2638 qs57 (gle rfl) (gle rfl) rfl (gle rfl) rfl dX3_rests_38 (gk_i fun r5 G4 h => ?_) (fun _ _ h hio => g_out0 hC (hX _ _ h) hio)
    refine g_iload_n hC (pc := 41) 2 rfl rfl dX3_rests_41 ?_
    rcases q3 with _ | c6
    · exact (gNN0 h).elim
    replace h := gNN1 h
    refine g_astI hC (pc := 42) h dX3_rests_42 (fun G7 h => ?_)
    refine g_iconst hC (pc := 43) (v := (0 : Int32)) (by decide) dX3_rests_43 ?_
    refine g_istore_n hC (pc := 44) (lv' := [(3, vI (0 : Int32)), (0, vQ (some t0)), (1, vI x1), (2, vI x2)]) rfl (by decide) rfl dX3_rests_44 ?_
    refine g_iconst hC (pc := 45) (v := (0 : Int32)) (by decide) dX3_rests_45 ?_
    refine g_istore hC (pc := 46) (lv' := [(4, vI (0 : Int32)), (3, vI (0 : Int32)), (0, vQ (some t0)), (1, vI x1), (2, vI x2)]) (by decide) rfl dX3_rests_46 ?_
    exact g_sub [2, 3, 4, 1, 0] rfl (w_X3_rests_48 hC hK hX gFuel _ _ _ _ _ _ h)
  · refine g_iconst hC (pc := 29) (v := (0 : Int32)) (by decide) dX3_rests_29 ?_
    exact g_iret hC (pc := 30) (hK _ _ h) dX3_rests_30
def wp_X3_rests (ad : Nat → Nat) (G : gS) (t0 : Nat) (x1 : Int32) (x2 : Int32) (X : Nat → gS → Prop) (K : Int32 → gS → Prop) : Prop :=
  (gIs G t0 0 ∧ wp_X3_isGoblin ad G t0 x1 X (fun r2 G1 => (gIs G1 t0 0 ∧ wp_X3_of ad G1 t0 x1 (4 : Int32) X (fun r4 G3 => (r4 = x2 → wp_X3_rests_21 ad X K G3 t0 x1 x2 (0 : Int32) r2 t0) ∧ (¬ r4 = x2 → wp_X3_rests_21 ad X K G3 t0 x1 x2 (1 : Int32) r2 t0)))))
theorem w_X3_rests {C : gCx} (hC : gOk C "GoblinHouseholdModel" cX3_rests [] (some .int) "rests" 5 4 119) {K : Int32 → gS → Prop} {X : Nat → gS → Prop} (hK : ∀ r G, K r G → cxK C (some (vI r)) G) (hX : ∀ q G, X q G → cxX C q G) {G : gS} {t0 : Nat} {x1 : Int32} {x2 : Int32} (h : wp_X3_rests (cxA C) G t0 x1 x2 X K) : gGo C G 0 [(0, vQ (some t0)), (1, vI x1), (2, vI x2)] [] := by
  unfold wp_X3_rests at h
  refine g_aload_n hC (pc := 0) 0 rfl rfl dX3_rests_0 ?_
  refine g_aload_n hC (pc := 1) 0 rfl rfl dX3_rests_1 ?_
  refine g_iload_n hC (pc := 2) 1 rfl rfl dX3_rests_2 ?_
  obtain ⟨hi, h⟩ := h
  refine g_callV hC (pc := 3) (ci := 0) (As := [vI x1]) gc_X3_isGoblin (m_X3_isGoblin hC.fl h) rfl hi q2628 q2630 qs55 (gle rfl) (gle rfl) rfl (gle rfl) rfl dX3_rests_3 (gk_i fun r2 G1 h => ?_) (fun _ _ h hio => g_out0 hC (hX _ _ h) hio)
  refine g_aload_n hC (pc := 6) 0 rfl rfl dX3_rests_6 ?_
  refine g_iload_n hC (pc := 7) 1 rfl rfl dX3_rests_7 ?_
  refine g_iconst hC (pc := 8) (v := (4 : Int32)) (by decide) dX3_rests_8 ?_
  obtain ⟨hi, h⟩ := h
  refine g_callV hC (pc := 9) (ci := 0) (As := [vI x1, vI (4 : Int32)]) gc_X3_of (m_X3_of hC.fl h) rfl hi q2632 q2634 qs56 (gle rfl) (gle rfl) rfl (gle rfl) rfl dX3_rests_9 (gk_i fun r4 G3 h => ?_) (fun _ _ h hio => g_out0 hC (hX _ _ h) hio)
  refine g_iload_n hC (pc := 12) 2 rfl rfl dX3_rests_12 ?_
  refine g_icmp_eq hC (pc := 13) 20 h (by decide) dX3_rests_13 (fun h => ?_) (fun h => ?_)
  · refine g_iconst hC (pc := 20) (v := (0 : Int32)) (by decide) dX3_rests_20 ?_
    exact g_sub [0, 1, 2] rfl (w_X3_rests_21 hC hK hX h)
  · refine g_iconst hC (pc := 16) (v := (1 : Int32)) (by decide) dX3_rests_16 ?_
    refine g_goto hC (pc := 17) 21 (by decide) dX3_rests_17 ?_
    exact g_sub [0, 1, 2] rfl (w_X3_rests_21 hC hK hX h)
theorem gc_X3_rests : gCode yX3_rests cX3_rests 5 (some .int) 2 := ⟨q2627, q105, ⟨by decide, by decide⟩, rfl⟩
theorem m_X3_rests {l : Launch} (hfl : l.stackTraces = false) {E : gE} {G : gS} {t0 : Nat} {x1 : Int32} {x2 : Int32} {X : Nat → gS → Prop} {K : Int32 → gS → Prop} (h : wp_X3_rests (gAd E) G t0 x1 x2 X K) : gMet l yX3_rests (ws_ yX3_rests cX3_rests 5 (some .int)) 4 119 [vQ (some t0), vI x1, vI x2] E G (gRi K) X :=
  g_met hfl (plainFor_of_name (by decide +kernel)) rfl rfl rfl (gle rfl) (fun p e R s m args below meth c hC => w_X3_rests hC (fun _ _ h => h) (fun _ _ h => h) h)
def wp_X3_rest (ad : Nat → Nat) (G : gS) (t0 : Nat) (x1 : Int32) (X : Nat → gS → Prop) (K : Int32 → gS → Prop) : Prop :=
  (gIs G t0 0 ∧ wp_X3_begins ad G t0  X (fun G1 => (gIs G1 t0 0 ∧ wp_X3_rests ad G1 t0 x1 (1 : Int32) X (fun r3 G2 => (gIs G2 t0 0 ∧ wp_X3_ends ad G2 t0 r3 X (fun r5 G4 => K r5 G4))))))
theorem w_X3_rest {C : gCx} (hC : gOk C "GoblinHouseholdModel" cX3_rest [] (some .int) "rest" 2 5 151) {K : Int32 → gS → Prop} {X : Nat → gS → Prop} (hK : ∀ r G, K r G → cxK C (some (vI r)) G) (hX : ∀ q G, X q G → cxX C q G) {G : gS} {t0 : Nat} {x1 : Int32} (h : wp_X3_rest (cxA C) G t0 x1 X K) : gGo C G 0 [(0, vQ (some t0)), (1, vI x1)] [] := by
  unfold wp_X3_rest at h
  refine g_aload_n hC (pc := 0) 0 rfl rfl dX3_rest_0 ?_
  obtain ⟨hi, h⟩ := h
  refine g_callV hC (pc := 1) (ci := 0) (As := []) gc_X3_begins (m_X3_begins hC.fl h) rfl hi q2569 q2571 qs45 (gle rfl) (gle rfl) rfl (gle rfl) rfl dX3_rest_1 (gk_v fun G1 h => ?_) (fun _ _ h hio => g_out0 hC (hX _ _ h) hio)
  refine g_aload_n hC (pc := 4) 0 rfl rfl dX3_rest_4 ?_
  refine g_aload_n hC (pc := 5) 0 rfl rfl dX3_rest_5 ?_
  refine g_iload_n hC (pc := 6) 1 rfl rfl dX3_rest_6 ?_
  refine g_iconst hC (pc := 7) (v := (1 : Int32)) (by decide) dX3_rest_7 ?_
  obtain ⟨hi, h⟩ := h
  refine g_callV hC (pc := 8) (ci := 0) (As := [vI x1, vI (1 : Int32)]) gc_X3_rests (m_X3_rests hC.fl h) rfl hi q2624 q2626 qs54 (gle rfl) (gle rfl) rfl (gle rfl) rfl dX3_rest_8 (gk_i fun r3 G2 h => ?_) (fun _ _ h hio => g_out0 hC (hX _ _ h) hio)
  obtain ⟨hi, h⟩ := h
  refine g_callV hC (pc := 11) (ci := 0) (As := [vI r3]) gc_X3_ends (m_X3_ends hC.fl h) rfl hi q2580 q2582 qs47 (gle rfl) (gle rfl) rfl (gle rfl) rfl dX3_rest_11 (gk_i fun r5 G4 h => ?_) (fun _ _ h hio => g_out0 hC (hX _ _ h) hio)
  exact g_iret hC (pc := 14) (hK _ _ h) dX3_rest_14
theorem gc_X3_rest : gCode yX3_rest cX3_rest 2 (some .int) 1 := ⟨q2623, q105, ⟨by decide, by decide⟩, rfl⟩
theorem m_X3_rest {l : Launch} (hfl : l.stackTraces = false) {E : gE} {G : gS} {t0 : Nat} {x1 : Int32} {X : Nat → gS → Prop} {K : Int32 → gS → Prop} (h : wp_X3_rest (gAd E) G t0 x1 X K) : gMet l yX3_rest (ws_ yX3_rest cX3_rest 2 (some .int)) 5 151 [vQ (some t0), vI x1] E G (gRi K) X :=
  g_met hfl (plainFor_of_name (by decide +kernel)) rfl rfl rfl (gle rfl) (fun p e R s m args below meth c hC => w_X3_rest hC (fun _ _ h => h) (fun _ _ h => h) h)
def wp_X1_wake (ad : Nat → Nat) (G : gS) (t0 : Nat) (x1 : Int32) (X : Nat → gS → Prop) (K : Int32 → gS → Prop) : Prop :=
  wMkL G 8 [x1] fun c2 G1 => (gIs G1 t0 1 ∧ wp_X1_apply ad G1 t0 (some c2) X (fun r4 G3 => K r4 G3))
theorem w_X1_wake {C : gCx} (hC : gOk C "GoblinHousehold" cX1_wake [] (some .int) "wake" 2 18 3088) (hN : gNm C yX1_wake) {K : Int32 → gS → Prop} {X : Nat → gS → Prop} (hK : ∀ r G, K r G → cxK C (some (vI r)) G) (hX : ∀ q G, X q G → cxX C q G) {G : gS} {t0 : Nat} {x1 : Int32} (h : wp_X1_wake (cxA C) G t0 x1 X K) : gGo C G 0 [(0, vQ (some t0)), (1, vI x1)] [] := by
  unfold wp_X1_wake at h
  refine g_aload_n hC (pc := 0) 0 rfl rfl dX1_wake_0 ?_
  refine g_iload_n hC (pc := 1) 1 rfl rfl dX1_wake_1 ?_
  refine g_indyM hC (pc := 2) (q := gSite_8) (xs := [x1]) hN (List.mem_of_getElem? (i := 8) rfl) rfl (by decide) lok_8 q3057 q1573 gc_X1_lambda_wake_7 rfl rfl (gle rfl) (gle rfl) rfl rfl h dX1_wake_2 (fun c2 G1 h => ?_)
  obtain ⟨hi, h⟩ := h
  refine g_callVW hC (pc := 7) (ci := 1) (As := [vQ (some c2)]) gc_X1_apply (m_X1_apply hC.fl h) rfl hi q1049 q1051 qs12 (gle rfl) (gle rfl) rfl (gle rfl) rfl dX1_wake_7 (gk_i fun r4 G3 h => ?_) (fun _ _ h hio => g_out0 hC (hX _ _ h) hio)
  exact g_iret hC (pc := 10) (hK _ _ h) dX1_wake_10
theorem gc_X1_wake : gCode yX1_wake cX1_wake 2 (some .int) 1 := ⟨q1572, q94, ⟨by decide, by decide⟩, rfl⟩
theorem m_X1_wake {l : Launch} (hfl : l.stackTraces = false) {E : gE} {G : gS} {t0 : Nat} {x1 : Int32} {X : Nat → gS → Prop} {K : Int32 → gS → Prop} (h : wp_X1_wake (gAd E) G t0 x1 X K) : gMet l yX1_wake (ws_ yX1_wake cX1_wake 2 (some .int)) 18 3088 [vQ (some t0), vI x1] E G (gRi K) X :=
  g_metN hfl (plainFor_of_name (by decide +kernel)) rfl rfl rfl (gle rfl) (fun p e R s m args below meth c hC hN => w_X1_wake hC hN (fun _ _ h => h) (fun _ _ h => h) h)
def wp_X0_wake_12 (ad : Nat → Nat) (X : Nat → gS → Prop) (K : Int32 → gS → Prop) (G : gS) (ts0 : Nat) : Prop :=
  K (1 : Int32) G
theorem w_X0_wake_12 {C : gCx} (hC : gOk C "GoblinHouseholdLaw" cX0_wake [(0, 9, 12, 23), (0, 9, 15, 15)] (some .int) "wake" 4 19 3117) {K : Int32 → gS → Prop} {X : Nat → gS → Prop} (hK : ∀ r G, K r G → cxK C (some (vI r)) G) (hX : ∀ q G, X q G → cxX C q G) {G : gS} {ts0 : Nat} (h : wp_X0_wake_12 (cxA C) X K G ts0) : gGo C G 12 [] [vQ (some ts0)] := by
  unfold wp_X0_wake_12 at h
  refine g_astore_n hC (pc := 12) (lv' := [(3, vQ (some ts0))]) rfl (by decide) rfl dX0_wake_12 ?_
  refine g_iconst hC (pc := 13) (v := (1 : Int32)) (by decide) dX0_wake_13 ?_
  exact g_iret hC (pc := 14) (hK _ _ h) dX0_wake_14
def wp_X0_wake_15 (ad : Nat → Nat) (X : Nat → gS → Prop) (K : Int32 → gS → Prop) (G : gS) (ts0 : Nat) : Prop :=
  K (2 : Int32) G
theorem w_X0_wake_15 {C : gCx} (hC : gOk C "GoblinHouseholdLaw" cX0_wake [(0, 9, 12, 23), (0, 9, 15, 15)] (some .int) "wake" 4 19 3117) {K : Int32 → gS → Prop} {X : Nat → gS → Prop} (hK : ∀ r G, K r G → cxK C (some (vI r)) G) (hX : ∀ q G, X q G → cxX C q G) {G : gS} {ts0 : Nat} (h : wp_X0_wake_15 (cxA C) X K G ts0) : gGo C G 15 [] [vQ (some ts0)] := by
  unfold wp_X0_wake_15 at h
  refine g_astore_n hC (pc := 15) (lv' := [(3, vQ (some ts0))]) rfl (by decide) rfl dX0_wake_15 ?_
  refine g_iconst hC (pc := 16) (v := (2 : Int32)) (by decide) dX0_wake_16 ?_
  exact g_iret hC (pc := 17) (hK _ _ h) dX0_wake_17
def wp_X0_wake (ad : Nat → Nat) (G : gS) (o0 : Option Nat) (x1 : Int32) (o2 : Option Nat) (X : Nat → gS → Prop) (K : Int32 → gS → Prop) : Prop :=
  wNN o0 fun c1 => (gIs G c1 1 ∧ wp_X1_wake ad G c1 x1 (fun y3 G4 => (gHas G4 y3 20 ∧ (wp_X0_wake_12 ad X K G4 y3)) ∨ (gHas G4 y3 22 ∧ (wp_X0_wake_15 ad X K G4 y3))) (fun r5 G2 => wNN o2 fun c6 => wAstL G2 c6 (0 : Int32) ((r5).toInt64) fun G7 => K (0 : Int32) G7))
theorem w_X0_wake {C : gCx} (hC : gOk C "GoblinHouseholdLaw" cX0_wake [(0, 9, 12, 23), (0, 9, 15, 15)] (some .int) "wake" 4 19 3117) {K : Int32 → gS → Prop} {X : Nat → gS → Prop} (hK : ∀ r G, K r G → cxK C (some (vI r)) G) (hX : ∀ q G, X q G → cxX C q G) {G : gS} {o0 : Option Nat} {x1 : Int32} {o2 : Option Nat} (h : wp_X0_wake (cxA C) G o0 x1 o2 X K) : gGo C G 0 [(0, vQ o0), (1, vI x1), (2, vQ o2)] [] := by
  unfold wp_X0_wake at h
  refine g_aload_n hC (pc := 0) 2 rfl rfl dX0_wake_0 ?_
  refine g_iconst hC (pc := 1) (v := (0 : Int32)) (by decide) dX0_wake_1 ?_
  refine g_aload_n hC (pc := 2) 0 rfl rfl dX0_wake_2 ?_
  refine g_iload_n hC (pc := 3) 1 rfl rfl dX0_wake_3 ?_
  rcases o0 with _ | c1
  · exact (gNN0 h).elim
  replace h := gNN1 h
  obtain ⟨hi, h⟩ := h
  refine g_callV hC (pc := 4) (ci := 1) (As := [vI x1]) gc_X1_wake (m_X1_wake hC.fl h) rfl hi q1569 q1570 q1571 (gle rfl) (gle rfl) rfl (gle rfl) rfl dX0_wake_4 (gk_i fun r5 G2 h => ?_) (fun y3 G4 h hio => ?_)
  · refine g_i2l hC (pc := 7) dX0_wake_7 ?_
    rcases o2 with _ | c6
    · exact (gNN0 h).elim
    replace h := gNN1 h
    refine g_astL hC (pc := 8) h dX0_wake_8 (fun G7 h => ?_)
    refine g_goto hC (pc := 9) 18 (by decide) dX0_wake_9 ?_
    refine g_iconst hC (pc := 18) (v := (0 : Int32)) (by decide) dX0_wake_18 ?_
    exact g_iret hC (pc := 19) (hK _ _ h) dX0_wake_19
  · rcases h with h | h
    · obtain ⟨hq, h⟩ := h
      refine g_catchI hC (pc := 4) (ci := 20) rfl hq 0 rfl (fun _ h => nomatch h) rfl (by decide) q1312 (List.mem_of_getElem? (i := 2) rfl) rfl ?_
      exact g_sub [] rfl (w_X0_wake_12 hC hK hX h)
    · obtain ⟨hq, h⟩ := h
      refine g_catchI hC (pc := 4) (ci := 22) rfl hq 1 rfl (List.forall_mem_cons.mpr ⟨Or.inr ⟨by decide, "java/lang/IndexOutOfBoundsException", q1312, (List.mem_of_getElem? (i := 10) rfl)⟩, fun _ h => nomatch h⟩) rfl (by decide) q872 (List.mem_of_getElem? (i := 9) rfl) rfl ?_
      exact g_sub [] rfl (w_X0_wake_15 hC hK hX h)
theorem gc_X0_wake : gCodeW yX0_wake cX0_wake 4 (some .int) [(0, 9, 12, 23), (0, 9, 15, 15)] 3 := ⟨q1568, q93, ⟨by decide, by decide⟩, rfl⟩
theorem m_X0_wake {l : Launch} (hfl : l.stackTraces = false) {E : gE} {G : gS} {o0 : Option Nat} {x1 : Int32} {o2 : Option Nat} {X : Nat → gS → Prop} {K : Int32 → gS → Prop} (h : wp_X0_wake (gAd E) G o0 x1 o2 X K) : gMet l yX0_wake (wsW_ yX0_wake cX0_wake 4 (some .int) [(0, 9, 12, 23), (0, 9, 15, 15)]) 19 3117 [vQ o0, vI x1, vQ o2] E G (gRi K) X :=
  g_metW hfl (plainFor_of_name (by decide +kernel)) rfl rfl rfl (gle rfl) (fun p e R s m args below meth c hC => w_X0_wake hC (fun _ _ h => h) (fun _ _ h => h) h)
def wp_X3_wake (ad : Nat → Nat) (G : gS) (t0 : Nat) (x1 : Int32) (X : Nat → gS → Prop) (K : Int32 → gS → Prop) : Prop :=
  (gIs G t0 0 ∧ wp_X3_begins ad G t0  X (fun G1 => (gIs G1 t0 0 ∧ wp_X3_rests ad G1 t0 x1 (0 : Int32) X (fun r3 G2 => (gIs G2 t0 0 ∧ wp_X3_ends ad G2 t0 r3 X (fun r5 G4 => K r5 G4))))))
theorem w_X3_wake {C : gCx} (hC : gOk C "GoblinHouseholdModel" cX3_wake [] (some .int) "wake" 2 5 151) {K : Int32 → gS → Prop} {X : Nat → gS → Prop} (hK : ∀ r G, K r G → cxK C (some (vI r)) G) (hX : ∀ q G, X q G → cxX C q G) {G : gS} {t0 : Nat} {x1 : Int32} (h : wp_X3_wake (cxA C) G t0 x1 X K) : gGo C G 0 [(0, vQ (some t0)), (1, vI x1)] [] := by
  unfold wp_X3_wake at h
  refine g_aload_n hC (pc := 0) 0 rfl rfl dX3_wake_0 ?_
  obtain ⟨hi, h⟩ := h
  refine g_callV hC (pc := 1) (ci := 0) (As := []) gc_X3_begins (m_X3_begins hC.fl h) rfl hi q2569 q2571 qs45 (gle rfl) (gle rfl) rfl (gle rfl) rfl dX3_wake_1 (gk_v fun G1 h => ?_) (fun _ _ h hio => g_out0 hC (hX _ _ h) hio)
  refine g_aload_n hC (pc := 4) 0 rfl rfl dX3_wake_4 ?_
  refine g_aload_n hC (pc := 5) 0 rfl rfl dX3_wake_5 ?_
  refine g_iload_n hC (pc := 6) 1 rfl rfl dX3_wake_6 ?_
  refine g_iconst hC (pc := 7) (v := (0 : Int32)) (by decide) dX3_wake_7 ?_
  obtain ⟨hi, h⟩ := h
  refine g_callV hC (pc := 8) (ci := 0) (As := [vI x1, vI (0 : Int32)]) gc_X3_rests (m_X3_rests hC.fl h) rfl hi q2624 q2626 qs54 (gle rfl) (gle rfl) rfl (gle rfl) rfl dX3_wake_8 (gk_i fun r3 G2 h => ?_) (fun _ _ h hio => g_out0 hC (hX _ _ h) hio)
  obtain ⟨hi, h⟩ := h
  refine g_callV hC (pc := 11) (ci := 0) (As := [vI r3]) gc_X3_ends (m_X3_ends hC.fl h) rfl hi q2580 q2582 qs47 (gle rfl) (gle rfl) rfl (gle rfl) rfl dX3_wake_11 (gk_i fun r5 G4 h => ?_) (fun _ _ h hio => g_out0 hC (hX _ _ h) hio)
  exact g_iret hC (pc := 14) (hK _ _ h) dX3_wake_14
theorem gc_X3_wake : gCode yX3_wake cX3_wake 2 (some .int) 1 := ⟨q2643, q105, ⟨by decide, by decide⟩, rfl⟩
theorem m_X3_wake {l : Launch} (hfl : l.stackTraces = false) {E : gE} {G : gS} {t0 : Nat} {x1 : Int32} {X : Nat → gS → Prop} {K : Int32 → gS → Prop} (h : wp_X3_wake (gAd E) G t0 x1 X K) : gMet l yX3_wake (ws_ yX3_wake cX3_wake 2 (some .int)) 5 151 [vQ (some t0), vI x1] E G (gRi K) X :=
  g_met hfl (plainFor_of_name (by decide +kernel)) rfl rfl rfl (gle rfl) (fun p e R s m args below meth c hC => w_X3_wake hC (fun _ _ h => h) (fun _ _ h => h) h)
def wp_X1_lend (ad : Nat → Nat) (G : gS) (t0 : Nat) (x1 : Int32) (x2 : Int32) (X : Nat → gS → Prop) (K : Int32 → gS → Prop) : Prop :=
  wMkL G 9 [x1, x2] fun c2 G1 => (gIs G1 t0 1 ∧ wp_X1_apply ad G1 t0 (some c2) X (fun r4 G3 => K r4 G3))
theorem w_X1_lend {C : gCx} (hC : gOk C "GoblinHousehold" cX1_lend [] (some .int) "lend" 3 18 3088) (hN : gNm C yX1_lend) {K : Int32 → gS → Prop} {X : Nat → gS → Prop} (hK : ∀ r G, K r G → cxK C (some (vI r)) G) (hX : ∀ q G, X q G → cxX C q G) {G : gS} {t0 : Nat} {x1 : Int32} {x2 : Int32} (h : wp_X1_lend (cxA C) G t0 x1 x2 X K) : gGo C G 0 [(0, vQ (some t0)), (1, vI x1), (2, vI x2)] [] := by
  unfold wp_X1_lend at h
  refine g_aload_n hC (pc := 0) 0 rfl rfl dX1_lend_0 ?_
  refine g_iload_n hC (pc := 1) 1 rfl rfl dX1_lend_1 ?_
  refine g_iload_n hC (pc := 2) 2 rfl rfl dX1_lend_2 ?_
  refine g_indyM hC (pc := 3) (q := gSite_9) (xs := [x1, x2]) hN (List.mem_of_getElem? (i := 9) rfl) rfl (by decide) lok_9 q3057 q1582 gc_X1_lambda_lend_8 rfl rfl (gle rfl) (gle rfl) rfl rfl h dX1_lend_3 (fun c2 G1 h => ?_)
  obtain ⟨hi, h⟩ := h
  refine g_callVW hC (pc := 8) (ci := 1) (As := [vQ (some c2)]) gc_X1_apply (m_X1_apply hC.fl h) rfl hi q1049 q1051 qs12 (gle rfl) (gle rfl) rfl (gle rfl) rfl dX1_lend_8 (gk_i fun r4 G3 h => ?_) (fun _ _ h hio => g_out0 hC (hX _ _ h) hio)
  exact g_iret hC (pc := 11) (hK _ _ h) dX1_lend_11
theorem gc_X1_lend : gCode yX1_lend cX1_lend 3 (some .int) 2 := ⟨q1581, q94, ⟨by decide, by decide⟩, rfl⟩
theorem m_X1_lend {l : Launch} (hfl : l.stackTraces = false) {E : gE} {G : gS} {t0 : Nat} {x1 : Int32} {x2 : Int32} {X : Nat → gS → Prop} {K : Int32 → gS → Prop} (h : wp_X1_lend (gAd E) G t0 x1 x2 X K) : gMet l yX1_lend (ws_ yX1_lend cX1_lend 3 (some .int)) 18 3088 [vQ (some t0), vI x1, vI x2] E G (gRi K) X :=
  g_metN hfl (plainFor_of_name (by decide +kernel)) rfl rfl rfl (gle rfl) (fun p e R s m args below meth c hC hN => w_X1_lend hC hN (fun _ _ h => h) (fun _ _ h => h) h)
def wp_X0_lend_13 (ad : Nat → Nat) (X : Nat → gS → Prop) (K : Int32 → gS → Prop) (G : gS) (ts0 : Nat) : Prop :=
  K (1 : Int32) G
theorem w_X0_lend_13 {C : gCx} (hC : gOk C "GoblinHouseholdLaw" cX0_lend [(0, 10, 13, 23), (0, 10, 17, 13), (0, 10, 21, 32)] (some .int) "lend" 5 19 3118) {K : Int32 → gS → Prop} {X : Nat → gS → Prop} (hK : ∀ r G, K r G → cxK C (some (vI r)) G) (hX : ∀ q G, X q G → cxX C q G) {G : gS} {ts0 : Nat} (h : wp_X0_lend_13 (cxA C) X K G ts0) : gGo C G 13 [] [vQ (some ts0)] := by
  unfold wp_X0_lend_13 at h
  refine g_astore hC (pc := 13) (lv' := [(4, vQ (some ts0))]) (by decide) rfl dX0_lend_13 ?_
  refine g_iconst hC (pc := 15) (v := (1 : Int32)) (by decide) dX0_lend_15 ?_
  exact g_iret hC (pc := 16) (hK _ _ h) dX0_lend_16
def wp_X0_lend_17 (ad : Nat → Nat) (X : Nat → gS → Prop) (K : Int32 → gS → Prop) (G : gS) (ts0 : Nat) : Prop :=
  K (2 : Int32) G
theorem w_X0_lend_17 {C : gCx} (hC : gOk C "GoblinHouseholdLaw" cX0_lend [(0, 10, 13, 23), (0, 10, 17, 13), (0, 10, 21, 32)] (some .int) "lend" 5 19 3118) {K : Int32 → gS → Prop} {X : Nat → gS → Prop} (hK : ∀ r G, K r G → cxK C (some (vI r)) G) (hX : ∀ q G, X q G → cxX C q G) {G : gS} {ts0 : Nat} (h : wp_X0_lend_17 (cxA C) X K G ts0) : gGo C G 17 [] [vQ (some ts0)] := by
  unfold wp_X0_lend_17 at h
  refine g_astore hC (pc := 17) (lv' := [(4, vQ (some ts0))]) (by decide) rfl dX0_lend_17 ?_
  refine g_iconst hC (pc := 19) (v := (2 : Int32)) (by decide) dX0_lend_19 ?_
  exact g_iret hC (pc := 20) (hK _ _ h) dX0_lend_20
def wp_X0_lend_21 (ad : Nat → Nat) (X : Nat → gS → Prop) (K : Int32 → gS → Prop) (G : gS) (ts0 : Nat) : Prop :=
  K (3 : Int32) G
theorem w_X0_lend_21 {C : gCx} (hC : gOk C "GoblinHouseholdLaw" cX0_lend [(0, 10, 13, 23), (0, 10, 17, 13), (0, 10, 21, 32)] (some .int) "lend" 5 19 3118) {K : Int32 → gS → Prop} {X : Nat → gS → Prop} (hK : ∀ r G, K r G → cxK C (some (vI r)) G) (hX : ∀ q G, X q G → cxX C q G) {G : gS} {ts0 : Nat} (h : wp_X0_lend_21 (cxA C) X K G ts0) : gGo C G 21 [] [vQ (some ts0)] := by
  unfold wp_X0_lend_21 at h
  refine g_astore hC (pc := 21) (lv' := [(4, vQ (some ts0))]) (by decide) rfl dX0_lend_21 ?_
  refine g_iconst hC (pc := 23) (v := (3 : Int32)) (by decide) dX0_lend_23 ?_
  exact g_iret hC (pc := 24) (hK _ _ h) dX0_lend_24
def wp_X0_lend (ad : Nat → Nat) (G : gS) (o0 : Option Nat) (x1 : Int32) (x2 : Int32) (o3 : Option Nat) (X : Nat → gS → Prop) (K : Int32 → gS → Prop) : Prop :=
  wNN o0 fun c1 => (gIs G c1 1 ∧ wp_X1_lend ad G c1 x1 x2 (fun y3 G4 => (gHas G4 y3 20 ∧ (wp_X0_lend_13 ad X K G4 y3)) ∨ (gHas G4 y3 21 ∧ (wp_X0_lend_17 ad X K G4 y3)) ∨ (gHas G4 y3 24 ∧ (wp_X0_lend_21 ad X K G4 y3))) (fun r5 G2 => wNN o3 fun c6 => wAstL G2 c6 (0 : Int32) ((r5).toInt64) fun G7 => K (0 : Int32) G7))
theorem w_X0_lend {C : gCx} (hC : gOk C "GoblinHouseholdLaw" cX0_lend [(0, 10, 13, 23), (0, 10, 17, 13), (0, 10, 21, 32)] (some .int) "lend" 5 19 3118) {K : Int32 → gS → Prop} {X : Nat → gS → Prop} (hK : ∀ r G, K r G → cxK C (some (vI r)) G) (hX : ∀ q G, X q G → cxX C q G) {G : gS} {o0 : Option Nat} {x1 : Int32} {x2 : Int32} {o3 : Option Nat} (h : wp_X0_lend (cxA C) G o0 x1 x2 o3 X K) : gGo C G 0 [(0, vQ o0), (1, vI x1), (2, vI x2), (3, vQ o3)] [] := by
  unfold wp_X0_lend at h
  refine g_aload_n hC (pc := 0) 3 rfl rfl dX0_lend_0 ?_
  refine g_iconst hC (pc := 1) (v := (0 : Int32)) (by decide) dX0_lend_1 ?_
  refine g_aload_n hC (pc := 2) 0 rfl rfl dX0_lend_2 ?_
  refine g_iload_n hC (pc := 3) 1 rfl rfl dX0_lend_3 ?_
  refine g_iload_n hC (pc := 4) 2 rfl rfl dX0_lend_4 ?_
  rcases o0 with _ | c1
  · exact (gNN0 h).elim
  replace h := gNN1 h
  obtain ⟨hi, h⟩ := h
  refine g_callV hC (pc := 5) (ci := 1) (As := [vI x1, vI x2]) gc_X1_lend (m_X1_lend hC.fl h) rfl hi q1578 q1579 q1580 (gle rfl) (gle rfl) rfl (gle rfl) rfl dX0_lend_5 (gk_i fun r5 G2 h => ?_) (fun y3 G4 h hio => ?_)
  · refine g_i2l hC (pc := 8) dX0_lend_8 ?_
    rcases o3 with _ | c6
    · exact (gNN0 h).elim
    replace h := gNN1 h
    refine g_astL hC (pc := 9) h dX0_lend_9 (fun G7 h => ?_)
    refine g_goto hC (pc := 10) 25 (by decide) dX0_lend_10 ?_
    refine g_iconst hC (pc := 25) (v := (0 : Int32)) (by decide) dX0_lend_25 ?_
    exact g_iret hC (pc := 26) (hK _ _ h) dX0_lend_26
  · rcases h with h | h | h
    · obtain ⟨hq, h⟩ := h
      refine g_catchI hC (pc := 5) (ci := 20) rfl hq 0 rfl (fun _ h => nomatch h) rfl (by decide) q1312 (List.mem_of_getElem? (i := 2) rfl) rfl ?_
      exact g_sub [] rfl (w_X0_lend_13 hC hK hX h)
    · obtain ⟨hq, h⟩ := h
      refine g_catchI hC (pc := 5) (ci := 21) rfl hq 1 rfl (List.forall_mem_cons.mpr ⟨Or.inr ⟨by decide, "java/lang/IndexOutOfBoundsException", q1312, (List.mem_of_getElem? (i := 5) rfl)⟩, fun _ h => nomatch h⟩) rfl (by decide) q871 (List.mem_of_getElem? (i := 4) rfl) rfl ?_
      exact g_sub [] rfl (w_X0_lend_17 hC hK hX h)
    · obtain ⟨hq, h⟩ := h
      refine g_catchI hC (pc := 5) (ci := 24) rfl hq 2 rfl (List.forall_mem_cons.mpr ⟨Or.inr ⟨by decide, "java/lang/IndexOutOfBoundsException", q1312, (List.mem_of_getElem? (i := 20) rfl)⟩, List.forall_mem_cons.mpr ⟨Or.inr ⟨by decide, "java/lang/IllegalArgumentException", q871, (List.mem_of_getElem? (i := 21) rfl)⟩, fun _ h => nomatch h⟩⟩) rfl (by decide) q1366 (List.mem_of_getElem? (i := 11) rfl) rfl ?_
      exact g_sub [] rfl (w_X0_lend_21 hC hK hX h)
theorem gc_X0_lend : gCodeW yX0_lend cX0_lend 5 (some .int) [(0, 10, 13, 23), (0, 10, 17, 13), (0, 10, 21, 32)] 4 := ⟨q1577, q93, ⟨by decide, by decide⟩, rfl⟩
theorem m_X0_lend {l : Launch} (hfl : l.stackTraces = false) {E : gE} {G : gS} {o0 : Option Nat} {x1 : Int32} {x2 : Int32} {o3 : Option Nat} {X : Nat → gS → Prop} {K : Int32 → gS → Prop} (h : wp_X0_lend (gAd E) G o0 x1 x2 o3 X K) : gMet l yX0_lend (wsW_ yX0_lend cX0_lend 5 (some .int) [(0, 10, 13, 23), (0, 10, 17, 13), (0, 10, 21, 32)]) 19 3118 [vQ o0, vI x1, vI x2, vQ o3] E G (gRi K) X :=
  g_metW hfl (plainFor_of_name (by decide +kernel)) rfl rfl rfl (gle rfl) (fun p e R s m args below meth c hC => w_X0_lend hC (fun _ _ h => h) (fun _ _ h => h) h)
def wp_X3_lends_41 (ad : Nat → Nat) (X : Nat → gS → Prop) (K : Int32 → gS → Prop) (G : gS) (t0 : Nat) (x1 : Int32) (x2 : Int32) (x3 : Int32) (xs0 : Int32) : Prop :=
  (gIs G t0 0 ∧ wp_X3_isGoblin ad G t0 x1 X (fun r2 G1 => (gIs G1 t0 0 ∧ wp_X3_holds ad G1 t0 r2 x3 xs0 (1 : Int32) X (fun r4 G3 => (¬ r4 = (0 : Int32) → wGetQ G3 t0 0 0 fun q5 => wNN q5 fun c6 => wAldI G3 c6 (1 : Int32) fun i7 => wAstI G3 c6 (1 : Int32) (i7 - x2) fun G8 => wGetQ G8 t0 0 0 fun q9 => (gIs G8 t0 0 ∧ wp_X3_place ad G8 t0 x1 (1 : Int32) X (fun r11 G10 => wNN q9 fun c12 => wAldI G10 c12 r11 fun i13 => wAstI G10 c12 r11 (i13 + x2) fun G14 => wGetQ G14 t0 0 0 fun q15 => (gIs G14 t0 0 ∧ wp_X3_place ad G14 t0 x1 (2 : Int32) X (fun r17 G16 => wNN q15 fun c18 => wAldI G16 c18 r17 fun i19 => wAstI G16 c18 r17 (i19 + x2) fun G20 => (gIs G20 t0 0 ∧ wp_X3_of ad G20 t0 x1 (2 : Int32) X (fun r22 G21 => K r22 G21))))))) ∧ (r4 = (0 : Int32) → K (0 : Int32) G3)))))
theorem w_X3_lends_41 {C : gCx} (hC : gOk C "GoblinHouseholdModel" cX3_lends [] (some .int) "lends" 5 4 119) {K : Int32 → gS → Prop} {X : Nat → gS → Prop} (hK : ∀ r G, K r G → cxK C (some (vI r)) G) (hX : ∀ q G, X q G → cxX C q G) {G : gS} {t0 : Nat} {x1 : Int32} {x2 : Int32} {x3 : Int32} {xs0 : Int32} (h : wp_X3_lends_41 (cxA C) X K G t0 x1 x2 x3 xs0) : gGo C G 41 [(0, vQ (some t0)), (1, vI x1), (2, vI x2), (3, vI x3)] [vI xs0] := by
  unfold wp_X3_lends_41 at h
  refine g_istore hC (pc := 41) (lv' := [(4, vI xs0), (0, vQ (some t0)), (1, vI x1), (2, vI x2), (3, vI x3)]) (by decide) rfl dX3_lends_41 ?_
  refine g_aload_n hC (pc := 43) 1 rfl rfl dX3_lends_43 ?_
  refine g_aload_n hC (pc := 44) 1 rfl rfl dX3_lends_44 ?_
  refine g_iload_n hC (pc := 45) 2 rfl rfl dX3_lends_45 ?_
  obtain ⟨hi, h⟩ := h
  refine g_callV hC (pc := 46) (ci := 0) (As := [vI x1]) gc_X3_isGoblin (m_X3_isGoblin hC.fl h) rfl hi q2628 q2630 qs55 (gle rfl) (gle rfl) rfl (gle rfl) rfl dX3_lends_46 (gk_i fun r2 G1 h => ?_) (fun _ _ h hio => g_out0 hC (hX _ _ h) hio)
  refine g_iload_n hC (pc := 49) 4 rfl rfl dX3_lends_49 ?_
  refine g_iload hC (pc := 50) 0 rfl dX3_lends_50 ?_
  refine g_iconst hC (pc := 52) (v := (1 : Int32)) (by decide) dX3_lends_52 ?_
  obtain ⟨hi, h⟩ := h
  refine g_callV hC (pc := 53) (ci := 0) (As := [vI r2, vI x3, vI xs0, vI (1 : Int32)]) gc_X3_holds (m_X3_holds hC.fl h) rfl hi q2550 q2552 qs44 (gle rfl) (gle rfl) rfl (gle rfl) rfl dX3_lends_53 (gk_i fun r4 G3 h => ?_) (fun _ _ h hio => g_out0 hC (hX _ _ h) hio)
  refine g_if_ne hC (pc := 56) 61 h (by decide) dX3_lends_56 (fun h => ?_) (fun h => ?_)
  · refine g_aload_n hC (pc := 61) 1 rfl rfl dX3_lends_61 ?_
    refine g_getQ hC (pc := 62) in_X3 (ci := 0) rfl 0 (by decide) q2477 (Or.inl rfl) h dX3_lends_62 (fun q5 h => ?_)
    refine g_iconst hC (pc := 65) (v := (1 : Int32)) (by decide) dX3_lends_65 ?_
    refine g_dup2 hC (pc := 66) rfl rfl dX3_lends_66 ?_
    rcases q5 with _ | c6
    · exact (gNN0 h).elim
    replace h := gNN1 h
    refine g_aldI hC (pc := 67) h dX3_lends_67 (fun i7 h => ?_)
    refine g_iload_n hC (pc := 68) 3 rfl rfl dX3_lends_68 ?_
    refine g_isub hC (pc := 69) dX3_lends_69 ?_
    refine g_astI hC (pc := 70) h dX3_lends_70 (fun G8 h => ?_)
    refine g_aload_n hC (pc := 71) 1 rfl rfl dX3_lends_71 ?_
    refine g_getQ hC (pc := 72) in_X3 (ci := 0) rfl 0 (by decide) q2477 (Or.inl rfl) h dX3_lends_72 (fun q9 h => ?_)
    refine g_aload_n hC (pc := 75) 1 rfl rfl dX3_lends_75 ?_
    refine g_iload_n hC (pc := 76) 2 rfl rfl dX3_lends_76 ?_
    refine g_iconst hC (pc := 77) (v := (1 : Int32)) (by decide) dX3_lends_77 ?_
    obtain ⟨hi, h⟩ := h
    refine g_callV hC (pc := 78) (ci := 0) (As := [vI x1, vI (1 : Int32)]) gc_X3_place (m_X3_place hC.fl h) rfl hi q2636 q2638 qs57 (gle rfl) (gle rfl) rfl (gle rfl) rfl dX3_lends_78 (gk_i fun r11 G10 h => ?_) (fun _ _ h hio => g_out0 hC (hX _ _ h) hio)
    refine g_dup2 hC (pc := 81) rfl rfl dX3_lends_81 ?_
    rcases q9 with _ | c12
    · exact (gNN0 h).elim
    replace h := gNN1 h
    refine g_aldI hC (pc := 82) h dX3_lends_82 (fun i13 h => ?_)
    refine g_iload_n hC (pc := 83) 3 rfl rfl dX3_lends_83 ?_
    refine g_iadd hC (pc := 84) dX3_lends_84 ?_
    refine g_astI hC (pc := 85) h dX3_lends_85 (fun G14 h => ?_)
    refine g_aload_n hC (pc := 86) 1 rfl rfl dX3_lends_86 ?_
    refine g_getQ hC (pc := 87) in_X3 (ci := 0) rfl 0 (by decide) q2477 (Or.inl rfl) h dX3_lends_87 (fun q15 h => ?_)
    refine g_aload_n hC (pc := 90) 1 rfl rfl dX3_lends_90 ?_
    refine g_iload_n hC (pc := 91) 2 rfl rfl dX3_lends_91 ?_
    refine g_iconst hC (pc := 92) (v := (2 : Int32)) (by decide) dX3_lends_92 ?_
    obtain ⟨hi, h⟩ := h
    refine g_callV hC (pc := 93) (ci := 0) (As := [vI x1, vI (2 : Int32)]) gc_X3_place (m_X3_place hC.fl h) rfl hi q2636 q2638 qs57 (gle rfl) (gle rfl) rfl (gle rfl) rfl dX3_lends_93 (gk_i fun r17 G16 h => ?_) (fun _ _ h hio => g_out0 hC (hX _ _ h) hio)
    refine g_dup2 hC (pc := 96) rfl rfl dX3_lends_96 ?_
    rcases q15 with _ | c18
    · exact (gNN0 h).elim
    replace h := gNN1 h
    refine g_aldI hC (pc := 97) h dX3_lends_97 (fun i19 h => ?_)
    refine g_iload_n hC (pc := 98) 3 rfl rfl dX3_lends_98 ?_
    refine g_iadd hC (pc := 99) dX3_lends_99 ?_
    refine g_astI hC (pc := 100) h dX3_lends_100 (fun G20 h => ?_)
    refine g_aload_n hC (pc := 101) 1 rfl rfl dX3_lends_101 ?_
    refine g_iload_n hC (pc := 102) 2 rfl rfl dX3_lends_102 ?_
    refine g_iconst hC (pc := 103) (v := (2 : Int32)) (by decide) dX3_lends_103 ?_
    obtain ⟨hi, h⟩ := h
    refine g_callV hC (pc := 104) (ci := 0) (As := [vI x1, vI (2 : Int32)]) gc_X3_of (m_X3_of hC.fl h) rfl hi q2632 q2634 qs56 (gle rfl) (gle rfl) rfl (gle rfl) rfl dX3_lends_104 (gk_i fun r22 G21 h => ?_) (fun _ _ h hio => g_out0 hC (hX _ _ h) hio)
    exact g_iret hC (pc := 107) (hK _ _ h) dX3_lends_107
  · refine g_iconst hC (pc := 59) (v := (0 : Int32)) (by decide) dX3_lends_59 ?_
    exact g_iret hC (pc := 60) (hK _ _ h) dX3_lends_60
def wp_X3_lends_40 (ad : Nat → Nat) (X : Nat → gS → Prop) (K : Int32 → gS → Prop) (G : gS) (t0 : Nat) (x1 : Int32) (x2 : Int32) (x3 : Int32) : Prop :=
  wp_X3_lends_41 ad X K G t0 x1 x2 x3 (0 : Int32)
theorem w_X3_lends_40 {C : gCx} (hC : gOk C "GoblinHouseholdModel" cX3_lends [] (some .int) "lends" 5 4 119) {K : Int32 → gS → Prop} {X : Nat → gS → Prop} (hK : ∀ r G, K r G → cxK C (some (vI r)) G) (hX : ∀ q G, X q G → cxX C q G) {G : gS} {t0 : Nat} {x1 : Int32} {x2 : Int32} {x3 : Int32} (h : wp_X3_lends_40 (cxA C) X K G t0 x1 x2 x3) : gGo C G 40 [(0, vQ (some t0)), (1, vI x1), (2, vI x2), (3, vI x3)] [] := by
  unfold wp_X3_lends_40 at h
  refine g_iconst hC (pc := 40) (v := (0 : Int32)) (by decide) dX3_lends_40 ?_
  exact g_sub [0, 1, 2, 3] rfl (w_X3_lends_41 hC hK hX h)
def wp_X3_lends (ad : Nat → Nat) (G : gS) (t0 : Nat) (x1 : Int32) (x2 : Int32) (X : Nat → gS → Prop) (K : Int32 → gS → Prop) : Prop :=
  wp_X3_isIn ad G x2 (1 : Int32) (99 : Int32) X (fun r2 G1 => (r2 = (0 : Int32) → wp_X3_lends_40 ad X K G1 t0 x1 x2 r2) ∧ (¬ r2 = (0 : Int32) → wGetQ G1 t0 0 0 fun q3 => wNN q3 fun c4 => wAldI G1 c4 (1 : Int32) fun i5 => (i5 < x2 → wp_X3_lends_40 ad X K G1 t0 x1 x2 r2) ∧ (¬ i5 < x2 → (gIs G1 t0 0 ∧ wp_X3_of ad G1 t0 x1 (2 : Int32) X (fun r7 G6 => ((200 : Int32) < (r7 + x2) → wp_X3_lends_40 ad X K G6 t0 x1 x2 r2) ∧ (¬ (200 : Int32) < (r7 + x2) → wp_X3_lends_41 ad X K G6 t0 x1 x2 r2 (1 : Int32)))))))
theorem w_X3_lends {C : gCx} (hC : gOk C "GoblinHouseholdModel" cX3_lends [] (some .int) "lends" 5 4 119) {K : Int32 → gS → Prop} {X : Nat → gS → Prop} (hK : ∀ r G, K r G → cxK C (some (vI r)) G) (hX : ∀ q G, X q G → cxX C q G) {G : gS} {t0 : Nat} {x1 : Int32} {x2 : Int32} (h : wp_X3_lends (cxA C) G t0 x1 x2 X K) : gGo C G 0 [(0, vQ (some t0)), (1, vI x1), (2, vI x2)] [] := by
  unfold wp_X3_lends at h
  refine g_iload_n hC (pc := 0) 2 rfl rfl dX3_lends_0 ?_
  refine g_iconst hC (pc := 1) (v := (1 : Int32)) (by decide) dX3_lends_1 ?_
  refine g_bipush hC (pc := 2) (v := (99 : Int32)) (by decide) dX3_lends_2 ?_
  refine g_callS hC (pc := 4) (b := 0) (As := [vI x2, vI (1 : Int32), vI (99 : Int32)]) gc_X3_isIn (m_X3_isIn hC.fl h) q2577 q2578 (gle rfl) (gle rfl) rfl (gle rfl) rfl dX3_lends_4 (gk_i fun r2 G1 h => ?_) (fun _ _ h hio => g_out0 hC (hX _ _ h) hio)
  refine g_istore_n hC (pc := 7) (lv' := [(3, vI r2), (0, vQ (some t0)), (1, vI x1), (2, vI x2)]) rfl (by decide) rfl dX3_lends_7 ?_
  refine g_iload_n hC (pc := 8) 0 rfl rfl dX3_lends_8 ?_
  refine g_if_eq hC (pc := 9) 40 h (by decide) dX3_lends_9 (fun h => ?_) (fun h => ?_)
  · exact g_sub [1, 2, 3, 0] rfl (w_X3_lends_40 hC hK hX h)
  · refine g_iload_n hC (pc := 12) 3 rfl rfl dX3_lends_12 ?_
    refine g_aload_n hC (pc := 13) 1 rfl rfl dX3_lends_13 ?_
    refine g_getQ hC (pc := 14) in_X3 (ci := 0) rfl 0 (by decide) q2477 (Or.inl rfl) h dX3_lends_14 (fun q3 h => ?_)
    refine g_iconst hC (pc := 17) (v := (1 : Int32)) (by decide) dX3_lends_17 ?_
    rcases q3 with _ | c4
    · exact (gNN0 h).elim
    replace h := gNN1 h
    refine g_aldI hC (pc := 18) h dX3_lends_18 (fun i5 h => ?_)
    refine g_icmp_gt hC (pc := 19) 40 h (by decide) dX3_lends_19 (fun h => ?_) (fun h => ?_)
    · exact g_sub [1, 2, 3, 0] rfl (w_X3_lends_40 hC hK hX h)
    · refine g_aload_n hC (pc := 22) 1 rfl rfl dX3_lends_22 ?_
      refine g_iload_n hC (pc := 23) 2 rfl rfl dX3_lends_23 ?_
      refine g_iconst hC (pc := 24) (v := (2 : Int32)) (by decide) dX3_lends_24 ?_
      obtain ⟨hi, h⟩ := h
      refine g_callV hC (pc := 25) (ci := 0) (As := [vI x1, vI (2 : Int32)]) gc_X3_of (m_X3_of hC.fl h) rfl hi q2632 q2634 qs56 (gle rfl) (gle rfl) rfl (gle rfl) rfl dX3_lends_25 (gk_i fun r7 G6 h => ?_) (fun _ _ h hio => g_out0 hC (hX _ _ h) hio)
      refine g_iload_n hC (pc := 28) 3 rfl rfl dX3_lends_28 ?_
      refine g_iadd hC (pc := 29) dX3_lends_29 ?_
      refine g_sipush hC (pc := 30) (v := (200 : Int32)) (by decide) dX3_lends_30 ?_
      refine g_icmp_gt hC (pc := 33) 40 h (by decide) dX3_lends_33 (fun h => ?_) (fun h => ?_)
      · exact g_sub [1, 2, 3, 0] rfl (w_X3_lends_40 hC hK hX h)
      · refine g_iconst hC (pc := 36) (v := (1 : Int32)) (by decide) dX3_lends_36 ?_
        refine g_goto hC (pc := 37) 41 (by decide) dX3_lends_37 ?_
        exact g_sub [1, 2, 3, 0] rfl (w_X3_lends_41 hC hK hX h)
theorem gc_X3_lends : gCode yX3_lends cX3_lends 5 (some .int) 2 := ⟨q2687, q105, ⟨by decide, by decide⟩, rfl⟩
theorem m_X3_lends {l : Launch} (hfl : l.stackTraces = false) {E : gE} {G : gS} {t0 : Nat} {x1 : Int32} {x2 : Int32} {X : Nat → gS → Prop} {K : Int32 → gS → Prop} (h : wp_X3_lends (gAd E) G t0 x1 x2 X K) : gMet l yX3_lends (ws_ yX3_lends cX3_lends 5 (some .int)) 4 119 [vQ (some t0), vI x1, vI x2] E G (gRi K) X :=
  g_met hfl (plainFor_of_name (by decide +kernel)) rfl rfl rfl (gle rfl) (fun p e R s m args below meth c hC => w_X3_lends hC (fun _ _ h => h) (fun _ _ h => h) h)
def wp_X3_lend (ad : Nat → Nat) (G : gS) (t0 : Nat) (x1 : Int32) (x2 : Int32) (X : Nat → gS → Prop) (K : Int32 → gS → Prop) : Prop :=
  (gIs G t0 0 ∧ wp_X3_begins ad G t0  X (fun G1 => (gIs G1 t0 0 ∧ wp_X3_lends ad G1 t0 x1 x2 X (fun r3 G2 => (gIs G2 t0 0 ∧ wp_X3_ends ad G2 t0 r3 X (fun r5 G4 => K r5 G4))))))
theorem w_X3_lend {C : gCx} (hC : gOk C "GoblinHouseholdModel" cX3_lend [] (some .int) "lend" 3 5 151) {K : Int32 → gS → Prop} {X : Nat → gS → Prop} (hK : ∀ r G, K r G → cxK C (some (vI r)) G) (hX : ∀ q G, X q G → cxX C q G) {G : gS} {t0 : Nat} {x1 : Int32} {x2 : Int32} (h : wp_X3_lend (cxA C) G t0 x1 x2 X K) : gGo C G 0 [(0, vQ (some t0)), (1, vI x1), (2, vI x2)] [] := by
  unfold wp_X3_lend at h
  refine g_aload_n hC (pc := 0) 0 rfl rfl dX3_lend_0 ?_
  obtain ⟨hi, h⟩ := h
  refine g_callV hC (pc := 1) (ci := 0) (As := []) gc_X3_begins (m_X3_begins hC.fl h) rfl hi q2569 q2571 qs45 (gle rfl) (gle rfl) rfl (gle rfl) rfl dX3_lend_1 (gk_v fun G1 h => ?_) (fun _ _ h hio => g_out0 hC (hX _ _ h) hio)
  refine g_aload_n hC (pc := 4) 0 rfl rfl dX3_lend_4 ?_
  refine g_aload_n hC (pc := 5) 0 rfl rfl dX3_lend_5 ?_
  refine g_iload_n hC (pc := 6) 1 rfl rfl dX3_lend_6 ?_
  refine g_iload_n hC (pc := 7) 2 rfl rfl dX3_lend_7 ?_
  obtain ⟨hi, h⟩ := h
  refine g_callV hC (pc := 8) (ci := 0) (As := [vI x1, vI x2]) gc_X3_lends (m_X3_lends hC.fl h) rfl hi q2684 q2686 qs64 (gle rfl) (gle rfl) rfl (gle rfl) rfl dX3_lend_8 (gk_i fun r3 G2 h => ?_) (fun _ _ h hio => g_out0 hC (hX _ _ h) hio)
  obtain ⟨hi, h⟩ := h
  refine g_callV hC (pc := 11) (ci := 0) (As := [vI r3]) gc_X3_ends (m_X3_ends hC.fl h) rfl hi q2580 q2582 qs47 (gle rfl) (gle rfl) rfl (gle rfl) rfl dX3_lend_11 (gk_i fun r5 G4 h => ?_) (fun _ _ h hio => g_out0 hC (hX _ _ h) hio)
  exact g_iret hC (pc := 14) (hK _ _ h) dX3_lend_14
theorem gc_X3_lend : gCode yX3_lend cX3_lend 3 (some .int) 2 := ⟨q2683, q105, ⟨by decide, by decide⟩, rfl⟩
theorem m_X3_lend {l : Launch} (hfl : l.stackTraces = false) {E : gE} {G : gS} {t0 : Nat} {x1 : Int32} {x2 : Int32} {X : Nat → gS → Prop} {K : Int32 → gS → Prop} (h : wp_X3_lend (gAd E) G t0 x1 x2 X K) : gMet l yX3_lend (ws_ yX3_lend cX3_lend 3 (some .int)) 5 151 [vQ (some t0), vI x1, vI x2] E G (gRi K) X :=
  g_met hfl (plainFor_of_name (by decide +kernel)) rfl rfl rfl (gle rfl) (fun p e R s m args below meth c hC => w_X3_lend hC (fun _ _ h => h) (fun _ _ h => h) h)
def wp_X1_fund (ad : Nat → Nat) (G : gS) (t0 : Nat) (x1 : Int32) (X : Nat → gS → Prop) (K : Int32 → gS → Prop) : Prop :=
  wMkL G 10 [x1] fun c2 G1 => (gIs G1 t0 1 ∧ wp_X1_apply ad G1 t0 (some c2) X (fun r4 G3 => K r4 G3))
theorem w_X1_fund {C : gCx} (hC : gOk C "GoblinHousehold" cX1_fund [] (some .int) "fund" 2 18 3088) (hN : gNm C yX1_fund) {K : Int32 → gS → Prop} {X : Nat → gS → Prop} (hK : ∀ r G, K r G → cxK C (some (vI r)) G) (hX : ∀ q G, X q G → cxX C q G) {G : gS} {t0 : Nat} {x1 : Int32} (h : wp_X1_fund (cxA C) G t0 x1 X K) : gGo C G 0 [(0, vQ (some t0)), (1, vI x1)] [] := by
  unfold wp_X1_fund at h
  refine g_aload_n hC (pc := 0) 0 rfl rfl dX1_fund_0 ?_
  refine g_iload_n hC (pc := 1) 1 rfl rfl dX1_fund_1 ?_
  refine g_indyM hC (pc := 2) (q := gSite_10) (xs := [x1]) hN (List.mem_of_getElem? (i := 10) rfl) rfl (by decide) lok_10 q3057 q1601 gc_X1_lambda_fund_9 rfl rfl (gle rfl) (gle rfl) rfl rfl h dX1_fund_2 (fun c2 G1 h => ?_)
  obtain ⟨hi, h⟩ := h
  refine g_callVW hC (pc := 7) (ci := 1) (As := [vQ (some c2)]) gc_X1_apply (m_X1_apply hC.fl h) rfl hi q1049 q1051 qs12 (gle rfl) (gle rfl) rfl (gle rfl) rfl dX1_fund_7 (gk_i fun r4 G3 h => ?_) (fun _ _ h hio => g_out0 hC (hX _ _ h) hio)
  exact g_iret hC (pc := 10) (hK _ _ h) dX1_fund_10
theorem gc_X1_fund : gCode yX1_fund cX1_fund 2 (some .int) 1 := ⟨q1600, q94, ⟨by decide, by decide⟩, rfl⟩
theorem m_X1_fund {l : Launch} (hfl : l.stackTraces = false) {E : gE} {G : gS} {t0 : Nat} {x1 : Int32} {X : Nat → gS → Prop} {K : Int32 → gS → Prop} (h : wp_X1_fund (gAd E) G t0 x1 X K) : gMet l yX1_fund (ws_ yX1_fund cX1_fund 2 (some .int)) 18 3088 [vQ (some t0), vI x1] E G (gRi K) X :=
  g_metN hfl (plainFor_of_name (by decide +kernel)) rfl rfl rfl (gle rfl) (fun p e R s m args below meth c hC hN => w_X1_fund hC hN (fun _ _ h => h) (fun _ _ h => h) h)
def wp_X0_fund_12 (ad : Nat → Nat) (X : Nat → gS → Prop) (K : Int32 → gS → Prop) (G : gS) (ts0 : Nat) : Prop :=
  K (1 : Int32) G
theorem w_X0_fund_12 {C : gCx} (hC : gOk C "GoblinHouseholdLaw" cX0_fund [(0, 9, 12, 13)] (some .int) "fund" 4 19 3117) {K : Int32 → gS → Prop} {X : Nat → gS → Prop} (hK : ∀ r G, K r G → cxK C (some (vI r)) G) (hX : ∀ q G, X q G → cxX C q G) {G : gS} {ts0 : Nat} (h : wp_X0_fund_12 (cxA C) X K G ts0) : gGo C G 12 [] [vQ (some ts0)] := by
  unfold wp_X0_fund_12 at h
  refine g_astore_n hC (pc := 12) (lv' := [(3, vQ (some ts0))]) rfl (by decide) rfl dX0_fund_12 ?_
  refine g_iconst hC (pc := 13) (v := (1 : Int32)) (by decide) dX0_fund_13 ?_
  exact g_iret hC (pc := 14) (hK _ _ h) dX0_fund_14
def wp_X0_fund (ad : Nat → Nat) (G : gS) (o0 : Option Nat) (x1 : Int32) (o2 : Option Nat) (X : Nat → gS → Prop) (K : Int32 → gS → Prop) : Prop :=
  wNN o0 fun c1 => (gIs G c1 1 ∧ wp_X1_fund ad G c1 x1 (fun y3 G4 => (gHas G4 y3 21 ∧ (wp_X0_fund_12 ad X K G4 y3))) (fun r5 G2 => wNN o2 fun c6 => wAstL G2 c6 (0 : Int32) ((r5).toInt64) fun G7 => K (0 : Int32) G7))
theorem w_X0_fund {C : gCx} (hC : gOk C "GoblinHouseholdLaw" cX0_fund [(0, 9, 12, 13)] (some .int) "fund" 4 19 3117) {K : Int32 → gS → Prop} {X : Nat → gS → Prop} (hK : ∀ r G, K r G → cxK C (some (vI r)) G) (hX : ∀ q G, X q G → cxX C q G) {G : gS} {o0 : Option Nat} {x1 : Int32} {o2 : Option Nat} (h : wp_X0_fund (cxA C) G o0 x1 o2 X K) : gGo C G 0 [(0, vQ o0), (1, vI x1), (2, vQ o2)] [] := by
  unfold wp_X0_fund at h
  refine g_aload_n hC (pc := 0) 2 rfl rfl dX0_fund_0 ?_
  refine g_iconst hC (pc := 1) (v := (0 : Int32)) (by decide) dX0_fund_1 ?_
  refine g_aload_n hC (pc := 2) 0 rfl rfl dX0_fund_2 ?_
  refine g_iload_n hC (pc := 3) 1 rfl rfl dX0_fund_3 ?_
  rcases o0 with _ | c1
  · exact (gNN0 h).elim
  replace h := gNN1 h
  obtain ⟨hi, h⟩ := h
  refine g_callV hC (pc := 4) (ci := 1) (As := [vI x1]) gc_X1_fund (m_X1_fund hC.fl h) rfl hi q1597 q1598 q1599 (gle rfl) (gle rfl) rfl (gle rfl) rfl dX0_fund_4 (gk_i fun r5 G2 h => ?_) (fun y3 G4 h hio => ?_)
  · refine g_i2l hC (pc := 7) dX0_fund_7 ?_
    rcases o2 with _ | c6
    · exact (gNN0 h).elim
    replace h := gNN1 h
    refine g_astL hC (pc := 8) h dX0_fund_8 (fun G7 h => ?_)
    refine g_goto hC (pc := 9) 15 (by decide) dX0_fund_9 ?_
    refine g_iconst hC (pc := 15) (v := (0 : Int32)) (by decide) dX0_fund_15 ?_
    exact g_iret hC (pc := 16) (hK _ _ h) dX0_fund_16
  · obtain ⟨hq, h⟩ := h
    refine g_catchI hC (pc := 4) (ci := 21) rfl hq 0 rfl (fun _ h => nomatch h) rfl (by decide) q871 (List.mem_of_getElem? (i := 4) rfl) rfl ?_
    exact g_sub [] rfl (w_X0_fund_12 hC hK hX h)
theorem gc_X0_fund : gCodeW yX0_fund cX0_fund 4 (some .int) [(0, 9, 12, 13)] 3 := ⟨q1596, q93, ⟨by decide, by decide⟩, rfl⟩
theorem m_X0_fund {l : Launch} (hfl : l.stackTraces = false) {E : gE} {G : gS} {o0 : Option Nat} {x1 : Int32} {o2 : Option Nat} {X : Nat → gS → Prop} {K : Int32 → gS → Prop} (h : wp_X0_fund (gAd E) G o0 x1 o2 X K) : gMet l yX0_fund (wsW_ yX0_fund cX0_fund 4 (some .int) [(0, 9, 12, 13)]) 19 3117 [vQ o0, vI x1, vQ o2] E G (gRi K) X :=
  g_metW hfl (plainFor_of_name (by decide +kernel)) rfl rfl rfl (gle rfl) (fun p e R s m args below meth c hC => w_X0_fund hC (fun _ _ h => h) (fun _ _ h => h) h)
def wp_X3_funds (ad : Nat → Nat) (G : gS) (t0 : Nat) (x1 : Int32) (X : Nat → gS → Prop) (K : Int32 → gS → Prop) : Prop :=
  wp_X3_isIn ad G x1 (1 : Int32) (999 : Int32) X (fun r2 G1 => (gIs G1 t0 0 ∧ wp_X3_goes ad G1 t0 r2 X (fun r4 G3 => (¬ r4 = (0 : Int32) → wGetQ G3 t0 0 0 fun q5 => wNN q5 fun c6 => wAldI G3 c6 (1 : Int32) fun i7 => wAstI G3 c6 (1 : Int32) (i7 + x1) fun G8 => wGetQ G8 t0 0 0 fun q9 => wNN q9 fun c10 => wAldI G8 c10 (2 : Int32) fun i11 => wAstI G8 c10 (2 : Int32) (i11 + x1) fun G12 => wGetQ G12 t0 0 0 fun q13 => wNN q13 fun c14 => wAldI G12 c14 (1 : Int32) fun i15 => K i15 G12) ∧ (r4 = (0 : Int32) → K (0 : Int32) G3))))
theorem w_X3_funds {C : gCx} (hC : gOk C "GoblinHouseholdModel" cX3_funds [] (some .int) "funds" 2 2 61) {K : Int32 → gS → Prop} {X : Nat → gS → Prop} (hK : ∀ r G, K r G → cxK C (some (vI r)) G) (hX : ∀ q G, X q G → cxX C q G) {G : gS} {t0 : Nat} {x1 : Int32} (h : wp_X3_funds (cxA C) G t0 x1 X K) : gGo C G 0 [(0, vQ (some t0)), (1, vI x1)] [] := by
  unfold wp_X3_funds at h
  refine g_aload_n hC (pc := 0) 0 rfl rfl dX3_funds_0 ?_
  refine g_iload_n hC (pc := 1) 1 rfl rfl dX3_funds_1 ?_
  refine g_iconst hC (pc := 2) (v := (1 : Int32)) (by decide) dX3_funds_2 ?_
  refine g_sipush hC (pc := 3) (v := (999 : Int32)) (by decide) dX3_funds_3 ?_
  refine g_callS hC (pc := 6) (b := 0) (As := [vI x1, vI (1 : Int32), vI (999 : Int32)]) gc_X3_isIn (m_X3_isIn hC.fl h) q2577 q2578 (gle rfl) (gle rfl) rfl (gle rfl) rfl dX3_funds_6 (gk_i fun r2 G1 h => ?_) (fun _ _ h hio => g_out0 hC (hX _ _ h) hio)
  obtain ⟨hi, h⟩ := h
  refine g_callV hC (pc := 9) (ci := 0) (As := [vI r2]) gc_X3_goes (m_X3_goes hC.fl h) rfl hi q2546 q2548 qs43 (gle rfl) (gle rfl) rfl (gle rfl) rfl dX3_funds_9 (gk_i fun r4 G3 h => ?_) (fun _ _ h hio => g_out0 hC (hX _ _ h) hio)
  refine g_if_ne hC (pc := 12) 17 h (by decide) dX3_funds_12 (fun h => ?_) (fun h => ?_)
  · refine g_aload_n hC (pc := 17) 0 rfl rfl dX3_funds_17 ?_
    refine g_getQ hC (pc := 18) in_X3 (ci := 0) rfl 0 (by decide) q2477 (Or.inl rfl) h dX3_funds_18 (fun q5 h => ?_)
    refine g_iconst hC (pc := 21) (v := (1 : Int32)) (by decide) dX3_funds_21 ?_
    refine g_dup2 hC (pc := 22) rfl rfl dX3_funds_22 ?_
    rcases q5 with _ | c6
    · exact (gNN0 h).elim
    replace h := gNN1 h
    refine g_aldI hC (pc := 23) h dX3_funds_23 (fun i7 h => ?_)
    refine g_iload_n hC (pc := 24) 1 rfl rfl dX3_funds_24 ?_
    refine g_iadd hC (pc := 25) dX3_funds_25 ?_
    refine g_astI hC (pc := 26) h dX3_funds_26 (fun G8 h => ?_)
    refine g_aload_n hC (pc := 27) 0 rfl rfl dX3_funds_27 ?_
    refine g_getQ hC (pc := 28) in_X3 (ci := 0) rfl 0 (by decide) q2477 (Or.inl rfl) h dX3_funds_28 (fun q9 h => ?_)
    refine g_iconst hC (pc := 31) (v := (2 : Int32)) (by decide) dX3_funds_31 ?_
    refine g_dup2 hC (pc := 32) rfl rfl dX3_funds_32 ?_
    rcases q9 with _ | c10
    · exact (gNN0 h).elim
    replace h := gNN1 h
    refine g_aldI hC (pc := 33) h dX3_funds_33 (fun i11 h => ?_)
    refine g_iload_n hC (pc := 34) 1 rfl rfl dX3_funds_34 ?_
    refine g_iadd hC (pc := 35) dX3_funds_35 ?_
    refine g_astI hC (pc := 36) h dX3_funds_36 (fun G12 h => ?_)
    refine g_aload_n hC (pc := 37) 0 rfl rfl dX3_funds_37 ?_
    refine g_getQ hC (pc := 38) in_X3 (ci := 0) rfl 0 (by decide) q2477 (Or.inl rfl) h dX3_funds_38 (fun q13 h => ?_)
    refine g_iconst hC (pc := 41) (v := (1 : Int32)) (by decide) dX3_funds_41 ?_
    rcases q13 with _ | c14
    · exact (gNN0 h).elim
    replace h := gNN1 h
    refine g_aldI hC (pc := 42) h dX3_funds_42 (fun i15 h => ?_)
    exact g_iret hC (pc := 43) (hK _ _ h) dX3_funds_43
  · refine g_iconst hC (pc := 15) (v := (0 : Int32)) (by decide) dX3_funds_15 ?_
    exact g_iret hC (pc := 16) (hK _ _ h) dX3_funds_16
theorem gc_X3_funds : gCode yX3_funds cX3_funds 2 (some .int) 1 := ⟨q2695, q105, ⟨by decide, by decide⟩, rfl⟩
theorem m_X3_funds {l : Launch} (hfl : l.stackTraces = false) {E : gE} {G : gS} {t0 : Nat} {x1 : Int32} {X : Nat → gS → Prop} {K : Int32 → gS → Prop} (h : wp_X3_funds (gAd E) G t0 x1 X K) : gMet l yX3_funds (ws_ yX3_funds cX3_funds 2 (some .int)) 2 61 [vQ (some t0), vI x1] E G (gRi K) X :=
  g_met hfl (plainFor_of_name (by decide +kernel)) rfl rfl rfl (gle rfl) (fun p e R s m args below meth c hC => w_X3_funds hC (fun _ _ h => h) (fun _ _ h => h) h)
def wp_X3_fund (ad : Nat → Nat) (G : gS) (t0 : Nat) (x1 : Int32) (X : Nat → gS → Prop) (K : Int32 → gS → Prop) : Prop :=
  (gIs G t0 0 ∧ wp_X3_begins ad G t0  X (fun G1 => (gIs G1 t0 0 ∧ wp_X3_funds ad G1 t0 x1 X (fun r3 G2 => (gIs G2 t0 0 ∧ wp_X3_ends ad G2 t0 r3 X (fun r5 G4 => K r5 G4))))))
theorem w_X3_fund {C : gCx} (hC : gOk C "GoblinHouseholdModel" cX3_fund [] (some .int) "fund" 2 3 90) {K : Int32 → gS → Prop} {X : Nat → gS → Prop} (hK : ∀ r G, K r G → cxK C (some (vI r)) G) (hX : ∀ q G, X q G → cxX C q G) {G : gS} {t0 : Nat} {x1 : Int32} (h : wp_X3_fund (cxA C) G t0 x1 X K) : gGo C G 0 [(0, vQ (some t0)), (1, vI x1)] [] := by
  unfold wp_X3_fund at h
  refine g_aload_n hC (pc := 0) 0 rfl rfl dX3_fund_0 ?_
  obtain ⟨hi, h⟩ := h
  refine g_callV hC (pc := 1) (ci := 0) (As := []) gc_X3_begins (m_X3_begins hC.fl h) rfl hi q2569 q2571 qs45 (gle rfl) (gle rfl) rfl (gle rfl) rfl dX3_fund_1 (gk_v fun G1 h => ?_) (fun _ _ h hio => g_out0 hC (hX _ _ h) hio)
  refine g_aload_n hC (pc := 4) 0 rfl rfl dX3_fund_4 ?_
  refine g_aload_n hC (pc := 5) 0 rfl rfl dX3_fund_5 ?_
  refine g_iload_n hC (pc := 6) 1 rfl rfl dX3_fund_6 ?_
  obtain ⟨hi, h⟩ := h
  refine g_callV hC (pc := 7) (ci := 0) (As := [vI x1]) gc_X3_funds (m_X3_funds hC.fl h) rfl hi q2692 q2694 qs65 (gle rfl) (gle rfl) rfl (gle rfl) rfl dX3_fund_7 (gk_i fun r3 G2 h => ?_) (fun _ _ h hio => g_out0 hC (hX _ _ h) hio)
  obtain ⟨hi, h⟩ := h
  refine g_callV hC (pc := 10) (ci := 0) (As := [vI r3]) gc_X3_ends (m_X3_ends hC.fl h) rfl hi q2580 q2582 qs47 (gle rfl) (gle rfl) rfl (gle rfl) rfl dX3_fund_10 (gk_i fun r5 G4 h => ?_) (fun _ _ h hio => g_out0 hC (hX _ _ h) hio)
  exact g_iret hC (pc := 13) (hK _ _ h) dX3_fund_13
theorem gc_X3_fund : gCode yX3_fund cX3_fund 2 (some .int) 1 := ⟨q2691, q105, ⟨by decide, by decide⟩, rfl⟩
theorem m_X3_fund {l : Launch} (hfl : l.stackTraces = false) {E : gE} {G : gS} {t0 : Nat} {x1 : Int32} {X : Nat → gS → Prop} {K : Int32 → gS → Prop} (h : wp_X3_fund (gAd E) G t0 x1 X K) : gMet l yX3_fund (ws_ yX3_fund cX3_fund 2 (some .int)) 3 90 [vQ (some t0), vI x1] E G (gRi K) X :=
  g_met hfl (plainFor_of_name (by decide +kernel)) rfl rfl rfl (gle rfl) (fun p e R s m args below meth c hC => w_X3_fund hC (fun _ _ h => h) (fun _ _ h => h) h)
def wp_X1_spend (ad : Nat → Nat) (G : gS) (t0 : Nat) (x1 : Int32) (X : Nat → gS → Prop) (K : Int32 → gS → Prop) : Prop :=
  wMkL G 11 [x1] fun c2 G1 => (gIs G1 t0 1 ∧ wp_X1_apply ad G1 t0 (some c2) X (fun r4 G3 => K r4 G3))
theorem w_X1_spend {C : gCx} (hC : gOk C "GoblinHousehold" cX1_spend [] (some .int) "spend" 2 18 3088) (hN : gNm C yX1_spend) {K : Int32 → gS → Prop} {X : Nat → gS → Prop} (hK : ∀ r G, K r G → cxK C (some (vI r)) G) (hX : ∀ q G, X q G → cxX C q G) {G : gS} {t0 : Nat} {x1 : Int32} (h : wp_X1_spend (cxA C) G t0 x1 X K) : gGo C G 0 [(0, vQ (some t0)), (1, vI x1)] [] := by
  unfold wp_X1_spend at h
  refine g_aload_n hC (pc := 0) 0 rfl rfl dX1_spend_0 ?_
  refine g_iload_n hC (pc := 1) 1 rfl rfl dX1_spend_1 ?_
  refine g_indyM hC (pc := 2) (q := gSite_11) (xs := [x1]) hN (List.mem_of_getElem? (i := 11) rfl) rfl (by decide) lok_11 q3057 q1614 gc_X1_lambda_spend_10 rfl rfl (gle rfl) (gle rfl) rfl rfl h dX1_spend_2 (fun c2 G1 h => ?_)
  obtain ⟨hi, h⟩ := h
  refine g_callVW hC (pc := 7) (ci := 1) (As := [vQ (some c2)]) gc_X1_apply (m_X1_apply hC.fl h) rfl hi q1049 q1051 qs12 (gle rfl) (gle rfl) rfl (gle rfl) rfl dX1_spend_7 (gk_i fun r4 G3 h => ?_) (fun _ _ h hio => g_out0 hC (hX _ _ h) hio)
  exact g_iret hC (pc := 10) (hK _ _ h) dX1_spend_10
theorem gc_X1_spend : gCode yX1_spend cX1_spend 2 (some .int) 1 := ⟨q1613, q94, ⟨by decide, by decide⟩, rfl⟩
theorem m_X1_spend {l : Launch} (hfl : l.stackTraces = false) {E : gE} {G : gS} {t0 : Nat} {x1 : Int32} {X : Nat → gS → Prop} {K : Int32 → gS → Prop} (h : wp_X1_spend (gAd E) G t0 x1 X K) : gMet l yX1_spend (ws_ yX1_spend cX1_spend 2 (some .int)) 18 3088 [vQ (some t0), vI x1] E G (gRi K) X :=
  g_metN hfl (plainFor_of_name (by decide +kernel)) rfl rfl rfl (gle rfl) (fun p e R s m args below meth c hC hN => w_X1_spend hC hN (fun _ _ h => h) (fun _ _ h => h) h)
def wp_X0_spend_12 (ad : Nat → Nat) (X : Nat → gS → Prop) (K : Int32 → gS → Prop) (G : gS) (ts0 : Nat) : Prop :=
  K (1 : Int32) G
theorem w_X0_spend_12 {C : gCx} (hC : gOk C "GoblinHouseholdLaw" cX0_spend [(0, 9, 12, 13), (0, 9, 15, 32)] (some .int) "spend" 4 19 3117) {K : Int32 → gS → Prop} {X : Nat → gS → Prop} (hK : ∀ r G, K r G → cxK C (some (vI r)) G) (hX : ∀ q G, X q G → cxX C q G) {G : gS} {ts0 : Nat} (h : wp_X0_spend_12 (cxA C) X K G ts0) : gGo C G 12 [] [vQ (some ts0)] := by
  unfold wp_X0_spend_12 at h
  refine g_astore_n hC (pc := 12) (lv' := [(3, vQ (some ts0))]) rfl (by decide) rfl dX0_spend_12 ?_
  refine g_iconst hC (pc := 13) (v := (1 : Int32)) (by decide) dX0_spend_13 ?_
  exact g_iret hC (pc := 14) (hK _ _ h) dX0_spend_14
def wp_X0_spend_15 (ad : Nat → Nat) (X : Nat → gS → Prop) (K : Int32 → gS → Prop) (G : gS) (ts0 : Nat) : Prop :=
  K (2 : Int32) G
theorem w_X0_spend_15 {C : gCx} (hC : gOk C "GoblinHouseholdLaw" cX0_spend [(0, 9, 12, 13), (0, 9, 15, 32)] (some .int) "spend" 4 19 3117) {K : Int32 → gS → Prop} {X : Nat → gS → Prop} (hK : ∀ r G, K r G → cxK C (some (vI r)) G) (hX : ∀ q G, X q G → cxX C q G) {G : gS} {ts0 : Nat} (h : wp_X0_spend_15 (cxA C) X K G ts0) : gGo C G 15 [] [vQ (some ts0)] := by
  unfold wp_X0_spend_15 at h
  refine g_astore_n hC (pc := 15) (lv' := [(3, vQ (some ts0))]) rfl (by decide) rfl dX0_spend_15 ?_
  refine g_iconst hC (pc := 16) (v := (2 : Int32)) (by decide) dX0_spend_16 ?_
  exact g_iret hC (pc := 17) (hK _ _ h) dX0_spend_17
def wp_X0_spend (ad : Nat → Nat) (G : gS) (o0 : Option Nat) (x1 : Int32) (o2 : Option Nat) (X : Nat → gS → Prop) (K : Int32 → gS → Prop) : Prop :=
  wNN o0 fun c1 => (gIs G c1 1 ∧ wp_X1_spend ad G c1 x1 (fun y3 G4 => (gHas G4 y3 21 ∧ (wp_X0_spend_12 ad X K G4 y3)) ∨ (gHas G4 y3 24 ∧ (wp_X0_spend_15 ad X K G4 y3))) (fun r5 G2 => wNN o2 fun c6 => wAstL G2 c6 (0 : Int32) ((r5).toInt64) fun G7 => K (0 : Int32) G7))
theorem w_X0_spend {C : gCx} (hC : gOk C "GoblinHouseholdLaw" cX0_spend [(0, 9, 12, 13), (0, 9, 15, 32)] (some .int) "spend" 4 19 3117) {K : Int32 → gS → Prop} {X : Nat → gS → Prop} (hK : ∀ r G, K r G → cxK C (some (vI r)) G) (hX : ∀ q G, X q G → cxX C q G) {G : gS} {o0 : Option Nat} {x1 : Int32} {o2 : Option Nat} (h : wp_X0_spend (cxA C) G o0 x1 o2 X K) : gGo C G 0 [(0, vQ o0), (1, vI x1), (2, vQ o2)] [] := by
  unfold wp_X0_spend at h
  refine g_aload_n hC (pc := 0) 2 rfl rfl dX0_spend_0 ?_
  refine g_iconst hC (pc := 1) (v := (0 : Int32)) (by decide) dX0_spend_1 ?_
  refine g_aload_n hC (pc := 2) 0 rfl rfl dX0_spend_2 ?_
  refine g_iload_n hC (pc := 3) 1 rfl rfl dX0_spend_3 ?_
  rcases o0 with _ | c1
  · exact (gNN0 h).elim
  replace h := gNN1 h
  obtain ⟨hi, h⟩ := h
  refine g_callV hC (pc := 4) (ci := 1) (As := [vI x1]) gc_X1_spend (m_X1_spend hC.fl h) rfl hi q1610 q1611 q1612 (gle rfl) (gle rfl) rfl (gle rfl) rfl dX0_spend_4 (gk_i fun r5 G2 h => ?_) (fun y3 G4 h hio => ?_)
  · refine g_i2l hC (pc := 7) dX0_spend_7 ?_
    rcases o2 with _ | c6
    · exact (gNN0 h).elim
    replace h := gNN1 h
    refine g_astL hC (pc := 8) h dX0_spend_8 (fun G7 h => ?_)
    refine g_goto hC (pc := 9) 18 (by decide) dX0_spend_9 ?_
    refine g_iconst hC (pc := 18) (v := (0 : Int32)) (by decide) dX0_spend_18 ?_
    exact g_iret hC (pc := 19) (hK _ _ h) dX0_spend_19
  · rcases h with h | h
    · obtain ⟨hq, h⟩ := h
      refine g_catchI hC (pc := 4) (ci := 21) rfl hq 0 rfl (fun _ h => nomatch h) rfl (by decide) q871 (List.mem_of_getElem? (i := 4) rfl) rfl ?_
      exact g_sub [] rfl (w_X0_spend_12 hC hK hX h)
    · obtain ⟨hq, h⟩ := h
      refine g_catchI hC (pc := 4) (ci := 24) rfl hq 1 rfl (List.forall_mem_cons.mpr ⟨Or.inr ⟨by decide, "java/lang/IllegalArgumentException", q871, (List.mem_of_getElem? (i := 21) rfl)⟩, fun _ h => nomatch h⟩) rfl (by decide) q1366 (List.mem_of_getElem? (i := 11) rfl) rfl ?_
      exact g_sub [] rfl (w_X0_spend_15 hC hK hX h)
theorem gc_X0_spend : gCodeW yX0_spend cX0_spend 4 (some .int) [(0, 9, 12, 13), (0, 9, 15, 32)] 3 := ⟨q1609, q93, ⟨by decide, by decide⟩, rfl⟩
theorem m_X0_spend {l : Launch} (hfl : l.stackTraces = false) {E : gE} {G : gS} {o0 : Option Nat} {x1 : Int32} {o2 : Option Nat} {X : Nat → gS → Prop} {K : Int32 → gS → Prop} (h : wp_X0_spend (gAd E) G o0 x1 o2 X K) : gMet l yX0_spend (wsW_ yX0_spend cX0_spend 4 (some .int) [(0, 9, 12, 13), (0, 9, 15, 32)]) 19 3117 [vQ o0, vI x1, vQ o2] E G (gRi K) X :=
  g_metW hfl (plainFor_of_name (by decide +kernel)) rfl rfl rfl (gle rfl) (fun p e R s m args below meth c hC => w_X0_spend hC (fun _ _ h => h) (fun _ _ h => h) h)
def wp_X3_spends_24 (ad : Nat → Nat) (X : Nat → gS → Prop) (K : Int32 → gS → Prop) (G : gS) (t0 : Nat) (x1 : Int32) (xs0 : Int32) (xs1 : Int32) (ts2 : Nat) : Prop :=
  (gIs G ts2 0 ∧ wp_X3_holds ad G ts2 xs1 xs0 (1 : Int32) (1 : Int32) X (fun r2 G1 => (¬ r2 = (0 : Int32) → wGetQ G1 t0 0 0 fun q3 => wNN q3 fun c4 => wAldI G1 c4 (1 : Int32) fun i5 => wAstI G1 c4 (1 : Int32) (i5 - x1) fun G6 => wGetQ G6 t0 0 0 fun q7 => wNN q7 fun c8 => wAldI G6 c8 (3 : Int32) fun i9 => wAstI G6 c8 (3 : Int32) (i9 + x1) fun G10 => wGetQ G10 t0 0 0 fun q11 => wNN q11 fun c12 => wAldI G10 c12 (1 : Int32) fun i13 => K i13 G10) ∧ (r2 = (0 : Int32) → K (0 : Int32) G1)))
theorem w_X3_spends_24 {C : gCx} (hC : gOk C "GoblinHouseholdModel" cX3_spends [] (some .int) "spends" 2 1 32) {K : Int32 → gS → Prop} {X : Nat → gS → Prop} (hK : ∀ r G, K r G → cxK C (some (vI r)) G) (hX : ∀ q G, X q G → cxX C q G) {G : gS} {t0 : Nat} {x1 : Int32} {xs0 : Int32} {xs1 : Int32} {ts2 : Nat} (h : wp_X3_spends_24 (cxA C) X K G t0 x1 xs0 xs1 ts2) : gGo C G 24 [(0, vQ (some t0)), (1, vI x1)] [vI xs0, vI xs1, vQ (some ts2)] := by
  unfold wp_X3_spends_24 at h
  refine g_iconst hC (pc := 24) (v := (1 : Int32)) (by decide) dX3_spends_24 ?_
  refine g_iconst hC (pc := 25) (v := (1 : Int32)) (by decide) dX3_spends_25 ?_
  obtain ⟨hi, h⟩ := h
  refine g_callV hC (pc := 26) (ci := 0) (As := [vI xs1, vI xs0, vI (1 : Int32), vI (1 : Int32)]) gc_X3_holds (m_X3_holds hC.fl h) rfl hi q2550 q2552 qs44 (gle rfl) (gle rfl) rfl (gle rfl) rfl dX3_spends_26 (gk_i fun r2 G1 h => ?_) (fun _ _ h hio => g_out0 hC (hX _ _ h) hio)
  refine g_if_ne hC (pc := 29) 34 h (by decide) dX3_spends_29 (fun h => ?_) (fun h => ?_)
  · refine g_aload_n hC (pc := 34) 0 rfl rfl dX3_spends_34 ?_
    refine g_getQ hC (pc := 35) in_X3 (ci := 0) rfl 0 (by decide) q2477 (Or.inl rfl) h dX3_spends_35 (fun q3 h => ?_)
    refine g_iconst hC (pc := 38) (v := (1 : Int32)) (by decide) dX3_spends_38 ?_
    refine g_dup2 hC (pc := 39) rfl rfl dX3_spends_39 ?_
    rcases q3 with _ | c4
    · exact (gNN0 h).elim
    replace h := gNN1 h
    refine g_aldI hC (pc := 40) h dX3_spends_40 (fun i5 h => ?_)
    refine g_iload_n hC (pc := 41) 1 rfl rfl dX3_spends_41 ?_
    refine g_isub hC (pc := 42) dX3_spends_42 ?_
    refine g_astI hC (pc := 43) h dX3_spends_43 (fun G6 h => ?_)
    refine g_aload_n hC (pc := 44) 0 rfl rfl dX3_spends_44 ?_
    refine g_getQ hC (pc := 45) in_X3 (ci := 0) rfl 0 (by decide) q2477 (Or.inl rfl) h dX3_spends_45 (fun q7 h => ?_)
    refine g_iconst hC (pc := 48) (v := (3 : Int32)) (by decide) dX3_spends_48 ?_
    refine g_dup2 hC (pc := 49) rfl rfl dX3_spends_49 ?_
    rcases q7 with _ | c8
    · exact (gNN0 h).elim
    replace h := gNN1 h
    refine g_aldI hC (pc := 50) h dX3_spends_50 (fun i9 h => ?_)
    refine g_iload_n hC (pc := 51) 1 rfl rfl dX3_spends_51 ?_
    refine g_iadd hC (pc := 52) dX3_spends_52 ?_
    refine g_astI hC (pc := 53) h dX3_spends_53 (fun G10 h => ?_)
    refine g_aload_n hC (pc := 54) 0 rfl rfl dX3_spends_54 ?_
    refine g_getQ hC (pc := 55) in_X3 (ci := 0) rfl 0 (by decide) q2477 (Or.inl rfl) h dX3_spends_55 (fun q11 h => ?_)
    refine g_iconst hC (pc := 58) (v := (1 : Int32)) (by decide) dX3_spends_58 ?_
    rcases q11 with _ | c12
    · exact (gNN0 h).elim
    replace h := gNN1 h
    refine g_aldI hC (pc := 59) h dX3_spends_59 (fun i13 h => ?_)
    exact g_iret hC (pc := 60) (hK _ _ h) dX3_spends_60
  · refine g_iconst hC (pc := 32) (v := (0 : Int32)) (by decide) dX3_spends_32 ?_
    exact g_iret hC (pc := 33) (hK _ _ h) dX3_spends_33
def wp_X3_spends (ad : Nat → Nat) (G : gS) (t0 : Nat) (x1 : Int32) (X : Nat → gS → Prop) (K : Int32 → gS → Prop) : Prop :=
  wp_X3_isIn ad G x1 (1 : Int32) (999 : Int32) X (fun r2 G1 => wGetQ G1 t0 0 0 fun q3 => wNN q3 fun c4 => wAldI G1 c4 (1 : Int32) fun i5 => (i5 < x1 → wp_X3_spends_24 ad X K G1 t0 x1 (0 : Int32) r2 t0) ∧ (¬ i5 < x1 → wp_X3_spends_24 ad X K G1 t0 x1 (1 : Int32) r2 t0))
theorem w_X3_spends {C : gCx} (hC : gOk C "GoblinHouseholdModel" cX3_spends [] (some .int) "spends" 2 1 32) {K : Int32 → gS → Prop} {X : Nat → gS → Prop} (hK : ∀ r G, K r G → cxK C (some (vI r)) G) (hX : ∀ q G, X q G → cxX C q G) {G : gS} {t0 : Nat} {x1 : Int32} (h : wp_X3_spends (cxA C) G t0 x1 X K) : gGo C G 0 [(0, vQ (some t0)), (1, vI x1)] [] := by
  unfold wp_X3_spends at h
  refine g_aload_n hC (pc := 0) 0 rfl rfl dX3_spends_0 ?_
  refine g_iload_n hC (pc := 1) 1 rfl rfl dX3_spends_1 ?_
  refine g_iconst hC (pc := 2) (v := (1 : Int32)) (by decide) dX3_spends_2 ?_
  refine g_sipush hC (pc := 3) (v := (999 : Int32)) (by decide) dX3_spends_3 ?_
  refine g_callS hC (pc := 6) (b := 0) (As := [vI x1, vI (1 : Int32), vI (999 : Int32)]) gc_X3_isIn (m_X3_isIn hC.fl h) q2577 q2578 (gle rfl) (gle rfl) rfl (gle rfl) rfl dX3_spends_6 (gk_i fun r2 G1 h => ?_) (fun _ _ h hio => g_out0 hC (hX _ _ h) hio)
  refine g_iload_n hC (pc := 9) 1 rfl rfl dX3_spends_9 ?_
  refine g_aload_n hC (pc := 10) 0 rfl rfl dX3_spends_10 ?_
  refine g_getQ hC (pc := 11) in_X3 (ci := 0) rfl 0 (by decide) q2477 (Or.inl rfl) h dX3_spends_11 (fun q3 h => ?_)
  refine g_iconst hC (pc := 14) (v := (1 : Int32)) (by decide) dX3_spends_14 ?_
  rcases q3 with _ | c4
  · exact (gNN0 h).elim
  replace h := gNN1 h
  refine g_aldI hC (pc := 15) h dX3_spends_15 (fun i5 h => ?_)
  refine g_icmp_gt hC (pc := 16) 23 h (by decide) dX3_spends_16 (fun h => ?_) (fun h => ?_)
  · refine g_iconst hC (pc := 23) (v := (0 : Int32)) (by decide) dX3_spends_23 ?_
    exact g_sub [0, 1] rfl (w_X3_spends_24 hC hK hX h)
  · refine g_iconst hC (pc := 19) (v := (1 : Int32)) (by decide) dX3_spends_19 ?_
    refine g_goto hC (pc := 20) 24 (by decide) dX3_spends_20 ?_
    exact g_sub [0, 1] rfl (w_X3_spends_24 hC hK hX h)
theorem gc_X3_spends : gCode yX3_spends cX3_spends 2 (some .int) 1 := ⟨q2703, q105, ⟨by decide, by decide⟩, rfl⟩
theorem m_X3_spends {l : Launch} (hfl : l.stackTraces = false) {E : gE} {G : gS} {t0 : Nat} {x1 : Int32} {X : Nat → gS → Prop} {K : Int32 → gS → Prop} (h : wp_X3_spends (gAd E) G t0 x1 X K) : gMet l yX3_spends (ws_ yX3_spends cX3_spends 2 (some .int)) 1 32 [vQ (some t0), vI x1] E G (gRi K) X :=
  g_met hfl (plainFor_of_name (by decide +kernel)) rfl rfl rfl (gle rfl) (fun p e R s m args below meth c hC => w_X3_spends hC (fun _ _ h => h) (fun _ _ h => h) h)
def wp_X3_spend (ad : Nat → Nat) (G : gS) (t0 : Nat) (x1 : Int32) (X : Nat → gS → Prop) (K : Int32 → gS → Prop) : Prop :=
  (gIs G t0 0 ∧ wp_X3_begins ad G t0  X (fun G1 => (gIs G1 t0 0 ∧ wp_X3_spends ad G1 t0 x1 X (fun r3 G2 => (gIs G2 t0 0 ∧ wp_X3_ends ad G2 t0 r3 X (fun r5 G4 => K r5 G4))))))
theorem w_X3_spend {C : gCx} (hC : gOk C "GoblinHouseholdModel" cX3_spend [] (some .int) "spend" 2 3 90) {K : Int32 → gS → Prop} {X : Nat → gS → Prop} (hK : ∀ r G, K r G → cxK C (some (vI r)) G) (hX : ∀ q G, X q G → cxX C q G) {G : gS} {t0 : Nat} {x1 : Int32} (h : wp_X3_spend (cxA C) G t0 x1 X K) : gGo C G 0 [(0, vQ (some t0)), (1, vI x1)] [] := by
  unfold wp_X3_spend at h
  refine g_aload_n hC (pc := 0) 0 rfl rfl dX3_spend_0 ?_
  obtain ⟨hi, h⟩ := h
  refine g_callV hC (pc := 1) (ci := 0) (As := []) gc_X3_begins (m_X3_begins hC.fl h) rfl hi q2569 q2571 qs45 (gle rfl) (gle rfl) rfl (gle rfl) rfl dX3_spend_1 (gk_v fun G1 h => ?_) (fun _ _ h hio => g_out0 hC (hX _ _ h) hio)
  refine g_aload_n hC (pc := 4) 0 rfl rfl dX3_spend_4 ?_
  refine g_aload_n hC (pc := 5) 0 rfl rfl dX3_spend_5 ?_
  refine g_iload_n hC (pc := 6) 1 rfl rfl dX3_spend_6 ?_
  obtain ⟨hi, h⟩ := h
  refine g_callV hC (pc := 7) (ci := 0) (As := [vI x1]) gc_X3_spends (m_X3_spends hC.fl h) rfl hi q2700 q2702 qs66 (gle rfl) (gle rfl) rfl (gle rfl) rfl dX3_spend_7 (gk_i fun r3 G2 h => ?_) (fun _ _ h hio => g_out0 hC (hX _ _ h) hio)
  obtain ⟨hi, h⟩ := h
  refine g_callV hC (pc := 10) (ci := 0) (As := [vI r3]) gc_X3_ends (m_X3_ends hC.fl h) rfl hi q2580 q2582 qs47 (gle rfl) (gle rfl) rfl (gle rfl) rfl dX3_spend_10 (gk_i fun r5 G4 h => ?_) (fun _ _ h hio => g_out0 hC (hX _ _ h) hio)
  exact g_iret hC (pc := 13) (hK _ _ h) dX3_spend_13
theorem gc_X3_spend : gCode yX3_spend cX3_spend 2 (some .int) 1 := ⟨q2699, q105, ⟨by decide, by decide⟩, rfl⟩
theorem m_X3_spend {l : Launch} (hfl : l.stackTraces = false) {E : gE} {G : gS} {t0 : Nat} {x1 : Int32} {X : Nat → gS → Prop} {K : Int32 → gS → Prop} (h : wp_X3_spend (gAd E) G t0 x1 X K) : gMet l yX3_spend (ws_ yX3_spend cX3_spend 2 (some .int)) 3 90 [vQ (some t0), vI x1] E G (gRi K) X :=
  g_met hfl (plainFor_of_name (by decide +kernel)) rfl rfl rfl (gle rfl) (fun p e R s m args below meth c hC => w_X3_spend hC (fun _ _ h => h) (fun _ _ h => h) h)
def wp_X1_passNights (ad : Nat → Nat) (G : gS) (t0 : Nat) (x1 : Int32) (X : Nat → gS → Prop) (K : Int32 → gS → Prop) : Prop :=
  wMkL G 12 [x1] fun c2 G1 => (gIs G1 t0 1 ∧ wp_X1_apply ad G1 t0 (some c2) X (fun r4 G3 => K r4 G3))
theorem w_X1_passNights {C : gCx} (hC : gOk C "GoblinHousehold" cX1_passNights [] (some .int) "passNights" 2 18 3088) (hN : gNm C yX1_passNights) {K : Int32 → gS → Prop} {X : Nat → gS → Prop} (hK : ∀ r G, K r G → cxK C (some (vI r)) G) (hX : ∀ q G, X q G → cxX C q G) {G : gS} {t0 : Nat} {x1 : Int32} (h : wp_X1_passNights (cxA C) G t0 x1 X K) : gGo C G 0 [(0, vQ (some t0)), (1, vI x1)] [] := by
  unfold wp_X1_passNights at h
  refine g_aload_n hC (pc := 0) 0 rfl rfl dX1_passNights_0 ?_
  refine g_iload_n hC (pc := 1) 1 rfl rfl dX1_passNights_1 ?_
  refine g_indyM hC (pc := 2) (q := gSite_12) (xs := [x1]) hN (List.mem_of_getElem? (i := 12) rfl) rfl (by decide) lok_12 q3057 q1627 gc_X1_lambda_passNights_11 rfl rfl (gle rfl) (gle rfl) rfl rfl h dX1_passNights_2 (fun c2 G1 h => ?_)
  obtain ⟨hi, h⟩ := h
  refine g_callVW hC (pc := 7) (ci := 1) (As := [vQ (some c2)]) gc_X1_apply (m_X1_apply hC.fl h) rfl hi q1049 q1051 qs12 (gle rfl) (gle rfl) rfl (gle rfl) rfl dX1_passNights_7 (gk_i fun r4 G3 h => ?_) (fun _ _ h hio => g_out0 hC (hX _ _ h) hio)
  exact g_iret hC (pc := 10) (hK _ _ h) dX1_passNights_10
theorem gc_X1_passNights : gCode yX1_passNights cX1_passNights 2 (some .int) 1 := ⟨q1626, q94, ⟨by decide, by decide⟩, rfl⟩
theorem m_X1_passNights {l : Launch} (hfl : l.stackTraces = false) {E : gE} {G : gS} {t0 : Nat} {x1 : Int32} {X : Nat → gS → Prop} {K : Int32 → gS → Prop} (h : wp_X1_passNights (gAd E) G t0 x1 X K) : gMet l yX1_passNights (ws_ yX1_passNights cX1_passNights 2 (some .int)) 18 3088 [vQ (some t0), vI x1] E G (gRi K) X :=
  g_metN hfl (plainFor_of_name (by decide +kernel)) rfl rfl rfl (gle rfl) (fun p e R s m args below meth c hC hN => w_X1_passNights hC hN (fun _ _ h => h) (fun _ _ h => h) h)
def wp_X0_passNights_12 (ad : Nat → Nat) (X : Nat → gS → Prop) (K : Int32 → gS → Prop) (G : gS) (ts0 : Nat) : Prop :=
  K (1 : Int32) G
theorem w_X0_passNights_12 {C : gCx} (hC : gOk C "GoblinHouseholdLaw" cX0_passNights [(0, 9, 12, 13)] (some .int) "passNights" 4 19 3117) {K : Int32 → gS → Prop} {X : Nat → gS → Prop} (hK : ∀ r G, K r G → cxK C (some (vI r)) G) (hX : ∀ q G, X q G → cxX C q G) {G : gS} {ts0 : Nat} (h : wp_X0_passNights_12 (cxA C) X K G ts0) : gGo C G 12 [] [vQ (some ts0)] := by
  unfold wp_X0_passNights_12 at h
  refine g_astore_n hC (pc := 12) (lv' := [(3, vQ (some ts0))]) rfl (by decide) rfl dX0_passNights_12 ?_
  refine g_iconst hC (pc := 13) (v := (1 : Int32)) (by decide) dX0_passNights_13 ?_
  exact g_iret hC (pc := 14) (hK _ _ h) dX0_passNights_14
def wp_X0_passNights (ad : Nat → Nat) (G : gS) (o0 : Option Nat) (x1 : Int32) (o2 : Option Nat) (X : Nat → gS → Prop) (K : Int32 → gS → Prop) : Prop :=
  wNN o0 fun c1 => (gIs G c1 1 ∧ wp_X1_passNights ad G c1 x1 (fun y3 G4 => (gHas G4 y3 21 ∧ (wp_X0_passNights_12 ad X K G4 y3))) (fun r5 G2 => wNN o2 fun c6 => wAstL G2 c6 (0 : Int32) ((r5).toInt64) fun G7 => K (0 : Int32) G7))
theorem w_X0_passNights {C : gCx} (hC : gOk C "GoblinHouseholdLaw" cX0_passNights [(0, 9, 12, 13)] (some .int) "passNights" 4 19 3117) {K : Int32 → gS → Prop} {X : Nat → gS → Prop} (hK : ∀ r G, K r G → cxK C (some (vI r)) G) (hX : ∀ q G, X q G → cxX C q G) {G : gS} {o0 : Option Nat} {x1 : Int32} {o2 : Option Nat} (h : wp_X0_passNights (cxA C) G o0 x1 o2 X K) : gGo C G 0 [(0, vQ o0), (1, vI x1), (2, vQ o2)] [] := by
  unfold wp_X0_passNights at h
  refine g_aload_n hC (pc := 0) 2 rfl rfl dX0_passNights_0 ?_
  refine g_iconst hC (pc := 1) (v := (0 : Int32)) (by decide) dX0_passNights_1 ?_
  refine g_aload_n hC (pc := 2) 0 rfl rfl dX0_passNights_2 ?_
  refine g_iload_n hC (pc := 3) 1 rfl rfl dX0_passNights_3 ?_
  rcases o0 with _ | c1
  · exact (gNN0 h).elim
  replace h := gNN1 h
  obtain ⟨hi, h⟩ := h
  refine g_callV hC (pc := 4) (ci := 1) (As := [vI x1]) gc_X1_passNights (m_X1_passNights hC.fl h) rfl hi q1623 q1624 q1625 (gle rfl) (gle rfl) rfl (gle rfl) rfl dX0_passNights_4 (gk_i fun r5 G2 h => ?_) (fun y3 G4 h hio => ?_)
  · refine g_i2l hC (pc := 7) dX0_passNights_7 ?_
    rcases o2 with _ | c6
    · exact (gNN0 h).elim
    replace h := gNN1 h
    refine g_astL hC (pc := 8) h dX0_passNights_8 (fun G7 h => ?_)
    refine g_goto hC (pc := 9) 15 (by decide) dX0_passNights_9 ?_
    refine g_iconst hC (pc := 15) (v := (0 : Int32)) (by decide) dX0_passNights_15 ?_
    exact g_iret hC (pc := 16) (hK _ _ h) dX0_passNights_16
  · obtain ⟨hq, h⟩ := h
    refine g_catchI hC (pc := 4) (ci := 21) rfl hq 0 rfl (fun _ h => nomatch h) rfl (by decide) q871 (List.mem_of_getElem? (i := 4) rfl) rfl ?_
    exact g_sub [] rfl (w_X0_passNights_12 hC hK hX h)
theorem gc_X0_passNights : gCodeW yX0_passNights cX0_passNights 4 (some .int) [(0, 9, 12, 13)] 3 := ⟨q1622, q93, ⟨by decide, by decide⟩, rfl⟩
theorem m_X0_passNights {l : Launch} (hfl : l.stackTraces = false) {E : gE} {G : gS} {o0 : Option Nat} {x1 : Int32} {o2 : Option Nat} {X : Nat → gS → Prop} {K : Int32 → gS → Prop} (h : wp_X0_passNights (gAd E) G o0 x1 o2 X K) : gMet l yX0_passNights (wsW_ yX0_passNights cX0_passNights 4 (some .int) [(0, 9, 12, 13)]) 19 3117 [vQ o0, vI x1, vQ o2] E G (gRi K) X :=
  g_metW hfl (plainFor_of_name (by decide +kernel)) rfl rfl rfl (gle rfl) (fun p e R s m args below meth c hC => w_X0_passNights hC (fun _ _ h => h) (fun _ _ h => h) h)
def wp_X3_energyOf (ad : Nat → Nat) (G : gS) (t0 : Nat) (x1 : Int32) (X : Nat → gS → Prop) (K : Int32 → gS → Prop) : Prop :=
  (gIs G t0 0 ∧ wp_X3_of ad G t0 x1 (0 : Int32) X (fun r2 G1 => (gIs G1 t0 0 ∧ wp_X3_inUse ad G1 t0  X (fun r4 G3 => K (r2 * (r4 + (1 : Int32))) G3))))
theorem w_X3_energyOf {C : gCx} (hC : gOk C "GoblinHouseholdModel" cX3_energyOf [] (some .int) "energyOf" 2 4 119) {K : Int32 → gS → Prop} {X : Nat → gS → Prop} (hK : ∀ r G, K r G → cxK C (some (vI r)) G) (hX : ∀ q G, X q G → cxX C q G) {G : gS} {t0 : Nat} {x1 : Int32} (h : wp_X3_energyOf (cxA C) G t0 x1 X K) : gGo C G 0 [(0, vQ (some t0)), (1, vI x1)] [] := by
  unfold wp_X3_energyOf at h
  refine g_aload_n hC (pc := 0) 0 rfl rfl dX3_energyOf_0 ?_
  refine g_iload_n hC (pc := 1) 1 rfl rfl dX3_energyOf_1 ?_
  refine g_iconst hC (pc := 2) (v := (0 : Int32)) (by decide) dX3_energyOf_2 ?_
  obtain ⟨hi, h⟩ := h
  refine g_callV hC (pc := 3) (ci := 0) (As := [vI x1, vI (0 : Int32)]) gc_X3_of (m_X3_of hC.fl h) rfl hi q2632 q2634 qs56 (gle rfl) (gle rfl) rfl (gle rfl) rfl dX3_energyOf_3 (gk_i fun r2 G1 h => ?_) (fun _ _ h hio => g_out0 hC (hX _ _ h) hio)
  refine g_aload_n hC (pc := 6) 0 rfl rfl dX3_energyOf_6 ?_
  obtain ⟨hi, h⟩ := h
  refine g_callV hC (pc := 7) (ci := 0) (As := []) gc_X3_inUse (m_X3_inUse hC.fl h) rfl hi q2612 q2614 qs53 (gle rfl) (gle rfl) rfl (gle rfl) rfl dX3_energyOf_7 (gk_i fun r4 G3 h => ?_) (fun _ _ h hio => g_out0 hC (hX _ _ h) hio)
  refine g_iconst hC (pc := 10) (v := (1 : Int32)) (by decide) dX3_energyOf_10 ?_
  refine g_iadd hC (pc := 11) dX3_energyOf_11 ?_
  refine g_imul hC (pc := 12) dX3_energyOf_12 ?_
  exact g_iret hC (pc := 13) (hK _ _ h) dX3_energyOf_13
theorem gc_X3_energyOf : gCode yX3_energyOf cX3_energyOf 2 (some .int) 1 := ⟨q2723, q105, ⟨by decide, by decide⟩, rfl⟩
theorem m_X3_energyOf {l : Launch} (hfl : l.stackTraces = false) {E : gE} {G : gS} {t0 : Nat} {x1 : Int32} {X : Nat → gS → Prop} {K : Int32 → gS → Prop} (h : wp_X3_energyOf (gAd E) G t0 x1 X K) : gMet l yX3_energyOf (ws_ yX3_energyOf cX3_energyOf 2 (some .int)) 4 119 [vQ (some t0), vI x1] E G (gRi K) X :=
  g_met hfl (plainFor_of_name (by decide +kernel)) rfl rfl rfl (gle rfl) (fun p e R s m args below meth c hC => w_X3_energyOf hC (fun _ _ h => h) (fun _ _ h => h) h)
def wp_X3_greatestPower_39 (ad : Nat → Nat) (X : Nat → gS → Prop) (K : Int32 → gS → Prop) (J4 : gS → Nat → Int32 → Int32 → Prop) (G : gS) (t0 : Nat) (x2 : Int32) (xs0 : Int32) : Prop :=
  J4 G t0 xs0 (x2 + (1 : Int32))
theorem w_X3_greatestPower_39 {C : gCx} (hC : gOk C "GoblinHouseholdModel" cX3_greatestPower [] (some .int) "greatestPower" 3 3 89) {K : Int32 → gS → Prop} {X : Nat → gS → Prop} (hK : ∀ r G, K r G → cxK C (some (vI r)) G) (hX : ∀ q G, X q G → cxX C q G) {J4 : gS → Nat → Int32 → Int32 → Prop} (hJ4 : ∀ G z0 z1 z2, J4 G z0 z1 z2 → gGo C G 4 [(0, vQ (some z0)), (1, vI z1), (2, vI z2)] []) {G : gS} {t0 : Nat} {x2 : Int32} {xs0 : Int32} (h : wp_X3_greatestPower_39 (cxA C) X K J4 G t0 x2 xs0) : gGo C G 39 [(0, vQ (some t0)), (2, vI x2)] [vI xs0] := by
  unfold wp_X3_greatestPower_39 at h
  refine g_istore_n hC (pc := 39) (lv' := [(1, vI xs0), (0, vQ (some t0)), (2, vI x2)]) rfl (by decide) rfl dX3_greatestPower_39 ?_
  refine g_iinc hC (pc := 40) 2 (d := (1 : Int32)) (v := (x2 + (1 : Int32))) (lv' := [(2, vI (x2 + (1 : Int32))), (1, vI xs0), (0, vQ (some t0))]) rfl (by decide) rfl (by decide) rfl dX3_greatestPower_40 ?_
  refine g_goto hC (pc := 43) 4 (by decide) dX3_greatestPower_43 ?_
  exact g_sub [2, 1, 0] rfl (hJ4 _ _ _ _ h)
def wp_X3_greatestPower_4 (ad : Nat → Nat) (X : Nat → gS → Prop) (K : Int32 → gS → Prop) (J4 : gS → Nat → Int32 → Int32 → Prop) (G : gS) (t0 : Nat) (x1 : Int32) (x2 : Int32) : Prop :=
  wGetQ G t0 0 0 fun q1 => wNN q1 fun c2 => wAldI G c2 (8 : Int32) fun i3 => (i3 ≤ x2 → K x1 G) ∧ (¬ i3 ≤ x2 → (gIs G t0 0 ∧ wp_X3_ofBroom ad G t0 x2 (1 : Int32) X (fun r5 G4 => (¬ r5 = (1 : Int32) → (gIs G4 t0 0 ∧ wp_X3_ofBroom ad G4 t0 x2 (0 : Int32) X (fun r7 G6 => wp_X3_greatestPower_39 ad X K J4 G6 t0 x2 (if x1 < r7 then r7 else x1)))) ∧ (r5 = (1 : Int32) → wp_X3_greatestPower_39 ad X K J4 G4 t0 x2 x1))))
theorem w_X3_greatestPower_4 {C : gCx} (hC : gOk C "GoblinHouseholdModel" cX3_greatestPower [] (some .int) "greatestPower" 3 3 89) {K : Int32 → gS → Prop} {X : Nat → gS → Prop} (hK : ∀ r G, K r G → cxK C (some (vI r)) G) (hX : ∀ q G, X q G → cxX C q G) (n : Nat) : ∀ (G : gS) (t0 : Nat) (x1 : Int32) (x2 : Int32), gLoop (fun _ _ _ _ => False) (wp_X3_greatestPower_4 (cxA C) X K) n G t0 x1 x2 → gGo C G 4 [(0, vQ (some t0)), (1, vI x1), (2, vI x2)] [] := by
  induction n with
  | zero => intro G t0 x1 x2 h; exact h.elim
  | succ n ih =>
    intro G t0 x1 x2 h
    have hJ4 := ih
    replace h : wp_X3_greatestPower_4 (cxA C) X K _ G t0 x1 x2 := h
    unfold wp_X3_greatestPower_4 at h
    refine g_iload_n hC (pc := 4) 2 rfl rfl dX3_greatestPower_4 ?_
    refine g_aload_n hC (pc := 5) 0 rfl rfl dX3_greatestPower_5 ?_
    refine g_getQ hC (pc := 6) in_X3 (ci := 0) rfl 0 (by decide) q2477 (Or.inl rfl) h dX3_greatestPower_6 (fun q1 h => ?_)
    refine g_bipush hC (pc := 9) (v := (8 : Int32)) (by decide) dX3_greatestPower_9 ?_
    rcases q1 with _ | c2
    · exact (gNN0 h).elim
    replace h := gNN1 h
    refine g_aldI hC (pc := 11) h dX3_greatestPower_11 (fun i3 h => ?_)
    refine g_icmp_ge hC (pc := 12) 46 h (by decide) dX3_greatestPower_12 (fun h => ?_) (fun h => ?_)
    · refine g_iload_n hC (pc := 46) 1 rfl rfl dX3_greatestPower_46 ?_
      exact g_iret hC (pc := 47) (hK _ _ h) dX3_greatestPower_47
    · refine g_aload_n hC (pc := 15) 0 rfl rfl dX3_greatestPower_15 ?_
      refine g_iload_n hC (pc := 16) 2 rfl rfl dX3_greatestPower_16 ?_
      refine g_iconst hC (pc := 17) (v := (1 : Int32)) (by decide) dX3_greatestPower_17 ?_
      obtain ⟨hi, h⟩ := h
      refine g_callV hC (pc := 18) (ci := 0) (As := [vI x2, vI (1 : Int32)]) gc_X3_ofBroom (m_X3_ofBroom hC.fl h) rfl hi q2608 q2610 qs52 (gle rfl) (gle rfl) rfl (gle rfl) rfl dX3_greatestPower_18 (gk_i fun r5 G4 h => ?_) (fun _ _ h hio => g_out0 hC (hX _ _ h) hio)
      refine g_iconst hC (pc := 21) (v := (1 : Int32)) (by decide) dX3_greatestPower_21 ?_
      refine g_icmp_ne hC (pc := 22) 29 h (by decide) dX3_greatestPower_22 (fun h => ?_) (fun h => ?_)
      · refine g_iload_n hC (pc := 29) 1 rfl rfl dX3_greatestPower_29 ?_
        refine g_aload_n hC (pc := 30) 0 rfl rfl dX3_greatestPower_30 ?_
        refine g_iload_n hC (pc := 31) 2 rfl rfl dX3_greatestPower_31 ?_
        refine g_iconst hC (pc := 32) (v := (0 : Int32)) (by decide) dX3_greatestPower_32 ?_
        obtain ⟨hi, h⟩ := h
        refine g_callV hC (pc := 33) (ci := 0) (As := [vI x2, vI (0 : Int32)]) gc_X3_ofBroom (m_X3_ofBroom hC.fl h) rfl hi q2608 q2610 qs52 (gle rfl) (gle rfl) rfl (gle rfl) rfl dX3_greatestPower_33 (gk_i fun r7 G6 h => ?_) (fun _ _ h hio => g_out0 hC (hX _ _ h) hio)
        refine g_max hC (pc := 36) q2728 q471 q114 q472 (gle rfl) (gle rfl) (gle rfl) dX3_greatestPower_36 ?_
        exact g_sub [0, 2] rfl (w_X3_greatestPower_39 hC hK hX hJ4 h)
      · refine g_iload_n hC (pc := 25) 1 rfl rfl dX3_greatestPower_25 ?_
        refine g_goto hC (pc := 26) 39 (by decide) dX3_greatestPower_26 ?_
        exact g_sub [0, 2] rfl (w_X3_greatestPower_39 hC hK hX hJ4 h)
def wp_X3_greatestPower (ad : Nat → Nat) (G : gS) (t0 : Nat) (X : Nat → gS → Prop) (K : Int32 → gS → Prop) : Prop :=
  gLoop (fun _ _ _ _ => False) (wp_X3_greatestPower_4 ad X K) gFuel G t0 (0 : Int32) (0 : Int32)
theorem w_X3_greatestPower {C : gCx} (hC : gOk C "GoblinHouseholdModel" cX3_greatestPower [] (some .int) "greatestPower" 3 3 89) {K : Int32 → gS → Prop} {X : Nat → gS → Prop} (hK : ∀ r G, K r G → cxK C (some (vI r)) G) (hX : ∀ q G, X q G → cxX C q G) {G : gS} {t0 : Nat} (h : wp_X3_greatestPower (cxA C) G t0 X K) : gGo C G 0 [(0, vQ (some t0))] [] := by
  unfold wp_X3_greatestPower at h
  refine g_iconst hC (pc := 0) (v := (0 : Int32)) (by decide) dX3_greatestPower_0 ?_
  refine g_istore_n hC (pc := 1) (lv' := [(1, vI (0 : Int32)), (0, vQ (some t0))]) rfl (by decide) rfl dX3_greatestPower_1 ?_
  refine g_iconst hC (pc := 2) (v := (0 : Int32)) (by decide) dX3_greatestPower_2 ?_
  refine g_istore_n hC (pc := 3) (lv' := [(2, vI (0 : Int32)), (1, vI (0 : Int32)), (0, vQ (some t0))]) rfl (by decide) rfl dX3_greatestPower_3 ?_
  exact g_sub [2, 1, 0] rfl (w_X3_greatestPower_4 hC hK hX gFuel _ _ _ _ h)
theorem gc_X3_greatestPower : gCode yX3_greatestPower cX3_greatestPower 3 (some .int) 0 := ⟨q2727, q105, ⟨by decide, by decide⟩, rfl⟩
theorem m_X3_greatestPower {l : Launch} (hfl : l.stackTraces = false) {E : gE} {G : gS} {t0 : Nat} {X : Nat → gS → Prop} {K : Int32 → gS → Prop} (h : wp_X3_greatestPower (gAd E) G t0 X K) : gMet l yX3_greatestPower (ws_ yX3_greatestPower cX3_greatestPower 3 (some .int)) 3 89 [vQ (some t0)] E G (gRi K) X :=
  g_met hfl (plainFor_of_name (by decide +kernel)) rfl rfl rfl (gle rfl) (fun p e R s m args below meth c hC => w_X3_greatestPower hC (fun _ _ h => h) (fun _ _ h => h) h)
def wp_X3_pays (ad : Nat → Nat) (G : gS) (t0 : Nat) (x1 : Int32) (X : Nat → gS → Prop) (K : gS → Prop) : Prop :=
  (gIs G t0 0 ∧ wp_X3_ofContract ad G t0 x1 (1 : Int32) X (fun r2 G1 => (gIs G1 t0 0 ∧ wp_X3_ofContract ad G1 t0 x1 (3 : Int32) X (fun r4 G3 => wGetQ G3 t0 0 0 fun q5 => wNN q5 fun c6 => wAldI G3 c6 (1 : Int32) fun i7 => (gIs G3 t0 0 ∧ wp_X3_of ad G3 t0 r2 (2 : Int32) X (fun r9 G8 => wGetQ G8 t0 0 0 fun q10 => wNN q10 fun c11 => wAldI G8 c11 (1 : Int32) fun i12 => wAstI G8 c11 (1 : Int32) (i12 + ((if r9 < (if i7 < r4 then i7 else r4) then r9 else (if i7 < r4 then i7 else r4)) - (if i7 < r4 then i7 else r4))) fun G13 => wGetQ G13 t0 0 0 fun q14 => (gIs G13 t0 0 ∧ wp_X3_place ad G13 t0 r2 (2 : Int32) X (fun r16 G15 => wNN q14 fun c17 => wAldI G15 c17 r16 fun i18 => wAstI G15 c17 r16 (i18 - (if r9 < (if i7 < r4 then i7 else r4) then r9 else (if i7 < r4 then i7 else r4))) fun G19 => wGetQ G19 t0 0 0 fun q20 => (gIs G19 t0 0 ∧ wp_X3_place ad G19 t0 r2 (1 : Int32) X (fun r22 G21 => wNN q20 fun c23 => wAldI G21 c23 r22 fun i24 => wAstI G21 c23 r22 (i24 + ((if i7 < r4 then i7 else r4) - (if r9 < (if i7 < r4 then i7 else r4) then r9 else (if i7 < r4 then i7 else r4)))) fun G25 => wGetQ G25 t0 0 0 fun q26 => wNN q26 fun c27 => wAldI G25 c27 (6 : Int32) fun i28 => (gIs G25 t0 0 ∧ wp_X3_ofContract ad G25 t0 x1 (3 : Int32) X (fun r30 G29 => wAstI G29 c27 (6 : Int32) (i28 + (r30 - (if i7 < r4 then i7 else r4))) fun G31 => K G31))))))))))))
theorem w_X3_pays {C : gCx} (hC : gOk C "GoblinHouseholdModel" cX3_pays [] none "pays" 5 4 119) {K : gS → Prop} {X : Nat → gS → Prop} (hK : ∀ G, K G → cxK C none G) (hX : ∀ q G, X q G → cxX C q G) {G : gS} {t0 : Nat} {x1 : Int32} (h : wp_X3_pays (cxA C) G t0 x1 X K) : gGo C G 0 [(0, vQ (some t0)), (1, vI x1)] [] := by
  unfold wp_X3_pays at h
  refine g_aload_n hC (pc := 0) 0 rfl rfl dX3_pays_0 ?_
  refine g_iload_n hC (pc := 1) 1 rfl rfl dX3_pays_1 ?_
  refine g_iconst hC (pc := 2) (v := (1 : Int32)) (by decide) dX3_pays_2 ?_
  obtain ⟨hi, h⟩ := h
  refine g_callV hC (pc := 3) (ci := 0) (As := [vI x1, vI (1 : Int32)]) gc_X3_ofContract (m_X3_ofContract hC.fl h) rfl hi q2659 q2661 qs60 (gle rfl) (gle rfl) rfl (gle rfl) rfl dX3_pays_3 (gk_i fun r2 G1 h => ?_) (fun _ _ h hio => g_out0 hC (hX _ _ h) hio)
  refine g_istore_n hC (pc := 6) (lv' := [(2, vI r2), (0, vQ (some t0)), (1, vI x1)]) rfl (by decide) rfl dX3_pays_6 ?_
  refine g_aload_n hC (pc := 7) 1 rfl rfl dX3_pays_7 ?_
  refine g_iload_n hC (pc := 8) 2 rfl rfl dX3_pays_8 ?_
  refine g_iconst hC (pc := 9) (v := (3 : Int32)) (by decide) dX3_pays_9 ?_
  obtain ⟨hi, h⟩ := h
  refine g_callV hC (pc := 10) (ci := 0) (As := [vI x1, vI (3 : Int32)]) gc_X3_ofContract (m_X3_ofContract hC.fl h) rfl hi q2659 q2661 qs60 (gle rfl) (gle rfl) rfl (gle rfl) rfl dX3_pays_10 (gk_i fun r4 G3 h => ?_) (fun _ _ h hio => g_out0 hC (hX _ _ h) hio)
  refine g_aload_n hC (pc := 13) 1 rfl rfl dX3_pays_13 ?_
  refine g_getQ hC (pc := 14) in_X3 (ci := 0) rfl 0 (by decide) q2477 (Or.inl rfl) h dX3_pays_14 (fun q5 h => ?_)
  refine g_iconst hC (pc := 17) (v := (1 : Int32)) (by decide) dX3_pays_17 ?_
  rcases q5 with _ | c6
  · exact (gNN0 h).elim
  replace h := gNN1 h
  refine g_aldI hC (pc := 18) h dX3_pays_18 (fun i7 h => ?_)
  refine g_min hC (pc := 19) q2675 q489 q114 q490 (gle rfl) (gle rfl) (gle rfl) dX3_pays_19 ?_
  refine g_istore_n hC (pc := 22) (lv' := [(3, vI (if i7 < r4 then i7 else r4)), (2, vI r2), (0, vQ (some t0)), (1, vI x1)]) rfl (by decide) rfl dX3_pays_22 ?_
  refine g_iload_n hC (pc := 23) 0 rfl rfl dX3_pays_23 ?_
  refine g_aload_n hC (pc := 24) 2 rfl rfl dX3_pays_24 ?_
  refine g_iload_n hC (pc := 25) 1 rfl rfl dX3_pays_25 ?_
  refine g_iconst hC (pc := 26) (v := (2 : Int32)) (by decide) dX3_pays_26 ?_
  obtain ⟨hi, h⟩ := h
  refine g_callV hC (pc := 27) (ci := 0) (As := [vI r2, vI (2 : Int32)]) gc_X3_of (m_X3_of hC.fl h) rfl hi q2632 q2634 qs56 (gle rfl) (gle rfl) rfl (gle rfl) rfl dX3_pays_27 (gk_i fun r9 G8 h => ?_) (fun _ _ h hio => g_out0 hC (hX _ _ h) hio)
  refine g_min hC (pc := 30) q2675 q489 q114 q490 (gle rfl) (gle rfl) (gle rfl) dX3_pays_30 ?_
  refine g_istore hC (pc := 33) (lv' := [(4, vI (if r9 < (if i7 < r4 then i7 else r4) then r9 else (if i7 < r4 then i7 else r4))), (3, vI (if i7 < r4 then i7 else r4)), (2, vI r2), (0, vQ (some t0)), (1, vI x1)]) (by decide) rfl dX3_pays_33 ?_
  refine g_aload_n hC (pc := 35) 3 rfl rfl dX3_pays_35 ?_
  refine g_getQ hC (pc := 36) in_X3 (ci := 0) rfl 0 (by decide) q2477 (Or.inl rfl) h dX3_pays_36 (fun q10 h => ?_)
  refine g_iconst hC (pc := 39) (v := (1 : Int32)) (by decide) dX3_pays_39 ?_
  refine g_dup2 hC (pc := 40) rfl rfl dX3_pays_40 ?_
  rcases q10 with _ | c11
  · exact (gNN0 h).elim
  replace h := gNN1 h
  refine g_aldI hC (pc := 41) h dX3_pays_41 (fun i12 h => ?_)
  refine g_iload hC (pc := 42) 0 rfl dX3_pays_42 ?_
  refine g_iload_n hC (pc := 44) 1 rfl rfl dX3_pays_44 ?_
  refine g_isub hC (pc := 45) dX3_pays_45 ?_
  refine g_iadd hC (pc := 46) dX3_pays_46 ?_
  refine g_astI hC (pc := 47) h dX3_pays_47 (fun G13 h => ?_)
  refine g_aload_n hC (pc := 48) 3 rfl rfl dX3_pays_48 ?_
  refine g_getQ hC (pc := 49) in_X3 (ci := 0) rfl 0 (by decide) q2477 (Or.inl rfl) h dX3_pays_49 (fun q14 h => ?_)
  refine g_aload_n hC (pc := 52) 3 rfl rfl dX3_pays_52 ?_
  refine g_iload_n hC (pc := 53) 2 rfl rfl dX3_pays_53 ?_
  refine g_iconst hC (pc := 54) (v := (2 : Int32)) (by decide) dX3_pays_54 ?_
  obtain ⟨hi, h⟩ := h
  refine g_callV hC (pc := 55) (ci := 0) (As := [vI r2, vI (2 : Int32)]) gc_X3_place (m_X3_place hC.fl h) rfl hi q2636 q2638 qs57 (gle rfl) (gle rfl) rfl (gle rfl) rfl dX3_pays_55 (gk_i fun r16 G15 h => ?_) (fun _ _ h hio => g_out0 hC (hX _ _ h) hio)
  refine g_dup2 hC (pc := 58) rfl rfl dX3_pays_58 ?_
  rcases q14 with _ | c17
  · exact (gNN0 h).elim
  replace h := gNN1 h
  refine g_aldI hC (pc := 59) h dX3_pays_59 (fun i18 h => ?_)
  refine g_iload hC (pc := 60) 0 rfl dX3_pays_60 ?_
  refine g_isub hC (pc := 62) dX3_pays_62 ?_
  refine g_astI hC (pc := 63) h dX3_pays_63 (fun G19 h => ?_)
  refine g_aload_n hC (pc := 64) 3 rfl rfl dX3_pays_64 ?_
  refine g_getQ hC (pc := 65) in_X3 (ci := 0) rfl 0 (by decide) q2477 (Or.inl rfl) h dX3_pays_65 (fun q20 h => ?_)
  refine g_aload_n hC (pc := 68) 3 rfl rfl dX3_pays_68 ?_
  refine g_iload_n hC (pc := 69) 2 rfl rfl dX3_pays_69 ?_
  refine g_iconst hC (pc := 70) (v := (1 : Int32)) (by decide) dX3_pays_70 ?_
  obtain ⟨hi, h⟩ := h
  refine g_callV hC (pc := 71) (ci := 0) (As := [vI r2, vI (1 : Int32)]) gc_X3_place (m_X3_place hC.fl h) rfl hi q2636 q2638 qs57 (gle rfl) (gle rfl) rfl (gle rfl) rfl dX3_pays_71 (gk_i fun r22 G21 h => ?_) (fun _ _ h hio => g_out0 hC (hX _ _ h) hio)
  refine g_dup2 hC (pc := 74) rfl rfl dX3_pays_74 ?_
  rcases q20 with _ | c23
  · exact (gNN0 h).elim
  replace h := gNN1 h
  refine g_aldI hC (pc := 75) h dX3_pays_75 (fun i24 h => ?_)
  refine g_iload_n hC (pc := 76) 1 rfl rfl dX3_pays_76 ?_
  refine g_iload hC (pc := 77) 0 rfl dX3_pays_77 ?_
  refine g_isub hC (pc := 79) dX3_pays_79 ?_
  refine g_iadd hC (pc := 80) dX3_pays_80 ?_
  refine g_astI hC (pc := 81) h dX3_pays_81 (fun G25 h => ?_)
  refine g_aload_n hC (pc := 82) 3 rfl rfl dX3_pays_82 ?_
  refine g_getQ hC (pc := 83) in_X3 (ci := 0) rfl 0 (by decide) q2477 (Or.inl rfl) h dX3_pays_83 (fun q26 h => ?_)
  refine g_bipush hC (pc := 86) (v := (6 : Int32)) (by decide) dX3_pays_86 ?_
  refine g_dup2 hC (pc := 88) rfl rfl dX3_pays_88 ?_
  rcases q26 with _ | c27
  · exact (gNN0 h).elim
  replace h := gNN1 h
  refine g_aldI hC (pc := 89) h dX3_pays_89 (fun i28 h => ?_)
  refine g_aload_n hC (pc := 90) 3 rfl rfl dX3_pays_90 ?_
  refine g_iload_n hC (pc := 91) 4 rfl rfl dX3_pays_91 ?_
  refine g_iconst hC (pc := 92) (v := (3 : Int32)) (by decide) dX3_pays_92 ?_
  obtain ⟨hi, h⟩ := h
  refine g_callV hC (pc := 93) (ci := 0) (As := [vI x1, vI (3 : Int32)]) gc_X3_ofContract (m_X3_ofContract hC.fl h) rfl hi q2659 q2661 qs60 (gle rfl) (gle rfl) rfl (gle rfl) rfl dX3_pays_93 (gk_i fun r30 G29 h => ?_) (fun _ _ h hio => g_out0 hC (hX _ _ h) hio)
  refine g_iload_n hC (pc := 96) 1 rfl rfl dX3_pays_96 ?_
  refine g_isub hC (pc := 97) dX3_pays_97 ?_
  refine g_iadd hC (pc := 98) dX3_pays_98 ?_
  refine g_astI hC (pc := 99) h dX3_pays_99 (fun G31 h => ?_)
  exact g_vret hC (pc := 100) (hK _ h) dX3_pays_100
theorem gc_X3_pays : gCode yX3_pays cX3_pays 5 none 1 := ⟨q2732, q105, ⟨by decide, by decide⟩, rfl⟩
theorem m_X3_pays {l : Launch} (hfl : l.stackTraces = false) {E : gE} {G : gS} {t0 : Nat} {x1 : Int32} {X : Nat → gS → Prop} {K : gS → Prop} (h : wp_X3_pays (gAd E) G t0 x1 X K) : gMet l yX3_pays (ws_ yX3_pays cX3_pays 5 none) 4 119 [vQ (some t0), vI x1] E G (gRv K) X :=
  g_met hfl (plainFor_of_name (by decide +kernel)) rfl rfl rfl (gle rfl) (fun p e R s m args below meth c hC => w_X3_pays hC (fun _ h => h) (fun _ _ h => h) h)
def wp_X3_works_20 (ad : Nat → Nat) (X : Nat → gS → Prop) (K : Int32 → gS → Prop) (J20 : gS → Nat → Int32 → Int32 → Int32 → Int32 → Int32 → Prop) (G : gS) (t0 : Nat) (x1 : Int32) (x2 : Int32) (x3 : Int32) (x4 : Int32) (x5 : Int32) : Prop :=
  wGetQ G t0 0 0 fun q1 => wNN q1 fun c2 => wAldI G c2 (11 : Int32) fun i3 => (i3 ≤ x5 → K x4 G) ∧ (¬ i3 ≤ x5 → (gIs G t0 0 ∧ wp_X3_ofContract ad G t0 x5 (1 : Int32) X (fun r5 G4 => (r5 = x1 → (gIs G4 t0 0 ∧ wp_X3_ofContract ad G4 t0 x5 (4 : Int32) X (fun r7 G6 => (x2 < r7 → K x4 G6) ∧ (¬ x2 < r7 → (gIs G6 t0 0 ∧ wp_X3_ofContract ad G6 t0 x5 (4 : Int32) X (fun r9 G8 => (gIs G8 t0 0 ∧ wp_X3_ofContract ad G8 t0 x5 (2 : Int32) X (fun r11 G10 => wGetQ G10 t0 0 0 fun q12 => wGetQ G10 t0 0 0 fun q13 => wNN q13 fun c14 => wAldI G10 c14 ((12 : Int32) + r11) fun i15 => wNN q12 fun c16 => wAstI G10 c16 ((12 : Int32) + r11) (if (0 : Int32) < (i15 - x3) then (i15 - x3) else (0 : Int32)) fun G17 => (gIs G17 t0 0 ∧ wp_X3_pays ad G17 t0 x5 X (fun G18 => (gIs G18 t0 0 ∧ wp_X3_drops ad G18 t0 x5 X (fun G19 => J20 G19 t0 x1 (x2 - r9) x3 (x4 + (1 : Int32)) x5)))))))))))) ∧ (¬ r5 = x1 → J20 G4 t0 x1 x2 x3 x4 (x5 + (1 : Int32))))))
theorem w_X3_works_20 {C : gCx} (hC : gOk C "GoblinHouseholdModel" cX3_works [] (some .int) "works" 7 5 151) {K : Int32 → gS → Prop} {X : Nat → gS → Prop} (hK : ∀ r G, K r G → cxK C (some (vI r)) G) (hX : ∀ q G, X q G → cxX C q G) (n : Nat) : ∀ (G : gS) (t0 : Nat) (x1 : Int32) (x2 : Int32) (x3 : Int32) (x4 : Int32) (x5 : Int32), gLoop (fun _ _ _ _ _ _ _ => False) (wp_X3_works_20 (cxA C) X K) n G t0 x1 x2 x3 x4 x5 → gGo C G 20 [(0, vQ (some t0)), (1, vI x1), (2, vI x2), (3, vI x3), (4, vI x4), (5, vI x5)] [] := by
  induction n with
  | zero => intro G t0 x1 x2 x3 x4 x5 h; exact h.elim
  | succ n ih =>
    intro G t0 x1 x2 x3 x4 x5 h
    have hJ20 := ih
    replace h : wp_X3_works_20 (cxA C) X K _ G t0 x1 x2 x3 x4 x5 := h
    unfold wp_X3_works_20 at h
    refine g_iload hC (pc := 20) 5 rfl dX3_works_20 ?_
    refine g_aload_n hC (pc := 22) 0 rfl rfl dX3_works_22 ?_
    refine g_getQ hC (pc := 23) in_X3 (ci := 0) rfl 0 (by decide) q2477 (Or.inl rfl) h dX3_works_23 (fun q1 h => ?_)
    refine g_bipush hC (pc := 26) (v := (11 : Int32)) (by decide) dX3_works_26 ?_
    rcases q1 with _ | c2
    · exact (gNN0 h).elim
    replace h := gNN1 h
    refine g_aldI hC (pc := 28) h dX3_works_28 (fun i3 h => ?_)
    refine g_icmp_ge hC (pc := 29) 123 h (by decide) dX3_works_29 (fun h => ?_) (fun h => ?_)
    · refine g_iload hC (pc := 123) 4 rfl dX3_works_123 ?_
      exact g_iret hC (pc := 125) (hK _ _ h) dX3_works_125
    · refine g_aload_n hC (pc := 32) 0 rfl rfl dX3_works_32 ?_
      refine g_iload hC (pc := 33) 5 rfl dX3_works_33 ?_
      refine g_iconst hC (pc := 35) (v := (1 : Int32)) (by decide) dX3_works_35 ?_
      obtain ⟨hi, h⟩ := h
      refine g_callV hC (pc := 36) (ci := 0) (As := [vI x5, vI (1 : Int32)]) gc_X3_ofContract (m_X3_ofContract hC.fl h) rfl hi q2659 q2661 qs60 (gle rfl) (gle rfl) rfl (gle rfl) rfl dX3_works_36 (gk_i fun r5 G4 h => ?_) (fun _ _ h hio => g_out0 hC (hX _ _ h) hio)
      refine g_iload_n hC (pc := 39) 1 rfl rfl dX3_works_39 ?_
      refine g_icmp_eq hC (pc := 40) 49 h (by decide) dX3_works_40 (fun h => ?_) (fun h => ?_)
      · refine g_aload_n hC (pc := 49) 0 rfl rfl dX3_works_49 ?_
        refine g_iload hC (pc := 50) 5 rfl dX3_works_50 ?_
        refine g_iconst hC (pc := 52) (v := (4 : Int32)) (by decide) dX3_works_52 ?_
        obtain ⟨hi, h⟩ := h
        refine g_callV hC (pc := 53) (ci := 0) (As := [vI x5, vI (4 : Int32)]) gc_X3_ofContract (m_X3_ofContract hC.fl h) rfl hi q2659 q2661 qs60 (gle rfl) (gle rfl) rfl (gle rfl) rfl dX3_works_53 (gk_i fun r7 G6 h => ?_) (fun _ _ h hio => g_out0 hC (hX _ _ h) hio)
        refine g_iload_n hC (pc := 56) 2 rfl rfl dX3_works_56 ?_
        refine g_icmp_gt hC (pc := 57) 120 h (by decide) dX3_works_57 (fun h => ?_) (fun h => ?_)
        · refine g_iload hC (pc := 120) 4 rfl dX3_works_120 ?_
          exact g_iret hC (pc := 122) (hK _ _ h) dX3_works_122
        · refine g_iload_n hC (pc := 60) 2 rfl rfl dX3_works_60 ?_
          refine g_aload_n hC (pc := 61) 0 rfl rfl dX3_works_61 ?_
          refine g_iload hC (pc := 62) 5 rfl dX3_works_62 ?_
          refine g_iconst hC (pc := 64) (v := (4 : Int32)) (by decide) dX3_works_64 ?_
          obtain ⟨hi, h⟩ := h
          refine g_callV hC (pc := 65) (ci := 0) (As := [vI x5, vI (4 : Int32)]) gc_X3_ofContract (m_X3_ofContract hC.fl h) rfl hi q2659 q2661 qs60 (gle rfl) (gle rfl) rfl (gle rfl) rfl dX3_works_65 (gk_i fun r9 G8 h => ?_) (fun _ _ h hio => g_out0 hC (hX _ _ h) hio)
          refine g_isub hC (pc := 68) dX3_works_68 ?_
          refine g_istore_n hC (pc := 69) (lv' := [(2, vI (x2 - r9)), (0, vQ (some t0)), (1, vI x1), (3, vI x3), (4, vI x4), (5, vI x5)]) rfl (by decide) rfl dX3_works_69 ?_
          refine g_bipush hC (pc := 70) (v := (12 : Int32)) (by decide) dX3_works_70 ?_
          refine g_aload_n hC (pc := 72) 1 rfl rfl dX3_works_72 ?_
          refine g_iload hC (pc := 73) 5 rfl dX3_works_73 ?_
          refine g_iconst hC (pc := 75) (v := (2 : Int32)) (by decide) dX3_works_75 ?_
          obtain ⟨hi, h⟩ := h
          refine g_callV hC (pc := 76) (ci := 0) (As := [vI x5, vI (2 : Int32)]) gc_X3_ofContract (m_X3_ofContract hC.fl h) rfl hi q2659 q2661 qs60 (gle rfl) (gle rfl) rfl (gle rfl) rfl dX3_works_76 (gk_i fun r11 G10 h => ?_) (fun _ _ h hio => g_out0 hC (hX _ _ h) hio)
          refine g_iadd hC (pc := 79) dX3_works_79 ?_
          refine g_istore hC (pc := 80) (lv' := [(6, vI ((12 : Int32) + r11)), (2, vI (x2 - r9)), (0, vQ (some t0)), (1, vI x1), (3, vI x3), (4, vI x4), (5, vI x5)]) (by decide) rfl dX3_works_80 ?_
          refine g_aload_n hC (pc := 82) 2 rfl rfl dX3_works_82 ?_
          refine g_getQ hC (pc := 83) in_X3 (ci := 0) rfl 0 (by decide) q2477 (Or.inl rfl) h dX3_works_83 (fun q12 h => ?_)
          refine g_iload hC (pc := 86) 0 rfl dX3_works_86 ?_
          refine g_iconst hC (pc := 88) (v := (0 : Int32)) (by decide) dX3_works_88 ?_
          refine g_aload_n hC (pc := 89) 2 rfl rfl dX3_works_89 ?_
          refine g_getQ hC (pc := 90) in_X3 (ci := 0) rfl 0 (by decide) q2477 (Or.inl rfl) h dX3_works_90 (fun q13 h => ?_)
          refine g_iload hC (pc := 93) 0 rfl dX3_works_93 ?_
          rcases q13 with _ | c14
          · exact (gNN0 h).elim
          replace h := gNN1 h
          refine g_aldI hC (pc := 95) h dX3_works_95 (fun i15 h => ?_)
          refine g_iload_n hC (pc := 96) 4 rfl rfl dX3_works_96 ?_
          refine g_isub hC (pc := 97) dX3_works_97 ?_
          refine g_max hC (pc := 98) q2728 q471 q114 q472 (gle rfl) (gle rfl) (gle rfl) dX3_works_98 ?_
          rcases q12 with _ | c16
          · exact (gNN0 h).elim
          replace h := gNN1 h
          refine g_astI hC (pc := 101) h dX3_works_101 (fun G17 h => ?_)
          refine g_aload_n hC (pc := 102) 2 rfl rfl dX3_works_102 ?_
          refine g_iload hC (pc := 103) 6 rfl dX3_works_103 ?_
          obtain ⟨hi, h⟩ := h
          refine g_callV hC (pc := 105) (ci := 0) (As := [vI x5]) gc_X3_pays (m_X3_pays hC.fl h) rfl hi q2729 q2731 qs72 (gle rfl) (gle rfl) rfl (gle rfl) rfl dX3_works_105 (gk_v fun G18 h => ?_) (fun _ _ h hio => g_out0 hC (hX _ _ h) hio)
          refine g_aload_n hC (pc := 108) 2 rfl rfl dX3_works_108 ?_
          refine g_iload hC (pc := 109) 6 rfl dX3_works_109 ?_
          obtain ⟨hi, h⟩ := h
          refine g_callV hC (pc := 111) (ci := 0) (As := [vI x5]) gc_X3_drops (m_X3_drops hC.fl h) rfl hi q2676 q2678 qs63 (gle rfl) (gle rfl) rfl (gle rfl) rfl dX3_works_111 (gk_v fun G19 h => ?_) (fun _ _ h hio => g_out0 hC (hX _ _ h) hio)
          refine g_iinc hC (pc := 114) 5 (d := (1 : Int32)) (v := (x4 + (1 : Int32))) (lv' := [(4, vI (x4 + (1 : Int32))), (6, vI ((12 : Int32) + r11)), (2, vI (x2 - r9)), (0, vQ (some t0)), (1, vI x1), (3, vI x3), (5, vI x5)]) rfl (by decide) rfl (by decide) rfl dX3_works_114 ?_
          refine g_goto hC (pc := 117) 20 (by decide) dX3_works_117 ?_
          exact g_sub [3, 4, 2, 5, 0, 6] rfl (hJ20 _ _ _ _ _ _ _ h)
      · refine g_iinc hC (pc := 43) 5 (d := (1 : Int32)) (v := (x5 + (1 : Int32))) (lv' := [(5, vI (x5 + (1 : Int32))), (0, vQ (some t0)), (1, vI x1), (2, vI x2), (3, vI x3), (4, vI x4)]) rfl (by decide) rfl (by decide) rfl dX3_works_43 ?_
        refine g_goto hC (pc := 46) 20 (by decide) dX3_works_46 ?_
        exact g_sub [1, 2, 3, 4, 5, 0] rfl (hJ20 _ _ _ _ _ _ _ h)
def wp_X3_works (ad : Nat → Nat) (G : gS) (t0 : Nat) (x1 : Int32) (X : Nat → gS → Prop) (K : Int32 → gS → Prop) : Prop :=
  (gIs G t0 0 ∧ wp_X3_energyOf ad G t0 x1 X (fun r2 G1 => (gIs G1 t0 0 ∧ wp_X3_greatestPower ad G1 t0  X (fun r4 G3 => gLoop (fun _ _ _ _ _ _ _ => False) (wp_X3_works_20 ad X K) gFuel G3 t0 x1 r2 ((10 : Int32) + r4) (0 : Int32) (0 : Int32)))))
theorem w_X3_works {C : gCx} (hC : gOk C "GoblinHouseholdModel" cX3_works [] (some .int) "works" 7 5 151) {K : Int32 → gS → Prop} {X : Nat → gS → Prop} (hK : ∀ r G, K r G → cxK C (some (vI r)) G) (hX : ∀ q G, X q G → cxX C q G) {G : gS} {t0 : Nat} {x1 : Int32} (h : wp_X3_works (cxA C) G t0 x1 X K) : gGo C G 0 [(0, vQ (some t0)), (1, vI x1)] [] := by
  unfold wp_X3_works at h
  refine g_aload_n hC (pc := 0) 0 rfl rfl dX3_works_0 ?_
  refine g_iload_n hC (pc := 1) 1 rfl rfl dX3_works_1 ?_
  obtain ⟨hi, h⟩ := h
  refine g_callV hC (pc := 2) (ci := 0) (As := [vI x1]) gc_X3_energyOf (m_X3_energyOf hC.fl h) rfl hi q2720 q2722 qs70 (gle rfl) (gle rfl) rfl (gle rfl) rfl dX3_works_2 (gk_i fun r2 G1 h => ?_) (fun _ _ h hio => g_out0 hC (hX _ _ h) hio)
  refine g_istore_n hC (pc := 5) (lv' := [(2, vI r2), (0, vQ (some t0)), (1, vI x1)]) rfl (by decide) rfl dX3_works_5 ?_
  refine g_bipush hC (pc := 6) (v := (10 : Int32)) (by decide) dX3_works_6 ?_
  refine g_aload_n hC (pc := 8) 1 rfl rfl dX3_works_8 ?_
  obtain ⟨hi, h⟩ := h
  refine g_callV hC (pc := 9) (ci := 0) (As := []) gc_X3_greatestPower (m_X3_greatestPower hC.fl h) rfl hi q2724 q2726 qs71 (gle rfl) (gle rfl) rfl (gle rfl) rfl dX3_works_9 (gk_i fun r4 G3 h => ?_) (fun _ _ h hio => g_out0 hC (hX _ _ h) hio)
  refine g_iadd hC (pc := 12) dX3_works_12 ?_
  refine g_istore_n hC (pc := 13) (lv' := [(3, vI ((10 : Int32) + r4)), (2, vI r2), (0, vQ (some t0)), (1, vI x1)]) rfl (by decide) rfl dX3_works_13 ?_
  refine g_iconst hC (pc := 14) (v := (0 : Int32)) (by decide) dX3_works_14 ?_
  refine g_istore hC (pc := 15) (lv' := [(4, vI (0 : Int32)), (3, vI ((10 : Int32) + r4)), (2, vI r2), (0, vQ (some t0)), (1, vI x1)]) (by decide) rfl dX3_works_15 ?_
  refine g_iconst hC (pc := 17) (v := (0 : Int32)) (by decide) dX3_works_17 ?_
  refine g_istore hC (pc := 18) (lv' := [(5, vI (0 : Int32)), (4, vI (0 : Int32)), (3, vI ((10 : Int32) + r4)), (2, vI r2), (0, vQ (some t0)), (1, vI x1)]) (by decide) rfl dX3_works_18 ?_
  exact g_sub [4, 5, 3, 2, 1, 0] rfl (w_X3_works_20 hC hK hX gFuel _ _ _ _ _ _ _ h)
theorem gc_X3_works : gCode yX3_works cX3_works 7 (some .int) 1 := ⟨q2719, q105, ⟨by decide, by decide⟩, rfl⟩
theorem m_X3_works {l : Launch} (hfl : l.stackTraces = false) {E : gE} {G : gS} {t0 : Nat} {x1 : Int32} {X : Nat → gS → Prop} {K : Int32 → gS → Prop} (h : wp_X3_works (gAd E) G t0 x1 X K) : gMet l yX3_works (ws_ yX3_works cX3_works 7 (some .int)) 5 151 [vQ (some t0), vI x1] E G (gRi K) X :=
  g_met hfl (plainFor_of_name (by decide +kernel)) rfl rfl rfl (gle rfl) (fun p e R s m args below meth c hC => w_X3_works hC (fun _ _ h => h) (fun _ _ h => h) h)
def wp_X3_breaks_2 (ad : Nat → Nat) (X : Nat → gS → Prop) (K : gS → Prop) (J2 : gS → Nat → Int32 → Int32 → Prop) (G : gS) (t0 : Nat) (x1 : Int32) (x2 : Int32) : Prop :=
  wGetQ G t0 0 0 fun q1 => wNN q1 fun c2 => wAldI G c2 (11 : Int32) fun i3 => (i3 ≤ x2 → K G) ∧ (¬ i3 ≤ x2 → (gIs G t0 0 ∧ wp_X3_ofContract ad G t0 x2 (1 : Int32) X (fun r5 G4 => (¬ r5 = x1 → J2 G4 t0 x1 (x2 + (1 : Int32))) ∧ (r5 = x1 → (gIs G4 t0 0 ∧ wp_X3_drops ad G4 t0 x2 X (fun G6 => wGetQ G6 t0 0 0 fun q7 => wNN q7 fun c8 => wAldI G6 c8 (5 : Int32) fun i9 => wAstI G6 c8 (5 : Int32) (i9 + (1 : Int32)) fun G10 => J2 G10 t0 x1 x2))))))
theorem w_X3_breaks_2 {C : gCx} (hC : gOk C "GoblinHouseholdModel" cX3_breaks [] none "breaks" 3 1 30) {K : gS → Prop} {X : Nat → gS → Prop} (hK : ∀ G, K G → cxK C none G) (hX : ∀ q G, X q G → cxX C q G) (n : Nat) : ∀ (G : gS) (t0 : Nat) (x1 : Int32) (x2 : Int32), gLoop (fun _ _ _ _ => False) (wp_X3_breaks_2 (cxA C) X K) n G t0 x1 x2 → gGo C G 2 [(0, vQ (some t0)), (1, vI x1), (2, vI x2)] [] := by
  induction n with
  | zero => intro G t0 x1 x2 h; exact h.elim
  | succ n ih =>
    intro G t0 x1 x2 h
    have hJ2 := ih
    replace h : wp_X3_breaks_2 (cxA C) X K _ G t0 x1 x2 := h
    unfold wp_X3_breaks_2 at h
    refine g_iload_n hC (pc := 2) 2 rfl rfl dX3_breaks_2 ?_
    refine g_aload_n hC (pc := 3) 0 rfl rfl dX3_breaks_3 ?_
    refine g_getQ hC (pc := 4) in_X3 (ci := 0) rfl 0 (by decide) q2477 (Or.inl rfl) h dX3_breaks_4 (fun q1 h => ?_)
    refine g_bipush hC (pc := 7) (v := (11 : Int32)) (by decide) dX3_breaks_7 ?_
    rcases q1 with _ | c2
    · exact (gNN0 h).elim
    replace h := gNN1 h
    refine g_aldI hC (pc := 9) h dX3_breaks_9 (fun i3 h => ?_)
    refine g_icmp_ge hC (pc := 10) 47 h (by decide) dX3_breaks_10 (fun h => ?_) (fun h => ?_)
    · exact g_vret hC (pc := 47) (hK _ h) dX3_breaks_47
    · refine g_aload_n hC (pc := 13) 0 rfl rfl dX3_breaks_13 ?_
      refine g_iload_n hC (pc := 14) 2 rfl rfl dX3_breaks_14 ?_
      refine g_iconst hC (pc := 15) (v := (1 : Int32)) (by decide) dX3_breaks_15 ?_
      obtain ⟨hi, h⟩ := h
      refine g_callV hC (pc := 16) (ci := 0) (As := [vI x2, vI (1 : Int32)]) gc_X3_ofContract (m_X3_ofContract hC.fl h) rfl hi q2659 q2661 qs60 (gle rfl) (gle rfl) rfl (gle rfl) rfl dX3_breaks_16 (gk_i fun r5 G4 h => ?_) (fun _ _ h hio => g_out0 hC (hX _ _ h) hio)
      refine g_iload_n hC (pc := 19) 1 rfl rfl dX3_breaks_19 ?_
      refine g_icmp_ne hC (pc := 20) 41 h (by decide) dX3_breaks_20 (fun h => ?_) (fun h => ?_)
      · refine g_iinc hC (pc := 41) 2 (d := (1 : Int32)) (v := (x2 + (1 : Int32))) (lv' := [(2, vI (x2 + (1 : Int32))), (0, vQ (some t0)), (1, vI x1)]) rfl (by decide) rfl (by decide) rfl dX3_breaks_41 ?_
        refine g_goto hC (pc := 44) 2 (by decide) dX3_breaks_44 ?_
        exact g_sub [1, 2, 0] rfl (hJ2 _ _ _ _ h)
      · refine g_aload_n hC (pc := 23) 0 rfl rfl dX3_breaks_23 ?_
        refine g_iload_n hC (pc := 24) 2 rfl rfl dX3_breaks_24 ?_
        obtain ⟨hi, h⟩ := h
        refine g_callV hC (pc := 25) (ci := 0) (As := [vI x2]) gc_X3_drops (m_X3_drops hC.fl h) rfl hi q2676 q2678 qs63 (gle rfl) (gle rfl) rfl (gle rfl) rfl dX3_breaks_25 (gk_v fun G6 h => ?_) (fun _ _ h hio => g_out0 hC (hX _ _ h) hio)
        refine g_aload_n hC (pc := 28) 0 rfl rfl dX3_breaks_28 ?_
        refine g_getQ hC (pc := 29) in_X3 (ci := 0) rfl 0 (by decide) q2477 (Or.inl rfl) h dX3_breaks_29 (fun q7 h => ?_)
        refine g_iconst hC (pc := 32) (v := (5 : Int32)) (by decide) dX3_breaks_32 ?_
        refine g_dup2 hC (pc := 33) rfl rfl dX3_breaks_33 ?_
        rcases q7 with _ | c8
        · exact (gNN0 h).elim
        replace h := gNN1 h
        refine g_aldI hC (pc := 34) h dX3_breaks_34 (fun i9 h => ?_)
        refine g_iconst hC (pc := 35) (v := (1 : Int32)) (by decide) dX3_breaks_35 ?_
        refine g_iadd hC (pc := 36) dX3_breaks_36 ?_
        refine g_astI hC (pc := 37) h dX3_breaks_37 (fun G10 h => ?_)
        refine g_goto hC (pc := 38) 2 (by decide) dX3_breaks_38 ?_
        exact g_sub [0, 1, 2] rfl (hJ2 _ _ _ _ h)
def wp_X3_breaks (ad : Nat → Nat) (G : gS) (t0 : Nat) (x1 : Int32) (X : Nat → gS → Prop) (K : gS → Prop) : Prop :=
  gLoop (fun _ _ _ _ => False) (wp_X3_breaks_2 ad X K) gFuel G t0 x1 (0 : Int32)
theorem w_X3_breaks {C : gCx} (hC : gOk C "GoblinHouseholdModel" cX3_breaks [] none "breaks" 3 1 30) {K : gS → Prop} {X : Nat → gS → Prop} (hK : ∀ G, K G → cxK C none G) (hX : ∀ q G, X q G → cxX C q G) {G : gS} {t0 : Nat} {x1 : Int32} (h : wp_X3_breaks (cxA C) G t0 x1 X K) : gGo C G 0 [(0, vQ (some t0)), (1, vI x1)] [] := by
  unfold wp_X3_breaks at h
  refine g_iconst hC (pc := 0) (v := (0 : Int32)) (by decide) dX3_breaks_0 ?_
  refine g_istore_n hC (pc := 1) (lv' := [(2, vI (0 : Int32)), (0, vQ (some t0)), (1, vI x1)]) rfl (by decide) rfl dX3_breaks_1 ?_
  exact g_sub [1, 2, 0] rfl (w_X3_breaks_2 hC hK hX gFuel _ _ _ _ h)
theorem gc_X3_breaks : gCode yX3_breaks cX3_breaks 3 none 1 := ⟨q2736, q105, ⟨by decide, by decide⟩, rfl⟩
theorem m_X3_breaks {l : Launch} (hfl : l.stackTraces = false) {E : gE} {G : gS} {t0 : Nat} {x1 : Int32} {X : Nat → gS → Prop} {K : gS → Prop} (h : wp_X3_breaks (gAd E) G t0 x1 X K) : gMet l yX3_breaks (ws_ yX3_breaks cX3_breaks 3 none) 1 30 [vQ (some t0), vI x1] E G (gRv K) X :=
  g_met hfl (plainFor_of_name (by decide +kernel)) rfl rfl rfl (gle rfl) (fun p e R s m args below meth c hC => w_X3_breaks hC (fun _ h => h) (fun _ _ h => h) h)
def wp_X3_passes_121 (ad : Nat → Nat) (X : Nat → gS → Prop) (K : Int32 → gS → Prop) (J53 : gS → Nat → Int32 → Int32 → Prop) (G : gS) (t0 : Nat) (x2 : Int32) (xs0 : Int32) (xs1 : Int32) : Prop :=
  J53 G t0 (xs1 + xs0) (x2 + (1 : Int32))
theorem w_X3_passes_121 {C : gCx} (hC : gOk C "GoblinHouseholdModel" cX3_passes [] (some .int) "passes" 5 6 185) {K : Int32 → gS → Prop} {X : Nat → gS → Prop} (hK : ∀ r G, K r G → cxK C (some (vI r)) G) (hX : ∀ q G, X q G → cxX C q G) {J53 : gS → Nat → Int32 → Int32 → Prop} (hJ53 : ∀ G z0 z1 z2, J53 G z0 z1 z2 → gGo C G 53 [(0, vQ (some z0)), (1, vI z1), (2, vI z2)] []) {G : gS} {t0 : Nat} {x2 : Int32} {xs0 : Int32} {xs1 : Int32} (h : wp_X3_passes_121 (cxA C) X K J53 G t0 x2 xs0 xs1) : gGo C G 121 [(0, vQ (some t0)), (2, vI x2)] [vI xs0, vI xs1] := by
  unfold wp_X3_passes_121 at h
  refine g_iadd hC (pc := 121) dX3_passes_121 ?_
  refine g_istore_n hC (pc := 122) (lv' := [(1, vI (xs1 + xs0)), (0, vQ (some t0)), (2, vI x2)]) rfl (by decide) rfl dX3_passes_122 ?_
  refine g_iinc hC (pc := 123) 2 (d := (1 : Int32)) (v := (x2 + (1 : Int32))) (lv' := [(2, vI (x2 + (1 : Int32))), (1, vI (xs1 + xs0)), (0, vQ (some t0))]) rfl (by decide) rfl (by decide) rfl dX3_passes_123 ?_
  refine g_goto hC (pc := 126) 53 (by decide) dX3_passes_126 ?_
  exact g_sub [2, 1, 0] rfl (hJ53 _ _ _ _ h)
def wp_X3_passes_106 (ad : Nat → Nat) (X : Nat → gS → Prop) (K : Int32 → gS → Prop) (J53 : gS → Nat → Int32 → Int32 → Prop) (G : gS) (t0 : Nat) (x1 : Int32) (x2 : Int32) (x3 : Int32) (xs0 : Int32) (xs1 : Int32) (os2 : Option Nat) : Prop :=
  wNN os2 fun c1 => wAstI G c1 xs1 xs0 fun G2 => (x3 = (0 : Int32) → (gIs G2 t0 0 ∧ wp_X3_works ad G2 t0 x2 X (fun r4 G3 => wp_X3_passes_121 ad X K J53 G3 t0 x2 r4 x1))) ∧ (¬ x3 = (0 : Int32) → wp_X3_passes_121 ad X K J53 G2 t0 x2 (0 : Int32) x1)
theorem w_X3_passes_106 {C : gCx} (hC : gOk C "GoblinHouseholdModel" cX3_passes [] (some .int) "passes" 5 6 185) {K : Int32 → gS → Prop} {X : Nat → gS → Prop} (hK : ∀ r G, K r G → cxK C (some (vI r)) G) (hX : ∀ q G, X q G → cxX C q G) {J53 : gS → Nat → Int32 → Int32 → Prop} (hJ53 : ∀ G z0 z1 z2, J53 G z0 z1 z2 → gGo C G 53 [(0, vQ (some z0)), (1, vI z1), (2, vI z2)] []) {G : gS} {t0 : Nat} {x1 : Int32} {x2 : Int32} {x3 : Int32} {xs0 : Int32} {xs1 : Int32} {os2 : Option Nat} (h : wp_X3_passes_106 (cxA C) X K J53 G t0 x1 x2 x3 xs0 xs1 os2) : gGo C G 106 [(0, vQ (some t0)), (1, vI x1), (2, vI x2), (3, vI x3)] [vI xs0, vI xs1, vQ os2] := by
  unfold wp_X3_passes_106 at h
  rcases os2 with _ | c1
  · exact (gNN0 h).elim
  replace h := gNN1 h
  refine g_astI hC (pc := 106) h dX3_passes_106 (fun G2 h => ?_)
  refine g_iload_n hC (pc := 107) 1 rfl rfl dX3_passes_107 ?_
  refine g_iload_n hC (pc := 108) 3 rfl rfl dX3_passes_108 ?_
  refine g_if_eq hC (pc := 109) 116 h (by decide) dX3_passes_109 (fun h => ?_) (fun h => ?_)
  · refine g_aload_n hC (pc := 116) 0 rfl rfl dX3_passes_116 ?_
    refine g_iload_n hC (pc := 117) 2 rfl rfl dX3_passes_117 ?_
    obtain ⟨hi, h⟩ := h
    refine g_callV hC (pc := 118) (ci := 0) (As := [vI x2]) gc_X3_works (m_X3_works hC.fl h) rfl hi q2716 q2718 qs69 (gle rfl) (gle rfl) rfl (gle rfl) rfl dX3_passes_118 (gk_i fun r4 G3 h => ?_) (fun _ _ h hio => g_out0 hC (hX _ _ h) hio)
    exact g_sub [0, 2] rfl (w_X3_passes_121 hC hK hX hJ53 h)
  · refine g_iconst hC (pc := 112) (v := (0 : Int32)) (by decide) dX3_passes_112 ?_
    refine g_goto hC (pc := 113) 121 (by decide) dX3_passes_113 ?_
    exact g_sub [0, 2] rfl (w_X3_passes_121 hC hK hX hJ53 h)
def wp_X3_passes_79 (ad : Nat → Nat) (X : Nat → gS → Prop) (K : Int32 → gS → Prop) (J53 : gS → Nat → Int32 → Int32 → Prop) (G : gS) (t0 : Nat) (x1 : Int32) (x2 : Int32) (xs0 : Int32) : Prop :=
  wGetQ G t0 0 0 fun q1 => (gIs G t0 0 ∧ wp_X3_place ad G t0 x2 (3 : Int32) X (fun r3 G2 => (xs0 = (0 : Int32) → wp_X3_passes_106 ad X K J53 G2 t0 x1 x2 xs0 (0 : Int32) r3 q1) ∧ (¬ xs0 = (0 : Int32) → (gIs G2 t0 0 ∧ wp_X3_of ad G2 t0 x2 (3 : Int32) X (fun r5 G4 => wp_X3_passes_106 ad X K J53 G4 t0 x1 x2 xs0 (r5 + (1 : Int32)) r3 q1)))))
theorem w_X3_passes_79 {C : gCx} (hC : gOk C "GoblinHouseholdModel" cX3_passes [] (some .int) "passes" 5 6 185) {K : Int32 → gS → Prop} {X : Nat → gS → Prop} (hK : ∀ r G, K r G → cxK C (some (vI r)) G) (hX : ∀ q G, X q G → cxX C q G) {J53 : gS → Nat → Int32 → Int32 → Prop} (hJ53 : ∀ G z0 z1 z2, J53 G z0 z1 z2 → gGo C G 53 [(0, vQ (some z0)), (1, vI z1), (2, vI z2)] []) {G : gS} {t0 : Nat} {x1 : Int32} {x2 : Int32} {xs0 : Int32} (h : wp_X3_passes_79 (cxA C) X K J53 G t0 x1 x2 xs0) : gGo C G 79 [(0, vQ (some t0)), (1, vI x1), (2, vI x2)] [vI xs0] := by
  unfold wp_X3_passes_79 at h
  refine g_istore_n hC (pc := 79) (lv' := [(3, vI xs0), (0, vQ (some t0)), (1, vI x1), (2, vI x2)]) rfl (by decide) rfl dX3_passes_79 ?_
  refine g_aload_n hC (pc := 80) 1 rfl rfl dX3_passes_80 ?_
  refine g_getQ hC (pc := 81) in_X3 (ci := 0) rfl 0 (by decide) q2477 (Or.inl rfl) h dX3_passes_81 (fun q1 h => ?_)
  refine g_aload_n hC (pc := 84) 1 rfl rfl dX3_passes_84 ?_
  refine g_iload_n hC (pc := 85) 3 rfl rfl dX3_passes_85 ?_
  refine g_iconst hC (pc := 86) (v := (3 : Int32)) (by decide) dX3_passes_86 ?_
  obtain ⟨hi, h⟩ := h
  refine g_callV hC (pc := 87) (ci := 0) (As := [vI x2, vI (3 : Int32)]) gc_X3_place (m_X3_place hC.fl h) rfl hi q2636 q2638 qs57 (gle rfl) (gle rfl) rfl (gle rfl) rfl dX3_passes_87 (gk_i fun r3 G2 h => ?_) (fun _ _ h hio => g_out0 hC (hX _ _ h) hio)
  refine g_iload_n hC (pc := 90) 0 rfl rfl dX3_passes_90 ?_
  refine g_if_eq hC (pc := 91) 105 h (by decide) dX3_passes_91 (fun h => ?_) (fun h => ?_)
  · refine g_iconst hC (pc := 105) (v := (0 : Int32)) (by decide) dX3_passes_105 ?_
    exact g_sub [1, 2, 3, 0] rfl (w_X3_passes_106 hC hK hX hJ53 h)
  · refine g_aload_n hC (pc := 94) 1 rfl rfl dX3_passes_94 ?_
    refine g_iload_n hC (pc := 95) 3 rfl rfl dX3_passes_95 ?_
    refine g_iconst hC (pc := 96) (v := (3 : Int32)) (by decide) dX3_passes_96 ?_
    obtain ⟨hi, h⟩ := h
    refine g_callV hC (pc := 97) (ci := 0) (As := [vI x2, vI (3 : Int32)]) gc_X3_of (m_X3_of hC.fl h) rfl hi q2632 q2634 qs56 (gle rfl) (gle rfl) rfl (gle rfl) rfl dX3_passes_97 (gk_i fun r5 G4 h => ?_) (fun _ _ h hio => g_out0 hC (hX _ _ h) hio)
    refine g_iconst hC (pc := 100) (v := (1 : Int32)) (by decide) dX3_passes_100 ?_
    refine g_iadd hC (pc := 101) dX3_passes_101 ?_
    refine g_goto hC (pc := 102) 106 (by decide) dX3_passes_102 ?_
    exact g_sub [1, 2, 3, 0] rfl (w_X3_passes_106 hC hK hX hJ53 h)
def wp_X3_passes_198 (ad : Nat → Nat) (X : Nat → gS → Prop) (K : Int32 → gS → Prop) (J131 : gS → Nat → Int32 → Int32 → Prop) (G : gS) (t0 : Nat) (x1 : Int32) (x2 : Int32) (xs0 : Int32) : Prop :=
  wGetQ G t0 0 0 fun q1 => (gIs G t0 0 ∧ wp_X3_place ad G t0 x2 (2 : Int32) X (fun r3 G2 => wNN q1 fun c4 => wAldI G2 c4 r3 fun i5 => wAstI G2 c4 r3 (i5 + xs0) fun G6 => wGetQ G6 t0 0 0 fun q7 => wNN q7 fun c8 => wAldI G6 c8 (7 : Int32) fun i9 => wAstI G6 c8 (7 : Int32) (i9 + xs0) fun G10 => J131 G10 t0 x1 (x2 + (1 : Int32))))
theorem w_X3_passes_198 {C : gCx} (hC : gOk C "GoblinHouseholdModel" cX3_passes [] (some .int) "passes" 5 6 185) {K : Int32 → gS → Prop} {X : Nat → gS → Prop} (hK : ∀ r G, K r G → cxK C (some (vI r)) G) (hX : ∀ q G, X q G → cxX C q G) {J131 : gS → Nat → Int32 → Int32 → Prop} (hJ131 : ∀ G z0 z1 z2, J131 G z0 z1 z2 → gGo C G 131 [(0, vQ (some z0)), (1, vI z1), (2, vI z2)] []) {G : gS} {t0 : Nat} {x1 : Int32} {x2 : Int32} {xs0 : Int32} (h : wp_X3_passes_198 (cxA C) X K J131 G t0 x1 x2 xs0) : gGo C G 198 [(0, vQ (some t0)), (1, vI x1), (2, vI x2)] [vI xs0] := by
  unfold wp_X3_passes_198 at h
  refine g_istore hC (pc := 198) (lv' := [(4, vI xs0), (0, vQ (some t0)), (1, vI x1), (2, vI x2)]) (by decide) rfl dX3_passes_198 ?_
  refine g_aload_n hC (pc := 200) 1 rfl rfl dX3_passes_200 ?_
  refine g_getQ hC (pc := 201) in_X3 (ci := 0) rfl 0 (by decide) q2477 (Or.inl rfl) h dX3_passes_201 (fun q1 h => ?_)
  refine g_aload_n hC (pc := 204) 1 rfl rfl dX3_passes_204 ?_
  refine g_iload_n hC (pc := 205) 3 rfl rfl dX3_passes_205 ?_
  refine g_iconst hC (pc := 206) (v := (2 : Int32)) (by decide) dX3_passes_206 ?_
  obtain ⟨hi, h⟩ := h
  refine g_callV hC (pc := 207) (ci := 0) (As := [vI x2, vI (2 : Int32)]) gc_X3_place (m_X3_place hC.fl h) rfl hi q2636 q2638 qs57 (gle rfl) (gle rfl) rfl (gle rfl) rfl dX3_passes_207 (gk_i fun r3 G2 h => ?_) (fun _ _ h hio => g_out0 hC (hX _ _ h) hio)
  refine g_dup2 hC (pc := 210) rfl rfl dX3_passes_210 ?_
  rcases q1 with _ | c4
  · exact (gNN0 h).elim
  replace h := gNN1 h
  refine g_aldI hC (pc := 211) h dX3_passes_211 (fun i5 h => ?_)
  refine g_iload hC (pc := 212) 0 rfl dX3_passes_212 ?_
  refine g_iadd hC (pc := 214) dX3_passes_214 ?_
  refine g_astI hC (pc := 215) h dX3_passes_215 (fun G6 h => ?_)
  refine g_aload_n hC (pc := 216) 1 rfl rfl dX3_passes_216 ?_
  refine g_getQ hC (pc := 217) in_X3 (ci := 0) rfl 0 (by decide) q2477 (Or.inl rfl) h dX3_passes_217 (fun q7 h => ?_)
  refine g_bipush hC (pc := 220) (v := (7 : Int32)) (by decide) dX3_passes_220 ?_
  refine g_dup2 hC (pc := 222) rfl rfl dX3_passes_222 ?_
  rcases q7 with _ | c8
  · exact (gNN0 h).elim
  replace h := gNN1 h
  refine g_aldI hC (pc := 223) h dX3_passes_223 (fun i9 h => ?_)
  refine g_iload hC (pc := 224) 0 rfl dX3_passes_224 ?_
  refine g_iadd hC (pc := 226) dX3_passes_226 ?_
  refine g_astI hC (pc := 227) h dX3_passes_227 (fun G10 h => ?_)
  refine g_iinc hC (pc := 228) 3 (d := (1 : Int32)) (v := (x2 + (1 : Int32))) (lv' := [(2, vI (x2 + (1 : Int32))), (4, vI xs0), (0, vQ (some t0)), (1, vI x1)]) rfl (by decide) rfl (by decide) rfl dX3_passes_228 ?_
  refine g_goto hC (pc := 231) 131 (by decide) dX3_passes_231 ?_
  exact g_sub [2, 3, 0] rfl (hJ131 _ _ _ _ h)
def wp_X3_passes_197 (ad : Nat → Nat) (X : Nat → gS → Prop) (K : Int32 → gS → Prop) (J131 : gS → Nat → Int32 → Int32 → Prop) (G : gS) (t0 : Nat) (x1 : Int32) (x2 : Int32) : Prop :=
  wp_X3_passes_198 ad X K J131 G t0 x1 x2 (0 : Int32)
theorem w_X3_passes_197 {C : gCx} (hC : gOk C "GoblinHouseholdModel" cX3_passes [] (some .int) "passes" 5 6 185) {K : Int32 → gS → Prop} {X : Nat → gS → Prop} (hK : ∀ r G, K r G → cxK C (some (vI r)) G) (hX : ∀ q G, X q G → cxX C q G) {J131 : gS → Nat → Int32 → Int32 → Prop} (hJ131 : ∀ G z0 z1 z2, J131 G z0 z1 z2 → gGo C G 131 [(0, vQ (some z0)), (1, vI z1), (2, vI z2)] []) {G : gS} {t0 : Nat} {x1 : Int32} {x2 : Int32} (h : wp_X3_passes_197 (cxA C) X K J131 G t0 x1 x2) : gGo C G 197 [(0, vQ (some t0)), (1, vI x1), (2, vI x2)] [] := by
  unfold wp_X3_passes_197 at h
  refine g_iconst hC (pc := 197) (v := (0 : Int32)) (by decide) dX3_passes_197 ?_
  exact g_sub [0, 1, 2] rfl (w_X3_passes_198 hC hK hX hJ131 h)
def wp_X3_passes_157 (ad : Nat → Nat) (X : Nat → gS → Prop) (K : Int32 → gS → Prop) (J131 : gS → Nat → Int32 → Int32 → Prop) (G : gS) (t0 : Nat) (x1 : Int32) (x2 : Int32) : Prop :=
  (gIs G t0 0 ∧ wp_X3_of ad G t0 x2 (2 : Int32) X (fun r2 G1 => wGetQ G1 t0 0 0 fun q3 => wNN q3 fun c4 => wAldI G1 c4 (0 : Int32) fun i5 => (¬ (i5 - i5 / (7 : Int32) * (7 : Int32)) = (0 : Int32) → wp_X3_passes_197 ad X K J131 G1 t0 x1 x2) ∧ ((i5 - i5 / (7 : Int32) * (7 : Int32)) = (0 : Int32) → (r2 ≤ (0 : Int32) → wp_X3_passes_197 ad X K J131 G1 t0 x1 x2) ∧ (¬ r2 ≤ (0 : Int32) → wp_X3_passes_198 ad X K J131 G1 t0 x1 x2 (if ((r2 / (10 : Int32)) + (1 : Int32)) < ((999 : Int32) - r2) then ((r2 / (10 : Int32)) + (1 : Int32)) else ((999 : Int32) - r2))))))
theorem w_X3_passes_157 {C : gCx} (hC : gOk C "GoblinHouseholdModel" cX3_passes [] (some .int) "passes" 5 6 185) {K : Int32 → gS → Prop} {X : Nat → gS → Prop} (hK : ∀ r G, K r G → cxK C (some (vI r)) G) (hX : ∀ q G, X q G → cxX C q G) {J131 : gS → Nat → Int32 → Int32 → Prop} (hJ131 : ∀ G z0 z1 z2, J131 G z0 z1 z2 → gGo C G 131 [(0, vQ (some z0)), (1, vI z1), (2, vI z2)] []) {G : gS} {t0 : Nat} {x1 : Int32} {x2 : Int32} (h : wp_X3_passes_157 (cxA C) X K J131 G t0 x1 x2) : gGo C G 157 [(0, vQ (some t0)), (1, vI x1), (2, vI x2)] [] := by
  unfold wp_X3_passes_157 at h
  refine g_aload_n hC (pc := 157) 0 rfl rfl dX3_passes_157 ?_
  refine g_iload_n hC (pc := 158) 2 rfl rfl dX3_passes_158 ?_
  refine g_iconst hC (pc := 159) (v := (2 : Int32)) (by decide) dX3_passes_159 ?_
  obtain ⟨hi, h⟩ := h
  refine g_callV hC (pc := 160) (ci := 0) (As := [vI x2, vI (2 : Int32)]) gc_X3_of (m_X3_of hC.fl h) rfl hi q2632 q2634 qs56 (gle rfl) (gle rfl) rfl (gle rfl) rfl dX3_passes_160 (gk_i fun r2 G1 h => ?_) (fun _ _ h hio => g_out0 hC (hX _ _ h) hio)
  refine g_istore_n hC (pc := 163) (lv' := [(3, vI r2), (0, vQ (some t0)), (1, vI x1), (2, vI x2)]) rfl (by decide) rfl dX3_passes_163 ?_
  refine g_aload_n hC (pc := 164) 1 rfl rfl dX3_passes_164 ?_
  refine g_getQ hC (pc := 165) in_X3 (ci := 0) rfl 0 (by decide) q2477 (Or.inl rfl) h dX3_passes_165 (fun q3 h => ?_)
  refine g_iconst hC (pc := 168) (v := (0 : Int32)) (by decide) dX3_passes_168 ?_
  rcases q3 with _ | c4
  · exact (gNN0 h).elim
  replace h := gNN1 h
  refine g_aldI hC (pc := 169) h dX3_passes_169 (fun i5 h => ?_)
  refine g_bipush hC (pc := 170) (v := (7 : Int32)) (by decide) dX3_passes_170 ?_
  refine g_irem hC (pc := 172) (by decide) dX3_passes_172 ?_
  refine g_if_ne hC (pc := 173) 197 h (by decide) dX3_passes_173 (fun h => ?_) (fun h => ?_)
  · exact g_sub [1, 2, 3] rfl (w_X3_passes_197 hC hK hX hJ131 h)
  · refine g_iload_n hC (pc := 176) 0 rfl rfl dX3_passes_176 ?_
    refine g_if_le hC (pc := 177) 197 h (by decide) dX3_passes_177 (fun h => ?_) (fun h => ?_)
    · exact g_sub [1, 2, 3] rfl (w_X3_passes_197 hC hK hX hJ131 h)
    · refine g_sipush hC (pc := 180) (v := (999 : Int32)) (by decide) dX3_passes_180 ?_
      refine g_iload_n hC (pc := 183) 0 rfl rfl dX3_passes_183 ?_
      refine g_isub hC (pc := 184) dX3_passes_184 ?_
      refine g_iload_n hC (pc := 185) 0 rfl rfl dX3_passes_185 ?_
      refine g_bipush hC (pc := 186) (v := (10 : Int32)) (by decide) dX3_passes_186 ?_
      refine g_idiv hC (pc := 188) (by decide) dX3_passes_188 ?_
      refine g_iconst hC (pc := 189) (v := (1 : Int32)) (by decide) dX3_passes_189 ?_
      refine g_iadd hC (pc := 190) dX3_passes_190 ?_
      refine g_min hC (pc := 191) q2675 q489 q114 q490 (gle rfl) (gle rfl) (gle rfl) dX3_passes_191 ?_
      refine g_goto hC (pc := 194) 198 (by decide) dX3_passes_194 ?_
      exact g_sub [1, 2, 3] rfl (w_X3_passes_198 hC hK hX hJ131 h)
def wp_X3_passes_234 (ad : Nat → Nat) (X : Nat → gS → Prop) (K : Int32 → gS → Prop) (G : gS) (t0 : Nat) (x1 : Int32) : Prop :=
  wGetQ G t0 0 0 fun q1 => wNN q1 fun c2 => wAldI G c2 (4 : Int32) fun i3 => wAstI G c2 (4 : Int32) (i3 + x1) fun G4 => K x1 G4
theorem w_X3_passes_234 {C : gCx} (hC : gOk C "GoblinHouseholdModel" cX3_passes [] (some .int) "passes" 5 6 185) {K : Int32 → gS → Prop} {X : Nat → gS → Prop} (hK : ∀ r G, K r G → cxK C (some (vI r)) G) (hX : ∀ q G, X q G → cxX C q G) {G : gS} {t0 : Nat} {x1 : Int32} (h : wp_X3_passes_234 (cxA C) X K G t0 x1) : gGo C G 234 [(0, vQ (some t0)), (1, vI x1)] [] := by
  unfold wp_X3_passes_234 at h
  refine g_aload_n hC (pc := 234) 0 rfl rfl dX3_passes_234 ?_
  refine g_getQ hC (pc := 235) in_X3 (ci := 0) rfl 0 (by decide) q2477 (Or.inl rfl) h dX3_passes_235 (fun q1 h => ?_)
  refine g_iconst hC (pc := 238) (v := (4 : Int32)) (by decide) dX3_passes_238 ?_
  refine g_dup2 hC (pc := 239) rfl rfl dX3_passes_239 ?_
  rcases q1 with _ | c2
  · exact (gNN0 h).elim
  replace h := gNN1 h
  refine g_aldI hC (pc := 240) h dX3_passes_240 (fun i3 h => ?_)
  refine g_iload_n hC (pc := 241) 1 rfl rfl dX3_passes_241 ?_
  refine g_iadd hC (pc := 242) dX3_passes_242 ?_
  refine g_astI hC (pc := 243) h dX3_passes_243 (fun G4 h => ?_)
  refine g_iload_n hC (pc := 244) 1 rfl rfl dX3_passes_244 ?_
  exact g_iret hC (pc := 245) (hK _ _ h) dX3_passes_245
def wp_X3_passes_131 (ad : Nat → Nat) (X : Nat → gS → Prop) (K : Int32 → gS → Prop) (J131 : gS → Nat → Int32 → Int32 → Prop) (G : gS) (t0 : Nat) (x1 : Int32) (x2 : Int32) : Prop :=
  wGetQ G t0 0 0 fun q1 => wNN q1 fun c2 => wAldI G c2 (9 : Int32) fun i3 => (i3 ≤ x2 → wp_X3_passes_234 ad X K G t0 x1) ∧ (¬ i3 ≤ x2 → (gIs G t0 0 ∧ wp_X3_of ad G t0 x2 (3 : Int32) X (fun r5 G4 => (r5 < (3 : Int32) → wp_X3_passes_157 ad X K J131 G4 t0 x1 x2) ∧ (¬ r5 < (3 : Int32) → (gIs G4 t0 0 ∧ wp_X3_breaks ad G4 t0 x2 X (fun G6 => wp_X3_passes_157 ad X K J131 G6 t0 x1 x2))))))
theorem w_X3_passes_131 {C : gCx} (hC : gOk C "GoblinHouseholdModel" cX3_passes [] (some .int) "passes" 5 6 185) {K : Int32 → gS → Prop} {X : Nat → gS → Prop} (hK : ∀ r G, K r G → cxK C (some (vI r)) G) (hX : ∀ q G, X q G → cxX C q G) (n : Nat) : ∀ (G : gS) (t0 : Nat) (x1 : Int32) (x2 : Int32), gLoop (fun _ _ _ _ => False) (wp_X3_passes_131 (cxA C) X K) n G t0 x1 x2 → gGo C G 131 [(0, vQ (some t0)), (1, vI x1), (2, vI x2)] [] := by
  induction n with
  | zero => intro G t0 x1 x2 h; exact h.elim
  | succ n ih =>
    intro G t0 x1 x2 h
    have hJ131 := ih
    replace h : wp_X3_passes_131 (cxA C) X K _ G t0 x1 x2 := h
    unfold wp_X3_passes_131 at h
    refine g_iload_n hC (pc := 131) 2 rfl rfl dX3_passes_131 ?_
    refine g_aload_n hC (pc := 132) 0 rfl rfl dX3_passes_132 ?_
    refine g_getQ hC (pc := 133) in_X3 (ci := 0) rfl 0 (by decide) q2477 (Or.inl rfl) h dX3_passes_133 (fun q1 h => ?_)
    refine g_bipush hC (pc := 136) (v := (9 : Int32)) (by decide) dX3_passes_136 ?_
    rcases q1 with _ | c2
    · exact (gNN0 h).elim
    replace h := gNN1 h
    refine g_aldI hC (pc := 138) h dX3_passes_138 (fun i3 h => ?_)
    refine g_icmp_ge hC (pc := 139) 234 h (by decide) dX3_passes_139 (fun h => ?_) (fun h => ?_)
    · exact g_sub [0, 1] rfl (w_X3_passes_234 hC hK hX h)
    · refine g_aload_n hC (pc := 142) 0 rfl rfl dX3_passes_142 ?_
      refine g_iload_n hC (pc := 143) 2 rfl rfl dX3_passes_143 ?_
      refine g_iconst hC (pc := 144) (v := (3 : Int32)) (by decide) dX3_passes_144 ?_
      obtain ⟨hi, h⟩ := h
      refine g_callV hC (pc := 145) (ci := 0) (As := [vI x2, vI (3 : Int32)]) gc_X3_of (m_X3_of hC.fl h) rfl hi q2632 q2634 qs56 (gle rfl) (gle rfl) rfl (gle rfl) rfl dX3_passes_145 (gk_i fun r5 G4 h => ?_) (fun _ _ h hio => g_out0 hC (hX _ _ h) hio)
      refine g_iconst hC (pc := 148) (v := (3 : Int32)) (by decide) dX3_passes_148 ?_
      refine g_icmp_lt hC (pc := 149) 157 h (by decide) dX3_passes_149 (fun h => ?_) (fun h => ?_)
      · exact g_sub [0, 1, 2] rfl (w_X3_passes_157 hC hK hX hJ131 h)
      · refine g_aload_n hC (pc := 152) 0 rfl rfl dX3_passes_152 ?_
        refine g_iload_n hC (pc := 153) 2 rfl rfl dX3_passes_153 ?_
        obtain ⟨hi, h⟩ := h
        refine g_callV hC (pc := 154) (ci := 0) (As := [vI x2]) gc_X3_breaks (m_X3_breaks hC.fl h) rfl hi q2733 q2735 qs73 (gle rfl) (gle rfl) rfl (gle rfl) rfl dX3_passes_154 (gk_v fun G6 h => ?_) (fun _ _ h hio => g_out0 hC (hX _ _ h) hio)
        exact g_sub [0, 1, 2] rfl (w_X3_passes_157 hC hK hX hJ131 h)
def wp_X3_passes_129 (ad : Nat → Nat) (X : Nat → gS → Prop) (K : Int32 → gS → Prop) (G : gS) (t0 : Nat) (x1 : Int32) : Prop :=
  gLoop (fun _ _ _ _ => False) (wp_X3_passes_131 ad X K) gFuel G t0 x1 (0 : Int32)
theorem w_X3_passes_129 {C : gCx} (hC : gOk C "GoblinHouseholdModel" cX3_passes [] (some .int) "passes" 5 6 185) {K : Int32 → gS → Prop} {X : Nat → gS → Prop} (hK : ∀ r G, K r G → cxK C (some (vI r)) G) (hX : ∀ q G, X q G → cxX C q G) {G : gS} {t0 : Nat} {x1 : Int32} (h : wp_X3_passes_129 (cxA C) X K G t0 x1) : gGo C G 129 [(0, vQ (some t0)), (1, vI x1)] [] := by
  unfold wp_X3_passes_129 at h
  refine g_iconst hC (pc := 129) (v := (0 : Int32)) (by decide) dX3_passes_129 ?_
  refine g_istore_n hC (pc := 130) (lv' := [(2, vI (0 : Int32)), (0, vQ (some t0)), (1, vI x1)]) rfl (by decide) rfl dX3_passes_130 ?_
  exact g_sub [1, 2, 0] rfl (w_X3_passes_131 hC hK hX gFuel _ _ _ _ h)
def wp_X3_passes_53 (ad : Nat → Nat) (X : Nat → gS → Prop) (K : Int32 → gS → Prop) (J53 : gS → Nat → Int32 → Int32 → Prop) (G : gS) (t0 : Nat) (x1 : Int32) (x2 : Int32) : Prop :=
  wGetQ G t0 0 0 fun q1 => wNN q1 fun c2 => wAldI G c2 (9 : Int32) fun i3 => (i3 ≤ x2 → wp_X3_passes_129 ad X K G t0 x1) ∧ (¬ i3 ≤ x2 → (gIs G t0 0 ∧ wp_X3_of ad G t0 x2 (4 : Int32) X (fun r5 G4 => (¬ r5 = (1 : Int32) → wp_X3_passes_79 ad X K J53 G4 t0 x1 x2 (0 : Int32)) ∧ (r5 = (1 : Int32) → wp_X3_passes_79 ad X K J53 G4 t0 x1 x2 (1 : Int32)))))
theorem w_X3_passes_53 {C : gCx} (hC : gOk C "GoblinHouseholdModel" cX3_passes [] (some .int) "passes" 5 6 185) {K : Int32 → gS → Prop} {X : Nat → gS → Prop} (hK : ∀ r G, K r G → cxK C (some (vI r)) G) (hX : ∀ q G, X q G → cxX C q G) (n : Nat) : ∀ (G : gS) (t0 : Nat) (x1 : Int32) (x2 : Int32), gLoop (fun _ _ _ _ => False) (wp_X3_passes_53 (cxA C) X K) n G t0 x1 x2 → gGo C G 53 [(0, vQ (some t0)), (1, vI x1), (2, vI x2)] [] := by
  induction n with
  | zero => intro G t0 x1 x2 h; exact h.elim
  | succ n ih =>
    intro G t0 x1 x2 h
    have hJ53 := ih
    replace h : wp_X3_passes_53 (cxA C) X K _ G t0 x1 x2 := h
    unfold wp_X3_passes_53 at h
    refine g_iload_n hC (pc := 53) 2 rfl rfl dX3_passes_53 ?_
    refine g_aload_n hC (pc := 54) 0 rfl rfl dX3_passes_54 ?_
    refine g_getQ hC (pc := 55) in_X3 (ci := 0) rfl 0 (by decide) q2477 (Or.inl rfl) h dX3_passes_55 (fun q1 h => ?_)
    refine g_bipush hC (pc := 58) (v := (9 : Int32)) (by decide) dX3_passes_58 ?_
    rcases q1 with _ | c2
    · exact (gNN0 h).elim
    replace h := gNN1 h
    refine g_aldI hC (pc := 60) h dX3_passes_60 (fun i3 h => ?_)
    refine g_icmp_ge hC (pc := 61) 129 h (by decide) dX3_passes_61 (fun h => ?_) (fun h => ?_)
    · exact g_sub [0, 1] rfl (w_X3_passes_129 hC hK hX h)
    · refine g_aload_n hC (pc := 64) 0 rfl rfl dX3_passes_64 ?_
      refine g_iload_n hC (pc := 65) 2 rfl rfl dX3_passes_65 ?_
      refine g_iconst hC (pc := 66) (v := (4 : Int32)) (by decide) dX3_passes_66 ?_
      obtain ⟨hi, h⟩ := h
      refine g_callV hC (pc := 67) (ci := 0) (As := [vI x2, vI (4 : Int32)]) gc_X3_of (m_X3_of hC.fl h) rfl hi q2632 q2634 qs56 (gle rfl) (gle rfl) rfl (gle rfl) rfl dX3_passes_67 (gk_i fun r5 G4 h => ?_) (fun _ _ h hio => g_out0 hC (hX _ _ h) hio)
      refine g_iconst hC (pc := 70) (v := (1 : Int32)) (by decide) dX3_passes_70 ?_
      refine g_icmp_ne hC (pc := 71) 78 h (by decide) dX3_passes_71 (fun h => ?_) (fun h => ?_)
      · refine g_iconst hC (pc := 78) (v := (0 : Int32)) (by decide) dX3_passes_78 ?_
        exact g_sub [0, 1, 2] rfl (w_X3_passes_79 hC hK hX hJ53 h)
      · refine g_iconst hC (pc := 74) (v := (1 : Int32)) (by decide) dX3_passes_74 ?_
        refine g_goto hC (pc := 75) 79 (by decide) dX3_passes_75 ?_
        exact g_sub [0, 1, 2] rfl (w_X3_passes_79 hC hK hX hJ53 h)
def wp_X3_passes_49 (ad : Nat → Nat) (X : Nat → gS → Prop) (K : Int32 → gS → Prop) (G : gS) (t0 : Nat) : Prop :=
  gLoop (fun _ _ _ _ => False) (wp_X3_passes_53 ad X K) gFuel G t0 (0 : Int32) (0 : Int32)
theorem w_X3_passes_49 {C : gCx} (hC : gOk C "GoblinHouseholdModel" cX3_passes [] (some .int) "passes" 5 6 185) {K : Int32 → gS → Prop} {X : Nat → gS → Prop} (hK : ∀ r G, K r G → cxK C (some (vI r)) G) (hX : ∀ q G, X q G → cxX C q G) {G : gS} {t0 : Nat} (h : wp_X3_passes_49 (cxA C) X K G t0) : gGo C G 49 [(0, vQ (some t0))] [] := by
  unfold wp_X3_passes_49 at h
  refine g_iconst hC (pc := 49) (v := (0 : Int32)) (by decide) dX3_passes_49 ?_
  refine g_istore_n hC (pc := 50) (lv' := [(1, vI (0 : Int32)), (0, vQ (some t0))]) rfl (by decide) rfl dX3_passes_50 ?_
  refine g_iconst hC (pc := 51) (v := (0 : Int32)) (by decide) dX3_passes_51 ?_
  refine g_istore_n hC (pc := 52) (lv' := [(2, vI (0 : Int32)), (1, vI (0 : Int32)), (0, vQ (some t0))]) rfl (by decide) rfl dX3_passes_52 ?_
  exact g_sub [2, 1, 0] rfl (w_X3_passes_53 hC hK hX gFuel _ _ _ _ h)
def wp_X3_passes_12 (ad : Nat → Nat) (X : Nat → gS → Prop) (K : Int32 → gS → Prop) (J12 : gS → Nat → Int32 → Prop) (G : gS) (t0 : Nat) (x1 : Int32) : Prop :=
  ((6 : Int32) ≤ x1 → wp_X3_passes_49 ad X K G t0) ∧ (¬ (6 : Int32) ≤ x1 → wGetQ G t0 0 0 fun q1 => wGetQ G t0 0 0 fun q2 => wNN q2 fun c3 => wAldI G c3 ((12 : Int32) + x1) fun i4 => wNN q1 fun c5 => wAstI G c5 ((12 : Int32) + x1) (if (i4 + (3 : Int32)) < (99 : Int32) then (i4 + (3 : Int32)) else (99 : Int32)) fun G6 => J12 G6 t0 (x1 + (1 : Int32)))
theorem w_X3_passes_12 {C : gCx} (hC : gOk C "GoblinHouseholdModel" cX3_passes [] (some .int) "passes" 5 6 185) {K : Int32 → gS → Prop} {X : Nat → gS → Prop} (hK : ∀ r G, K r G → cxK C (some (vI r)) G) (hX : ∀ q G, X q G → cxX C q G) (n : Nat) : ∀ (G : gS) (t0 : Nat) (x1 : Int32), gLoop (fun _ _ _ => False) (wp_X3_passes_12 (cxA C) X K) n G t0 x1 → gGo C G 12 [(0, vQ (some t0)), (1, vI x1)] [] := by
  induction n with
  | zero => intro G t0 x1 h; exact h.elim
  | succ n ih =>
    intro G t0 x1 h
    have hJ12 := ih
    replace h : wp_X3_passes_12 (cxA C) X K _ G t0 x1 := h
    unfold wp_X3_passes_12 at h
    refine g_iload_n hC (pc := 12) 1 rfl rfl dX3_passes_12 ?_
    refine g_bipush hC (pc := 13) (v := (6 : Int32)) (by decide) dX3_passes_13 ?_
    refine g_icmp_ge hC (pc := 15) 49 h (by decide) dX3_passes_15 (fun h => ?_) (fun h => ?_)
    · exact g_sub [0] rfl (w_X3_passes_49 hC hK hX h)
    · refine g_aload_n hC (pc := 18) 0 rfl rfl dX3_passes_18 ?_
      refine g_getQ hC (pc := 19) in_X3 (ci := 0) rfl 0 (by decide) q2477 (Or.inl rfl) h dX3_passes_19 (fun q1 h => ?_)
      refine g_bipush hC (pc := 22) (v := (12 : Int32)) (by decide) dX3_passes_22 ?_
      refine g_iload_n hC (pc := 24) 1 rfl rfl dX3_passes_24 ?_
      refine g_iadd hC (pc := 25) dX3_passes_25 ?_
      refine g_bipush hC (pc := 26) (v := (99 : Int32)) (by decide) dX3_passes_26 ?_
      refine g_aload_n hC (pc := 28) 0 rfl rfl dX3_passes_28 ?_
      refine g_getQ hC (pc := 29) in_X3 (ci := 0) rfl 0 (by decide) q2477 (Or.inl rfl) h dX3_passes_29 (fun q2 h => ?_)
      refine g_bipush hC (pc := 32) (v := (12 : Int32)) (by decide) dX3_passes_32 ?_
      refine g_iload_n hC (pc := 34) 1 rfl rfl dX3_passes_34 ?_
      refine g_iadd hC (pc := 35) dX3_passes_35 ?_
      rcases q2 with _ | c3
      · exact (gNN0 h).elim
      replace h := gNN1 h
      refine g_aldI hC (pc := 36) h dX3_passes_36 (fun i4 h => ?_)
      refine g_iconst hC (pc := 37) (v := (3 : Int32)) (by decide) dX3_passes_37 ?_
      refine g_iadd hC (pc := 38) dX3_passes_38 ?_
      refine g_min hC (pc := 39) q2675 q489 q114 q490 (gle rfl) (gle rfl) (gle rfl) dX3_passes_39 ?_
      rcases q1 with _ | c5
      · exact (gNN0 h).elim
      replace h := gNN1 h
      refine g_astI hC (pc := 42) h dX3_passes_42 (fun G6 h => ?_)
      refine g_iinc hC (pc := 43) 1 (d := (1 : Int32)) (v := (x1 + (1 : Int32))) (lv' := [(1, vI (x1 + (1 : Int32))), (0, vQ (some t0))]) rfl (by decide) rfl (by decide) rfl dX3_passes_43 ?_
      refine g_goto hC (pc := 46) 12 (by decide) dX3_passes_46 ?_
      exact g_sub [1, 0] rfl (hJ12 _ _ _ h)
def wp_X3_passes (ad : Nat → Nat) (G : gS) (t0 : Nat) (X : Nat → gS → Prop) (K : Int32 → gS → Prop) : Prop :=
  wGetQ G t0 0 0 fun q1 => wNN q1 fun c2 => wAldI G c2 (0 : Int32) fun i3 => wAstI G c2 (0 : Int32) (i3 + (1 : Int32)) fun G4 => gLoop (fun _ _ _ => False) (wp_X3_passes_12 ad X K) gFuel G4 t0 (0 : Int32)
theorem w_X3_passes {C : gCx} (hC : gOk C "GoblinHouseholdModel" cX3_passes [] (some .int) "passes" 5 6 185) {K : Int32 → gS → Prop} {X : Nat → gS → Prop} (hK : ∀ r G, K r G → cxK C (some (vI r)) G) (hX : ∀ q G, X q G → cxX C q G) {G : gS} {t0 : Nat} (h : wp_X3_passes (cxA C) G t0 X K) : gGo C G 0 [(0, vQ (some t0))] [] := by
  unfold wp_X3_passes at h
  refine g_aload_n hC (pc := 0) 0 rfl rfl dX3_passes_0 ?_
  refine g_getQ hC (pc := 1) in_X3 (ci := 0) rfl 0 (by decide) q2477 (Or.inl rfl) h dX3_passes_1 (fun q1 h => ?_)
  refine g_iconst hC (pc := 4) (v := (0 : Int32)) (by decide) dX3_passes_4 ?_
  refine g_dup2 hC (pc := 5) rfl rfl dX3_passes_5 ?_
  rcases q1 with _ | c2
  · exact (gNN0 h).elim
  replace h := gNN1 h
  refine g_aldI hC (pc := 6) h dX3_passes_6 (fun i3 h => ?_)
  refine g_iconst hC (pc := 7) (v := (1 : Int32)) (by decide) dX3_passes_7 ?_
  refine g_iadd hC (pc := 8) dX3_passes_8 ?_
  refine g_astI hC (pc := 9) h dX3_passes_9 (fun G4 h => ?_)
  refine g_iconst hC (pc := 10) (v := (0 : Int32)) (by decide) dX3_passes_10 ?_
  refine g_istore_n hC (pc := 11) (lv' := [(1, vI (0 : Int32)), (0, vQ (some t0))]) rfl (by decide) rfl dX3_passes_11 ?_
  exact g_sub [1, 0] rfl (w_X3_passes_12 hC hK hX gFuel _ _ _ h)
theorem gc_X3_passes : gCode yX3_passes cX3_passes 5 (some .int) 0 := ⟨q2715, q105, ⟨by decide, by decide⟩, rfl⟩
theorem m_X3_passes {l : Launch} (hfl : l.stackTraces = false) {E : gE} {G : gS} {t0 : Nat} {X : Nat → gS → Prop} {K : Int32 → gS → Prop} (h : wp_X3_passes (gAd E) G t0 X K) : gMet l yX3_passes (ws_ yX3_passes cX3_passes 5 (some .int)) 6 185 [vQ (some t0)] E G (gRi K) X :=
  g_met hfl (plainFor_of_name (by decide +kernel)) rfl rfl rfl (gle rfl) (fun p e R s m args below meth c hC => w_X3_passes hC (fun _ _ h => h) (fun _ _ h => h) h)
def wp_X3_waits_20 (ad : Nat → Nat) (X : Nat → gS → Prop) (K : Int32 → gS → Prop) (J20 : gS → Nat → Int32 → Int32 → Int32 → Prop) (G : gS) (t0 : Nat) (x1 : Int32) (x2 : Int32) (x3 : Int32) : Prop :=
  (x1 ≤ x3 → K x2 G) ∧ (¬ x1 ≤ x3 → (gIs G t0 0 ∧ wp_X3_passes ad G t0  X (fun r2 G1 => J20 G1 t0 x1 (x2 + r2) (x3 + (1 : Int32)))))
theorem w_X3_waits_20 {C : gCx} (hC : gOk C "GoblinHouseholdModel" cX3_waits [] (some .int) "waits" 4 7 217) {K : Int32 → gS → Prop} {X : Nat → gS → Prop} (hK : ∀ r G, K r G → cxK C (some (vI r)) G) (hX : ∀ q G, X q G → cxX C q G) (n : Nat) : ∀ (G : gS) (t0 : Nat) (x1 : Int32) (x2 : Int32) (x3 : Int32), gLoop (fun _ _ _ _ _ => False) (wp_X3_waits_20 (cxA C) X K) n G t0 x1 x2 x3 → gGo C G 20 [(0, vQ (some t0)), (1, vI x1), (2, vI x2), (3, vI x3)] [] := by
  induction n with
  | zero => intro G t0 x1 x2 x3 h; exact h.elim
  | succ n ih =>
    intro G t0 x1 x2 x3 h
    have hJ20 := ih
    replace h : wp_X3_waits_20 (cxA C) X K _ G t0 x1 x2 x3 := h
    unfold wp_X3_waits_20 at h
    refine g_iload_n hC (pc := 20) 3 rfl rfl dX3_waits_20 ?_
    refine g_iload_n hC (pc := 21) 1 rfl rfl dX3_waits_21 ?_
    refine g_icmp_ge hC (pc := 22) 38 h (by decide) dX3_waits_22 (fun h => ?_) (fun h => ?_)
    · refine g_iload_n hC (pc := 38) 2 rfl rfl dX3_waits_38 ?_
      exact g_iret hC (pc := 39) (hK _ _ h) dX3_waits_39
    · refine g_iload_n hC (pc := 25) 2 rfl rfl dX3_waits_25 ?_
      refine g_aload_n hC (pc := 26) 0 rfl rfl dX3_waits_26 ?_
      obtain ⟨hi, h⟩ := h
      refine g_callV hC (pc := 27) (ci := 0) (As := []) gc_X3_passes (m_X3_passes hC.fl h) rfl hi q2712 q2714 qs68 (gle rfl) (gle rfl) rfl (gle rfl) rfl dX3_waits_27 (gk_i fun r2 G1 h => ?_) (fun _ _ h hio => g_out0 hC (hX _ _ h) hio)
      refine g_iadd hC (pc := 30) dX3_waits_30 ?_
      refine g_istore_n hC (pc := 31) (lv' := [(2, vI (x2 + r2)), (0, vQ (some t0)), (1, vI x1), (3, vI x3)]) rfl (by decide) rfl dX3_waits_31 ?_
      refine g_iinc hC (pc := 32) 3 (d := (1 : Int32)) (v := (x3 + (1 : Int32))) (lv' := [(3, vI (x3 + (1 : Int32))), (2, vI (x2 + r2)), (0, vQ (some t0)), (1, vI x1)]) rfl (by decide) rfl (by decide) rfl dX3_waits_32 ?_
      refine g_goto hC (pc := 35) 20 (by decide) dX3_waits_35 ?_
      exact g_sub [2, 3, 1, 0] rfl (hJ20 _ _ _ _ _ h)
def wp_X3_waits (ad : Nat → Nat) (G : gS) (t0 : Nat) (x1 : Int32) (X : Nat → gS → Prop) (K : Int32 → gS → Prop) : Prop :=
  wp_X3_isIn ad G x1 (1 : Int32) (60 : Int32) X (fun r2 G1 => (gIs G1 t0 0 ∧ wp_X3_goes ad G1 t0 r2 X (fun r4 G3 => (¬ r4 = (0 : Int32) → gLoop (fun _ _ _ _ _ => False) (wp_X3_waits_20 ad X K) gFuel G3 t0 x1 (0 : Int32) (0 : Int32)) ∧ (r4 = (0 : Int32) → K (0 : Int32) G3))))
theorem w_X3_waits {C : gCx} (hC : gOk C "GoblinHouseholdModel" cX3_waits [] (some .int) "waits" 4 7 217) {K : Int32 → gS → Prop} {X : Nat → gS → Prop} (hK : ∀ r G, K r G → cxK C (some (vI r)) G) (hX : ∀ q G, X q G → cxX C q G) {G : gS} {t0 : Nat} {x1 : Int32} (h : wp_X3_waits (cxA C) G t0 x1 X K) : gGo C G 0 [(0, vQ (some t0)), (1, vI x1)] [] := by
  unfold wp_X3_waits at h
  refine g_aload_n hC (pc := 0) 0 rfl rfl dX3_waits_0 ?_
  refine g_iload_n hC (pc := 1) 1 rfl rfl dX3_waits_1 ?_
  refine g_iconst hC (pc := 2) (v := (1 : Int32)) (by decide) dX3_waits_2 ?_
  refine g_bipush hC (pc := 3) (v := (60 : Int32)) (by decide) dX3_waits_3 ?_
  refine g_callS hC (pc := 5) (b := 0) (As := [vI x1, vI (1 : Int32), vI (60 : Int32)]) gc_X3_isIn (m_X3_isIn hC.fl h) q2577 q2578 (gle rfl) (gle rfl) rfl (gle rfl) rfl dX3_waits_5 (gk_i fun r2 G1 h => ?_) (fun _ _ h hio => g_out0 hC (hX _ _ h) hio)
  obtain ⟨hi, h⟩ := h
  refine g_callV hC (pc := 8) (ci := 0) (As := [vI r2]) gc_X3_goes (m_X3_goes hC.fl h) rfl hi q2546 q2548 qs43 (gle rfl) (gle rfl) rfl (gle rfl) rfl dX3_waits_8 (gk_i fun r4 G3 h => ?_) (fun _ _ h hio => g_out0 hC (hX _ _ h) hio)
  refine g_if_ne hC (pc := 11) 16 h (by decide) dX3_waits_11 (fun h => ?_) (fun h => ?_)
  · refine g_iconst hC (pc := 16) (v := (0 : Int32)) (by decide) dX3_waits_16 ?_
    refine g_istore_n hC (pc := 17) (lv' := [(2, vI (0 : Int32)), (0, vQ (some t0)), (1, vI x1)]) rfl (by decide) rfl dX3_waits_17 ?_
    refine g_iconst hC (pc := 18) (v := (0 : Int32)) (by decide) dX3_waits_18 ?_
    refine g_istore_n hC (pc := 19) (lv' := [(3, vI (0 : Int32)), (2, vI (0 : Int32)), (0, vQ (some t0)), (1, vI x1)]) rfl (by decide) rfl dX3_waits_19 ?_
    exact g_sub [2, 3, 1, 0] rfl (w_X3_waits_20 hC hK hX gFuel _ _ _ _ _ h)
  · refine g_iconst hC (pc := 14) (v := (0 : Int32)) (by decide) dX3_waits_14 ?_
    exact g_iret hC (pc := 15) (hK _ _ h) dX3_waits_15
theorem gc_X3_waits : gCode yX3_waits cX3_waits 4 (some .int) 1 := ⟨q2711, q105, ⟨by decide, by decide⟩, rfl⟩
theorem m_X3_waits {l : Launch} (hfl : l.stackTraces = false) {E : gE} {G : gS} {t0 : Nat} {x1 : Int32} {X : Nat → gS → Prop} {K : Int32 → gS → Prop} (h : wp_X3_waits (gAd E) G t0 x1 X K) : gMet l yX3_waits (ws_ yX3_waits cX3_waits 4 (some .int)) 7 217 [vQ (some t0), vI x1] E G (gRi K) X :=
  g_met hfl (plainFor_of_name (by decide +kernel)) rfl rfl rfl (gle rfl) (fun p e R s m args below meth c hC => w_X3_waits hC (fun _ _ h => h) (fun _ _ h => h) h)
def wp_X3_passNights (ad : Nat → Nat) (G : gS) (t0 : Nat) (x1 : Int32) (X : Nat → gS → Prop) (K : Int32 → gS → Prop) : Prop :=
  (gIs G t0 0 ∧ wp_X3_begins ad G t0  X (fun G1 => (gIs G1 t0 0 ∧ wp_X3_waits ad G1 t0 x1 X (fun r3 G2 => (gIs G2 t0 0 ∧ wp_X3_ends ad G2 t0 r3 X (fun r5 G4 => K r5 G4))))))
theorem w_X3_passNights {C : gCx} (hC : gOk C "GoblinHouseholdModel" cX3_passNights [] (some .int) "passNights" 2 8 248) {K : Int32 → gS → Prop} {X : Nat → gS → Prop} (hK : ∀ r G, K r G → cxK C (some (vI r)) G) (hX : ∀ q G, X q G → cxX C q G) {G : gS} {t0 : Nat} {x1 : Int32} (h : wp_X3_passNights (cxA C) G t0 x1 X K) : gGo C G 0 [(0, vQ (some t0)), (1, vI x1)] [] := by
  unfold wp_X3_passNights at h
  refine g_aload_n hC (pc := 0) 0 rfl rfl dX3_passNights_0 ?_
  obtain ⟨hi, h⟩ := h
  refine g_callV hC (pc := 1) (ci := 0) (As := []) gc_X3_begins (m_X3_begins hC.fl h) rfl hi q2569 q2571 qs45 (gle rfl) (gle rfl) rfl (gle rfl) rfl dX3_passNights_1 (gk_v fun G1 h => ?_) (fun _ _ h hio => g_out0 hC (hX _ _ h) hio)
  refine g_aload_n hC (pc := 4) 0 rfl rfl dX3_passNights_4 ?_
  refine g_aload_n hC (pc := 5) 0 rfl rfl dX3_passNights_5 ?_
  refine g_iload_n hC (pc := 6) 1 rfl rfl dX3_passNights_6 ?_
  obtain ⟨hi, h⟩ := h
  refine g_callV hC (pc := 7) (ci := 0) (As := [vI x1]) gc_X3_waits (m_X3_waits hC.fl h) rfl hi q2708 q2710 qs67 (gle rfl) (gle rfl) rfl (gle rfl) rfl dX3_passNights_7 (gk_i fun r3 G2 h => ?_) (fun _ _ h hio => g_out0 hC (hX _ _ h) hio)
  obtain ⟨hi, h⟩ := h
  refine g_callV hC (pc := 10) (ci := 0) (As := [vI r3]) gc_X3_ends (m_X3_ends hC.fl h) rfl hi q2580 q2582 qs47 (gle rfl) (gle rfl) rfl (gle rfl) rfl dX3_passNights_10 (gk_i fun r5 G4 h => ?_) (fun _ _ h hio => g_out0 hC (hX _ _ h) hio)
  exact g_iret hC (pc := 13) (hK _ _ h) dX3_passNights_13
theorem gc_X3_passNights : gCode yX3_passNights cX3_passNights 2 (some .int) 1 := ⟨q2707, q105, ⟨by decide, by decide⟩, rfl⟩
theorem m_X3_passNights {l : Launch} (hfl : l.stackTraces = false) {E : gE} {G : gS} {t0 : Nat} {x1 : Int32} {X : Nat → gS → Prop} {K : Int32 → gS → Prop} (h : wp_X3_passNights (gAd E) G t0 x1 X K) : gMet l yX3_passNights (ws_ yX3_passNights cX3_passNights 2 (some .int)) 8 248 [vQ (some t0), vI x1] E G (gRi K) X :=
  g_met hfl (plainFor_of_name (by decide +kernel)) rfl rfl rfl (gle rfl) (fun p e R s m args below meth c hC => w_X3_passNights hC (fun _ _ h => h) (fun _ _ h => h) h)
def wp_X1_checkIndex (ad : Nat → Nat) (G : gS) (x0 : Int32) (X : Nat → gS → Prop) (K : gS → Prop) : Prop :=
  (¬ x0 = (0 : Int32) → K G) ∧ (x0 = (0 : Int32) → wNew G 20 6 [.null, .null, .null, .null, .null, .int 0] fun c2 G1 => wp_J18_init_2 ad G1 c2  X (fun G3 => wThrow G3 c2 X))
theorem w_X1_checkIndex {C : gCx} (hC : gOk C "GoblinHousehold" cX1_checkIndex [] none "checkIndex" 1 8 212) {K : gS → Prop} {X : Nat → gS → Prop} (hK : ∀ G, K G → cxK C none G) (hX : ∀ q G, X q G → cxX C q G) {G : gS} {x0 : Int32} (h : wp_X1_checkIndex (cxA C) G x0 X K) : gGo C G 0 [(0, vI x0)] [] := by
  unfold wp_X1_checkIndex at h
  refine g_iload_n hC (pc := 0) 0 rfl rfl dX1_checkIndex_0 ?_
  refine g_if_ne hC (pc := 1) 12 h (by decide) dX1_checkIndex_1 (fun h => ?_) (fun h => ?_)
  · exact g_vret hC (pc := 12) (hK _ h) dX1_checkIndex_12
  · refine g_new hC (pc := 4) in_J18 (ci := 20) rfl (by decide) tyJ18_ok q1717 q393 q121 gdf_J18 h dX1_checkIndex_4 (fun c2 G1 h => ?_)
    refine g_dup hC (pc := 7) rfl dX1_checkIndex_7 ?_
    refine g_callI hC (pc := 8) (As := []) gc_J18_init_2 (m_J18_init_2 hC.fl h) rfl q1718 q1263 (gle rfl) (gle rfl) rfl (gle rfl) rfl dX1_checkIndex_8 (gk_v fun G3 h => ?_) (fun _ _ h hio => g_out0 hC (hX _ _ h) hio)
    exact g_athrow hC (pc := 11) dX1_checkIndex_11 h.1 (g_out0 hC (hX _ _ h.2) h.1)
theorem gc_X1_checkIndex : gCode yX1_checkIndex cX1_checkIndex 1 none 1 := ⟨q1716, q94, ⟨by decide, by decide⟩, rfl⟩
theorem m_X1_checkIndex {l : Launch} (hfl : l.stackTraces = false) {E : gE} {G : gS} {x0 : Int32} {X : Nat → gS → Prop} {K : gS → Prop} (h : wp_X1_checkIndex (gAd E) G x0 X K) : gMet l yX1_checkIndex (ws_ yX1_checkIndex cX1_checkIndex 1 none) 8 212 [vI x0] E G (gRv K) X :=
  g_met hfl (plainFor_of_name (by decide +kernel)) rfl rfl rfl (gle rfl) (fun p e R s m args below meth c hC => w_X1_checkIndex hC (fun _ h => h) (fun _ _ h => h) h)
def wp_X1_dust (ad : Nat → Nat) (G : gS) (t0 : Nat) (x1 : Int32) (X : Nat → gS → Prop) (K : Int32 → gS → Prop) : Prop :=
  wp_X1_isBetween ad G x1 (0 : Int32) (5 : Int32) X (fun r2 G1 => wp_X1_checkIndex ad G1 r2 X (fun G3 => wGetQ G3 t0 1 0 fun q4 => wNN q4 fun c5 => wGetQ G3 c5 2 0 fun q6 => wNN q6 fun c7 => wAldI G3 c7 x1 fun i8 => K i8 G3))
theorem w_X1_dust {C : gCx} (hC : gOk C "GoblinHousehold" cX1_dust [] (some .int) "dust" 2 9 240) {K : Int32 → gS → Prop} {X : Nat → gS → Prop} (hK : ∀ r G, K r G → cxK C (some (vI r)) G) (hX : ∀ q G, X q G → cxX C q G) {G : gS} {t0 : Nat} {x1 : Int32} (h : wp_X1_dust (cxA C) G t0 x1 X K) : gGo C G 0 [(0, vQ (some t0)), (1, vI x1)] [] := by
  unfold wp_X1_dust at h
  refine g_iload_n hC (pc := 0) 1 rfl rfl dX1_dust_0 ?_
  refine g_iconst hC (pc := 1) (v := (0 : Int32)) (by decide) dX1_dust_1 ?_
  refine g_iconst hC (pc := 2) (v := (5 : Int32)) (by decide) dX1_dust_2 ?_
  refine g_callS hC (pc := 3) (b := 0) (As := [vI x1, vI (0 : Int32), vI (5 : Int32)]) gc_X1_isBetween (m_X1_isBetween hC.fl h) q1713 q884 (gle rfl) (gle rfl) rfl (gle rfl) rfl dX1_dust_3 (gk_i fun r2 G1 h => ?_) (fun _ _ h hio => g_out0 hC (hX _ _ h) hio)
  refine g_callS hC (pc := 6) (b := 0) (As := [vI r2]) gc_X1_checkIndex (m_X1_checkIndex hC.fl h) q1714 q1715 (gle rfl) (gle rfl) rfl (gle rfl) rfl dX1_dust_6 (gk_v fun G3 h => ?_) (fun _ _ h hio => g_out0 hC (hX _ _ h) hio)
  refine g_aload_n hC (pc := 9) 0 rfl rfl dX1_dust_9 ?_
  refine g_getQ hC (pc := 10) in_X1 (ci := 1) rfl 0 (by decide) q292 (Or.inl rfl) h dX1_dust_10 (fun q4 h => ?_)
  rcases q4 with _ | c5
  · exact (gNN0 h).elim
  replace h := gNN1 h
  refine g_getQN hC (pc := 13) in_X2 (ci := 2) rfl 0 (by decide) (List.mem_of_getElem? (i := 0) rfl) (Or.inl rfl) h dX1_dust_13 (fun q6 h => ?_)
  refine g_iload_n hC (pc := 16) 1 rfl rfl dX1_dust_16 ?_
  rcases q6 with _ | c7
  · exact (gNN0 h).elim
  replace h := gNN1 h
  refine g_aldI hC (pc := 17) h dX1_dust_17 (fun i8 h => ?_)
  exact g_iret hC (pc := 18) (hK _ _ h) dX1_dust_18
theorem gc_X1_dust : gCode yX1_dust cX1_dust 2 (some .int) 1 := ⟨q1712, q94, ⟨by decide, by decide⟩, rfl⟩
theorem m_X1_dust {l : Launch} (hfl : l.stackTraces = false) {E : gE} {G : gS} {t0 : Nat} {x1 : Int32} {X : Nat → gS → Prop} {K : Int32 → gS → Prop} (h : wp_X1_dust (gAd E) G t0 x1 X K) : gMet l yX1_dust (ws_ yX1_dust cX1_dust 2 (some .int)) 9 240 [vQ (some t0), vI x1] E G (gRi K) X :=
  g_met hfl (plainFor_of_name (by decide +kernel)) rfl rfl rfl (gle rfl) (fun p e R s m args below meth c hC => w_X1_dust hC (fun _ _ h => h) (fun _ _ h => h) h)
def wp_X0_dust_12 (ad : Nat → Nat) (X : Nat → gS → Prop) (K : Int32 → gS → Prop) (G : gS) (ts0 : Nat) : Prop :=
  K (1 : Int32) G
theorem w_X0_dust_12 {C : gCx} (hC : gOk C "GoblinHouseholdLaw" cX0_dust [(0, 9, 12, 23)] (some .int) "dust" 4 10 269) {K : Int32 → gS → Prop} {X : Nat → gS → Prop} (hK : ∀ r G, K r G → cxK C (some (vI r)) G) (hX : ∀ q G, X q G → cxX C q G) {G : gS} {ts0 : Nat} (h : wp_X0_dust_12 (cxA C) X K G ts0) : gGo C G 12 [] [vQ (some ts0)] := by
  unfold wp_X0_dust_12 at h
  refine g_astore_n hC (pc := 12) (lv' := [(3, vQ (some ts0))]) rfl (by decide) rfl dX0_dust_12 ?_
  refine g_iconst hC (pc := 13) (v := (1 : Int32)) (by decide) dX0_dust_13 ?_
  exact g_iret hC (pc := 14) (hK _ _ h) dX0_dust_14
def wp_X0_dust (ad : Nat → Nat) (G : gS) (o0 : Option Nat) (x1 : Int32) (o2 : Option Nat) (X : Nat → gS → Prop) (K : Int32 → gS → Prop) : Prop :=
  wNN o0 fun c1 => (gIs G c1 1 ∧ wp_X1_dust ad G c1 x1 (fun y3 G4 => (gHas G4 y3 20 ∧ (wp_X0_dust_12 ad X K G4 y3))) (fun r5 G2 => wNN o2 fun c6 => wAstL G2 c6 (0 : Int32) ((r5).toInt64) fun G7 => K (0 : Int32) G7))
theorem w_X0_dust {C : gCx} (hC : gOk C "GoblinHouseholdLaw" cX0_dust [(0, 9, 12, 23)] (some .int) "dust" 4 10 269) {K : Int32 → gS → Prop} {X : Nat → gS → Prop} (hK : ∀ r G, K r G → cxK C (some (vI r)) G) (hX : ∀ q G, X q G → cxX C q G) {G : gS} {o0 : Option Nat} {x1 : Int32} {o2 : Option Nat} (h : wp_X0_dust (cxA C) G o0 x1 o2 X K) : gGo C G 0 [(0, vQ o0), (1, vI x1), (2, vQ o2)] [] := by
  unfold wp_X0_dust at h
  refine g_aload_n hC (pc := 0) 2 rfl rfl dX0_dust_0 ?_
  refine g_iconst hC (pc := 1) (v := (0 : Int32)) (by decide) dX0_dust_1 ?_
  refine g_aload_n hC (pc := 2) 0 rfl rfl dX0_dust_2 ?_
  refine g_iload_n hC (pc := 3) 1 rfl rfl dX0_dust_3 ?_
  rcases o0 with _ | c1
  · exact (gNN0 h).elim
  replace h := gNN1 h
  obtain ⟨hi, h⟩ := h
  refine g_callV hC (pc := 4) (ci := 1) (As := [vI x1]) gc_X1_dust (m_X1_dust hC.fl h) rfl hi q1709 q1710 q1711 (gle rfl) (gle rfl) rfl (gle rfl) rfl dX0_dust_4 (gk_i fun r5 G2 h => ?_) (fun y3 G4 h hio => ?_)
  · refine g_i2l hC (pc := 7) dX0_dust_7 ?_
    rcases o2 with _ | c6
    · exact (gNN0 h).elim
    replace h := gNN1 h
    refine g_astL hC (pc := 8) h dX0_dust_8 (fun G7 h => ?_)
    refine g_goto hC (pc := 9) 15 (by decide) dX0_dust_9 ?_
    refine g_iconst hC (pc := 15) (v := (0 : Int32)) (by decide) dX0_dust_15 ?_
    exact g_iret hC (pc := 16) (hK _ _ h) dX0_dust_16
  · obtain ⟨hq, h⟩ := h
    refine g_catchI hC (pc := 4) (ci := 20) rfl hq 0 rfl (fun _ h => nomatch h) rfl (by decide) q1312 (List.mem_of_getElem? (i := 2) rfl) rfl ?_
    exact g_sub [] rfl (w_X0_dust_12 hC hK hX h)
theorem gc_X0_dust : gCodeW yX0_dust cX0_dust 4 (some .int) [(0, 9, 12, 23)] 3 := ⟨q1708, q93, ⟨by decide, by decide⟩, rfl⟩
theorem m_X0_dust {l : Launch} (hfl : l.stackTraces = false) {E : gE} {G : gS} {o0 : Option Nat} {x1 : Int32} {o2 : Option Nat} {X : Nat → gS → Prop} {K : Int32 → gS → Prop} (h : wp_X0_dust (gAd E) G o0 x1 o2 X K) : gMet l yX0_dust (wsW_ yX0_dust cX0_dust 4 (some .int) [(0, 9, 12, 23)]) 10 269 [vQ o0, vI x1, vQ o2] E G (gRi K) X :=
  g_metW hfl (plainFor_of_name (by decide +kernel)) rfl rfl rfl (gle rfl) (fun p e R s m args below meth c hC => w_X0_dust hC (fun _ _ h => h) (fun _ _ h => h) h)
def wp_X3_dust (ad : Nat → Nat) (G : gS) (t0 : Nat) (x1 : Int32) (X : Nat → gS → Prop) (K : Int32 → gS → Prop) : Prop :=
  wp_X3_isRoom ad G x1 X (fun r2 G1 => (gIs G1 t0 0 ∧ wp_X3_goes ad G1 t0 r2 X (fun r4 G3 => (r4 = (0 : Int32) → K (0 : Int32) G3) ∧ (¬ r4 = (0 : Int32) → wGetQ G3 t0 0 0 fun q5 => wNN q5 fun c6 => wAldI G3 c6 ((12 : Int32) + x1) fun i7 => K i7 G3))))
theorem w_X3_dust {C : gCx} (hC : gOk C "GoblinHouseholdModel" cX3_dust [] (some .int) "dust" 2 2 61) {K : Int32 → gS → Prop} {X : Nat → gS → Prop} (hK : ∀ r G, K r G → cxK C (some (vI r)) G) (hX : ∀ q G, X q G → cxX C q G) {G : gS} {t0 : Nat} {x1 : Int32} (h : wp_X3_dust (cxA C) G t0 x1 X K) : gGo C G 0 [(0, vQ (some t0)), (1, vI x1)] [] := by
  unfold wp_X3_dust at h
  refine g_aload_n hC (pc := 0) 0 rfl rfl dX3_dust_0 ?_
  refine g_iload_n hC (pc := 1) 1 rfl rfl dX3_dust_1 ?_
  refine g_callS hC (pc := 2) (b := 0) (As := [vI x1]) gc_X3_isRoom (m_X3_isRoom hC.fl h) q2652 q2653 (gle rfl) (gle rfl) rfl (gle rfl) rfl dX3_dust_2 (gk_i fun r2 G1 h => ?_) (fun _ _ h hio => g_out0 hC (hX _ _ h) hio)
  obtain ⟨hi, h⟩ := h
  refine g_callV hC (pc := 5) (ci := 0) (As := [vI r2]) gc_X3_goes (m_X3_goes hC.fl h) rfl hi q2546 q2548 qs43 (gle rfl) (gle rfl) rfl (gle rfl) rfl dX3_dust_5 (gk_i fun r4 G3 h => ?_) (fun _ _ h hio => g_out0 hC (hX _ _ h) hio)
  refine g_if_eq hC (pc := 8) 23 h (by decide) dX3_dust_8 (fun h => ?_) (fun h => ?_)
  · refine g_iconst hC (pc := 23) (v := (0 : Int32)) (by decide) dX3_dust_23 ?_
    exact g_iret hC (pc := 24) (hK _ _ h) dX3_dust_24
  · refine g_aload_n hC (pc := 11) 0 rfl rfl dX3_dust_11 ?_
    refine g_getQ hC (pc := 12) in_X3 (ci := 0) rfl 0 (by decide) q2477 (Or.inl rfl) h dX3_dust_12 (fun q5 h => ?_)
    refine g_bipush hC (pc := 15) (v := (12 : Int32)) (by decide) dX3_dust_15 ?_
    refine g_iload_n hC (pc := 17) 1 rfl rfl dX3_dust_17 ?_
    refine g_iadd hC (pc := 18) dX3_dust_18 ?_
    rcases q5 with _ | c6
    · exact (gNN0 h).elim
    replace h := gNN1 h
    refine g_aldI hC (pc := 19) h dX3_dust_19 (fun i7 h => ?_)
    refine g_goto hC (pc := 20) 24 (by decide) dX3_dust_20 ?_
    exact g_iret hC (pc := 24) (hK _ _ h) dX3_dust_24
theorem gc_X3_dust : gCode yX3_dust cX3_dust 2 (some .int) 1 := ⟨q2740, q105, ⟨by decide, by decide⟩, rfl⟩
theorem m_X3_dust {l : Launch} (hfl : l.stackTraces = false) {E : gE} {G : gS} {t0 : Nat} {x1 : Int32} {X : Nat → gS → Prop} {K : Int32 → gS → Prop} (h : wp_X3_dust (gAd E) G t0 x1 X K) : gMet l yX3_dust (ws_ yX3_dust cX3_dust 2 (some .int)) 2 61 [vQ (some t0), vI x1] E G (gRi K) X :=
  g_met hfl (plainFor_of_name (by decide +kernel)) rfl rfl rfl (gle rfl) (fun p e R s m args below meth c hC => w_X3_dust hC (fun _ _ h => h) (fun _ _ h => h) h)
def wp_X2_roomAt_64 (ad : Nat → Nat) (X : Nat → gS → Prop) (K : Int32 → gS → Prop) (J2 : gS → Nat → Int32 → Int32 → Prop) (J13 : gS → Nat → Int32 → Int32 → Int32 → Int32 → Prop) (G : gS) (t0 : Nat) (x1 : Int32) (x2 : Int32) (x4 : Int32) (xs0 : Int32) (xs1 : Int32) : Prop :=
  J13 G t0 x1 x2 (xs1 + xs0) (x4 + (1 : Int32))
theorem w_X2_roomAt_64 {C : gCx} (hC : gOk C "GoblinHousehold$Household" cX2_roomAt [] (some .int) "roomAt" 5 0 0) {K : Int32 → gS → Prop} {X : Nat → gS → Prop} (hK : ∀ r G, K r G → cxK C (some (vI r)) G) (hX : ∀ q G, X q G → cxX C q G) {J2 : gS → Nat → Int32 → Int32 → Prop} {J13 : gS → Nat → Int32 → Int32 → Int32 → Int32 → Prop} (hJ2 : ∀ G z0 z1 z2, J2 G z0 z1 z2 → gGo C G 2 [(0, vQ (some z0)), (1, vI z1), (2, vI z2)] []) (hJ13 : ∀ G z0 z1 z2 z3 z4, J13 G z0 z1 z2 z3 z4 → gGo C G 13 [(0, vQ (some z0)), (1, vI z1), (2, vI z2), (3, vI z3), (4, vI z4)] []) {G : gS} {t0 : Nat} {x1 : Int32} {x2 : Int32} {x4 : Int32} {xs0 : Int32} {xs1 : Int32} (h : wp_X2_roomAt_64 (cxA C) X K J2 J13 G t0 x1 x2 x4 xs0 xs1) : gGo C G 64 [(0, vQ (some t0)), (1, vI x1), (2, vI x2), (4, vI x4)] [vI xs0, vI xs1] := by
  unfold wp_X2_roomAt_64 at h
  refine g_iadd hC (pc := 64) dX2_roomAt_64 ?_
  refine g_istore_n hC (pc := 65) (lv' := [(3, vI (xs1 + xs0)), (0, vQ (some t0)), (1, vI x1), (2, vI x2), (4, vI x4)]) rfl (by decide) rfl dX2_roomAt_65 ?_
  refine g_iinc hC (pc := 66) 4 (d := (1 : Int32)) (v := (x4 + (1 : Int32))) (lv' := [(4, vI (x4 + (1 : Int32))), (3, vI (xs1 + xs0)), (0, vQ (some t0)), (1, vI x1), (2, vI x2)]) rfl (by decide) rfl (by decide) rfl dX2_roomAt_66 ?_
  refine g_goto hC (pc := 69) 13 (by decide) dX2_roomAt_69 ?_
  exact g_sub [2, 3, 4, 1, 0] rfl (hJ13 _ _ _ _ _ _ h)
def wp_X2_roomAt_59 (ad : Nat → Nat) (X : Nat → gS → Prop) (K : Int32 → gS → Prop) (J2 : gS → Nat → Int32 → Int32 → Prop) (J13 : gS → Nat → Int32 → Int32 → Int32 → Int32 → Prop) (G : gS) (t0 : Nat) (x1 : Int32) (x2 : Int32) (x4 : Int32) (xs0 : Int32) : Prop :=
  wp_X2_roomAt_64 ad X K J2 J13 G t0 x1 x2 x4 (1 : Int32) xs0
theorem w_X2_roomAt_59 {C : gCx} (hC : gOk C "GoblinHousehold$Household" cX2_roomAt [] (some .int) "roomAt" 5 0 0) {K : Int32 → gS → Prop} {X : Nat → gS → Prop} (hK : ∀ r G, K r G → cxK C (some (vI r)) G) (hX : ∀ q G, X q G → cxX C q G) {J2 : gS → Nat → Int32 → Int32 → Prop} {J13 : gS → Nat → Int32 → Int32 → Int32 → Int32 → Prop} (hJ2 : ∀ G z0 z1 z2, J2 G z0 z1 z2 → gGo C G 2 [(0, vQ (some z0)), (1, vI z1), (2, vI z2)] []) (hJ13 : ∀ G z0 z1 z2 z3 z4, J13 G z0 z1 z2 z3 z4 → gGo C G 13 [(0, vQ (some z0)), (1, vI z1), (2, vI z2), (3, vI z3), (4, vI z4)] []) {G : gS} {t0 : Nat} {x1 : Int32} {x2 : Int32} {x4 : Int32} {xs0 : Int32} (h : wp_X2_roomAt_59 (cxA C) X K J2 J13 G t0 x1 x2 x4 xs0) : gGo C G 59 [(0, vQ (some t0)), (1, vI x1), (2, vI x2), (4, vI x4)] [vI xs0] := by
  unfold wp_X2_roomAt_59 at h
  refine g_iconst hC (pc := 59) (v := (1 : Int32)) (by decide) dX2_roomAt_59 ?_
  refine g_goto hC (pc := 60) 64 (by decide) dX2_roomAt_60 ?_
  exact g_sub [0, 1, 2, 3] rfl (w_X2_roomAt_64 hC hK hX hJ2 hJ13 h)
def wp_X2_roomAt_63 (ad : Nat → Nat) (X : Nat → gS → Prop) (K : Int32 → gS → Prop) (J2 : gS → Nat → Int32 → Int32 → Prop) (J13 : gS → Nat → Int32 → Int32 → Int32 → Int32 → Prop) (G : gS) (t0 : Nat) (x1 : Int32) (x2 : Int32) (x4 : Int32) (xs0 : Int32) : Prop :=
  wp_X2_roomAt_64 ad X K J2 J13 G t0 x1 x2 x4 (0 : Int32) xs0
theorem w_X2_roomAt_63 {C : gCx} (hC : gOk C "GoblinHousehold$Household" cX2_roomAt [] (some .int) "roomAt" 5 0 0) {K : Int32 → gS → Prop} {X : Nat → gS → Prop} (hK : ∀ r G, K r G → cxK C (some (vI r)) G) (hX : ∀ q G, X q G → cxX C q G) {J2 : gS → Nat → Int32 → Int32 → Prop} {J13 : gS → Nat → Int32 → Int32 → Int32 → Int32 → Prop} (hJ2 : ∀ G z0 z1 z2, J2 G z0 z1 z2 → gGo C G 2 [(0, vQ (some z0)), (1, vI z1), (2, vI z2)] []) (hJ13 : ∀ G z0 z1 z2 z3 z4, J13 G z0 z1 z2 z3 z4 → gGo C G 13 [(0, vQ (some z0)), (1, vI z1), (2, vI z2), (3, vI z3), (4, vI z4)] []) {G : gS} {t0 : Nat} {x1 : Int32} {x2 : Int32} {x4 : Int32} {xs0 : Int32} (h : wp_X2_roomAt_63 (cxA C) X K J2 J13 G t0 x1 x2 x4 xs0) : gGo C G 63 [(0, vQ (some t0)), (1, vI x1), (2, vI x2), (4, vI x4)] [vI xs0] := by
  unfold wp_X2_roomAt_63 at h
  refine g_iconst hC (pc := 63) (v := (0 : Int32)) (by decide) dX2_roomAt_63 ?_
  exact g_sub [0, 1, 2, 3] rfl (w_X2_roomAt_64 hC hK hX hJ2 hJ13 h)
def wp_X2_roomAt_72 (ad : Nat → Nat) (X : Nat → gS → Prop) (K : Int32 → gS → Prop) (J2 : gS → Nat → Int32 → Int32 → Prop) (G : gS) (t0 : Nat) (x1 : Int32) (x2 : Int32) (x3 : Int32) : Prop :=
  (¬ x3 = x1 → J2 G t0 x1 (x2 + (1 : Int32))) ∧ (x3 = x1 → K x2 G)
theorem w_X2_roomAt_72 {C : gCx} (hC : gOk C "GoblinHousehold$Household" cX2_roomAt [] (some .int) "roomAt" 5 0 0) {K : Int32 → gS → Prop} {X : Nat → gS → Prop} (hK : ∀ r G, K r G → cxK C (some (vI r)) G) (hX : ∀ q G, X q G → cxX C q G) {J2 : gS → Nat → Int32 → Int32 → Prop} (hJ2 : ∀ G z0 z1 z2, J2 G z0 z1 z2 → gGo C G 2 [(0, vQ (some z0)), (1, vI z1), (2, vI z2)] []) {G : gS} {t0 : Nat} {x1 : Int32} {x2 : Int32} {x3 : Int32} (h : wp_X2_roomAt_72 (cxA C) X K J2 G t0 x1 x2 x3) : gGo C G 72 [(0, vQ (some t0)), (1, vI x1), (2, vI x2), (3, vI x3)] [] := by
  unfold wp_X2_roomAt_72 at h
  refine g_iload_n hC (pc := 72) 3 rfl rfl dX2_roomAt_72 ?_
  refine g_iload_n hC (pc := 73) 1 rfl rfl dX2_roomAt_73 ?_
  refine g_icmp_ne hC (pc := 74) 79 h (by decide) dX2_roomAt_74 (fun h => ?_) (fun h => ?_)
  · refine g_iinc hC (pc := 79) 2 (d := (1 : Int32)) (v := (x2 + (1 : Int32))) (lv' := [(2, vI (x2 + (1 : Int32))), (0, vQ (some t0)), (1, vI x1), (3, vI x3)]) rfl (by decide) rfl (by decide) rfl dX2_roomAt_79 ?_
    refine g_goto hC (pc := 82) 2 (by decide) dX2_roomAt_82 ?_
    exact g_sub [1, 2, 0] rfl (hJ2 _ _ _ _ h)
  · refine g_iload_n hC (pc := 77) 2 rfl rfl dX2_roomAt_77 ?_
    exact g_iret hC (pc := 78) (hK _ _ h) dX2_roomAt_78
def wp_X2_roomAt_13 (ad : Nat → Nat) (X : Nat → gS → Prop) (K : Int32 → gS → Prop) (J2 : gS → Nat → Int32 → Int32 → Prop) (J13 : gS → Nat → Int32 → Int32 → Int32 → Int32 → Prop) (G : gS) (t0 : Nat) (x1 : Int32) (x2 : Int32) (x3 : Int32) (x4 : Int32) : Prop :=
  ((6 : Int32) ≤ x4 → wp_X2_roomAt_72 ad X K J2 G t0 x1 x2 x3) ∧ (¬ (6 : Int32) ≤ x4 → wGetQ G t0 2 0 fun q1 => wNN q1 fun c2 => wAldI G c2 x4 fun i3 => wGetQ G t0 2 0 fun q4 => wNN q4 fun c5 => wAldI G c5 x2 fun i6 => (i6 < i3 → wp_X2_roomAt_59 ad X K J2 J13 G t0 x1 x2 x4 x3) ∧ (¬ i6 < i3 → wGetQ G t0 2 0 fun q7 => wNN q7 fun c8 => wAldI G c8 x4 fun i9 => wGetQ G t0 2 0 fun q10 => wNN q10 fun c11 => wAldI G c11 x2 fun i12 => (¬ i9 = i12 → wp_X2_roomAt_63 ad X K J2 J13 G t0 x1 x2 x4 x3) ∧ (i9 = i12 → (x2 ≤ x4 → wp_X2_roomAt_63 ad X K J2 J13 G t0 x1 x2 x4 x3) ∧ (¬ x2 ≤ x4 → wp_X2_roomAt_59 ad X K J2 J13 G t0 x1 x2 x4 x3))))
theorem w_X2_roomAt_13 {C : gCx} (hC : gOk C "GoblinHousehold$Household" cX2_roomAt [] (some .int) "roomAt" 5 0 0) {K : Int32 → gS → Prop} {X : Nat → gS → Prop} (hK : ∀ r G, K r G → cxK C (some (vI r)) G) (hX : ∀ q G, X q G → cxX C q G) {J2 : gS → Nat → Int32 → Int32 → Prop} (hJ2 : ∀ G z0 z1 z2, J2 G z0 z1 z2 → gGo C G 2 [(0, vQ (some z0)), (1, vI z1), (2, vI z2)] []) (n : Nat) : ∀ (G : gS) (t0 : Nat) (x1 : Int32) (x2 : Int32) (x3 : Int32) (x4 : Int32), gLoop (fun _ _ _ _ _ _ => False) (wp_X2_roomAt_13 (cxA C) X K J2) n G t0 x1 x2 x3 x4 → gGo C G 13 [(0, vQ (some t0)), (1, vI x1), (2, vI x2), (3, vI x3), (4, vI x4)] [] := by
  induction n with
  | zero => intro G t0 x1 x2 x3 x4 h; exact h.elim
  | succ n ih =>
    intro G t0 x1 x2 x3 x4 h
    have hJ13 := ih
    replace h : wp_X2_roomAt_13 (cxA C) X K J2 _ G t0 x1 x2 x3 x4 := h
    unfold wp_X2_roomAt_13 at h
    refine g_iload hC (pc := 13) 4 rfl dX2_roomAt_13 ?_
    refine g_bipush hC (pc := 15) (v := (6 : Int32)) (by decide) dX2_roomAt_15 ?_
    refine g_icmp_ge hC (pc := 17) 72 h (by decide) dX2_roomAt_17 (fun h => ?_) (fun h => ?_)
    · exact g_sub [0, 1, 2, 3] rfl (w_X2_roomAt_72 hC hK hX hJ2 h)
    · refine g_iload_n hC (pc := 20) 3 rfl rfl dX2_roomAt_20 ?_
      refine g_aload_n hC (pc := 21) 0 rfl rfl dX2_roomAt_21 ?_
      refine g_getQ hC (pc := 22) in_X2 (ci := 2) rfl 0 (by decide) q188 (Or.inl rfl) h dX2_roomAt_22 (fun q1 h => ?_)
      refine g_iload hC (pc := 25) 4 rfl dX2_roomAt_25 ?_
      rcases q1 with _ | c2
      · exact (gNN0 h).elim
      replace h := gNN1 h
      refine g_aldI hC (pc := 27) h dX2_roomAt_27 (fun i3 h => ?_)
      refine g_aload_n hC (pc := 28) 0 rfl rfl dX2_roomAt_28 ?_
      refine g_getQ hC (pc := 29) in_X2 (ci := 2) rfl 0 (by decide) q188 (Or.inl rfl) h dX2_roomAt_29 (fun q4 h => ?_)
      refine g_iload_n hC (pc := 32) 2 rfl rfl dX2_roomAt_32 ?_
      rcases q4 with _ | c5
      · exact (gNN0 h).elim
      replace h := gNN1 h
      refine g_aldI hC (pc := 33) h dX2_roomAt_33 (fun i6 h => ?_)
      refine g_icmp_gt hC (pc := 34) 59 h (by decide) dX2_roomAt_34 (fun h => ?_) (fun h => ?_)
      · exact g_sub [0, 1, 2, 4] rfl (w_X2_roomAt_59 hC hK hX hJ2 hJ13 h)
      · refine g_aload_n hC (pc := 37) 0 rfl rfl dX2_roomAt_37 ?_
        refine g_getQ hC (pc := 38) in_X2 (ci := 2) rfl 0 (by decide) q188 (Or.inl rfl) h dX2_roomAt_38 (fun q7 h => ?_)
        refine g_iload hC (pc := 41) 4 rfl dX2_roomAt_41 ?_
        rcases q7 with _ | c8
        · exact (gNN0 h).elim
        replace h := gNN1 h
        refine g_aldI hC (pc := 43) h dX2_roomAt_43 (fun i9 h => ?_)
        refine g_aload_n hC (pc := 44) 0 rfl rfl dX2_roomAt_44 ?_
        refine g_getQ hC (pc := 45) in_X2 (ci := 2) rfl 0 (by decide) q188 (Or.inl rfl) h dX2_roomAt_45 (fun q10 h => ?_)
        refine g_iload_n hC (pc := 48) 2 rfl rfl dX2_roomAt_48 ?_
        rcases q10 with _ | c11
        · exact (gNN0 h).elim
        replace h := gNN1 h
        refine g_aldI hC (pc := 49) h dX2_roomAt_49 (fun i12 h => ?_)
        refine g_icmp_ne hC (pc := 50) 63 h (by decide) dX2_roomAt_50 (fun h => ?_) (fun h => ?_)
        · exact g_sub [0, 1, 2, 4] rfl (w_X2_roomAt_63 hC hK hX hJ2 hJ13 h)
        · refine g_iload hC (pc := 53) 4 rfl dX2_roomAt_53 ?_
          refine g_iload_n hC (pc := 55) 2 rfl rfl dX2_roomAt_55 ?_
          refine g_icmp_ge hC (pc := 56) 63 h (by decide) dX2_roomAt_56 (fun h => ?_) (fun h => ?_)
          · exact g_sub [0, 1, 2, 4] rfl (w_X2_roomAt_63 hC hK hX hJ2 hJ13 h)
          · exact g_sub [0, 1, 2, 4] rfl (w_X2_roomAt_59 hC hK hX hJ2 hJ13 h)
def wp_X2_roomAt_2 (ad : Nat → Nat) (X : Nat → gS → Prop) (K : Int32 → gS → Prop) (J2 : gS → Nat → Int32 → Int32 → Prop) (G : gS) (t0 : Nat) (x1 : Int32) (x2 : Int32) : Prop :=
  ((6 : Int32) ≤ x2 → K (-1 : Int32) G) ∧ (¬ (6 : Int32) ≤ x2 → gLoop (fun _ _ _ _ _ _ => False) (wp_X2_roomAt_13 ad X K J2) gFuel G t0 x1 x2 (0 : Int32) (0 : Int32))
theorem w_X2_roomAt_2 {C : gCx} (hC : gOk C "GoblinHousehold$Household" cX2_roomAt [] (some .int) "roomAt" 5 0 0) {K : Int32 → gS → Prop} {X : Nat → gS → Prop} (hK : ∀ r G, K r G → cxK C (some (vI r)) G) (hX : ∀ q G, X q G → cxX C q G) (n : Nat) : ∀ (G : gS) (t0 : Nat) (x1 : Int32) (x2 : Int32), gLoop (fun _ _ _ _ => False) (wp_X2_roomAt_2 (cxA C) X K) n G t0 x1 x2 → gGo C G 2 [(0, vQ (some t0)), (1, vI x1), (2, vI x2)] [] := by
  induction n with
  | zero => intro G t0 x1 x2 h; exact h.elim
  | succ n ih =>
    intro G t0 x1 x2 h
    have hJ2 := ih
    replace h : wp_X2_roomAt_2 (cxA C) X K _ G t0 x1 x2 := h
    unfold wp_X2_roomAt_2 at h
    refine g_iload_n hC (pc := 2) 2 rfl rfl dX2_roomAt_2 ?_
    refine g_bipush hC (pc := 3) (v := (6 : Int32)) (by decide) dX2_roomAt_3 ?_
    refine g_icmp_ge hC (pc := 5) 85 h (by decide) dX2_roomAt_5 (fun h => ?_) (fun h => ?_)
    · refine g_iconst hC (pc := 85) (v := (-1 : Int32)) (by decide) dX2_roomAt_85 ?_
      exact g_iret hC (pc := 86) (hK _ _ h) dX2_roomAt_86
    · refine g_iconst hC (pc := 8) (v := (0 : Int32)) (by decide) dX2_roomAt_8 ?_
      refine g_istore_n hC (pc := 9) (lv' := [(3, vI (0 : Int32)), (0, vQ (some t0)), (1, vI x1), (2, vI x2)]) rfl (by decide) rfl dX2_roomAt_9 ?_
      refine g_iconst hC (pc := 10) (v := (0 : Int32)) (by decide) dX2_roomAt_10 ?_
      refine g_istore hC (pc := 11) (lv' := [(4, vI (0 : Int32)), (3, vI (0 : Int32)), (0, vQ (some t0)), (1, vI x1), (2, vI x2)]) (by decide) rfl dX2_roomAt_11 ?_
      exact g_sub [2, 3, 4, 1, 0] rfl (w_X2_roomAt_13 hC hK hX hJ2 gFuel _ _ _ _ _ _ h)
def wp_X2_roomAt (ad : Nat → Nat) (G : gS) (t0 : Nat) (x1 : Int32) (X : Nat → gS → Prop) (K : Int32 → gS → Prop) : Prop :=
  gLoop (fun _ _ _ _ => False) (wp_X2_roomAt_2 ad X K) gFuel G t0 x1 (0 : Int32)
theorem w_X2_roomAt {C : gCx} (hC : gOk C "GoblinHousehold$Household" cX2_roomAt [] (some .int) "roomAt" 5 0 0) {K : Int32 → gS → Prop} {X : Nat → gS → Prop} (hK : ∀ r G, K r G → cxK C (some (vI r)) G) (hX : ∀ q G, X q G → cxX C q G) {G : gS} {t0 : Nat} {x1 : Int32} (h : wp_X2_roomAt (cxA C) G t0 x1 X K) : gGo C G 0 [(0, vQ (some t0)), (1, vI x1)] [] := by
  unfold wp_X2_roomAt at h
  refine g_iconst hC (pc := 0) (v := (0 : Int32)) (by decide) dX2_roomAt_0 ?_
  refine g_istore_n hC (pc := 1) (lv' := [(2, vI (0 : Int32)), (0, vQ (some t0)), (1, vI x1)]) rfl (by decide) rfl dX2_roomAt_1 ?_
  exact g_sub [1, 2, 0] rfl (w_X2_roomAt_2 hC hK hX gFuel _ _ _ _ h)
theorem gc_X2_roomAt : gCode yX2_roomAt cX2_roomAt 5 (some .int) 1 := ⟨q1729, q95, ⟨by decide, by decide⟩, rfl⟩
theorem m_X2_roomAt {l : Launch} (hfl : l.stackTraces = false) {E : gE} {G : gS} {t0 : Nat} {x1 : Int32} {X : Nat → gS → Prop} {K : Int32 → gS → Prop} (h : wp_X2_roomAt (gAd E) G t0 x1 X K) : gMet l yX2_roomAt (ws_ yX2_roomAt cX2_roomAt 5 (some .int)) 0 0 [vQ (some t0), vI x1] E G (gRi K) X :=
  g_met hfl (plainFor_of_name (by decide +kernel)) rfl rfl rfl (gle rfl) (fun p e R s m args below meth c hC => w_X2_roomAt hC (fun _ _ h => h) (fun _ _ h => h) h)
def wp_X1_checkElement (ad : Nat → Nat) (G : gS) (x0 : Int32) (X : Nat → gS → Prop) (K : gS → Prop) : Prop :=
  (¬ x0 = (0 : Int32) → K G) ∧ (x0 = (0 : Int32) → wNew G 23 6 [.null, .null, .null, .null, .null, .int 0] fun c2 G1 => wp_J23_init ad G1 c2  X (fun G3 => wThrow G3 c2 X))
theorem w_X1_checkElement {C : gCx} (hC : gOk C "GoblinHousehold" cX1_checkElement [] none "checkElement" 1 8 212) {K : gS → Prop} {X : Nat → gS → Prop} (hK : ∀ G, K G → cxK C none G) (hX : ∀ q G, X q G → cxX C q G) {G : gS} {x0 : Int32} (h : wp_X1_checkElement (cxA C) G x0 X K) : gGo C G 0 [(0, vI x0)] [] := by
  unfold wp_X1_checkElement at h
  refine g_iload_n hC (pc := 0) 0 rfl rfl dX1_checkElement_0 ?_
  refine g_if_ne hC (pc := 1) 12 h (by decide) dX1_checkElement_1 (fun h => ?_) (fun h => ?_)
  · exact g_vret hC (pc := 12) (hK _ h) dX1_checkElement_12
  · refine g_new hC (pc := 4) in_J23 (ci := 23) rfl (by decide) tyJ23_ok q1736 q1136 q129 gdf_J23 h dX1_checkElement_4 (fun c2 G1 h => ?_)
    refine g_dup hC (pc := 7) rfl dX1_checkElement_7 ?_
    refine g_callI hC (pc := 8) (As := []) gc_J23_init (m_J23_init hC.fl h) rfl q1737 q1145 (gle rfl) (gle rfl) rfl (gle rfl) rfl dX1_checkElement_8 (gk_v fun G3 h => ?_) (fun _ _ h hio => g_out0 hC (hX _ _ h) hio)
    exact g_athrow hC (pc := 11) dX1_checkElement_11 h.1 (g_out0 hC (hX _ _ h.2) h.1)
theorem gc_X1_checkElement : gCode yX1_checkElement cX1_checkElement 1 none 1 := ⟨q1735, q94, ⟨by decide, by decide⟩, rfl⟩
theorem m_X1_checkElement {l : Launch} (hfl : l.stackTraces = false) {E : gE} {G : gS} {x0 : Int32} {X : Nat → gS → Prop} {K : gS → Prop} (h : wp_X1_checkElement (gAd E) G x0 X K) : gMet l yX1_checkElement (ws_ yX1_checkElement cX1_checkElement 1 none) 8 212 [vI x0] E G (gRv K) X :=
  g_met hfl (plainFor_of_name (by decide +kernel)) rfl rfl rfl (gle rfl) (fun p e R s m args below meth c hC => w_X1_checkElement hC (fun _ h => h) (fun _ _ h => h) h)
def wp_X1_found_10 (ad : Nat → Nat) (X : Nat → gS → Prop) (K : Int32 → gS → Prop) (G : gS) (x0 : Int32) (xs0 : Int32) : Prop :=
  wp_X1_checkElement ad G xs0 X (fun G1 => K x0 G1)
theorem w_X1_found_10 {C : gCx} (hC : gOk C "GoblinHousehold" cX1_found [] (some .int) "found" 1 9 240) {K : Int32 → gS → Prop} {X : Nat → gS → Prop} (hK : ∀ r G, K r G → cxK C (some (vI r)) G) (hX : ∀ q G, X q G → cxX C q G) {G : gS} {x0 : Int32} {xs0 : Int32} (h : wp_X1_found_10 (cxA C) X K G x0 xs0) : gGo C G 10 [(0, vI x0)] [vI xs0] := by
  unfold wp_X1_found_10 at h
  refine g_callS hC (pc := 10) (b := 0) (As := [vI xs0]) gc_X1_checkElement (m_X1_checkElement hC.fl h) q1733 q1734 (gle rfl) (gle rfl) rfl (gle rfl) rfl dX1_found_10 (gk_v fun G1 h => ?_) (fun _ _ h hio => g_out0 hC (hX _ _ h) hio)
  refine g_iload_n hC (pc := 13) 0 rfl rfl dX1_found_13 ?_
  exact g_iret hC (pc := 14) (hK _ _ h) dX1_found_14
def wp_X1_found (ad : Nat → Nat) (G : gS) (x0 : Int32) (X : Nat → gS → Prop) (K : Int32 → gS → Prop) : Prop :=
  (x0 = (-1 : Int32) → wp_X1_found_10 ad X K G x0 (0 : Int32)) ∧ (¬ x0 = (-1 : Int32) → wp_X1_found_10 ad X K G x0 (1 : Int32))
theorem w_X1_found {C : gCx} (hC : gOk C "GoblinHousehold" cX1_found [] (some .int) "found" 1 9 240) {K : Int32 → gS → Prop} {X : Nat → gS → Prop} (hK : ∀ r G, K r G → cxK C (some (vI r)) G) (hX : ∀ q G, X q G → cxX C q G) {G : gS} {x0 : Int32} (h : wp_X1_found (cxA C) G x0 X K) : gGo C G 0 [(0, vI x0)] [] := by
  unfold wp_X1_found at h
  refine g_iload_n hC (pc := 0) 0 rfl rfl dX1_found_0 ?_
  refine g_iconst hC (pc := 1) (v := (-1 : Int32)) (by decide) dX1_found_1 ?_
  refine g_icmp_eq hC (pc := 2) 9 h (by decide) dX1_found_2 (fun h => ?_) (fun h => ?_)
  · refine g_iconst hC (pc := 9) (v := (0 : Int32)) (by decide) dX1_found_9 ?_
    exact g_sub [0] rfl (w_X1_found_10 hC hK hX h)
  · refine g_iconst hC (pc := 5) (v := (1 : Int32)) (by decide) dX1_found_5 ?_
    refine g_goto hC (pc := 6) 10 (by decide) dX1_found_6 ?_
    exact g_sub [0] rfl (w_X1_found_10 hC hK hX h)
theorem gc_X1_found : gCode yX1_found cX1_found 1 (some .int) 1 := ⟨q1732, q94, ⟨by decide, by decide⟩, rfl⟩
theorem m_X1_found {l : Launch} (hfl : l.stackTraces = false) {E : gE} {G : gS} {x0 : Int32} {X : Nat → gS → Prop} {K : Int32 → gS → Prop} (h : wp_X1_found (gAd E) G x0 X K) : gMet l yX1_found (ws_ yX1_found cX1_found 1 (some .int)) 9 240 [vI x0] E G (gRi K) X :=
  g_met hfl (plainFor_of_name (by decide +kernel)) rfl rfl rfl (gle rfl) (fun p e R s m args below meth c hC => w_X1_found hC (fun _ _ h => h) (fun _ _ h => h) h)
def wp_X1_roomByDust (ad : Nat → Nat) (G : gS) (t0 : Nat) (x1 : Int32) (X : Nat → gS → Prop) (K : Int32 → gS → Prop) : Prop :=
  wGetQ G t0 1 0 fun q1 => wNN q1 fun c2 => (gIs G c2 2 ∧ wp_X2_roomAt ad G c2 x1 X (fun r4 G3 => wp_X1_found ad G3 r4 X (fun r6 G5 => K r6 G5)))
theorem w_X1_roomByDust {C : gCx} (hC : gOk C "GoblinHousehold" cX1_roomByDust [] (some .int) "roomByDust" 2 10 268) {K : Int32 → gS → Prop} {X : Nat → gS → Prop} (hK : ∀ r G, K r G → cxK C (some (vI r)) G) (hX : ∀ q G, X q G → cxX C q G) {G : gS} {t0 : Nat} {x1 : Int32} (h : wp_X1_roomByDust (cxA C) G t0 x1 X K) : gGo C G 0 [(0, vQ (some t0)), (1, vI x1)] [] := by
  unfold wp_X1_roomByDust at h
  refine g_aload_n hC (pc := 0) 0 rfl rfl dX1_roomByDust_0 ?_
  refine g_getQ hC (pc := 1) in_X1 (ci := 1) rfl 0 (by decide) q292 (Or.inl rfl) h dX1_roomByDust_1 (fun q1 h => ?_)
  refine g_iload_n hC (pc := 4) 1 rfl rfl dX1_roomByDust_4 ?_
  rcases q1 with _ | c2
  · exact (gNN0 h).elim
  replace h := gNN1 h
  obtain ⟨hi, h⟩ := h
  refine g_callV hC (pc := 5) (ci := 2) (As := [vI x1]) gc_X2_roomAt (m_X2_roomAt hC.fl h) rfl hi q1726 q1727 q1728 (gle rfl) (gle rfl) rfl (gle rfl) rfl dX1_roomByDust_5 (gk_i fun r4 G3 h => ?_) (fun _ _ h hio => g_out0 hC (hX _ _ h) hio)
  refine g_callS hC (pc := 8) (b := 0) (As := [vI r4]) gc_X1_found (m_X1_found hC.fl h) q1730 q1731 (gle rfl) (gle rfl) rfl (gle rfl) rfl dX1_roomByDust_8 (gk_i fun r6 G5 h => ?_) (fun _ _ h hio => g_out0 hC (hX _ _ h) hio)
  exact g_iret hC (pc := 11) (hK _ _ h) dX1_roomByDust_11
theorem gc_X1_roomByDust : gCode yX1_roomByDust cX1_roomByDust 2 (some .int) 1 := ⟨q1725, q94, ⟨by decide, by decide⟩, rfl⟩
theorem m_X1_roomByDust {l : Launch} (hfl : l.stackTraces = false) {E : gE} {G : gS} {t0 : Nat} {x1 : Int32} {X : Nat → gS → Prop} {K : Int32 → gS → Prop} (h : wp_X1_roomByDust (gAd E) G t0 x1 X K) : gMet l yX1_roomByDust (ws_ yX1_roomByDust cX1_roomByDust 2 (some .int)) 10 268 [vQ (some t0), vI x1] E G (gRi K) X :=
  g_met hfl (plainFor_of_name (by decide +kernel)) rfl rfl rfl (gle rfl) (fun p e R s m args below meth c hC => w_X1_roomByDust hC (fun _ _ h => h) (fun _ _ h => h) h)
def wp_X0_roomByDust_12 (ad : Nat → Nat) (X : Nat → gS → Prop) (K : Int32 → gS → Prop) (G : gS) (ts0 : Nat) : Prop :=
  K (1 : Int32) G
theorem w_X0_roomByDust_12 {C : gCx} (hC : gOk C "GoblinHouseholdLaw" cX0_roomByDust [(0, 9, 12, 37)] (some .int) "roomByDust" 4 11 297) {K : Int32 → gS → Prop} {X : Nat → gS → Prop} (hK : ∀ r G, K r G → cxK C (some (vI r)) G) (hX : ∀ q G, X q G → cxX C q G) {G : gS} {ts0 : Nat} (h : wp_X0_roomByDust_12 (cxA C) X K G ts0) : gGo C G 12 [] [vQ (some ts0)] := by
  unfold wp_X0_roomByDust_12 at h
  refine g_astore_n hC (pc := 12) (lv' := [(3, vQ (some ts0))]) rfl (by decide) rfl dX0_roomByDust_12 ?_
  refine g_iconst hC (pc := 13) (v := (1 : Int32)) (by decide) dX0_roomByDust_13 ?_
  exact g_iret hC (pc := 14) (hK _ _ h) dX0_roomByDust_14
def wp_X0_roomByDust (ad : Nat → Nat) (G : gS) (o0 : Option Nat) (x1 : Int32) (o2 : Option Nat) (X : Nat → gS → Prop) (K : Int32 → gS → Prop) : Prop :=
  wNN o0 fun c1 => (gIs G c1 1 ∧ wp_X1_roomByDust ad G c1 x1 (fun y3 G4 => (gHas G4 y3 23 ∧ (wp_X0_roomByDust_12 ad X K G4 y3))) (fun r5 G2 => wNN o2 fun c6 => wAstL G2 c6 (0 : Int32) ((r5).toInt64) fun G7 => K (0 : Int32) G7))
theorem w_X0_roomByDust {C : gCx} (hC : gOk C "GoblinHouseholdLaw" cX0_roomByDust [(0, 9, 12, 37)] (some .int) "roomByDust" 4 11 297) {K : Int32 → gS → Prop} {X : Nat → gS → Prop} (hK : ∀ r G, K r G → cxK C (some (vI r)) G) (hX : ∀ q G, X q G → cxX C q G) {G : gS} {o0 : Option Nat} {x1 : Int32} {o2 : Option Nat} (h : wp_X0_roomByDust (cxA C) G o0 x1 o2 X K) : gGo C G 0 [(0, vQ o0), (1, vI x1), (2, vQ o2)] [] := by
  unfold wp_X0_roomByDust at h
  refine g_aload_n hC (pc := 0) 2 rfl rfl dX0_roomByDust_0 ?_
  refine g_iconst hC (pc := 1) (v := (0 : Int32)) (by decide) dX0_roomByDust_1 ?_
  refine g_aload_n hC (pc := 2) 0 rfl rfl dX0_roomByDust_2 ?_
  refine g_iload_n hC (pc := 3) 1 rfl rfl dX0_roomByDust_3 ?_
  rcases o0 with _ | c1
  · exact (gNN0 h).elim
  replace h := gNN1 h
  obtain ⟨hi, h⟩ := h
  refine g_callV hC (pc := 4) (ci := 1) (As := [vI x1]) gc_X1_roomByDust (m_X1_roomByDust hC.fl h) rfl hi q1722 q1723 q1724 (gle rfl) (gle rfl) rfl (gle rfl) rfl dX0_roomByDust_4 (gk_i fun r5 G2 h => ?_) (fun y3 G4 h hio => ?_)
  · refine g_i2l hC (pc := 7) dX0_roomByDust_7 ?_
    rcases o2 with _ | c6
    · exact (gNN0 h).elim
    replace h := gNN1 h
    refine g_astL hC (pc := 8) h dX0_roomByDust_8 (fun G7 h => ?_)
    refine g_goto hC (pc := 9) 15 (by decide) dX0_roomByDust_9 ?_
    refine g_iconst hC (pc := 15) (v := (0 : Int32)) (by decide) dX0_roomByDust_15 ?_
    exact g_iret hC (pc := 16) (hK _ _ h) dX0_roomByDust_16
  · obtain ⟨hq, h⟩ := h
    refine g_catchI hC (pc := 4) (ci := 23) rfl hq 0 rfl (fun _ h => nomatch h) rfl (by decide) q1418 (List.mem_of_getElem? (i := 8) rfl) rfl ?_
    exact g_sub [] rfl (w_X0_roomByDust_12 hC hK hX h)
theorem gc_X0_roomByDust : gCodeW yX0_roomByDust cX0_roomByDust 4 (some .int) [(0, 9, 12, 37)] 3 := ⟨q1721, q93, ⟨by decide, by decide⟩, rfl⟩
theorem m_X0_roomByDust {l : Launch} (hfl : l.stackTraces = false) {E : gE} {G : gS} {o0 : Option Nat} {x1 : Int32} {o2 : Option Nat} {X : Nat → gS → Prop} {K : Int32 → gS → Prop} (h : wp_X0_roomByDust (gAd E) G o0 x1 o2 X K) : gMet l yX0_roomByDust (wsW_ yX0_roomByDust cX0_roomByDust 4 (some .int) [(0, 9, 12, 37)]) 11 297 [vQ o0, vI x1, vQ o2] E G (gRi K) X :=
  g_metW hfl (plainFor_of_name (by decide +kernel)) rfl rfl rfl (gle rfl) (fun p e R s m args below meth c hC => w_X0_roomByDust hC (fun _ _ h => h) (fun _ _ h => h) h)
def wp_X3_roomByDust_68 (ad : Nat → Nat) (X : Nat → gS → Prop) (K : Int32 → gS → Prop) (J4 : gS → Nat → Int32 → Int32 → Int32 → Prop) (J16 : gS → Nat → Int32 → Int32 → Int32 → Int32 → Int32 → Prop) (G : gS) (t0 : Nat) (x1 : Int32) (x2 : Int32) (x3 : Int32) (x5 : Int32) (xs0 : Int32) (xs1 : Int32) : Prop :=
  J16 G t0 x1 x2 x3 (xs1 + xs0) (x5 + (1 : Int32))
theorem w_X3_roomByDust_68 {C : gCx} (hC : gOk C "GoblinHouseholdModel" cX3_roomByDust [] (some .int) "roomByDust" 7 2 61) {K : Int32 → gS → Prop} {X : Nat → gS → Prop} (hK : ∀ r G, K r G → cxK C (some (vI r)) G) (hX : ∀ q G, X q G → cxX C q G) {J4 : gS → Nat → Int32 → Int32 → Int32 → Prop} {J16 : gS → Nat → Int32 → Int32 → Int32 → Int32 → Int32 → Prop} (hJ4 : ∀ G z0 z1 z2 z3, J4 G z0 z1 z2 z3 → gGo C G 4 [(0, vQ (some z0)), (1, vI z1), (2, vI z2), (3, vI z3)] []) (hJ16 : ∀ G z0 z1 z2 z3 z4 z5, J16 G z0 z1 z2 z3 z4 z5 → gGo C G 16 [(0, vQ (some z0)), (1, vI z1), (2, vI z2), (3, vI z3), (4, vI z4), (5, vI z5)] []) {G : gS} {t0 : Nat} {x1 : Int32} {x2 : Int32} {x3 : Int32} {x5 : Int32} {xs0 : Int32} {xs1 : Int32} (h : wp_X3_roomByDust_68 (cxA C) X K J4 J16 G t0 x1 x2 x3 x5 xs0 xs1) : gGo C G 68 [(0, vQ (some t0)), (1, vI x1), (2, vI x2), (3, vI x3), (5, vI x5)] [vI xs0, vI xs1] := by
  unfold wp_X3_roomByDust_68 at h
  refine g_iadd hC (pc := 68) dX3_roomByDust_68 ?_
  refine g_istore hC (pc := 69) (lv' := [(4, vI (xs1 + xs0)), (0, vQ (some t0)), (1, vI x1), (2, vI x2), (3, vI x3), (5, vI x5)]) (by decide) rfl dX3_roomByDust_69 ?_
  refine g_iinc hC (pc := 71) 5 (d := (1 : Int32)) (v := (x5 + (1 : Int32))) (lv' := [(5, vI (x5 + (1 : Int32))), (4, vI (xs1 + xs0)), (0, vQ (some t0)), (1, vI x1), (2, vI x2), (3, vI x3)]) rfl (by decide) rfl (by decide) rfl dX3_roomByDust_71 ?_
  refine g_goto hC (pc := 74) 16 (by decide) dX3_roomByDust_74 ?_
  exact g_sub [2, 3, 4, 5, 1, 0] rfl (hJ16 _ _ _ _ _ _ _ h)
def wp_X3_roomByDust_63 (ad : Nat → Nat) (X : Nat → gS → Prop) (K : Int32 → gS → Prop) (J4 : gS → Nat → Int32 → Int32 → Int32 → Prop) (J16 : gS → Nat → Int32 → Int32 → Int32 → Int32 → Int32 → Prop) (G : gS) (t0 : Nat) (x1 : Int32) (x2 : Int32) (x3 : Int32) (x5 : Int32) (xs0 : Int32) : Prop :=
  wp_X3_roomByDust_68 ad X K J4 J16 G t0 x1 x2 x3 x5 (1 : Int32) xs0
theorem w_X3_roomByDust_63 {C : gCx} (hC : gOk C "GoblinHouseholdModel" cX3_roomByDust [] (some .int) "roomByDust" 7 2 61) {K : Int32 → gS → Prop} {X : Nat → gS → Prop} (hK : ∀ r G, K r G → cxK C (some (vI r)) G) (hX : ∀ q G, X q G → cxX C q G) {J4 : gS → Nat → Int32 → Int32 → Int32 → Prop} {J16 : gS → Nat → Int32 → Int32 → Int32 → Int32 → Int32 → Prop} (hJ4 : ∀ G z0 z1 z2 z3, J4 G z0 z1 z2 z3 → gGo C G 4 [(0, vQ (some z0)), (1, vI z1), (2, vI z2), (3, vI z3)] []) (hJ16 : ∀ G z0 z1 z2 z3 z4 z5, J16 G z0 z1 z2 z3 z4 z5 → gGo C G 16 [(0, vQ (some z0)), (1, vI z1), (2, vI z2), (3, vI z3), (4, vI z4), (5, vI z5)] []) {G : gS} {t0 : Nat} {x1 : Int32} {x2 : Int32} {x3 : Int32} {x5 : Int32} {xs0 : Int32} (h : wp_X3_roomByDust_63 (cxA C) X K J4 J16 G t0 x1 x2 x3 x5 xs0) : gGo C G 63 [(0, vQ (some t0)), (1, vI x1), (2, vI x2), (3, vI x3), (5, vI x5)] [vI xs0] := by
  unfold wp_X3_roomByDust_63 at h
  refine g_iconst hC (pc := 63) (v := (1 : Int32)) (by decide) dX3_roomByDust_63 ?_
  refine g_goto hC (pc := 64) 68 (by decide) dX3_roomByDust_64 ?_
  exact g_sub [0, 1, 2, 3, 4] rfl (w_X3_roomByDust_68 hC hK hX hJ4 hJ16 h)
def wp_X3_roomByDust_67 (ad : Nat → Nat) (X : Nat → gS → Prop) (K : Int32 → gS → Prop) (J4 : gS → Nat → Int32 → Int32 → Int32 → Prop) (J16 : gS → Nat → Int32 → Int32 → Int32 → Int32 → Int32 → Prop) (G : gS) (t0 : Nat) (x1 : Int32) (x2 : Int32) (x3 : Int32) (x5 : Int32) (xs0 : Int32) : Prop :=
  wp_X3_roomByDust_68 ad X K J4 J16 G t0 x1 x2 x3 x5 (0 : Int32) xs0
theorem w_X3_roomByDust_67 {C : gCx} (hC : gOk C "GoblinHouseholdModel" cX3_roomByDust [] (some .int) "roomByDust" 7 2 61) {K : Int32 → gS → Prop} {X : Nat → gS → Prop} (hK : ∀ r G, K r G → cxK C (some (vI r)) G) (hX : ∀ q G, X q G → cxX C q G) {J4 : gS → Nat → Int32 → Int32 → Int32 → Prop} {J16 : gS → Nat → Int32 → Int32 → Int32 → Int32 → Int32 → Prop} (hJ4 : ∀ G z0 z1 z2 z3, J4 G z0 z1 z2 z3 → gGo C G 4 [(0, vQ (some z0)), (1, vI z1), (2, vI z2), (3, vI z3)] []) (hJ16 : ∀ G z0 z1 z2 z3 z4 z5, J16 G z0 z1 z2 z3 z4 z5 → gGo C G 16 [(0, vQ (some z0)), (1, vI z1), (2, vI z2), (3, vI z3), (4, vI z4), (5, vI z5)] []) {G : gS} {t0 : Nat} {x1 : Int32} {x2 : Int32} {x3 : Int32} {x5 : Int32} {xs0 : Int32} (h : wp_X3_roomByDust_67 (cxA C) X K J4 J16 G t0 x1 x2 x3 x5 xs0) : gGo C G 67 [(0, vQ (some t0)), (1, vI x1), (2, vI x2), (3, vI x3), (5, vI x5)] [vI xs0] := by
  unfold wp_X3_roomByDust_67 at h
  refine g_iconst hC (pc := 67) (v := (0 : Int32)) (by decide) dX3_roomByDust_67 ?_
  exact g_sub [0, 1, 2, 3, 4] rfl (w_X3_roomByDust_68 hC hK hX hJ4 hJ16 h)
def wp_X3_roomByDust_88 (ad : Nat → Nat) (X : Nat → gS → Prop) (K : Int32 → gS → Prop) (J4 : gS → Nat → Int32 → Int32 → Int32 → Prop) (G : gS) (t0 : Nat) (x1 : Int32) (x3 : Int32) (xs0 : Int32) : Prop :=
  J4 G t0 x1 xs0 (x3 + (1 : Int32))
theorem w_X3_roomByDust_88 {C : gCx} (hC : gOk C "GoblinHouseholdModel" cX3_roomByDust [] (some .int) "roomByDust" 7 2 61) {K : Int32 → gS → Prop} {X : Nat → gS → Prop} (hK : ∀ r G, K r G → cxK C (some (vI r)) G) (hX : ∀ q G, X q G → cxX C q G) {J4 : gS → Nat → Int32 → Int32 → Int32 → Prop} (hJ4 : ∀ G z0 z1 z2 z3, J4 G z0 z1 z2 z3 → gGo C G 4 [(0, vQ (some z0)), (1, vI z1), (2, vI z2), (3, vI z3)] []) {G : gS} {t0 : Nat} {x1 : Int32} {x3 : Int32} {xs0 : Int32} (h : wp_X3_roomByDust_88 (cxA C) X K J4 G t0 x1 x3 xs0) : gGo C G 88 [(0, vQ (some t0)), (1, vI x1), (3, vI x3)] [vI xs0] := by
  unfold wp_X3_roomByDust_88 at h
  refine g_istore_n hC (pc := 88) (lv' := [(2, vI xs0), (0, vQ (some t0)), (1, vI x1), (3, vI x3)]) rfl (by decide) rfl dX3_roomByDust_88 ?_
  refine g_iinc hC (pc := 89) 3 (d := (1 : Int32)) (v := (x3 + (1 : Int32))) (lv' := [(3, vI (x3 + (1 : Int32))), (2, vI xs0), (0, vQ (some t0)), (1, vI x1)]) rfl (by decide) rfl (by decide) rfl dX3_roomByDust_89 ?_
  refine g_goto hC (pc := 92) 4 (by decide) dX3_roomByDust_92 ?_
  exact g_sub [2, 3, 1, 0] rfl (hJ4 _ _ _ _ _ h)
def wp_X3_roomByDust_77 (ad : Nat → Nat) (X : Nat → gS → Prop) (K : Int32 → gS → Prop) (J4 : gS → Nat → Int32 → Int32 → Int32 → Prop) (G : gS) (t0 : Nat) (x1 : Int32) (x2 : Int32) (x3 : Int32) (x4 : Int32) : Prop :=
  (¬ x4 = x1 → wp_X3_roomByDust_88 ad X K J4 G t0 x1 x3 x2) ∧ (x4 = x1 → wp_X3_roomByDust_88 ad X K J4 G t0 x1 x3 x3)
theorem w_X3_roomByDust_77 {C : gCx} (hC : gOk C "GoblinHouseholdModel" cX3_roomByDust [] (some .int) "roomByDust" 7 2 61) {K : Int32 → gS → Prop} {X : Nat → gS → Prop} (hK : ∀ r G, K r G → cxK C (some (vI r)) G) (hX : ∀ q G, X q G → cxX C q G) {J4 : gS → Nat → Int32 → Int32 → Int32 → Prop} (hJ4 : ∀ G z0 z1 z2 z3, J4 G z0 z1 z2 z3 → gGo C G 4 [(0, vQ (some z0)), (1, vI z1), (2, vI z2), (3, vI z3)] []) {G : gS} {t0 : Nat} {x1 : Int32} {x2 : Int32} {x3 : Int32} {x4 : Int32} (h : wp_X3_roomByDust_77 (cxA C) X K J4 G t0 x1 x2 x3 x4) : gGo C G 77 [(0, vQ (some t0)), (1, vI x1), (2, vI x2), (3, vI x3), (4, vI x4)] [] := by
  unfold wp_X3_roomByDust_77 at h
  refine g_iload hC (pc := 77) 4 rfl dX3_roomByDust_77 ?_
  refine g_iload_n hC (pc := 79) 1 rfl rfl dX3_roomByDust_79 ?_
  refine g_icmp_ne hC (pc := 80) 87 h (by decide) dX3_roomByDust_80 (fun h => ?_) (fun h => ?_)
  · refine g_iload_n hC (pc := 87) 2 rfl rfl dX3_roomByDust_87 ?_
    exact g_sub [0, 1, 3] rfl (w_X3_roomByDust_88 hC hK hX hJ4 h)
  · refine g_iload_n hC (pc := 83) 3 rfl rfl dX3_roomByDust_83 ?_
    refine g_goto hC (pc := 84) 88 (by decide) dX3_roomByDust_84 ?_
    exact g_sub [0, 1, 3] rfl (w_X3_roomByDust_88 hC hK hX hJ4 h)
def wp_X3_roomByDust_16 (ad : Nat → Nat) (X : Nat → gS → Prop) (K : Int32 → gS → Prop) (J4 : gS → Nat → Int32 → Int32 → Int32 → Prop) (J16 : gS → Nat → Int32 → Int32 → Int32 → Int32 → Int32 → Prop) (G : gS) (t0 : Nat) (x1 : Int32) (x2 : Int32) (x3 : Int32) (x4 : Int32) (x5 : Int32) : Prop :=
  ((6 : Int32) ≤ x5 → wp_X3_roomByDust_77 ad X K J4 G t0 x1 x2 x3 x4) ∧ (¬ (6 : Int32) ≤ x5 → wGetQ G t0 0 0 fun q1 => wNN q1 fun c2 => wAldI G c2 ((12 : Int32) + x5) fun i3 => wGetQ G t0 0 0 fun q4 => wNN q4 fun c5 => wAldI G c5 ((12 : Int32) + x3) fun i6 => ((0 : Int32) < (i3 - i6) → wp_X3_roomByDust_63 ad X K J4 J16 G t0 x1 x2 x3 x5 x4) ∧ (¬ (0 : Int32) < (i3 - i6) → (¬ (i3 - i6) = (0 : Int32) → wp_X3_roomByDust_67 ad X K J4 J16 G t0 x1 x2 x3 x5 x4) ∧ ((i3 - i6) = (0 : Int32) → (x3 ≤ x5 → wp_X3_roomByDust_67 ad X K J4 J16 G t0 x1 x2 x3 x5 x4) ∧ (¬ x3 ≤ x5 → wp_X3_roomByDust_63 ad X K J4 J16 G t0 x1 x2 x3 x5 x4))))
theorem w_X3_roomByDust_16 {C : gCx} (hC : gOk C "GoblinHouseholdModel" cX3_roomByDust [] (some .int) "roomByDust" 7 2 61) {K : Int32 → gS → Prop} {X : Nat → gS → Prop} (hK : ∀ r G, K r G → cxK C (some (vI r)) G) (hX : ∀ q G, X q G → cxX C q G) {J4 : gS → Nat → Int32 → Int32 → Int32 → Prop} (hJ4 : ∀ G z0 z1 z2 z3, J4 G z0 z1 z2 z3 → gGo C G 4 [(0, vQ (some z0)), (1, vI z1), (2, vI z2), (3, vI z3)] []) (n : Nat) : ∀ (G : gS) (t0 : Nat) (x1 : Int32) (x2 : Int32) (x3 : Int32) (x4 : Int32) (x5 : Int32), gLoop (fun _ _ _ _ _ _ _ => False) (wp_X3_roomByDust_16 (cxA C) X K J4) n G t0 x1 x2 x3 x4 x5 → gGo C G 16 [(0, vQ (some t0)), (1, vI x1), (2, vI x2), (3, vI x3), (4, vI x4), (5, vI x5)] [] := by
  induction n with
  | zero => intro G t0 x1 x2 x3 x4 x5 h; exact h.elim
  | succ n ih =>
    intro G t0 x1 x2 x3 x4 x5 h
    have hJ16 := ih
    replace h : wp_X3_roomByDust_16 (cxA C) X K J4 _ G t0 x1 x2 x3 x4 x5 := h
    unfold wp_X3_roomByDust_16 at h
    refine g_iload hC (pc := 16) 5 rfl dX3_roomByDust_16 ?_
    refine g_bipush hC (pc := 18) (v := (6 : Int32)) (by decide) dX3_roomByDust_18 ?_
    refine g_icmp_ge hC (pc := 20) 77 h (by decide) dX3_roomByDust_20 (fun h => ?_) (fun h => ?_)
    · exact g_sub [0, 1, 2, 3, 4] rfl (w_X3_roomByDust_77 hC hK hX hJ4 h)
    · refine g_aload_n hC (pc := 23) 0 rfl rfl dX3_roomByDust_23 ?_
      refine g_getQ hC (pc := 24) in_X3 (ci := 0) rfl 0 (by decide) q2477 (Or.inl rfl) h dX3_roomByDust_24 (fun q1 h => ?_)
      refine g_bipush hC (pc := 27) (v := (12 : Int32)) (by decide) dX3_roomByDust_27 ?_
      refine g_iload hC (pc := 29) 5 rfl dX3_roomByDust_29 ?_
      refine g_iadd hC (pc := 31) dX3_roomByDust_31 ?_
      rcases q1 with _ | c2
      · exact (gNN0 h).elim
      replace h := gNN1 h
      refine g_aldI hC (pc := 32) h dX3_roomByDust_32 (fun i3 h => ?_)
      refine g_aload_n hC (pc := 33) 0 rfl rfl dX3_roomByDust_33 ?_
      refine g_getQ hC (pc := 34) in_X3 (ci := 0) rfl 0 (by decide) q2477 (Or.inl rfl) h dX3_roomByDust_34 (fun q4 h => ?_)
      refine g_bipush hC (pc := 37) (v := (12 : Int32)) (by decide) dX3_roomByDust_37 ?_
      refine g_iload_n hC (pc := 39) 3 rfl rfl dX3_roomByDust_39 ?_
      refine g_iadd hC (pc := 40) dX3_roomByDust_40 ?_
      rcases q4 with _ | c5
      · exact (gNN0 h).elim
      replace h := gNN1 h
      refine g_aldI hC (pc := 41) h dX3_roomByDust_41 (fun i6 h => ?_)
      refine g_isub hC (pc := 42) dX3_roomByDust_42 ?_
      refine g_istore hC (pc := 43) (lv' := [(6, vI (i3 - i6)), (0, vQ (some t0)), (1, vI x1), (2, vI x2), (3, vI x3), (4, vI x4), (5, vI x5)]) (by decide) rfl dX3_roomByDust_43 ?_
      refine g_iload hC (pc := 45) 5 rfl dX3_roomByDust_45 ?_
      refine g_iload hC (pc := 47) 0 rfl dX3_roomByDust_47 ?_
      refine g_if_gt hC (pc := 49) 63 h (by decide) dX3_roomByDust_49 (fun h => ?_) (fun h => ?_)
      · exact g_sub [1, 2, 3, 4, 6] rfl (w_X3_roomByDust_63 hC hK hX hJ4 hJ16 h)
      · refine g_iload hC (pc := 52) 0 rfl dX3_roomByDust_52 ?_
        refine g_if_ne hC (pc := 54) 67 h (by decide) dX3_roomByDust_54 (fun h => ?_) (fun h => ?_)
        · exact g_sub [1, 2, 3, 4, 6] rfl (w_X3_roomByDust_67 hC hK hX hJ4 hJ16 h)
        · refine g_iload hC (pc := 57) 6 rfl dX3_roomByDust_57 ?_
          refine g_iload_n hC (pc := 59) 4 rfl rfl dX3_roomByDust_59 ?_
          refine g_icmp_ge hC (pc := 60) 67 h (by decide) dX3_roomByDust_60 (fun h => ?_) (fun h => ?_)
          · exact g_sub [1, 2, 3, 4, 6] rfl (w_X3_roomByDust_67 hC hK hX hJ4 hJ16 h)
          · exact g_sub [1, 2, 3, 4, 6] rfl (w_X3_roomByDust_63 hC hK hX hJ4 hJ16 h)
def wp_X3_roomByDust_106 (ad : Nat → Nat) (X : Nat → gS → Prop) (K : Int32 → gS → Prop) (G : gS) (x2 : Int32) (xs0 : Int32) (ts1 : Nat) : Prop :=
  (gIs G ts1 0 ∧ wp_X3_goes ad G ts1 xs0 X (fun r2 G1 => (r2 = (0 : Int32) → K (0 : Int32) G1) ∧ (¬ r2 = (0 : Int32) → K x2 G1)))
theorem w_X3_roomByDust_106 {C : gCx} (hC : gOk C "GoblinHouseholdModel" cX3_roomByDust [] (some .int) "roomByDust" 7 2 61) {K : Int32 → gS → Prop} {X : Nat → gS → Prop} (hK : ∀ r G, K r G → cxK C (some (vI r)) G) (hX : ∀ q G, X q G → cxX C q G) {G : gS} {x2 : Int32} {xs0 : Int32} {ts1 : Nat} (h : wp_X3_roomByDust_106 (cxA C) X K G x2 xs0 ts1) : gGo C G 106 [(2, vI x2)] [vI xs0, vQ (some ts1)] := by
  unfold wp_X3_roomByDust_106 at h
  obtain ⟨hi, h⟩ := h
  refine g_callV hC (pc := 106) (ci := 0) (As := [vI xs0]) gc_X3_goes (m_X3_goes hC.fl h) rfl hi q2546 q2548 qs43 (gle rfl) (gle rfl) rfl (gle rfl) rfl dX3_roomByDust_106 (gk_i fun r2 G1 h => ?_) (fun _ _ h hio => g_out0 hC (hX _ _ h) hio)
  refine g_if_eq hC (pc := 109) 116 h (by decide) dX3_roomByDust_109 (fun h => ?_) (fun h => ?_)
  · refine g_iconst hC (pc := 116) (v := (0 : Int32)) (by decide) dX3_roomByDust_116 ?_
    exact g_iret hC (pc := 117) (hK _ _ h) dX3_roomByDust_117
  · refine g_iload_n hC (pc := 112) 0 rfl rfl dX3_roomByDust_112 ?_
    refine g_goto hC (pc := 113) 117 (by decide) dX3_roomByDust_113 ?_
    exact g_iret hC (pc := 117) (hK _ _ h) dX3_roomByDust_117
def wp_X3_roomByDust_95 (ad : Nat → Nat) (X : Nat → gS → Prop) (K : Int32 → gS → Prop) (G : gS) (t0 : Nat) (x2 : Int32) : Prop :=
  (x2 = (-1 : Int32) → wp_X3_roomByDust_106 ad X K G x2 (0 : Int32) t0) ∧ (¬ x2 = (-1 : Int32) → wp_X3_roomByDust_106 ad X K G x2 (1 : Int32) t0)
theorem w_X3_roomByDust_95 {C : gCx} (hC : gOk C "GoblinHouseholdModel" cX3_roomByDust [] (some .int) "roomByDust" 7 2 61) {K : Int32 → gS → Prop} {X : Nat → gS → Prop} (hK : ∀ r G, K r G → cxK C (some (vI r)) G) (hX : ∀ q G, X q G → cxX C q G) {G : gS} {t0 : Nat} {x2 : Int32} (h : wp_X3_roomByDust_95 (cxA C) X K G t0 x2) : gGo C G 95 [(0, vQ (some t0)), (2, vI x2)] [] := by
  unfold wp_X3_roomByDust_95 at h
  refine g_aload_n hC (pc := 95) 0 rfl rfl dX3_roomByDust_95 ?_
  refine g_iload_n hC (pc := 96) 1 rfl rfl dX3_roomByDust_96 ?_
  refine g_iconst hC (pc := 97) (v := (-1 : Int32)) (by decide) dX3_roomByDust_97 ?_
  refine g_icmp_eq hC (pc := 98) 105 h (by decide) dX3_roomByDust_98 (fun h => ?_) (fun h => ?_)
  · refine g_iconst hC (pc := 105) (v := (0 : Int32)) (by decide) dX3_roomByDust_105 ?_
    exact g_sub [1] rfl (w_X3_roomByDust_106 hC hK hX h)
  · refine g_iconst hC (pc := 101) (v := (1 : Int32)) (by decide) dX3_roomByDust_101 ?_
    refine g_goto hC (pc := 102) 106 (by decide) dX3_roomByDust_102 ?_
    exact g_sub [1] rfl (w_X3_roomByDust_106 hC hK hX h)
def wp_X3_roomByDust_4 (ad : Nat → Nat) (X : Nat → gS → Prop) (K : Int32 → gS → Prop) (J4 : gS → Nat → Int32 → Int32 → Int32 → Prop) (G : gS) (t0 : Nat) (x1 : Int32) (x2 : Int32) (x3 : Int32) : Prop :=
  ((6 : Int32) ≤ x3 → wp_X3_roomByDust_95 ad X K G t0 x2) ∧ (¬ (6 : Int32) ≤ x3 → gLoop (fun _ _ _ _ _ _ _ => False) (wp_X3_roomByDust_16 ad X K J4) gFuel G t0 x1 x2 x3 (0 : Int32) (0 : Int32))
theorem w_X3_roomByDust_4 {C : gCx} (hC : gOk C "GoblinHouseholdModel" cX3_roomByDust [] (some .int) "roomByDust" 7 2 61) {K : Int32 → gS → Prop} {X : Nat → gS → Prop} (hK : ∀ r G, K r G → cxK C (some (vI r)) G) (hX : ∀ q G, X q G → cxX C q G) (n : Nat) : ∀ (G : gS) (t0 : Nat) (x1 : Int32) (x2 : Int32) (x3 : Int32), gLoop (fun _ _ _ _ _ => False) (wp_X3_roomByDust_4 (cxA C) X K) n G t0 x1 x2 x3 → gGo C G 4 [(0, vQ (some t0)), (1, vI x1), (2, vI x2), (3, vI x3)] [] := by
  induction n with
  | zero => intro G t0 x1 x2 x3 h; exact h.elim
  | succ n ih =>
    intro G t0 x1 x2 x3 h
    have hJ4 := ih
    replace h : wp_X3_roomByDust_4 (cxA C) X K _ G t0 x1 x2 x3 := h
    unfold wp_X3_roomByDust_4 at h
    refine g_iload_n hC (pc := 4) 3 rfl rfl dX3_roomByDust_4 ?_
    refine g_bipush hC (pc := 5) (v := (6 : Int32)) (by decide) dX3_roomByDust_5 ?_
    refine g_icmp_ge hC (pc := 7) 95 h (by decide) dX3_roomByDust_7 (fun h => ?_) (fun h => ?_)
    · exact g_sub [0, 2] rfl (w_X3_roomByDust_95 hC hK hX h)
    · refine g_iconst hC (pc := 10) (v := (0 : Int32)) (by decide) dX3_roomByDust_10 ?_
      refine g_istore hC (pc := 11) (lv' := [(4, vI (0 : Int32)), (0, vQ (some t0)), (1, vI x1), (2, vI x2), (3, vI x3)]) (by decide) rfl dX3_roomByDust_11 ?_
      refine g_iconst hC (pc := 13) (v := (0 : Int32)) (by decide) dX3_roomByDust_13 ?_
      refine g_istore hC (pc := 14) (lv' := [(5, vI (0 : Int32)), (4, vI (0 : Int32)), (0, vQ (some t0)), (1, vI x1), (2, vI x2), (3, vI x3)]) (by decide) rfl dX3_roomByDust_14 ?_
      exact g_sub [2, 3, 4, 5, 1, 0] rfl (w_X3_roomByDust_16 hC hK hX hJ4 gFuel _ _ _ _ _ _ _ h)
def wp_X3_roomByDust (ad : Nat → Nat) (G : gS) (t0 : Nat) (x1 : Int32) (X : Nat → gS → Prop) (K : Int32 → gS → Prop) : Prop :=
  gLoop (fun _ _ _ _ _ => False) (wp_X3_roomByDust_4 ad X K) gFuel G t0 x1 (-1 : Int32) (0 : Int32)
theorem w_X3_roomByDust {C : gCx} (hC : gOk C "GoblinHouseholdModel" cX3_roomByDust [] (some .int) "roomByDust" 7 2 61) {K : Int32 → gS → Prop} {X : Nat → gS → Prop} (hK : ∀ r G, K r G → cxK C (some (vI r)) G) (hX : ∀ q G, X q G → cxX C q G) {G : gS} {t0 : Nat} {x1 : Int32} (h : wp_X3_roomByDust (cxA C) G t0 x1 X K) : gGo C G 0 [(0, vQ (some t0)), (1, vI x1)] [] := by
  unfold wp_X3_roomByDust at h
  refine g_iconst hC (pc := 0) (v := (-1 : Int32)) (by decide) dX3_roomByDust_0 ?_
  refine g_istore_n hC (pc := 1) (lv' := [(2, vI (-1 : Int32)), (0, vQ (some t0)), (1, vI x1)]) rfl (by decide) rfl dX3_roomByDust_1 ?_
  refine g_iconst hC (pc := 2) (v := (0 : Int32)) (by decide) dX3_roomByDust_2 ?_
  refine g_istore_n hC (pc := 3) (lv' := [(3, vI (0 : Int32)), (2, vI (-1 : Int32)), (0, vQ (some t0)), (1, vI x1)]) rfl (by decide) rfl dX3_roomByDust_3 ?_
  exact g_sub [2, 3, 1, 0] rfl (w_X3_roomByDust_4 hC hK hX gFuel _ _ _ _ _ h)
theorem gc_X3_roomByDust : gCode yX3_roomByDust cX3_roomByDust 7 (some .int) 1 := ⟨q2744, q105, ⟨by decide, by decide⟩, rfl⟩
theorem m_X3_roomByDust {l : Launch} (hfl : l.stackTraces = false) {E : gE} {G : gS} {t0 : Nat} {x1 : Int32} {X : Nat → gS → Prop} {K : Int32 → gS → Prop} (h : wp_X3_roomByDust (gAd E) G t0 x1 X K) : gMet l yX3_roomByDust (ws_ yX3_roomByDust cX3_roomByDust 7 (some .int)) 2 61 [vQ (some t0), vI x1] E G (gRi K) X :=
  g_met hfl (plainFor_of_name (by decide +kernel)) rfl rfl rfl (gle rfl) (fun p e R s m args below meth c hC => w_X3_roomByDust hC (fun _ _ h => h) (fun _ _ h => h) h)
def wp_X1_broomCount (ad : Nat → Nat) (G : gS) (t0 : Nat) (X : Nat → gS → Prop) (K : Int32 → gS → Prop) : Prop :=
  wGetQ G t0 1 0 fun q1 => wNN q1 fun c2 => wGetQ G c2 2 1 fun q3 => wNN q3 fun c4 => (gIs G c4 3 ∧ wp_J2_size ad G c4  X (fun r6 G5 => K r6 G5))
theorem w_X1_broomCount {C : gCx} (hC : gOk C "GoblinHousehold" cX1_broomCount [] (some .int) "broomCount" 1 1 28) {K : Int32 → gS → Prop} {X : Nat → gS → Prop} (hK : ∀ r G, K r G → cxK C (some (vI r)) G) (hX : ∀ q G, X q G → cxX C q G) {G : gS} {t0 : Nat} (h : wp_X1_broomCount (cxA C) G t0 X K) : gGo C G 0 [(0, vQ (some t0))] [] := by
  unfold wp_X1_broomCount at h
  refine g_aload_n hC (pc := 0) 0 rfl rfl dX1_broomCount_0 ?_
  refine g_getQ hC (pc := 1) in_X1 (ci := 1) rfl 0 (by decide) q292 (Or.inl rfl) h dX1_broomCount_1 (fun q1 h => ?_)
  rcases q1 with _ | c2
  · exact (gNN0 h).elim
  replace h := gNN1 h
  refine g_getQN hC (pc := 4) in_X2 (ci := 2) rfl 1 (by decide) (List.mem_of_getElem? (i := 1) rfl) (Or.inl rfl) h dX1_broomCount_4 (fun q3 h => ?_)
  rcases q3 with _ | c4
  · exact (gNN0 h).elim
  replace h := gNN1 h
  obtain ⟨hi, h⟩ := h
  refine g_callF hC (pc := 7) (ci := 3) (As := []) gc_J2_size (m_J2_size hC.fl h) rfl hi q319 (List.mem_of_getElem? (i := 0) rfl) rfl q323 q325 (gle rfl) (gle rfl) rfl (gle rfl) rfl dX1_broomCount_7 (gk_i fun r6 G5 h => ?_) (fun _ _ h hio => g_out0 hC (hX _ _ h) hio)
  exact g_iret hC (pc := 12) (hK _ _ h) dX1_broomCount_12
theorem gc_X1_broomCount : gCode yX1_broomCount cX1_broomCount 1 (some .int) 0 := ⟨q317, q94, ⟨by decide, by decide⟩, rfl⟩
theorem m_X1_broomCount {l : Launch} (hfl : l.stackTraces = false) {E : gE} {G : gS} {t0 : Nat} {X : Nat → gS → Prop} {K : Int32 → gS → Prop} (h : wp_X1_broomCount (gAd E) G t0 X K) : gMet l yX1_broomCount (ws_ yX1_broomCount cX1_broomCount 1 (some .int)) 1 28 [vQ (some t0)] E G (gRi K) X :=
  g_met hfl (plainFor_of_name (by decide +kernel)) rfl rfl rfl (gle rfl) (fun p e R s m args below meth c hC => w_X1_broomCount hC (fun _ _ h => h) (fun _ _ h => h) h)
def wp_X3_broomCount (ad : Nat → Nat) (G : gS) (t0 : Nat) (X : Nat → gS → Prop) (K : Int32 → gS → Prop) : Prop :=
  wPut G t0 0 14 (.int (0 : Int32)) fun G1 => wGetQ G1 t0 0 0 fun q2 => wNN q2 fun c3 => wAldI G1 c3 (8 : Int32) fun i4 => K i4 G1
theorem w_X3_broomCount {C : gCx} (hC : gOk C "GoblinHouseholdModel" cX3_broomCount [] (some .int) "broomCount" 1 0 0) {K : Int32 → gS → Prop} {X : Nat → gS → Prop} (hK : ∀ r G, K r G → cxK C (some (vI r)) G) (hX : ∀ q G, X q G → cxX C q G) {G : gS} {t0 : Nat} (h : wp_X3_broomCount (cxA C) G t0 X K) : gGo C G 0 [(0, vQ (some t0))] [] := by
  unfold wp_X3_broomCount at h
  refine g_aload_n hC (pc := 0) 0 rfl rfl dX3_broomCount_0 ?_
  refine g_iconst hC (pc := 1) (v := (0 : Int32)) (by decide) dX3_broomCount_1 ?_
  refine g_put hC (pc := 2) in_X3 (ci := 0) rfl 14 (by decide) tyX3_ok nmX3 q2491 (Or.inl rfl) rfl rfl rfl h dX3_broomCount_2 (fun G1 h => ?_)
  refine g_aload_n hC (pc := 5) 0 rfl rfl dX3_broomCount_5 ?_
  refine g_getQ hC (pc := 6) in_X3 (ci := 0) rfl 0 (by decide) q2477 (Or.inl rfl) h dX3_broomCount_6 (fun q2 h => ?_)
  refine g_bipush hC (pc := 9) (v := (8 : Int32)) (by decide) dX3_broomCount_9 ?_
  rcases q2 with _ | c3
  · exact (gNN0 h).elim
  replace h := gNN1 h
  refine g_aldI hC (pc := 11) h dX3_broomCount_11 (fun i4 h => ?_)
  exact g_iret hC (pc := 12) (hK _ _ h) dX3_broomCount_12
theorem gc_X3_broomCount : gCode yX3_broomCount cX3_broomCount 1 (some .int) 0 := ⟨q2748, q105, ⟨by decide, by decide⟩, rfl⟩
theorem m_X3_broomCount {l : Launch} (hfl : l.stackTraces = false) {E : gE} {G : gS} {t0 : Nat} {X : Nat → gS → Prop} {K : Int32 → gS → Prop} (h : wp_X3_broomCount (gAd E) G t0 X K) : gMet l yX3_broomCount (ws_ yX3_broomCount cX3_broomCount 1 (some .int)) 0 0 [vQ (some t0)] E G (gRi K) X :=
  g_met hfl (plainFor_of_name (by decide +kernel)) rfl rfl rfl (gle rfl) (fun p e R s m args below meth c hC => w_X3_broomCount hC (fun _ _ h => h) (fun _ _ h => h) h)
def wp_X1_broomAt (ad : Nat → Nat) (G : gS) (t0 : Nat) (x1 : Int32) (X : Nat → gS → Prop) (K : Option Nat → gS → Prop) : Prop :=
  wGetQ G t0 1 0 fun q1 => wNN q1 fun c2 => (gIs G c2 2 ∧ wp_X2_isBroom ad G c2 x1 X (fun r4 G3 => wp_X1_checkIndex ad G3 r4 X (fun G5 => wGetQ G5 t0 1 0 fun q6 => wNN q6 fun c7 => wGetQ G5 c7 2 1 fun q8 => wNN q8 fun c9 => (gIs G5 c9 3 ∧ wp_J2_get ad G5 c9 x1 X (fun q11 G10 => wCast G10 q11 [8] (K q11 G10))))))
theorem w_X1_broomAt {C : gCx} (hC : gOk C "GoblinHousehold" cX1_broomAt [] (some (Jvm.ClassFile.FieldType.object "GoblinHousehold$Broom")) "broomAt" 2 9 240) {K : Option Nat → gS → Prop} {X : Nat → gS → Prop} (hK : ∀ r G, K r G → cxK C (some (vQ r)) G) (hX : ∀ q G, X q G → cxX C q G) {G : gS} {t0 : Nat} {x1 : Int32} (h : wp_X1_broomAt (cxA C) G t0 x1 X K) : gGo C G 0 [(0, vQ (some t0)), (1, vI x1)] [] := by
  unfold wp_X1_broomAt at h
  refine g_aload_n hC (pc := 0) 0 rfl rfl dX1_broomAt_0 ?_
  refine g_getQ hC (pc := 1) in_X1 (ci := 1) rfl 0 (by decide) q292 (Or.inl rfl) h dX1_broomAt_1 (fun q1 h => ?_)
  refine g_iload_n hC (pc := 4) 1 rfl rfl dX1_broomAt_4 ?_
  rcases q1 with _ | c2
  · exact (gNN0 h).elim
  replace h := gNN1 h
  obtain ⟨hi, h⟩ := h
  refine g_callV hC (pc := 5) (ci := 2) (As := [vI x1]) gc_X2_isBroom (m_X2_isBroom hC.fl h) rfl hi q1749 q1345 q1346 (gle rfl) (gle rfl) rfl (gle rfl) rfl dX1_broomAt_5 (gk_i fun r4 G3 h => ?_) (fun _ _ h hio => g_out0 hC (hX _ _ h) hio)
  refine g_callS hC (pc := 8) (b := 0) (As := [vI r4]) gc_X1_checkIndex (m_X1_checkIndex hC.fl h) q1714 q1715 (gle rfl) (gle rfl) rfl (gle rfl) rfl dX1_broomAt_8 (gk_v fun G5 h => ?_) (fun _ _ h hio => g_out0 hC (hX _ _ h) hio)
  refine g_aload_n hC (pc := 11) 0 rfl rfl dX1_broomAt_11 ?_
  refine g_getQ hC (pc := 12) in_X1 (ci := 1) rfl 0 (by decide) q292 (Or.inl rfl) h dX1_broomAt_12 (fun q6 h => ?_)
  rcases q6 with _ | c7
  · exact (gNN0 h).elim
  replace h := gNN1 h
  refine g_getQN hC (pc := 15) in_X2 (ci := 2) rfl 1 (by decide) (List.mem_of_getElem? (i := 1) rfl) (Or.inl rfl) h dX1_broomAt_15 (fun q8 h => ?_)
  refine g_iload_n hC (pc := 18) 1 rfl rfl dX1_broomAt_18 ?_
  rcases q8 with _ | c9
  · exact (gNN0 h).elim
  replace h := gNN1 h
  obtain ⟨hi, h⟩ := h
  refine g_callF hC (pc := 19) (ci := 3) (As := [vI x1]) gc_J2_get (m_J2_get hC.fl h) rfl hi q1065 (List.mem_of_getElem? (i := 2) rfl) rfl q364 q366 (gle rfl) (gle rfl) rfl (gle rfl) rfl dX1_broomAt_19 (gk_q fun q11 G10 h => ?_) (fun _ _ h hio => g_out0 hC (hX _ _ h) hio)
  refine g_cast hC (pc := 24) q1750 h (List.forall_mem_cons.mpr ⟨⟨_, rfl, Or.inr ⟨rfl, by decide⟩⟩, fun _ h => nomatch h⟩) dX1_broomAt_24 (fun h => ?_)
  exact g_aret hC (pc := 27) (Or.inl ⟨_, rfl⟩) (hK _ _ h) dX1_broomAt_27
theorem gc_X1_broomAt : gCode yX1_broomAt cX1_broomAt 2 (some (Jvm.ClassFile.FieldType.object "GoblinHousehold$Broom")) 1 := ⟨q1748, q94, ⟨by decide, by decide⟩, rfl⟩
theorem m_X1_broomAt {l : Launch} (hfl : l.stackTraces = false) {E : gE} {G : gS} {t0 : Nat} {x1 : Int32} {X : Nat → gS → Prop} {K : Option Nat → gS → Prop} (h : wp_X1_broomAt (gAd E) G t0 x1 X K) : gMet l yX1_broomAt (ws_ yX1_broomAt cX1_broomAt 2 (some (Jvm.ClassFile.FieldType.object "GoblinHousehold$Broom"))) 9 240 [vQ (some t0), vI x1] E G (gRq K) X :=
  g_met hfl (plainFor_of_name (by decide +kernel)) rfl rfl rfl (gle rfl) (fun p e R s m args below meth c hC => w_X1_broomAt hC (fun _ _ h => h) (fun _ _ h => h) h)
def wp_X1_power (ad : Nat → Nat) (G : gS) (t0 : Nat) (x1 : Int32) (X : Nat → gS → Prop) (K : Int32 → gS → Prop) : Prop :=
  (gIs G t0 1 ∧ wp_X1_broomAt ad G t0 x1 X (fun q2 G1 => wNN q2 fun c3 => wGetI G1 c3 8 0 fun i4 => K i4 G1))
theorem w_X1_power {C : gCx} (hC : gOk C "GoblinHousehold" cX1_power [] (some .int) "power" 2 10 269) {K : Int32 → gS → Prop} {X : Nat → gS → Prop} (hK : ∀ r G, K r G → cxK C (some (vI r)) G) (hX : ∀ q G, X q G → cxX C q G) {G : gS} {t0 : Nat} {x1 : Int32} (h : wp_X1_power (cxA C) G t0 x1 X K) : gGo C G 0 [(0, vQ (some t0)), (1, vI x1)] [] := by
  unfold wp_X1_power at h
  refine g_aload_n hC (pc := 0) 0 rfl rfl dX1_power_0 ?_
  refine g_iload_n hC (pc := 1) 1 rfl rfl dX1_power_1 ?_
  obtain ⟨hi, h⟩ := h
  refine g_callV hC (pc := 2) (ci := 1) (As := [vI x1]) gc_X1_broomAt (m_X1_broomAt hC.fl h) rfl hi q1745 q1747 qs25 (gle rfl) (gle rfl) rfl (gle rfl) rfl dX1_power_2 (gk_q fun q2 G1 h => ?_) (fun _ _ h hio => g_out0 hC (hX _ _ h) hio)
  rcases q2 with _ | c3
  · exact (gNN0 h).elim
  replace h := gNN1 h
  refine g_getIN hC (pc := 5) in_X9 (ci := 8) rfl 0 (by decide) (List.mem_of_getElem? (i := 16) rfl) (Or.inl rfl) h dX1_power_5 (fun i4 h => ?_)
  exact g_iret hC (pc := 8) (hK _ _ h) dX1_power_8
theorem gc_X1_power : gCode yX1_power cX1_power 2 (some .int) 1 := ⟨q1744, q94, ⟨by decide, by decide⟩, rfl⟩
theorem m_X1_power {l : Launch} (hfl : l.stackTraces = false) {E : gE} {G : gS} {t0 : Nat} {x1 : Int32} {X : Nat → gS → Prop} {K : Int32 → gS → Prop} (h : wp_X1_power (gAd E) G t0 x1 X K) : gMet l yX1_power (ws_ yX1_power cX1_power 2 (some .int)) 10 269 [vQ (some t0), vI x1] E G (gRi K) X :=
  g_met hfl (plainFor_of_name (by decide +kernel)) rfl rfl rfl (gle rfl) (fun p e R s m args below meth c hC => w_X1_power hC (fun _ _ h => h) (fun _ _ h => h) h)
def wp_X0_power_12 (ad : Nat → Nat) (X : Nat → gS → Prop) (K : Int32 → gS → Prop) (G : gS) (ts0 : Nat) : Prop :=
  K (1 : Int32) G
theorem w_X0_power_12 {C : gCx} (hC : gOk C "GoblinHouseholdLaw" cX0_power [(0, 9, 12, 23)] (some .int) "power" 4 11 298) {K : Int32 → gS → Prop} {X : Nat → gS → Prop} (hK : ∀ r G, K r G → cxK C (some (vI r)) G) (hX : ∀ q G, X q G → cxX C q G) {G : gS} {ts0 : Nat} (h : wp_X0_power_12 (cxA C) X K G ts0) : gGo C G 12 [] [vQ (some ts0)] := by
  unfold wp_X0_power_12 at h
  refine g_astore_n hC (pc := 12) (lv' := [(3, vQ (some ts0))]) rfl (by decide) rfl dX0_power_12 ?_
  refine g_iconst hC (pc := 13) (v := (1 : Int32)) (by decide) dX0_power_13 ?_
  exact g_iret hC (pc := 14) (hK _ _ h) dX0_power_14
def wp_X0_power (ad : Nat → Nat) (G : gS) (o0 : Option Nat) (x1 : Int32) (o2 : Option Nat) (X : Nat → gS → Prop) (K : Int32 → gS → Prop) : Prop :=
  wNN o0 fun c1 => (gIs G c1 1 ∧ wp_X1_power ad G c1 x1 (fun y3 G4 => (gHas G4 y3 20 ∧ (wp_X0_power_12 ad X K G4 y3))) (fun r5 G2 => wNN o2 fun c6 => wAstL G2 c6 (0 : Int32) ((r5).toInt64) fun G7 => K (0 : Int32) G7))
theorem w_X0_power {C : gCx} (hC : gOk C "GoblinHouseholdLaw" cX0_power [(0, 9, 12, 23)] (some .int) "power" 4 11 298) {K : Int32 → gS → Prop} {X : Nat → gS → Prop} (hK : ∀ r G, K r G → cxK C (some (vI r)) G) (hX : ∀ q G, X q G → cxX C q G) {G : gS} {o0 : Option Nat} {x1 : Int32} {o2 : Option Nat} (h : wp_X0_power (cxA C) G o0 x1 o2 X K) : gGo C G 0 [(0, vQ o0), (1, vI x1), (2, vQ o2)] [] := by
  unfold wp_X0_power at h
  refine g_aload_n hC (pc := 0) 2 rfl rfl dX0_power_0 ?_
  refine g_iconst hC (pc := 1) (v := (0 : Int32)) (by decide) dX0_power_1 ?_
  refine g_aload_n hC (pc := 2) 0 rfl rfl dX0_power_2 ?_
  refine g_iload_n hC (pc := 3) 1 rfl rfl dX0_power_3 ?_
  rcases o0 with _ | c1
  · exact (gNN0 h).elim
  replace h := gNN1 h
  obtain ⟨hi, h⟩ := h
  refine g_callV hC (pc := 4) (ci := 1) (As := [vI x1]) gc_X1_power (m_X1_power hC.fl h) rfl hi q1741 q1742 q1743 (gle rfl) (gle rfl) rfl (gle rfl) rfl dX0_power_4 (gk_i fun r5 G2 h => ?_) (fun y3 G4 h hio => ?_)
  · refine g_i2l hC (pc := 7) dX0_power_7 ?_
    rcases o2 with _ | c6
    · exact (gNN0 h).elim
    replace h := gNN1 h
    refine g_astL hC (pc := 8) h dX0_power_8 (fun G7 h => ?_)
    refine g_goto hC (pc := 9) 15 (by decide) dX0_power_9 ?_
    refine g_iconst hC (pc := 15) (v := (0 : Int32)) (by decide) dX0_power_15 ?_
    exact g_iret hC (pc := 16) (hK _ _ h) dX0_power_16
  · obtain ⟨hq, h⟩ := h
    refine g_catchI hC (pc := 4) (ci := 20) rfl hq 0 rfl (fun _ h => nomatch h) rfl (by decide) q1312 (List.mem_of_getElem? (i := 2) rfl) rfl ?_
    exact g_sub [] rfl (w_X0_power_12 hC hK hX h)
theorem gc_X0_power : gCodeW yX0_power cX0_power 4 (some .int) [(0, 9, 12, 23)] 3 := ⟨q1740, q93, ⟨by decide, by decide⟩, rfl⟩
theorem m_X0_power {l : Launch} (hfl : l.stackTraces = false) {E : gE} {G : gS} {o0 : Option Nat} {x1 : Int32} {o2 : Option Nat} {X : Nat → gS → Prop} {K : Int32 → gS → Prop} (h : wp_X0_power (gAd E) G o0 x1 o2 X K) : gMet l yX0_power (wsW_ yX0_power cX0_power 4 (some .int) [(0, 9, 12, 23)]) 11 298 [vQ o0, vI x1, vQ o2] E G (gRi K) X :=
  g_metW hfl (plainFor_of_name (by decide +kernel)) rfl rfl rfl (gle rfl) (fun p e R s m args below meth c hC => w_X0_power hC (fun _ _ h => h) (fun _ _ h => h) h)
def wp_X3_power (ad : Nat → Nat) (G : gS) (t0 : Nat) (x1 : Int32) (X : Nat → gS → Prop) (K : Int32 → gS → Prop) : Prop :=
  (gIs G t0 0 ∧ wp_X3_isBroom ad G t0 x1 X (fun r2 G1 => (gIs G1 t0 0 ∧ wp_X3_goes ad G1 t0 r2 X (fun r4 G3 => (r4 = (0 : Int32) → K (0 : Int32) G3) ∧ (¬ r4 = (0 : Int32) → (gIs G3 t0 0 ∧ wp_X3_ofBroom ad G3 t0 x1 (0 : Int32) X (fun r6 G5 => K r6 G5)))))))
theorem w_X3_power {C : gCx} (hC : gOk C "GoblinHouseholdModel" cX3_power [] (some .int) "power" 2 3 89) {K : Int32 → gS → Prop} {X : Nat → gS → Prop} (hK : ∀ r G, K r G → cxK C (some (vI r)) G) (hX : ∀ q G, X q G → cxX C q G) {G : gS} {t0 : Nat} {x1 : Int32} (h : wp_X3_power (cxA C) G t0 x1 X K) : gGo C G 0 [(0, vQ (some t0)), (1, vI x1)] [] := by
  unfold wp_X3_power at h
  refine g_aload_n hC (pc := 0) 0 rfl rfl dX3_power_0 ?_
  refine g_aload_n hC (pc := 1) 0 rfl rfl dX3_power_1 ?_
  refine g_iload_n hC (pc := 2) 1 rfl rfl dX3_power_2 ?_
  obtain ⟨hi, h⟩ := h
  refine g_callV hC (pc := 3) (ci := 0) (As := [vI x1]) gc_X3_isBroom (m_X3_isBroom hC.fl h) rfl hi q2604 q2606 qs51 (gle rfl) (gle rfl) rfl (gle rfl) rfl dX3_power_3 (gk_i fun r2 G1 h => ?_) (fun _ _ h hio => g_out0 hC (hX _ _ h) hio)
  obtain ⟨hi, h⟩ := h
  refine g_callV hC (pc := 6) (ci := 0) (As := [vI r2]) gc_X3_goes (m_X3_goes hC.fl h) rfl hi q2546 q2548 qs43 (gle rfl) (gle rfl) rfl (gle rfl) rfl dX3_power_6 (gk_i fun r4 G3 h => ?_) (fun _ _ h hio => g_out0 hC (hX _ _ h) hio)
  refine g_if_eq hC (pc := 9) 21 h (by decide) dX3_power_9 (fun h => ?_) (fun h => ?_)
  · refine g_iconst hC (pc := 21) (v := (0 : Int32)) (by decide) dX3_power_21 ?_
    exact g_iret hC (pc := 22) (hK _ _ h) dX3_power_22
  · refine g_aload_n hC (pc := 12) 0 rfl rfl dX3_power_12 ?_
    refine g_iload_n hC (pc := 13) 1 rfl rfl dX3_power_13 ?_
    refine g_iconst hC (pc := 14) (v := (0 : Int32)) (by decide) dX3_power_14 ?_
    obtain ⟨hi, h⟩ := h
    refine g_callV hC (pc := 15) (ci := 0) (As := [vI x1, vI (0 : Int32)]) gc_X3_ofBroom (m_X3_ofBroom hC.fl h) rfl hi q2608 q2610 qs52 (gle rfl) (gle rfl) rfl (gle rfl) rfl dX3_power_15 (gk_i fun r6 G5 h => ?_) (fun _ _ h hio => g_out0 hC (hX _ _ h) hio)
    refine g_goto hC (pc := 18) 22 (by decide) dX3_power_18 ?_
    exact g_iret hC (pc := 22) (hK _ _ h) dX3_power_22
theorem gc_X3_power : gCode yX3_power cX3_power 2 (some .int) 1 := ⟨q2752, q105, ⟨by decide, by decide⟩, rfl⟩
theorem m_X3_power {l : Launch} (hfl : l.stackTraces = false) {E : gE} {G : gS} {t0 : Nat} {x1 : Int32} {X : Nat → gS → Prop} {K : Int32 → gS → Prop} (h : wp_X3_power (gAd E) G t0 x1 X K) : gMet l yX3_power (ws_ yX3_power cX3_power 2 (some .int)) 3 89 [vQ (some t0), vI x1] E G (gRi K) X :=
  g_met hfl (plainFor_of_name (by decide +kernel)) rfl rfl rfl (gle rfl) (fun p e R s m args below meth c hC => w_X3_power hC (fun _ _ h => h) (fun _ _ h => h) h)
def wp_X1_isBanished (ad : Nat → Nat) (G : gS) (t0 : Nat) (x1 : Int32) (X : Nat → gS → Prop) (K : Int32 → gS → Prop) : Prop :=
  (gIs G t0 1 ∧ wp_X1_broomAt ad G t0 x1 X (fun q2 G1 => wNN q2 fun c3 => (gIs G1 c3 8 ∧ wp_X9_isUsed ad G1 c3  X (fun r5 G4 => (¬ r5 = (0 : Int32) → K (0 : Int32) G4) ∧ (r5 = (0 : Int32) → K (1 : Int32) G4)))))
theorem w_X1_isBanished {C : gCx} (hC : gOk C "GoblinHousehold" cX1_isBanished [] (some .boolean) "isBanished" 2 10 269) {K : Int32 → gS → Prop} {X : Nat → gS → Prop} (hK : ∀ r G, K r G → cxK C (some (vI r)) G) (hX : ∀ q G, X q G → cxX C q G) {G : gS} {t0 : Nat} {x1 : Int32} (h : wp_X1_isBanished (cxA C) G t0 x1 X K) : gGo C G 0 [(0, vQ (some t0)), (1, vI x1)] [] := by
  unfold wp_X1_isBanished at h
  refine g_aload_n hC (pc := 0) 0 rfl rfl dX1_isBanished_0 ?_
  refine g_iload_n hC (pc := 1) 1 rfl rfl dX1_isBanished_1 ?_
  obtain ⟨hi, h⟩ := h
  refine g_callV hC (pc := 2) (ci := 1) (As := [vI x1]) gc_X1_broomAt (m_X1_broomAt hC.fl h) rfl hi q1745 q1747 qs25 (gle rfl) (gle rfl) rfl (gle rfl) rfl dX1_isBanished_2 (gk_q fun q2 G1 h => ?_) (fun _ _ h hio => g_out0 hC (hX _ _ h) hio)
  rcases q2 with _ | c3
  · exact (gNN0 h).elim
  replace h := gNN1 h
  obtain ⟨hi, h⟩ := h
  refine g_callV hC (pc := 5) (ci := 8) (As := []) gc_X9_isUsed (m_X9_isUsed hC.fl h) rfl hi q1758 q788 q789 (gle rfl) (gle rfl) rfl (gle rfl) rfl dX1_isBanished_5 (gk_i fun r5 G4 h => ?_) (fun _ _ h hio => g_out0 hC (hX _ _ h) hio)
  refine g_if_ne hC (pc := 8) 15 h (by decide) dX1_isBanished_8 (fun h => ?_) (fun h => ?_)
  · refine g_iconst hC (pc := 15) (v := (0 : Int32)) (by decide) dX1_isBanished_15 ?_
    exact g_zret hC (pc := 16) rfl (hK _ _ h) dX1_isBanished_16
  · refine g_iconst hC (pc := 11) (v := (1 : Int32)) (by decide) dX1_isBanished_11 ?_
    refine g_goto hC (pc := 12) 16 (by decide) dX1_isBanished_12 ?_
    exact g_zret hC (pc := 16) rfl (hK _ _ h) dX1_isBanished_16
theorem gc_X1_isBanished : gCode yX1_isBanished cX1_isBanished 2 (some .boolean) 1 := ⟨q1757, q94, ⟨by decide, by decide⟩, rfl⟩
theorem m_X1_isBanished {l : Launch} (hfl : l.stackTraces = false) {E : gE} {G : gS} {t0 : Nat} {x1 : Int32} {X : Nat → gS → Prop} {K : Int32 → gS → Prop} (h : wp_X1_isBanished (gAd E) G t0 x1 X K) : gMet l yX1_isBanished (ws_ yX1_isBanished cX1_isBanished 2 (some .boolean)) 10 269 [vQ (some t0), vI x1] E G (gRi K) X :=
  g_met hfl (plainFor_of_name (by decide +kernel)) rfl rfl rfl (gle rfl) (fun p e R s m args below meth c hC => w_X1_isBanished hC (fun _ _ h => h) (fun _ _ h => h) h)
def wp_X0_isBanished_15 (ad : Nat → Nat) (X : Nat → gS → Prop) (K : Int32 → gS → Prop) (G : gS) (xs0 : Int64) (xs1 : Int32) (os2 : Option Nat) : Prop :=
  wNN os2 fun c1 => wAstL G c1 xs1 xs0 fun G2 => K (0 : Int32) G2
theorem w_X0_isBanished_15 {C : gCx} (hC : gOk C "GoblinHouseholdLaw" cX0_isBanished [(0, 16, 19, 23)] (some .int) "isBanished" 4 11 298) {K : Int32 → gS → Prop} {X : Nat → gS → Prop} (hK : ∀ r G, K r G → cxK C (some (vI r)) G) (hX : ∀ q G, X q G → cxX C q G) {G : gS} {xs0 : Int64} {xs1 : Int32} {os2 : Option Nat} (h : wp_X0_isBanished_15 (cxA C) X K G xs0 xs1 os2) : gGo C G 15 [] [vL xs0, vI xs1, vQ os2] := by
  unfold wp_X0_isBanished_15 at h
  rcases os2 with _ | c1
  · exact (gNN0 h).elim
  replace h := gNN1 h
  refine g_astL hC (pc := 15) h dX0_isBanished_15 (fun G2 h => ?_)
  refine g_goto hC (pc := 16) 22 (by decide) dX0_isBanished_16 ?_
  refine g_iconst hC (pc := 22) (v := (0 : Int32)) (by decide) dX0_isBanished_22 ?_
  exact g_iret hC (pc := 23) (hK _ _ h) dX0_isBanished_23
def wp_X0_isBanished_19 (ad : Nat → Nat) (X : Nat → gS → Prop) (K : Int32 → gS → Prop) (G : gS) (ts0 : Nat) : Prop :=
  K (1 : Int32) G
theorem w_X0_isBanished_19 {C : gCx} (hC : gOk C "GoblinHouseholdLaw" cX0_isBanished [(0, 16, 19, 23)] (some .int) "isBanished" 4 11 298) {K : Int32 → gS → Prop} {X : Nat → gS → Prop} (hK : ∀ r G, K r G → cxK C (some (vI r)) G) (hX : ∀ q G, X q G → cxX C q G) {G : gS} {ts0 : Nat} (h : wp_X0_isBanished_19 (cxA C) X K G ts0) : gGo C G 19 [] [vQ (some ts0)] := by
  unfold wp_X0_isBanished_19 at h
  refine g_astore_n hC (pc := 19) (lv' := [(3, vQ (some ts0))]) rfl (by decide) rfl dX0_isBanished_19 ?_
  refine g_iconst hC (pc := 20) (v := (1 : Int32)) (by decide) dX0_isBanished_20 ?_
  exact g_iret hC (pc := 21) (hK _ _ h) dX0_isBanished_21
def wp_X0_isBanished (ad : Nat → Nat) (G : gS) (o0 : Option Nat) (x1 : Int32) (o2 : Option Nat) (X : Nat → gS → Prop) (K : Int32 → gS → Prop) : Prop :=
  wNN o0 fun c1 => (gIs G c1 1 ∧ wp_X1_isBanished ad G c1 x1 (fun y3 G4 => (gHas G4 y3 20 ∧ (wp_X0_isBanished_19 ad X K G4 y3))) (fun r5 G2 => (r5 = (0 : Int32) → wp_X0_isBanished_15 ad X K G2 (0 : Int64) (0 : Int32) o2) ∧ (¬ r5 = (0 : Int32) → wp_X0_isBanished_15 ad X K G2 (1 : Int64) (0 : Int32) o2)))
theorem w_X0_isBanished {C : gCx} (hC : gOk C "GoblinHouseholdLaw" cX0_isBanished [(0, 16, 19, 23)] (some .int) "isBanished" 4 11 298) {K : Int32 → gS → Prop} {X : Nat → gS → Prop} (hK : ∀ r G, K r G → cxK C (some (vI r)) G) (hX : ∀ q G, X q G → cxX C q G) {G : gS} {o0 : Option Nat} {x1 : Int32} {o2 : Option Nat} (h : wp_X0_isBanished (cxA C) G o0 x1 o2 X K) : gGo C G 0 [(0, vQ o0), (1, vI x1), (2, vQ o2)] [] := by
  unfold wp_X0_isBanished at h
  refine g_aload_n hC (pc := 0) 2 rfl rfl dX0_isBanished_0 ?_
  refine g_iconst hC (pc := 1) (v := (0 : Int32)) (by decide) dX0_isBanished_1 ?_
  refine g_aload_n hC (pc := 2) 0 rfl rfl dX0_isBanished_2 ?_
  refine g_iload_n hC (pc := 3) 1 rfl rfl dX0_isBanished_3 ?_
  rcases o0 with _ | c1
  · exact (gNN0 h).elim
  replace h := gNN1 h
  obtain ⟨hi, h⟩ := h
  refine g_callV hC (pc := 4) (ci := 1) (As := [vI x1]) gc_X1_isBanished (m_X1_isBanished hC.fl h) rfl hi q1754 q1755 q1756 (gle rfl) (gle rfl) rfl (gle rfl) rfl dX0_isBanished_4 (gk_i fun r5 G2 h => ?_) (fun y3 G4 h hio => ?_)
  · refine g_if_eq hC (pc := 7) 14 h (by decide) dX0_isBanished_7 (fun h => ?_) (fun h => ?_)
    · refine g_lconst hC (pc := 14) (v := (0 : Int64)) (by decide) dX0_isBanished_14 ?_
      exact g_sub [] rfl (w_X0_isBanished_15 hC hK hX h)
    · refine g_lconst hC (pc := 10) (v := (1 : Int64)) (by decide) dX0_isBanished_10 ?_
      refine g_goto hC (pc := 11) 15 (by decide) dX0_isBanished_11 ?_
      exact g_sub [] rfl (w_X0_isBanished_15 hC hK hX h)
  · obtain ⟨hq, h⟩ := h
    refine g_catchI hC (pc := 4) (ci := 20) rfl hq 0 rfl (fun _ h => nomatch h) rfl (by decide) q1312 (List.mem_of_getElem? (i := 2) rfl) rfl ?_
    exact g_sub [] rfl (w_X0_isBanished_19 hC hK hX h)
theorem gc_X0_isBanished : gCodeW yX0_isBanished cX0_isBanished 4 (some .int) [(0, 16, 19, 23)] 3 := ⟨q1753, q93, ⟨by decide, by decide⟩, rfl⟩
theorem m_X0_isBanished {l : Launch} (hfl : l.stackTraces = false) {E : gE} {G : gS} {o0 : Option Nat} {x1 : Int32} {o2 : Option Nat} {X : Nat → gS → Prop} {K : Int32 → gS → Prop} (h : wp_X0_isBanished (gAd E) G o0 x1 o2 X K) : gMet l yX0_isBanished (wsW_ yX0_isBanished cX0_isBanished 4 (some .int) [(0, 16, 19, 23)]) 11 298 [vQ o0, vI x1, vQ o2] E G (gRi K) X :=
  g_metW hfl (plainFor_of_name (by decide +kernel)) rfl rfl rfl (gle rfl) (fun p e R s m args below meth c hC => w_X0_isBanished hC (fun _ _ h => h) (fun _ _ h => h) h)
def wp_X3_isBanished (ad : Nat → Nat) (G : gS) (t0 : Nat) (x1 : Int32) (X : Nat → gS → Prop) (K : Int32 → gS → Prop) : Prop :=
  (gIs G t0 0 ∧ wp_X3_isBroom ad G t0 x1 X (fun r2 G1 => (gIs G1 t0 0 ∧ wp_X3_goes ad G1 t0 r2 X (fun r4 G3 => (r4 = (0 : Int32) → K (0 : Int32) G3) ∧ (¬ r4 = (0 : Int32) → (gIs G3 t0 0 ∧ wp_X3_ofBroom ad G3 t0 x1 (1 : Int32) X (fun r6 G5 => (¬ r6 = (1 : Int32) → K (0 : Int32) G5) ∧ (r6 = (1 : Int32) → K (1 : Int32) G5))))))))
theorem w_X3_isBanished {C : gCx} (hC : gOk C "GoblinHouseholdModel" cX3_isBanished [] (some .boolean) "isBanished" 2 3 89) {K : Int32 → gS → Prop} {X : Nat → gS → Prop} (hK : ∀ r G, K r G → cxK C (some (vI r)) G) (hX : ∀ q G, X q G → cxX C q G) {G : gS} {t0 : Nat} {x1 : Int32} (h : wp_X3_isBanished (cxA C) G t0 x1 X K) : gGo C G 0 [(0, vQ (some t0)), (1, vI x1)] [] := by
  unfold wp_X3_isBanished at h
  refine g_aload_n hC (pc := 0) 0 rfl rfl dX3_isBanished_0 ?_
  refine g_aload_n hC (pc := 1) 0 rfl rfl dX3_isBanished_1 ?_
  refine g_iload_n hC (pc := 2) 1 rfl rfl dX3_isBanished_2 ?_
  obtain ⟨hi, h⟩ := h
  refine g_callV hC (pc := 3) (ci := 0) (As := [vI x1]) gc_X3_isBroom (m_X3_isBroom hC.fl h) rfl hi q2604 q2606 qs51 (gle rfl) (gle rfl) rfl (gle rfl) rfl dX3_isBanished_3 (gk_i fun r2 G1 h => ?_) (fun _ _ h hio => g_out0 hC (hX _ _ h) hio)
  obtain ⟨hi, h⟩ := h
  refine g_callV hC (pc := 6) (ci := 0) (As := [vI r2]) gc_X3_goes (m_X3_goes hC.fl h) rfl hi q2546 q2548 qs43 (gle rfl) (gle rfl) rfl (gle rfl) rfl dX3_isBanished_6 (gk_i fun r4 G3 h => ?_) (fun _ _ h hio => g_out0 hC (hX _ _ h) hio)
  refine g_if_eq hC (pc := 9) 26 h (by decide) dX3_isBanished_9 (fun h => ?_) (fun h => ?_)
  · refine g_iconst hC (pc := 26) (v := (0 : Int32)) (by decide) dX3_isBanished_26 ?_
    exact g_zret hC (pc := 27) rfl (hK _ _ h) dX3_isBanished_27
  · refine g_aload_n hC (pc := 12) 0 rfl rfl dX3_isBanished_12 ?_
    refine g_iload_n hC (pc := 13) 1 rfl rfl dX3_isBanished_13 ?_
    refine g_iconst hC (pc := 14) (v := (1 : Int32)) (by decide) dX3_isBanished_14 ?_
    obtain ⟨hi, h⟩ := h
    refine g_callV hC (pc := 15) (ci := 0) (As := [vI x1, vI (1 : Int32)]) gc_X3_ofBroom (m_X3_ofBroom hC.fl h) rfl hi q2608 q2610 qs52 (gle rfl) (gle rfl) rfl (gle rfl) rfl dX3_isBanished_15 (gk_i fun r6 G5 h => ?_) (fun _ _ h hio => g_out0 hC (hX _ _ h) hio)
    refine g_iconst hC (pc := 18) (v := (1 : Int32)) (by decide) dX3_isBanished_18 ?_
    refine g_icmp_ne hC (pc := 19) 26 h (by decide) dX3_isBanished_19 (fun h => ?_) (fun h => ?_)
    · refine g_iconst hC (pc := 26) (v := (0 : Int32)) (by decide) dX3_isBanished_26 ?_
      exact g_zret hC (pc := 27) rfl (hK _ _ h) dX3_isBanished_27
    · refine g_iconst hC (pc := 22) (v := (1 : Int32)) (by decide) dX3_isBanished_22 ?_
      refine g_goto hC (pc := 23) 27 (by decide) dX3_isBanished_23 ?_
      exact g_zret hC (pc := 27) rfl (hK _ _ h) dX3_isBanished_27
theorem gc_X3_isBanished : gCode yX3_isBanished cX3_isBanished 2 (some .boolean) 1 := ⟨q2756, q105, ⟨by decide, by decide⟩, rfl⟩
theorem m_X3_isBanished {l : Launch} (hfl : l.stackTraces = false) {E : gE} {G : gS} {t0 : Nat} {x1 : Int32} {X : Nat → gS → Prop} {K : Int32 → gS → Prop} (h : wp_X3_isBanished (gAd E) G t0 x1 X K) : gMet l yX3_isBanished (ws_ yX3_isBanished cX3_isBanished 2 (some .boolean)) 3 89 [vQ (some t0), vI x1] E G (gRi K) X :=
  g_met hfl (plainFor_of_name (by decide +kernel)) rfl rfl rfl (gle rfl) (fun p e R s m args below meth c hC => w_X3_isBanished hC (fun _ _ h => h) (fun _ _ h => h) h)
def wp_X1_goblinCount (ad : Nat → Nat) (G : gS) (t0 : Nat) (X : Nat → gS → Prop) (K : Int32 → gS → Prop) : Prop :=
  wGetQ G t0 1 0 fun q1 => wNN q1 fun c2 => wGetQ G c2 2 2 fun q3 => wNN q3 fun c4 => (gIs G c4 3 ∧ wp_J2_size ad G c4  X (fun r6 G5 => K r6 G5))
theorem w_X1_goblinCount {C : gCx} (hC : gOk C "GoblinHousehold" cX1_goblinCount [] (some .int) "goblinCount" 1 1 28) {K : Int32 → gS → Prop} {X : Nat → gS → Prop} (hK : ∀ r G, K r G → cxK C (some (vI r)) G) (hX : ∀ q G, X q G → cxX C q G) {G : gS} {t0 : Nat} (h : wp_X1_goblinCount (cxA C) G t0 X K) : gGo C G 0 [(0, vQ (some t0))] [] := by
  unfold wp_X1_goblinCount at h
  refine g_aload_n hC (pc := 0) 0 rfl rfl dX1_goblinCount_0 ?_
  refine g_getQ hC (pc := 1) in_X1 (ci := 1) rfl 0 (by decide) q292 (Or.inl rfl) h dX1_goblinCount_1 (fun q1 h => ?_)
  rcases q1 with _ | c2
  · exact (gNN0 h).elim
  replace h := gNN1 h
  refine g_getQN hC (pc := 4) in_X2 (ci := 2) rfl 2 (by decide) (List.mem_of_getElem? (i := 2) rfl) (Or.inl rfl) h dX1_goblinCount_4 (fun q3 h => ?_)
  rcases q3 with _ | c4
  · exact (gNN0 h).elim
  replace h := gNN1 h
  obtain ⟨hi, h⟩ := h
  refine g_callF hC (pc := 7) (ci := 3) (As := []) gc_J2_size (m_J2_size hC.fl h) rfl hi q319 (List.mem_of_getElem? (i := 0) rfl) rfl q323 q325 (gle rfl) (gle rfl) rfl (gle rfl) rfl dX1_goblinCount_7 (gk_i fun r6 G5 h => ?_) (fun _ _ h hio => g_out0 hC (hX _ _ h) hio)
  exact g_iret hC (pc := 12) (hK _ _ h) dX1_goblinCount_12
theorem gc_X1_goblinCount : gCode yX1_goblinCount cX1_goblinCount 1 (some .int) 0 := ⟨q337, q94, ⟨by decide, by decide⟩, rfl⟩
theorem m_X1_goblinCount {l : Launch} (hfl : l.stackTraces = false) {E : gE} {G : gS} {t0 : Nat} {X : Nat → gS → Prop} {K : Int32 → gS → Prop} (h : wp_X1_goblinCount (gAd E) G t0 X K) : gMet l yX1_goblinCount (ws_ yX1_goblinCount cX1_goblinCount 1 (some .int)) 1 28 [vQ (some t0)] E G (gRi K) X :=
  g_met hfl (plainFor_of_name (by decide +kernel)) rfl rfl rfl (gle rfl) (fun p e R s m args below meth c hC => w_X1_goblinCount hC (fun _ _ h => h) (fun _ _ h => h) h)
def wp_X3_goblinCount (ad : Nat → Nat) (G : gS) (t0 : Nat) (X : Nat → gS → Prop) (K : Int32 → gS → Prop) : Prop :=
  wPut G t0 0 14 (.int (0 : Int32)) fun G1 => wGetQ G1 t0 0 0 fun q2 => wNN q2 fun c3 => wAldI G1 c3 (9 : Int32) fun i4 => K i4 G1
theorem w_X3_goblinCount {C : gCx} (hC : gOk C "GoblinHouseholdModel" cX3_goblinCount [] (some .int) "goblinCount" 1 0 0) {K : Int32 → gS → Prop} {X : Nat → gS → Prop} (hK : ∀ r G, K r G → cxK C (some (vI r)) G) (hX : ∀ q G, X q G → cxX C q G) {G : gS} {t0 : Nat} (h : wp_X3_goblinCount (cxA C) G t0 X K) : gGo C G 0 [(0, vQ (some t0))] [] := by
  unfold wp_X3_goblinCount at h
  refine g_aload_n hC (pc := 0) 0 rfl rfl dX3_goblinCount_0 ?_
  refine g_iconst hC (pc := 1) (v := (0 : Int32)) (by decide) dX3_goblinCount_1 ?_
  refine g_put hC (pc := 2) in_X3 (ci := 0) rfl 14 (by decide) tyX3_ok nmX3 q2491 (Or.inl rfl) rfl rfl rfl h dX3_goblinCount_2 (fun G1 h => ?_)
  refine g_aload_n hC (pc := 5) 0 rfl rfl dX3_goblinCount_5 ?_
  refine g_getQ hC (pc := 6) in_X3 (ci := 0) rfl 0 (by decide) q2477 (Or.inl rfl) h dX3_goblinCount_6 (fun q2 h => ?_)
  refine g_bipush hC (pc := 9) (v := (9 : Int32)) (by decide) dX3_goblinCount_9 ?_
  rcases q2 with _ | c3
  · exact (gNN0 h).elim
  replace h := gNN1 h
  refine g_aldI hC (pc := 11) h dX3_goblinCount_11 (fun i4 h => ?_)
  exact g_iret hC (pc := 12) (hK _ _ h) dX3_goblinCount_12
theorem gc_X3_goblinCount : gCode yX3_goblinCount cX3_goblinCount 1 (some .int) 0 := ⟨q2760, q105, ⟨by decide, by decide⟩, rfl⟩
theorem m_X3_goblinCount {l : Launch} (hfl : l.stackTraces = false) {E : gE} {G : gS} {t0 : Nat} {X : Nat → gS → Prop} {K : Int32 → gS → Prop} (h : wp_X3_goblinCount (gAd E) G t0 X K) : gMet l yX3_goblinCount (ws_ yX3_goblinCount cX3_goblinCount 1 (some .int)) 0 0 [vQ (some t0)] E G (gRi K) X :=
  g_met hfl (plainFor_of_name (by decide +kernel)) rfl rfl rfl (gle rfl) (fun p e R s m args below meth c hC => w_X3_goblinCount hC (fun _ _ h => h) (fun _ _ h => h) h)
def wp_X1_goblinFor (ad : Nat → Nat) (G : gS) (t0 : Nat) (x1 : Int32) (X : Nat → gS → Prop) (K : Option Nat → gS → Prop) : Prop :=
  wGetQ G t0 1 0 fun q1 => wNN q1 fun c2 => (gIs G c2 2 ∧ wp_X2_isGoblin ad G c2 x1 X (fun r4 G3 => wp_X1_checkIndex ad G3 r4 X (fun G5 => wGetQ G5 t0 1 0 fun q6 => wNN q6 fun c7 => wGetQ G5 c7 2 2 fun q8 => wNN q8 fun c9 => (gIs G5 c9 3 ∧ wp_J2_get ad G5 c9 x1 X (fun q11 G10 => wCast G10 q11 [9] (K q11 G10))))))
theorem w_X1_goblinFor {C : gCx} (hC : gOk C "GoblinHousehold" cX1_goblinFor [] (some (Jvm.ClassFile.FieldType.object "GoblinHousehold$Goblin")) "goblinFor" 2 9 240) {K : Option Nat → gS → Prop} {X : Nat → gS → Prop} (hK : ∀ r G, K r G → cxK C (some (vQ r)) G) (hX : ∀ q G, X q G → cxX C q G) {G : gS} {t0 : Nat} {x1 : Int32} (h : wp_X1_goblinFor (cxA C) G t0 x1 X K) : gGo C G 0 [(0, vQ (some t0)), (1, vI x1)] [] := by
  unfold wp_X1_goblinFor at h
  refine g_aload_n hC (pc := 0) 0 rfl rfl dX1_goblinFor_0 ?_
  refine g_getQ hC (pc := 1) in_X1 (ci := 1) rfl 0 (by decide) q292 (Or.inl rfl) h dX1_goblinFor_1 (fun q1 h => ?_)
  refine g_iload_n hC (pc := 4) 1 rfl rfl dX1_goblinFor_4 ?_
  rcases q1 with _ | c2
  · exact (gNN0 h).elim
  replace h := gNN1 h
  obtain ⟨hi, h⟩ := h
  refine g_callV hC (pc := 5) (ci := 2) (As := [vI x1]) gc_X2_isGoblin (m_X2_isGoblin hC.fl h) rfl hi q1770 q1378 q1379 (gle rfl) (gle rfl) rfl (gle rfl) rfl dX1_goblinFor_5 (gk_i fun r4 G3 h => ?_) (fun _ _ h hio => g_out0 hC (hX _ _ h) hio)
  refine g_callS hC (pc := 8) (b := 0) (As := [vI r4]) gc_X1_checkIndex (m_X1_checkIndex hC.fl h) q1714 q1715 (gle rfl) (gle rfl) rfl (gle rfl) rfl dX1_goblinFor_8 (gk_v fun G5 h => ?_) (fun _ _ h hio => g_out0 hC (hX _ _ h) hio)
  refine g_aload_n hC (pc := 11) 0 rfl rfl dX1_goblinFor_11 ?_
  refine g_getQ hC (pc := 12) in_X1 (ci := 1) rfl 0 (by decide) q292 (Or.inl rfl) h dX1_goblinFor_12 (fun q6 h => ?_)
  rcases q6 with _ | c7
  · exact (gNN0 h).elim
  replace h := gNN1 h
  refine g_getQN hC (pc := 15) in_X2 (ci := 2) rfl 2 (by decide) (List.mem_of_getElem? (i := 2) rfl) (Or.inl rfl) h dX1_goblinFor_15 (fun q8 h => ?_)
  refine g_iload_n hC (pc := 18) 1 rfl rfl dX1_goblinFor_18 ?_
  rcases q8 with _ | c9
  · exact (gNN0 h).elim
  replace h := gNN1 h
  obtain ⟨hi, h⟩ := h
  refine g_callF hC (pc := 19) (ci := 3) (As := [vI x1]) gc_J2_get (m_J2_get hC.fl h) rfl hi q1065 (List.mem_of_getElem? (i := 2) rfl) rfl q364 q366 (gle rfl) (gle rfl) rfl (gle rfl) rfl dX1_goblinFor_19 (gk_q fun q11 G10 h => ?_) (fun _ _ h hio => g_out0 hC (hX _ _ h) hio)
  refine g_cast hC (pc := 24) q1771 h (List.forall_mem_cons.mpr ⟨⟨_, rfl, Or.inr ⟨rfl, by decide⟩⟩, fun _ h => nomatch h⟩) dX1_goblinFor_24 (fun h => ?_)
  exact g_aret hC (pc := 27) (Or.inl ⟨_, rfl⟩) (hK _ _ h) dX1_goblinFor_27
theorem gc_X1_goblinFor : gCode yX1_goblinFor cX1_goblinFor 2 (some (Jvm.ClassFile.FieldType.object "GoblinHousehold$Goblin")) 1 := ⟨q1769, q94, ⟨by decide, by decide⟩, rfl⟩
theorem m_X1_goblinFor {l : Launch} (hfl : l.stackTraces = false) {E : gE} {G : gS} {t0 : Nat} {x1 : Int32} {X : Nat → gS → Prop} {K : Option Nat → gS → Prop} (h : wp_X1_goblinFor (gAd E) G t0 x1 X K) : gMet l yX1_goblinFor (ws_ yX1_goblinFor cX1_goblinFor 2 (some (Jvm.ClassFile.FieldType.object "GoblinHousehold$Goblin"))) 9 240 [vQ (some t0), vI x1] E G (gRq K) X :=
  g_met hfl (plainFor_of_name (by decide +kernel)) rfl rfl rfl (gle rfl) (fun p e R s m args below meth c hC => w_X1_goblinFor hC (fun _ _ h => h) (fun _ _ h => h) h)
def wp_X1_strength (ad : Nat → Nat) (G : gS) (t0 : Nat) (x1 : Int32) (X : Nat → gS → Prop) (K : Int32 → gS → Prop) : Prop :=
  (gIs G t0 1 ∧ wp_X1_goblinFor ad G t0 x1 X (fun q2 G1 => wNN q2 fun c3 => wGetI G1 c3 9 3 fun i4 => K i4 G1))
theorem w_X1_strength {C : gCx} (hC : gOk C "GoblinHousehold" cX1_strength [] (some .int) "strength" 2 10 269) {K : Int32 → gS → Prop} {X : Nat → gS → Prop} (hK : ∀ r G, K r G → cxK C (some (vI r)) G) (hX : ∀ q G, X q G → cxX C q G) {G : gS} {t0 : Nat} {x1 : Int32} (h : wp_X1_strength (cxA C) G t0 x1 X K) : gGo C G 0 [(0, vQ (some t0)), (1, vI x1)] [] := by
  unfold wp_X1_strength at h
  refine g_aload_n hC (pc := 0) 0 rfl rfl dX1_strength_0 ?_
  refine g_iload_n hC (pc := 1) 1 rfl rfl dX1_strength_1 ?_
  obtain ⟨hi, h⟩ := h
  refine g_callV hC (pc := 2) (ci := 1) (As := [vI x1]) gc_X1_goblinFor (m_X1_goblinFor hC.fl h) rfl hi q1766 q1768 qs26 (gle rfl) (gle rfl) rfl (gle rfl) rfl dX1_strength_2 (gk_q fun q2 G1 h => ?_) (fun _ _ h hio => g_out0 hC (hX _ _ h) hio)
  rcases q2 with _ | c3
  · exact (gNN0 h).elim
  replace h := gNN1 h
  refine g_getIN hC (pc := 5) in_X8 (ci := 9) rfl 3 (by decide) (List.mem_of_getElem? (i := 11) rfl) (Or.inl rfl) h dX1_strength_5 (fun i4 h => ?_)
  exact g_iret hC (pc := 8) (hK _ _ h) dX1_strength_8
theorem gc_X1_strength : gCode yX1_strength cX1_strength 2 (some .int) 1 := ⟨q1765, q94, ⟨by decide, by decide⟩, rfl⟩
theorem m_X1_strength {l : Launch} (hfl : l.stackTraces = false) {E : gE} {G : gS} {t0 : Nat} {x1 : Int32} {X : Nat → gS → Prop} {K : Int32 → gS → Prop} (h : wp_X1_strength (gAd E) G t0 x1 X K) : gMet l yX1_strength (ws_ yX1_strength cX1_strength 2 (some .int)) 10 269 [vQ (some t0), vI x1] E G (gRi K) X :=
  g_met hfl (plainFor_of_name (by decide +kernel)) rfl rfl rfl (gle rfl) (fun p e R s m args below meth c hC => w_X1_strength hC (fun _ _ h => h) (fun _ _ h => h) h)
def wp_X0_strength_12 (ad : Nat → Nat) (X : Nat → gS → Prop) (K : Int32 → gS → Prop) (G : gS) (ts0 : Nat) : Prop :=
  K (1 : Int32) G
theorem w_X0_strength_12 {C : gCx} (hC : gOk C "GoblinHouseholdLaw" cX0_strength [(0, 9, 12, 23)] (some .int) "strength" 4 11 298) {K : Int32 → gS → Prop} {X : Nat → gS → Prop} (hK : ∀ r G, K r G → cxK C (some (vI r)) G) (hX : ∀ q G, X q G → cxX C q G) {G : gS} {ts0 : Nat} (h : wp_X0_strength_12 (cxA C) X K G ts0) : gGo C G 12 [] [vQ (some ts0)] := by
  unfold wp_X0_strength_12 at h
  refine g_astore_n hC (pc := 12) (lv' := [(3, vQ (some ts0))]) rfl (by decide) rfl dX0_strength_12 ?_
  refine g_iconst hC (pc := 13) (v := (1 : Int32)) (by decide) dX0_strength_13 ?_
  exact g_iret hC (pc := 14) (hK _ _ h) dX0_strength_14
def wp_X0_strength (ad : Nat → Nat) (G : gS) (o0 : Option Nat) (x1 : Int32) (o2 : Option Nat) (X : Nat → gS → Prop) (K : Int32 → gS → Prop) : Prop :=
  wNN o0 fun c1 => (gIs G c1 1 ∧ wp_X1_strength ad G c1 x1 (fun y3 G4 => (gHas G4 y3 20 ∧ (wp_X0_strength_12 ad X K G4 y3))) (fun r5 G2 => wNN o2 fun c6 => wAstL G2 c6 (0 : Int32) ((r5).toInt64) fun G7 => K (0 : Int32) G7))
theorem w_X0_strength {C : gCx} (hC : gOk C "GoblinHouseholdLaw" cX0_strength [(0, 9, 12, 23)] (some .int) "strength" 4 11 298) {K : Int32 → gS → Prop} {X : Nat → gS → Prop} (hK : ∀ r G, K r G → cxK C (some (vI r)) G) (hX : ∀ q G, X q G → cxX C q G) {G : gS} {o0 : Option Nat} {x1 : Int32} {o2 : Option Nat} (h : wp_X0_strength (cxA C) G o0 x1 o2 X K) : gGo C G 0 [(0, vQ o0), (1, vI x1), (2, vQ o2)] [] := by
  unfold wp_X0_strength at h
  refine g_aload_n hC (pc := 0) 2 rfl rfl dX0_strength_0 ?_
  refine g_iconst hC (pc := 1) (v := (0 : Int32)) (by decide) dX0_strength_1 ?_
  refine g_aload_n hC (pc := 2) 0 rfl rfl dX0_strength_2 ?_
  refine g_iload_n hC (pc := 3) 1 rfl rfl dX0_strength_3 ?_
  rcases o0 with _ | c1
  · exact (gNN0 h).elim
  replace h := gNN1 h
  obtain ⟨hi, h⟩ := h
  refine g_callV hC (pc := 4) (ci := 1) (As := [vI x1]) gc_X1_strength (m_X1_strength hC.fl h) rfl hi q1762 q1763 q1764 (gle rfl) (gle rfl) rfl (gle rfl) rfl dX0_strength_4 (gk_i fun r5 G2 h => ?_) (fun y3 G4 h hio => ?_)
  · refine g_i2l hC (pc := 7) dX0_strength_7 ?_
    rcases o2 with _ | c6
    · exact (gNN0 h).elim
    replace h := gNN1 h
    refine g_astL hC (pc := 8) h dX0_strength_8 (fun G7 h => ?_)
    refine g_goto hC (pc := 9) 15 (by decide) dX0_strength_9 ?_
    refine g_iconst hC (pc := 15) (v := (0 : Int32)) (by decide) dX0_strength_15 ?_
    exact g_iret hC (pc := 16) (hK _ _ h) dX0_strength_16
  · obtain ⟨hq, h⟩ := h
    refine g_catchI hC (pc := 4) (ci := 20) rfl hq 0 rfl (fun _ h => nomatch h) rfl (by decide) q1312 (List.mem_of_getElem? (i := 2) rfl) rfl ?_
    exact g_sub [] rfl (w_X0_strength_12 hC hK hX h)
theorem gc_X0_strength : gCodeW yX0_strength cX0_strength 4 (some .int) [(0, 9, 12, 23)] 3 := ⟨q1761, q93, ⟨by decide, by decide⟩, rfl⟩
theorem m_X0_strength {l : Launch} (hfl : l.stackTraces = false) {E : gE} {G : gS} {o0 : Option Nat} {x1 : Int32} {o2 : Option Nat} {X : Nat → gS → Prop} {K : Int32 → gS → Prop} (h : wp_X0_strength (gAd E) G o0 x1 o2 X K) : gMet l yX0_strength (wsW_ yX0_strength cX0_strength 4 (some .int) [(0, 9, 12, 23)]) 11 298 [vQ o0, vI x1, vQ o2] E G (gRi K) X :=
  g_metW hfl (plainFor_of_name (by decide +kernel)) rfl rfl rfl (gle rfl) (fun p e R s m args below meth c hC => w_X0_strength hC (fun _ _ h => h) (fun _ _ h => h) h)
def wp_X3_asks (ad : Nat → Nat) (G : gS) (t0 : Nat) (x1 : Int32) (x2 : Int32) (X : Nat → gS → Prop) (K : Int32 → gS → Prop) : Prop :=
  (gIs G t0 0 ∧ wp_X3_isGoblin ad G t0 x1 X (fun r2 G1 => (gIs G1 t0 0 ∧ wp_X3_goes ad G1 t0 r2 X (fun r4 G3 => (r4 = (0 : Int32) → K (0 : Int32) G3) ∧ (¬ r4 = (0 : Int32) → (gIs G3 t0 0 ∧ wp_X3_of ad G3 t0 x1 x2 X (fun r6 G5 => K r6 G5)))))))
theorem w_X3_asks {C : gCx} (hC : gOk C "GoblinHouseholdModel" cX3_asks [] (some .int) "asks" 3 4 119) {K : Int32 → gS → Prop} {X : Nat → gS → Prop} (hK : ∀ r G, K r G → cxK C (some (vI r)) G) (hX : ∀ q G, X q G → cxX C q G) {G : gS} {t0 : Nat} {x1 : Int32} {x2 : Int32} (h : wp_X3_asks (cxA C) G t0 x1 x2 X K) : gGo C G 0 [(0, vQ (some t0)), (1, vI x1), (2, vI x2)] [] := by
  unfold wp_X3_asks at h
  refine g_aload_n hC (pc := 0) 0 rfl rfl dX3_asks_0 ?_
  refine g_aload_n hC (pc := 1) 0 rfl rfl dX3_asks_1 ?_
  refine g_iload_n hC (pc := 2) 1 rfl rfl dX3_asks_2 ?_
  obtain ⟨hi, h⟩ := h
  refine g_callV hC (pc := 3) (ci := 0) (As := [vI x1]) gc_X3_isGoblin (m_X3_isGoblin hC.fl h) rfl hi q2628 q2630 qs55 (gle rfl) (gle rfl) rfl (gle rfl) rfl dX3_asks_3 (gk_i fun r2 G1 h => ?_) (fun _ _ h hio => g_out0 hC (hX _ _ h) hio)
  obtain ⟨hi, h⟩ := h
  refine g_callV hC (pc := 6) (ci := 0) (As := [vI r2]) gc_X3_goes (m_X3_goes hC.fl h) rfl hi q2546 q2548 qs43 (gle rfl) (gle rfl) rfl (gle rfl) rfl dX3_asks_6 (gk_i fun r4 G3 h => ?_) (fun _ _ h hio => g_out0 hC (hX _ _ h) hio)
  refine g_if_eq hC (pc := 9) 21 h (by decide) dX3_asks_9 (fun h => ?_) (fun h => ?_)
  · refine g_iconst hC (pc := 21) (v := (0 : Int32)) (by decide) dX3_asks_21 ?_
    exact g_iret hC (pc := 22) (hK _ _ h) dX3_asks_22
  · refine g_aload_n hC (pc := 12) 0 rfl rfl dX3_asks_12 ?_
    refine g_iload_n hC (pc := 13) 1 rfl rfl dX3_asks_13 ?_
    refine g_iload_n hC (pc := 14) 2 rfl rfl dX3_asks_14 ?_
    obtain ⟨hi, h⟩ := h
    refine g_callV hC (pc := 15) (ci := 0) (As := [vI x1, vI x2]) gc_X3_of (m_X3_of hC.fl h) rfl hi q2632 q2634 qs56 (gle rfl) (gle rfl) rfl (gle rfl) rfl dX3_asks_15 (gk_i fun r6 G5 h => ?_) (fun _ _ h hio => g_out0 hC (hX _ _ h) hio)
    refine g_goto hC (pc := 18) 22 (by decide) dX3_asks_18 ?_
    exact g_iret hC (pc := 22) (hK _ _ h) dX3_asks_22
theorem gc_X3_asks : gCode yX3_asks cX3_asks 3 (some .int) 2 := ⟨q2768, q105, ⟨by decide, by decide⟩, rfl⟩
theorem m_X3_asks {l : Launch} (hfl : l.stackTraces = false) {E : gE} {G : gS} {t0 : Nat} {x1 : Int32} {x2 : Int32} {X : Nat → gS → Prop} {K : Int32 → gS → Prop} (h : wp_X3_asks (gAd E) G t0 x1 x2 X K) : gMet l yX3_asks (ws_ yX3_asks cX3_asks 3 (some .int)) 4 119 [vQ (some t0), vI x1, vI x2] E G (gRi K) X :=
  g_met hfl (plainFor_of_name (by decide +kernel)) rfl rfl rfl (gle rfl) (fun p e R s m args below meth c hC => w_X3_asks hC (fun _ _ h => h) (fun _ _ h => h) h)
def wp_X3_strength (ad : Nat → Nat) (G : gS) (t0 : Nat) (x1 : Int32) (X : Nat → gS → Prop) (K : Int32 → gS → Prop) : Prop :=
  (gIs G t0 0 ∧ wp_X3_asks ad G t0 x1 (0 : Int32) X (fun r2 G1 => K r2 G1))
theorem w_X3_strength {C : gCx} (hC : gOk C "GoblinHouseholdModel" cX3_strength [] (some .int) "strength" 2 5 149) {K : Int32 → gS → Prop} {X : Nat → gS → Prop} (hK : ∀ r G, K r G → cxK C (some (vI r)) G) (hX : ∀ q G, X q G → cxX C q G) {G : gS} {t0 : Nat} {x1 : Int32} (h : wp_X3_strength (cxA C) G t0 x1 X K) : gGo C G 0 [(0, vQ (some t0)), (1, vI x1)] [] := by
  unfold wp_X3_strength at h
  refine g_aload_n hC (pc := 0) 0 rfl rfl dX3_strength_0 ?_
  refine g_iload_n hC (pc := 1) 1 rfl rfl dX3_strength_1 ?_
  refine g_iconst hC (pc := 2) (v := (0 : Int32)) (by decide) dX3_strength_2 ?_
  obtain ⟨hi, h⟩ := h
  refine g_callV hC (pc := 3) (ci := 0) (As := [vI x1, vI (0 : Int32)]) gc_X3_asks (m_X3_asks hC.fl h) rfl hi q2765 q2767 qs74 (gle rfl) (gle rfl) rfl (gle rfl) rfl dX3_strength_3 (gk_i fun r2 G1 h => ?_) (fun _ _ h hio => g_out0 hC (hX _ _ h) hio)
  exact g_iret hC (pc := 6) (hK _ _ h) dX3_strength_6
theorem gc_X3_strength : gCode yX3_strength cX3_strength 2 (some .int) 1 := ⟨q2764, q105, ⟨by decide, by decide⟩, rfl⟩
theorem m_X3_strength {l : Launch} (hfl : l.stackTraces = false) {E : gE} {G : gS} {t0 : Nat} {x1 : Int32} {X : Nat → gS → Prop} {K : Int32 → gS → Prop} (h : wp_X3_strength (gAd E) G t0 x1 X K) : gMet l yX3_strength (ws_ yX3_strength cX3_strength 2 (some .int)) 5 149 [vQ (some t0), vI x1] E G (gRi K) X :=
  g_met hfl (plainFor_of_name (by decide +kernel)) rfl rfl rfl (gle rfl) (fun p e R s m args below meth c hC => w_X3_strength hC (fun _ _ h => h) (fun _ _ h => h) h)
def wp_X7_purse (ad : Nat → Nat) (G : gS) (t0 : Nat) (X : Nat → gS → Prop) (K : Int32 → gS → Prop) : Prop :=
  wGetI G t0 9 1 fun i1 => K i1 G
theorem w_X7_purse {C : gCx} (hC : gOk C "GoblinHousehold$Debtor" cX7_purse [] (some .int) "purse" 1 0 0) {K : Int32 → gS → Prop} {X : Nat → gS → Prop} (hK : ∀ r G, K r G → cxK C (some (vI r)) G) (hX : ∀ q G, X q G → cxX C q G) {G : gS} {t0 : Nat} (h : wp_X7_purse (cxA C) G t0 X K) : gGo C G 0 [(0, vQ (some t0))] [] := by
  unfold wp_X7_purse at h
  refine g_aload_n hC (pc := 0) 0 rfl rfl dX7_purse_0 ?_
  refine g_getI hC (pc := 1) in_X8 (ci := 9) rfl 1 (by decide) q937 (Or.inl rfl) h dX7_purse_1 (fun i1 h => ?_)
  exact g_iret hC (pc := 4) (hK _ _ h) dX7_purse_4
theorem gc_X7_purse : gCode yX7_purse cX7_purse 1 (some .int) 0 := ⟨q712, q111, ⟨by decide, by decide⟩, rfl⟩
theorem m_X7_purse {l : Launch} (hfl : l.stackTraces = false) {E : gE} {G : gS} {t0 : Nat} {X : Nat → gS → Prop} {K : Int32 → gS → Prop} (h : wp_X7_purse (gAd E) G t0 X K) : gMet l yX7_purse (ws_ yX7_purse cX7_purse 1 (some .int)) 0 0 [vQ (some t0)] E G (gRi K) X :=
  g_met hfl (plainFor_of_name (by decide +kernel)) rfl rfl rfl (gle rfl) (fun p e R s m args below meth c hC => w_X7_purse hC (fun _ _ h => h) (fun _ _ h => h) h)
def wp_X1_purse (ad : Nat → Nat) (G : gS) (t0 : Nat) (x1 : Int32) (X : Nat → gS → Prop) (K : Int32 → gS → Prop) : Prop :=
  (gIs G t0 1 ∧ wp_X1_goblinFor ad G t0 x1 X (fun q2 G1 => wNN q2 fun c3 => (gIs G1 c3 9 ∧ wp_X7_purse ad G1 c3  X (fun r5 G4 => K r5 G4))))
theorem w_X1_purse {C : gCx} (hC : gOk C "GoblinHousehold" cX1_purse [] (some .int) "purse" 2 10 269) {K : Int32 → gS → Prop} {X : Nat → gS → Prop} (hK : ∀ r G, K r G → cxK C (some (vI r)) G) (hX : ∀ q G, X q G → cxX C q G) {G : gS} {t0 : Nat} {x1 : Int32} (h : wp_X1_purse (cxA C) G t0 x1 X K) : gGo C G 0 [(0, vQ (some t0)), (1, vI x1)] [] := by
  unfold wp_X1_purse at h
  refine g_aload_n hC (pc := 0) 0 rfl rfl dX1_purse_0 ?_
  refine g_iload_n hC (pc := 1) 1 rfl rfl dX1_purse_1 ?_
  obtain ⟨hi, h⟩ := h
  refine g_callV hC (pc := 2) (ci := 1) (As := [vI x1]) gc_X1_goblinFor (m_X1_goblinFor hC.fl h) rfl hi q1766 q1768 qs26 (gle rfl) (gle rfl) rfl (gle rfl) rfl dX1_purse_2 (gk_q fun q2 G1 h => ?_) (fun _ _ h hio => g_out0 hC (hX _ _ h) hio)
  rcases q2 with _ | c3
  · exact (gNN0 h).elim
  replace h := gNN1 h
  obtain ⟨hi, h⟩ := h
  refine g_callU hC (pc := 5) (ci := 9) (As := []) gc_X7_purse (m_X7_purse hC.fl h) (x := ⟨"GoblinHousehold$Goblin", "purse", "()I"⟩) (owner := "GoblinHousehold$Debtor") rfl hi q1779 q708 q711 q712 ⟨by decide, by decide⟩ rfl q710 q711 (gle rfl) (gle rfl) rfl (gle rfl) rfl dX1_purse_5 (gk_i fun r5 G4 h => ?_) (fun _ _ h hio => g_out0 hC (hX _ _ h) hio)
  exact g_iret hC (pc := 8) (hK _ _ h) dX1_purse_8
theorem gc_X1_purse : gCode yX1_purse cX1_purse 2 (some .int) 1 := ⟨q1778, q94, ⟨by decide, by decide⟩, rfl⟩
theorem m_X1_purse {l : Launch} (hfl : l.stackTraces = false) {E : gE} {G : gS} {t0 : Nat} {x1 : Int32} {X : Nat → gS → Prop} {K : Int32 → gS → Prop} (h : wp_X1_purse (gAd E) G t0 x1 X K) : gMet l yX1_purse (ws_ yX1_purse cX1_purse 2 (some .int)) 10 269 [vQ (some t0), vI x1] E G (gRi K) X :=
  g_met hfl (plainFor_of_name (by decide +kernel)) rfl rfl rfl (gle rfl) (fun p e R s m args below meth c hC => w_X1_purse hC (fun _ _ h => h) (fun _ _ h => h) h)
def wp_X0_purse_12 (ad : Nat → Nat) (X : Nat → gS → Prop) (K : Int32 → gS → Prop) (G : gS) (ts0 : Nat) : Prop :=
  K (1 : Int32) G
theorem w_X0_purse_12 {C : gCx} (hC : gOk C "GoblinHouseholdLaw" cX0_purse [(0, 9, 12, 23)] (some .int) "purse" 4 11 298) {K : Int32 → gS → Prop} {X : Nat → gS → Prop} (hK : ∀ r G, K r G → cxK C (some (vI r)) G) (hX : ∀ q G, X q G → cxX C q G) {G : gS} {ts0 : Nat} (h : wp_X0_purse_12 (cxA C) X K G ts0) : gGo C G 12 [] [vQ (some ts0)] := by
  unfold wp_X0_purse_12 at h
  refine g_astore_n hC (pc := 12) (lv' := [(3, vQ (some ts0))]) rfl (by decide) rfl dX0_purse_12 ?_
  refine g_iconst hC (pc := 13) (v := (1 : Int32)) (by decide) dX0_purse_13 ?_
  exact g_iret hC (pc := 14) (hK _ _ h) dX0_purse_14
def wp_X0_purse (ad : Nat → Nat) (G : gS) (o0 : Option Nat) (x1 : Int32) (o2 : Option Nat) (X : Nat → gS → Prop) (K : Int32 → gS → Prop) : Prop :=
  wNN o0 fun c1 => (gIs G c1 1 ∧ wp_X1_purse ad G c1 x1 (fun y3 G4 => (gHas G4 y3 20 ∧ (wp_X0_purse_12 ad X K G4 y3))) (fun r5 G2 => wNN o2 fun c6 => wAstL G2 c6 (0 : Int32) ((r5).toInt64) fun G7 => K (0 : Int32) G7))
theorem w_X0_purse {C : gCx} (hC : gOk C "GoblinHouseholdLaw" cX0_purse [(0, 9, 12, 23)] (some .int) "purse" 4 11 298) {K : Int32 → gS → Prop} {X : Nat → gS → Prop} (hK : ∀ r G, K r G → cxK C (some (vI r)) G) (hX : ∀ q G, X q G → cxX C q G) {G : gS} {o0 : Option Nat} {x1 : Int32} {o2 : Option Nat} (h : wp_X0_purse (cxA C) G o0 x1 o2 X K) : gGo C G 0 [(0, vQ o0), (1, vI x1), (2, vQ o2)] [] := by
  unfold wp_X0_purse at h
  refine g_aload_n hC (pc := 0) 2 rfl rfl dX0_purse_0 ?_
  refine g_iconst hC (pc := 1) (v := (0 : Int32)) (by decide) dX0_purse_1 ?_
  refine g_aload_n hC (pc := 2) 0 rfl rfl dX0_purse_2 ?_
  refine g_iload_n hC (pc := 3) 1 rfl rfl dX0_purse_3 ?_
  rcases o0 with _ | c1
  · exact (gNN0 h).elim
  replace h := gNN1 h
  obtain ⟨hi, h⟩ := h
  refine g_callV hC (pc := 4) (ci := 1) (As := [vI x1]) gc_X1_purse (m_X1_purse hC.fl h) rfl hi q1775 q1776 q1777 (gle rfl) (gle rfl) rfl (gle rfl) rfl dX0_purse_4 (gk_i fun r5 G2 h => ?_) (fun y3 G4 h hio => ?_)
  · refine g_i2l hC (pc := 7) dX0_purse_7 ?_
    rcases o2 with _ | c6
    · exact (gNN0 h).elim
    replace h := gNN1 h
    refine g_astL hC (pc := 8) h dX0_purse_8 (fun G7 h => ?_)
    refine g_goto hC (pc := 9) 15 (by decide) dX0_purse_9 ?_
    refine g_iconst hC (pc := 15) (v := (0 : Int32)) (by decide) dX0_purse_15 ?_
    exact g_iret hC (pc := 16) (hK _ _ h) dX0_purse_16
  · obtain ⟨hq, h⟩ := h
    refine g_catchI hC (pc := 4) (ci := 20) rfl hq 0 rfl (fun _ h => nomatch h) rfl (by decide) q1312 (List.mem_of_getElem? (i := 2) rfl) rfl ?_
    exact g_sub [] rfl (w_X0_purse_12 hC hK hX h)
theorem gc_X0_purse : gCodeW yX0_purse cX0_purse 4 (some .int) [(0, 9, 12, 23)] 3 := ⟨q1774, q93, ⟨by decide, by decide⟩, rfl⟩
theorem m_X0_purse {l : Launch} (hfl : l.stackTraces = false) {E : gE} {G : gS} {o0 : Option Nat} {x1 : Int32} {o2 : Option Nat} {X : Nat → gS → Prop} {K : Int32 → gS → Prop} (h : wp_X0_purse (gAd E) G o0 x1 o2 X K) : gMet l yX0_purse (wsW_ yX0_purse cX0_purse 4 (some .int) [(0, 9, 12, 23)]) 11 298 [vQ o0, vI x1, vQ o2] E G (gRi K) X :=
  g_metW hfl (plainFor_of_name (by decide +kernel)) rfl rfl rfl (gle rfl) (fun p e R s m args below meth c hC => w_X0_purse hC (fun _ _ h => h) (fun _ _ h => h) h)
def wp_X3_purse (ad : Nat → Nat) (G : gS) (t0 : Nat) (x1 : Int32) (X : Nat → gS → Prop) (K : Int32 → gS → Prop) : Prop :=
  (gIs G t0 0 ∧ wp_X3_asks ad G t0 x1 (1 : Int32) X (fun r2 G1 => K r2 G1))
theorem w_X3_purse {C : gCx} (hC : gOk C "GoblinHouseholdModel" cX3_purse [] (some .int) "purse" 2 5 149) {K : Int32 → gS → Prop} {X : Nat → gS → Prop} (hK : ∀ r G, K r G → cxK C (some (vI r)) G) (hX : ∀ q G, X q G → cxX C q G) {G : gS} {t0 : Nat} {x1 : Int32} (h : wp_X3_purse (cxA C) G t0 x1 X K) : gGo C G 0 [(0, vQ (some t0)), (1, vI x1)] [] := by
  unfold wp_X3_purse at h
  refine g_aload_n hC (pc := 0) 0 rfl rfl dX3_purse_0 ?_
  refine g_iload_n hC (pc := 1) 1 rfl rfl dX3_purse_1 ?_
  refine g_iconst hC (pc := 2) (v := (1 : Int32)) (by decide) dX3_purse_2 ?_
  obtain ⟨hi, h⟩ := h
  refine g_callV hC (pc := 3) (ci := 0) (As := [vI x1, vI (1 : Int32)]) gc_X3_asks (m_X3_asks hC.fl h) rfl hi q2765 q2767 qs74 (gle rfl) (gle rfl) rfl (gle rfl) rfl dX3_purse_3 (gk_i fun r2 G1 h => ?_) (fun _ _ h hio => g_out0 hC (hX _ _ h) hio)
  exact g_iret hC (pc := 6) (hK _ _ h) dX3_purse_6
theorem gc_X3_purse : gCode yX3_purse cX3_purse 2 (some .int) 1 := ⟨q2772, q105, ⟨by decide, by decide⟩, rfl⟩
theorem m_X3_purse {l : Launch} (hfl : l.stackTraces = false) {E : gE} {G : gS} {t0 : Nat} {x1 : Int32} {X : Nat → gS → Prop} {K : Int32 → gS → Prop} (h : wp_X3_purse (gAd E) G t0 x1 X K) : gMet l yX3_purse (ws_ yX3_purse cX3_purse 2 (some .int)) 5 149 [vQ (some t0), vI x1] E G (gRi K) X :=
  g_met hfl (plainFor_of_name (by decide +kernel)) rfl rfl rfl (gle rfl) (fun p e R s m args below meth c hC => w_X3_purse hC (fun _ _ h => h) (fun _ _ h => h) h)
def wp_X1_debt (ad : Nat → Nat) (G : gS) (t0 : Nat) (x1 : Int32) (X : Nat → gS → Prop) (K : Int32 → gS → Prop) : Prop :=
  (gIs G t0 1 ∧ wp_X1_goblinFor ad G t0 x1 X (fun q2 G1 => wNN q2 fun c3 => (gIs G1 c3 9 ∧ wp_X7_debt ad G1 c3  X (fun r5 G4 => K r5 G4))))
theorem w_X1_debt {C : gCx} (hC : gOk C "GoblinHousehold" cX1_debt [] (some .int) "debt" 2 10 269) {K : Int32 → gS → Prop} {X : Nat → gS → Prop} (hK : ∀ r G, K r G → cxK C (some (vI r)) G) (hX : ∀ q G, X q G → cxX C q G) {G : gS} {t0 : Nat} {x1 : Int32} (h : wp_X1_debt (cxA C) G t0 x1 X K) : gGo C G 0 [(0, vQ (some t0)), (1, vI x1)] [] := by
  unfold wp_X1_debt at h
  refine g_aload_n hC (pc := 0) 0 rfl rfl dX1_debt_0 ?_
  refine g_iload_n hC (pc := 1) 1 rfl rfl dX1_debt_1 ?_
  obtain ⟨hi, h⟩ := h
  refine g_callV hC (pc := 2) (ci := 1) (As := [vI x1]) gc_X1_goblinFor (m_X1_goblinFor hC.fl h) rfl hi q1766 q1768 qs26 (gle rfl) (gle rfl) rfl (gle rfl) rfl dX1_debt_2 (gk_q fun q2 G1 h => ?_) (fun _ _ h hio => g_out0 hC (hX _ _ h) hio)
  rcases q2 with _ | c3
  · exact (gNN0 h).elim
  replace h := gNN1 h
  obtain ⟨hi, h⟩ := h
  refine g_callU hC (pc := 5) (ci := 9) (As := []) gc_X7_debt (m_X7_debt hC.fl h) (x := ⟨"GoblinHousehold$Goblin", "debt", "()I"⟩) (owner := "GoblinHousehold$Debtor") rfl hi q1787 q826 q829 q830 ⟨by decide, by decide⟩ rfl q828 q829 (gle rfl) (gle rfl) rfl (gle rfl) rfl dX1_debt_5 (gk_i fun r5 G4 h => ?_) (fun _ _ h hio => g_out0 hC (hX _ _ h) hio)
  exact g_iret hC (pc := 8) (hK _ _ h) dX1_debt_8
theorem gc_X1_debt : gCode yX1_debt cX1_debt 2 (some .int) 1 := ⟨q1786, q94, ⟨by decide, by decide⟩, rfl⟩
theorem m_X1_debt {l : Launch} (hfl : l.stackTraces = false) {E : gE} {G : gS} {t0 : Nat} {x1 : Int32} {X : Nat → gS → Prop} {K : Int32 → gS → Prop} (h : wp_X1_debt (gAd E) G t0 x1 X K) : gMet l yX1_debt (ws_ yX1_debt cX1_debt 2 (some .int)) 10 269 [vQ (some t0), vI x1] E G (gRi K) X :=
  g_met hfl (plainFor_of_name (by decide +kernel)) rfl rfl rfl (gle rfl) (fun p e R s m args below meth c hC => w_X1_debt hC (fun _ _ h => h) (fun _ _ h => h) h)
def wp_X0_debt_12 (ad : Nat → Nat) (X : Nat → gS → Prop) (K : Int32 → gS → Prop) (G : gS) (ts0 : Nat) : Prop :=
  K (1 : Int32) G
theorem w_X0_debt_12 {C : gCx} (hC : gOk C "GoblinHouseholdLaw" cX0_debt [(0, 9, 12, 23)] (some .int) "debt" 4 11 298) {K : Int32 → gS → Prop} {X : Nat → gS → Prop} (hK : ∀ r G, K r G → cxK C (some (vI r)) G) (hX : ∀ q G, X q G → cxX C q G) {G : gS} {ts0 : Nat} (h : wp_X0_debt_12 (cxA C) X K G ts0) : gGo C G 12 [] [vQ (some ts0)] := by
  unfold wp_X0_debt_12 at h
  refine g_astore_n hC (pc := 12) (lv' := [(3, vQ (some ts0))]) rfl (by decide) rfl dX0_debt_12 ?_
  refine g_iconst hC (pc := 13) (v := (1 : Int32)) (by decide) dX0_debt_13 ?_
  exact g_iret hC (pc := 14) (hK _ _ h) dX0_debt_14
def wp_X0_debt (ad : Nat → Nat) (G : gS) (o0 : Option Nat) (x1 : Int32) (o2 : Option Nat) (X : Nat → gS → Prop) (K : Int32 → gS → Prop) : Prop :=
  wNN o0 fun c1 => (gIs G c1 1 ∧ wp_X1_debt ad G c1 x1 (fun y3 G4 => (gHas G4 y3 20 ∧ (wp_X0_debt_12 ad X K G4 y3))) (fun r5 G2 => wNN o2 fun c6 => wAstL G2 c6 (0 : Int32) ((r5).toInt64) fun G7 => K (0 : Int32) G7))
theorem w_X0_debt {C : gCx} (hC : gOk C "GoblinHouseholdLaw" cX0_debt [(0, 9, 12, 23)] (some .int) "debt" 4 11 298) {K : Int32 → gS → Prop} {X : Nat → gS → Prop} (hK : ∀ r G, K r G → cxK C (some (vI r)) G) (hX : ∀ q G, X q G → cxX C q G) {G : gS} {o0 : Option Nat} {x1 : Int32} {o2 : Option Nat} (h : wp_X0_debt (cxA C) G o0 x1 o2 X K) : gGo C G 0 [(0, vQ o0), (1, vI x1), (2, vQ o2)] [] := by
  unfold wp_X0_debt at h
  refine g_aload_n hC (pc := 0) 2 rfl rfl dX0_debt_0 ?_
  refine g_iconst hC (pc := 1) (v := (0 : Int32)) (by decide) dX0_debt_1 ?_
  refine g_aload_n hC (pc := 2) 0 rfl rfl dX0_debt_2 ?_
  refine g_iload_n hC (pc := 3) 1 rfl rfl dX0_debt_3 ?_
  rcases o0 with _ | c1
  · exact (gNN0 h).elim
  replace h := gNN1 h
  obtain ⟨hi, h⟩ := h
  refine g_callV hC (pc := 4) (ci := 1) (As := [vI x1]) gc_X1_debt (m_X1_debt hC.fl h) rfl hi q1783 q1784 q1785 (gle rfl) (gle rfl) rfl (gle rfl) rfl dX0_debt_4 (gk_i fun r5 G2 h => ?_) (fun y3 G4 h hio => ?_)
  · refine g_i2l hC (pc := 7) dX0_debt_7 ?_
    rcases o2 with _ | c6
    · exact (gNN0 h).elim
    replace h := gNN1 h
    refine g_astL hC (pc := 8) h dX0_debt_8 (fun G7 h => ?_)
    refine g_goto hC (pc := 9) 15 (by decide) dX0_debt_9 ?_
    refine g_iconst hC (pc := 15) (v := (0 : Int32)) (by decide) dX0_debt_15 ?_
    exact g_iret hC (pc := 16) (hK _ _ h) dX0_debt_16
  · obtain ⟨hq, h⟩ := h
    refine g_catchI hC (pc := 4) (ci := 20) rfl hq 0 rfl (fun _ h => nomatch h) rfl (by decide) q1312 (List.mem_of_getElem? (i := 2) rfl) rfl ?_
    exact g_sub [] rfl (w_X0_debt_12 hC hK hX h)
theorem gc_X0_debt : gCodeW yX0_debt cX0_debt 4 (some .int) [(0, 9, 12, 23)] 3 := ⟨q1782, q93, ⟨by decide, by decide⟩, rfl⟩
theorem m_X0_debt {l : Launch} (hfl : l.stackTraces = false) {E : gE} {G : gS} {o0 : Option Nat} {x1 : Int32} {o2 : Option Nat} {X : Nat → gS → Prop} {K : Int32 → gS → Prop} (h : wp_X0_debt (gAd E) G o0 x1 o2 X K) : gMet l yX0_debt (wsW_ yX0_debt cX0_debt 4 (some .int) [(0, 9, 12, 23)]) 11 298 [vQ o0, vI x1, vQ o2] E G (gRi K) X :=
  g_metW hfl (plainFor_of_name (by decide +kernel)) rfl rfl rfl (gle rfl) (fun p e R s m args below meth c hC => w_X0_debt hC (fun _ _ h => h) (fun _ _ h => h) h)
def wp_X3_debt (ad : Nat → Nat) (G : gS) (t0 : Nat) (x1 : Int32) (X : Nat → gS → Prop) (K : Int32 → gS → Prop) : Prop :=
  (gIs G t0 0 ∧ wp_X3_asks ad G t0 x1 (2 : Int32) X (fun r2 G1 => K r2 G1))
theorem w_X3_debt {C : gCx} (hC : gOk C "GoblinHouseholdModel" cX3_debt [] (some .int) "debt" 2 5 149) {K : Int32 → gS → Prop} {X : Nat → gS → Prop} (hK : ∀ r G, K r G → cxK C (some (vI r)) G) (hX : ∀ q G, X q G → cxX C q G) {G : gS} {t0 : Nat} {x1 : Int32} (h : wp_X3_debt (cxA C) G t0 x1 X K) : gGo C G 0 [(0, vQ (some t0)), (1, vI x1)] [] := by
  unfold wp_X3_debt at h
  refine g_aload_n hC (pc := 0) 0 rfl rfl dX3_debt_0 ?_
  refine g_iload_n hC (pc := 1) 1 rfl rfl dX3_debt_1 ?_
  refine g_iconst hC (pc := 2) (v := (2 : Int32)) (by decide) dX3_debt_2 ?_
  obtain ⟨hi, h⟩ := h
  refine g_callV hC (pc := 3) (ci := 0) (As := [vI x1, vI (2 : Int32)]) gc_X3_asks (m_X3_asks hC.fl h) rfl hi q2765 q2767 qs74 (gle rfl) (gle rfl) rfl (gle rfl) rfl dX3_debt_3 (gk_i fun r2 G1 h => ?_) (fun _ _ h hio => g_out0 hC (hX _ _ h) hio)
  exact g_iret hC (pc := 6) (hK _ _ h) dX3_debt_6
theorem gc_X3_debt : gCode yX3_debt cX3_debt 2 (some .int) 1 := ⟨q2776, q105, ⟨by decide, by decide⟩, rfl⟩
theorem m_X3_debt {l : Launch} (hfl : l.stackTraces = false) {E : gE} {G : gS} {t0 : Nat} {x1 : Int32} {X : Nat → gS → Prop} {K : Int32 → gS → Prop} (h : wp_X3_debt (gAd E) G t0 x1 X K) : gMet l yX3_debt (ws_ yX3_debt cX3_debt 2 (some .int)) 5 149 [vQ (some t0), vI x1] E G (gRi K) X :=
  g_met hfl (plainFor_of_name (by decide +kernel)) rfl rfl rfl (gle rfl) (fun p e R s m args below meth c hC => w_X3_debt hC (fun _ _ h => h) (fun _ _ h => h) h)
def wp_X1_skippedNights (ad : Nat → Nat) (G : gS) (t0 : Nat) (x1 : Int32) (X : Nat → gS → Prop) (K : Int32 → gS → Prop) : Prop :=
  (gIs G t0 1 ∧ wp_X1_goblinFor ad G t0 x1 X (fun q2 G1 => wNN q2 fun c3 => wGetI G1 c3 9 5 fun i4 => K i4 G1))
theorem w_X1_skippedNights {C : gCx} (hC : gOk C "GoblinHousehold" cX1_skippedNights [] (some .int) "skippedNights" 2 10 269) {K : Int32 → gS → Prop} {X : Nat → gS → Prop} (hK : ∀ r G, K r G → cxK C (some (vI r)) G) (hX : ∀ q G, X q G → cxX C q G) {G : gS} {t0 : Nat} {x1 : Int32} (h : wp_X1_skippedNights (cxA C) G t0 x1 X K) : gGo C G 0 [(0, vQ (some t0)), (1, vI x1)] [] := by
  unfold wp_X1_skippedNights at h
  refine g_aload_n hC (pc := 0) 0 rfl rfl dX1_skippedNights_0 ?_
  refine g_iload_n hC (pc := 1) 1 rfl rfl dX1_skippedNights_1 ?_
  obtain ⟨hi, h⟩ := h
  refine g_callV hC (pc := 2) (ci := 1) (As := [vI x1]) gc_X1_goblinFor (m_X1_goblinFor hC.fl h) rfl hi q1766 q1768 qs26 (gle rfl) (gle rfl) rfl (gle rfl) rfl dX1_skippedNights_2 (gk_q fun q2 G1 h => ?_) (fun _ _ h hio => g_out0 hC (hX _ _ h) hio)
  rcases q2 with _ | c3
  · exact (gNN0 h).elim
  replace h := gNN1 h
  refine g_getIN hC (pc := 5) in_X8 (ci := 9) rfl 5 (by decide) (List.mem_of_getElem? (i := 15) rfl) (Or.inl rfl) h dX1_skippedNights_5 (fun i4 h => ?_)
  exact g_iret hC (pc := 8) (hK _ _ h) dX1_skippedNights_8
theorem gc_X1_skippedNights : gCode yX1_skippedNights cX1_skippedNights 2 (some .int) 1 := ⟨q1794, q94, ⟨by decide, by decide⟩, rfl⟩
theorem m_X1_skippedNights {l : Launch} (hfl : l.stackTraces = false) {E : gE} {G : gS} {t0 : Nat} {x1 : Int32} {X : Nat → gS → Prop} {K : Int32 → gS → Prop} (h : wp_X1_skippedNights (gAd E) G t0 x1 X K) : gMet l yX1_skippedNights (ws_ yX1_skippedNights cX1_skippedNights 2 (some .int)) 10 269 [vQ (some t0), vI x1] E G (gRi K) X :=
  g_met hfl (plainFor_of_name (by decide +kernel)) rfl rfl rfl (gle rfl) (fun p e R s m args below meth c hC => w_X1_skippedNights hC (fun _ _ h => h) (fun _ _ h => h) h)
def wp_X0_skippedNights_12 (ad : Nat → Nat) (X : Nat → gS → Prop) (K : Int32 → gS → Prop) (G : gS) (ts0 : Nat) : Prop :=
  K (1 : Int32) G
theorem w_X0_skippedNights_12 {C : gCx} (hC : gOk C "GoblinHouseholdLaw" cX0_skippedNights [(0, 9, 12, 23)] (some .int) "skippedNights" 4 11 298) {K : Int32 → gS → Prop} {X : Nat → gS → Prop} (hK : ∀ r G, K r G → cxK C (some (vI r)) G) (hX : ∀ q G, X q G → cxX C q G) {G : gS} {ts0 : Nat} (h : wp_X0_skippedNights_12 (cxA C) X K G ts0) : gGo C G 12 [] [vQ (some ts0)] := by
  unfold wp_X0_skippedNights_12 at h
  refine g_astore_n hC (pc := 12) (lv' := [(3, vQ (some ts0))]) rfl (by decide) rfl dX0_skippedNights_12 ?_
  refine g_iconst hC (pc := 13) (v := (1 : Int32)) (by decide) dX0_skippedNights_13 ?_
  exact g_iret hC (pc := 14) (hK _ _ h) dX0_skippedNights_14
def wp_X0_skippedNights (ad : Nat → Nat) (G : gS) (o0 : Option Nat) (x1 : Int32) (o2 : Option Nat) (X : Nat → gS → Prop) (K : Int32 → gS → Prop) : Prop :=
  wNN o0 fun c1 => (gIs G c1 1 ∧ wp_X1_skippedNights ad G c1 x1 (fun y3 G4 => (gHas G4 y3 20 ∧ (wp_X0_skippedNights_12 ad X K G4 y3))) (fun r5 G2 => wNN o2 fun c6 => wAstL G2 c6 (0 : Int32) ((r5).toInt64) fun G7 => K (0 : Int32) G7))
theorem w_X0_skippedNights {C : gCx} (hC : gOk C "GoblinHouseholdLaw" cX0_skippedNights [(0, 9, 12, 23)] (some .int) "skippedNights" 4 11 298) {K : Int32 → gS → Prop} {X : Nat → gS → Prop} (hK : ∀ r G, K r G → cxK C (some (vI r)) G) (hX : ∀ q G, X q G → cxX C q G) {G : gS} {o0 : Option Nat} {x1 : Int32} {o2 : Option Nat} (h : wp_X0_skippedNights (cxA C) G o0 x1 o2 X K) : gGo C G 0 [(0, vQ o0), (1, vI x1), (2, vQ o2)] [] := by
  unfold wp_X0_skippedNights at h
  refine g_aload_n hC (pc := 0) 2 rfl rfl dX0_skippedNights_0 ?_
  refine g_iconst hC (pc := 1) (v := (0 : Int32)) (by decide) dX0_skippedNights_1 ?_
  refine g_aload_n hC (pc := 2) 0 rfl rfl dX0_skippedNights_2 ?_
  refine g_iload_n hC (pc := 3) 1 rfl rfl dX0_skippedNights_3 ?_
  rcases o0 with _ | c1
  · exact (gNN0 h).elim
  replace h := gNN1 h
  obtain ⟨hi, h⟩ := h
  refine g_callV hC (pc := 4) (ci := 1) (As := [vI x1]) gc_X1_skippedNights (m_X1_skippedNights hC.fl h) rfl hi q1791 q1792 q1793 (gle rfl) (gle rfl) rfl (gle rfl) rfl dX0_skippedNights_4 (gk_i fun r5 G2 h => ?_) (fun y3 G4 h hio => ?_)
  · refine g_i2l hC (pc := 7) dX0_skippedNights_7 ?_
    rcases o2 with _ | c6
    · exact (gNN0 h).elim
    replace h := gNN1 h
    refine g_astL hC (pc := 8) h dX0_skippedNights_8 (fun G7 h => ?_)
    refine g_goto hC (pc := 9) 15 (by decide) dX0_skippedNights_9 ?_
    refine g_iconst hC (pc := 15) (v := (0 : Int32)) (by decide) dX0_skippedNights_15 ?_
    exact g_iret hC (pc := 16) (hK _ _ h) dX0_skippedNights_16
  · obtain ⟨hq, h⟩ := h
    refine g_catchI hC (pc := 4) (ci := 20) rfl hq 0 rfl (fun _ h => nomatch h) rfl (by decide) q1312 (List.mem_of_getElem? (i := 2) rfl) rfl ?_
    exact g_sub [] rfl (w_X0_skippedNights_12 hC hK hX h)
theorem gc_X0_skippedNights : gCodeW yX0_skippedNights cX0_skippedNights 4 (some .int) [(0, 9, 12, 23)] 3 := ⟨q1790, q93, ⟨by decide, by decide⟩, rfl⟩
theorem m_X0_skippedNights {l : Launch} (hfl : l.stackTraces = false) {E : gE} {G : gS} {o0 : Option Nat} {x1 : Int32} {o2 : Option Nat} {X : Nat → gS → Prop} {K : Int32 → gS → Prop} (h : wp_X0_skippedNights (gAd E) G o0 x1 o2 X K) : gMet l yX0_skippedNights (wsW_ yX0_skippedNights cX0_skippedNights 4 (some .int) [(0, 9, 12, 23)]) 11 298 [vQ o0, vI x1, vQ o2] E G (gRi K) X :=
  g_metW hfl (plainFor_of_name (by decide +kernel)) rfl rfl rfl (gle rfl) (fun p e R s m args below meth c hC => w_X0_skippedNights hC (fun _ _ h => h) (fun _ _ h => h) h)
def wp_X3_skippedNights (ad : Nat → Nat) (G : gS) (t0 : Nat) (x1 : Int32) (X : Nat → gS → Prop) (K : Int32 → gS → Prop) : Prop :=
  (gIs G t0 0 ∧ wp_X3_asks ad G t0 x1 (3 : Int32) X (fun r2 G1 => K r2 G1))
theorem w_X3_skippedNights {C : gCx} (hC : gOk C "GoblinHouseholdModel" cX3_skippedNights [] (some .int) "skippedNights" 2 5 149) {K : Int32 → gS → Prop} {X : Nat → gS → Prop} (hK : ∀ r G, K r G → cxK C (some (vI r)) G) (hX : ∀ q G, X q G → cxX C q G) {G : gS} {t0 : Nat} {x1 : Int32} (h : wp_X3_skippedNights (cxA C) G t0 x1 X K) : gGo C G 0 [(0, vQ (some t0)), (1, vI x1)] [] := by
  unfold wp_X3_skippedNights at h
  refine g_aload_n hC (pc := 0) 0 rfl rfl dX3_skippedNights_0 ?_
  refine g_iload_n hC (pc := 1) 1 rfl rfl dX3_skippedNights_1 ?_
  refine g_iconst hC (pc := 2) (v := (3 : Int32)) (by decide) dX3_skippedNights_2 ?_
  obtain ⟨hi, h⟩ := h
  refine g_callV hC (pc := 3) (ci := 0) (As := [vI x1, vI (3 : Int32)]) gc_X3_asks (m_X3_asks hC.fl h) rfl hi q2765 q2767 qs74 (gle rfl) (gle rfl) rfl (gle rfl) rfl dX3_skippedNights_3 (gk_i fun r2 G1 h => ?_) (fun _ _ h hio => g_out0 hC (hX _ _ h) hio)
  exact g_iret hC (pc := 6) (hK _ _ h) dX3_skippedNights_6
theorem gc_X3_skippedNights : gCode yX3_skippedNights cX3_skippedNights 2 (some .int) 1 := ⟨q2780, q105, ⟨by decide, by decide⟩, rfl⟩
theorem m_X3_skippedNights {l : Launch} (hfl : l.stackTraces = false) {E : gE} {G : gS} {t0 : Nat} {x1 : Int32} {X : Nat → gS → Prop} {K : Int32 → gS → Prop} (h : wp_X3_skippedNights (gAd E) G t0 x1 X K) : gMet l yX3_skippedNights (ws_ yX3_skippedNights cX3_skippedNights 2 (some .int)) 5 149 [vQ (some t0), vI x1] E G (gRi K) X :=
  g_met hfl (plainFor_of_name (by decide +kernel)) rfl rfl rfl (gle rfl) (fun p e R s m args below meth c hC => w_X3_skippedNights hC (fun _ _ h => h) (fun _ _ h => h) h)
def wp_X1_isResting (ad : Nat → Nat) (G : gS) (t0 : Nat) (x1 : Int32) (X : Nat → gS → Prop) (K : Int32 → gS → Prop) : Prop :=
  (gIs G t0 1 ∧ wp_X1_goblinFor ad G t0 x1 X (fun q2 G1 => wNN q2 fun c3 => wGetI G1 c3 9 4 fun i4 => gNar .boolean i4 ∧ K i4 G1))
theorem w_X1_isResting {C : gCx} (hC : gOk C "GoblinHousehold" cX1_isResting [] (some .boolean) "isResting" 2 10 269) {K : Int32 → gS → Prop} {X : Nat → gS → Prop} (hK : ∀ r G, K r G → cxK C (some (vI r)) G) (hX : ∀ q G, X q G → cxX C q G) {G : gS} {t0 : Nat} {x1 : Int32} (h : wp_X1_isResting (cxA C) G t0 x1 X K) : gGo C G 0 [(0, vQ (some t0)), (1, vI x1)] [] := by
  unfold wp_X1_isResting at h
  refine g_aload_n hC (pc := 0) 0 rfl rfl dX1_isResting_0 ?_
  refine g_iload_n hC (pc := 1) 1 rfl rfl dX1_isResting_1 ?_
  obtain ⟨hi, h⟩ := h
  refine g_callV hC (pc := 2) (ci := 1) (As := [vI x1]) gc_X1_goblinFor (m_X1_goblinFor hC.fl h) rfl hi q1766 q1768 qs26 (gle rfl) (gle rfl) rfl (gle rfl) rfl dX1_isResting_2 (gk_q fun q2 G1 h => ?_) (fun _ _ h hio => g_out0 hC (hX _ _ h) hio)
  rcases q2 with _ | c3
  · exact (gNN0 h).elim
  replace h := gNN1 h
  refine g_getIN hC (pc := 5) in_X8 (ci := 9) rfl 4 (by decide) (List.mem_of_getElem? (i := 13) rfl) (Or.inl rfl) h dX1_isResting_5 (fun i4 h => ?_)
  exact g_zret hC (pc := 8) h.1 (hK _ _ h.2) dX1_isResting_8
theorem gc_X1_isResting : gCode yX1_isResting cX1_isResting 2 (some .boolean) 1 := ⟨q1801, q94, ⟨by decide, by decide⟩, rfl⟩
theorem m_X1_isResting {l : Launch} (hfl : l.stackTraces = false) {E : gE} {G : gS} {t0 : Nat} {x1 : Int32} {X : Nat → gS → Prop} {K : Int32 → gS → Prop} (h : wp_X1_isResting (gAd E) G t0 x1 X K) : gMet l yX1_isResting (ws_ yX1_isResting cX1_isResting 2 (some .boolean)) 10 269 [vQ (some t0), vI x1] E G (gRi K) X :=
  g_met hfl (plainFor_of_name (by decide +kernel)) rfl rfl rfl (gle rfl) (fun p e R s m args below meth c hC => w_X1_isResting hC (fun _ _ h => h) (fun _ _ h => h) h)
