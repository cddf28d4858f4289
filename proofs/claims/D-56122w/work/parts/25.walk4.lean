/-! walk 4 (printed by gen/walk.py) -/
set_option maxRecDepth 20000
def wp_X2_sum_4 (ad : Nat → Nat) (X : Nat → gS → Prop) (K : Int32 → gS → Prop) (J4 : gS → Nat → Option Nat → Int32 → Int32 → Prop) (G : gS) (t0 : Nat) (o1 : Option Nat) (x2 : Int32) (x3 : Int32) : Prop :=
  wGetQ G t0 2 3 fun q1 => wNN q1 fun c2 => (gIs G c2 3 ∧ wp_J2_size ad G c2  X (fun r4 G3 => (r4 ≤ x3 → K x2 G3) ∧ (¬ r4 ≤ x3 → wGetQ G3 t0 2 3 fun q5 => wNN q5 fun c6 => (gIs G3 c6 3 ∧ wp_J2_get ad G3 c6 x3 X (fun q8 G7 => wCast G7 q8 [10] (wNN o1 fun c9 => wL_Question ad G7 c9 q8 X (fun r11 G10 => J4 G10 t0 (some c9) (x2 + r11) (x3 + (1 : Int32)))))))))
theorem w_X2_sum_4 {C : gCx} (hC : gOk C "GoblinHousehold$Household" cX2_sum [] (some .int) "sum" 4 3 88) {K : Int32 → gS → Prop} {X : Nat → gS → Prop} (hK : ∀ r G, K r G → cxK C (some (vI r)) G) (hX : ∀ q G, X q G → cxX C q G) (n : Nat) : ∀ (G : gS) (t0 : Nat) (o1 : Option Nat) (x2 : Int32) (x3 : Int32), gLoop (fun _ _ _ _ _ => False) (wp_X2_sum_4 (cxA C) X K) n G t0 o1 x2 x3 → gGo C G 4 [(0, vQ (some t0)), (1, vQ o1), (2, vI x2), (3, vI x3)] [] := by
  induction n with
  | zero => intro G t0 o1 x2 x3 h; exact h.elim
  | succ n ih =>
    intro G t0 o1 x2 x3 h
    have hJ4 := ih
    replace h : wp_X2_sum_4 (cxA C) X K _ G t0 o1 x2 x3 := h
    unfold wp_X2_sum_4 at h
    refine g_iload_n hC (pc := 4) 3 rfl rfl dX2_sum_4 ?_
    refine g_aload_n hC (pc := 5) 0 rfl rfl dX2_sum_5 ?_
    refine g_getQ hC (pc := 6) in_X2 (ci := 2) rfl 3 (by decide) q194 (Or.inl rfl) h dX2_sum_6 (fun q1 h => ?_)
    rcases q1 with _ | c2
    · exact (gNN0 h).elim
    replace h := gNN1 h
    obtain ⟨hi, h⟩ := h
    refine g_callF hC (pc := 9) (ci := 3) (As := []) gc_J2_size (m_J2_size hC.fl h) rfl hi q359 (List.mem_of_getElem? (i := 0) rfl) rfl q323 q325 (gle rfl) (gle rfl) rfl (gle rfl) rfl dX2_sum_9 (gk_i fun r4 G3 h => ?_) (fun _ _ h hio => g_out0 hC (hX _ _ h) hio)
    refine g_icmp_ge hC (pc := 14) 45 h (by decide) dX2_sum_14 (fun h => ?_) (fun h => ?_)
    · refine g_iload_n hC (pc := 45) 2 rfl rfl dX2_sum_45 ?_
      exact g_iret hC (pc := 46) (hK _ _ h) dX2_sum_46
    · refine g_iload_n hC (pc := 17) 2 rfl rfl dX2_sum_17 ?_
      refine g_aload_n hC (pc := 18) 1 rfl rfl dX2_sum_18 ?_
      refine g_aload_n hC (pc := 19) 0 rfl rfl dX2_sum_19 ?_
      refine g_getQ hC (pc := 20) in_X2 (ci := 2) rfl 3 (by decide) q194 (Or.inl rfl) h dX2_sum_20 (fun q5 h => ?_)
      refine g_iload_n hC (pc := 23) 3 rfl rfl dX2_sum_23 ?_
      rcases q5 with _ | c6
      · exact (gNN0 h).elim
      replace h := gNN1 h
      obtain ⟨hi, h⟩ := h
      refine g_callF hC (pc := 24) (ci := 3) (As := [vI x3]) gc_J2_get (m_J2_get hC.fl h) rfl hi q361 (List.mem_of_getElem? (i := 2) rfl) rfl q364 q366 (gle rfl) (gle rfl) rfl (gle rfl) rfl dX2_sum_24 (gk_q fun q8 G7 h => ?_) (fun _ _ h hio => g_out0 hC (hX _ _ h) hio)
      refine g_cast hC (pc := 29) q764 h (List.forall_mem_cons.mpr ⟨⟨_, rfl, Or.inr ⟨rfl, by decide⟩⟩, fun _ h => nomatch h⟩) dX2_sum_29 (fun h => ?_)
      rcases o1 with _ | c9
      · exact (gNN0 h).elim
      replace h := gNN1 h
      refine g_callQuestion hC (pc := 32) h q818 (gle rfl) (gle rfl) (gle rfl) dX2_sum_32 (fun r11 G10 h => ?_) (fun _ _ h hio => g_out0 hC (hX _ _ h) hio)
      refine g_iadd hC (pc := 37) dX2_sum_37 ?_
      refine g_istore_n hC (pc := 38) (lv' := [(2, vI (x2 + r11)), (0, vQ (some t0)), (1, vQ (some c9)), (3, vI x3)]) rfl (by decide) rfl dX2_sum_38 ?_
      refine g_iinc hC (pc := 39) 3 (d := (1 : Int32)) (v := (x3 + (1 : Int32))) (lv' := [(3, vI (x3 + (1 : Int32))), (2, vI (x2 + r11)), (0, vQ (some t0)), (1, vQ (some c9))]) rfl (by decide) rfl (by decide) rfl dX2_sum_39 ?_
      refine g_goto hC (pc := 42) 4 (by decide) dX2_sum_42 ?_
      exact g_sub [2, 3, 1, 0] rfl (hJ4 _ _ _ _ _ h)
def wp_X2_sum (ad : Nat → Nat) (G : gS) (t0 : Nat) (o1 : Option Nat) (X : Nat → gS → Prop) (K : Int32 → gS → Prop) : Prop :=
  gLoop (fun _ _ _ _ _ => False) (wp_X2_sum_4 ad X K) gFuel G t0 o1 (0 : Int32) (0 : Int32)
theorem w_X2_sum {C : gCx} (hC : gOk C "GoblinHousehold$Household" cX2_sum [] (some .int) "sum" 4 3 88) {K : Int32 → gS → Prop} {X : Nat → gS → Prop} (hK : ∀ r G, K r G → cxK C (some (vI r)) G) (hX : ∀ q G, X q G → cxX C q G) {G : gS} {t0 : Nat} {o1 : Option Nat} (h : wp_X2_sum (cxA C) G t0 o1 X K) : gGo C G 0 [(0, vQ (some t0)), (1, vQ o1)] [] := by
  unfold wp_X2_sum at h
  refine g_iconst hC (pc := 0) (v := (0 : Int32)) (by decide) dX2_sum_0 ?_
  refine g_istore_n hC (pc := 1) (lv' := [(2, vI (0 : Int32)), (0, vQ (some t0)), (1, vQ o1)]) rfl (by decide) rfl dX2_sum_1 ?_
  refine g_iconst hC (pc := 2) (v := (0 : Int32)) (by decide) dX2_sum_2 ?_
  refine g_istore_n hC (pc := 3) (lv' := [(3, vI (0 : Int32)), (2, vI (0 : Int32)), (0, vQ (some t0)), (1, vQ o1)]) rfl (by decide) rfl dX2_sum_3 ?_
  exact g_sub [2, 3, 1, 0] rfl (w_X2_sum_4 hC hK hX gFuel _ _ _ _ _ h)
theorem gc_X2_sum : gCode yX2_sum cX2_sum 4 (some .int) 1 := ⟨q816, q95, ⟨by decide, by decide⟩, rfl⟩
theorem m_X2_sum {l : Launch} (hfl : l.stackTraces = false) {E : gE} {G : gS} {t0 : Nat} {o1 : Option Nat} {X : Nat → gS → Prop} {K : Int32 → gS → Prop} (h : wp_X2_sum (gAd E) G t0 o1 X K) : gMet l yX2_sum (ws_ yX2_sum cX2_sum 4 (some .int)) 3 88 [vQ (some t0), vQ o1] E G (gRi K) X :=
  g_met hfl (plainFor_of_name (by decide +kernel)) rfl rfl rfl (gle rfl) (fun p e R s m args below meth c hC => w_X2_sum hC (fun _ _ h => h) (fun _ _ h => h) h)
def wp_X2_areContractsApart_49 (ad : Nat → Nat) (X : Nat → gS → Prop) (K : Int32 → gS → Prop) (J7 : gS → Nat → Int32 → Int32 → Int32 → Int32 → Prop) (G : gS) (t0 : Nat) (x1 : Int32) (x3 : Int32) (x4 : Int32) (xs0 : Int32) (xs1 : Int32) : Prop :=
  J7 G t0 x1 (xs1 + xs0) x3 (x4 + (1 : Int32))
theorem w_X2_areContractsApart_49 {C : gCx} (hC : gOk C "GoblinHousehold$Household" cX2_areContractsApart [] (some .boolean) "areContractsApart" 6 4 3088) (hN : gNm C yX2_areContractsApart) {K : Int32 → gS → Prop} {X : Nat → gS → Prop} (hK : ∀ r G, K r G → cxK C (some (vI r)) G) (hX : ∀ q G, X q G → cxX C q G) {J7 : gS → Nat → Int32 → Int32 → Int32 → Int32 → Prop} (hJ7 : ∀ G z0 z1 z2 z3 z4, J7 G z0 z1 z2 z3 z4 → gGo C G 7 [(0, vQ (some z0)), (1, vI z1), (2, vI z2), (3, vI z3), (4, vI z4)] []) {G : gS} {t0 : Nat} {x1 : Int32} {x3 : Int32} {x4 : Int32} {xs0 : Int32} {xs1 : Int32} (h : wp_X2_areContractsApart_49 (cxA C) X K J7 G t0 x1 x3 x4 xs0 xs1) : gGo C G 49 [(0, vQ (some t0)), (1, vI x1), (3, vI x3), (4, vI x4)] [vI xs0, vI xs1] := by
  unfold wp_X2_areContractsApart_49 at h
  refine g_iadd hC (pc := 49) dX2_areContractsApart_49 ?_
  refine g_istore_n hC (pc := 50) (lv' := [(2, vI (xs1 + xs0)), (0, vQ (some t0)), (1, vI x1), (3, vI x3), (4, vI x4)]) rfl (by decide) rfl dX2_areContractsApart_50 ?_
  refine g_iinc hC (pc := 51) 4 (d := (1 : Int32)) (v := (x4 + (1 : Int32))) (lv' := [(4, vI (x4 + (1 : Int32))), (2, vI (xs1 + xs0)), (0, vQ (some t0)), (1, vI x1), (3, vI x3)]) rfl (by decide) rfl (by decide) rfl dX2_areContractsApart_51 ?_
  refine g_goto hC (pc := 54) 7 (by decide) dX2_areContractsApart_54 ?_
  exact g_sub [2, 3, 1, 4, 0] rfl (hJ7 _ _ _ _ _ _ h)
def wp_X2_areContractsApart_57 (ad : Nat → Nat) (X : Nat → gS → Prop) (K : Int32 → gS → Prop) (G : gS) (x2 : Int32) (x3 : Int32) : Prop :=
  (¬ x2 = x3 → K (0 : Int32) G) ∧ (x2 = x3 → K (1 : Int32) G)
theorem w_X2_areContractsApart_57 {C : gCx} (hC : gOk C "GoblinHousehold$Household" cX2_areContractsApart [] (some .boolean) "areContractsApart" 6 4 3088) (hN : gNm C yX2_areContractsApart) {K : Int32 → gS → Prop} {X : Nat → gS → Prop} (hK : ∀ r G, K r G → cxK C (some (vI r)) G) (hX : ∀ q G, X q G → cxX C q G) {G : gS} {x2 : Int32} {x3 : Int32} (h : wp_X2_areContractsApart_57 (cxA C) X K G x2 x3) : gGo C G 57 [(2, vI x2), (3, vI x3)] [] := by
  unfold wp_X2_areContractsApart_57 at h
  refine g_iload_n hC (pc := 57) 0 rfl rfl dX2_areContractsApart_57 ?_
  refine g_iload_n hC (pc := 58) 1 rfl rfl dX2_areContractsApart_58 ?_
  refine g_icmp_ne hC (pc := 59) 66 h (by decide) dX2_areContractsApart_59 (fun h => ?_) (fun h => ?_)
  · refine g_iconst hC (pc := 66) (v := (0 : Int32)) (by decide) dX2_areContractsApart_66 ?_
    exact g_zret hC (pc := 67) rfl (hK _ _ h) dX2_areContractsApart_67
  · refine g_iconst hC (pc := 62) (v := (1 : Int32)) (by decide) dX2_areContractsApart_62 ?_
    refine g_goto hC (pc := 63) 67 (by decide) dX2_areContractsApart_63 ?_
    exact g_zret hC (pc := 67) rfl (hK _ _ h) dX2_areContractsApart_67
def wp_X2_areContractsApart_7 (ad : Nat → Nat) (X : Nat → gS → Prop) (K : Int32 → gS → Prop) (J7 : gS → Nat → Int32 → Int32 → Int32 → Int32 → Prop) (G : gS) (t0 : Nat) (x1 : Int32) (x2 : Int32) (x3 : Int32) (x4 : Int32) : Prop :=
  ((6 : Int32) ≤ x4 → wp_X2_areContractsApart_57 ad X K G x2 x3) ∧ (¬ (6 : Int32) ≤ x4 → wMkL G 0 [x1, x4] fun c2 G1 => (gIs G1 t0 2 ∧ wp_X2_sum ad G1 t0 (some c2) X (fun r4 G3 => (gIs G3 t0 2 ∧ wp_X2_hasContract ad G3 t0 x1 x4 X (fun r6 G5 => (r6 = (0 : Int32) → wp_X2_areContractsApart_49 ad X K J7 G5 t0 x1 (x3 + r4) x4 (0 : Int32) x2) ∧ (¬ r6 = (0 : Int32) → wp_X2_areContractsApart_49 ad X K J7 G5 t0 x1 (x3 + r4) x4 (1 : Int32) x2))))))
theorem w_X2_areContractsApart_7 {C : gCx} (hC : gOk C "GoblinHousehold$Household" cX2_areContractsApart [] (some .boolean) "areContractsApart" 6 4 3088) (hN : gNm C yX2_areContractsApart) {K : Int32 → gS → Prop} {X : Nat → gS → Prop} (hK : ∀ r G, K r G → cxK C (some (vI r)) G) (hX : ∀ q G, X q G → cxX C q G) (n : Nat) : ∀ (G : gS) (t0 : Nat) (x1 : Int32) (x2 : Int32) (x3 : Int32) (x4 : Int32), gLoop (fun _ _ _ _ _ _ => False) (wp_X2_areContractsApart_7 (cxA C) X K) n G t0 x1 x2 x3 x4 → gGo C G 7 [(0, vQ (some t0)), (1, vI x1), (2, vI x2), (3, vI x3), (4, vI x4)] [] := by
  induction n with
  | zero => intro G t0 x1 x2 x3 x4 h; exact h.elim
  | succ n ih =>
    intro G t0 x1 x2 x3 x4 h
    have hJ7 := ih
    replace h : wp_X2_areContractsApart_7 (cxA C) X K _ G t0 x1 x2 x3 x4 := h
    unfold wp_X2_areContractsApart_7 at h
    refine g_iload hC (pc := 7) 4 rfl dX2_areContractsApart_7 ?_
    refine g_bipush hC (pc := 9) (v := (6 : Int32)) (by decide) dX2_areContractsApart_9 ?_
    refine g_icmp_ge hC (pc := 11) 57 h (by decide) dX2_areContractsApart_11 (fun h => ?_) (fun h => ?_)
    · exact g_sub [2, 3] rfl (w_X2_areContractsApart_57 hC hN hK hX h)
    · refine g_iload hC (pc := 14) 4 rfl dX2_areContractsApart_14 ?_
      refine g_istore hC (pc := 16) (lv' := [(5, vI x4), (0, vQ (some t0)), (1, vI x1), (2, vI x2), (3, vI x3), (4, vI x4)]) (by decide) rfl dX2_areContractsApart_16 ?_
      refine g_iload_n hC (pc := 18) 4 rfl rfl dX2_areContractsApart_18 ?_
      refine g_aload_n hC (pc := 19) 1 rfl rfl dX2_areContractsApart_19 ?_
      refine g_iload_n hC (pc := 20) 2 rfl rfl dX2_areContractsApart_20 ?_
      refine g_iload hC (pc := 21) 0 rfl dX2_areContractsApart_21 ?_
      refine g_indyM hC (pc := 23) (q := gSite_0) (xs := [x1, x4]) hN (List.mem_of_getElem? (i := 0) rfl) rfl (by decide) lok_0 q3057 q811 gc_X2_lambda_areContractsApart_0 rfl rfl (gle rfl) (gle rfl) rfl rfl h dX2_areContractsApart_23 (fun c2 G1 h => ?_)
      obtain ⟨hi, h⟩ := h
      refine g_callV hC (pc := 28) (ci := 2) (As := [vQ (some c2)]) gc_X2_sum (m_X2_sum hC.fl h) rfl hi q813 q815 qs6 (gle rfl) (gle rfl) rfl (gle rfl) rfl dX2_areContractsApart_28 (gk_i fun r4 G3 h => ?_) (fun _ _ h hio => g_out0 hC (hX _ _ h) hio)
      refine g_iadd hC (pc := 31) dX2_areContractsApart_31 ?_
      refine g_istore_n hC (pc := 32) (lv' := [(3, vI (x3 + r4)), (5, vI x4), (0, vQ (some t0)), (1, vI x1), (2, vI x2), (4, vI x4)]) rfl (by decide) rfl dX2_areContractsApart_32 ?_
      refine g_iload_n hC (pc := 33) 4 rfl rfl dX2_areContractsApart_33 ?_
      refine g_aload_n hC (pc := 34) 2 rfl rfl dX2_areContractsApart_34 ?_
      refine g_iload_n hC (pc := 35) 3 rfl rfl dX2_areContractsApart_35 ?_
      refine g_iload hC (pc := 36) 5 rfl dX2_areContractsApart_36 ?_
      obtain ⟨hi, h⟩ := h
      refine g_callV hC (pc := 38) (ci := 2) (As := [vI x1, vI x4]) gc_X2_hasContract (m_X2_hasContract hC.fl h) rfl hi q821 q823 qs7 (gle rfl) (gle rfl) rfl (gle rfl) rfl dX2_areContractsApart_38 (gk_i fun r6 G5 h => ?_) (fun _ _ h hio => g_out0 hC (hX _ _ h) hio)
      refine g_if_eq hC (pc := 41) 48 h (by decide) dX2_areContractsApart_41 (fun h => ?_) (fun h => ?_)
      · refine g_iconst hC (pc := 48) (v := (0 : Int32)) (by decide) dX2_areContractsApart_48 ?_
        exact g_sub [2, 3, 0, 5] rfl (w_X2_areContractsApart_49 hC hN hK hX hJ7 h)
      · refine g_iconst hC (pc := 44) (v := (1 : Int32)) (by decide) dX2_areContractsApart_44 ?_
        refine g_goto hC (pc := 45) 49 (by decide) dX2_areContractsApart_45 ?_
        exact g_sub [2, 3, 0, 5] rfl (w_X2_areContractsApart_49 hC hN hK hX hJ7 h)
def wp_X2_areContractsApart (ad : Nat → Nat) (G : gS) (t0 : Nat) (x1 : Int32) (X : Nat → gS → Prop) (K : Int32 → gS → Prop) : Prop :=
  gLoop (fun _ _ _ _ _ _ => False) (wp_X2_areContractsApart_7 ad X K) gFuel G t0 x1 (0 : Int32) (0 : Int32) (0 : Int32)
theorem w_X2_areContractsApart {C : gCx} (hC : gOk C "GoblinHousehold$Household" cX2_areContractsApart [] (some .boolean) "areContractsApart" 6 4 3088) (hN : gNm C yX2_areContractsApart) {K : Int32 → gS → Prop} {X : Nat → gS → Prop} (hK : ∀ r G, K r G → cxK C (some (vI r)) G) (hX : ∀ q G, X q G → cxX C q G) {G : gS} {t0 : Nat} {x1 : Int32} (h : wp_X2_areContractsApart (cxA C) G t0 x1 X K) : gGo C G 0 [(0, vQ (some t0)), (1, vI x1)] [] := by
  unfold wp_X2_areContractsApart at h
  refine g_iconst hC (pc := 0) (v := (0 : Int32)) (by decide) dX2_areContractsApart_0 ?_
  refine g_istore_n hC (pc := 1) (lv' := [(2, vI (0 : Int32)), (0, vQ (some t0)), (1, vI x1)]) rfl (by decide) rfl dX2_areContractsApart_1 ?_
  refine g_iconst hC (pc := 2) (v := (0 : Int32)) (by decide) dX2_areContractsApart_2 ?_
  refine g_istore_n hC (pc := 3) (lv' := [(3, vI (0 : Int32)), (2, vI (0 : Int32)), (0, vQ (some t0)), (1, vI x1)]) rfl (by decide) rfl dX2_areContractsApart_3 ?_
  refine g_iconst hC (pc := 4) (v := (0 : Int32)) (by decide) dX2_areContractsApart_4 ?_
  refine g_istore hC (pc := 5) (lv' := [(4, vI (0 : Int32)), (3, vI (0 : Int32)), (2, vI (0 : Int32)), (0, vQ (some t0)), (1, vI x1)]) (by decide) rfl dX2_areContractsApart_5 ?_
  exact g_sub [3, 4, 2, 1, 0] rfl (w_X2_areContractsApart_7 hC hN hK hX gFuel _ _ _ _ _ _ h)
theorem gc_X2_areContractsApart : gCode yX2_areContractsApart cX2_areContractsApart 6 (some .boolean) 1 := ⟨q810, q95, ⟨by decide, by decide⟩, rfl⟩
theorem m_X2_areContractsApart {l : Launch} (hfl : l.stackTraces = false) {E : gE} {G : gS} {t0 : Nat} {x1 : Int32} {X : Nat → gS → Prop} {K : Int32 → gS → Prop} (h : wp_X2_areContractsApart (gAd E) G t0 x1 X K) : gMet l yX2_areContractsApart (ws_ yX2_areContractsApart cX2_areContractsApart 6 (some .boolean)) 4 3088 [vQ (some t0), vI x1] E G (gRi K) X :=
  g_metN hfl (plainFor_of_name (by decide +kernel)) rfl rfl rfl (gle rfl) (fun p e R s m args below meth c hC hN => w_X2_areContractsApart hC hN (fun _ _ h => h) (fun _ _ h => h) h)
def wp_X2_isConsistent_97 (ad : Nat → Nat) (X : Nat → gS → Prop) (K : Int32 → gS → Prop) (J26 : gS → Nat → Int32 → Int32 → Prop) (G : gS) (t0 : Nat) (x2 : Int32) (xs0 : Int32) : Prop :=
  J26 G t0 xs0 (x2 + (1 : Int32))
theorem w_X2_isConsistent_97 {C : gCx} (hC : gOk C "GoblinHousehold$Household" cX2_isConsistent [] (some .boolean) "isConsistent" 4 20 3121) {K : Int32 → gS → Prop} {X : Nat → gS → Prop} (hK : ∀ r G, K r G → cxK C (some (vI r)) G) (hX : ∀ q G, X q G → cxX C q G) {J26 : gS → Nat → Int32 → Int32 → Prop} (hJ26 : ∀ G z0 z1 z2, J26 G z0 z1 z2 → gGo C G 26 [(0, vQ (some z0)), (1, vI z1), (2, vI z2)] []) {G : gS} {t0 : Nat} {x2 : Int32} {xs0 : Int32} (h : wp_X2_isConsistent_97 (cxA C) X K J26 G t0 x2 xs0) : gGo C G 97 [(0, vQ (some t0)), (2, vI x2)] [vI xs0] := by
  unfold wp_X2_isConsistent_97 at h
  refine g_istore_n hC (pc := 97) (lv' := [(1, vI xs0), (0, vQ (some t0)), (2, vI x2)]) rfl (by decide) rfl dX2_isConsistent_97 ?_
  refine g_iinc hC (pc := 98) 2 (d := (1 : Int32)) (v := (x2 + (1 : Int32))) (lv' := [(2, vI (x2 + (1 : Int32))), (1, vI xs0), (0, vQ (some t0))]) rfl (by decide) rfl (by decide) rfl dX2_isConsistent_98 ?_
  refine g_goto hC (pc := 101) 26 (by decide) dX2_isConsistent_101 ?_
  exact g_sub [2, 1, 0] rfl (hJ26 _ _ _ _ h)
def wp_X2_isConsistent_96 (ad : Nat → Nat) (X : Nat → gS → Prop) (K : Int32 → gS → Prop) (J26 : gS → Nat → Int32 → Int32 → Prop) (G : gS) (t0 : Nat) (x2 : Int32) : Prop :=
  wp_X2_isConsistent_97 ad X K J26 G t0 x2 (0 : Int32)
theorem w_X2_isConsistent_96 {C : gCx} (hC : gOk C "GoblinHousehold$Household" cX2_isConsistent [] (some .boolean) "isConsistent" 4 20 3121) {K : Int32 → gS → Prop} {X : Nat → gS → Prop} (hK : ∀ r G, K r G → cxK C (some (vI r)) G) (hX : ∀ q G, X q G → cxX C q G) {J26 : gS → Nat → Int32 → Int32 → Prop} (hJ26 : ∀ G z0 z1 z2, J26 G z0 z1 z2 → gGo C G 26 [(0, vQ (some z0)), (1, vI z1), (2, vI z2)] []) {G : gS} {t0 : Nat} {x2 : Int32} (h : wp_X2_isConsistent_96 (cxA C) X K J26 G t0 x2) : gGo C G 96 [(0, vQ (some t0)), (2, vI x2)] [] := by
  unfold wp_X2_isConsistent_96 at h
  refine g_iconst hC (pc := 96) (v := (0 : Int32)) (by decide) dX2_isConsistent_96 ?_
  exact g_sub [0, 1] rfl (w_X2_isConsistent_97 hC hK hX hJ26 h)
def wp_X2_isConsistent_26 (ad : Nat → Nat) (X : Nat → gS → Prop) (K : Int32 → gS → Prop) (J26 : gS → Nat → Int32 → Int32 → Prop) (G : gS) (t0 : Nat) (x1 : Int32) (x2 : Int32) : Prop :=
  wGetQ G t0 2 2 fun q1 => wNN q1 fun c2 => (gIs G c2 3 ∧ wp_J2_size ad G c2  X (fun r4 G3 => (r4 ≤ x2 → gNar .boolean x1 ∧ K x1 G3) ∧ (¬ r4 ≤ x2 → wGetQ G3 t0 2 2 fun q5 => wNN q5 fun c6 => (gIs G3 c6 3 ∧ wp_J2_get ad G3 c6 x2 X (fun q8 G7 => wCast G7 q8 [9] ((x1 = (0 : Int32) → wp_X2_isConsistent_96 ad X K J26 G7 t0 x2) ∧ (¬ x1 = (0 : Int32) → (gIs G7 t0 2 ∧ wp_X2_bestWages ad G7 t0 x2 X (fun r10 G9 => (gIs G9 t0 2 ∧ wp_X2_bestWagesByTable ad G9 t0 x2 X (fun r12 G11 => (¬ r10 = r12 → wp_X2_isConsistent_96 ad X K J26 G11 t0 x2) ∧ (r10 = r12 → (gIs G11 t0 2 ∧ wp_X2_areContractsApart ad G11 t0 x2 X (fun r14 G13 => (r14 = (0 : Int32) → wp_X2_isConsistent_96 ad X K J26 G13 t0 x2) ∧ (¬ r14 = (0 : Int32) → wNN q8 fun c15 => (gIs G13 c15 9 ∧ wp_X7_purse ad G13 c15  X (fun r17 G16 => (r17 < (0 : Int32) → wp_X2_isConsistent_96 ad X K J26 G16 t0 x2) ∧ (¬ r17 < (0 : Int32) → (gIs G16 c15 9 ∧ wp_X7_debt ad G16 c15  X (fun r19 G18 => (r19 < (0 : Int32) → wp_X2_isConsistent_96 ad X K J26 G18 t0 x2) ∧ (¬ r19 < (0 : Int32) → wp_X2_isConsistent_97 ad X K J26 G18 t0 x2 (1 : Int32))))))))))))))))))))))
theorem w_X2_isConsistent_26 {C : gCx} (hC : gOk C "GoblinHousehold$Household" cX2_isConsistent [] (some .boolean) "isConsistent" 4 20 3121) {K : Int32 → gS → Prop} {X : Nat → gS → Prop} (hK : ∀ r G, K r G → cxK C (some (vI r)) G) (hX : ∀ q G, X q G → cxX C q G) (n : Nat) : ∀ (G : gS) (t0 : Nat) (x1 : Int32) (x2 : Int32), gLoop (fun _ _ _ _ => False) (wp_X2_isConsistent_26 (cxA C) X K) n G t0 x1 x2 → gGo C G 26 [(0, vQ (some t0)), (1, vI x1), (2, vI x2)] [] := by
  induction n with
  | zero => intro G t0 x1 x2 h; exact h.elim
  | succ n ih =>
    intro G t0 x1 x2 h
    have hJ26 := ih
    replace h : wp_X2_isConsistent_26 (cxA C) X K _ G t0 x1 x2 := h
    unfold wp_X2_isConsistent_26 at h
    refine g_iload_n hC (pc := 26) 2 rfl rfl dX2_isConsistent_26 ?_
    refine g_aload_n hC (pc := 27) 0 rfl rfl dX2_isConsistent_27 ?_
    refine g_getQ hC (pc := 28) in_X2 (ci := 2) rfl 2 (by decide) q192 (Or.inl rfl) h dX2_isConsistent_28 (fun q1 h => ?_)
    rcases q1 with _ | c2
    · exact (gNN0 h).elim
    replace h := gNN1 h
    obtain ⟨hi, h⟩ := h
    refine g_callF hC (pc := 31) (ci := 3) (As := []) gc_J2_size (m_J2_size hC.fl h) rfl hi q359 (List.mem_of_getElem? (i := 0) rfl) rfl q323 q325 (gle rfl) (gle rfl) rfl (gle rfl) rfl dX2_isConsistent_31 (gk_i fun r4 G3 h => ?_) (fun _ _ h hio => g_out0 hC (hX _ _ h) hio)
    refine g_icmp_ge hC (pc := 36) 104 h (by decide) dX2_isConsistent_36 (fun h => ?_) (fun h => ?_)
    · refine g_iload_n hC (pc := 104) 1 rfl rfl dX2_isConsistent_104 ?_
      exact g_zret hC (pc := 105) h.1 (hK _ _ h.2) dX2_isConsistent_105
    · refine g_aload_n hC (pc := 39) 0 rfl rfl dX2_isConsistent_39 ?_
      refine g_getQ hC (pc := 40) in_X2 (ci := 2) rfl 2 (by decide) q192 (Or.inl rfl) h dX2_isConsistent_40 (fun q5 h => ?_)
      refine g_iload_n hC (pc := 43) 2 rfl rfl dX2_isConsistent_43 ?_
      rcases q5 with _ | c6
      · exact (gNN0 h).elim
      replace h := gNN1 h
      obtain ⟨hi, h⟩ := h
      refine g_callF hC (pc := 44) (ci := 3) (As := [vI x2]) gc_J2_get (m_J2_get hC.fl h) rfl hi q361 (List.mem_of_getElem? (i := 2) rfl) rfl q364 q366 (gle rfl) (gle rfl) rfl (gle rfl) rfl dX2_isConsistent_44 (gk_q fun q8 G7 h => ?_) (fun _ _ h hio => g_out0 hC (hX _ _ h) hio)
      refine g_cast hC (pc := 49) q706 h (List.forall_mem_cons.mpr ⟨⟨_, rfl, Or.inr ⟨rfl, by decide⟩⟩, fun _ h => nomatch h⟩) dX2_isConsistent_49 (fun h => ?_)
      refine g_astore_n hC (pc := 52) (lv' := [(3, vQ q8), (0, vQ (some t0)), (1, vI x1), (2, vI x2)]) rfl (by decide) rfl dX2_isConsistent_52 ?_
      refine g_iload_n hC (pc := 53) 2 rfl rfl dX2_isConsistent_53 ?_
      refine g_if_eq hC (pc := 54) 96 h (by decide) dX2_isConsistent_54 (fun h => ?_) (fun h => ?_)
      · exact g_sub [1, 3] rfl (w_X2_isConsistent_96 hC hK hX hJ26 h)
      · refine g_aload_n hC (pc := 57) 1 rfl rfl dX2_isConsistent_57 ?_
        refine g_iload_n hC (pc := 58) 3 rfl rfl dX2_isConsistent_58 ?_
        obtain ⟨hi, h⟩ := h
        refine g_callV hC (pc := 59) (ci := 2) (As := [vI x2]) gc_X2_bestWages (m_X2_bestWages hC.fl h) rfl hi q756 q757 q758 (gle rfl) (gle rfl) rfl (gle rfl) rfl dX2_isConsistent_59 (gk_i fun r10 G9 h => ?_) (fun _ _ h hio => g_out0 hC (hX _ _ h) hio)
        refine g_aload_n hC (pc := 62) 1 rfl rfl dX2_isConsistent_62 ?_
        refine g_iload_n hC (pc := 63) 3 rfl rfl dX2_isConsistent_63 ?_
        obtain ⟨hi, h⟩ := h
        refine g_callV hC (pc := 64) (ci := 2) (As := [vI x2]) gc_X2_bestWagesByTable (m_X2_bestWagesByTable hC.fl h) rfl hi q802 q803 q804 (gle rfl) (gle rfl) rfl (gle rfl) rfl dX2_isConsistent_64 (gk_i fun r12 G11 h => ?_) (fun _ _ h hio => g_out0 hC (hX _ _ h) hio)
        refine g_icmp_ne hC (pc := 67) 96 h (by decide) dX2_isConsistent_67 (fun h => ?_) (fun h => ?_)
        · exact g_sub [1, 3] rfl (w_X2_isConsistent_96 hC hK hX hJ26 h)
        · refine g_aload_n hC (pc := 70) 1 rfl rfl dX2_isConsistent_70 ?_
          refine g_iload_n hC (pc := 71) 3 rfl rfl dX2_isConsistent_71 ?_
          obtain ⟨hi, h⟩ := h
          refine g_callV hC (pc := 72) (ci := 2) (As := [vI x2]) gc_X2_areContractsApart (m_X2_areContractsApart hC.fl h) rfl hi q807 q809 qs5 (gle rfl) (gle rfl) rfl (gle rfl) rfl dX2_isConsistent_72 (gk_i fun r14 G13 h => ?_) (fun _ _ h hio => g_out0 hC (hX _ _ h) hio)
          refine g_if_eq hC (pc := 75) 96 h (by decide) dX2_isConsistent_75 (fun h => ?_) (fun h => ?_)
          · exact g_sub [1, 3] rfl (w_X2_isConsistent_96 hC hK hX hJ26 h)
          · refine g_aload_n hC (pc := 78) 0 rfl rfl dX2_isConsistent_78 ?_
            rcases q8 with _ | c15
            · exact (gNN0 h).elim
            replace h := gNN1 h
            obtain ⟨hi, h⟩ := h
            refine g_callU hC (pc := 79) (ci := 9) (As := []) gc_X7_purse (m_X7_purse hC.fl h) (x := ⟨"GoblinHousehold$Goblin", "purse", "()I"⟩) (owner := "GoblinHousehold$Debtor") rfl hi q707 q708 q711 q712 ⟨by decide, by decide⟩ rfl q710 q711 (gle rfl) (gle rfl) rfl (gle rfl) rfl dX2_isConsistent_79 (gk_i fun r17 G16 h => ?_) (fun _ _ h hio => g_out0 hC (hX _ _ h) hio)
            refine g_if_lt hC (pc := 82) 96 h (by decide) dX2_isConsistent_82 (fun h => ?_) (fun h => ?_)
            · exact g_sub [1, 3] rfl (w_X2_isConsistent_96 hC hK hX hJ26 h)
            · refine g_aload_n hC (pc := 85) 0 rfl rfl dX2_isConsistent_85 ?_
              obtain ⟨hi, h⟩ := h
              refine g_callU hC (pc := 86) (ci := 9) (As := []) gc_X7_debt (m_X7_debt hC.fl h) (x := ⟨"GoblinHousehold$Goblin", "debt", "()I"⟩) (owner := "GoblinHousehold$Debtor") rfl hi q825 q826 q829 q830 ⟨by decide, by decide⟩ rfl q828 q829 (gle rfl) (gle rfl) rfl (gle rfl) rfl dX2_isConsistent_86 (gk_i fun r19 G18 h => ?_) (fun _ _ h hio => g_out0 hC (hX _ _ h) hio)
              refine g_if_lt hC (pc := 89) 96 h (by decide) dX2_isConsistent_89 (fun h => ?_) (fun h => ?_)
              · exact g_sub [1, 3] rfl (w_X2_isConsistent_96 hC hK hX hJ26 h)
              · refine g_iconst hC (pc := 92) (v := (1 : Int32)) (by decide) dX2_isConsistent_92 ?_
                refine g_goto hC (pc := 93) 97 (by decide) dX2_isConsistent_93 ?_
                exact g_sub [1, 3] rfl (w_X2_isConsistent_97 hC hK hX hJ26 h)
def wp_X2_isConsistent_23 (ad : Nat → Nat) (X : Nat → gS → Prop) (K : Int32 → gS → Prop) (G : gS) (t0 : Nat) (xs0 : Int32) : Prop :=
  gLoop (fun _ _ _ _ => False) (wp_X2_isConsistent_26 ad X K) gFuel G t0 xs0 (0 : Int32)
theorem w_X2_isConsistent_23 {C : gCx} (hC : gOk C "GoblinHousehold$Household" cX2_isConsistent [] (some .boolean) "isConsistent" 4 20 3121) {K : Int32 → gS → Prop} {X : Nat → gS → Prop} (hK : ∀ r G, K r G → cxK C (some (vI r)) G) (hX : ∀ q G, X q G → cxX C q G) {G : gS} {t0 : Nat} {xs0 : Int32} (h : wp_X2_isConsistent_23 (cxA C) X K G t0 xs0) : gGo C G 23 [(0, vQ (some t0))] [vI xs0] := by
  unfold wp_X2_isConsistent_23 at h
  refine g_istore_n hC (pc := 23) (lv' := [(1, vI xs0), (0, vQ (some t0))]) rfl (by decide) rfl dX2_isConsistent_23 ?_
  refine g_iconst hC (pc := 24) (v := (0 : Int32)) (by decide) dX2_isConsistent_24 ?_
  refine g_istore_n hC (pc := 25) (lv' := [(2, vI (0 : Int32)), (1, vI xs0), (0, vQ (some t0))]) rfl (by decide) rfl dX2_isConsistent_25 ?_
  exact g_sub [2, 1, 0] rfl (w_X2_isConsistent_26 hC hK hX gFuel _ _ _ _ h)
def wp_X2_isConsistent_22 (ad : Nat → Nat) (X : Nat → gS → Prop) (K : Int32 → gS → Prop) (G : gS) (t0 : Nat) : Prop :=
  wp_X2_isConsistent_23 ad X K G t0 (0 : Int32)
theorem w_X2_isConsistent_22 {C : gCx} (hC : gOk C "GoblinHousehold$Household" cX2_isConsistent [] (some .boolean) "isConsistent" 4 20 3121) {K : Int32 → gS → Prop} {X : Nat → gS → Prop} (hK : ∀ r G, K r G → cxK C (some (vI r)) G) (hX : ∀ q G, X q G → cxX C q G) {G : gS} {t0 : Nat} (h : wp_X2_isConsistent_22 (cxA C) X K G t0) : gGo C G 22 [(0, vQ (some t0))] [] := by
  unfold wp_X2_isConsistent_22 at h
  refine g_iconst hC (pc := 22) (v := (0 : Int32)) (by decide) dX2_isConsistent_22 ?_
  exact g_sub [0] rfl (w_X2_isConsistent_23 hC hK hX h)
def wp_X2_isConsistent (ad : Nat → Nat) (G : gS) (t0 : Nat) (X : Nat → gS → Prop) (K : Int32 → gS → Prop) : Prop :=
  (gIs G t0 2 ∧ wp_X2_allCrumbs ad G t0  X (fun r2 G1 => (gIs G1 t0 2 ∧ wp_X2_allCrumbsByAccounts ad G1 t0  X (fun r4 G3 => (¬ r2 = r4 → wp_X2_isConsistent_22 ad X K G3 t0) ∧ (r2 = r4 → wGetI G3 t0 2 5 fun i5 => (i5 < (0 : Int32) → wp_X2_isConsistent_22 ad X K G3 t0) ∧ (¬ i5 < (0 : Int32) → wp_X2_isConsistent_23 ad X K G3 t0 (1 : Int32)))))))
theorem w_X2_isConsistent {C : gCx} (hC : gOk C "GoblinHousehold$Household" cX2_isConsistent [] (some .boolean) "isConsistent" 4 20 3121) {K : Int32 → gS → Prop} {X : Nat → gS → Prop} (hK : ∀ r G, K r G → cxK C (some (vI r)) G) (hX : ∀ q G, X q G → cxX C q G) {G : gS} {t0 : Nat} (h : wp_X2_isConsistent (cxA C) G t0 X K) : gGo C G 0 [(0, vQ (some t0))] [] := by
  unfold wp_X2_isConsistent at h
  refine g_aload_n hC (pc := 0) 0 rfl rfl dX2_isConsistent_0 ?_
  obtain ⟨hi, h⟩ := h
  refine g_callV hC (pc := 1) (ci := 2) (As := []) gc_X2_allCrumbs (m_X2_allCrumbs hC.fl h) rfl hi q754 q355 q356 (gle rfl) (gle rfl) rfl (gle rfl) rfl dX2_isConsistent_1 (gk_i fun r2 G1 h => ?_) (fun _ _ h hio => g_out0 hC (hX _ _ h) hio)
  refine g_aload_n hC (pc := 4) 0 rfl rfl dX2_isConsistent_4 ?_
  obtain ⟨hi, h⟩ := h
  refine g_callV hC (pc := 5) (ci := 2) (As := []) gc_X2_allCrumbsByAccounts (m_X2_allCrumbsByAccounts hC.fl h) rfl hi q755 q718 q719 (gle rfl) (gle rfl) rfl (gle rfl) rfl dX2_isConsistent_5 (gk_i fun r4 G3 h => ?_) (fun _ _ h hio => g_out0 hC (hX _ _ h) hio)
  refine g_icmp_ne hC (pc := 8) 22 h (by decide) dX2_isConsistent_8 (fun h => ?_) (fun h => ?_)
  · exact g_sub [0] rfl (w_X2_isConsistent_22 hC hK hX h)
  · refine g_aload_n hC (pc := 11) 0 rfl rfl dX2_isConsistent_11 ?_
    refine g_getI hC (pc := 12) in_X2 (ci := 2) rfl 5 (by decide) q197 (Or.inl rfl) h dX2_isConsistent_12 (fun i5 h => ?_)
    refine g_if_lt hC (pc := 15) 22 h (by decide) dX2_isConsistent_15 (fun h => ?_) (fun h => ?_)
    · exact g_sub [0] rfl (w_X2_isConsistent_22 hC hK hX h)
    · refine g_iconst hC (pc := 18) (v := (1 : Int32)) (by decide) dX2_isConsistent_18 ?_
      refine g_goto hC (pc := 19) 23 (by decide) dX2_isConsistent_19 ?_
      exact g_sub [0] rfl (w_X2_isConsistent_23 hC hK hX h)
theorem gc_X2_isConsistent : gCode yX2_isConsistent cX2_isConsistent 4 (some .boolean) 0 := ⟨q753, q95, ⟨by decide, by decide⟩, rfl⟩
theorem m_X2_isConsistent {l : Launch} (hfl : l.stackTraces = false) {E : gE} {G : gS} {t0 : Nat} {X : Nat → gS → Prop} {K : Int32 → gS → Prop} (h : wp_X2_isConsistent (gAd E) G t0 X K) : gMet l yX2_isConsistent (ws_ yX2_isConsistent cX2_isConsistent 4 (some .boolean)) 20 3121 [vQ (some t0)] E G (gRi K) X :=
  g_met hfl (plainFor_of_name (by decide +kernel)) rfl rfl rfl (gle rfl) (fun p e R s m args below meth c hC => w_X2_isConsistent hC (fun _ _ h => h) (fun _ _ h => h) h)
def wp_X1_isConsistent (ad : Nat → Nat) (G : gS) (t0 : Nat) (X : Nat → gS → Prop) (K : Int32 → gS → Prop) : Prop :=
  wGetQ G t0 1 0 fun q1 => wNN q1 fun c2 => (gIs G c2 2 ∧ wp_X2_isConsistent ad G c2  X (fun r4 G3 => gNar .boolean r4 ∧ K r4 G3))
theorem w_X1_isConsistent {C : gCx} (hC : gOk C "GoblinHousehold" cX1_isConsistent [] (some .boolean) "isConsistent" 1 21 3152) {K : Int32 → gS → Prop} {X : Nat → gS → Prop} (hK : ∀ r G, K r G → cxK C (some (vI r)) G) (hX : ∀ q G, X q G → cxX C q G) {G : gS} {t0 : Nat} (h : wp_X1_isConsistent (cxA C) G t0 X K) : gGo C G 0 [(0, vQ (some t0))] [] := by
  unfold wp_X1_isConsistent at h
  refine g_aload_n hC (pc := 0) 0 rfl rfl dX1_isConsistent_0 ?_
  refine g_getQ hC (pc := 1) in_X1 (ci := 1) rfl 0 (by decide) q292 (Or.inl rfl) h dX1_isConsistent_1 (fun q1 h => ?_)
  rcases q1 with _ | c2
  · exact (gNN0 h).elim
  replace h := gNN1 h
  obtain ⟨hi, h⟩ := h
  refine g_callV hC (pc := 4) (ci := 2) (As := []) gc_X2_isConsistent (m_X2_isConsistent hC.fl h) rfl hi q750 q751 q752 (gle rfl) (gle rfl) rfl (gle rfl) rfl dX1_isConsistent_4 (gk_i fun r4 G3 h => ?_) (fun _ _ h hio => g_out0 hC (hX _ _ h) hio)
  exact g_zret hC (pc := 7) h.1 (hK _ _ h.2) dX1_isConsistent_7
theorem gc_X1_isConsistent : gCode yX1_isConsistent cX1_isConsistent 1 (some .boolean) 0 := ⟨q749, q94, ⟨by decide, by decide⟩, rfl⟩
theorem m_X1_isConsistent {l : Launch} (hfl : l.stackTraces = false) {E : gE} {G : gS} {t0 : Nat} {X : Nat → gS → Prop} {K : Int32 → gS → Prop} (h : wp_X1_isConsistent (gAd E) G t0 X K) : gMet l yX1_isConsistent (ws_ yX1_isConsistent cX1_isConsistent 1 (some .boolean)) 21 3152 [vQ (some t0)] E G (gRi K) X :=
  g_met hfl (plainFor_of_name (by decide +kernel)) rfl rfl rfl (gle rfl) (fun p e R s m args below meth c hC => w_X1_isConsistent hC (fun _ _ h => h) (fun _ _ h => h) h)
def wp_X3_isConsistent (ad : Nat → Nat) (G : gS) (t0 : Nat) (X : Nat → gS → Prop) (K : Int32 → gS → Prop) : Prop :=
  wPut G t0 0 14 (.int (0 : Int32)) fun G1 => K (1 : Int32) G1
theorem w_X3_isConsistent {C : gCx} (hC : gOk C "GoblinHouseholdModel" cX3_isConsistent [] (some .boolean) "isConsistent" 1 0 0) {K : Int32 → gS → Prop} {X : Nat → gS → Prop} (hK : ∀ r G, K r G → cxK C (some (vI r)) G) (hX : ∀ q G, X q G → cxX C q G) {G : gS} {t0 : Nat} (h : wp_X3_isConsistent (cxA C) G t0 X K) : gGo C G 0 [(0, vQ (some t0))] [] := by
  unfold wp_X3_isConsistent at h
  refine g_aload_n hC (pc := 0) 0 rfl rfl dX3_isConsistent_0 ?_
  refine g_iconst hC (pc := 1) (v := (0 : Int32)) (by decide) dX3_isConsistent_1 ?_
  refine g_put hC (pc := 2) in_X3 (ci := 0) rfl 14 (by decide) tyX3_ok nmX3 q2491 (Or.inl rfl) rfl rfl rfl h dX3_isConsistent_2 (fun G1 h => ?_)
  refine g_iconst hC (pc := 5) (v := (1 : Int32)) (by decide) dX3_isConsistent_5 ?_
  exact g_zret hC (pc := 6) rfl (hK _ _ h) dX3_isConsistent_6
theorem gc_X3_isConsistent : gCode yX3_isConsistent cX3_isConsistent 1 (some .boolean) 0 := ⟨q2901, q105, ⟨by decide, by decide⟩, rfl⟩
theorem m_X3_isConsistent {l : Launch} (hfl : l.stackTraces = false) {E : gE} {G : gS} {t0 : Nat} {X : Nat → gS → Prop} {K : Int32 → gS → Prop} (h : wp_X3_isConsistent (gAd E) G t0 X K) : gMet l yX3_isConsistent (ws_ yX3_isConsistent cX3_isConsistent 1 (some .boolean)) 0 0 [vQ (some t0)] E G (gRi K) X :=
  g_met hfl (plainFor_of_name (by decide +kernel)) rfl rfl rfl (gle rfl) (fun p e R s m args below meth c hC => w_X3_isConsistent hC (fun _ _ h => h) (fun _ _ h => h) h)
def wp_X6_text (ad : Nat → Nat) (G : gS) (t0 : Nat) (X : Nat → gS → Prop) (K : Option Nat → gS → Prop) : Prop :=
  wNew G 6 4 [.null, .int 0, .int 0, .int 0] fun c2 G1 => wp_J6_init ad G1 c2  X (fun G3 => (gIs G3 c2 6 ∧ wp_J6_append ad G3 c2 (some (ad 120)) X (fun q5 G4 => wGetI G4 t0 9 0 fun i6 => wNN q5 fun c7 => (gIs G4 c7 6 ∧ wp_J6_append_2 ad G4 c7 i6 X (fun q9 G8 => wNN q9 fun c10 => (gIs G8 c10 6 ∧ wp_J6_toString ad G8 c10  X (fun q12 G11 => K q12 G11)))))))
theorem w_X6_text {C : gCx} (hC : gOk C "GoblinHousehold$Being" cX6_text [] (some (Jvm.ClassFile.FieldType.object "java/lang/String")) "text" 1 13 393) {K : Option Nat → gS → Prop} {X : Nat → gS → Prop} (hK : ∀ r G, K r G → cxK C (some (vQ r)) G) (hX : ∀ q G, X q G → cxX C q G) {G : gS} {t0 : Nat} (h : wp_X6_text (cxA C) G t0 X K) : gGo C G 0 [(0, vQ (some t0))] [] := by
  unfold wp_X6_text at h
  refine g_new hC (pc := 0) in_J6 (ci := 6) rfl (by decide) tyJ6_ok q1991 q259 q102 gdf_J6 h dX6_text_0 (fun c2 G1 h => ?_)
  refine g_dup hC (pc := 3) rfl dX6_text_3 ?_
  refine g_callI hC (pc := 4) (As := []) gc_J6_init (m_J6_init hC.fl h) rfl q1992 q261 (gle rfl) (gle rfl) rfl (gle rfl) rfl dX6_text_4 (gk_v fun G3 h => ?_) (fun _ _ h hio => g_out0 hC (hX _ _ h) hio)
  refine g_ldcS hC (pc := 7) (List.mem_of_getElem? (i := 20) rfl) dX6_text_7 ?_
  obtain ⟨hi, h⟩ := h
  refine g_callV hC (pc := 9) (ci := 6) (As := [vQ (some (cxA C 120))]) gc_J6_append (m_J6_append hC.fl h) rfl hi q1994 q449 q450 (gle rfl) (gle rfl) rfl (gle rfl) rfl dX6_text_9 (gk_q fun q5 G4 h => ?_) (fun _ _ h hio => g_out0 hC (hX _ _ h) hio)
  refine g_aload_n hC (pc := 12) 0 rfl rfl dX6_text_12 ?_
  refine g_getI hC (pc := 13) in_X8 (ci := 9) rfl 0 (by decide) q939 (Or.inl rfl) h dX6_text_13 (fun i6 h => ?_)
  rcases q5 with _ | c7
  · exact (gNN0 h).elim
  replace h := gNN1 h
  obtain ⟨hi, h⟩ := h
  refine g_callV hC (pc := 16) (ci := 6) (As := [vI i6]) gc_J6_append_2 (m_J6_append_2 hC.fl h) rfl hi q1995 q569 q570 (gle rfl) (gle rfl) rfl (gle rfl) rfl dX6_text_16 (gk_q fun q9 G8 h => ?_) (fun _ _ h hio => g_out0 hC (hX _ _ h) hio)
  rcases q9 with _ | c10
  · exact (gNN0 h).elim
  replace h := gNN1 h
  obtain ⟨hi, h⟩ := h
  refine g_callV hC (pc := 19) (ci := 6) (As := []) gc_J6_toString (m_J6_toString hC.fl h) rfl hi q1996 q595 q596 (gle rfl) (gle rfl) rfl (gle rfl) rfl dX6_text_19 (gk_q fun q12 G11 h => ?_) (fun _ _ h hio => g_out0 hC (hX _ _ h) hio)
  exact g_aret hC (pc := 22) (Or.inl ⟨_, rfl⟩) (hK _ _ h) dX6_text_22
theorem gc_X6_text : gCode yX6_text cX6_text 1 (some (Jvm.ClassFile.FieldType.object "java/lang/String")) 0 := ⟨q1990, q110, ⟨by decide, by decide⟩, rfl⟩
theorem m_X6_text {l : Launch} (hfl : l.stackTraces = false) {E : gE} {G : gS} {t0 : Nat} {X : Nat → gS → Prop} {K : Option Nat → gS → Prop} (h : wp_X6_text (gAd E) G t0 X K) : gMet l yX6_text (ws_ yX6_text cX6_text 1 (some (Jvm.ClassFile.FieldType.object "java/lang/String"))) 13 393 [vQ (some t0)] E G (gRq K) X :=
  g_met hfl (plainFor_of_name (by decide +kernel)) rfl rfl rfl (gle rfl) (fun p e R s m args below meth c hC => w_X6_text hC (fun _ _ h => h) (fun _ _ h => h) h)
def wp_X8_text_89 (ad : Nat → Nat) (X : Nat → gS → Prop) (K : Option Nat → gS → Prop) (G : gS) (ts0 : Nat) (os1 : Option Nat) : Prop :=
  wNN os1 fun c1 => (gIs G c1 6 ∧ wp_J6_append ad G c1 (some ts0) X (fun q3 G2 => wNN q3 fun c4 => (gIs G2 c4 6 ∧ wp_J6_toString ad G2 c4  X (fun q6 G5 => K q6 G5))))
theorem w_X8_text_89 {C : gCx} (hC : gOk C "GoblinHousehold$Goblin" cX8_text [] (some (Jvm.ClassFile.FieldType.object "java/lang/String")) "text" 1 14 421) {K : Option Nat → gS → Prop} {X : Nat → gS → Prop} (hK : ∀ r G, K r G → cxK C (some (vQ r)) G) (hX : ∀ q G, X q G → cxX C q G) {G : gS} {ts0 : Nat} {os1 : Option Nat} (h : wp_X8_text_89 (cxA C) X K G ts0 os1) : gGo C G 89 [] [vQ (some ts0), vQ os1] := by
  unfold wp_X8_text_89 at h
  rcases os1 with _ | c1
  · exact (gNN0 h).elim
  replace h := gNN1 h
  obtain ⟨hi, h⟩ := h
  refine g_callV hC (pc := 89) (ci := 6) (As := [vQ (some ts0)]) gc_J6_append (m_J6_append hC.fl h) rfl hi q1997 q449 q450 (gle rfl) (gle rfl) rfl (gle rfl) rfl dX8_text_89 (gk_q fun q3 G2 h => ?_) (fun _ _ h hio => g_out0 hC (hX _ _ h) hio)
  rcases q3 with _ | c4
  · exact (gNN0 h).elim
  replace h := gNN1 h
  obtain ⟨hi, h⟩ := h
  refine g_callV hC (pc := 92) (ci := 6) (As := []) gc_J6_toString (m_J6_toString hC.fl h) rfl hi q2005 q595 q596 (gle rfl) (gle rfl) rfl (gle rfl) rfl dX8_text_92 (gk_q fun q6 G5 h => ?_) (fun _ _ h hio => g_out0 hC (hX _ _ h) hio)
  exact g_aret hC (pc := 95) (Or.inl ⟨_, rfl⟩) (hK _ _ h) dX8_text_95
def wp_X8_text_72 (ad : Nat → Nat) (X : Nat → gS → Prop) (K : Option Nat → gS → Prop) (G : gS) (t0 : Nat) (os0 : Option Nat) (os1 : Option Nat) : Prop :=
  wNN os1 fun c1 => (gIs G c1 6 ∧ wp_J6_append ad G c1 os0 X (fun q3 G2 => wGetI G2 t0 9 4 fun i4 => (i4 = (0 : Int32) → wp_X8_text_89 ad X K G2 (ad 123) q3) ∧ (¬ i4 = (0 : Int32) → wp_X8_text_89 ad X K G2 (ad 125) q3)))
theorem w_X8_text_72 {C : gCx} (hC : gOk C "GoblinHousehold$Goblin" cX8_text [] (some (Jvm.ClassFile.FieldType.object "java/lang/String")) "text" 1 14 421) {K : Option Nat → gS → Prop} {X : Nat → gS → Prop} (hK : ∀ r G, K r G → cxK C (some (vQ r)) G) (hX : ∀ q G, X q G → cxX C q G) {G : gS} {t0 : Nat} {os0 : Option Nat} {os1 : Option Nat} (h : wp_X8_text_72 (cxA C) X K G t0 os0 os1) : gGo C G 72 [(0, vQ (some t0))] [vQ os0, vQ os1] := by
  unfold wp_X8_text_72 at h
  rcases os1 with _ | c1
  · exact (gNN0 h).elim
  replace h := gNN1 h
  obtain ⟨hi, h⟩ := h
  refine g_callV hC (pc := 72) (ci := 6) (As := [vQ os0]) gc_J6_append (m_J6_append hC.fl h) rfl hi q1997 q449 q450 (gle rfl) (gle rfl) rfl (gle rfl) rfl dX8_text_72 (gk_q fun q3 G2 h => ?_) (fun _ _ h hio => g_out0 hC (hX _ _ h) hio)
  refine g_aload_n hC (pc := 75) 0 rfl rfl dX8_text_75 ?_
  refine g_getI hC (pc := 76) in_X8 (ci := 9) rfl 4 (by decide) q931 (Or.inl rfl) h dX8_text_76 (fun i4 h => ?_)
  refine g_if_eq hC (pc := 79) 87 h (by decide) dX8_text_79 (fun h => ?_) (fun h => ?_)
  · refine g_ldcS hC (pc := 87) (List.mem_of_getElem? (i := 23) rfl) dX8_text_87 ?_
    exact g_sub [] rfl (w_X8_text_89 hC hK hX h)
  · refine g_ldcS hC (pc := 82) (List.mem_of_getElem? (i := 25) rfl) dX8_text_82 ?_
    refine g_goto hC (pc := 84) 89 (by decide) dX8_text_84 ?_
    exact g_sub [] rfl (w_X8_text_89 hC hK hX h)
def wp_X8_text (ad : Nat → Nat) (G : gS) (t0 : Nat) (X : Nat → gS → Prop) (K : Option Nat → gS → Prop) : Prop :=
  wNew G 6 4 [.null, .int 0, .int 0, .int 0] fun c2 G1 => wp_J6_init ad G1 c2  X (fun G3 => (gIs G3 t0 9 ∧ wp_X6_text ad G3 t0  X (fun q5 G4 => (gIs G4 c2 6 ∧ wp_J6_append ad G4 c2 q5 X (fun q7 G6 => wNN q7 fun c8 => (gIs G6 c8 6 ∧ wp_J6_append ad G6 c8 (some (ad 121)) X (fun q10 G9 => wGetI G9 t0 9 3 fun i11 => wNN q10 fun c12 => (gIs G9 c12 6 ∧ wp_J6_append_2 ad G9 c12 i11 X (fun q14 G13 => wNN q14 fun c15 => (gIs G13 c15 6 ∧ wp_J6_append ad G13 c15 (some (ad 122)) X (fun q17 G16 => (gIs G16 t0 9 ∧ wp_X7_purse ad G16 t0  X (fun r19 G18 => wNN q17 fun c20 => (gIs G18 c20 6 ∧ wp_J6_append_2 ad G18 c20 r19 X (fun q22 G21 => (gIs G21 t0 9 ∧ wp_X7_debt ad G21 t0  X (fun r24 G23 => (¬ r24 = (0 : Int32) → wNew G23 6 4 [.null, .int 0, .int 0, .int 0] fun c26 G25 => wp_J6_init ad G25 c26  X (fun G27 => (gIs G27 c26 6 ∧ wp_J6_append ad G27 c26 (some (ad 124)) X (fun q29 G28 => (gIs G28 t0 9 ∧ wp_X7_debt ad G28 t0  X (fun r31 G30 => wNN q29 fun c32 => (gIs G30 c32 6 ∧ wp_J6_append_2 ad G30 c32 r31 X (fun q34 G33 => wNN q34 fun c35 => (gIs G33 c35 6 ∧ wp_J6_toString ad G33 c35  X (fun q37 G36 => wp_X8_text_72 ad X K G36 t0 q37 q22)))))))))) ∧ (r24 = (0 : Int32) → wp_X8_text_72 ad X K G23 t0 (some (ad 123)) q22))))))))))))))))))
theorem w_X8_text {C : gCx} (hC : gOk C "GoblinHousehold$Goblin" cX8_text [] (some (Jvm.ClassFile.FieldType.object "java/lang/String")) "text" 1 14 421) {K : Option Nat → gS → Prop} {X : Nat → gS → Prop} (hK : ∀ r G, K r G → cxK C (some (vQ r)) G) (hX : ∀ q G, X q G → cxX C q G) {G : gS} {t0 : Nat} (h : wp_X8_text (cxA C) G t0 X K) : gGo C G 0 [(0, vQ (some t0))] [] := by
  unfold wp_X8_text at h
  refine g_new hC (pc := 0) in_J6 (ci := 6) rfl (by decide) tyJ6_ok q1983 q259 q102 gdf_J6 h dX8_text_0 (fun c2 G1 h => ?_)
  refine g_dup hC (pc := 3) rfl dX8_text_3 ?_
  refine g_callI hC (pc := 4) (As := []) gc_J6_init (m_J6_init hC.fl h) rfl q1984 q261 (gle rfl) (gle rfl) rfl (gle rfl) rfl dX8_text_4 (gk_v fun G3 h => ?_) (fun _ _ h hio => g_out0 hC (hX _ _ h) hio)
  refine g_aload_n hC (pc := 7) 0 rfl rfl dX8_text_7 ?_
  obtain ⟨hi, h⟩ := h
  refine g_callSU2 hC (pc := 8) (ci := 9) (As := []) gc_X6_text (m_X6_text hC.fl h) (sup := "GoblinHousehold$Debtor") rfl hi q1985 q1986 q952 q1988 q1989 (by decide) (gle rfl) (gle rfl) rfl (gle rfl) rfl dX8_text_8 (gk_q fun q5 G4 h => ?_) (fun _ _ h hio => g_out0 hC (hX _ _ h) hio)
  obtain ⟨hi, h⟩ := h
  refine g_callV hC (pc := 11) (ci := 6) (As := [vQ q5]) gc_J6_append (m_J6_append hC.fl h) rfl hi q1997 q449 q450 (gle rfl) (gle rfl) rfl (gle rfl) rfl dX8_text_11 (gk_q fun q7 G6 h => ?_) (fun _ _ h hio => g_out0 hC (hX _ _ h) hio)
  refine g_ldcS hC (pc := 14) (List.mem_of_getElem? (i := 21) rfl) dX8_text_14 ?_
  rcases q7 with _ | c8
  · exact (gNN0 h).elim
  replace h := gNN1 h
  obtain ⟨hi, h⟩ := h
  refine g_callV hC (pc := 16) (ci := 6) (As := [vQ (some (cxA C 121))]) gc_J6_append (m_J6_append hC.fl h) rfl hi q1997 q449 q450 (gle rfl) (gle rfl) rfl (gle rfl) rfl dX8_text_16 (gk_q fun q10 G9 h => ?_) (fun _ _ h hio => g_out0 hC (hX _ _ h) hio)
  refine g_aload_n hC (pc := 19) 0 rfl rfl dX8_text_19 ?_
  refine g_getI hC (pc := 20) in_X8 (ci := 9) rfl 3 (by decide) q928 (Or.inl rfl) h dX8_text_20 (fun i11 h => ?_)
  rcases q10 with _ | c12
  · exact (gNN0 h).elim
  replace h := gNN1 h
  obtain ⟨hi, h⟩ := h
  refine g_callV hC (pc := 23) (ci := 6) (As := [vI i11]) gc_J6_append_2 (m_J6_append_2 hC.fl h) rfl hi q1999 q569 q570 (gle rfl) (gle rfl) rfl (gle rfl) rfl dX8_text_23 (gk_q fun q14 G13 h => ?_) (fun _ _ h hio => g_out0 hC (hX _ _ h) hio)
  refine g_ldcS hC (pc := 26) (List.mem_of_getElem? (i := 22) rfl) dX8_text_26 ?_
  rcases q14 with _ | c15
  · exact (gNN0 h).elim
  replace h := gNN1 h
  obtain ⟨hi, h⟩ := h
  refine g_callV hC (pc := 28) (ci := 6) (As := [vQ (some (cxA C 122))]) gc_J6_append (m_J6_append hC.fl h) rfl hi q1997 q449 q450 (gle rfl) (gle rfl) rfl (gle rfl) rfl dX8_text_28 (gk_q fun q17 G16 h => ?_) (fun _ _ h hio => g_out0 hC (hX _ _ h) hio)
  refine g_aload_n hC (pc := 31) 0 rfl rfl dX8_text_31 ?_
  obtain ⟨hi, h⟩ := h
  refine g_callU hC (pc := 32) (ci := 9) (As := []) gc_X7_purse (m_X7_purse hC.fl h) (x := ⟨"GoblinHousehold$Goblin", "purse", "()I"⟩) (owner := "GoblinHousehold$Debtor") rfl hi q2001 q708 q711 q712 ⟨by decide, by decide⟩ rfl q710 q711 (gle rfl) (gle rfl) rfl (gle rfl) rfl dX8_text_32 (gk_i fun r19 G18 h => ?_) (fun _ _ h hio => g_out0 hC (hX _ _ h) hio)
  rcases q17 with _ | c20
  · exact (gNN0 h).elim
  replace h := gNN1 h
  obtain ⟨hi, h⟩ := h
  refine g_callV hC (pc := 35) (ci := 6) (As := [vI r19]) gc_J6_append_2 (m_J6_append_2 hC.fl h) rfl hi q1999 q569 q570 (gle rfl) (gle rfl) rfl (gle rfl) rfl dX8_text_35 (gk_q fun q22 G21 h => ?_) (fun _ _ h hio => g_out0 hC (hX _ _ h) hio)
  refine g_aload_n hC (pc := 38) 0 rfl rfl dX8_text_38 ?_
  obtain ⟨hi, h⟩ := h
  refine g_callU hC (pc := 39) (ci := 9) (As := []) gc_X7_debt (m_X7_debt hC.fl h) (x := ⟨"GoblinHousehold$Goblin", "debt", "()I"⟩) (owner := "GoblinHousehold$Debtor") rfl hi q2002 q826 q829 q830 ⟨by decide, by decide⟩ rfl q828 q829 (gle rfl) (gle rfl) rfl (gle rfl) rfl dX8_text_39 (gk_i fun r24 G23 h => ?_) (fun _ _ h hio => g_out0 hC (hX _ _ h) hio)
  refine g_if_ne hC (pc := 42) 50 h (by decide) dX8_text_42 (fun h => ?_) (fun h => ?_)
  · refine g_new hC (pc := 50) in_J6 (ci := 6) rfl (by decide) tyJ6_ok q1983 q259 q102 gdf_J6 h dX8_text_50 (fun c26 G25 h => ?_)
    refine g_dup hC (pc := 53) rfl dX8_text_53 ?_
    refine g_callI hC (pc := 54) (As := []) gc_J6_init (m_J6_init hC.fl h) rfl q1984 q261 (gle rfl) (gle rfl) rfl (gle rfl) rfl dX8_text_54 (gk_v fun G27 h => ?_) (fun _ _ h hio => g_out0 hC (hX _ _ h) hio)
    refine g_ldcS hC (pc := 57) (List.mem_of_getElem? (i := 24) rfl) dX8_text_57 ?_
    obtain ⟨hi, h⟩ := h
    refine g_callV hC (pc := 59) (ci := 6) (As := [vQ (some (cxA C 124))]) gc_J6_append (m_J6_append hC.fl h) rfl hi q1997 q449 q450 (gle rfl) (gle rfl) rfl (gle rfl) rfl dX8_text_59 (gk_q fun q29 G28 h => ?_) (fun _ _ h hio => g_out0 hC (hX _ _ h) hio)
    refine g_aload_n hC (pc := 62) 0 rfl rfl dX8_text_62 ?_
    obtain ⟨hi, h⟩ := h
    refine g_callU hC (pc := 63) (ci := 9) (As := []) gc_X7_debt (m_X7_debt hC.fl h) (x := ⟨"GoblinHousehold$Goblin", "debt", "()I"⟩) (owner := "GoblinHousehold$Debtor") rfl hi q2002 q826 q829 q830 ⟨by decide, by decide⟩ rfl q828 q829 (gle rfl) (gle rfl) rfl (gle rfl) rfl dX8_text_63 (gk_i fun r31 G30 h => ?_) (fun _ _ h hio => g_out0 hC (hX _ _ h) hio)
    rcases q29 with _ | c32
    · exact (gNN0 h).elim
    replace h := gNN1 h
    obtain ⟨hi, h⟩ := h
    refine g_callV hC (pc := 66) (ci := 6) (As := [vI r31]) gc_J6_append_2 (m_J6_append_2 hC.fl h) rfl hi q1999 q569 q570 (gle rfl) (gle rfl) rfl (gle rfl) rfl dX8_text_66 (gk_q fun q34 G33 h => ?_) (fun _ _ h hio => g_out0 hC (hX _ _ h) hio)
    rcases q34 with _ | c35
    · exact (gNN0 h).elim
    replace h := gNN1 h
    obtain ⟨hi, h⟩ := h
    refine g_callV hC (pc := 69) (ci := 6) (As := []) gc_J6_toString (m_J6_toString hC.fl h) rfl hi q2005 q595 q596 (gle rfl) (gle rfl) rfl (gle rfl) rfl dX8_text_69 (gk_q fun q37 G36 h => ?_) (fun _ _ h hio => g_out0 hC (hX _ _ h) hio)
    exact g_sub [0] rfl (w_X8_text_72 hC hK hX h)
  · refine g_ldcS hC (pc := 45) (List.mem_of_getElem? (i := 23) rfl) dX8_text_45 ?_
    refine g_goto hC (pc := 47) 72 (by decide) dX8_text_47 ?_
    exact g_sub [0] rfl (w_X8_text_72 hC hK hX h)
theorem gc_X8_text : gCode yX8_text cX8_text 1 (some (Jvm.ClassFile.FieldType.object "java/lang/String")) 0 := ⟨q1982, q112, ⟨by decide, by decide⟩, rfl⟩
theorem m_X8_text {l : Launch} (hfl : l.stackTraces = false) {E : gE} {G : gS} {t0 : Nat} {X : Nat → gS → Prop} {K : Option Nat → gS → Prop} (h : wp_X8_text (gAd E) G t0 X K) : gMet l yX8_text (ws_ yX8_text cX8_text 1 (some (Jvm.ClassFile.FieldType.object "java/lang/String"))) 14 421 [vQ (some t0)] E G (gRq K) X :=
  g_met hfl (plainFor_of_name (by decide +kernel)) rfl rfl rfl (gle rfl) (fun p e R s m args below meth c hC => w_X8_text hC (fun _ _ h => h) (fun _ _ h => h) h)
def wp_X1_write (ad : Nat → Nat) (G : gS) (t0 : Nat) (o1 : Option Nat) (X : Nat → gS → Prop) (K : Int32 → gS → Prop) : Prop :=
  wPut G t0 1 6 (va_rf o1) fun G1 => wGetQ G1 t0 1 6 fun q2 => wNN q2 fun c3 => (gIs G1 c3 7 ∧ wp_J7_length ad G1 c3  X (fun r5 G4 => K r5 G4))
theorem w_X1_write {C : gCx} (hC : gOk C "GoblinHousehold" cX1_write [] (some .int) "write" 2 2 56) {K : Int32 → gS → Prop} {X : Nat → gS → Prop} (hK : ∀ r G, K r G → cxK C (some (vI r)) G) (hX : ∀ q G, X q G → cxX C q G) {G : gS} {t0 : Nat} {o1 : Option Nat} (h : wp_X1_write (cxA C) G t0 o1 X K) : gGo C G 0 [(0, vQ (some t0)), (1, vQ o1)] [] := by
  unfold wp_X1_write at h
  refine g_aload_n hC (pc := 0) 0 rfl rfl dX1_write_0 ?_
  refine g_aload_n hC (pc := 1) 1 rfl rfl dX1_write_1 ?_
  refine g_put hC (pc := 2) in_X1 (ci := 1) rfl 6 (by decide) tyX1_ok nmX1 q298 (Or.inl rfl) rfl (gnarO _ _) (gfitO _ _) h dX1_write_2 (fun G1 h => ?_)
  refine g_aload_n hC (pc := 5) 0 rfl rfl dX1_write_5 ?_
  refine g_getQ hC (pc := 6) in_X1 (ci := 1) rfl 6 (by decide) q298 (Or.inl rfl) h dX1_write_6 (fun q2 h => ?_)
  rcases q2 with _ | c3
  · exact (gNN0 h).elim
  replace h := gNN1 h
  obtain ⟨hi, h⟩ := h
  refine g_callV hC (pc := 9) (ci := 7) (As := []) gc_J7_length (m_J7_length hC.fl h) rfl hi q862 q526 q527 (gle rfl) (gle rfl) rfl (gle rfl) rfl dX1_write_9 (gk_i fun r5 G4 h => ?_) (fun _ _ h hio => g_out0 hC (hX _ _ h) hio)
  exact g_iret hC (pc := 12) (hK _ _ h) dX1_write_12
theorem gc_X1_write : gCode yX1_write cX1_write 2 (some .int) 1 := ⟨q861, q94, ⟨by decide, by decide⟩, rfl⟩
theorem m_X1_write {l : Launch} (hfl : l.stackTraces = false) {E : gE} {G : gS} {t0 : Nat} {o1 : Option Nat} {X : Nat → gS → Prop} {K : Int32 → gS → Prop} (h : wp_X1_write (gAd E) G t0 o1 X K) : gMet l yX1_write (ws_ yX1_write cX1_write 2 (some .int)) 2 56 [vQ (some t0), vQ o1] E G (gRi K) X :=
  g_met hfl (plainFor_of_name (by decide +kernel)) rfl rfl rfl (gle rfl) (fun p e R s m args below meth c hC => w_X1_write hC (fun _ _ h => h) (fun _ _ h => h) h)
def wp_X1_renderGoblin (ad : Nat → Nat) (G : gS) (t0 : Nat) (x1 : Int32) (X : Nat → gS → Prop) (K : Int32 → gS → Prop) : Prop :=
  (gIs G t0 1 ∧ wp_X1_goblinFor ad G t0 x1 X (fun q2 G1 => wNN q2 fun c3 => (gIs G1 c3 9 ∧ wp_X8_text ad G1 c3  X (fun q5 G4 => (gIs G4 t0 1 ∧ wp_X1_write ad G4 t0 q5 X (fun r7 G6 => K r7 G6))))))
theorem w_X1_renderGoblin {C : gCx} (hC : gOk C "GoblinHousehold" cX1_renderGoblin [] (some .int) "renderGoblin" 2 15 449) {K : Int32 → gS → Prop} {X : Nat → gS → Prop} (hK : ∀ r G, K r G → cxK C (some (vI r)) G) (hX : ∀ q G, X q G → cxX C q G) {G : gS} {t0 : Nat} {x1 : Int32} (h : wp_X1_renderGoblin (cxA C) G t0 x1 X K) : gGo C G 0 [(0, vQ (some t0)), (1, vI x1)] [] := by
  unfold wp_X1_renderGoblin at h
  refine g_aload_n hC (pc := 0) 0 rfl rfl dX1_renderGoblin_0 ?_
  refine g_aload_n hC (pc := 1) 0 rfl rfl dX1_renderGoblin_1 ?_
  refine g_iload_n hC (pc := 2) 1 rfl rfl dX1_renderGoblin_2 ?_
  obtain ⟨hi, h⟩ := h
  refine g_callV hC (pc := 3) (ci := 1) (As := [vI x1]) gc_X1_goblinFor (m_X1_goblinFor hC.fl h) rfl hi q1766 q1768 qs26 (gle rfl) (gle rfl) rfl (gle rfl) rfl dX1_renderGoblin_3 (gk_q fun q2 G1 h => ?_) (fun _ _ h hio => g_out0 hC (hX _ _ h) hio)
  rcases q2 with _ | c3
  · exact (gNN0 h).elim
  replace h := gNN1 h
  obtain ⟨hi, h⟩ := h
  refine g_callV hC (pc := 6) (ci := 9) (As := []) gc_X8_text (m_X8_text hC.fl h) rfl hi q1979 q1980 q1981 (gle rfl) (gle rfl) rfl (gle rfl) rfl dX1_renderGoblin_6 (gk_q fun q5 G4 h => ?_) (fun _ _ h hio => g_out0 hC (hX _ _ h) hio)
  obtain ⟨hi, h⟩ := h
  refine g_callV hC (pc := 9) (ci := 1) (As := [vQ q5]) gc_X1_write (m_X1_write hC.fl h) rfl hi q858 q860 qs8 (gle rfl) (gle rfl) rfl (gle rfl) rfl dX1_renderGoblin_9 (gk_i fun r7 G6 h => ?_) (fun _ _ h hio => g_out0 hC (hX _ _ h) hio)
  exact g_iret hC (pc := 12) (hK _ _ h) dX1_renderGoblin_12
theorem gc_X1_renderGoblin : gCode yX1_renderGoblin cX1_renderGoblin 2 (some .int) 1 := ⟨q1978, q94, ⟨by decide, by decide⟩, rfl⟩
theorem m_X1_renderGoblin {l : Launch} (hfl : l.stackTraces = false) {E : gE} {G : gS} {t0 : Nat} {x1 : Int32} {X : Nat → gS → Prop} {K : Int32 → gS → Prop} (h : wp_X1_renderGoblin (gAd E) G t0 x1 X K) : gMet l yX1_renderGoblin (ws_ yX1_renderGoblin cX1_renderGoblin 2 (some .int)) 15 449 [vQ (some t0), vI x1] E G (gRi K) X :=
  g_met hfl (plainFor_of_name (by decide +kernel)) rfl rfl rfl (gle rfl) (fun p e R s m args below meth c hC => w_X1_renderGoblin hC (fun _ _ h => h) (fun _ _ h => h) h)
def wp_X0_renderGoblin_12 (ad : Nat → Nat) (X : Nat → gS → Prop) (K : Int32 → gS → Prop) (G : gS) (ts0 : Nat) : Prop :=
  K (1 : Int32) G
theorem w_X0_renderGoblin_12 {C : gCx} (hC : gOk C "GoblinHouseholdLaw" cX0_renderGoblin [(0, 9, 12, 23)] (some .int) "renderGoblin" 4 16 478) {K : Int32 → gS → Prop} {X : Nat → gS → Prop} (hK : ∀ r G, K r G → cxK C (some (vI r)) G) (hX : ∀ q G, X q G → cxX C q G) {G : gS} {ts0 : Nat} (h : wp_X0_renderGoblin_12 (cxA C) X K G ts0) : gGo C G 12 [] [vQ (some ts0)] := by
  unfold wp_X0_renderGoblin_12 at h
  refine g_astore_n hC (pc := 12) (lv' := [(3, vQ (some ts0))]) rfl (by decide) rfl dX0_renderGoblin_12 ?_
  refine g_iconst hC (pc := 13) (v := (1 : Int32)) (by decide) dX0_renderGoblin_13 ?_
  exact g_iret hC (pc := 14) (hK _ _ h) dX0_renderGoblin_14
def wp_X0_renderGoblin (ad : Nat → Nat) (G : gS) (o0 : Option Nat) (x1 : Int32) (o2 : Option Nat) (X : Nat → gS → Prop) (K : Int32 → gS → Prop) : Prop :=
  wNN o0 fun c1 => (gIs G c1 1 ∧ wp_X1_renderGoblin ad G c1 x1 (fun y3 G4 => (gHas G4 y3 20 ∧ (wp_X0_renderGoblin_12 ad X K G4 y3))) (fun r5 G2 => wNN o2 fun c6 => wAstL G2 c6 (0 : Int32) ((r5).toInt64) fun G7 => K (0 : Int32) G7))
theorem w_X0_renderGoblin {C : gCx} (hC : gOk C "GoblinHouseholdLaw" cX0_renderGoblin [(0, 9, 12, 23)] (some .int) "renderGoblin" 4 16 478) {K : Int32 → gS → Prop} {X : Nat → gS → Prop} (hK : ∀ r G, K r G → cxK C (some (vI r)) G) (hX : ∀ q G, X q G → cxX C q G) {G : gS} {o0 : Option Nat} {x1 : Int32} {o2 : Option Nat} (h : wp_X0_renderGoblin (cxA C) G o0 x1 o2 X K) : gGo C G 0 [(0, vQ o0), (1, vI x1), (2, vQ o2)] [] := by
  unfold wp_X0_renderGoblin at h
  refine g_aload_n hC (pc := 0) 2 rfl rfl dX0_renderGoblin_0 ?_
  refine g_iconst hC (pc := 1) (v := (0 : Int32)) (by decide) dX0_renderGoblin_1 ?_
  refine g_aload_n hC (pc := 2) 0 rfl rfl dX0_renderGoblin_2 ?_
  refine g_iload_n hC (pc := 3) 1 rfl rfl dX0_renderGoblin_3 ?_
  rcases o0 with _ | c1
  · exact (gNN0 h).elim
  replace h := gNN1 h
  obtain ⟨hi, h⟩ := h
  refine g_callV hC (pc := 4) (ci := 1) (As := [vI x1]) gc_X1_renderGoblin (m_X1_renderGoblin hC.fl h) rfl hi q1975 q1976 q1977 (gle rfl) (gle rfl) rfl (gle rfl) rfl dX0_renderGoblin_4 (gk_i fun r5 G2 h => ?_) (fun y3 G4 h hio => ?_)
  · refine g_i2l hC (pc := 7) dX0_renderGoblin_7 ?_
    rcases o2 with _ | c6
    · exact (gNN0 h).elim
    replace h := gNN1 h
    refine g_astL hC (pc := 8) h dX0_renderGoblin_8 (fun G7 h => ?_)
    refine g_goto hC (pc := 9) 15 (by decide) dX0_renderGoblin_9 ?_
    refine g_iconst hC (pc := 15) (v := (0 : Int32)) (by decide) dX0_renderGoblin_15 ?_
    exact g_iret hC (pc := 16) (hK _ _ h) dX0_renderGoblin_16
  · obtain ⟨hq, h⟩ := h
    refine g_catchI hC (pc := 4) (ci := 20) rfl hq 0 rfl (fun _ h => nomatch h) rfl (by decide) q1312 (List.mem_of_getElem? (i := 2) rfl) rfl ?_
    exact g_sub [] rfl (w_X0_renderGoblin_12 hC hK hX h)
theorem gc_X0_renderGoblin : gCodeW yX0_renderGoblin cX0_renderGoblin 4 (some .int) [(0, 9, 12, 23)] 3 := ⟨q1974, q93, ⟨by decide, by decide⟩, rfl⟩
theorem m_X0_renderGoblin {l : Launch} (hfl : l.stackTraces = false) {E : gE} {G : gS} {o0 : Option Nat} {x1 : Int32} {o2 : Option Nat} {X : Nat → gS → Prop} {K : Int32 → gS → Prop} (h : wp_X0_renderGoblin (gAd E) G o0 x1 o2 X K) : gMet l yX0_renderGoblin (wsW_ yX0_renderGoblin cX0_renderGoblin 4 (some .int) [(0, 9, 12, 23)]) 16 478 [vQ o0, vI x1, vQ o2] E G (gRi K) X :=
  g_metW hfl (plainFor_of_name (by decide +kernel)) rfl rfl rfl (gle rfl) (fun p e R s m args below meth c hC => w_X0_renderGoblin hC (fun _ _ h => h) (fun _ _ h => h) h)
def wp_X3_put (ad : Nat → Nat) (G : gS) (t0 : Nat) (x1 : Int32) (x2 : Int32) (X : Nat → gS → Prop) (K : Int32 → gS → Prop) : Prop :=
  wGetQ G t0 0 12 fun q1 => wNN q1 fun c2 => wAstI G c2 x1 x2 fun G3 => K (x1 + (1 : Int32)) G3
theorem w_X3_put {C : gCx} (hC : gOk C "GoblinHouseholdModel" cX3_put [] (some .int) "put" 3 0 0) {K : Int32 → gS → Prop} {X : Nat → gS → Prop} (hK : ∀ r G, K r G → cxK C (some (vI r)) G) (hX : ∀ q G, X q G → cxX C q G) {G : gS} {t0 : Nat} {x1 : Int32} {x2 : Int32} (h : wp_X3_put (cxA C) G t0 x1 x2 X K) : gGo C G 0 [(0, vQ (some t0)), (1, vI x1), (2, vI x2)] [] := by
  unfold wp_X3_put at h
  refine g_aload_n hC (pc := 0) 0 rfl rfl dX3_put_0 ?_
  refine g_getQ hC (pc := 1) in_X3 (ci := 0) rfl 12 (by decide) q2489 (Or.inl rfl) h dX3_put_1 (fun q1 h => ?_)
  refine g_iload_n hC (pc := 4) 1 rfl rfl dX3_put_4 ?_
  refine g_iload_n hC (pc := 5) 2 rfl rfl dX3_put_5 ?_
  rcases q1 with _ | c2
  · exact (gNN0 h).elim
  replace h := gNN1 h
  refine g_astI hC (pc := 6) h dX3_put_6 (fun G3 h => ?_)
  refine g_iload_n hC (pc := 7) 1 rfl rfl dX3_put_7 ?_
  refine g_iconst hC (pc := 8) (v := (1 : Int32)) (by decide) dX3_put_8 ?_
  refine g_iadd hC (pc := 9) dX3_put_9 ?_
  exact g_iret hC (pc := 10) (hK _ _ h) dX3_put_10
theorem gc_X3_put : gCode yX3_put cX3_put 3 (some .int) 2 := ⟨q2913, q105, ⟨by decide, by decide⟩, rfl⟩
theorem m_X3_put {l : Launch} (hfl : l.stackTraces = false) {E : gE} {G : gS} {t0 : Nat} {x1 : Int32} {x2 : Int32} {X : Nat → gS → Prop} {K : Int32 → gS → Prop} (h : wp_X3_put (gAd E) G t0 x1 x2 X K) : gMet l yX3_put (ws_ yX3_put cX3_put 3 (some .int)) 0 0 [vQ (some t0), vI x1, vI x2] E G (gRi K) X :=
  g_met hfl (plainFor_of_name (by decide +kernel)) rfl rfl rfl (gle rfl) (fun p e R s m args below meth c hC => w_X3_put hC (fun _ _ h => h) (fun _ _ h => h) h)
def wp_X3_writesNumber_28 (ad : Nat → Nat) (X : Nat → gS → Prop) (K : Int32 → gS → Prop) (J28 : gS → Nat → Int32 → Int32 → Int32 → Prop) (G : gS) (t0 : Nat) (x2 : Int32) (x3 : Int32) (x5 : Int32) : Prop :=
  (x5 ≤ (0 : Int32) → K x3 G) ∧ (¬ x5 ≤ (0 : Int32) → ¬ x5 = 0 ∧ ((gIs G t0 0 ∧ wp_X3_put ad G t0 x3 ((48 : Int32) + ((x2 / x5) - (x2 / x5) / (10 : Int32) * (10 : Int32))) X (fun r2 G1 => J28 G1 t0 x2 r2 (x5 / (10 : Int32))))))
theorem w_X3_writesNumber_28 {C : gCx} (hC : gOk C "GoblinHouseholdModel" cX3_writesNumber [] (some .int) "writesNumber" 6 1 30) {K : Int32 → gS → Prop} {X : Nat → gS → Prop} (hK : ∀ r G, K r G → cxK C (some (vI r)) G) (hX : ∀ q G, X q G → cxX C q G) (n : Nat) : ∀ (G : gS) (t0 : Nat) (x2 : Int32) (x3 : Int32) (x5 : Int32), gLoop (fun _ _ _ _ _ => False) (wp_X3_writesNumber_28 (cxA C) X K) n G t0 x2 x3 x5 → gGo C G 28 [(0, vQ (some t0)), (2, vI x2), (3, vI x3), (5, vI x5)] [] := by
  induction n with
  | zero => intro G t0 x2 x3 x5 h; exact h.elim
  | succ n ih =>
    intro G t0 x2 x3 x5 h
    have hJ28 := ih
    replace h : wp_X3_writesNumber_28 (cxA C) X K _ G t0 x2 x3 x5 := h
    unfold wp_X3_writesNumber_28 at h
    refine g_iload hC (pc := 28) 3 rfl dX3_writesNumber_28 ?_
    refine g_if_le hC (pc := 30) 59 h (by decide) dX3_writesNumber_30 (fun h => ?_) (fun h => ?_)
    · refine g_iload_n hC (pc := 59) 2 rfl rfl dX3_writesNumber_59 ?_
      exact g_iret hC (pc := 60) (hK _ _ h) dX3_writesNumber_60
    · refine g_aload_n hC (pc := 33) 0 rfl rfl dX3_writesNumber_33 ?_
      refine g_iload_n hC (pc := 34) 2 rfl rfl dX3_writesNumber_34 ?_
      refine g_bipush hC (pc := 35) (v := (48 : Int32)) (by decide) dX3_writesNumber_35 ?_
      refine g_iload_n hC (pc := 37) 1 rfl rfl dX3_writesNumber_37 ?_
      refine g_iload hC (pc := 38) 3 rfl dX3_writesNumber_38 ?_
      obtain ⟨hz, h⟩ := h
      refine g_idiv hC (pc := 40) hz dX3_writesNumber_40 ?_
      refine g_bipush hC (pc := 41) (v := (10 : Int32)) (by decide) dX3_writesNumber_41 ?_
      refine g_irem hC (pc := 43) (by decide) dX3_writesNumber_43 ?_
      refine g_iadd hC (pc := 44) dX3_writesNumber_44 ?_
      obtain ⟨hi, h⟩ := h
      refine g_callV hC (pc := 45) (ci := 0) (As := [vI x3, vI ((48 : Int32) + ((x2 / x5) - (x2 / x5) / (10 : Int32) * (10 : Int32)))]) gc_X3_put (m_X3_put hC.fl h) rfl hi q2910 q2912 qs81 (gle rfl) (gle rfl) rfl (gle rfl) rfl dX3_writesNumber_45 (gk_i fun r2 G1 h => ?_) (fun _ _ h hio => g_out0 hC (hX _ _ h) hio)
      refine g_istore_n hC (pc := 48) (lv' := [(3, vI r2), (0, vQ (some t0)), (2, vI x2), (5, vI x5)]) rfl (by decide) rfl dX3_writesNumber_48 ?_
      refine g_iload hC (pc := 49) 3 rfl dX3_writesNumber_49 ?_
      refine g_bipush hC (pc := 51) (v := (10 : Int32)) (by decide) dX3_writesNumber_51 ?_
      refine g_idiv hC (pc := 53) (by decide) dX3_writesNumber_53 ?_
      refine g_istore hC (pc := 54) (lv' := [(5, vI (x5 / (10 : Int32))), (3, vI r2), (0, vQ (some t0)), (2, vI x2)]) (by decide) rfl dX3_writesNumber_54 ?_
      refine g_goto hC (pc := 56) 28 (by decide) dX3_writesNumber_56 ?_
      exact g_sub [2, 3, 1, 0] rfl (hJ28 _ _ _ _ _ h)
def wp_X3_writesNumber_24 (ad : Nat → Nat) (X : Nat → gS → Prop) (K : Int32 → gS → Prop) (G : gS) (t0 : Nat) (x2 : Int32) (x3 : Int32) (x4 : Int32) : Prop :=
  gLoop (fun _ _ _ _ _ => False) (wp_X3_writesNumber_28 ad X K) gFuel G t0 x2 x3 x4
theorem w_X3_writesNumber_24 {C : gCx} (hC : gOk C "GoblinHouseholdModel" cX3_writesNumber [] (some .int) "writesNumber" 6 1 30) {K : Int32 → gS → Prop} {X : Nat → gS → Prop} (hK : ∀ r G, K r G → cxK C (some (vI r)) G) (hX : ∀ q G, X q G → cxX C q G) {G : gS} {t0 : Nat} {x2 : Int32} {x3 : Int32} {x4 : Int32} (h : wp_X3_writesNumber_24 (cxA C) X K G t0 x2 x3 x4) : gGo C G 24 [(0, vQ (some t0)), (2, vI x2), (3, vI x3), (4, vI x4)] [] := by
  unfold wp_X3_writesNumber_24 at h
  refine g_iload hC (pc := 24) 3 rfl dX3_writesNumber_24 ?_
  refine g_istore hC (pc := 26) (lv' := [(5, vI x4), (0, vQ (some t0)), (2, vI x2), (3, vI x3), (4, vI x4)]) (by decide) rfl dX3_writesNumber_26 ?_
  exact g_sub [1, 2, 3, 0] rfl (w_X3_writesNumber_28 hC hK hX gFuel _ _ _ _ _ h)
def wp_X3_writesNumber_5 (ad : Nat → Nat) (X : Nat → gS → Prop) (K : Int32 → gS → Prop) (J5 : gS → Nat → Int32 → Int32 → Int32 → Prop) (G : gS) (t0 : Nat) (x2 : Int32) (x3 : Int32) (x4 : Int32) : Prop :=
  ¬ x4 = 0 ∧ (((x2 / x4) ≤ (9 : Int32) → wp_X3_writesNumber_24 ad X K G t0 x2 x3 x4) ∧ (¬ (x2 / x4) ≤ (9 : Int32) → J5 G t0 x2 x3 (x4 * (10 : Int32))))
theorem w_X3_writesNumber_5 {C : gCx} (hC : gOk C "GoblinHouseholdModel" cX3_writesNumber [] (some .int) "writesNumber" 6 1 30) {K : Int32 → gS → Prop} {X : Nat → gS → Prop} (hK : ∀ r G, K r G → cxK C (some (vI r)) G) (hX : ∀ q G, X q G → cxX C q G) (n : Nat) : ∀ (G : gS) (t0 : Nat) (x2 : Int32) (x3 : Int32) (x4 : Int32), gLoop (fun _ _ _ _ _ => False) (wp_X3_writesNumber_5 (cxA C) X K) n G t0 x2 x3 x4 → gGo C G 5 [(0, vQ (some t0)), (2, vI x2), (3, vI x3), (4, vI x4)] [] := by
  induction n with
  | zero => intro G t0 x2 x3 x4 h; exact h.elim
  | succ n ih =>
    intro G t0 x2 x3 x4 h
    have hJ5 := ih
    replace h : wp_X3_writesNumber_5 (cxA C) X K _ G t0 x2 x3 x4 := h
    unfold wp_X3_writesNumber_5 at h
    refine g_iload_n hC (pc := 5) 1 rfl rfl dX3_writesNumber_5 ?_
    refine g_iload hC (pc := 6) 3 rfl dX3_writesNumber_6 ?_
    obtain ⟨hz, h⟩ := h
    refine g_idiv hC (pc := 8) hz dX3_writesNumber_8 ?_
    refine g_bipush hC (pc := 9) (v := (9 : Int32)) (by decide) dX3_writesNumber_9 ?_
    refine g_icmp_le hC (pc := 11) 24 h (by decide) dX3_writesNumber_11 (fun h => ?_) (fun h => ?_)
    · exact g_sub [0, 1, 2, 3] rfl (w_X3_writesNumber_24 hC hK hX h)
    · refine g_iload hC (pc := 14) 3 rfl dX3_writesNumber_14 ?_
      refine g_bipush hC (pc := 16) (v := (10 : Int32)) (by decide) dX3_writesNumber_16 ?_
      refine g_imul hC (pc := 18) dX3_writesNumber_18 ?_
      refine g_istore hC (pc := 19) (lv' := [(4, vI (x4 * (10 : Int32))), (0, vQ (some t0)), (2, vI x2), (3, vI x3)]) (by decide) rfl dX3_writesNumber_19 ?_
      refine g_goto hC (pc := 21) 5 (by decide) dX3_writesNumber_21 ?_
      exact g_sub [1, 2, 3, 0] rfl (hJ5 _ _ _ _ _ h)
def wp_X3_writesNumber (ad : Nat → Nat) (G : gS) (t0 : Nat) (x1 : Int32) (x2 : Int32) (X : Nat → gS → Prop) (K : Int32 → gS → Prop) : Prop :=
  gLoop (fun _ _ _ _ _ => False) (wp_X3_writesNumber_5 ad X K) gFuel G t0 x2 x1 (1 : Int32)
theorem w_X3_writesNumber {C : gCx} (hC : gOk C "GoblinHouseholdModel" cX3_writesNumber [] (some .int) "writesNumber" 6 1 30) {K : Int32 → gS → Prop} {X : Nat → gS → Prop} (hK : ∀ r G, K r G → cxK C (some (vI r)) G) (hX : ∀ q G, X q G → cxX C q G) {G : gS} {t0 : Nat} {x1 : Int32} {x2 : Int32} (h : wp_X3_writesNumber (cxA C) G t0 x1 x2 X K) : gGo C G 0 [(0, vQ (some t0)), (1, vI x1), (2, vI x2)] [] := by
  unfold wp_X3_writesNumber at h
  refine g_iload_n hC (pc := 0) 1 rfl rfl dX3_writesNumber_0 ?_
  refine g_istore_n hC (pc := 1) (lv' := [(3, vI x1), (0, vQ (some t0)), (1, vI x1), (2, vI x2)]) rfl (by decide) rfl dX3_writesNumber_1 ?_
  refine g_iconst hC (pc := 2) (v := (1 : Int32)) (by decide) dX3_writesNumber_2 ?_
  refine g_istore hC (pc := 3) (lv' := [(4, vI (1 : Int32)), (3, vI x1), (0, vQ (some t0)), (1, vI x1), (2, vI x2)]) (by decide) rfl dX3_writesNumber_3 ?_
  exact g_sub [2, 4, 1, 0] rfl (w_X3_writesNumber_5 hC hK hX gFuel _ _ _ _ _ h)
theorem gc_X3_writesNumber : gCode yX3_writesNumber cX3_writesNumber 6 (some .int) 2 := ⟨q2909, q105, ⟨by decide, by decide⟩, rfl⟩
theorem m_X3_writesNumber {l : Launch} (hfl : l.stackTraces = false) {E : gE} {G : gS} {t0 : Nat} {x1 : Int32} {x2 : Int32} {X : Nat → gS → Prop} {K : Int32 → gS → Prop} (h : wp_X3_writesNumber (gAd E) G t0 x1 x2 X K) : gMet l yX3_writesNumber (ws_ yX3_writesNumber cX3_writesNumber 6 (some .int)) 1 30 [vQ (some t0), vI x1, vI x2] E G (gRi K) X :=
  g_met hfl (plainFor_of_name (by decide +kernel)) rfl rfl rfl (gle rfl) (fun p e R s m args below meth c hC => w_X3_writesNumber hC (fun _ _ h => h) (fun _ _ h => h) h)
def wp_X3_renderGoblin_108 (ad : Nat → Nat) (X : Nat → gS → Prop) (K : Int32 → gS → Prop) (G : gS) (t0 : Nat) (xs0 : Int32) (ts1 : Nat) : Prop :=
  wPut G ts1 0 13 (.int xs0) fun G1 => wGetI G1 t0 0 13 fun i2 => K i2 G1
theorem w_X3_renderGoblin_108 {C : gCx} (hC : gOk C "GoblinHouseholdModel" cX3_renderGoblin [] (some .int) "renderGoblin" 3 4 119) {K : Int32 → gS → Prop} {X : Nat → gS → Prop} (hK : ∀ r G, K r G → cxK C (some (vI r)) G) (hX : ∀ q G, X q G → cxX C q G) {G : gS} {t0 : Nat} {xs0 : Int32} {ts1 : Nat} (h : wp_X3_renderGoblin_108 (cxA C) X K G t0 xs0 ts1) : gGo C G 108 [(0, vQ (some t0))] [vI xs0, vQ (some ts1)] := by
  unfold wp_X3_renderGoblin_108 at h
  refine g_put hC (pc := 108) in_X3 (ci := 0) rfl 13 (by decide) tyX3_ok nmX3 q2490 (Or.inl rfl) rfl rfl rfl h dX3_renderGoblin_108 (fun G1 h => ?_)
  refine g_aload_n hC (pc := 111) 0 rfl rfl dX3_renderGoblin_111 ?_
  refine g_getI hC (pc := 112) in_X3 (ci := 0) rfl 13 (by decide) q2490 (Or.inl rfl) h dX3_renderGoblin_112 (fun i2 h => ?_)
  exact g_iret hC (pc := 115) (hK _ _ h) dX3_renderGoblin_115
def wp_X3_renderGoblin_85 (ad : Nat → Nat) (X : Nat → gS → Prop) (K : Int32 → gS → Prop) (G : gS) (t0 : Nat) (x1 : Int32) (xs0 : Int32) : Prop :=
  (gIs G t0 0 ∧ wp_X3_of ad G t0 x1 (4 : Int32) X (fun r2 G1 => (¬ r2 = (1 : Int32) → wp_X3_renderGoblin_108 ad X K G1 t0 xs0 t0) ∧ (r2 = (1 : Int32) → (gIs G1 t0 0 ∧ wp_X3_put ad G1 t0 xs0 (122 : Int32) X (fun r4 G3 => wp_X3_renderGoblin_108 ad X K G3 t0 r4 t0)))))
theorem w_X3_renderGoblin_85 {C : gCx} (hC : gOk C "GoblinHouseholdModel" cX3_renderGoblin [] (some .int) "renderGoblin" 3 4 119) {K : Int32 → gS → Prop} {X : Nat → gS → Prop} (hK : ∀ r G, K r G → cxK C (some (vI r)) G) (hX : ∀ q G, X q G → cxX C q G) {G : gS} {t0 : Nat} {x1 : Int32} {xs0 : Int32} (h : wp_X3_renderGoblin_85 (cxA C) X K G t0 x1 xs0) : gGo C G 85 [(0, vQ (some t0)), (1, vI x1)] [vI xs0] := by
  unfold wp_X3_renderGoblin_85 at h
  refine g_istore_n hC (pc := 85) (lv' := [(2, vI xs0), (0, vQ (some t0)), (1, vI x1)]) rfl (by decide) rfl dX3_renderGoblin_85 ?_
  refine g_aload_n hC (pc := 86) 1 rfl rfl dX3_renderGoblin_86 ?_
  refine g_aload_n hC (pc := 87) 1 rfl rfl dX3_renderGoblin_87 ?_
  refine g_iload_n hC (pc := 88) 2 rfl rfl dX3_renderGoblin_88 ?_
  refine g_iconst hC (pc := 89) (v := (4 : Int32)) (by decide) dX3_renderGoblin_89 ?_
  obtain ⟨hi, h⟩ := h
  refine g_callV hC (pc := 90) (ci := 0) (As := [vI x1, vI (4 : Int32)]) gc_X3_of (m_X3_of hC.fl h) rfl hi q2632 q2634 qs56 (gle rfl) (gle rfl) rfl (gle rfl) rfl dX3_renderGoblin_90 (gk_i fun r2 G1 h => ?_) (fun _ _ h hio => g_out0 hC (hX _ _ h) hio)
  refine g_iconst hC (pc := 93) (v := (1 : Int32)) (by decide) dX3_renderGoblin_93 ?_
  refine g_icmp_ne hC (pc := 94) 107 h (by decide) dX3_renderGoblin_94 (fun h => ?_) (fun h => ?_)
  · refine g_iload_n hC (pc := 107) 0 rfl rfl dX3_renderGoblin_107 ?_
    exact g_sub [1] rfl (w_X3_renderGoblin_108 hC hK hX h)
  · refine g_aload_n hC (pc := 97) 1 rfl rfl dX3_renderGoblin_97 ?_
    refine g_iload_n hC (pc := 98) 0 rfl rfl dX3_renderGoblin_98 ?_
    refine g_bipush hC (pc := 99) (v := (122 : Int32)) (by decide) dX3_renderGoblin_99 ?_
    obtain ⟨hi, h⟩ := h
    refine g_callV hC (pc := 101) (ci := 0) (As := [vI xs0, vI (122 : Int32)]) gc_X3_put (m_X3_put hC.fl h) rfl hi q2910 q2912 qs81 (gle rfl) (gle rfl) rfl (gle rfl) rfl dX3_renderGoblin_101 (gk_i fun r4 G3 h => ?_) (fun _ _ h hio => g_out0 hC (hX _ _ h) hio)
    refine g_goto hC (pc := 104) 108 (by decide) dX3_renderGoblin_104 ?_
    exact g_sub [1] rfl (w_X3_renderGoblin_108 hC hK hX h)
def wp_X3_renderGoblin (ad : Nat → Nat) (G : gS) (t0 : Nat) (x1 : Int32) (X : Nat → gS → Prop) (K : Int32 → gS → Prop) : Prop :=
  (gIs G t0 0 ∧ wp_X3_isGoblin ad G t0 x1 X (fun r2 G1 => (gIs G1 t0 0 ∧ wp_X3_goes ad G1 t0 r2 X (fun r4 G3 => (¬ r4 = (0 : Int32) → (gIs G3 t0 0 ∧ wp_X3_writesNumber ad G3 t0 (0 : Int32) x1 X (fun r6 G5 => (gIs G5 t0 0 ∧ wp_X3_put ad G5 t0 r6 (115 : Int32) X (fun r8 G7 => (gIs G7 t0 0 ∧ wp_X3_of ad G7 t0 x1 (0 : Int32) X (fun r10 G9 => (gIs G9 t0 0 ∧ wp_X3_writesNumber ad G9 t0 r8 r10 X (fun r12 G11 => (gIs G11 t0 0 ∧ wp_X3_put ad G11 t0 r12 (112 : Int32) X (fun r14 G13 => (gIs G13 t0 0 ∧ wp_X3_of ad G13 t0 x1 (1 : Int32) X (fun r16 G15 => (gIs G15 t0 0 ∧ wp_X3_writesNumber ad G15 t0 r14 r16 X (fun r18 G17 => (gIs G17 t0 0 ∧ wp_X3_of ad G17 t0 x1 (2 : Int32) X (fun r20 G19 => (¬ r20 = (0 : Int32) → (gIs G19 t0 0 ∧ wp_X3_put ad G19 t0 r18 (100 : Int32) X (fun r22 G21 => (gIs G21 t0 0 ∧ wp_X3_of ad G21 t0 x1 (2 : Int32) X (fun r24 G23 => (gIs G23 t0 0 ∧ wp_X3_writesNumber ad G23 t0 r22 r24 X (fun r26 G25 => wp_X3_renderGoblin_85 ad X K G25 t0 x1 r26))))))) ∧ (r20 = (0 : Int32) → wp_X3_renderGoblin_85 ad X K G19 t0 x1 r18)))))))))))))))))) ∧ (r4 = (0 : Int32) → K (0 : Int32) G3)))))
theorem w_X3_renderGoblin {C : gCx} (hC : gOk C "GoblinHouseholdModel" cX3_renderGoblin [] (some .int) "renderGoblin" 3 4 119) {K : Int32 → gS → Prop} {X : Nat → gS → Prop} (hK : ∀ r G, K r G → cxK C (some (vI r)) G) (hX : ∀ q G, X q G → cxX C q G) {G : gS} {t0 : Nat} {x1 : Int32} (h : wp_X3_renderGoblin (cxA C) G t0 x1 X K) : gGo C G 0 [(0, vQ (some t0)), (1, vI x1)] [] := by
  unfold wp_X3_renderGoblin at h
  refine g_aload_n hC (pc := 0) 0 rfl rfl dX3_renderGoblin_0 ?_
  refine g_aload_n hC (pc := 1) 0 rfl rfl dX3_renderGoblin_1 ?_
  refine g_iload_n hC (pc := 2) 1 rfl rfl dX3_renderGoblin_2 ?_
  obtain ⟨hi, h⟩ := h
  refine g_callV hC (pc := 3) (ci := 0) (As := [vI x1]) gc_X3_isGoblin (m_X3_isGoblin hC.fl h) rfl hi q2628 q2630 qs55 (gle rfl) (gle rfl) rfl (gle rfl) rfl dX3_renderGoblin_3 (gk_i fun r2 G1 h => ?_) (fun _ _ h hio => g_out0 hC (hX _ _ h) hio)
  obtain ⟨hi, h⟩ := h
  refine g_callV hC (pc := 6) (ci := 0) (As := [vI r2]) gc_X3_goes (m_X3_goes hC.fl h) rfl hi q2546 q2548 qs43 (gle rfl) (gle rfl) rfl (gle rfl) rfl dX3_renderGoblin_6 (gk_i fun r4 G3 h => ?_) (fun _ _ h hio => g_out0 hC (hX _ _ h) hio)
  refine g_if_ne hC (pc := 9) 14 h (by decide) dX3_renderGoblin_9 (fun h => ?_) (fun h => ?_)
  · refine g_aload_n hC (pc := 14) 0 rfl rfl dX3_renderGoblin_14 ?_
    refine g_aload_n hC (pc := 15) 0 rfl rfl dX3_renderGoblin_15 ?_
    refine g_aload_n hC (pc := 16) 0 rfl rfl dX3_renderGoblin_16 ?_
    refine g_iconst hC (pc := 17) (v := (0 : Int32)) (by decide) dX3_renderGoblin_17 ?_
    refine g_iload_n hC (pc := 18) 1 rfl rfl dX3_renderGoblin_18 ?_
    obtain ⟨hi, h⟩ := h
    refine g_callV hC (pc := 19) (ci := 0) (As := [vI (0 : Int32), vI x1]) gc_X3_writesNumber (m_X3_writesNumber hC.fl h) rfl hi q2906 q2908 qs80 (gle rfl) (gle rfl) rfl (gle rfl) rfl dX3_renderGoblin_19 (gk_i fun r6 G5 h => ?_) (fun _ _ h hio => g_out0 hC (hX _ _ h) hio)
    refine g_bipush hC (pc := 22) (v := (115 : Int32)) (by decide) dX3_renderGoblin_22 ?_
    obtain ⟨hi, h⟩ := h
    refine g_callV hC (pc := 24) (ci := 0) (As := [vI r6, vI (115 : Int32)]) gc_X3_put (m_X3_put hC.fl h) rfl hi q2910 q2912 qs81 (gle rfl) (gle rfl) rfl (gle rfl) rfl dX3_renderGoblin_24 (gk_i fun r8 G7 h => ?_) (fun _ _ h hio => g_out0 hC (hX _ _ h) hio)
    refine g_aload_n hC (pc := 27) 0 rfl rfl dX3_renderGoblin_27 ?_
    refine g_iload_n hC (pc := 28) 1 rfl rfl dX3_renderGoblin_28 ?_
    refine g_iconst hC (pc := 29) (v := (0 : Int32)) (by decide) dX3_renderGoblin_29 ?_
    obtain ⟨hi, h⟩ := h
    refine g_callV hC (pc := 30) (ci := 0) (As := [vI x1, vI (0 : Int32)]) gc_X3_of (m_X3_of hC.fl h) rfl hi q2632 q2634 qs56 (gle rfl) (gle rfl) rfl (gle rfl) rfl dX3_renderGoblin_30 (gk_i fun r10 G9 h => ?_) (fun _ _ h hio => g_out0 hC (hX _ _ h) hio)
    obtain ⟨hi, h⟩ := h
    refine g_callV hC (pc := 33) (ci := 0) (As := [vI r8, vI r10]) gc_X3_writesNumber (m_X3_writesNumber hC.fl h) rfl hi q2906 q2908 qs80 (gle rfl) (gle rfl) rfl (gle rfl) rfl dX3_renderGoblin_33 (gk_i fun r12 G11 h => ?_) (fun _ _ h hio => g_out0 hC (hX _ _ h) hio)
    refine g_istore_n hC (pc := 36) (lv' := [(2, vI r12), (0, vQ (some t0)), (1, vI x1)]) rfl (by decide) rfl dX3_renderGoblin_36 ?_
    refine g_aload_n hC (pc := 37) 1 rfl rfl dX3_renderGoblin_37 ?_
    refine g_aload_n hC (pc := 38) 1 rfl rfl dX3_renderGoblin_38 ?_
    refine g_iload_n hC (pc := 39) 0 rfl rfl dX3_renderGoblin_39 ?_
    refine g_bipush hC (pc := 40) (v := (112 : Int32)) (by decide) dX3_renderGoblin_40 ?_
    obtain ⟨hi, h⟩ := h
    refine g_callV hC (pc := 42) (ci := 0) (As := [vI r12, vI (112 : Int32)]) gc_X3_put (m_X3_put hC.fl h) rfl hi q2910 q2912 qs81 (gle rfl) (gle rfl) rfl (gle rfl) rfl dX3_renderGoblin_42 (gk_i fun r14 G13 h => ?_) (fun _ _ h hio => g_out0 hC (hX _ _ h) hio)
    refine g_aload_n hC (pc := 45) 1 rfl rfl dX3_renderGoblin_45 ?_
    refine g_iload_n hC (pc := 46) 2 rfl rfl dX3_renderGoblin_46 ?_
    refine g_iconst hC (pc := 47) (v := (1 : Int32)) (by decide) dX3_renderGoblin_47 ?_
    obtain ⟨hi, h⟩ := h
    refine g_callV hC (pc := 48) (ci := 0) (As := [vI x1, vI (1 : Int32)]) gc_X3_of (m_X3_of hC.fl h) rfl hi q2632 q2634 qs56 (gle rfl) (gle rfl) rfl (gle rfl) rfl dX3_renderGoblin_48 (gk_i fun r16 G15 h => ?_) (fun _ _ h hio => g_out0 hC (hX _ _ h) hio)
    obtain ⟨hi, h⟩ := h
    refine g_callV hC (pc := 51) (ci := 0) (As := [vI r14, vI r16]) gc_X3_writesNumber (m_X3_writesNumber hC.fl h) rfl hi q2906 q2908 qs80 (gle rfl) (gle rfl) rfl (gle rfl) rfl dX3_renderGoblin_51 (gk_i fun r18 G17 h => ?_) (fun _ _ h hio => g_out0 hC (hX _ _ h) hio)
    refine g_istore_n hC (pc := 54) (lv' := [(2, vI r18), (0, vQ (some t0)), (1, vI x1)]) rfl (by decide) rfl dX3_renderGoblin_54 ?_
    refine g_aload_n hC (pc := 55) 1 rfl rfl dX3_renderGoblin_55 ?_
    refine g_iload_n hC (pc := 56) 2 rfl rfl dX3_renderGoblin_56 ?_
    refine g_iconst hC (pc := 57) (v := (2 : Int32)) (by decide) dX3_renderGoblin_57 ?_
    obtain ⟨hi, h⟩ := h
    refine g_callV hC (pc := 58) (ci := 0) (As := [vI x1, vI (2 : Int32)]) gc_X3_of (m_X3_of hC.fl h) rfl hi q2632 q2634 qs56 (gle rfl) (gle rfl) rfl (gle rfl) rfl dX3_renderGoblin_58 (gk_i fun r20 G19 h => ?_) (fun _ _ h hio => g_out0 hC (hX _ _ h) hio)
    refine g_if_ne hC (pc := 61) 68 h (by decide) dX3_renderGoblin_61 (fun h => ?_) (fun h => ?_)
    · refine g_aload_n hC (pc := 68) 1 rfl rfl dX3_renderGoblin_68 ?_
      refine g_aload_n hC (pc := 69) 1 rfl rfl dX3_renderGoblin_69 ?_
      refine g_iload_n hC (pc := 70) 0 rfl rfl dX3_renderGoblin_70 ?_
      refine g_bipush hC (pc := 71) (v := (100 : Int32)) (by decide) dX3_renderGoblin_71 ?_
      obtain ⟨hi, h⟩ := h
      refine g_callV hC (pc := 73) (ci := 0) (As := [vI r18, vI (100 : Int32)]) gc_X3_put (m_X3_put hC.fl h) rfl hi q2910 q2912 qs81 (gle rfl) (gle rfl) rfl (gle rfl) rfl dX3_renderGoblin_73 (gk_i fun r22 G21 h => ?_) (fun _ _ h hio => g_out0 hC (hX _ _ h) hio)
      refine g_aload_n hC (pc := 76) 1 rfl rfl dX3_renderGoblin_76 ?_
      refine g_iload_n hC (pc := 77) 2 rfl rfl dX3_renderGoblin_77 ?_
      refine g_iconst hC (pc := 78) (v := (2 : Int32)) (by decide) dX3_renderGoblin_78 ?_
      obtain ⟨hi, h⟩ := h
      refine g_callV hC (pc := 79) (ci := 0) (As := [vI x1, vI (2 : Int32)]) gc_X3_of (m_X3_of hC.fl h) rfl hi q2632 q2634 qs56 (gle rfl) (gle rfl) rfl (gle rfl) rfl dX3_renderGoblin_79 (gk_i fun r24 G23 h => ?_) (fun _ _ h hio => g_out0 hC (hX _ _ h) hio)
      obtain ⟨hi, h⟩ := h
      refine g_callV hC (pc := 82) (ci := 0) (As := [vI r22, vI r24]) gc_X3_writesNumber (m_X3_writesNumber hC.fl h) rfl hi q2906 q2908 qs80 (gle rfl) (gle rfl) rfl (gle rfl) rfl dX3_renderGoblin_82 (gk_i fun r26 G25 h => ?_) (fun _ _ h hio => g_out0 hC (hX _ _ h) hio)
      exact g_sub [1, 2] rfl (w_X3_renderGoblin_85 hC hK hX h)
    · refine g_iload_n hC (pc := 64) 0 rfl rfl dX3_renderGoblin_64 ?_
      refine g_goto hC (pc := 65) 85 (by decide) dX3_renderGoblin_65 ?_
      exact g_sub [1, 2] rfl (w_X3_renderGoblin_85 hC hK hX h)
  · refine g_iconst hC (pc := 12) (v := (0 : Int32)) (by decide) dX3_renderGoblin_12 ?_
    exact g_iret hC (pc := 13) (hK _ _ h) dX3_renderGoblin_13
theorem gc_X3_renderGoblin : gCode yX3_renderGoblin cX3_renderGoblin 3 (some .int) 1 := ⟨q2905, q105, ⟨by decide, by decide⟩, rfl⟩
theorem m_X3_renderGoblin {l : Launch} (hfl : l.stackTraces = false) {E : gE} {G : gS} {t0 : Nat} {x1 : Int32} {X : Nat → gS → Prop} {K : Int32 → gS → Prop} (h : wp_X3_renderGoblin (gAd E) G t0 x1 X K) : gMet l yX3_renderGoblin (ws_ yX3_renderGoblin cX3_renderGoblin 3 (some .int)) 4 119 [vQ (some t0), vI x1] E G (gRi K) X :=
  g_met hfl (plainFor_of_name (by decide +kernel)) rfl rfl rfl (gle rfl) (fun p e R s m args below meth c hC => w_X3_renderGoblin hC (fun _ _ h => h) (fun _ _ h => h) h)
def wp_X10_text (ad : Nat → Nat) (G : gS) (t0 : Nat) (X : Nat → gS → Prop) (K : Option Nat → gS → Prop) : Prop :=
  wNew G 6 4 [.null, .int 0, .int 0, .int 0] fun c2 G1 => wp_J6_init ad G1 c2  X (fun G3 => wGetI G3 t0 10 0 fun i4 => (gIs G3 c2 6 ∧ wp_J6_append_2 ad G3 c2 i4 X (fun q6 G5 => wNN q6 fun c7 => (gIs G5 c7 6 ∧ wp_J6_append ad G5 c7 (some (ad 106)) X (fun q9 G8 => wGetI G8 t0 10 1 fun i10 => wNN q9 fun c11 => (gIs G8 c11 6 ∧ wp_J6_append_2 ad G8 c11 i10 X (fun q13 G12 => wNN q13 fun c14 => (gIs G12 c14 6 ∧ wp_J6_append ad G12 c14 (some (ad 107)) X (fun q16 G15 => wGetI G15 t0 10 2 fun i17 => wNN q16 fun c18 => (gIs G15 c18 6 ∧ wp_J6_append_2 ad G15 c18 i17 X (fun q20 G19 => wNN q20 fun c21 => (gIs G19 c21 6 ∧ wp_J6_append ad G19 c21 (some (ad 108)) X (fun q23 G22 => wGetI G22 t0 10 3 fun i24 => wNN q23 fun c25 => (gIs G22 c25 6 ∧ wp_J6_append_2 ad G22 c25 i24 X (fun q27 G26 => wNN q27 fun c28 => (gIs G26 c28 6 ∧ wp_J6_append ad G26 c28 (some (ad 109)) X (fun q30 G29 => wGetI G29 t0 10 4 fun i31 => wNN q30 fun c32 => (gIs G29 c32 6 ∧ wp_J6_append_2 ad G29 c32 i31 X (fun q34 G33 => wNN q34 fun c35 => (gIs G33 c35 6 ∧ wp_J6_toString ad G33 c35  X (fun q37 G36 => K q37 G36)))))))))))))))))))))
theorem w_X10_text {C : gCx} (hC : gOk C "GoblinHousehold$Contract" cX10_text [] (some (Jvm.ClassFile.FieldType.object "java/lang/String")) "text" 1 13 393) {K : Option Nat → gS → Prop} {X : Nat → gS → Prop} (hK : ∀ r G, K r G → cxK C (some (vQ r)) G) (hX : ∀ q G, X q G → cxX C q G) {G : gS} {t0 : Nat} (h : wp_X10_text (cxA C) G t0 X K) : gGo C G 0 [(0, vQ (some t0))] [] := by
  unfold wp_X10_text at h
  refine g_new hC (pc := 0) in_J6 (ci := 6) rfl (by decide) tyJ6_ok q848 q259 q102 gdf_J6 h dX10_text_0 (fun c2 G1 h => ?_)
  refine g_dup hC (pc := 3) rfl dX10_text_3 ?_
  refine g_callI hC (pc := 4) (As := []) gc_J6_init (m_J6_init hC.fl h) rfl q849 q261 (gle rfl) (gle rfl) rfl (gle rfl) rfl dX10_text_4 (gk_v fun G3 h => ?_) (fun _ _ h hio => g_out0 hC (hX _ _ h) hio)
  refine g_aload_n hC (pc := 7) 0 rfl rfl dX10_text_7 ?_
  refine g_getI hC (pc := 8) in_X10 (ci := 10) rfl 0 (by decide) q1387 (Or.inl rfl) h dX10_text_8 (fun i4 h => ?_)
  obtain ⟨hi, h⟩ := h
  refine g_callV hC (pc := 11) (ci := 6) (As := [vI i4]) gc_J6_append_2 (m_J6_append_2 hC.fl h) rfl hi q850 q569 q570 (gle rfl) (gle rfl) rfl (gle rfl) rfl dX10_text_11 (gk_q fun q6 G5 h => ?_) (fun _ _ h hio => g_out0 hC (hX _ _ h) hio)
  refine g_ldcS hC (pc := 14) (List.mem_of_getElem? (i := 6) rfl) dX10_text_14 ?_
  rcases q6 with _ | c7
  · exact (gNN0 h).elim
  replace h := gNN1 h
  obtain ⟨hi, h⟩ := h
  refine g_callV hC (pc := 16) (ci := 6) (As := [vQ (some (cxA C 106))]) gc_J6_append (m_J6_append hC.fl h) rfl hi q852 q449 q450 (gle rfl) (gle rfl) rfl (gle rfl) rfl dX10_text_16 (gk_q fun q9 G8 h => ?_) (fun _ _ h hio => g_out0 hC (hX _ _ h) hio)
  refine g_aload_n hC (pc := 19) 0 rfl rfl dX10_text_19 ?_
  refine g_getI hC (pc := 20) in_X10 (ci := 10) rfl 1 (by decide) q1390 (Or.inl rfl) h dX10_text_20 (fun i10 h => ?_)
  rcases q9 with _ | c11
  · exact (gNN0 h).elim
  replace h := gNN1 h
  obtain ⟨hi, h⟩ := h
  refine g_callV hC (pc := 23) (ci := 6) (As := [vI i10]) gc_J6_append_2 (m_J6_append_2 hC.fl h) rfl hi q850 q569 q570 (gle rfl) (gle rfl) rfl (gle rfl) rfl dX10_text_23 (gk_q fun q13 G12 h => ?_) (fun _ _ h hio => g_out0 hC (hX _ _ h) hio)
  refine g_ldcS hC (pc := 26) (List.mem_of_getElem? (i := 7) rfl) dX10_text_26 ?_
  rcases q13 with _ | c14
  · exact (gNN0 h).elim
  replace h := gNN1 h
  obtain ⟨hi, h⟩ := h
  refine g_callV hC (pc := 28) (ci := 6) (As := [vQ (some (cxA C 107))]) gc_J6_append (m_J6_append hC.fl h) rfl hi q852 q449 q450 (gle rfl) (gle rfl) rfl (gle rfl) rfl dX10_text_28 (gk_q fun q16 G15 h => ?_) (fun _ _ h hio => g_out0 hC (hX _ _ h) hio)
  refine g_aload_n hC (pc := 31) 0 rfl rfl dX10_text_31 ?_
  refine g_getI hC (pc := 32) in_X10 (ci := 10) rfl 2 (by decide) q1393 (Or.inl rfl) h dX10_text_32 (fun i17 h => ?_)
  rcases q16 with _ | c18
  · exact (gNN0 h).elim
  replace h := gNN1 h
  obtain ⟨hi, h⟩ := h
  refine g_callV hC (pc := 35) (ci := 6) (As := [vI i17]) gc_J6_append_2 (m_J6_append_2 hC.fl h) rfl hi q850 q569 q570 (gle rfl) (gle rfl) rfl (gle rfl) rfl dX10_text_35 (gk_q fun q20 G19 h => ?_) (fun _ _ h hio => g_out0 hC (hX _ _ h) hio)
  refine g_ldcS hC (pc := 38) (List.mem_of_getElem? (i := 8) rfl) dX10_text_38 ?_
  rcases q20 with _ | c21
  · exact (gNN0 h).elim
  replace h := gNN1 h
  obtain ⟨hi, h⟩ := h
  refine g_callV hC (pc := 40) (ci := 6) (As := [vQ (some (cxA C 108))]) gc_J6_append (m_J6_append hC.fl h) rfl hi q852 q449 q450 (gle rfl) (gle rfl) rfl (gle rfl) rfl dX10_text_40 (gk_q fun q23 G22 h => ?_) (fun _ _ h hio => g_out0 hC (hX _ _ h) hio)
  refine g_aload_n hC (pc := 43) 0 rfl rfl dX10_text_43 ?_
  refine g_getI hC (pc := 44) in_X10 (ci := 10) rfl 3 (by decide) q1396 (Or.inl rfl) h dX10_text_44 (fun i24 h => ?_)
  rcases q23 with _ | c25
  · exact (gNN0 h).elim
  replace h := gNN1 h
  obtain ⟨hi, h⟩ := h
  refine g_callV hC (pc := 47) (ci := 6) (As := [vI i24]) gc_J6_append_2 (m_J6_append_2 hC.fl h) rfl hi q850 q569 q570 (gle rfl) (gle rfl) rfl (gle rfl) rfl dX10_text_47 (gk_q fun q27 G26 h => ?_) (fun _ _ h hio => g_out0 hC (hX _ _ h) hio)
  refine g_ldcS hC (pc := 50) (List.mem_of_getElem? (i := 9) rfl) dX10_text_50 ?_
  rcases q27 with _ | c28
  · exact (gNN0 h).elim
  replace h := gNN1 h
  obtain ⟨hi, h⟩ := h
  refine g_callV hC (pc := 52) (ci := 6) (As := [vQ (some (cxA C 109))]) gc_J6_append (m_J6_append hC.fl h) rfl hi q852 q449 q450 (gle rfl) (gle rfl) rfl (gle rfl) rfl dX10_text_52 (gk_q fun q30 G29 h => ?_) (fun _ _ h hio => g_out0 hC (hX _ _ h) hio)
  refine g_aload_n hC (pc := 55) 0 rfl rfl dX10_text_55 ?_
  refine g_getI hC (pc := 56) in_X10 (ci := 10) rfl 4 (by decide) q1400 (Or.inl rfl) h dX10_text_56 (fun i31 h => ?_)
  rcases q30 with _ | c32
  · exact (gNN0 h).elim
  replace h := gNN1 h
  obtain ⟨hi, h⟩ := h
  refine g_callV hC (pc := 59) (ci := 6) (As := [vI i31]) gc_J6_append_2 (m_J6_append_2 hC.fl h) rfl hi q850 q569 q570 (gle rfl) (gle rfl) rfl (gle rfl) rfl dX10_text_59 (gk_q fun q34 G33 h => ?_) (fun _ _ h hio => g_out0 hC (hX _ _ h) hio)
  rcases q34 with _ | c35
  · exact (gNN0 h).elim
  replace h := gNN1 h
  obtain ⟨hi, h⟩ := h
  refine g_callV hC (pc := 62) (ci := 6) (As := []) gc_J6_toString (m_J6_toString hC.fl h) rfl hi q856 q595 q596 (gle rfl) (gle rfl) rfl (gle rfl) rfl dX10_text_62 (gk_q fun q37 G36 h => ?_) (fun _ _ h hio => g_out0 hC (hX _ _ h) hio)
  exact g_aret hC (pc := 65) (Or.inl ⟨_, rfl⟩) (hK _ _ h) dX10_text_65
theorem gc_X10_text : gCode yX10_text cX10_text 1 (some (Jvm.ClassFile.FieldType.object "java/lang/String")) 0 := ⟨q847, q133, ⟨by decide, by decide⟩, rfl⟩
theorem m_X10_text {l : Launch} (hfl : l.stackTraces = false) {E : gE} {G : gS} {t0 : Nat} {X : Nat → gS → Prop} {K : Option Nat → gS → Prop} (h : wp_X10_text (gAd E) G t0 X K) : gMet l yX10_text (ws_ yX10_text cX10_text 1 (some (Jvm.ClassFile.FieldType.object "java/lang/String"))) 13 393 [vQ (some t0)] E G (gRq K) X :=
  g_met hfl (plainFor_of_name (by decide +kernel)) rfl rfl rfl (gle rfl) (fun p e R s m args below meth c hC => w_X10_text hC (fun _ _ h => h) (fun _ _ h => h) h)
def wp_X2_contractsText_37 (ad : Nat → Nat) (X : Nat → gS → Prop) (K : Option Nat → gS → Prop) (J10 : gS → Nat → Nat → Int32 → Prop) (G : gS) (t0 : Nat) (t1 : Nat) (x2 : Int32) (ts0 : Nat) (ts1 : Nat) : Prop :=
  (gIs G ts1 6 ∧ wp_J6_append ad G ts1 (some ts0) X (fun q2 G1 => wGetQ G1 t0 2 3 fun q3 => wNN q3 fun c4 => (gIs G1 c4 3 ∧ wp_J2_get ad G1 c4 x2 X (fun q6 G5 => wCast G5 q6 [10] (wNN q6 fun c7 => (gIs G5 c7 10 ∧ wp_X10_text ad G5 c7  X (fun q9 G8 => wNN q2 fun c10 => (gIs G8 c10 6 ∧ wp_J6_append ad G8 c10 q9 X (fun q12 G11 => J10 G11 t0 t1 (x2 + (1 : Int32)))))))))))
theorem w_X2_contractsText_37 {C : gCx} (hC : gOk C "GoblinHousehold$Household" cX2_contractsText [] (some (Jvm.ClassFile.FieldType.object "java/lang/String")) "contractsText" 3 14 421) {K : Option Nat → gS → Prop} {X : Nat → gS → Prop} (hK : ∀ r G, K r G → cxK C (some (vQ r)) G) (hX : ∀ q G, X q G → cxX C q G) {J10 : gS → Nat → Nat → Int32 → Prop} (hJ10 : ∀ G z0 z1 z2, J10 G z0 z1 z2 → gGo C G 10 [(0, vQ (some z0)), (1, vQ (some z1)), (2, vI z2)] []) {G : gS} {t0 : Nat} {t1 : Nat} {x2 : Int32} {ts0 : Nat} {ts1 : Nat} (h : wp_X2_contractsText_37 (cxA C) X K J10 G t0 t1 x2 ts0 ts1) : gGo C G 37 [(0, vQ (some t0)), (1, vQ (some t1)), (2, vI x2)] [vQ (some ts0), vQ (some ts1)] := by
  unfold wp_X2_contractsText_37 at h
  obtain ⟨hi, h⟩ := h
  refine g_callV hC (pc := 37) (ci := 6) (As := [vQ (some ts0)]) gc_J6_append (m_J6_append hC.fl h) rfl hi q843 q449 q450 (gle rfl) (gle rfl) rfl (gle rfl) rfl dX2_contractsText_37 (gk_q fun q2 G1 h => ?_) (fun _ _ h hio => g_out0 hC (hX _ _ h) hio)
  refine g_aload_n hC (pc := 40) 0 rfl rfl dX2_contractsText_40 ?_
  refine g_getQ hC (pc := 41) in_X2 (ci := 2) rfl 3 (by decide) q194 (Or.inl rfl) h dX2_contractsText_41 (fun q3 h => ?_)
  refine g_iload_n hC (pc := 44) 2 rfl rfl dX2_contractsText_44 ?_
  rcases q3 with _ | c4
  · exact (gNN0 h).elim
  replace h := gNN1 h
  obtain ⟨hi, h⟩ := h
  refine g_callF hC (pc := 45) (ci := 3) (As := [vI x2]) gc_J2_get (m_J2_get hC.fl h) rfl hi q361 (List.mem_of_getElem? (i := 2) rfl) rfl q364 q366 (gle rfl) (gle rfl) rfl (gle rfl) rfl dX2_contractsText_45 (gk_q fun q6 G5 h => ?_) (fun _ _ h hio => g_out0 hC (hX _ _ h) hio)
  refine g_cast hC (pc := 50) q764 h (List.forall_mem_cons.mpr ⟨⟨_, rfl, Or.inr ⟨rfl, by decide⟩⟩, fun _ h => nomatch h⟩) dX2_contractsText_50 (fun h => ?_)
  rcases q6 with _ | c7
  · exact (gNN0 h).elim
  replace h := gNN1 h
  obtain ⟨hi, h⟩ := h
  refine g_callV hC (pc := 53) (ci := 10) (As := []) gc_X10_text (m_X10_text hC.fl h) rfl hi q844 q845 q846 (gle rfl) (gle rfl) rfl (gle rfl) rfl dX2_contractsText_53 (gk_q fun q9 G8 h => ?_) (fun _ _ h hio => g_out0 hC (hX _ _ h) hio)
  rcases q2 with _ | c10
  · exact (gNN0 h).elim
  replace h := gNN1 h
  obtain ⟨hi, h⟩ := h
  refine g_callV hC (pc := 56) (ci := 6) (As := [vQ q9]) gc_J6_append (m_J6_append hC.fl h) rfl hi q843 q449 q450 (gle rfl) (gle rfl) rfl (gle rfl) rfl dX2_contractsText_56 (gk_q fun q12 G11 h => ?_) (fun _ _ h hio => g_out0 hC (hX _ _ h) hio)
  refine g_pop hC (pc := 59) rfl dX2_contractsText_59 ?_
  refine g_iinc hC (pc := 60) 2 (d := (1 : Int32)) (v := (x2 + (1 : Int32))) (lv' := [(2, vI (x2 + (1 : Int32))), (0, vQ (some t0)), (1, vQ (some t1))]) rfl (by decide) rfl (by decide) rfl dX2_contractsText_60 ?_
  refine g_goto hC (pc := 63) 10 (by decide) dX2_contractsText_63 ?_
  exact g_sub [1, 2, 0] rfl (hJ10 _ _ _ _ h)
def wp_X2_contractsText_66 (ad : Nat → Nat) (X : Nat → gS → Prop) (K : Option Nat → gS → Prop) (G : gS) (t1 : Nat) : Prop :=
  (gIs G t1 6 ∧ wp_J6_toString ad G t1  X (fun q2 G1 => K q2 G1))
theorem w_X2_contractsText_66 {C : gCx} (hC : gOk C "GoblinHousehold$Household" cX2_contractsText [] (some (Jvm.ClassFile.FieldType.object "java/lang/String")) "contractsText" 3 14 421) {K : Option Nat → gS → Prop} {X : Nat → gS → Prop} (hK : ∀ r G, K r G → cxK C (some (vQ r)) G) (hX : ∀ q G, X q G → cxX C q G) {G : gS} {t1 : Nat} (h : wp_X2_contractsText_66 (cxA C) X K G t1) : gGo C G 66 [(1, vQ (some t1))] [] := by
  unfold wp_X2_contractsText_66 at h
  refine g_aload_n hC (pc := 66) 0 rfl rfl dX2_contractsText_66 ?_
  obtain ⟨hi, h⟩ := h
  refine g_callV hC (pc := 67) (ci := 6) (As := []) gc_J6_toString (m_J6_toString hC.fl h) rfl hi q857 q595 q596 (gle rfl) (gle rfl) rfl (gle rfl) rfl dX2_contractsText_67 (gk_q fun q2 G1 h => ?_) (fun _ _ h hio => g_out0 hC (hX _ _ h) hio)
  exact g_aret hC (pc := 70) (Or.inl ⟨_, rfl⟩) (hK _ _ h) dX2_contractsText_70
def wp_X2_contractsText_10 (ad : Nat → Nat) (X : Nat → gS → Prop) (K : Option Nat → gS → Prop) (J10 : gS → Nat → Nat → Int32 → Prop) (G : gS) (t0 : Nat) (t1 : Nat) (x2 : Int32) : Prop :=
  wGetQ G t0 2 3 fun q1 => wNN q1 fun c2 => (gIs G c2 3 ∧ wp_J2_size ad G c2  X (fun r4 G3 => (r4 ≤ x2 → wp_X2_contractsText_66 ad X K G3 t1) ∧ (¬ r4 ≤ x2 → (x2 ≤ (0 : Int32) → wp_X2_contractsText_37 ad X K J10 G3 t0 t1 x2 (ad 105) t1) ∧ (¬ x2 ≤ (0 : Int32) → wp_X2_contractsText_37 ad X K J10 G3 t0 t1 x2 (ad 104) t1))))
theorem w_X2_contractsText_10 {C : gCx} (hC : gOk C "GoblinHousehold$Household" cX2_contractsText [] (some (Jvm.ClassFile.FieldType.object "java/lang/String")) "contractsText" 3 14 421) {K : Option Nat → gS → Prop} {X : Nat → gS → Prop} (hK : ∀ r G, K r G → cxK C (some (vQ r)) G) (hX : ∀ q G, X q G → cxX C q G) (n : Nat) : ∀ (G : gS) (t0 : Nat) (t1 : Nat) (x2 : Int32), gLoop (fun _ _ _ _ => False) (wp_X2_contractsText_10 (cxA C) X K) n G t0 t1 x2 → gGo C G 10 [(0, vQ (some t0)), (1, vQ (some t1)), (2, vI x2)] [] := by
  induction n with
  | zero => intro G t0 t1 x2 h; exact h.elim
  | succ n ih =>
    intro G t0 t1 x2 h
    have hJ10 := ih
    replace h : wp_X2_contractsText_10 (cxA C) X K _ G t0 t1 x2 := h
    unfold wp_X2_contractsText_10 at h
    refine g_iload_n hC (pc := 10) 2 rfl rfl dX2_contractsText_10 ?_
    refine g_aload_n hC (pc := 11) 0 rfl rfl dX2_contractsText_11 ?_
    refine g_getQ hC (pc := 12) in_X2 (ci := 2) rfl 3 (by decide) q194 (Or.inl rfl) h dX2_contractsText_12 (fun q1 h => ?_)
    rcases q1 with _ | c2
    · exact (gNN0 h).elim
    replace h := gNN1 h
    obtain ⟨hi, h⟩ := h
    refine g_callF hC (pc := 15) (ci := 3) (As := []) gc_J2_size (m_J2_size hC.fl h) rfl hi q359 (List.mem_of_getElem? (i := 0) rfl) rfl q323 q325 (gle rfl) (gle rfl) rfl (gle rfl) rfl dX2_contractsText_15 (gk_i fun r4 G3 h => ?_) (fun _ _ h hio => g_out0 hC (hX _ _ h) hio)
    refine g_icmp_ge hC (pc := 20) 66 h (by decide) dX2_contractsText_20 (fun h => ?_) (fun h => ?_)
    · exact g_sub [1] rfl (w_X2_contractsText_66 hC hK hX h)
    · refine g_aload_n hC (pc := 23) 1 rfl rfl dX2_contractsText_23 ?_
      refine g_iload_n hC (pc := 24) 2 rfl rfl dX2_contractsText_24 ?_
      refine g_if_le hC (pc := 25) 34 h (by decide) dX2_contractsText_25 (fun h => ?_) (fun h => ?_)
      · refine g_ldcSW hC (pc := 34) (List.mem_of_getElem? (i := 5) rfl) dX2_contractsText_34 ?_
        exact g_sub [0, 1, 2] rfl (w_X2_contractsText_37 hC hK hX hJ10 h)
      · refine g_ldcSW hC (pc := 28) (List.mem_of_getElem? (i := 4) rfl) dX2_contractsText_28 ?_
        refine g_goto hC (pc := 31) 37 (by decide) dX2_contractsText_31 ?_
        exact g_sub [0, 1, 2] rfl (w_X2_contractsText_37 hC hK hX hJ10 h)
def wp_X2_contractsText (ad : Nat → Nat) (G : gS) (t0 : Nat) (X : Nat → gS → Prop) (K : Option Nat → gS → Prop) : Prop :=
  wNew G 6 4 [.null, .int 0, .int 0, .int 0] fun c2 G1 => wp_J6_init ad G1 c2  X (fun G3 => gLoop (fun _ _ _ _ => False) (wp_X2_contractsText_10 ad X K) gFuel G3 t0 c2 (0 : Int32))
theorem w_X2_contractsText {C : gCx} (hC : gOk C "GoblinHousehold$Household" cX2_contractsText [] (some (Jvm.ClassFile.FieldType.object "java/lang/String")) "contractsText" 3 14 421) {K : Option Nat → gS → Prop} {X : Nat → gS → Prop} (hK : ∀ r G, K r G → cxK C (some (vQ r)) G) (hX : ∀ q G, X q G → cxX C q G) {G : gS} {t0 : Nat} (h : wp_X2_contractsText (cxA C) G t0 X K) : gGo C G 0 [(0, vQ (some t0))] [] := by
  unfold wp_X2_contractsText at h
  refine g_new hC (pc := 0) in_J6 (ci := 6) rfl (by decide) tyJ6_ok q839 q259 q102 gdf_J6 h dX2_contractsText_0 (fun c2 G1 h => ?_)
  refine g_dup hC (pc := 3) rfl dX2_contractsText_3 ?_
  refine g_callI hC (pc := 4) (As := []) gc_J6_init (m_J6_init hC.fl h) rfl q840 q261 (gle rfl) (gle rfl) rfl (gle rfl) rfl dX2_contractsText_4 (gk_v fun G3 h => ?_) (fun _ _ h hio => g_out0 hC (hX _ _ h) hio)
  refine g_astore_n hC (pc := 7) (lv' := [(1, vQ (some c2)), (0, vQ (some t0))]) rfl (by decide) rfl dX2_contractsText_7 ?_
  refine g_iconst hC (pc := 8) (v := (0 : Int32)) (by decide) dX2_contractsText_8 ?_
  refine g_istore_n hC (pc := 9) (lv' := [(2, vI (0 : Int32)), (1, vQ (some c2)), (0, vQ (some t0))]) rfl (by decide) rfl dX2_contractsText_9 ?_
  exact g_sub [2, 1, 0] rfl (w_X2_contractsText_10 hC hK hX gFuel _ _ _ _ h)
theorem gc_X2_contractsText : gCode yX2_contractsText cX2_contractsText 3 (some (Jvm.ClassFile.FieldType.object "java/lang/String")) 0 := ⟨q838, q95, ⟨by decide, by decide⟩, rfl⟩
theorem m_X2_contractsText {l : Launch} (hfl : l.stackTraces = false) {E : gE} {G : gS} {t0 : Nat} {X : Nat → gS → Prop} {K : Option Nat → gS → Prop} (h : wp_X2_contractsText (gAd E) G t0 X K) : gMet l yX2_contractsText (ws_ yX2_contractsText cX2_contractsText 3 (some (Jvm.ClassFile.FieldType.object "java/lang/String"))) 14 421 [vQ (some t0)] E G (gRq K) X :=
  g_met hfl (plainFor_of_name (by decide +kernel)) rfl rfl rfl (gle rfl) (fun p e R s m args below meth c hC => w_X2_contractsText hC (fun _ _ h => h) (fun _ _ h => h) h)
def wp_X1_renderContracts (ad : Nat → Nat) (G : gS) (t0 : Nat) (X : Nat → gS → Prop) (K : Int32 → gS → Prop) : Prop :=
  wGetQ G t0 1 0 fun q1 => wNN q1 fun c2 => (gIs G c2 2 ∧ wp_X2_contractsText ad G c2  X (fun q4 G3 => (gIs G3 t0 1 ∧ wp_X1_write ad G3 t0 q4 X (fun r6 G5 => K r6 G5))))
theorem w_X1_renderContracts {C : gCx} (hC : gOk C "GoblinHousehold" cX1_renderContracts [] (some .int) "renderContracts" 1 15 451) {K : Int32 → gS → Prop} {X : Nat → gS → Prop} (hK : ∀ r G, K r G → cxK C (some (vI r)) G) (hX : ∀ q G, X q G → cxX C q G) {G : gS} {t0 : Nat} (h : wp_X1_renderContracts (cxA C) G t0 X K) : gGo C G 0 [(0, vQ (some t0))] [] := by
  unfold wp_X1_renderContracts at h
  refine g_aload_n hC (pc := 0) 0 rfl rfl dX1_renderContracts_0 ?_
  refine g_aload_n hC (pc := 1) 0 rfl rfl dX1_renderContracts_1 ?_
  refine g_getQ hC (pc := 2) in_X1 (ci := 1) rfl 0 (by decide) q292 (Or.inl rfl) h dX1_renderContracts_2 (fun q1 h => ?_)
  rcases q1 with _ | c2
  · exact (gNN0 h).elim
  replace h := gNN1 h
  obtain ⟨hi, h⟩ := h
  refine g_callV hC (pc := 5) (ci := 2) (As := []) gc_X2_contractsText (m_X2_contractsText hC.fl h) rfl hi q835 q836 q837 (gle rfl) (gle rfl) rfl (gle rfl) rfl dX1_renderContracts_5 (gk_q fun q4 G3 h => ?_) (fun _ _ h hio => g_out0 hC (hX _ _ h) hio)
  obtain ⟨hi, h⟩ := h
  refine g_callV hC (pc := 8) (ci := 1) (As := [vQ q4]) gc_X1_write (m_X1_write hC.fl h) rfl hi q858 q860 qs8 (gle rfl) (gle rfl) rfl (gle rfl) rfl dX1_renderContracts_8 (gk_i fun r6 G5 h => ?_) (fun _ _ h hio => g_out0 hC (hX _ _ h) hio)
  exact g_iret hC (pc := 11) (hK _ _ h) dX1_renderContracts_11
theorem gc_X1_renderContracts : gCode yX1_renderContracts cX1_renderContracts 1 (some .int) 0 := ⟨q834, q94, ⟨by decide, by decide⟩, rfl⟩
theorem m_X1_renderContracts {l : Launch} (hfl : l.stackTraces = false) {E : gE} {G : gS} {t0 : Nat} {X : Nat → gS → Prop} {K : Int32 → gS → Prop} (h : wp_X1_renderContracts (gAd E) G t0 X K) : gMet l yX1_renderContracts (ws_ yX1_renderContracts cX1_renderContracts 1 (some .int)) 15 451 [vQ (some t0)] E G (gRi K) X :=
  g_met hfl (plainFor_of_name (by decide +kernel)) rfl rfl rfl (gle rfl) (fun p e R s m args below meth c hC => w_X1_renderContracts hC (fun _ _ h => h) (fun _ _ h => h) h)
def wp_X3_writesContract (ad : Nat → Nat) (G : gS) (t0 : Nat) (x1 : Int32) (x2 : Int32) (X : Nat → gS → Prop) (K : Int32 → gS → Prop) : Prop :=
  (gIs G t0 0 ∧ wp_X3_ofContract ad G t0 x2 (0 : Int32) X (fun r2 G1 => (gIs G1 t0 0 ∧ wp_X3_writesNumber ad G1 t0 x1 r2 X (fun r4 G3 => (gIs G3 t0 0 ∧ wp_X3_put ad G3 t0 r4 (58 : Int32) X (fun r6 G5 => (gIs G5 t0 0 ∧ wp_X3_ofContract ad G5 t0 x2 (1 : Int32) X (fun r8 G7 => (gIs G7 t0 0 ∧ wp_X3_writesNumber ad G7 t0 r6 r8 X (fun r10 G9 => (gIs G9 t0 0 ∧ wp_X3_put ad G9 t0 r10 (62 : Int32) X (fun r12 G11 => (gIs G11 t0 0 ∧ wp_X3_ofContract ad G11 t0 x2 (2 : Int32) X (fun r14 G13 => (gIs G13 t0 0 ∧ wp_X3_writesNumber ad G13 t0 r12 r14 X (fun r16 G15 => (gIs G15 t0 0 ∧ wp_X3_put ad G15 t0 r16 (64 : Int32) X (fun r18 G17 => (gIs G17 t0 0 ∧ wp_X3_ofContract ad G17 t0 x2 (3 : Int32) X (fun r20 G19 => (gIs G19 t0 0 ∧ wp_X3_writesNumber ad G19 t0 r18 r20 X (fun r22 G21 => (gIs G21 t0 0 ∧ wp_X3_put ad G21 t0 r22 (47 : Int32) X (fun r24 G23 => (gIs G23 t0 0 ∧ wp_X3_ofContract ad G23 t0 x2 (4 : Int32) X (fun r26 G25 => (gIs G25 t0 0 ∧ wp_X3_writesNumber ad G25 t0 r24 r26 X (fun r28 G27 => K r28 G27))))))))))))))))))))))))))))
theorem w_X3_writesContract {C : gCx} (hC : gOk C "GoblinHouseholdModel" cX3_writesContract [] (some .int) "writesContract" 4 2 63) {K : Int32 → gS → Prop} {X : Nat → gS → Prop} (hK : ∀ r G, K r G → cxK C (some (vI r)) G) (hX : ∀ q G, X q G → cxX C q G) {G : gS} {t0 : Nat} {x1 : Int32} {x2 : Int32} (h : wp_X3_writesContract (cxA C) G t0 x1 x2 X K) : gGo C G 0 [(0, vQ (some t0)), (1, vI x1), (2, vI x2)] [] := by
  unfold wp_X3_writesContract at h
  refine g_aload_n hC (pc := 0) 0 rfl rfl dX3_writesContract_0 ?_
  refine g_aload_n hC (pc := 1) 0 rfl rfl dX3_writesContract_1 ?_
  refine g_iload_n hC (pc := 2) 1 rfl rfl dX3_writesContract_2 ?_
  refine g_aload_n hC (pc := 3) 0 rfl rfl dX3_writesContract_3 ?_
  refine g_iload_n hC (pc := 4) 2 rfl rfl dX3_writesContract_4 ?_
  refine g_iconst hC (pc := 5) (v := (0 : Int32)) (by decide) dX3_writesContract_5 ?_
  obtain ⟨hi, h⟩ := h
  refine g_callV hC (pc := 6) (ci := 0) (As := [vI x2, vI (0 : Int32)]) gc_X3_ofContract (m_X3_ofContract hC.fl h) rfl hi q2659 q2661 qs60 (gle rfl) (gle rfl) rfl (gle rfl) rfl dX3_writesContract_6 (gk_i fun r2 G1 h => ?_) (fun _ _ h hio => g_out0 hC (hX _ _ h) hio)
  obtain ⟨hi, h⟩ := h
  refine g_callV hC (pc := 9) (ci := 0) (As := [vI x1, vI r2]) gc_X3_writesNumber (m_X3_writesNumber hC.fl h) rfl hi q2906 q2908 qs80 (gle rfl) (gle rfl) rfl (gle rfl) rfl dX3_writesContract_9 (gk_i fun r4 G3 h => ?_) (fun _ _ h hio => g_out0 hC (hX _ _ h) hio)
  refine g_bipush hC (pc := 12) (v := (58 : Int32)) (by decide) dX3_writesContract_12 ?_
  obtain ⟨hi, h⟩ := h
  refine g_callV hC (pc := 14) (ci := 0) (As := [vI r4, vI (58 : Int32)]) gc_X3_put (m_X3_put hC.fl h) rfl hi q2910 q2912 qs81 (gle rfl) (gle rfl) rfl (gle rfl) rfl dX3_writesContract_14 (gk_i fun r6 G5 h => ?_) (fun _ _ h hio => g_out0 hC (hX _ _ h) hio)
  refine g_istore_n hC (pc := 17) (lv' := [(3, vI r6), (0, vQ (some t0)), (1, vI x1), (2, vI x2)]) rfl (by decide) rfl dX3_writesContract_17 ?_
  refine g_aload_n hC (pc := 18) 1 rfl rfl dX3_writesContract_18 ?_
  refine g_aload_n hC (pc := 19) 1 rfl rfl dX3_writesContract_19 ?_
  refine g_iload_n hC (pc := 20) 0 rfl rfl dX3_writesContract_20 ?_
  refine g_aload_n hC (pc := 21) 1 rfl rfl dX3_writesContract_21 ?_
  refine g_iload_n hC (pc := 22) 3 rfl rfl dX3_writesContract_22 ?_
  refine g_iconst hC (pc := 23) (v := (1 : Int32)) (by decide) dX3_writesContract_23 ?_
  obtain ⟨hi, h⟩ := h
  refine g_callV hC (pc := 24) (ci := 0) (As := [vI x2, vI (1 : Int32)]) gc_X3_ofContract (m_X3_ofContract hC.fl h) rfl hi q2659 q2661 qs60 (gle rfl) (gle rfl) rfl (gle rfl) rfl dX3_writesContract_24 (gk_i fun r8 G7 h => ?_) (fun _ _ h hio => g_out0 hC (hX _ _ h) hio)
  obtain ⟨hi, h⟩ := h
  refine g_callV hC (pc := 27) (ci := 0) (As := [vI r6, vI r8]) gc_X3_writesNumber (m_X3_writesNumber hC.fl h) rfl hi q2906 q2908 qs80 (gle rfl) (gle rfl) rfl (gle rfl) rfl dX3_writesContract_27 (gk_i fun r10 G9 h => ?_) (fun _ _ h hio => g_out0 hC (hX _ _ h) hio)
  refine g_bipush hC (pc := 30) (v := (62 : Int32)) (by decide) dX3_writesContract_30 ?_
  obtain ⟨hi, h⟩ := h
  refine g_callV hC (pc := 32) (ci := 0) (As := [vI r10, vI (62 : Int32)]) gc_X3_put (m_X3_put hC.fl h) rfl hi q2910 q2912 qs81 (gle rfl) (gle rfl) rfl (gle rfl) rfl dX3_writesContract_32 (gk_i fun r12 G11 h => ?_) (fun _ _ h hio => g_out0 hC (hX _ _ h) hio)
  refine g_istore_n hC (pc := 35) (lv' := [(3, vI r12), (0, vQ (some t0)), (1, vI x1), (2, vI x2)]) rfl (by decide) rfl dX3_writesContract_35 ?_
  refine g_aload_n hC (pc := 36) 1 rfl rfl dX3_writesContract_36 ?_
  refine g_aload_n hC (pc := 37) 1 rfl rfl dX3_writesContract_37 ?_
  refine g_iload_n hC (pc := 38) 0 rfl rfl dX3_writesContract_38 ?_
  refine g_aload_n hC (pc := 39) 1 rfl rfl dX3_writesContract_39 ?_
  refine g_iload_n hC (pc := 40) 3 rfl rfl dX3_writesContract_40 ?_
  refine g_iconst hC (pc := 41) (v := (2 : Int32)) (by decide) dX3_writesContract_41 ?_
  obtain ⟨hi, h⟩ := h
  refine g_callV hC (pc := 42) (ci := 0) (As := [vI x2, vI (2 : Int32)]) gc_X3_ofContract (m_X3_ofContract hC.fl h) rfl hi q2659 q2661 qs60 (gle rfl) (gle rfl) rfl (gle rfl) rfl dX3_writesContract_42 (gk_i fun r14 G13 h => ?_) (fun _ _ h hio => g_out0 hC (hX _ _ h) hio)
  obtain ⟨hi, h⟩ := h
  refine g_callV hC (pc := 45) (ci := 0) (As := [vI r12, vI r14]) gc_X3_writesNumber (m_X3_writesNumber hC.fl h) rfl hi q2906 q2908 qs80 (gle rfl) (gle rfl) rfl (gle rfl) rfl dX3_writesContract_45 (gk_i fun r16 G15 h => ?_) (fun _ _ h hio => g_out0 hC (hX _ _ h) hio)
  refine g_bipush hC (pc := 48) (v := (64 : Int32)) (by decide) dX3_writesContract_48 ?_
  obtain ⟨hi, h⟩ := h
  refine g_callV hC (pc := 50) (ci := 0) (As := [vI r16, vI (64 : Int32)]) gc_X3_put (m_X3_put hC.fl h) rfl hi q2910 q2912 qs81 (gle rfl) (gle rfl) rfl (gle rfl) rfl dX3_writesContract_50 (gk_i fun r18 G17 h => ?_) (fun _ _ h hio => g_out0 hC (hX _ _ h) hio)
  refine g_istore_n hC (pc := 53) (lv' := [(3, vI r18), (0, vQ (some t0)), (1, vI x1), (2, vI x2)]) rfl (by decide) rfl dX3_writesContract_53 ?_
  refine g_aload_n hC (pc := 54) 1 rfl rfl dX3_writesContract_54 ?_
  refine g_aload_n hC (pc := 55) 1 rfl rfl dX3_writesContract_55 ?_
  refine g_iload_n hC (pc := 56) 0 rfl rfl dX3_writesContract_56 ?_
  refine g_aload_n hC (pc := 57) 1 rfl rfl dX3_writesContract_57 ?_
  refine g_iload_n hC (pc := 58) 3 rfl rfl dX3_writesContract_58 ?_
  refine g_iconst hC (pc := 59) (v := (3 : Int32)) (by decide) dX3_writesContract_59 ?_
  obtain ⟨hi, h⟩ := h
  refine g_callV hC (pc := 60) (ci := 0) (As := [vI x2, vI (3 : Int32)]) gc_X3_ofContract (m_X3_ofContract hC.fl h) rfl hi q2659 q2661 qs60 (gle rfl) (gle rfl) rfl (gle rfl) rfl dX3_writesContract_60 (gk_i fun r20 G19 h => ?_) (fun _ _ h hio => g_out0 hC (hX _ _ h) hio)
  obtain ⟨hi, h⟩ := h
  refine g_callV hC (pc := 63) (ci := 0) (As := [vI r18, vI r20]) gc_X3_writesNumber (m_X3_writesNumber hC.fl h) rfl hi q2906 q2908 qs80 (gle rfl) (gle rfl) rfl (gle rfl) rfl dX3_writesContract_63 (gk_i fun r22 G21 h => ?_) (fun _ _ h hio => g_out0 hC (hX _ _ h) hio)
  refine g_bipush hC (pc := 66) (v := (47 : Int32)) (by decide) dX3_writesContract_66 ?_
  obtain ⟨hi, h⟩ := h
  refine g_callV hC (pc := 68) (ci := 0) (As := [vI r22, vI (47 : Int32)]) gc_X3_put (m_X3_put hC.fl h) rfl hi q2910 q2912 qs81 (gle rfl) (gle rfl) rfl (gle rfl) rfl dX3_writesContract_68 (gk_i fun r24 G23 h => ?_) (fun _ _ h hio => g_out0 hC (hX _ _ h) hio)
  refine g_istore_n hC (pc := 71) (lv' := [(3, vI r24), (0, vQ (some t0)), (1, vI x1), (2, vI x2)]) rfl (by decide) rfl dX3_writesContract_71 ?_
  refine g_aload_n hC (pc := 72) 1 rfl rfl dX3_writesContract_72 ?_
  refine g_iload_n hC (pc := 73) 0 rfl rfl dX3_writesContract_73 ?_
  refine g_aload_n hC (pc := 74) 1 rfl rfl dX3_writesContract_74 ?_
  refine g_iload_n hC (pc := 75) 3 rfl rfl dX3_writesContract_75 ?_
  refine g_iconst hC (pc := 76) (v := (4 : Int32)) (by decide) dX3_writesContract_76 ?_
  obtain ⟨hi, h⟩ := h
  refine g_callV hC (pc := 77) (ci := 0) (As := [vI x2, vI (4 : Int32)]) gc_X3_ofContract (m_X3_ofContract hC.fl h) rfl hi q2659 q2661 qs60 (gle rfl) (gle rfl) rfl (gle rfl) rfl dX3_writesContract_77 (gk_i fun r26 G25 h => ?_) (fun _ _ h hio => g_out0 hC (hX _ _ h) hio)
  obtain ⟨hi, h⟩ := h
  refine g_callV hC (pc := 80) (ci := 0) (As := [vI r24, vI r26]) gc_X3_writesNumber (m_X3_writesNumber hC.fl h) rfl hi q2906 q2908 qs80 (gle rfl) (gle rfl) rfl (gle rfl) rfl dX3_writesContract_80 (gk_i fun r28 G27 h => ?_) (fun _ _ h hio => g_out0 hC (hX _ _ h) hio)
  exact g_iret hC (pc := 83) (hK _ _ h) dX3_writesContract_83
theorem gc_X3_writesContract : gCode yX3_writesContract cX3_writesContract 4 (some .int) 2 := ⟨q2921, q105, ⟨by decide, by decide⟩, rfl⟩
theorem m_X3_writesContract {l : Launch} (hfl : l.stackTraces = false) {E : gE} {G : gS} {t0 : Nat} {x1 : Int32} {x2 : Int32} {X : Nat → gS → Prop} {K : Int32 → gS → Prop} (h : wp_X3_writesContract (gAd E) G t0 x1 x2 X K) : gMet l yX3_writesContract (ws_ yX3_writesContract cX3_writesContract 4 (some .int)) 2 63 [vQ (some t0), vI x1, vI x2] E G (gRi K) X :=
  g_met hfl (plainFor_of_name (by decide +kernel)) rfl rfl rfl (gle rfl) (fun p e R s m args below meth c hC => w_X3_writesContract hC (fun _ _ h => h) (fun _ _ h => h) h)
def wp_X3_renderContracts_36 (ad : Nat → Nat) (X : Nat → gS → Prop) (K : Int32 → gS → Prop) (J9 : gS → Nat → Int32 → Int32 → Prop) (G : gS) (t0 : Nat) (x2 : Int32) (xs0 : Int32) (ts1 : Nat) : Prop :=
  (gIs G ts1 0 ∧ wp_X3_writesContract ad G ts1 xs0 x2 X (fun r2 G1 => J9 G1 t0 r2 (x2 + (1 : Int32))))
theorem w_X3_renderContracts_36 {C : gCx} (hC : gOk C "GoblinHouseholdModel" cX3_renderContracts [] (some .int) "renderContracts" 3 3 94) {K : Int32 → gS → Prop} {X : Nat → gS → Prop} (hK : ∀ r G, K r G → cxK C (some (vI r)) G) (hX : ∀ q G, X q G → cxX C q G) {J9 : gS → Nat → Int32 → Int32 → Prop} (hJ9 : ∀ G z0 z1 z2, J9 G z0 z1 z2 → gGo C G 9 [(0, vQ (some z0)), (1, vI z1), (2, vI z2)] []) {G : gS} {t0 : Nat} {x2 : Int32} {xs0 : Int32} {ts1 : Nat} (h : wp_X3_renderContracts_36 (cxA C) X K J9 G t0 x2 xs0 ts1) : gGo C G 36 [(0, vQ (some t0)), (2, vI x2)] [vI xs0, vQ (some ts1)] := by
  unfold wp_X3_renderContracts_36 at h
  refine g_iload_n hC (pc := 36) 1 rfl rfl dX3_renderContracts_36 ?_
  obtain ⟨hi, h⟩ := h
  refine g_callV hC (pc := 37) (ci := 0) (As := [vI xs0, vI x2]) gc_X3_writesContract (m_X3_writesContract hC.fl h) rfl hi q2918 q2920 qs82 (gle rfl) (gle rfl) rfl (gle rfl) rfl dX3_renderContracts_37 (gk_i fun r2 G1 h => ?_) (fun _ _ h hio => g_out0 hC (hX _ _ h) hio)
  refine g_istore_n hC (pc := 40) (lv' := [(1, vI r2), (0, vQ (some t0)), (2, vI x2)]) rfl (by decide) rfl dX3_renderContracts_40 ?_
  refine g_iinc hC (pc := 41) 2 (d := (1 : Int32)) (v := (x2 + (1 : Int32))) (lv' := [(2, vI (x2 + (1 : Int32))), (1, vI r2), (0, vQ (some t0))]) rfl (by decide) rfl (by decide) rfl dX3_renderContracts_41 ?_
  refine g_goto hC (pc := 44) 9 (by decide) dX3_renderContracts_44 ?_
  exact g_sub [2, 1, 0] rfl (hJ9 _ _ _ _ h)
def wp_X3_renderContracts_47 (ad : Nat → Nat) (X : Nat → gS → Prop) (K : Int32 → gS → Prop) (G : gS) (t0 : Nat) (x1 : Int32) : Prop :=
  wPut G t0 0 13 (.int x1) fun G1 => K x1 G1
theorem w_X3_renderContracts_47 {C : gCx} (hC : gOk C "GoblinHouseholdModel" cX3_renderContracts [] (some .int) "renderContracts" 3 3 94) {K : Int32 → gS → Prop} {X : Nat → gS → Prop} (hK : ∀ r G, K r G → cxK C (some (vI r)) G) (hX : ∀ q G, X q G → cxX C q G) {G : gS} {t0 : Nat} {x1 : Int32} (h : wp_X3_renderContracts_47 (cxA C) X K G t0 x1) : gGo C G 47 [(0, vQ (some t0)), (1, vI x1)] [] := by
  unfold wp_X3_renderContracts_47 at h
  refine g_aload_n hC (pc := 47) 0 rfl rfl dX3_renderContracts_47 ?_
  refine g_iload_n hC (pc := 48) 1 rfl rfl dX3_renderContracts_48 ?_
  refine g_put hC (pc := 49) in_X3 (ci := 0) rfl 13 (by decide) tyX3_ok nmX3 q2490 (Or.inl rfl) rfl rfl rfl h dX3_renderContracts_49 (fun G1 h => ?_)
  refine g_iload_n hC (pc := 52) 1 rfl rfl dX3_renderContracts_52 ?_
  exact g_iret hC (pc := 53) (hK _ _ h) dX3_renderContracts_53
def wp_X3_renderContracts_9 (ad : Nat → Nat) (X : Nat → gS → Prop) (K : Int32 → gS → Prop) (J9 : gS → Nat → Int32 → Int32 → Prop) (G : gS) (t0 : Nat) (x1 : Int32) (x2 : Int32) : Prop :=
  wGetQ G t0 0 0 fun q1 => wNN q1 fun c2 => wAldI G c2 (11 : Int32) fun i3 => (i3 ≤ x2 → wp_X3_renderContracts_47 ad X K G t0 x1) ∧ (¬ i3 ≤ x2 → (¬ x2 = (0 : Int32) → (gIs G t0 0 ∧ wp_X3_put ad G t0 x1 (32 : Int32) X (fun r5 G4 => wp_X3_renderContracts_36 ad X K J9 G4 t0 x2 r5 t0))) ∧ (x2 = (0 : Int32) → wp_X3_renderContracts_36 ad X K J9 G t0 x2 x1 t0))
theorem w_X3_renderContracts_9 {C : gCx} (hC : gOk C "GoblinHouseholdModel" cX3_renderContracts [] (some .int) "renderContracts" 3 3 94) {K : Int32 → gS → Prop} {X : Nat → gS → Prop} (hK : ∀ r G, K r G → cxK C (some (vI r)) G) (hX : ∀ q G, X q G → cxX C q G) (n : Nat) : ∀ (G : gS) (t0 : Nat) (x1 : Int32) (x2 : Int32), gLoop (fun _ _ _ _ => False) (wp_X3_renderContracts_9 (cxA C) X K) n G t0 x1 x2 → gGo C G 9 [(0, vQ (some t0)), (1, vI x1), (2, vI x2)] [] := by
  induction n with
  | zero => intro G t0 x1 x2 h; exact h.elim
  | succ n ih =>
    intro G t0 x1 x2 h
    have hJ9 := ih
    replace h : wp_X3_renderContracts_9 (cxA C) X K _ G t0 x1 x2 := h
    unfold wp_X3_renderContracts_9 at h
    refine g_iload_n hC (pc := 9) 2 rfl rfl dX3_renderContracts_9 ?_
    refine g_aload_n hC (pc := 10) 0 rfl rfl dX3_renderContracts_10 ?_
    refine g_getQ hC (pc := 11) in_X3 (ci := 0) rfl 0 (by decide) q2477 (Or.inl rfl) h dX3_renderContracts_11 (fun q1 h => ?_)
    refine g_bipush hC (pc := 14) (v := (11 : Int32)) (by decide) dX3_renderContracts_14 ?_
    rcases q1 with _ | c2
    · exact (gNN0 h).elim
    replace h := gNN1 h
    refine g_aldI hC (pc := 16) h dX3_renderContracts_16 (fun i3 h => ?_)
    refine g_icmp_ge hC (pc := 17) 47 h (by decide) dX3_renderContracts_17 (fun h => ?_) (fun h => ?_)
    · exact g_sub [0, 1] rfl (w_X3_renderContracts_47 hC hK hX h)
    · refine g_aload_n hC (pc := 20) 0 rfl rfl dX3_renderContracts_20 ?_
      refine g_iload_n hC (pc := 21) 2 rfl rfl dX3_renderContracts_21 ?_
      refine g_if_ne hC (pc := 22) 29 h (by decide) dX3_renderContracts_22 (fun h => ?_) (fun h => ?_)
      · refine g_aload_n hC (pc := 29) 0 rfl rfl dX3_renderContracts_29 ?_
        refine g_iload_n hC (pc := 30) 1 rfl rfl dX3_renderContracts_30 ?_
        refine g_bipush hC (pc := 31) (v := (32 : Int32)) (by decide) dX3_renderContracts_31 ?_
        obtain ⟨hi, h⟩ := h
        refine g_callV hC (pc := 33) (ci := 0) (As := [vI x1, vI (32 : Int32)]) gc_X3_put (m_X3_put hC.fl h) rfl hi q2910 q2912 qs81 (gle rfl) (gle rfl) rfl (gle rfl) rfl dX3_renderContracts_33 (gk_i fun r5 G4 h => ?_) (fun _ _ h hio => g_out0 hC (hX _ _ h) hio)
        exact g_sub [0, 2] rfl (w_X3_renderContracts_36 hC hK hX hJ9 h)
      · refine g_iload_n hC (pc := 25) 1 rfl rfl dX3_renderContracts_25 ?_
        refine g_goto hC (pc := 26) 36 (by decide) dX3_renderContracts_26 ?_
        exact g_sub [0, 2] rfl (w_X3_renderContracts_36 hC hK hX hJ9 h)
def wp_X3_renderContracts (ad : Nat → Nat) (G : gS) (t0 : Nat) (X : Nat → gS → Prop) (K : Int32 → gS → Prop) : Prop :=
  wPut G t0 0 14 (.int (0 : Int32)) fun G1 => gLoop (fun _ _ _ _ => False) (wp_X3_renderContracts_9 ad X K) gFuel G1 t0 (0 : Int32) (0 : Int32)
theorem w_X3_renderContracts {C : gCx} (hC : gOk C "GoblinHouseholdModel" cX3_renderContracts [] (some .int) "renderContracts" 3 3 94) {K : Int32 → gS → Prop} {X : Nat → gS → Prop} (hK : ∀ r G, K r G → cxK C (some (vI r)) G) (hX : ∀ q G, X q G → cxX C q G) {G : gS} {t0 : Nat} (h : wp_X3_renderContracts (cxA C) G t0 X K) : gGo C G 0 [(0, vQ (some t0))] [] := by
  unfold wp_X3_renderContracts at h
  refine g_aload_n hC (pc := 0) 0 rfl rfl dX3_renderContracts_0 ?_
  refine g_iconst hC (pc := 1) (v := (0 : Int32)) (by decide) dX3_renderContracts_1 ?_
  refine g_put hC (pc := 2) in_X3 (ci := 0) rfl 14 (by decide) tyX3_ok nmX3 q2491 (Or.inl rfl) rfl rfl rfl h dX3_renderContracts_2 (fun G1 h => ?_)
  refine g_iconst hC (pc := 5) (v := (0 : Int32)) (by decide) dX3_renderContracts_5 ?_
  refine g_istore_n hC (pc := 6) (lv' := [(1, vI (0 : Int32)), (0, vQ (some t0))]) rfl (by decide) rfl dX3_renderContracts_6 ?_
  refine g_iconst hC (pc := 7) (v := (0 : Int32)) (by decide) dX3_renderContracts_7 ?_
  refine g_istore_n hC (pc := 8) (lv' := [(2, vI (0 : Int32)), (1, vI (0 : Int32)), (0, vQ (some t0))]) rfl (by decide) rfl dX3_renderContracts_8 ?_
  exact g_sub [2, 1, 0] rfl (w_X3_renderContracts_9 hC hK hX gFuel _ _ _ _ h)
theorem gc_X3_renderContracts : gCode yX3_renderContracts cX3_renderContracts 3 (some .int) 0 := ⟨q2917, q105, ⟨by decide, by decide⟩, rfl⟩
theorem m_X3_renderContracts {l : Launch} (hfl : l.stackTraces = false) {E : gE} {G : gS} {t0 : Nat} {X : Nat → gS → Prop} {K : Int32 → gS → Prop} (h : wp_X3_renderContracts (gAd E) G t0 X K) : gMet l yX3_renderContracts (ws_ yX3_renderContracts cX3_renderContracts 3 (some .int)) 3 94 [vQ (some t0)] E G (gRi K) X :=
  g_met hfl (plainFor_of_name (by decide +kernel)) rfl rfl rfl (gle rfl) (fun p e R s m args below meth c hC => w_X3_renderContracts hC (fun _ _ h => h) (fun _ _ h => h) h)
def wp_J7_checkIndex (ad : Nat → Nat) (G : gS) (x0 : Int32) (x1 : Int32) (X : Nat → gS → Prop) (K : gS → Prop) : Prop :=
  wp_J16_checkIndex ad G x0 x1 (gOp (ad 7)) X (fun r2 G1 => K G1)
theorem w_J7_checkIndex {C : gCx} (hC : gOk C "java/lang/String" cJ7_checkIndex [] none "checkIndex" 2 1 30) {K : gS → Prop} {X : Nat → gS → Prop} (hK : ∀ G, K G → cxK C none G) (hX : ∀ q G, X q G → cxX C q G) {G : gS} {x0 : Int32} {x1 : Int32} (h : wp_J7_checkIndex (cxA C) G x0 x1 X K) : gGo C G 0 [(0, vI x0), (1, vI x1)] [] := by
  unfold wp_J7_checkIndex at h
  refine g_iload_n hC (pc := 0) 0 rfl rfl dJ7_checkIndex_0 ?_
  refine g_iload_n hC (pc := 1) 1 rfl rfl dJ7_checkIndex_1 ?_
  refine g_statQ hC (pc := 2) (List.mem_of_getElem? (i := 2) rfl) q511 (fun _ _ h => h) dJ7_checkIndex_2 ?_
  refine g_callS hC (pc := 5) (b := 0) (As := [vI x0, vI x1, vQ (gOp (cxA C 7))]) gc_J16_checkIndex (m_J16_checkIndex hC.fl h) q2024 q373 (gle rfl) (gle rfl) rfl (gle rfl) rfl dJ7_checkIndex_5 (gk_i fun r2 G1 h => ?_) (fun _ _ h hio => g_out0 hC (hX _ _ h) hio)
  refine g_pop hC (pc := 8) rfl dJ7_checkIndex_8 ?_
  exact g_vret hC (pc := 9) (hK _ h) dJ7_checkIndex_9
theorem gc_J7_checkIndex : gCode yJ7_checkIndex cJ7_checkIndex 2 none 2 := ⟨q2023, q103, ⟨by decide, by decide⟩, rfl⟩
theorem m_J7_checkIndex {l : Launch} (hfl : l.stackTraces = false) {E : gE} {G : gS} {x0 : Int32} {x1 : Int32} {X : Nat → gS → Prop} {K : gS → Prop} (h : wp_J7_checkIndex (gAd E) G x0 x1 X K) : gMet l yJ7_checkIndex (ws_ yJ7_checkIndex cJ7_checkIndex 2 none) 1 30 [vI x0, vI x1] E G (gRv K) X :=
  g_met hfl (plainFor_of_name (by decide +kernel)) rfl rfl rfl (gle rfl) (fun p e R s m args below meth c hC => w_J7_checkIndex hC (fun _ h => h) (fun _ _ h => h) h)
def wp_J19_charAt (ad : Nat → Nat) (G : gS) (o0 : Option Nat) (x1 : Int32) (X : Nat → gS → Prop) (K : Int32 → gS → Prop) : Prop :=
  wNN o0 fun c1 => wLen G c1 fun i2 => wp_J7_checkIndex ad G x1 i2 X (fun G3 => wAldB G3 c1 x1 fun i4 => gNar .char ((((i4 &&& (255 : Int32))).toUInt32 % 65536).toInt32) ∧ K ((((i4 &&& (255 : Int32))).toUInt32 % 65536).toInt32) G3)
theorem w_J19_charAt {C : gCx} (hC : gOk C "java/lang/StringLatin1" cJ19_charAt [] (some .char) "charAt" 2 2 59) {K : Int32 → gS → Prop} {X : Nat → gS → Prop} (hK : ∀ r G, K r G → cxK C (some (vI r)) G) (hX : ∀ q G, X q G → cxX C q G) {G : gS} {o0 : Option Nat} {x1 : Int32} (h : wp_J19_charAt (cxA C) G o0 x1 X K) : gGo C G 0 [(0, vQ o0), (1, vI x1)] [] := by
  unfold wp_J19_charAt at h
  refine g_iload_n hC (pc := 0) 1 rfl rfl dJ19_charAt_0 ?_
  refine g_aload_n hC (pc := 1) 0 rfl rfl dJ19_charAt_1 ?_
  rcases o0 with _ | c1
  · exact (gNN0 h).elim
  replace h := gNN1 h
  refine g_len hC (pc := 2) h dJ19_charAt_2 (fun i2 h => ?_)
  refine g_callS hC (pc := 3) (b := 0) (As := [vI x1, vI i2]) gc_J7_checkIndex (m_J7_checkIndex hC.fl h) q2021 q2022 (gle rfl) (gle rfl) rfl (gle rfl) rfl dJ19_charAt_3 (gk_v fun G3 h => ?_) (fun _ _ h hio => g_out0 hC (hX _ _ h) hio)
  refine g_aload_n hC (pc := 6) 0 rfl rfl dJ19_charAt_6 ?_
  refine g_iload_n hC (pc := 7) 1 rfl rfl dJ19_charAt_7 ?_
  refine g_aldB hC (pc := 8) h dJ19_charAt_8 (fun i4 h => ?_)
  refine g_sipush hC (pc := 9) (v := (255 : Int32)) (by decide) dJ19_charAt_9 ?_
  refine g_iand hC (pc := 12) dJ19_charAt_12 ?_
  refine g_i2c hC (pc := 13) dJ19_charAt_13 ?_
  exact g_zret hC (pc := 14) h.1 (hK _ _ h.2) dJ19_charAt_14
theorem gc_J19_charAt : gCode yJ19_charAt cJ19_charAt 2 (some .char) 2 := ⟨q2020, q122, ⟨by decide, by decide⟩, rfl⟩
theorem m_J19_charAt {l : Launch} (hfl : l.stackTraces = false) {E : gE} {G : gS} {o0 : Option Nat} {x1 : Int32} {X : Nat → gS → Prop} {K : Int32 → gS → Prop} (h : wp_J19_charAt (gAd E) G o0 x1 X K) : gMet l yJ19_charAt (ws_ yJ19_charAt cJ19_charAt 2 (some .char)) 2 59 [vQ o0, vI x1] E G (gRi K) X :=
  g_met hfl (plainFor_of_name (by decide +kernel)) rfl rfl rfl (gle rfl) (fun p e R s m args below meth c hC => w_J19_charAt hC (fun _ _ h => h) (fun _ _ h => h) h)
def wp_J7_charAt (ad : Nat → Nat) (G : gS) (t0 : Nat) (x1 : Int32) (X : Nat → gS → Prop) (K : Int32 → gS → Prop) : Prop :=
  (gIs G t0 7 ∧ wp_J7_isLatin1 ad G t0  X (fun r2 G1 => (r2 = (0 : Int32) → wGetQ G1 t0 7 0 fun q3 => False) ∧ (¬ r2 = (0 : Int32) → wGetQ G1 t0 7 0 fun q4 => wp_J19_charAt ad G1 q4 x1 X (fun r6 G5 => gNar .char r6 ∧ K r6 G5))))
theorem w_J7_charAt {C : gCx} (hC : gOk C "java/lang/String" cJ7_charAt [] (some .char) "charAt" 2 3 88) {K : Int32 → gS → Prop} {X : Nat → gS → Prop} (hK : ∀ r G, K r G → cxK C (some (vI r)) G) (hX : ∀ q G, X q G → cxX C q G) {G : gS} {t0 : Nat} {x1 : Int32} (h : wp_J7_charAt (cxA C) G t0 x1 X K) : gGo C G 0 [(0, vQ (some t0)), (1, vI x1)] [] := by
  unfold wp_J7_charAt at h
  refine g_aload_n hC (pc := 0) 0 rfl rfl dJ7_charAt_0 ?_
  obtain ⟨hi, h⟩ := h
  refine g_callV hC (pc := 1) (ci := 7) (As := []) gc_J7_isLatin1 (m_J7_isLatin1 hC.fl h) rfl hi q1192 q1193 q1194 (gle rfl) (gle rfl) rfl (gle rfl) rfl dJ7_charAt_1 (gk_i fun r2 G1 h => ?_) (fun _ _ h hio => g_out0 hC (hX _ _ h) hio)
  refine g_if_eq hC (pc := 4) 16 h (by decide) dJ7_charAt_4 (fun h => ?_) (fun h => ?_)
  · refine g_aload_n hC (pc := 16) 0 rfl rfl dJ7_charAt_16 ?_
    refine g_getQ hC (pc := 17) in_J7 (ci := 7) rfl 0 (by decide) q683 (Or.inl rfl) h dJ7_charAt_17 (fun q3 h => ?_)
    refine g_iload_n hC (pc := 20) 1 rfl rfl dJ7_charAt_20 ?_
    exact h.elim
  · refine g_aload_n hC (pc := 7) 0 rfl rfl dJ7_charAt_7 ?_
    refine g_getQ hC (pc := 8) in_J7 (ci := 7) rfl 0 (by decide) q683 (Or.inl rfl) h dJ7_charAt_8 (fun q4 h => ?_)
    refine g_iload_n hC (pc := 11) 1 rfl rfl dJ7_charAt_11 ?_
    refine g_callS hC (pc := 12) (b := 0) (As := [vQ q4, vI x1]) gc_J19_charAt (m_J19_charAt hC.fl h) q2018 q2019 (gle rfl) (gle rfl) rfl (gle rfl) rfl dJ7_charAt_12 (gk_i fun r6 G5 h => ?_) (fun _ _ h hio => g_out0 hC (hX _ _ h) hio)
    exact g_zret hC (pc := 15) h.1 (hK _ _ h.2) dJ7_charAt_15
theorem gc_J7_charAt : gCode yJ7_charAt cJ7_charAt 2 (some .char) 1 := ⟨q2017, q103, ⟨by decide, by decide⟩, rfl⟩
theorem m_J7_charAt {l : Launch} (hfl : l.stackTraces = false) {E : gE} {G : gS} {t0 : Nat} {x1 : Int32} {X : Nat → gS → Prop} {K : Int32 → gS → Prop} (h : wp_J7_charAt (gAd E) G t0 x1 X K) : gMet l yJ7_charAt (ws_ yJ7_charAt cJ7_charAt 2 (some .char)) 3 88 [vQ (some t0), vI x1] E G (gRi K) X :=
  g_met hfl (plainFor_of_name (by decide +kernel)) rfl rfl rfl (gle rfl) (fun p e R s m args below meth c hC => w_J7_charAt hC (fun _ _ h => h) (fun _ _ h => h) h)
def wp_X1_outputAt (ad : Nat → Nat) (G : gS) (t0 : Nat) (x1 : Int32) (X : Nat → gS → Prop) (K : Int32 → gS → Prop) : Prop :=
  wGetQ G t0 1 6 fun q1 => wNN q1 fun c2 => (gIs G c2 7 ∧ wp_J7_length ad G c2  X (fun r4 G3 => wp_X1_isBetween ad G3 x1 (0 : Int32) (r4 - (1 : Int32)) X (fun r6 G5 => wp_X1_checkIndex ad G5 r6 X (fun G7 => wGetQ G7 t0 1 6 fun q8 => wNN q8 fun c9 => (gIs G7 c9 7 ∧ wp_J7_charAt ad G7 c9 x1 X (fun r11 G10 => gNar .char r11 ∧ K r11 G10))))))
theorem w_X1_outputAt {C : gCx} (hC : gOk C "GoblinHousehold" cX1_outputAt [] (some .char) "outputAt" 2 9 240) {K : Int32 → gS → Prop} {X : Nat → gS → Prop} (hK : ∀ r G, K r G → cxK C (some (vI r)) G) (hX : ∀ q G, X q G → cxX C q G) {G : gS} {t0 : Nat} {x1 : Int32} (h : wp_X1_outputAt (cxA C) G t0 x1 X K) : gGo C G 0 [(0, vQ (some t0)), (1, vI x1)] [] := by
  unfold wp_X1_outputAt at h
  refine g_iload_n hC (pc := 0) 1 rfl rfl dX1_outputAt_0 ?_
  refine g_iconst hC (pc := 1) (v := (0 : Int32)) (by decide) dX1_outputAt_1 ?_
  refine g_aload_n hC (pc := 2) 0 rfl rfl dX1_outputAt_2 ?_
  refine g_getQ hC (pc := 3) in_X1 (ci := 1) rfl 6 (by decide) q298 (Or.inl rfl) h dX1_outputAt_3 (fun q1 h => ?_)
  rcases q1 with _ | c2
  · exact (gNN0 h).elim
  replace h := gNN1 h
  obtain ⟨hi, h⟩ := h
  refine g_callV hC (pc := 6) (ci := 7) (As := []) gc_J7_length (m_J7_length hC.fl h) rfl hi q862 q526 q527 (gle rfl) (gle rfl) rfl (gle rfl) rfl dX1_outputAt_6 (gk_i fun r4 G3 h => ?_) (fun _ _ h hio => g_out0 hC (hX _ _ h) hio)
  refine g_iconst hC (pc := 9) (v := (1 : Int32)) (by decide) dX1_outputAt_9 ?_
  refine g_isub hC (pc := 10) dX1_outputAt_10 ?_
  refine g_callS hC (pc := 11) (b := 0) (As := [vI x1, vI (0 : Int32), vI (r4 - (1 : Int32))]) gc_X1_isBetween (m_X1_isBetween hC.fl h) q1713 q884 (gle rfl) (gle rfl) rfl (gle rfl) rfl dX1_outputAt_11 (gk_i fun r6 G5 h => ?_) (fun _ _ h hio => g_out0 hC (hX _ _ h) hio)
  refine g_callS hC (pc := 14) (b := 0) (As := [vI r6]) gc_X1_checkIndex (m_X1_checkIndex hC.fl h) q1714 q1715 (gle rfl) (gle rfl) rfl (gle rfl) rfl dX1_outputAt_14 (gk_v fun G7 h => ?_) (fun _ _ h hio => g_out0 hC (hX _ _ h) hio)
  refine g_aload_n hC (pc := 17) 0 rfl rfl dX1_outputAt_17 ?_
  refine g_getQ hC (pc := 18) in_X1 (ci := 1) rfl 6 (by decide) q298 (Or.inl rfl) h dX1_outputAt_18 (fun q8 h => ?_)
  refine g_iload_n hC (pc := 21) 1 rfl rfl dX1_outputAt_21 ?_
  rcases q8 with _ | c9
  · exact (gNN0 h).elim
  replace h := gNN1 h
  obtain ⟨hi, h⟩ := h
  refine g_callV hC (pc := 22) (ci := 7) (As := [vI x1]) gc_J7_charAt (m_J7_charAt hC.fl h) rfl hi q2014 q2015 q2016 (gle rfl) (gle rfl) rfl (gle rfl) rfl dX1_outputAt_22 (gk_i fun r11 G10 h => ?_) (fun _ _ h hio => g_out0 hC (hX _ _ h) hio)
  exact g_zret hC (pc := 25) h.1 (hK _ _ h.2) dX1_outputAt_25
theorem gc_X1_outputAt : gCode yX1_outputAt cX1_outputAt 2 (some .char) 1 := ⟨q2013, q94, ⟨by decide, by decide⟩, rfl⟩
theorem m_X1_outputAt {l : Launch} (hfl : l.stackTraces = false) {E : gE} {G : gS} {t0 : Nat} {x1 : Int32} {X : Nat → gS → Prop} {K : Int32 → gS → Prop} (h : wp_X1_outputAt (gAd E) G t0 x1 X K) : gMet l yX1_outputAt (ws_ yX1_outputAt cX1_outputAt 2 (some .char)) 9 240 [vQ (some t0), vI x1] E G (gRi K) X :=
  g_met hfl (plainFor_of_name (by decide +kernel)) rfl rfl rfl (gle rfl) (fun p e R s m args below meth c hC => w_X1_outputAt hC (fun _ _ h => h) (fun _ _ h => h) h)
def wp_X0_outputAt_12 (ad : Nat → Nat) (X : Nat → gS → Prop) (K : Int32 → gS → Prop) (G : gS) (ts0 : Nat) : Prop :=
  K (1 : Int32) G
theorem w_X0_outputAt_12 {C : gCx} (hC : gOk C "GoblinHouseholdLaw" cX0_outputAt [(0, 9, 12, 23)] (some .int) "outputAt" 4 10 269) {K : Int32 → gS → Prop} {X : Nat → gS → Prop} (hK : ∀ r G, K r G → cxK C (some (vI r)) G) (hX : ∀ q G, X q G → cxX C q G) {G : gS} {ts0 : Nat} (h : wp_X0_outputAt_12 (cxA C) X K G ts0) : gGo C G 12 [] [vQ (some ts0)] := by
  unfold wp_X0_outputAt_12 at h
  refine g_astore_n hC (pc := 12) (lv' := [(3, vQ (some ts0))]) rfl (by decide) rfl dX0_outputAt_12 ?_
  refine g_iconst hC (pc := 13) (v := (1 : Int32)) (by decide) dX0_outputAt_13 ?_
  exact g_iret hC (pc := 14) (hK _ _ h) dX0_outputAt_14
def wp_X0_outputAt (ad : Nat → Nat) (G : gS) (o0 : Option Nat) (x1 : Int32) (o2 : Option Nat) (X : Nat → gS → Prop) (K : Int32 → gS → Prop) : Prop :=
  wNN o0 fun c1 => (gIs G c1 1 ∧ wp_X1_outputAt ad G c1 x1 (fun y3 G4 => (gHas G4 y3 20 ∧ (wp_X0_outputAt_12 ad X K G4 y3))) (fun r5 G2 => wNN o2 fun c6 => wAstL G2 c6 (0 : Int32) ((r5).toInt64) fun G7 => K (0 : Int32) G7))
theorem w_X0_outputAt {C : gCx} (hC : gOk C "GoblinHouseholdLaw" cX0_outputAt [(0, 9, 12, 23)] (some .int) "outputAt" 4 10 269) {K : Int32 → gS → Prop} {X : Nat → gS → Prop} (hK : ∀ r G, K r G → cxK C (some (vI r)) G) (hX : ∀ q G, X q G → cxX C q G) {G : gS} {o0 : Option Nat} {x1 : Int32} {o2 : Option Nat} (h : wp_X0_outputAt (cxA C) G o0 x1 o2 X K) : gGo C G 0 [(0, vQ o0), (1, vI x1), (2, vQ o2)] [] := by
  unfold wp_X0_outputAt at h
  refine g_aload_n hC (pc := 0) 2 rfl rfl dX0_outputAt_0 ?_
  refine g_iconst hC (pc := 1) (v := (0 : Int32)) (by decide) dX0_outputAt_1 ?_
  refine g_aload_n hC (pc := 2) 0 rfl rfl dX0_outputAt_2 ?_
  refine g_iload_n hC (pc := 3) 1 rfl rfl dX0_outputAt_3 ?_
  rcases o0 with _ | c1
  · exact (gNN0 h).elim
  replace h := gNN1 h
  obtain ⟨hi, h⟩ := h
  refine g_callV hC (pc := 4) (ci := 1) (As := [vI x1]) gc_X1_outputAt (m_X1_outputAt hC.fl h) rfl hi q2010 q2011 q2012 (gle rfl) (gle rfl) rfl (gle rfl) rfl dX0_outputAt_4 (gk_i fun r5 G2 h => ?_) (fun y3 G4 h hio => ?_)
  · refine g_i2l hC (pc := 7) dX0_outputAt_7 ?_
    rcases o2 with _ | c6
    · exact (gNN0 h).elim
    replace h := gNN1 h
    refine g_astL hC (pc := 8) h dX0_outputAt_8 (fun G7 h => ?_)
    refine g_goto hC (pc := 9) 15 (by decide) dX0_outputAt_9 ?_
    refine g_iconst hC (pc := 15) (v := (0 : Int32)) (by decide) dX0_outputAt_15 ?_
    exact g_iret hC (pc := 16) (hK _ _ h) dX0_outputAt_16
  · obtain ⟨hq, h⟩ := h
    refine g_catchI hC (pc := 4) (ci := 20) rfl hq 0 rfl (fun _ h => nomatch h) rfl (by decide) q1312 (List.mem_of_getElem? (i := 2) rfl) rfl ?_
    exact g_sub [] rfl (w_X0_outputAt_12 hC hK hX h)
theorem gc_X0_outputAt : gCodeW yX0_outputAt cX0_outputAt 4 (some .int) [(0, 9, 12, 23)] 3 := ⟨q2009, q93, ⟨by decide, by decide⟩, rfl⟩
theorem m_X0_outputAt {l : Launch} (hfl : l.stackTraces = false) {E : gE} {G : gS} {o0 : Option Nat} {x1 : Int32} {o2 : Option Nat} {X : Nat → gS → Prop} {K : Int32 → gS → Prop} (h : wp_X0_outputAt (gAd E) G o0 x1 o2 X K) : gMet l yX0_outputAt (wsW_ yX0_outputAt cX0_outputAt 4 (some .int) [(0, 9, 12, 23)]) 10 269 [vQ o0, vI x1, vQ o2] E G (gRi K) X :=
  g_metW hfl (plainFor_of_name (by decide +kernel)) rfl rfl rfl (gle rfl) (fun p e R s m args below meth c hC => w_X0_outputAt hC (fun _ _ h => h) (fun _ _ h => h) h)
def wp_X3_outputAt (ad : Nat → Nat) (G : gS) (t0 : Nat) (x1 : Int32) (X : Nat → gS → Prop) (K : Int32 → gS → Prop) : Prop :=
  wGetI G t0 0 13 fun i1 => wp_X3_isIn ad G x1 (0 : Int32) (i1 - (1 : Int32)) X (fun r3 G2 => (gIs G2 t0 0 ∧ wp_X3_goes ad G2 t0 r3 X (fun r5 G4 => (r5 = (0 : Int32) → K (0 : Int32) G4) ∧ (¬ r5 = (0 : Int32) → wGetQ G4 t0 0 12 fun q6 => wNN q6 fun c7 => wAldI G4 c7 x1 fun i8 => gNar .char (((i8).toUInt32 % 65536).toInt32) ∧ K (((i8).toUInt32 % 65536).toInt32) G4))))
theorem w_X3_outputAt {C : gCx} (hC : gOk C "GoblinHouseholdModel" cX3_outputAt [] (some .char) "outputAt" 2 2 61) {K : Int32 → gS → Prop} {X : Nat → gS → Prop} (hK : ∀ r G, K r G → cxK C (some (vI r)) G) (hX : ∀ q G, X q G → cxX C q G) {G : gS} {t0 : Nat} {x1 : Int32} (h : wp_X3_outputAt (cxA C) G t0 x1 X K) : gGo C G 0 [(0, vQ (some t0)), (1, vI x1)] [] := by
  unfold wp_X3_outputAt at h
  refine g_aload_n hC (pc := 0) 0 rfl rfl dX3_outputAt_0 ?_
  refine g_iload_n hC (pc := 1) 1 rfl rfl dX3_outputAt_1 ?_
  refine g_iconst hC (pc := 2) (v := (0 : Int32)) (by decide) dX3_outputAt_2 ?_
  refine g_aload_n hC (pc := 3) 0 rfl rfl dX3_outputAt_3 ?_
  refine g_getI hC (pc := 4) in_X3 (ci := 0) rfl 13 (by decide) q2490 (Or.inl rfl) h dX3_outputAt_4 (fun i1 h => ?_)
  refine g_iconst hC (pc := 7) (v := (1 : Int32)) (by decide) dX3_outputAt_7 ?_
  refine g_isub hC (pc := 8) dX3_outputAt_8 ?_
  refine g_callS hC (pc := 9) (b := 0) (As := [vI x1, vI (0 : Int32), vI (i1 - (1 : Int32))]) gc_X3_isIn (m_X3_isIn hC.fl h) q2577 q2578 (gle rfl) (gle rfl) rfl (gle rfl) rfl dX3_outputAt_9 (gk_i fun r3 G2 h => ?_) (fun _ _ h hio => g_out0 hC (hX _ _ h) hio)
  obtain ⟨hi, h⟩ := h
  refine g_callV hC (pc := 12) (ci := 0) (As := [vI r3]) gc_X3_goes (m_X3_goes hC.fl h) rfl hi q2546 q2548 qs43 (gle rfl) (gle rfl) rfl (gle rfl) rfl dX3_outputAt_12 (gk_i fun r5 G4 h => ?_) (fun _ _ h hio => g_out0 hC (hX _ _ h) hio)
  refine g_if_eq hC (pc := 15) 28 h (by decide) dX3_outputAt_15 (fun h => ?_) (fun h => ?_)
  · refine g_iconst hC (pc := 28) (v := (0 : Int32)) (by decide) dX3_outputAt_28 ?_
    exact g_zret hC (pc := 29) rfl (hK _ _ h) dX3_outputAt_29
  · refine g_aload_n hC (pc := 18) 0 rfl rfl dX3_outputAt_18 ?_
    refine g_getQ hC (pc := 19) in_X3 (ci := 0) rfl 12 (by decide) q2489 (Or.inl rfl) h dX3_outputAt_19 (fun q6 h => ?_)
    refine g_iload_n hC (pc := 22) 1 rfl rfl dX3_outputAt_22 ?_
    rcases q6 with _ | c7
    · exact (gNN0 h).elim
    replace h := gNN1 h
    refine g_aldI hC (pc := 23) h dX3_outputAt_23 (fun i8 h => ?_)
    refine g_i2c hC (pc := 24) dX3_outputAt_24 ?_
    refine g_goto hC (pc := 25) 29 (by decide) dX3_outputAt_25 ?_
    exact g_zret hC (pc := 29) h.1 (hK _ _ h.2) dX3_outputAt_29
theorem gc_X3_outputAt : gCode yX3_outputAt cX3_outputAt 2 (some .char) 1 := ⟨q2925, q105, ⟨by decide, by decide⟩, rfl⟩
theorem m_X3_outputAt {l : Launch} (hfl : l.stackTraces = false) {E : gE} {G : gS} {t0 : Nat} {x1 : Int32} {X : Nat → gS → Prop} {K : Int32 → gS → Prop} (h : wp_X3_outputAt (gAd E) G t0 x1 X K) : gMet l yX3_outputAt (ws_ yX3_outputAt cX3_outputAt 2 (some .char)) 2 61 [vQ (some t0), vI x1] E G (gRi K) X :=
  g_met hfl (plainFor_of_name (by decide +kernel)) rfl rfl rfl (gle rfl) (fun p e R s m args below meth c hC => w_X3_outputAt hC (fun _ _ h => h) (fun _ _ h => h) h)
def wp_J19_canEncode (ad : Nat → Nat) (G : gS) (x0 : Int32) (X : Nat → gS → Prop) (K : Int32 → gS → Prop) : Prop :=
  ((255 : Int32) < x0 → K (0 : Int32) G) ∧ (¬ (255 : Int32) < x0 → K (1 : Int32) G)
theorem w_J19_canEncode {C : gCx} (hC : gOk C "java/lang/StringLatin1" cJ19_canEncode [] (some .boolean) "canEncode" 1 0 0) {K : Int32 → gS → Prop} {X : Nat → gS → Prop} (hK : ∀ r G, K r G → cxK C (some (vI r)) G) (hX : ∀ q G, X q G → cxX C q G) {G : gS} {x0 : Int32} (h : wp_J19_canEncode (cxA C) G x0 X K) : gGo C G 0 [(0, vI x0)] [] := by
  unfold wp_J19_canEncode at h
  refine g_iload_n hC (pc := 0) 0 rfl rfl dJ19_canEncode_0 ?_
  refine g_sipush hC (pc := 1) (v := (255 : Int32)) (by decide) dJ19_canEncode_1 ?_
  refine g_icmp_gt hC (pc := 4) 11 h (by decide) dJ19_canEncode_4 (fun h => ?_) (fun h => ?_)
  · refine g_iconst hC (pc := 11) (v := (0 : Int32)) (by decide) dJ19_canEncode_11 ?_
    exact g_zret hC (pc := 12) rfl (hK _ _ h) dJ19_canEncode_12
  · refine g_iconst hC (pc := 7) (v := (1 : Int32)) (by decide) dJ19_canEncode_7 ?_
    refine g_goto hC (pc := 8) 12 (by decide) dJ19_canEncode_8 ?_
    exact g_zret hC (pc := 12) rfl (hK _ _ h) dJ19_canEncode_12
theorem gc_J19_canEncode : gCode yJ19_canEncode cJ19_canEncode 1 (some .boolean) 1 := ⟨q2049, q122, ⟨by decide, by decide⟩, rfl⟩
theorem m_J19_canEncode {l : Launch} (hfl : l.stackTraces = false) {E : gE} {G : gS} {x0 : Int32} {X : Nat → gS → Prop} {K : Int32 → gS → Prop} (h : wp_J19_canEncode (gAd E) G x0 X K) : gMet l yJ19_canEncode (ws_ yJ19_canEncode cJ19_canEncode 1 (some .boolean)) 0 0 [vI x0] E G (gRi K) X :=
  g_met hfl (plainFor_of_name (by decide +kernel)) rfl rfl rfl (gle rfl) (fun p e R s m args below meth c hC => w_J19_canEncode hC (fun _ _ h => h) (fun _ _ h => h) h)
def wp_J5_append_3_56 (ad : Nat → Nat) (X : Nat → gS → Prop) (K : Option Nat → gS → Prop) (G : gS) (t0 : Nat) (x1 : Int32) : Prop :=
  wGetQ G t0 6 0 fun q1 => wGetI G t0 6 3 fun i2 => wPut G t0 6 3 (.int (i2 + (1 : Int32))) fun G3 => False
theorem w_J5_append_3_56 {C : gCx} (hC : gOk C "java/lang/AbstractStringBuilder" cJ5_append_3 [] (some (Jvm.ClassFile.FieldType.object "java/lang/AbstractStringBuilder")) "append" 2 4 124) {K : Option Nat → gS → Prop} {X : Nat → gS → Prop} (hK : ∀ r G, K r G → cxK C (some (vQ r)) G) (hX : ∀ q G, X q G → cxX C q G) {G : gS} {t0 : Nat} {x1 : Int32} (h : wp_J5_append_3_56 (cxA C) X K G t0 x1) : gGo C G 56 [(0, vQ (some t0)), (1, vI x1)] [] := by
  unfold wp_J5_append_3_56 at h
  refine g_aload_n hC (pc := 56) 0 rfl rfl dJ5_append_3_56 ?_
  refine g_getQ hC (pc := 57) in_J6 (ci := 6) rfl 0 (by decide) q276 (Or.inl rfl) h dJ5_append_3_57 (fun q1 h => ?_)
  refine g_aload_n hC (pc := 60) 0 rfl rfl dJ5_append_3_60 ?_
  refine g_dup hC (pc := 61) rfl dJ5_append_3_61 ?_
  refine g_getI hC (pc := 62) in_J6 (ci := 6) rfl 3 (by decide) q280 (Or.inl rfl) h dJ5_append_3_62 (fun i2 h => ?_)
  refine g_dup_x1 hC (pc := 65) rfl rfl dJ5_append_3_65 ?_
  refine g_iconst hC (pc := 66) (v := (1 : Int32)) (by decide) dJ5_append_3_66 ?_
  refine g_iadd hC (pc := 67) dJ5_append_3_67 ?_
  refine g_put hC (pc := 68) in_J6 (ci := 6) rfl 3 (by decide) tyJ6_ok nmJ6 q280 (Or.inl rfl) rfl rfl rfl h dJ5_append_3_68 (fun G3 h => ?_)
  refine g_iload_n hC (pc := 71) 1 rfl rfl dJ5_append_3_71 ?_
  exact h.elim
def wp_J5_append_3_45 (ad : Nat → Nat) (X : Nat → gS → Prop) (K : Option Nat → gS → Prop) (G : gS) (t0 : Nat) (x1 : Int32) : Prop :=
  (gIs G t0 6 ∧ wp_J5_isLatin1 ad G t0  X (fun r2 G1 => (r2 = (0 : Int32) → wp_J5_append_3_56 ad X K G1 t0 x1) ∧ (¬ r2 = (0 : Int32) → (gIs G1 t0 6 ∧ wp_J5_inflate ad G1 t0  X (fun G3 => wp_J5_append_3_56 ad X K G3 t0 x1)))))
theorem w_J5_append_3_45 {C : gCx} (hC : gOk C "java/lang/AbstractStringBuilder" cJ5_append_3 [] (some (Jvm.ClassFile.FieldType.object "java/lang/AbstractStringBuilder")) "append" 2 4 124) {K : Option Nat → gS → Prop} {X : Nat → gS → Prop} (hK : ∀ r G, K r G → cxK C (some (vQ r)) G) (hX : ∀ q G, X q G → cxX C q G) {G : gS} {t0 : Nat} {x1 : Int32} (h : wp_J5_append_3_45 (cxA C) X K G t0 x1) : gGo C G 45 [(0, vQ (some t0)), (1, vI x1)] [] := by
  unfold wp_J5_append_3_45 at h
  refine g_aload_n hC (pc := 45) 0 rfl rfl dJ5_append_3_45 ?_
  obtain ⟨hi, h⟩ := h
  refine g_callV hC (pc := 46) (ci := 6) (As := []) gc_J5_isLatin1 (m_J5_isLatin1 hC.fl h) rfl hi q494 q495 q497 (gle rfl) (gle rfl) rfl (gle rfl) rfl dJ5_append_3_46 (gk_i fun r2 G1 h => ?_) (fun _ _ h hio => g_out0 hC (hX _ _ h) hio)
  refine g_if_eq hC (pc := 49) 56 h (by decide) dJ5_append_3_49 (fun h => ?_) (fun h => ?_)
  · exact g_sub [0, 1] rfl (w_J5_append_3_56 hC hK hX h)
  · refine g_aload_n hC (pc := 52) 0 rfl rfl dJ5_append_3_52 ?_
    obtain ⟨hi, h⟩ := h
    refine g_callP hC (pc := 53) (ci := 6) (As := []) gc_J5_inflate (m_J5_inflate hC.fl h) rfl hi q543 q2996 (List.mem_of_getElem? (i := 5) rfl) q545 (gle rfl) (gle rfl) rfl (gle rfl) rfl dJ5_append_3_53 (gk_v fun G3 h => ?_) (fun _ _ h hio => g_out0 hC (hX _ _ h) hio)
    exact g_sub [0, 1] rfl (w_J5_append_3_56 hC hK hX h)
def wp_J5_append_3 (ad : Nat → Nat) (G : gS) (t0 : Nat) (x1 : Int32) (X : Nat → gS → Prop) (K : Option Nat → gS → Prop) : Prop :=
  wGetI G t0 6 3 fun i1 => (gIs G t0 6 ∧ wp_J5_ensureCapacityInternal ad G t0 (i1 + (1 : Int32)) X (fun G2 => (gIs G2 t0 6 ∧ wp_J5_isLatin1 ad G2 t0  X (fun r4 G3 => (r4 = (0 : Int32) → wp_J5_append_3_45 ad X K G3 t0 x1) ∧ (¬ r4 = (0 : Int32) → wp_J19_canEncode ad G3 x1 X (fun r6 G5 => (r6 = (0 : Int32) → wp_J5_append_3_45 ad X K G5 t0 x1) ∧ (¬ r6 = (0 : Int32) → wGetQ G5 t0 6 0 fun q7 => wGetI G5 t0 6 3 fun i8 => wPut G5 t0 6 3 (.int (i8 + (1 : Int32))) fun G9 => wNN q7 fun c10 => wAstB G9 c10 i8 ((x1).toInt8.toInt32) fun G11 => K (some t0) G11)))))))
theorem w_J5_append_3 {C : gCx} (hC : gOk C "java/lang/AbstractStringBuilder" cJ5_append_3 [] (some (Jvm.ClassFile.FieldType.object "java/lang/AbstractStringBuilder")) "append" 2 4 124) {K : Option Nat → gS → Prop} {X : Nat → gS → Prop} (hK : ∀ r G, K r G → cxK C (some (vQ r)) G) (hX : ∀ q G, X q G → cxX C q G) {G : gS} {t0 : Nat} {x1 : Int32} (h : wp_J5_append_3 (cxA C) G t0 x1 X K) : gGo C G 0 [(0, vQ (some t0)), (1, vI x1)] [] := by
  unfold wp_J5_append_3 at h
  refine g_aload_n hC (pc := 0) 0 rfl rfl dJ5_append_3_0 ?_
  refine g_aload_n hC (pc := 1) 0 rfl rfl dJ5_append_3_1 ?_
  refine g_getI hC (pc := 2) in_J6 (ci := 6) rfl 3 (by decide) q280 (Or.inl rfl) h dJ5_append_3_2 (fun i1 h => ?_)
  refine g_iconst hC (pc := 5) (v := (1 : Int32)) (by decide) dJ5_append_3_5 ?_
  refine g_iadd hC (pc := 6) dJ5_append_3_6 ?_
  obtain ⟨hi, h⟩ := h
  refine g_callP hC (pc := 7) (ci := 6) (As := [vI (i1 + (1 : Int32))]) gc_J5_ensureCapacityInternal (m_J5_ensureCapacityInternal hC.fl h) rfl hi q459 q2992 (List.mem_of_getElem? (i := 1) rfl) q461 (gle rfl) (gle rfl) rfl (gle rfl) rfl dJ5_append_3_7 (gk_v fun G2 h => ?_) (fun _ _ h hio => g_out0 hC (hX _ _ h) hio)
  refine g_aload_n hC (pc := 10) 0 rfl rfl dJ5_append_3_10 ?_
  obtain ⟨hi, h⟩ := h
  refine g_callV hC (pc := 11) (ci := 6) (As := []) gc_J5_isLatin1 (m_J5_isLatin1 hC.fl h) rfl hi q494 q495 q497 (gle rfl) (gle rfl) rfl (gle rfl) rfl dJ5_append_3_11 (gk_i fun r4 G3 h => ?_) (fun _ _ h hio => g_out0 hC (hX _ _ h) hio)
  refine g_if_eq hC (pc := 14) 45 h (by decide) dJ5_append_3_14 (fun h => ?_) (fun h => ?_)
  · exact g_sub [0, 1] rfl (w_J5_append_3_45 hC hK hX h)
  · refine g_iload_n hC (pc := 17) 1 rfl rfl dJ5_append_3_17 ?_
    refine g_callS hC (pc := 18) (b := 0) (As := [vI x1]) gc_J19_canEncode (m_J19_canEncode hC.fl h) q2047 q2048 (gle rfl) (gle rfl) rfl (gle rfl) rfl dJ5_append_3_18 (gk_i fun r6 G5 h => ?_) (fun _ _ h hio => g_out0 hC (hX _ _ h) hio)
    refine g_if_eq hC (pc := 21) 45 h (by decide) dJ5_append_3_21 (fun h => ?_) (fun h => ?_)
    · exact g_sub [0, 1] rfl (w_J5_append_3_45 hC hK hX h)
    · refine g_aload_n hC (pc := 24) 0 rfl rfl dJ5_append_3_24 ?_
      refine g_getQ hC (pc := 25) in_J6 (ci := 6) rfl 0 (by decide) q276 (Or.inl rfl) h dJ5_append_3_25 (fun q7 h => ?_)
      refine g_aload_n hC (pc := 28) 0 rfl rfl dJ5_append_3_28 ?_
      refine g_dup hC (pc := 29) rfl dJ5_append_3_29 ?_
      refine g_getI hC (pc := 30) in_J6 (ci := 6) rfl 3 (by decide) q280 (Or.inl rfl) h dJ5_append_3_30 (fun i8 h => ?_)
      refine g_dup_x1 hC (pc := 33) rfl rfl dJ5_append_3_33 ?_
      refine g_iconst hC (pc := 34) (v := (1 : Int32)) (by decide) dJ5_append_3_34 ?_
      refine g_iadd hC (pc := 35) dJ5_append_3_35 ?_
      refine g_put hC (pc := 36) in_J6 (ci := 6) rfl 3 (by decide) tyJ6_ok nmJ6 q280 (Or.inl rfl) rfl rfl rfl h dJ5_append_3_36 (fun G9 h => ?_)
      refine g_iload_n hC (pc := 39) 1 rfl rfl dJ5_append_3_39 ?_
      refine g_i2b hC (pc := 40) dJ5_append_3_40 ?_
      rcases q7 with _ | c10
      · exact (gNN0 h).elim
      replace h := gNN1 h
      refine g_astB hC (pc := 41) h dJ5_append_3_41 (fun G11 h => ?_)
      refine g_goto hC (pc := 42) 75 (by decide) dJ5_append_3_42 ?_
      refine g_aload_n hC (pc := 75) 0 rfl rfl dJ5_append_3_75 ?_
      exact g_aret hC (pc := 76) (Or.inl ⟨_, rfl⟩) (hK _ _ h) dJ5_append_3_76
theorem gc_J5_append_3 : gCode yJ5_append_3 cJ5_append_3 2 (some (Jvm.ClassFile.FieldType.object "java/lang/AbstractStringBuilder")) 1 := ⟨q2046, q101, ⟨by decide, by decide⟩, rfl⟩
theorem m_J5_append_3 {l : Launch} (hfl : l.stackTraces = false) {E : gE} {G : gS} {t0 : Nat} {x1 : Int32} {X : Nat → gS → Prop} {K : Option Nat → gS → Prop} (h : wp_J5_append_3 (gAd E) G t0 x1 X K) : gMet l yJ5_append_3 (ws_ yJ5_append_3 cJ5_append_3 2 (some (Jvm.ClassFile.FieldType.object "java/lang/AbstractStringBuilder"))) 4 124 [vQ (some t0), vI x1] E G (gRq K) X :=
  g_met hfl (plainFor_of_name (by decide +kernel)) rfl rfl rfl (gle rfl) (fun p e R s m args below meth c hC => w_J5_append_3 hC (fun _ _ h => h) (fun _ _ h => h) h)
def wp_J6_append_3 (ad : Nat → Nat) (G : gS) (t0 : Nat) (x1 : Int32) (X : Nat → gS → Prop) (K : Option Nat → gS → Prop) : Prop :=
  (gIs G t0 6 ∧ wp_J5_append_3 ad G t0 x1 X (fun q2 G1 => K (some t0) G1))
theorem w_J6_append_3 {C : gCx} (hC : gOk C "java/lang/StringBuilder" cJ6_append_3 [] (some (Jvm.ClassFile.FieldType.object "java/lang/StringBuilder")) "append" 2 5 153) {K : Option Nat → gS → Prop} {X : Nat → gS → Prop} (hK : ∀ r G, K r G → cxK C (some (vQ r)) G) (hX : ∀ q G, X q G → cxX C q G) {G : gS} {t0 : Nat} {x1 : Int32} (h : wp_J6_append_3 (cxA C) G t0 x1 X K) : gGo C G 0 [(0, vQ (some t0)), (1, vI x1)] [] := by
  unfold wp_J6_append_3 at h
  refine g_aload_n hC (pc := 0) 0 rfl rfl dJ6_append_3_0 ?_
  refine g_iload_n hC (pc := 1) 1 rfl rfl dJ6_append_3_1 ?_
  obtain ⟨hi, h⟩ := h
  refine g_callSU hC (pc := 2) (ci := 6) (As := [vI x1]) gc_J5_append_3 (m_J5_append_3 hC.fl h) rfl hi q2044 q3000 q289 q2045 (by decide) (gle rfl) (gle rfl) rfl (gle rfl) rfl dJ6_append_3_2 (gk_q fun q2 G1 h => ?_) (fun _ _ h hio => g_out0 hC (hX _ _ h) hio)
  refine g_pop hC (pc := 5) rfl dJ6_append_3_5 ?_
  refine g_aload_n hC (pc := 6) 0 rfl rfl dJ6_append_3_6 ?_
  exact g_aret hC (pc := 7) (Or.inl ⟨_, rfl⟩) (hK _ _ h) dJ6_append_3_7
theorem gc_J6_append_3 : gCode yJ6_append_3 cJ6_append_3 2 (some (Jvm.ClassFile.FieldType.object "java/lang/StringBuilder")) 1 := ⟨q2043, q102, ⟨by decide, by decide⟩, rfl⟩
theorem m_J6_append_3 {l : Launch} (hfl : l.stackTraces = false) {E : gE} {G : gS} {t0 : Nat} {x1 : Int32} {X : Nat → gS → Prop} {K : Option Nat → gS → Prop} (h : wp_J6_append_3 (gAd E) G t0 x1 X K) : gMet l yJ6_append_3 (ws_ yJ6_append_3 cJ6_append_3 2 (some (Jvm.ClassFile.FieldType.object "java/lang/StringBuilder"))) 5 153 [vQ (some t0), vI x1] E G (gRq K) X :=
  g_met hfl (plainFor_of_name (by decide +kernel)) rfl rfl rfl (gle rfl) (fun p e R s m args below meth c hC => w_J6_append_3 hC (fun _ _ h => h) (fun _ _ h => h) h)
def wp_X1_type_28 (ad : Nat → Nat) (X : Nat → gS → Prop) (K : Int32 → gS → Prop) (G : gS) (t0 : Nat) (x1 : Int32) (xs0 : Int32) : Prop :=
  wp_X1_checkState ad G xs0 X (fun G1 => wGetQ G1 t0 1 3 fun q2 => wNN q2 fun c3 => (gIs G1 c3 6 ∧ wp_J6_append_3 ad G1 c3 x1 X (fun q5 G4 => wGetQ G4 t0 1 3 fun q6 => wNN q6 fun c7 => (gIs G4 c7 6 ∧ wp_J6_length ad G4 c7  X (fun r9 G8 => K r9 G8)))))
theorem w_X1_type_28 {C : gCx} (hC : gOk C "GoblinHousehold" cX1_type [] (some .int) "type" 2 9 240) {K : Int32 → gS → Prop} {X : Nat → gS → Prop} (hK : ∀ r G, K r G → cxK C (some (vI r)) G) (hX : ∀ q G, X q G → cxX C q G) {G : gS} {t0 : Nat} {x1 : Int32} {xs0 : Int32} (h : wp_X1_type_28 (cxA C) X K G t0 x1 xs0) : gGo C G 28 [(0, vQ (some t0)), (1, vI x1)] [vI xs0] := by
  unfold wp_X1_type_28 at h
  refine g_callS hC (pc := 28) (b := 0) (As := [vI xs0]) gc_X1_checkState (m_X1_checkState hC.fl h) q1918 q1919 (gle rfl) (gle rfl) rfl (gle rfl) rfl dX1_type_28 (gk_v fun G1 h => ?_) (fun _ _ h hio => g_out0 hC (hX _ _ h) hio)
  refine g_aload_n hC (pc := 31) 0 rfl rfl dX1_type_31 ?_
  refine g_getQ hC (pc := 32) in_X1 (ci := 1) rfl 3 (by decide) q295 (Or.inl rfl) h dX1_type_32 (fun q2 h => ?_)
  refine g_iload_n hC (pc := 35) 1 rfl rfl dX1_type_35 ?_
  rcases q2 with _ | c3
  · exact (gNN0 h).elim
  replace h := gNN1 h
  obtain ⟨hi, h⟩ := h
  refine g_callV hC (pc := 36) (ci := 6) (As := [vI x1]) gc_J6_append_3 (m_J6_append_3 hC.fl h) rfl hi q2040 q2041 q2042 (gle rfl) (gle rfl) rfl (gle rfl) rfl dX1_type_36 (gk_q fun q5 G4 h => ?_) (fun _ _ h hio => g_out0 hC (hX _ _ h) hio)
  refine g_pop hC (pc := 39) rfl dX1_type_39 ?_
  refine g_aload_n hC (pc := 40) 0 rfl rfl dX1_type_40 ?_
  refine g_getQ hC (pc := 41) in_X1 (ci := 1) rfl 3 (by decide) q295 (Or.inl rfl) h dX1_type_41 (fun q6 h => ?_)
  rcases q6 with _ | c7
  · exact (gNN0 h).elim
  replace h := gNN1 h
  obtain ⟨hi, h⟩ := h
  refine g_callV hC (pc := 44) (ci := 6) (As := []) gc_J6_length (m_J6_length hC.fl h) rfl hi q2039 q616 q2999 (gle rfl) (gle rfl) rfl (gle rfl) rfl dX1_type_44 (gk_i fun r9 G8 h => ?_) (fun _ _ h hio => g_out0 hC (hX _ _ h) hio)
  exact g_iret hC (pc := 47) (hK _ _ h) dX1_type_47
def wp_X1_type (ad : Nat → Nat) (G : gS) (t0 : Nat) (x1 : Int32) (X : Nat → gS → Prop) (K : Int32 → gS → Prop) : Prop :=
  wp_X1_isBetween ad G x1 (32 : Int32) (126 : Int32) X (fun r2 G1 => wp_X1_checkArgument ad G1 r2 X (fun G3 => wGetQ G3 t0 1 3 fun q4 => wNN q4 fun c5 => (gIs G3 c5 6 ∧ wp_J6_length ad G3 c5  X (fun r7 G6 => ((60 : Int32) ≤ r7 → wp_X1_type_28 ad X K G6 t0 x1 (0 : Int32)) ∧ (¬ (60 : Int32) ≤ r7 → wp_X1_type_28 ad X K G6 t0 x1 (1 : Int32))))))
theorem w_X1_type {C : gCx} (hC : gOk C "GoblinHousehold" cX1_type [] (some .int) "type" 2 9 240) {K : Int32 → gS → Prop} {X : Nat → gS → Prop} (hK : ∀ r G, K r G → cxK C (some (vI r)) G) (hX : ∀ q G, X q G → cxX C q G) {G : gS} {t0 : Nat} {x1 : Int32} (h : wp_X1_type (cxA C) G t0 x1 X K) : gGo C G 0 [(0, vQ (some t0)), (1, vI x1)] [] := by
  unfold wp_X1_type at h
  refine g_iload_n hC (pc := 0) 1 rfl rfl dX1_type_0 ?_
  refine g_bipush hC (pc := 1) (v := (32 : Int32)) (by decide) dX1_type_1 ?_
  refine g_bipush hC (pc := 3) (v := (126 : Int32)) (by decide) dX1_type_3 ?_
  refine g_callS hC (pc := 5) (b := 0) (As := [vI x1, vI (32 : Int32), vI (126 : Int32)]) gc_X1_isBetween (m_X1_isBetween hC.fl h) q1713 q884 (gle rfl) (gle rfl) rfl (gle rfl) rfl dX1_type_5 (gk_i fun r2 G1 h => ?_) (fun _ _ h hio => g_out0 hC (hX _ _ h) hio)
  refine g_callS hC (pc := 8) (b := 0) (As := [vI r2]) gc_X1_checkArgument (m_X1_checkArgument hC.fl h) q1930 q1931 (gle rfl) (gle rfl) rfl (gle rfl) rfl dX1_type_8 (gk_v fun G3 h => ?_) (fun _ _ h hio => g_out0 hC (hX _ _ h) hio)
  refine g_aload_n hC (pc := 11) 0 rfl rfl dX1_type_11 ?_
  refine g_getQ hC (pc := 12) in_X1 (ci := 1) rfl 3 (by decide) q295 (Or.inl rfl) h dX1_type_12 (fun q4 h => ?_)
  rcases q4 with _ | c5
  · exact (gNN0 h).elim
  replace h := gNN1 h
  obtain ⟨hi, h⟩ := h
  refine g_callV hC (pc := 15) (ci := 6) (As := []) gc_J6_length (m_J6_length hC.fl h) rfl hi q2039 q616 q2999 (gle rfl) (gle rfl) rfl (gle rfl) rfl dX1_type_15 (gk_i fun r7 G6 h => ?_) (fun _ _ h hio => g_out0 hC (hX _ _ h) hio)
  refine g_bipush hC (pc := 18) (v := (60 : Int32)) (by decide) dX1_type_18 ?_
  refine g_icmp_ge hC (pc := 20) 27 h (by decide) dX1_type_20 (fun h => ?_) (fun h => ?_)
  · refine g_iconst hC (pc := 27) (v := (0 : Int32)) (by decide) dX1_type_27 ?_
    exact g_sub [0, 1] rfl (w_X1_type_28 hC hK hX h)
  · refine g_iconst hC (pc := 23) (v := (1 : Int32)) (by decide) dX1_type_23 ?_
    refine g_goto hC (pc := 24) 28 (by decide) dX1_type_24 ?_
    exact g_sub [0, 1] rfl (w_X1_type_28 hC hK hX h)
theorem gc_X1_type : gCode yX1_type cX1_type 2 (some .int) 1 := ⟨q2038, q94, ⟨by decide, by decide⟩, rfl⟩
theorem m_X1_type {l : Launch} (hfl : l.stackTraces = false) {E : gE} {G : gS} {t0 : Nat} {x1 : Int32} {X : Nat → gS → Prop} {K : Int32 → gS → Prop} (h : wp_X1_type (gAd E) G t0 x1 X K) : gMet l yX1_type (ws_ yX1_type cX1_type 2 (some .int)) 9 240 [vQ (some t0), vI x1] E G (gRi K) X :=
  g_met hfl (plainFor_of_name (by decide +kernel)) rfl rfl rfl (gle rfl) (fun p e R s m args below meth c hC => w_X1_type hC (fun _ _ h => h) (fun _ _ h => h) h)
def wp_X0_type_12 (ad : Nat → Nat) (X : Nat → gS → Prop) (K : Int32 → gS → Prop) (G : gS) (ts0 : Nat) : Prop :=
  K (1 : Int32) G
theorem w_X0_type_12 {C : gCx} (hC : gOk C "GoblinHouseholdLaw" cX0_type [(0, 9, 12, 13), (0, 9, 15, 15)] (some .int) "type" 4 10 269) {K : Int32 → gS → Prop} {X : Nat → gS → Prop} (hK : ∀ r G, K r G → cxK C (some (vI r)) G) (hX : ∀ q G, X q G → cxX C q G) {G : gS} {ts0 : Nat} (h : wp_X0_type_12 (cxA C) X K G ts0) : gGo C G 12 [] [vQ (some ts0)] := by
  unfold wp_X0_type_12 at h
  refine g_astore_n hC (pc := 12) (lv' := [(3, vQ (some ts0))]) rfl (by decide) rfl dX0_type_12 ?_
  refine g_iconst hC (pc := 13) (v := (1 : Int32)) (by decide) dX0_type_13 ?_
  exact g_iret hC (pc := 14) (hK _ _ h) dX0_type_14
def wp_X0_type_15 (ad : Nat → Nat) (X : Nat → gS → Prop) (K : Int32 → gS → Prop) (G : gS) (ts0 : Nat) : Prop :=
  K (2 : Int32) G
theorem w_X0_type_15 {C : gCx} (hC : gOk C "GoblinHouseholdLaw" cX0_type [(0, 9, 12, 13), (0, 9, 15, 15)] (some .int) "type" 4 10 269) {K : Int32 → gS → Prop} {X : Nat → gS → Prop} (hK : ∀ r G, K r G → cxK C (some (vI r)) G) (hX : ∀ q G, X q G → cxX C q G) {G : gS} {ts0 : Nat} (h : wp_X0_type_15 (cxA C) X K G ts0) : gGo C G 15 [] [vQ (some ts0)] := by
  unfold wp_X0_type_15 at h
  refine g_astore_n hC (pc := 15) (lv' := [(3, vQ (some ts0))]) rfl (by decide) rfl dX0_type_15 ?_
  refine g_iconst hC (pc := 16) (v := (2 : Int32)) (by decide) dX0_type_16 ?_
  exact g_iret hC (pc := 17) (hK _ _ h) dX0_type_17
def wp_X0_type (ad : Nat → Nat) (G : gS) (o0 : Option Nat) (x1 : Int32) (o2 : Option Nat) (X : Nat → gS → Prop) (K : Int32 → gS → Prop) : Prop :=
  wNN o0 fun c1 => (gIs G c1 1 ∧ wp_X1_type ad G c1 x1 (fun y3 G4 => (gHas G4 y3 21 ∧ (wp_X0_type_12 ad X K G4 y3)) ∨ (gHas G4 y3 22 ∧ (wp_X0_type_15 ad X K G4 y3))) (fun r5 G2 => wNN o2 fun c6 => wAstL G2 c6 (0 : Int32) ((r5).toInt64) fun G7 => K (0 : Int32) G7))
theorem w_X0_type {C : gCx} (hC : gOk C "GoblinHouseholdLaw" cX0_type [(0, 9, 12, 13), (0, 9, 15, 15)] (some .int) "type" 4 10 269) {K : Int32 → gS → Prop} {X : Nat → gS → Prop} (hK : ∀ r G, K r G → cxK C (some (vI r)) G) (hX : ∀ q G, X q G → cxX C q G) {G : gS} {o0 : Option Nat} {x1 : Int32} {o2 : Option Nat} (h : wp_X0_type (cxA C) G o0 x1 o2 X K) : gGo C G 0 [(0, vQ o0), (1, vI x1), (2, vQ o2)] [] := by
  unfold wp_X0_type at h
  refine g_aload_n hC (pc := 0) 2 rfl rfl dX0_type_0 ?_
  refine g_iconst hC (pc := 1) (v := (0 : Int32)) (by decide) dX0_type_1 ?_
  refine g_aload_n hC (pc := 2) 0 rfl rfl dX0_type_2 ?_
  refine g_iload_n hC (pc := 3) 1 rfl rfl dX0_type_3 ?_
  rcases o0 with _ | c1
  · exact (gNN0 h).elim
  replace h := gNN1 h
  obtain ⟨hi, h⟩ := h
  refine g_callV hC (pc := 4) (ci := 1) (As := [vI x1]) gc_X1_type (m_X1_type hC.fl h) rfl hi q2035 q2036 q2037 (gle rfl) (gle rfl) rfl (gle rfl) rfl dX0_type_4 (gk_i fun r5 G2 h => ?_) (fun y3 G4 h hio => ?_)
  · refine g_i2l hC (pc := 7) dX0_type_7 ?_
    rcases o2 with _ | c6
    · exact (gNN0 h).elim
    replace h := gNN1 h
    refine g_astL hC (pc := 8) h dX0_type_8 (fun G7 h => ?_)
    refine g_goto hC (pc := 9) 18 (by decide) dX0_type_9 ?_
    refine g_iconst hC (pc := 18) (v := (0 : Int32)) (by decide) dX0_type_18 ?_
    exact g_iret hC (pc := 19) (hK _ _ h) dX0_type_19
  · rcases h with h | h
    · obtain ⟨hq, h⟩ := h
      refine g_catchI hC (pc := 4) (ci := 21) rfl hq 0 rfl (fun _ h => nomatch h) rfl (by decide) q871 (List.mem_of_getElem? (i := 4) rfl) rfl ?_
      exact g_sub [] rfl (w_X0_type_12 hC hK hX h)
    · obtain ⟨hq, h⟩ := h
      refine g_catchI hC (pc := 4) (ci := 22) rfl hq 1 rfl (List.forall_mem_cons.mpr ⟨Or.inr ⟨by decide, "java/lang/IllegalArgumentException", q871, (List.mem_of_getElem? (i := 11) rfl)⟩, fun _ h => nomatch h⟩) rfl (by decide) q872 (List.mem_of_getElem? (i := 9) rfl) rfl ?_
      exact g_sub [] rfl (w_X0_type_15 hC hK hX h)
theorem gc_X0_type : gCodeW yX0_type cX0_type 4 (some .int) [(0, 9, 12, 13), (0, 9, 15, 15)] 3 := ⟨q2034, q93, ⟨by decide, by decide⟩, rfl⟩
theorem m_X0_type {l : Launch} (hfl : l.stackTraces = false) {E : gE} {G : gS} {o0 : Option Nat} {x1 : Int32} {o2 : Option Nat} {X : Nat → gS → Prop} {K : Int32 → gS → Prop} (h : wp_X0_type (gAd E) G o0 x1 o2 X K) : gMet l yX0_type (wsW_ yX0_type cX0_type 4 (some .int) [(0, 9, 12, 13), (0, 9, 15, 15)]) 10 269 [vQ o0, vI x1, vQ o2] E G (gRi K) X :=
  g_metW hfl (plainFor_of_name (by decide +kernel)) rfl rfl rfl (gle rfl) (fun p e R s m args below meth c hC => w_X0_type hC (fun _ _ h => h) (fun _ _ h => h) h)
def wp_X3_type_23 (ad : Nat → Nat) (X : Nat → gS → Prop) (K : Int32 → gS → Prop) (G : gS) (t0 : Nat) (x1 : Int32) (xs0 : Int32) (xs1 : Int32) (ts2 : Nat) : Prop :=
  (gIs G ts2 0 ∧ wp_X3_holds ad G ts2 xs1 xs0 (1 : Int32) (1 : Int32) X (fun r2 G1 => (¬ r2 = (0 : Int32) → wGetQ G1 t0 0 10 fun q3 => wGetI G1 t0 0 11 fun i4 => wNN q3 fun c5 => wAstI G1 c5 i4 x1 fun G6 => wGetI G6 t0 0 11 fun i7 => wPut G6 t0 0 11 (.int (i7 + (1 : Int32))) fun G8 => wGetI G8 t0 0 11 fun i9 => K i9 G8) ∧ (r2 = (0 : Int32) → K (0 : Int32) G1)))
theorem w_X3_type_23 {C : gCx} (hC : gOk C "GoblinHouseholdModel" cX3_type [] (some .int) "type" 2 1 32) {K : Int32 → gS → Prop} {X : Nat → gS → Prop} (hK : ∀ r G, K r G → cxK C (some (vI r)) G) (hX : ∀ q G, X q G → cxX C q G) {G : gS} {t0 : Nat} {x1 : Int32} {xs0 : Int32} {xs1 : Int32} {ts2 : Nat} (h : wp_X3_type_23 (cxA C) X K G t0 x1 xs0 xs1 ts2) : gGo C G 23 [(0, vQ (some t0)), (1, vI x1)] [vI xs0, vI xs1, vQ (some ts2)] := by
  unfold wp_X3_type_23 at h
  refine g_iconst hC (pc := 23) (v := (1 : Int32)) (by decide) dX3_type_23 ?_
  refine g_iconst hC (pc := 24) (v := (1 : Int32)) (by decide) dX3_type_24 ?_
  obtain ⟨hi, h⟩ := h
  refine g_callV hC (pc := 25) (ci := 0) (As := [vI xs1, vI xs0, vI (1 : Int32), vI (1 : Int32)]) gc_X3_holds (m_X3_holds hC.fl h) rfl hi q2550 q2552 qs44 (gle rfl) (gle rfl) rfl (gle rfl) rfl dX3_type_25 (gk_i fun r2 G1 h => ?_) (fun _ _ h hio => g_out0 hC (hX _ _ h) hio)
  refine g_if_ne hC (pc := 28) 33 h (by decide) dX3_type_28 (fun h => ?_) (fun h => ?_)
  · refine g_aload_n hC (pc := 33) 0 rfl rfl dX3_type_33 ?_
    refine g_getQ hC (pc := 34) in_X3 (ci := 0) rfl 10 (by decide) q2487 (Or.inl rfl) h dX3_type_34 (fun q3 h => ?_)
    refine g_aload_n hC (pc := 37) 0 rfl rfl dX3_type_37 ?_
    refine g_getI hC (pc := 38) in_X3 (ci := 0) rfl 11 (by decide) q2488 (Or.inl rfl) h dX3_type_38 (fun i4 h => ?_)
    refine g_iload_n hC (pc := 41) 1 rfl rfl dX3_type_41 ?_
    rcases q3 with _ | c5
    · exact (gNN0 h).elim
    replace h := gNN1 h
    refine g_astI hC (pc := 42) h dX3_type_42 (fun G6 h => ?_)
    refine g_aload_n hC (pc := 43) 0 rfl rfl dX3_type_43 ?_
    refine g_dup hC (pc := 44) rfl dX3_type_44 ?_
    refine g_getI hC (pc := 45) in_X3 (ci := 0) rfl 11 (by decide) q2488 (Or.inl rfl) h dX3_type_45 (fun i7 h => ?_)
    refine g_iconst hC (pc := 48) (v := (1 : Int32)) (by decide) dX3_type_48 ?_
    refine g_iadd hC (pc := 49) dX3_type_49 ?_
    refine g_put hC (pc := 50) in_X3 (ci := 0) rfl 11 (by decide) tyX3_ok nmX3 q2488 (Or.inl rfl) rfl rfl rfl h dX3_type_50 (fun G8 h => ?_)
    refine g_aload_n hC (pc := 53) 0 rfl rfl dX3_type_53 ?_
    refine g_getI hC (pc := 54) in_X3 (ci := 0) rfl 11 (by decide) q2488 (Or.inl rfl) h dX3_type_54 (fun i9 h => ?_)
    exact g_iret hC (pc := 57) (hK _ _ h) dX3_type_57
  · refine g_iconst hC (pc := 31) (v := (0 : Int32)) (by decide) dX3_type_31 ?_
    exact g_iret hC (pc := 32) (hK _ _ h) dX3_type_32
def wp_X3_type (ad : Nat → Nat) (G : gS) (t0 : Nat) (x1 : Int32) (X : Nat → gS → Prop) (K : Int32 → gS → Prop) : Prop :=
  wp_X3_isIn ad G x1 (32 : Int32) (126 : Int32) X (fun r2 G1 => wGetI G1 t0 0 11 fun i3 => ((60 : Int32) ≤ i3 → wp_X3_type_23 ad X K G1 t0 x1 (0 : Int32) r2 t0) ∧ (¬ (60 : Int32) ≤ i3 → wp_X3_type_23 ad X K G1 t0 x1 (1 : Int32) r2 t0))
theorem w_X3_type {C : gCx} (hC : gOk C "GoblinHouseholdModel" cX3_type [] (some .int) "type" 2 1 32) {K : Int32 → gS → Prop} {X : Nat → gS → Prop} (hK : ∀ r G, K r G → cxK C (some (vI r)) G) (hX : ∀ q G, X q G → cxX C q G) {G : gS} {t0 : Nat} {x1 : Int32} (h : wp_X3_type (cxA C) G t0 x1 X K) : gGo C G 0 [(0, vQ (some t0)), (1, vI x1)] [] := by
  unfold wp_X3_type at h
  refine g_aload_n hC (pc := 0) 0 rfl rfl dX3_type_0 ?_
  refine g_iload_n hC (pc := 1) 1 rfl rfl dX3_type_1 ?_
  refine g_bipush hC (pc := 2) (v := (32 : Int32)) (by decide) dX3_type_2 ?_
  refine g_bipush hC (pc := 4) (v := (126 : Int32)) (by decide) dX3_type_4 ?_
  refine g_callS hC (pc := 6) (b := 0) (As := [vI x1, vI (32 : Int32), vI (126 : Int32)]) gc_X3_isIn (m_X3_isIn hC.fl h) q2577 q2578 (gle rfl) (gle rfl) rfl (gle rfl) rfl dX3_type_6 (gk_i fun r2 G1 h => ?_) (fun _ _ h hio => g_out0 hC (hX _ _ h) hio)
  refine g_aload_n hC (pc := 9) 0 rfl rfl dX3_type_9 ?_
  refine g_getI hC (pc := 10) in_X3 (ci := 0) rfl 11 (by decide) q2488 (Or.inl rfl) h dX3_type_10 (fun i3 h => ?_)
  refine g_bipush hC (pc := 13) (v := (60 : Int32)) (by decide) dX3_type_13 ?_
  refine g_icmp_ge hC (pc := 15) 22 h (by decide) dX3_type_15 (fun h => ?_) (fun h => ?_)
  · refine g_iconst hC (pc := 22) (v := (0 : Int32)) (by decide) dX3_type_22 ?_
    exact g_sub [0, 1] rfl (w_X3_type_23 hC hK hX h)
  · refine g_iconst hC (pc := 18) (v := (1 : Int32)) (by decide) dX3_type_18 ?_
    refine g_goto hC (pc := 19) 23 (by decide) dX3_type_19 ?_
    exact g_sub [0, 1] rfl (w_X3_type_23 hC hK hX h)
theorem gc_X3_type : gCode yX3_type cX3_type 2 (some .int) 1 := ⟨q2929, q105, ⟨by decide, by decide⟩, rfl⟩
theorem m_X3_type {l : Launch} (hfl : l.stackTraces = false) {E : gE} {G : gS} {t0 : Nat} {x1 : Int32} {X : Nat → gS → Prop} {K : Int32 → gS → Prop} (h : wp_X3_type (gAd E) G t0 x1 X K) : gMet l yX3_type (ws_ yX3_type cX3_type 2 (some .int)) 1 32 [vQ (some t0), vI x1] E G (gRi K) X :=
  g_met hfl (plainFor_of_name (by decide +kernel)) rfl rfl rfl (gle rfl) (fun p e R s m args below meth c hC => w_X3_type hC (fun _ _ h => h) (fun _ _ h => h) h)
def wp_X15_init (ad : Nat → Nat) (G : gS) (t0 : Nat) (o1 : Option Nat) (X : Nat → gS → Prop) (K : gS → Prop) : Prop :=
  wPut G t0 16 0 (va_rf o1) fun G1 => K G1
theorem w_X15_init {C : gCx} (hC : gOk C "GoblinHousehold$Parser" cX15_init [] none "<init>" 2 1 28) {K : gS → Prop} {X : Nat → gS → Prop} (hK : ∀ G, K G → cxK C none G) (hX : ∀ q G, X q G → cxX C q G) {G : gS} {t0 : Nat} {o1 : Option Nat} (h : wp_X15_init (cxA C) G t0 o1 X K) : gGo C G 0 [(0, vQ (some t0)), (1, vQ o1)] [] := by
  unfold wp_X15_init at h
  refine g_aload_n hC (pc := 0) 0 rfl rfl dX15_init_0 ?_
  refine g_objInit hC (pc := 1) q2068 q151 q152 (gle rfl) (gle rfl) (gle rfl) dX15_init_1 ?_
  refine g_aload_n hC (pc := 4) 0 rfl rfl dX15_init_4 ?_
  refine g_aload_n hC (pc := 5) 1 rfl rfl dX15_init_5 ?_
  refine g_putF hC (pc := 6) in_X15 (ci := 16) rfl 0 (by decide) tyX15_ok nmX15 q2069 (Or.inl rfl) rfl rfl rfl (gnarO _ _) (gfitO _ _) h dX15_init_6 (fun G1 h => ?_)
  exact g_vret hC (pc := 9) (hK _ h) dX15_init_9
theorem gc_X15_init : gCode yX15_init cX15_init 2 none 1 := ⟨q2067, q140, ⟨by decide, by decide⟩, rfl⟩
theorem m_X15_init {l : Launch} (hfl : l.stackTraces = false) {E : gE} {G : gS} {t0 : Nat} {o1 : Option Nat} {X : Nat → gS → Prop} {K : gS → Prop} (h : wp_X15_init (gAd E) G t0 o1 X K) : gMet l yX15_init (ws_ yX15_init cX15_init 2 none) 1 28 [vQ (some t0), vQ o1] E G (gRv K) X :=
  g_met hfl (plainFor_of_name (by decide +kernel)) rfl rfl rfl (gle rfl) (fun p e R s m args below meth c hC => w_X15_init hC (fun _ h => h) (fun _ _ h => h) h)
def wp_X15_current (ad : Nat → Nat) (G : gS) (t0 : Nat) (X : Nat → gS → Prop) (K : Int32 → gS → Prop) : Prop :=
  wGetI G t0 16 1 fun i1 => wGetQ G t0 16 0 fun q2 => wNN q2 fun c3 => (gIs G c3 7 ∧ wp_J7_length ad G c3  X (fun r5 G4 => (r5 ≤ i1 → gNar .char (10 : Int32) ∧ K (10 : Int32) G4) ∧ (¬ r5 ≤ i1 → wGetQ G4 t0 16 0 fun q6 => wGetI G4 t0 16 1 fun i7 => wNN q6 fun c8 => (gIs G4 c8 7 ∧ wp_J7_charAt ad G4 c8 i7 X (fun r10 G9 => gNar .char r10 ∧ K r10 G9)))))
theorem w_X15_current {C : gCx} (hC : gOk C "GoblinHousehold$Parser" cX15_current [] (some .char) "current" 1 4 117) {K : Int32 → gS → Prop} {X : Nat → gS → Prop} (hK : ∀ r G, K r G → cxK C (some (vI r)) G) (hX : ∀ q G, X q G → cxX C q G) {G : gS} {t0 : Nat} (h : wp_X15_current (cxA C) G t0 X K) : gGo C G 0 [(0, vQ (some t0))] [] := by
  unfold wp_X15_current at h
  refine g_aload_n hC (pc := 0) 0 rfl rfl dX15_current_0 ?_
  refine g_getI hC (pc := 1) in_X15 (ci := 16) rfl 1 (by decide) q2070 (Or.inl rfl) h dX15_current_1 (fun i1 h => ?_)
  refine g_aload_n hC (pc := 4) 0 rfl rfl dX15_current_4 ?_
  refine g_getQ hC (pc := 5) in_X15 (ci := 16) rfl 0 (by decide) q2069 (Or.inl rfl) h dX15_current_5 (fun q2 h => ?_)
  rcases q2 with _ | c3
  · exact (gNN0 h).elim
  replace h := gNN1 h
  obtain ⟨hi, h⟩ := h
  refine g_callV hC (pc := 8) (ci := 7) (As := []) gc_J7_length (m_J7_length hC.fl h) rfl hi q2098 q526 q527 (gle rfl) (gle rfl) rfl (gle rfl) rfl dX15_current_8 (gk_i fun r5 G4 h => ?_) (fun _ _ h hio => g_out0 hC (hX _ _ h) hio)
  refine g_icmp_ge hC (pc := 11) 28 h (by decide) dX15_current_11 (fun h => ?_) (fun h => ?_)
  · refine g_bipush hC (pc := 28) (v := (10 : Int32)) (by decide) dX15_current_28 ?_
    exact g_zret hC (pc := 30) h.1 (hK _ _ h.2) dX15_current_30
  · refine g_aload_n hC (pc := 14) 0 rfl rfl dX15_current_14 ?_
    refine g_getQ hC (pc := 15) in_X15 (ci := 16) rfl 0 (by decide) q2069 (Or.inl rfl) h dX15_current_15 (fun q6 h => ?_)
    refine g_aload_n hC (pc := 18) 0 rfl rfl dX15_current_18 ?_
    refine g_getI hC (pc := 19) in_X15 (ci := 16) rfl 1 (by decide) q2070 (Or.inl rfl) h dX15_current_19 (fun i7 h => ?_)
    rcases q6 with _ | c8
    · exact (gNN0 h).elim
    replace h := gNN1 h
    obtain ⟨hi, h⟩ := h
    refine g_callV hC (pc := 22) (ci := 7) (As := [vI i7]) gc_J7_charAt (m_J7_charAt hC.fl h) rfl hi q2099 q2015 q2016 (gle rfl) (gle rfl) rfl (gle rfl) rfl dX15_current_22 (gk_i fun r10 G9 h => ?_) (fun _ _ h hio => g_out0 hC (hX _ _ h) hio)
    refine g_goto hC (pc := 25) 30 (by decide) dX15_current_25 ?_
    exact g_zret hC (pc := 30) h.1 (hK _ _ h.2) dX15_current_30
theorem gc_X15_current : gCode yX15_current cX15_current 1 (some .char) 0 := ⟨q2097, q140, ⟨by decide, by decide⟩, rfl⟩
theorem m_X15_current {l : Launch} (hfl : l.stackTraces = false) {E : gE} {G : gS} {t0 : Nat} {X : Nat → gS → Prop} {K : Int32 → gS → Prop} (h : wp_X15_current (gAd E) G t0 X K) : gMet l yX15_current (ws_ yX15_current cX15_current 1 (some .char)) 4 117 [vQ (some t0)] E G (gRi K) X :=
  g_met hfl (plainFor_of_name (by decide +kernel)) rfl rfl rfl (gle rfl) (fun p e R s m args below meth c hC => w_X15_current hC (fun _ _ h => h) (fun _ _ h => h) h)
def wp_J7_valueOf (ad : Nat → Nat) (G : gS) (o0 : Option Nat) (X : Nat → gS → Prop) (K : Option Nat → gS → Prop) : Prop :=
  (o0 = none → K (some (ad 128)) G) ∧ (∀ c1, o0 = some c1 → (gIs G c1 6 ∧ wp_J6_toString ad G c1  X (fun q3 G2 => K q3 G2)))
theorem w_J7_valueOf {C : gCx} (hC : gOk C "java/lang/String" cJ7_valueOf [] (some (Jvm.ClassFile.FieldType.object "java/lang/String")) "valueOf" 1 13 393) {K : Option Nat → gS → Prop} {X : Nat → gS → Prop} (hK : ∀ r G, K r G → cxK C (some (vQ r)) G) (hX : ∀ q G, X q G → cxX C q G) {G : gS} {o0 : Option Nat} (h : wp_J7_valueOf (cxA C) G o0 X K) : gGo C G 0 [(0, vQ o0)] [] := by
  unfold wp_J7_valueOf at h
  refine g_aload_n hC (pc := 0) 0 rfl rfl dJ7_valueOf_0 ?_
  have hn := h; clear h
  refine g_ifnonnull hC (pc := 1) 10 (P := ¬ o0 = none) (Q := _) ⟨id, hn.1⟩ (by decide) dJ7_valueOf_1 (fun e0 => ?_) (fun h => ?_)
  · rcases o0 with _ | c1
    · exact absurd rfl e0
    have h := hn.2 _ rfl
    refine g_aload_n hC (pc := 10) 0 rfl rfl dJ7_valueOf_10 ?_
    obtain ⟨hi, h⟩ := h
    refine g_callA hC (pc := 11) (ci := 6) (As := []) gc_J6_toString (m_J6_toString hC.fl h) (x := ⟨"java/lang/Object", "toString", "()Ljava/lang/String;"⟩) (owner := "java/lang/Object") rfl hi q2112 q2114 (List.mem_of_getElem? (i := 30) rfl) ⟨by decide, by decide⟩ rfl q2177 q595 (gle rfl) (gle rfl) rfl (gle rfl) rfl dJ7_valueOf_11 (gk_q fun q3 G2 h => ?_) (fun _ _ h hio => g_out0 hC (hX _ _ h) hio)
    exact g_aret hC (pc := 14) (Or.inl ⟨_, rfl⟩) (hK _ _ h) dJ7_valueOf_14
  · refine g_ldcSW hC (pc := 4) (List.mem_of_getElem? (i := 28) rfl) dJ7_valueOf_4 ?_
    refine g_goto hC (pc := 7) 14 (by decide) dJ7_valueOf_7 ?_
    exact g_aret hC (pc := 14) (Or.inl ⟨_, rfl⟩) (hK _ _ h) dJ7_valueOf_14
theorem gc_J7_valueOf : gCode yJ7_valueOf cJ7_valueOf 1 (some (Jvm.ClassFile.FieldType.object "java/lang/String")) 1 := ⟨q2109, q103, ⟨by decide, by decide⟩, rfl⟩
theorem m_J7_valueOf {l : Launch} (hfl : l.stackTraces = false) {E : gE} {G : gS} {o0 : Option Nat} {X : Nat → gS → Prop} {K : Option Nat → gS → Prop} (h : wp_J7_valueOf (gAd E) G o0 X K) : gMet l yJ7_valueOf (ws_ yJ7_valueOf cJ7_valueOf 1 (some (Jvm.ClassFile.FieldType.object "java/lang/String"))) 13 393 [vQ o0] E G (gRq K) X :=
  g_met hfl (plainFor_of_name (by decide +kernel)) rfl rfl rfl (gle rfl) (fun p e R s m args below meth c hC => w_J7_valueOf hC (fun _ _ h => h) (fun _ _ h => h) h)
def wp_J6_append_4 (ad : Nat → Nat) (G : gS) (t0 : Nat) (o1 : Option Nat) (X : Nat → gS → Prop) (K : Option Nat → gS → Prop) : Prop :=
  wp_J7_valueOf ad G o1 X (fun q2 G1 => (gIs G1 t0 6 ∧ wp_J6_append ad G1 t0 q2 X (fun q4 G3 => K q4 G3)))
theorem w_J6_append_4 {C : gCx} (hC : gOk C "java/lang/StringBuilder" cJ6_append_4 [] (some (Jvm.ClassFile.FieldType.object "java/lang/StringBuilder")) "append" 2 14 421) {K : Option Nat → gS → Prop} {X : Nat → gS → Prop} (hK : ∀ r G, K r G → cxK C (some (vQ r)) G) (hX : ∀ q G, X q G → cxX C q G) {G : gS} {t0 : Nat} {o1 : Option Nat} (h : wp_J6_append_4 (cxA C) G t0 o1 X K) : gGo C G 0 [(0, vQ (some t0)), (1, vQ o1)] [] := by
  unfold wp_J6_append_4 at h
  refine g_aload_n hC (pc := 0) 0 rfl rfl dJ6_append_4_0 ?_
  refine g_aload_n hC (pc := 1) 1 rfl rfl dJ6_append_4_1 ?_
  refine g_callS hC (pc := 2) (b := 0) (As := [vQ o1]) gc_J7_valueOf (m_J7_valueOf hC.fl h) q2107 q2108 (gle rfl) (gle rfl) rfl (gle rfl) rfl dJ6_append_4_2 (gk_q fun q2 G1 h => ?_) (fun _ _ h hio => g_out0 hC (hX _ _ h) hio)
  obtain ⟨hi, h⟩ := h
  refine g_callV hC (pc := 5) (ci := 6) (As := [vQ q2]) gc_J6_append (m_J6_append hC.fl h) rfl hi q2181 q449 q450 (gle rfl) (gle rfl) rfl (gle rfl) rfl dJ6_append_4_5 (gk_q fun q4 G3 h => ?_) (fun _ _ h hio => g_out0 hC (hX _ _ h) hio)
  exact g_aret hC (pc := 8) (Or.inl ⟨_, rfl⟩) (hK _ _ h) dJ6_append_4_8
theorem gc_J6_append_4 : gCode yJ6_append_4 cJ6_append_4 2 (some (Jvm.ClassFile.FieldType.object "java/lang/StringBuilder")) 1 := ⟨q2106, q102, ⟨by decide, by decide⟩, rfl⟩
theorem m_J6_append_4 {l : Launch} (hfl : l.stackTraces = false) {E : gE} {G : gS} {t0 : Nat} {o1 : Option Nat} {X : Nat → gS → Prop} {K : Option Nat → gS → Prop} (h : wp_J6_append_4 (gAd E) G t0 o1 X K) : gMet l yJ6_append_4 (ws_ yJ6_append_4 cJ6_append_4 2 (some (Jvm.ClassFile.FieldType.object "java/lang/StringBuilder"))) 14 421 [vQ (some t0), vQ o1] E G (gRq K) X :=
  g_met hfl (plainFor_of_name (by decide +kernel)) rfl rfl rfl (gle rfl) (fun p e R s m args below meth c hC => w_J6_append_4 hC (fun _ _ h => h) (fun _ _ h => h) h)
def wp_J7_toString (ad : Nat → Nat) (G : gS) (t0 : Nat) (X : Nat → gS → Prop) (K : Option Nat → gS → Prop) : Prop :=
  K (some t0) G
theorem w_J7_toString {C : gCx} (hC : gOk C "java/lang/String" cJ7_toString [] (some (Jvm.ClassFile.FieldType.object "java/lang/String")) "toString" 1 0 0) {K : Option Nat → gS → Prop} {X : Nat → gS → Prop} (hK : ∀ r G, K r G → cxK C (some (vQ r)) G) (hX : ∀ q G, X q G → cxX C q G) {G : gS} {t0 : Nat} (h : wp_J7_toString (cxA C) G t0 X K) : gGo C G 0 [(0, vQ (some t0))] [] := by
  unfold wp_J7_toString at h
  refine g_aload_n hC (pc := 0) 0 rfl rfl dJ7_toString_0 ?_
  exact g_aret hC (pc := 1) (Or.inl ⟨_, rfl⟩) (hK _ _ h) dJ7_toString_1
theorem gc_J7_toString : gCode yJ7_toString cJ7_toString 1 (some (Jvm.ClassFile.FieldType.object "java/lang/String")) 0 := ⟨q2176, q103, ⟨by decide, by decide⟩, rfl⟩
theorem m_J7_toString {l : Launch} (hfl : l.stackTraces = false) {E : gE} {G : gS} {t0 : Nat} {X : Nat → gS → Prop} {K : Option Nat → gS → Prop} (h : wp_J7_toString (gAd E) G t0 X K) : gMet l yJ7_toString (ws_ yJ7_toString cJ7_toString 1 (some (Jvm.ClassFile.FieldType.object "java/lang/String"))) 0 0 [vQ (some t0)] E G (gRq K) X :=
  g_met hfl (plainFor_of_name (by decide +kernel)) rfl rfl rfl (gle rfl) (fun p e R s m args below meth c hC => w_J7_toString hC (fun _ _ h => h) (fun _ _ h => h) h)
def wp_J19_indexOf_2_113 (ad : Nat → Nat) (X : Nat → gS → Prop) (K : Int32 → gS → Prop) (J14 : gS → Option Nat → Nat → Int32 → Int32 → Int32 → Int32 → Prop) (G : gS) (t0 : Nat) (t2 : Nat) (x3 : Int32) (x5 : Int32) (x6 : Int32) (x7 : Int32) : Prop :=
  J14 G (some t0) t2 x3 x5 x6 (x7 + (1 : Int32))
theorem w_J19_indexOf_2_113 {C : gCx} (hC : gOk C "java/lang/StringLatin1" cJ19_indexOf_2 [] (some .int) "indexOf" 11 0 0) {K : Int32 → gS → Prop} {X : Nat → gS → Prop} (hK : ∀ r G, K r G → cxK C (some (vI r)) G) (hX : ∀ q G, X q G → cxX C q G) {J14 : gS → Option Nat → Nat → Int32 → Int32 → Int32 → Int32 → Prop} (hJ14 : ∀ G z0 z2 z3 z5 z6 z7, J14 G z0 z2 z3 z5 z6 z7 → gGo C G 14 [(0, vQ z0), (2, vQ (some z2)), (3, vI z3), (5, vI z5), (6, vI z6), (7, vI z7)] []) {G : gS} {t0 : Nat} {t2 : Nat} {x3 : Int32} {x5 : Int32} {x6 : Int32} {x7 : Int32} (h : wp_J19_indexOf_2_113 (cxA C) X K J14 G t0 t2 x3 x5 x6 x7) : gGo C G 113 [(0, vQ (some t0)), (2, vQ (some t2)), (3, vI x3), (5, vI x5), (6, vI x6), (7, vI x7)] [] := by
  unfold wp_J19_indexOf_2_113 at h
  refine g_iinc hC (pc := 113) 5 (d := (1 : Int32)) (v := (x7 + (1 : Int32))) (lv' := [(7, vI (x7 + (1 : Int32))), (0, vQ (some t0)), (2, vQ (some t2)), (3, vI x3), (5, vI x5), (6, vI x6)]) rfl (by decide) rfl (by decide) rfl dJ19_indexOf_2_113 ?_
  refine g_goto hC (pc := 116) 14 (by decide) dJ19_indexOf_2_116 ?_
  exact g_sub [1, 2, 3, 4, 5, 0] rfl (hJ14 _ _ _ _ _ _ _ h)
def wp_J19_indexOf_2_103 (ad : Nat → Nat) (X : Nat → gS → Prop) (K : Int32 → gS → Prop) (J14 : gS → Option Nat → Nat → Int32 → Int32 → Int32 → Int32 → Prop) (G : gS) (t0 : Nat) (t2 : Nat) (x3 : Int32) (x5 : Int32) (x6 : Int32) (x7 : Int32) (x8 : Int32) (x9 : Int32) : Prop :=
  (¬ x8 = x9 → wp_J19_indexOf_2_113 ad X K J14 G t0 t2 x3 x5 x6 x7) ∧ (x8 = x9 → K x7 G)
theorem w_J19_indexOf_2_103 {C : gCx} (hC : gOk C "java/lang/StringLatin1" cJ19_indexOf_2 [] (some .int) "indexOf" 11 0 0) {K : Int32 → gS → Prop} {X : Nat → gS → Prop} (hK : ∀ r G, K r G → cxK C (some (vI r)) G) (hX : ∀ q G, X q G → cxX C q G) {J14 : gS → Option Nat → Nat → Int32 → Int32 → Int32 → Int32 → Prop} (hJ14 : ∀ G z0 z2 z3 z5 z6 z7, J14 G z0 z2 z3 z5 z6 z7 → gGo C G 14 [(0, vQ z0), (2, vQ (some z2)), (3, vI z3), (5, vI z5), (6, vI z6), (7, vI z7)] []) {G : gS} {t0 : Nat} {t2 : Nat} {x3 : Int32} {x5 : Int32} {x6 : Int32} {x7 : Int32} {x8 : Int32} {x9 : Int32} (h : wp_J19_indexOf_2_103 (cxA C) X K J14 G t0 t2 x3 x5 x6 x7 x8 x9) : gGo C G 103 [(0, vQ (some t0)), (2, vQ (some t2)), (3, vI x3), (5, vI x5), (6, vI x6), (7, vI x7), (8, vI x8), (9, vI x9)] [] := by
  unfold wp_J19_indexOf_2_103 at h
  refine g_iload hC (pc := 103) 6 rfl dJ19_indexOf_2_103 ?_
  refine g_iload hC (pc := 105) 7 rfl dJ19_indexOf_2_105 ?_
  refine g_icmp_ne hC (pc := 107) 113 h (by decide) dJ19_indexOf_2_107 (fun h => ?_) (fun h => ?_)
  · exact g_sub [0, 1, 2, 3, 4, 5] rfl (w_J19_indexOf_2_113 hC hK hX hJ14 h)
  · refine g_iload hC (pc := 110) 5 rfl dJ19_indexOf_2_110 ?_
    exact g_iret hC (pc := 112) (hK _ _ h) dJ19_indexOf_2_112
def wp_J19_indexOf_2_76 (ad : Nat → Nat) (X : Nat → gS → Prop) (K : Int32 → gS → Prop) (J14 : gS → Option Nat → Nat → Int32 → Int32 → Int32 → Int32 → Prop) (J76 : gS → Nat → Nat → Int32 → Int32 → Int32 → Int32 → Int32 → Int32 → Int32 → Prop) (G : gS) (t0 : Nat) (t2 : Nat) (x3 : Int32) (x5 : Int32) (x6 : Int32) (x7 : Int32) (x8 : Int32) (x9 : Int32) (x10 : Int32) : Prop :=
  (x9 ≤ x8 → wp_J19_indexOf_2_103 ad X K J14 G t0 t2 x3 x5 x6 x7 x8 x9) ∧ (¬ x9 ≤ x8 → wAldB G t0 x8 fun i1 => wAldB G t2 x10 fun i2 => (¬ i1 = i2 → wp_J19_indexOf_2_103 ad X K J14 G t0 t2 x3 x5 x6 x7 x8 x9) ∧ (i1 = i2 → J76 G t0 t2 x3 x5 x6 x7 (x8 + (1 : Int32)) x9 (x10 + (1 : Int32))))
theorem w_J19_indexOf_2_76 {C : gCx} (hC : gOk C "java/lang/StringLatin1" cJ19_indexOf_2 [] (some .int) "indexOf" 11 0 0) {K : Int32 → gS → Prop} {X : Nat → gS → Prop} (hK : ∀ r G, K r G → cxK C (some (vI r)) G) (hX : ∀ q G, X q G → cxX C q G) {J14 : gS → Option Nat → Nat → Int32 → Int32 → Int32 → Int32 → Prop} (hJ14 : ∀ G z0 z2 z3 z5 z6 z7, J14 G z0 z2 z3 z5 z6 z7 → gGo C G 14 [(0, vQ z0), (2, vQ (some z2)), (3, vI z3), (5, vI z5), (6, vI z6), (7, vI z7)] []) (n : Nat) : ∀ (G : gS) (t0 : Nat) (t2 : Nat) (x3 : Int32) (x5 : Int32) (x6 : Int32) (x7 : Int32) (x8 : Int32) (x9 : Int32) (x10 : Int32), gLoop (fun _ _ _ _ _ _ _ _ _ _ => False) (wp_J19_indexOf_2_76 (cxA C) X K J14) n G t0 t2 x3 x5 x6 x7 x8 x9 x10 → gGo C G 76 [(0, vQ (some t0)), (2, vQ (some t2)), (3, vI x3), (5, vI x5), (6, vI x6), (7, vI x7), (8, vI x8), (9, vI x9), (10, vI x10)] [] := by
  induction n with
  | zero => intro G t0 t2 x3 x5 x6 x7 x8 x9 x10 h; exact h.elim
  | succ n ih =>
    intro G t0 t2 x3 x5 x6 x7 x8 x9 x10 h
    have hJ76 := ih
    replace h : wp_J19_indexOf_2_76 (cxA C) X K J14 _ G t0 t2 x3 x5 x6 x7 x8 x9 x10 := h
    unfold wp_J19_indexOf_2_76 at h
    refine g_iload hC (pc := 76) 6 rfl dJ19_indexOf_2_76 ?_
    refine g_iload hC (pc := 78) 7 rfl dJ19_indexOf_2_78 ?_
    refine g_icmp_ge hC (pc := 80) 103 h (by decide) dJ19_indexOf_2_80 (fun h => ?_) (fun h => ?_)
    · exact g_sub [0, 1, 2, 3, 4, 5, 6, 7] rfl (w_J19_indexOf_2_103 hC hK hX hJ14 h)
    · refine g_aload_n hC (pc := 83) 0 rfl rfl dJ19_indexOf_2_83 ?_
      refine g_iload hC (pc := 84) 6 rfl dJ19_indexOf_2_84 ?_
      refine g_aldB hC (pc := 86) h dJ19_indexOf_2_86 (fun i1 h => ?_)
      refine g_aload_n hC (pc := 87) 1 rfl rfl dJ19_indexOf_2_87 ?_
      refine g_iload hC (pc := 88) 8 rfl dJ19_indexOf_2_88 ?_
      refine g_aldB hC (pc := 90) h dJ19_indexOf_2_90 (fun i2 h => ?_)
      refine g_icmp_ne hC (pc := 91) 103 h (by decide) dJ19_indexOf_2_91 (fun h => ?_) (fun h => ?_)
      · exact g_sub [0, 1, 2, 3, 4, 5, 6, 7] rfl (w_J19_indexOf_2_103 hC hK hX hJ14 h)
      · refine g_iinc hC (pc := 94) 6 (d := (1 : Int32)) (v := (x8 + (1 : Int32))) (lv' := [(8, vI (x8 + (1 : Int32))), (0, vQ (some t0)), (2, vQ (some t2)), (3, vI x3), (5, vI x5), (6, vI x6), (7, vI x7), (9, vI x9), (10, vI x10)]) rfl (by decide) rfl (by decide) rfl dJ19_indexOf_2_94 ?_
        refine g_iinc hC (pc := 97) 8 (d := (1 : Int32)) (v := (x10 + (1 : Int32))) (lv' := [(10, vI (x10 + (1 : Int32))), (8, vI (x8 + (1 : Int32))), (0, vQ (some t0)), (2, vQ (some t2)), (3, vI x3), (5, vI x5), (6, vI x6), (7, vI x7), (9, vI x9)]) rfl (by decide) rfl (by decide) rfl dJ19_indexOf_2_97 ?_
        refine g_goto hC (pc := 100) 76 (by decide) dJ19_indexOf_2_100 ?_
        exact g_sub [2, 3, 4, 5, 6, 7, 1, 8, 0] rfl (hJ76 _ _ _ _ _ _ _ _ _ _ h)
def wp_J19_indexOf_2_52 (ad : Nat → Nat) (X : Nat → gS → Prop) (K : Int32 → gS → Prop) (J14 : gS → Option Nat → Nat → Int32 → Int32 → Int32 → Int32 → Prop) (G : gS) (t0 : Nat) (t2 : Nat) (x3 : Int32) (x5 : Int32) (x6 : Int32) (x7 : Int32) : Prop :=
  (x6 < x7 → wp_J19_indexOf_2_113 ad X K J14 G t0 t2 x3 x5 x6 x7) ∧ (¬ x6 < x7 → gLoop (fun _ _ _ _ _ _ _ _ _ _ => False) (wp_J19_indexOf_2_76 ad X K J14) gFuel G t0 t2 x3 x5 x6 x7 (x7 + (1 : Int32)) (((x7 + (1 : Int32)) + x3) - (1 : Int32)) (1 : Int32))
theorem w_J19_indexOf_2_52 {C : gCx} (hC : gOk C "java/lang/StringLatin1" cJ19_indexOf_2 [] (some .int) "indexOf" 11 0 0) {K : Int32 → gS → Prop} {X : Nat → gS → Prop} (hK : ∀ r G, K r G → cxK C (some (vI r)) G) (hX : ∀ q G, X q G → cxX C q G) {J14 : gS → Option Nat → Nat → Int32 → Int32 → Int32 → Int32 → Prop} (hJ14 : ∀ G z0 z2 z3 z5 z6 z7, J14 G z0 z2 z3 z5 z6 z7 → gGo C G 14 [(0, vQ z0), (2, vQ (some z2)), (3, vI z3), (5, vI z5), (6, vI z6), (7, vI z7)] []) {G : gS} {t0 : Nat} {t2 : Nat} {x3 : Int32} {x5 : Int32} {x6 : Int32} {x7 : Int32} (h : wp_J19_indexOf_2_52 (cxA C) X K J14 G t0 t2 x3 x5 x6 x7) : gGo C G 52 [(0, vQ (some t0)), (2, vQ (some t2)), (3, vI x3), (5, vI x5), (6, vI x6), (7, vI x7)] [] := by
  unfold wp_J19_indexOf_2_52 at h
  refine g_iload hC (pc := 52) 5 rfl dJ19_indexOf_2_52 ?_
  refine g_iload hC (pc := 54) 4 rfl dJ19_indexOf_2_54 ?_
  refine g_icmp_gt hC (pc := 56) 113 h (by decide) dJ19_indexOf_2_56 (fun h => ?_) (fun h => ?_)
  · exact g_sub [0, 1, 2, 3, 4, 5] rfl (w_J19_indexOf_2_113 hC hK hX hJ14 h)
  · refine g_iload hC (pc := 59) 5 rfl dJ19_indexOf_2_59 ?_
    refine g_iconst hC (pc := 61) (v := (1 : Int32)) (by decide) dJ19_indexOf_2_61 ?_
    refine g_iadd hC (pc := 62) dJ19_indexOf_2_62 ?_
    refine g_istore hC (pc := 63) (lv' := [(8, vI (x7 + (1 : Int32))), (0, vQ (some t0)), (2, vQ (some t2)), (3, vI x3), (5, vI x5), (6, vI x6), (7, vI x7)]) (by decide) rfl dJ19_indexOf_2_63 ?_
    refine g_iload hC (pc := 65) 0 rfl dJ19_indexOf_2_65 ?_
    refine g_iload_n hC (pc := 67) 3 rfl rfl dJ19_indexOf_2_67 ?_
    refine g_iadd hC (pc := 68) dJ19_indexOf_2_68 ?_
    refine g_iconst hC (pc := 69) (v := (1 : Int32)) (by decide) dJ19_indexOf_2_69 ?_
    refine g_isub hC (pc := 70) dJ19_indexOf_2_70 ?_
    refine g_istore hC (pc := 71) (lv' := [(9, vI (((x7 + (1 : Int32)) + x3) - (1 : Int32))), (8, vI (x7 + (1 : Int32))), (0, vQ (some t0)), (2, vQ (some t2)), (3, vI x3), (5, vI x5), (6, vI x6), (7, vI x7)]) (by decide) rfl dJ19_indexOf_2_71 ?_
    refine g_iconst hC (pc := 73) (v := (1 : Int32)) (by decide) dJ19_indexOf_2_73 ?_
    refine g_istore hC (pc := 74) (lv' := [(10, vI (1 : Int32)), (9, vI (((x7 + (1 : Int32)) + x3) - (1 : Int32))), (8, vI (x7 + (1 : Int32))), (0, vQ (some t0)), (2, vQ (some t2)), (3, vI x3), (5, vI x5), (6, vI x6), (7, vI x7)]) (by decide) rfl dJ19_indexOf_2_74 ?_
    exact g_sub [3, 4, 5, 6, 7, 8, 2, 1, 0] rfl (w_J19_indexOf_2_76 hC hK hX hJ14 gFuel _ _ _ _ _ _ _ _ _ _ h)
def wp_J19_indexOf_2_30 (ad : Nat → Nat) (X : Nat → gS → Prop) (K : Int32 → gS → Prop) (J14 : gS → Option Nat → Nat → Int32 → Int32 → Int32 → Int32 → Prop) (J30 : gS → Nat → Nat → Int32 → Int32 → Int32 → Int32 → Prop) (G : gS) (t0 : Nat) (t2 : Nat) (x3 : Int32) (x5 : Int32) (x6 : Int32) (x7 : Int32) : Prop :=
  (x6 < (x7 + (1 : Int32)) → wp_J19_indexOf_2_52 ad X K J14 G t0 t2 x3 x5 x6 (x7 + (1 : Int32))) ∧ (¬ x6 < (x7 + (1 : Int32)) → wAldB G t0 (x7 + (1 : Int32)) fun i1 => (i1 = x5 → wp_J19_indexOf_2_52 ad X K J14 G t0 t2 x3 x5 x6 (x7 + (1 : Int32))) ∧ (¬ i1 = x5 → J30 G t0 t2 x3 x5 x6 (x7 + (1 : Int32))))
theorem w_J19_indexOf_2_30 {C : gCx} (hC : gOk C "java/lang/StringLatin1" cJ19_indexOf_2 [] (some .int) "indexOf" 11 0 0) {K : Int32 → gS → Prop} {X : Nat → gS → Prop} (hK : ∀ r G, K r G → cxK C (some (vI r)) G) (hX : ∀ q G, X q G → cxX C q G) {J14 : gS → Option Nat → Nat → Int32 → Int32 → Int32 → Int32 → Prop} (hJ14 : ∀ G z0 z2 z3 z5 z6 z7, J14 G z0 z2 z3 z5 z6 z7 → gGo C G 14 [(0, vQ z0), (2, vQ (some z2)), (3, vI z3), (5, vI z5), (6, vI z6), (7, vI z7)] []) (n : Nat) : ∀ (G : gS) (t0 : Nat) (t2 : Nat) (x3 : Int32) (x5 : Int32) (x6 : Int32) (x7 : Int32), gLoop (fun _ _ _ _ _ _ _ => False) (wp_J19_indexOf_2_30 (cxA C) X K J14) n G t0 t2 x3 x5 x6 x7 → gGo C G 30 [(0, vQ (some t0)), (2, vQ (some t2)), (3, vI x3), (5, vI x5), (6, vI x6), (7, vI x7)] [] := by
  induction n with
  | zero => intro G t0 t2 x3 x5 x6 x7 h; exact h.elim
  | succ n ih =>
    intro G t0 t2 x3 x5 x6 x7 h
    have hJ30 := ih
    replace h : wp_J19_indexOf_2_30 (cxA C) X K J14 _ G t0 t2 x3 x5 x6 x7 := h
    unfold wp_J19_indexOf_2_30 at h
    refine g_iinc hC (pc := 30) 5 (d := (1 : Int32)) (v := (x7 + (1 : Int32))) (lv' := [(7, vI (x7 + (1 : Int32))), (0, vQ (some t0)), (2, vQ (some t2)), (3, vI x3), (5, vI x5), (6, vI x6)]) rfl (by decide) rfl (by decide) rfl dJ19_indexOf_2_30 ?_
    refine g_iload hC (pc := 33) 0 rfl dJ19_indexOf_2_33 ?_
    refine g_iload hC (pc := 35) 5 rfl dJ19_indexOf_2_35 ?_
    refine g_icmp_gt hC (pc := 37) 52 h (by decide) dJ19_indexOf_2_37 (fun h => ?_) (fun h => ?_)
    · exact g_sub [1, 2, 3, 4, 5, 0] rfl (w_J19_indexOf_2_52 hC hK hX hJ14 h)
    · refine g_aload_n hC (pc := 40) 1 rfl rfl dJ19_indexOf_2_40 ?_
      refine g_iload hC (pc := 41) 0 rfl dJ19_indexOf_2_41 ?_
      refine g_aldB hC (pc := 43) h dJ19_indexOf_2_43 (fun i1 h => ?_)
      refine g_iload hC (pc := 44) 4 rfl dJ19_indexOf_2_44 ?_
      refine g_icmp_eq hC (pc := 46) 52 h (by decide) dJ19_indexOf_2_46 (fun h => ?_) (fun h => ?_)
      · exact g_sub [1, 2, 3, 4, 5, 0] rfl (w_J19_indexOf_2_52 hC hK hX hJ14 h)
      · refine g_goto hC (pc := 49) 30 (by decide) dJ19_indexOf_2_49 ?_
        exact g_sub [1, 2, 3, 4, 5, 0] rfl (hJ30 _ _ _ _ _ _ _ h)
def wp_J19_indexOf_2_14 (ad : Nat → Nat) (X : Nat → gS → Prop) (K : Int32 → gS → Prop) (J14 : gS → Option Nat → Nat → Int32 → Int32 → Int32 → Int32 → Prop) (G : gS) (o0 : Option Nat) (t2 : Nat) (x3 : Int32) (x5 : Int32) (x6 : Int32) (x7 : Int32) : Prop :=
  (x6 < x7 → K (-1 : Int32) G) ∧ (¬ x6 < x7 → wNN o0 fun c1 => wAldB G c1 x7 fun i2 => (i2 = x5 → wp_J19_indexOf_2_52 ad X K J14 G c1 t2 x3 x5 x6 x7) ∧ (¬ i2 = x5 → gLoop (fun _ _ _ _ _ _ _ => False) (wp_J19_indexOf_2_30 ad X K J14) gFuel G c1 t2 x3 x5 x6 x7))
theorem w_J19_indexOf_2_14 {C : gCx} (hC : gOk C "java/lang/StringLatin1" cJ19_indexOf_2 [] (some .int) "indexOf" 11 0 0) {K : Int32 → gS → Prop} {X : Nat → gS → Prop} (hK : ∀ r G, K r G → cxK C (some (vI r)) G) (hX : ∀ q G, X q G → cxX C q G) (n : Nat) : ∀ (G : gS) (o0 : Option Nat) (t2 : Nat) (x3 : Int32) (x5 : Int32) (x6 : Int32) (x7 : Int32), gLoop (fun _ _ _ _ _ _ _ => False) (wp_J19_indexOf_2_14 (cxA C) X K) n G o0 t2 x3 x5 x6 x7 → gGo C G 14 [(0, vQ o0), (2, vQ (some t2)), (3, vI x3), (5, vI x5), (6, vI x6), (7, vI x7)] [] := by
  induction n with
  | zero => intro G o0 t2 x3 x5 x6 x7 h; exact h.elim
  | succ n ih =>
    intro G o0 t2 x3 x5 x6 x7 h
    have hJ14 := ih
    replace h : wp_J19_indexOf_2_14 (cxA C) X K _ G o0 t2 x3 x5 x6 x7 := h
    unfold wp_J19_indexOf_2_14 at h
    refine g_iload hC (pc := 14) 5 rfl dJ19_indexOf_2_14 ?_
    refine g_iload hC (pc := 16) 4 rfl dJ19_indexOf_2_16 ?_
    refine g_icmp_gt hC (pc := 18) 119 h (by decide) dJ19_indexOf_2_18 (fun h => ?_) (fun h => ?_)
    · refine g_iconst hC (pc := 119) (v := (-1 : Int32)) (by decide) dJ19_indexOf_2_119 ?_
      exact g_iret hC (pc := 120) (hK _ _ h) dJ19_indexOf_2_120
    · refine g_aload_n hC (pc := 21) 0 rfl rfl dJ19_indexOf_2_21 ?_
      refine g_iload hC (pc := 22) 5 rfl dJ19_indexOf_2_22 ?_
      rcases o0 with _ | c1
      · exact (gNN0 h).elim
      replace h := gNN1 h
      refine g_aldB hC (pc := 24) h dJ19_indexOf_2_24 (fun i2 h => ?_)
      refine g_iload hC (pc := 25) 3 rfl dJ19_indexOf_2_25 ?_
      refine g_icmp_eq hC (pc := 27) 52 h (by decide) dJ19_indexOf_2_27 (fun h => ?_) (fun h => ?_)
      · exact g_sub [0, 1, 2, 3, 4, 5] rfl (w_J19_indexOf_2_52 hC hK hX hJ14 h)
      · exact g_sub [0, 1, 2, 3, 4, 5] rfl (w_J19_indexOf_2_30 hC hK hX hJ14 gFuel _ _ _ _ _ _ _ h)
def wp_J19_indexOf_2 (ad : Nat → Nat) (G : gS) (o0 : Option Nat) (x1 : Int32) (o2 : Option Nat) (x3 : Int32) (x4 : Int32) (X : Nat → gS → Prop) (K : Int32 → gS → Prop) : Prop :=
  wNN o2 fun c1 => wAldB G c1 (0 : Int32) fun i2 => gLoop (fun _ _ _ _ _ _ _ => False) (wp_J19_indexOf_2_14 ad X K) gFuel G o0 c1 x3 i2 (x1 - x3) x4
theorem w_J19_indexOf_2 {C : gCx} (hC : gOk C "java/lang/StringLatin1" cJ19_indexOf_2 [] (some .int) "indexOf" 11 0 0) {K : Int32 → gS → Prop} {X : Nat → gS → Prop} (hK : ∀ r G, K r G → cxK C (some (vI r)) G) (hX : ∀ q G, X q G → cxX C q G) {G : gS} {o0 : Option Nat} {x1 : Int32} {o2 : Option Nat} {x3 : Int32} {x4 : Int32} (h : wp_J19_indexOf_2 (cxA C) G o0 x1 o2 x3 x4 X K) : gGo C G 0 [(0, vQ o0), (1, vI x1), (2, vQ o2), (3, vI x3), (4, vI x4)] [] := by
  unfold wp_J19_indexOf_2 at h
  refine g_aload_n hC (pc := 0) 2 rfl rfl dJ19_indexOf_2_0 ?_
  refine g_iconst hC (pc := 1) (v := (0 : Int32)) (by decide) dJ19_indexOf_2_1 ?_
  rcases o2 with _ | c1
  · exact (gNN0 h).elim
  replace h := gNN1 h
  refine g_aldB hC (pc := 2) h dJ19_indexOf_2_2 (fun i2 h => ?_)
  refine g_istore hC (pc := 3) (lv' := [(5, vI i2), (0, vQ o0), (1, vI x1), (2, vQ (some c1)), (3, vI x3), (4, vI x4)]) (by decide) rfl dJ19_indexOf_2_3 ?_
  refine g_iload_n hC (pc := 5) 2 rfl rfl dJ19_indexOf_2_5 ?_
  refine g_iload_n hC (pc := 6) 4 rfl rfl dJ19_indexOf_2_6 ?_
  refine g_isub hC (pc := 7) dJ19_indexOf_2_7 ?_
  refine g_istore hC (pc := 8) (lv' := [(6, vI (x1 - x3)), (5, vI i2), (0, vQ o0), (1, vI x1), (2, vQ (some c1)), (3, vI x3), (4, vI x4)]) (by decide) rfl dJ19_indexOf_2_8 ?_
  refine g_iload hC (pc := 10) 6 rfl dJ19_indexOf_2_10 ?_
  refine g_istore hC (pc := 12) (lv' := [(7, vI x4), (6, vI (x1 - x3)), (5, vI i2), (0, vQ o0), (1, vI x1), (2, vQ (some c1)), (3, vI x3), (4, vI x4)]) (by decide) rfl dJ19_indexOf_2_12 ?_
  exact g_sub [3, 5, 6, 2, 1, 0] rfl (w_J19_indexOf_2_14 hC hK hX gFuel _ _ _ _ _ _ _ h)
theorem gc_J19_indexOf_2 : gCode yJ19_indexOf_2 cJ19_indexOf_2 11 (some .int) 5 := ⟨q2209, q122, ⟨by decide, by decide⟩, rfl⟩
theorem m_J19_indexOf_2 {l : Launch} (hfl : l.stackTraces = false) {E : gE} {G : gS} {o0 : Option Nat} {x1 : Int32} {o2 : Option Nat} {x3 : Int32} {x4 : Int32} {X : Nat → gS → Prop} {K : Int32 → gS → Prop} (h : wp_J19_indexOf_2 (gAd E) G o0 x1 o2 x3 x4 X K) : gMet l yJ19_indexOf_2 (ws_ yJ19_indexOf_2 cJ19_indexOf_2 11 (some .int)) 0 0 [vQ o0, vI x1, vQ o2, vI x3, vI x4] E G (gRi K) X :=
  g_met hfl (plainFor_of_name (by decide +kernel)) rfl rfl rfl (gle rfl) (fun p e R s m args below meth c hC => w_J19_indexOf_2 hC (fun _ _ h => h) (fun _ _ h => h) h)
def wp_J19_indexOf (ad : Nat → Nat) (G : gS) (o0 : Option Nat) (o1 : Option Nat) (X : Nat → gS → Prop) (K : Int32 → gS → Prop) : Prop :=
  wNN o1 fun c1 => wLen G c1 fun i2 => (¬ i2 = (0 : Int32) → wNN o0 fun c3 => wLen G c3 fun i4 => (¬ i4 = (0 : Int32) → wLen G c3 fun i5 => wLen G c1 fun i6 => wp_J19_indexOf_2 ad G (some c3) i5 (some c1) i6 (0 : Int32) X (fun r8 G7 => K r8 G7)) ∧ (i4 = (0 : Int32) → K (-1 : Int32) G)) ∧ (i2 = (0 : Int32) → K (0 : Int32) G)
theorem w_J19_indexOf {C : gCx} (hC : gOk C "java/lang/StringLatin1" cJ19_indexOf [] (some .int) "indexOf" 2 1 38) {K : Int32 → gS → Prop} {X : Nat → gS → Prop} (hK : ∀ r G, K r G → cxK C (some (vI r)) G) (hX : ∀ q G, X q G → cxX C q G) {G : gS} {o0 : Option Nat} {o1 : Option Nat} (h : wp_J19_indexOf (cxA C) G o0 o1 X K) : gGo C G 0 [(0, vQ o0), (1, vQ o1)] [] := by
  unfold wp_J19_indexOf at h
  refine g_aload_n hC (pc := 0) 1 rfl rfl dJ19_indexOf_0 ?_
  rcases o1 with _ | c1
  · exact (gNN0 h).elim
  replace h := gNN1 h
  refine g_len hC (pc := 1) h dJ19_indexOf_1 (fun i2 h => ?_)
  refine g_if_ne hC (pc := 2) 7 h (by decide) dJ19_indexOf_2 (fun h => ?_) (fun h => ?_)
  · refine g_aload_n hC (pc := 7) 0 rfl rfl dJ19_indexOf_7 ?_
    rcases o0 with _ | c3
    · exact (gNN0 h).elim
    replace h := gNN1 h
    refine g_len hC (pc := 8) h dJ19_indexOf_8 (fun i4 h => ?_)
    refine g_if_ne hC (pc := 9) 14 h (by decide) dJ19_indexOf_9 (fun h => ?_) (fun h => ?_)
    · refine g_aload_n hC (pc := 14) 0 rfl rfl dJ19_indexOf_14 ?_
      refine g_aload_n hC (pc := 15) 0 rfl rfl dJ19_indexOf_15 ?_
      refine g_len hC (pc := 16) h dJ19_indexOf_16 (fun i5 h => ?_)
      refine g_aload_n hC (pc := 17) 1 rfl rfl dJ19_indexOf_17 ?_
      refine g_aload_n hC (pc := 18) 1 rfl rfl dJ19_indexOf_18 ?_
      refine g_len hC (pc := 19) h dJ19_indexOf_19 (fun i6 h => ?_)
      refine g_iconst hC (pc := 20) (v := (0 : Int32)) (by decide) dJ19_indexOf_20 ?_
      refine g_callS hC (pc := 21) (b := 0) (As := [vQ (some c3), vI i5, vQ (some c1), vI i6, vI (0 : Int32)]) gc_J19_indexOf_2 (m_J19_indexOf_2 hC.fl h) q2207 q2208 (gle rfl) (gle rfl) rfl (gle rfl) rfl dJ19_indexOf_21 (gk_i fun r8 G7 h => ?_) (fun _ _ h hio => g_out0 hC (hX _ _ h) hio)
      exact g_iret hC (pc := 24) (hK _ _ h) dJ19_indexOf_24
    · refine g_iconst hC (pc := 12) (v := (-1 : Int32)) (by decide) dJ19_indexOf_12 ?_
      exact g_iret hC (pc := 13) (hK _ _ h) dJ19_indexOf_13
  · refine g_iconst hC (pc := 5) (v := (0 : Int32)) (by decide) dJ19_indexOf_5 ?_
    exact g_iret hC (pc := 6) (hK _ _ h) dJ19_indexOf_6
theorem gc_J19_indexOf : gCode yJ19_indexOf cJ19_indexOf 2 (some .int) 2 := ⟨q2206, q122, ⟨by decide, by decide⟩, rfl⟩
theorem m_J19_indexOf {l : Launch} (hfl : l.stackTraces = false) {E : gE} {G : gS} {o0 : Option Nat} {o1 : Option Nat} {X : Nat → gS → Prop} {K : Int32 → gS → Prop} (h : wp_J19_indexOf (gAd E) G o0 o1 X K) : gMet l yJ19_indexOf (ws_ yJ19_indexOf cJ19_indexOf 2 (some .int)) 1 38 [vQ o0, vQ o1] E G (gRi K) X :=
  g_met hfl (plainFor_of_name (by decide +kernel)) rfl rfl rfl (gle rfl) (fun p e R s m args below meth c hC => w_J19_indexOf hC (fun _ _ h => h) (fun _ _ h => h) h)
def wp_J7_indexOf (ad : Nat → Nat) (G : gS) (t0 : Nat) (o1 : Option Nat) (X : Nat → gS → Prop) (K : Int32 → gS → Prop) : Prop :=
  (gIs G t0 7 ∧ wp_J7_coder ad G t0  X (fun r2 G1 => wNN o1 fun c3 => (gIs G1 c3 7 ∧ wp_J7_coder ad G1 c3  X (fun r5 G4 => (¬ r2 = r5 → (¬ r2 = (0 : Int32) → wGetQ G4 t0 7 0 fun q6 => wGetQ G4 c3 7 0 fun q7 => False) ∧ (r2 = (0 : Int32) → K (-1 : Int32) G4)) ∧ (r2 = r5 → (gIs G4 t0 7 ∧ wp_J7_isLatin1 ad G4 t0  X (fun r9 G8 => (r9 = (0 : Int32) → wGetQ G8 t0 7 0 fun q10 => wGetQ G8 c3 7 0 fun q11 => False) ∧ (¬ r9 = (0 : Int32) → wGetQ G8 t0 7 0 fun q12 => wGetQ G8 c3 7 0 fun q13 => wp_J19_indexOf ad G8 q12 q13 X (fun r15 G14 => K r15 G14)))))))))
theorem w_J7_indexOf {C : gCx} (hC : gOk C "java/lang/String" cJ7_indexOf [] (some .int) "indexOf" 3 2 67) {K : Int32 → gS → Prop} {X : Nat → gS → Prop} (hK : ∀ r G, K r G → cxK C (some (vI r)) G) (hX : ∀ q G, X q G → cxX C q G) {G : gS} {t0 : Nat} {o1 : Option Nat} (h : wp_J7_indexOf (cxA C) G t0 o1 X K) : gGo C G 0 [(0, vQ (some t0)), (1, vQ o1)] [] := by
  unfold wp_J7_indexOf at h
  refine g_aload_n hC (pc := 0) 0 rfl rfl dJ7_indexOf_0 ?_
  obtain ⟨hi, h⟩ := h
  refine g_callV hC (pc := 1) (ci := 7) (As := []) gc_J7_coder (m_J7_coder hC.fl h) rfl hi q529 q530 q531 (gle rfl) (gle rfl) rfl (gle rfl) rfl dJ7_indexOf_1 (gk_i fun r2 G1 h => ?_) (fun _ _ h hio => g_out0 hC (hX _ _ h) hio)
  refine g_istore_n hC (pc := 4) (lv' := [(2, vI r2), (0, vQ (some t0)), (1, vQ o1)]) rfl (by decide) rfl dJ7_indexOf_4 ?_
  refine g_iload_n hC (pc := 5) 0 rfl rfl dJ7_indexOf_5 ?_
  refine g_aload_n hC (pc := 6) 2 rfl rfl dJ7_indexOf_6 ?_
  rcases o1 with _ | c3
  · exact (gNN0 h).elim
  replace h := gNN1 h
  obtain ⟨hi, h⟩ := h
  refine g_callV hC (pc := 7) (ci := 7) (As := []) gc_J7_coder (m_J7_coder hC.fl h) rfl hi q529 q530 q531 (gle rfl) (gle rfl) rfl (gle rfl) rfl dJ7_indexOf_7 (gk_i fun r5 G4 h => ?_) (fun _ _ h hio => g_out0 hC (hX _ _ h) hio)
  refine g_icmp_ne hC (pc := 10) 46 h (by decide) dJ7_indexOf_10 (fun h => ?_) (fun h => ?_)
  · refine g_iload_n hC (pc := 46) 0 rfl rfl dJ7_indexOf_46 ?_
    refine g_if_ne hC (pc := 47) 52 h (by decide) dJ7_indexOf_47 (fun h => ?_) (fun h => ?_)
    · refine g_aload_n hC (pc := 52) 1 rfl rfl dJ7_indexOf_52 ?_
      refine g_getQ hC (pc := 53) in_J7 (ci := 7) rfl 0 (by decide) q683 (Or.inl rfl) h dJ7_indexOf_53 (fun q6 h => ?_)
      refine g_aload_n hC (pc := 56) 2 rfl rfl dJ7_indexOf_56 ?_
      refine g_getQ hC (pc := 57) in_J7 (ci := 7) rfl 0 (by decide) q683 (Or.inl rfl) h dJ7_indexOf_57 (fun q7 h => ?_)
      exact h.elim
    · refine g_iconst hC (pc := 50) (v := (-1 : Int32)) (by decide) dJ7_indexOf_50 ?_
      exact g_iret hC (pc := 51) (hK _ _ h) dJ7_indexOf_51
  · refine g_aload_n hC (pc := 13) 1 rfl rfl dJ7_indexOf_13 ?_
    obtain ⟨hi, h⟩ := h
    refine g_callV hC (pc := 14) (ci := 7) (As := []) gc_J7_isLatin1 (m_J7_isLatin1 hC.fl h) rfl hi q1192 q1193 q1194 (gle rfl) (gle rfl) rfl (gle rfl) rfl dJ7_indexOf_14 (gk_i fun r9 G8 h => ?_) (fun _ _ h hio => g_out0 hC (hX _ _ h) hio)
    refine g_if_eq hC (pc := 17) 34 h (by decide) dJ7_indexOf_17 (fun h => ?_) (fun h => ?_)
    · refine g_aload_n hC (pc := 34) 1 rfl rfl dJ7_indexOf_34 ?_
      refine g_getQ hC (pc := 35) in_J7 (ci := 7) rfl 0 (by decide) q683 (Or.inl rfl) h dJ7_indexOf_35 (fun q10 h => ?_)
      refine g_aload_n hC (pc := 38) 2 rfl rfl dJ7_indexOf_38 ?_
      refine g_getQ hC (pc := 39) in_J7 (ci := 7) rfl 0 (by decide) q683 (Or.inl rfl) h dJ7_indexOf_39 (fun q11 h => ?_)
      exact h.elim
    · refine g_aload_n hC (pc := 20) 1 rfl rfl dJ7_indexOf_20 ?_
      refine g_getQ hC (pc := 21) in_J7 (ci := 7) rfl 0 (by decide) q683 (Or.inl rfl) h dJ7_indexOf_21 (fun q12 h => ?_)
      refine g_aload_n hC (pc := 24) 2 rfl rfl dJ7_indexOf_24 ?_
      refine g_getQ hC (pc := 25) in_J7 (ci := 7) rfl 0 (by decide) q683 (Or.inl rfl) h dJ7_indexOf_25 (fun q13 h => ?_)
      refine g_callS hC (pc := 28) (b := 0) (As := [vQ q12, vQ q13]) gc_J19_indexOf (m_J19_indexOf hC.fl h) q2204 q2205 (gle rfl) (gle rfl) rfl (gle rfl) rfl dJ7_indexOf_28 (gk_i fun r15 G14 h => ?_) (fun _ _ h hio => g_out0 hC (hX _ _ h) hio)
      refine g_goto hC (pc := 31) 45 (by decide) dJ7_indexOf_31 ?_
      exact g_iret hC (pc := 45) (hK _ _ h) dJ7_indexOf_45
theorem gc_J7_indexOf : gCode yJ7_indexOf cJ7_indexOf 3 (some .int) 1 := ⟨q2203, q103, ⟨by decide, by decide⟩, rfl⟩
theorem m_J7_indexOf {l : Launch} (hfl : l.stackTraces = false) {E : gE} {G : gS} {t0 : Nat} {o1 : Option Nat} {X : Nat → gS → Prop} {K : Int32 → gS → Prop} (h : wp_J7_indexOf (gAd E) G t0 o1 X K) : gMet l yJ7_indexOf (ws_ yJ7_indexOf cJ7_indexOf 3 (some .int)) 2 67 [vQ (some t0), vQ o1] E G (gRi K) X :=
  g_met hfl (plainFor_of_name (by decide +kernel)) rfl rfl rfl (gle rfl) (fun p e R s m args below meth c hC => w_J7_indexOf hC (fun _ _ h => h) (fun _ _ h => h) h)
def wp_J7_contains (ad : Nat → Nat) (G : gS) (t0 : Nat) (o1 : Option Nat) (X : Nat → gS → Prop) (K : Int32 → gS → Prop) : Prop :=
  wNN o1 fun c1 => (gIs G c1 7 ∧ wp_J7_toString ad G c1  X (fun q3 G2 => (gIs G2 t0 7 ∧ wp_J7_indexOf ad G2 t0 q3 X (fun r5 G4 => (r5 < (0 : Int32) → K (0 : Int32) G4) ∧ (¬ r5 < (0 : Int32) → K (1 : Int32) G4)))))
theorem w_J7_contains {C : gCx} (hC : gOk C "java/lang/String" cJ7_contains [] (some .boolean) "contains" 2 3 97) {K : Int32 → gS → Prop} {X : Nat → gS → Prop} (hK : ∀ r G, K r G → cxK C (some (vI r)) G) (hX : ∀ q G, X q G → cxX C q G) {G : gS} {t0 : Nat} {o1 : Option Nat} (h : wp_J7_contains (cxA C) G t0 o1 X K) : gGo C G 0 [(0, vQ (some t0)), (1, vQ o1)] [] := by
  unfold wp_J7_contains at h
  refine g_aload_n hC (pc := 0) 0 rfl rfl dJ7_contains_0 ?_
  refine g_aload_n hC (pc := 1) 1 rfl rfl dJ7_contains_1 ?_
  rcases o1 with _ | c1
  · exact (gNN0 h).elim
  replace h := gNN1 h
  obtain ⟨hi, h⟩ := h
  refine g_callF hC (pc := 2) (ci := 7) (As := []) gc_J7_toString (m_J7_toString hC.fl h) rfl hi q2189 (List.mem_of_getElem? (i := 14) rfl) rfl q2193 q2175 (gle rfl) (gle rfl) rfl (gle rfl) rfl dJ7_contains_2 (gk_q fun q3 G2 h => ?_) (fun _ _ h hio => g_out0 hC (hX _ _ h) hio)
  obtain ⟨hi, h⟩ := h
  refine g_callV hC (pc := 7) (ci := 7) (As := [vQ q3]) gc_J7_indexOf (m_J7_indexOf hC.fl h) rfl hi q2200 q2201 q2202 (gle rfl) (gle rfl) rfl (gle rfl) rfl dJ7_contains_7 (gk_i fun r5 G4 h => ?_) (fun _ _ h hio => g_out0 hC (hX _ _ h) hio)
  refine g_if_lt hC (pc := 10) 17 h (by decide) dJ7_contains_10 (fun h => ?_) (fun h => ?_)
  · refine g_iconst hC (pc := 17) (v := (0 : Int32)) (by decide) dJ7_contains_17 ?_
    exact g_zret hC (pc := 18) rfl (hK _ _ h) dJ7_contains_18
  · refine g_iconst hC (pc := 13) (v := (1 : Int32)) (by decide) dJ7_contains_13 ?_
    refine g_goto hC (pc := 14) 18 (by decide) dJ7_contains_14 ?_
    exact g_zret hC (pc := 18) rfl (hK _ _ h) dJ7_contains_18
theorem gc_J7_contains : gCode yJ7_contains cJ7_contains 2 (some .boolean) 1 := ⟨q2187, q103, ⟨by decide, by decide⟩, rfl⟩
theorem m_J7_contains {l : Launch} (hfl : l.stackTraces = false) {E : gE} {G : gS} {t0 : Nat} {o1 : Option Nat} {X : Nat → gS → Prop} {K : Int32 → gS → Prop} (h : wp_J7_contains (gAd E) G t0 o1 X K) : gMet l yJ7_contains (ws_ yJ7_contains cJ7_contains 2 (some .boolean)) 3 97 [vQ (some t0), vQ o1] E G (gRi K) X :=
  g_met hfl (plainFor_of_name (by decide +kernel)) rfl rfl rfl (gle rfl) (fun p e R s m args below meth c hC => w_J7_contains hC (fun _ _ h => h) (fun _ _ h => h) h)
def wp_J9_init_3_at18 (ad : Nat → Nat) (G : gS) (t0 : Nat) (o1 : Option Nat) (o2 : Option Nat) (X : Nat → gS → Prop) (K : gS → Prop) : Prop :=
  wPut G t0 18 0 (va_rf (some t0)) fun G1 => wPut G1 t0 18 1 (va_rf (gOp (ad 5))) fun G2 => wPut G2 t0 18 2 (va_rf (gOp (ad 6))) fun G3 => wFill G3 t0 18 1 4 (gOp (ad 5)) (wPut G3 t0 18 3 (va_rf o1) fun G4 => wPut G4 t0 18 0 (va_rf o2) fun G5 => K G5)
theorem w_J9_init_3_at18 {C : gCx} (hC : gOk C "java/lang/Throwable" cJ9_init_3 [] none "<init>" 3 4 100) {K : gS → Prop} {X : Nat → gS → Prop} (hK : ∀ G, K G → cxK C none G) (hX : ∀ q G, X q G → cxX C q G) {G : gS} {t0 : Nat} {o1 : Option Nat} {o2 : Option Nat} (h : wp_J9_init_3_at18 (cxA C) G t0 o1 o2 X K) : gGo C G 0 [(0, vQ (some t0)), (1, vQ o1), (2, vQ o2)] [] := by
  unfold wp_J9_init_3_at18 at h
  refine g_aload_n hC (pc := 0) 0 rfl rfl dJ9_init_3_0 ?_
  refine g_objInit hC (pc := 1) q417 q151 q152 (gle rfl) (gle rfl) (gle rfl) dJ9_init_3_1 ?_
  refine g_aload_n hC (pc := 4) 0 rfl rfl dJ9_init_3_4 ?_
  refine g_aload_n hC (pc := 5) 0 rfl rfl dJ9_init_3_5 ?_
  refine g_put hC (pc := 6) in_X17 (ci := 18) rfl 0 (by decide) tyX17_ok nmX17 q659 (Or.inl rfl) rfl (gnarO _ _) (gfitO _ _) h dJ9_init_3_6 (fun G1 h => ?_)
  refine g_aload_n hC (pc := 9) 0 rfl rfl dJ9_init_3_9 ?_
  refine g_statQ hC (pc := 10) (List.mem_of_getElem? (i := 0) rfl) q418 (fun _ _ h => h) dJ9_init_3_10 ?_
  refine g_put hC (pc := 13) in_X17 (ci := 18) rfl 1 (by decide) tyX17_ok nmX17 q660 (Or.inl rfl) rfl (gnarA _ _) (gfitA _ _) h dJ9_init_3_13 (fun G2 h => ?_)
  refine g_aload_n hC (pc := 16) 0 rfl rfl dJ9_init_3_16 ?_
  refine g_statQ hC (pc := 17) (List.mem_of_getElem? (i := 1) rfl) q420 (fun _ _ h => h) dJ9_init_3_17 ?_
  refine g_put hC (pc := 20) in_X17 (ci := 18) rfl 2 (by decide) tyX17_ok nmX17 q661 (Or.inl rfl) rfl (gnarO _ _) (gfitO _ _) h dJ9_init_3_20 (fun G3 h => ?_)
  refine g_aload_n hC (pc := 23) 0 rfl rfl dJ9_init_3_23 ?_
  refine g_fill hC (pc := 24) (ci := 18) 1 4 rfl (by decide) (by decide) ⟨rfl, rfl, rfl⟩ ⟨rfl, rfl, rfl⟩ q2231 q427 q2229 (gle rfl) (gle rfl) (gle rfl) h dJ9_init_3_24 (fun h => ?_)
  refine g_pop hC (pc := 27) rfl dJ9_init_3_27 ?_
  refine g_aload_n hC (pc := 28) 0 rfl rfl dJ9_init_3_28 ?_
  refine g_aload_n hC (pc := 29) 1 rfl rfl dJ9_init_3_29 ?_
  refine g_put hC (pc := 30) in_X17 (ci := 18) rfl 3 (by decide) tyX17_ok nmX17 q658 (Or.inl rfl) rfl (gnarO _ _) (gfitO _ _) h dJ9_init_3_30 (fun G4 h => ?_)
  refine g_aload_n hC (pc := 33) 0 rfl rfl dJ9_init_3_33 ?_
  refine g_aload_n hC (pc := 34) 2 rfl rfl dJ9_init_3_34 ?_
  refine g_put hC (pc := 35) in_X17 (ci := 18) rfl 0 (by decide) tyX17_ok nmX17 q659 (Or.inl rfl) rfl (gnarO _ _) (gfitO _ _) h dJ9_init_3_35 (fun G5 h => ?_)
  exact g_vret hC (pc := 38) (hK _ h) dJ9_init_3_38
theorem m_J9_init_3_at18 {l : Launch} (hfl : l.stackTraces = false) {E : gE} {G : gS} {t0 : Nat} {o1 : Option Nat} {o2 : Option Nat} {X : Nat → gS → Prop} {K : gS → Prop} (h : wp_J9_init_3_at18 (gAd E) G t0 o1 o2 X K) : gMet l yJ9_init_3 (ws_ yJ9_init_3 cJ9_init_3 3 none) 4 100 [vQ (some t0), vQ o1, vQ o2] E G (gRv K) X :=
  g_met hfl (plainFor_of_name (by decide +kernel)) rfl rfl rfl (gle rfl) (fun p e R s m args below meth c hC => w_J9_init_3_at18 hC (fun _ h => h) (fun _ _ h => h) h)
def wp_J10_init_2_at18 (ad : Nat → Nat) (G : gS) (t0 : Nat) (o1 : Option Nat) (o2 : Option Nat) (X : Nat → gS → Prop) (K : gS → Prop) : Prop :=
  wp_J9_init_3_at18 ad G t0 o1 o2 X (fun G1 => K G1)
theorem w_J10_init_2_at18 {C : gCx} (hC : gOk C "java/lang/Exception" cJ10_init_2 [] none "<init>" 3 5 130) {K : gS → Prop} {X : Nat → gS → Prop} (hK : ∀ G, K G → cxK C none G) (hX : ∀ q G, X q G → cxX C q G) {G : gS} {t0 : Nat} {o1 : Option Nat} {o2 : Option Nat} (h : wp_J10_init_2_at18 (cxA C) G t0 o1 o2 X K) : gGo C G 0 [(0, vQ (some t0)), (1, vQ o1), (2, vQ o2)] [] := by
  unfold wp_J10_init_2_at18 at h
  refine g_aload_n hC (pc := 0) 0 rfl rfl dJ10_init_2_0 ?_
  refine g_aload_n hC (pc := 1) 1 rfl rfl dJ10_init_2_1 ?_
  refine g_aload_n hC (pc := 2) 2 rfl rfl dJ10_init_2_2 ?_
  refine g_callI hC (pc := 3) (As := [vQ o1, vQ o2]) gc_J9_init_3 (m_J9_init_3_at18 hC.fl h) rfl q908 q909 (gle rfl) (gle rfl) rfl (gle rfl) rfl dJ10_init_2_3 (gk_v fun G1 h => ?_) (fun _ _ h hio => g_out0 hC (hX _ _ h) hio)
  exact g_vret hC (pc := 6) (hK _ h) dJ10_init_2_6
theorem m_J10_init_2_at18 {l : Launch} (hfl : l.stackTraces = false) {E : gE} {G : gS} {t0 : Nat} {o1 : Option Nat} {o2 : Option Nat} {X : Nat → gS → Prop} {K : gS → Prop} (h : wp_J10_init_2_at18 (gAd E) G t0 o1 o2 X K) : gMet l yJ10_init_2 (ws_ yJ10_init_2 cJ10_init_2 3 none) 5 130 [vQ (some t0), vQ o1, vQ o2] E G (gRv K) X :=
  g_met hfl (plainFor_of_name (by decide +kernel)) rfl rfl rfl (gle rfl) (fun p e R s m args below meth c hC => w_J10_init_2_at18 hC (fun _ h => h) (fun _ _ h => h) h)
def wp_X4_init_at18 (ad : Nat → Nat) (G : gS) (t0 : Nat) (o1 : Option Nat) (X : Nat → gS → Prop) (K : gS → Prop) : Prop :=
  wp_J10_init_2_at18 ad G t0 none o1 X (fun G1 => K G1)
theorem w_X4_init_at18 {C : gCx} (hC : gOk C "GoblinHousehold$Failure" cX4_init [] none "<init>" 2 6 160) {K : gS → Prop} {X : Nat → gS → Prop} (hK : ∀ G, K G → cxK C none G) (hX : ∀ q G, X q G → cxX C q G) {G : gS} {t0 : Nat} {o1 : Option Nat} (h : wp_X4_init_at18 (cxA C) G t0 o1 X K) : gGo C G 0 [(0, vQ (some t0)), (1, vQ o1)] [] := by
  unfold wp_X4_init_at18 at h
  refine g_aload_n hC (pc := 0) 0 rfl rfl dX4_init_0 ?_
  refine g_null hC (pc := 1) dX4_init_1 ?_
  refine g_aload_n hC (pc := 2) 1 rfl rfl dX4_init_2 ?_
  refine g_callI hC (pc := 3) (As := [vQ none, vQ o1]) gc_J10_init_2 (m_J10_init_2_at18 hC.fl h) rfl q905 q906 (gle rfl) (gle rfl) rfl (gle rfl) rfl dX4_init_3 (gk_v fun G1 h => ?_) (fun _ _ h hio => g_out0 hC (hX _ _ h) hio)
  exact g_vret hC (pc := 6) (hK _ h) dX4_init_6
theorem m_X4_init_at18 {l : Launch} (hfl : l.stackTraces = false) {E : gE} {G : gS} {t0 : Nat} {o1 : Option Nat} {X : Nat → gS → Prop} {K : gS → Prop} (h : wp_X4_init_at18 (gAd E) G t0 o1 X K) : gMet l yX4_init (ws_ yX4_init cX4_init 2 none) 6 160 [vQ (some t0), vQ o1] E G (gRv K) X :=
  g_met hfl (plainFor_of_name (by decide +kernel)) rfl rfl rfl (gle rfl) (fun p e R s m args below meth c hC => w_X4_init_at18 hC (fun _ h => h) (fun _ _ h => h) h)
def wp_X17_init (ad : Nat → Nat) (G : gS) (t0 : Nat) (x1 : Int32) (X : Nat → gS → Prop) (K : gS → Prop) : Prop :=
  wp_X4_init_at18 ad G t0 none X (fun G1 => wPut G1 t0 18 6 (.int x1) fun G2 => K G2)
theorem w_X17_init {C : gCx} (hC : gOk C "GoblinHousehold$SyntaxFailure" cX17_init [] none "<init>" 2 7 189) {K : gS → Prop} {X : Nat → gS → Prop} (hK : ∀ G, K G → cxK C none G) (hX : ∀ q G, X q G → cxX C q G) {G : gS} {t0 : Nat} {x1 : Int32} (h : wp_X17_init (cxA C) G t0 x1 X K) : gGo C G 0 [(0, vQ (some t0)), (1, vI x1)] [] := by
  unfold wp_X17_init at h
  refine g_aload_n hC (pc := 0) 0 rfl rfl dX17_init_0 ?_
  refine g_null hC (pc := 1) dX17_init_1 ?_
  refine g_callI hC (pc := 2) (As := [vQ none]) gc_X4_init (m_X4_init_at18 hC.fl h) rfl q2238 q903 (gle rfl) (gle rfl) rfl (gle rfl) rfl dX17_init_2 (gk_v fun G1 h => ?_) (fun _ _ h hio => g_out0 hC (hX _ _ h) hio)
  refine g_aload_n hC (pc := 5) 0 rfl rfl dX17_init_5 ?_
  refine g_iload_n hC (pc := 6) 1 rfl rfl dX17_init_6 ?_
  refine g_putF hC (pc := 7) in_X17 (ci := 18) rfl 6 (by decide) tyX17_ok nmX17 q2239 (Or.inl rfl) rfl rfl rfl rfl rfl h dX17_init_7 (fun G2 h => ?_)
  exact g_vret hC (pc := 10) (hK _ h) dX17_init_10
theorem gc_X17_init : gCode yX17_init cX17_init 2 none 1 := ⟨q2237, q142, ⟨by decide, by decide⟩, rfl⟩
theorem m_X17_init {l : Launch} (hfl : l.stackTraces = false) {E : gE} {G : gS} {t0 : Nat} {x1 : Int32} {X : Nat → gS → Prop} {K : gS → Prop} (h : wp_X17_init (gAd E) G t0 x1 X K) : gMet l yX17_init (ws_ yX17_init cX17_init 2 none) 7 189 [vQ (some t0), vI x1] E G (gRv K) X :=
  g_met hfl (plainFor_of_name (by decide +kernel)) rfl rfl rfl (gle rfl) (fun p e R s m args below meth c hC => w_X17_init hC (fun _ h => h) (fun _ _ h => h) h)
def wp_X15_require (ad : Nat → Nat) (G : gS) (t0 : Nat) (x1 : Int32) (X : Nat → gS → Prop) (K : gS → Prop) : Prop :=
  (¬ x1 = (0 : Int32) → K G) ∧ (x1 = (0 : Int32) → wNew G 18 7 [.null, .null, .null, .null, .null, .int 0, .int 0] fun c2 G1 => wGetI G1 t0 16 1 fun i3 => wp_X17_init ad G1 c2 i3 X (fun G4 => wThrow G4 c2 X))
theorem w_X15_require {C : gCx} (hC : gOk C "GoblinHousehold$Parser" cX15_require [] none "require" 2 8 218) {K : gS → Prop} {X : Nat → gS → Prop} (hK : ∀ G, K G → cxK C none G) (hX : ∀ q G, X q G → cxX C q G) {G : gS} {t0 : Nat} {x1 : Int32} (h : wp_X15_require (cxA C) G t0 x1 X K) : gGo C G 0 [(0, vQ (some t0)), (1, vI x1)] [] := by
  unfold wp_X15_require at h
  refine g_iload_n hC (pc := 0) 1 rfl rfl dX15_require_0 ?_
  refine g_if_ne hC (pc := 1) 16 h (by decide) dX15_require_1 (fun h => ?_) (fun h => ?_)
  · exact g_vret hC (pc := 16) (hK _ h) dX15_require_16
  · refine g_new hC (pc := 4) in_X17 (ci := 18) rfl (by decide) tyX17_ok q2226 q2227 q142 gdf_X17 h dX15_require_4 (fun c2 G1 h => ?_)
    refine g_dup hC (pc := 7) rfl dX15_require_7 ?_
    refine g_aload_n hC (pc := 8) 0 rfl rfl dX15_require_8 ?_
    refine g_getI hC (pc := 9) in_X15 (ci := 16) rfl 1 (by decide) q2070 (Or.inl rfl) h dX15_require_9 (fun i3 h => ?_)
    refine g_callI hC (pc := 12) (As := [vI i3]) gc_X17_init (m_X17_init hC.fl h) rfl q2235 q2236 (gle rfl) (gle rfl) rfl (gle rfl) rfl dX15_require_12 (gk_v fun G4 h => ?_) (fun _ _ h hio => g_out0 hC (hX _ _ h) hio)
    exact g_athrow hC (pc := 15) dX15_require_15 h.1 (g_out0 hC (hX _ _ h.2) h.1)
theorem gc_X15_require : gCode yX15_require cX15_require 2 none 1 := ⟨q2225, q140, ⟨by decide, by decide⟩, rfl⟩
theorem m_X15_require {l : Launch} (hfl : l.stackTraces = false) {E : gE} {G : gS} {t0 : Nat} {x1 : Int32} {X : Nat → gS → Prop} {K : gS → Prop} (h : wp_X15_require (gAd E) G t0 x1 X K) : gMet l yX15_require (ws_ yX15_require cX15_require 2 none) 8 218 [vQ (some t0), vI x1] E G (gRv K) X :=
  g_met hfl (plainFor_of_name (by decide +kernel)) rfl rfl rfl (gle rfl) (fun p e R s m args below meth c hC => w_X15_require hC (fun _ h => h) (fun _ _ h => h) h)
def wp_X15_word_128 (ad : Nat → Nat) (X : Nat → gS → Prop) (K : Option Nat → gS → Prop) (G : gS) (t1 : Nat) (xs0 : Int32) (ts1 : Nat) : Prop :=
  (gIs G ts1 16 ∧ wp_X15_require ad G ts1 xs0 X (fun G1 => (gIs G1 t1 6 ∧ wp_J6_toString ad G1 t1  X (fun q3 G2 => K q3 G2))))
theorem w_X15_word_128 {C : gCx} (hC : gOk C "GoblinHousehold$Parser" cX15_word [] (some (Jvm.ClassFile.FieldType.object "java/lang/String")) "word" 2 15 450) {K : Option Nat → gS → Prop} {X : Nat → gS → Prop} (hK : ∀ r G, K r G → cxK C (some (vQ r)) G) (hX : ∀ q G, X q G → cxX C q G) {G : gS} {t1 : Nat} {xs0 : Int32} {ts1 : Nat} (h : wp_X15_word_128 (cxA C) X K G t1 xs0 ts1) : gGo C G 128 [(1, vQ (some t1))] [vI xs0, vQ (some ts1)] := by
  unfold wp_X15_word_128 at h
  obtain ⟨hi, h⟩ := h
  refine g_callV hC (pc := 128) (ci := 16) (As := [vI xs0]) gc_X15_require (m_X15_require hC.fl h) rfl hi q2222 q2224 qs33 (gle rfl) (gle rfl) rfl (gle rfl) rfl dX15_word_128 (gk_v fun G1 h => ?_) (fun _ _ h hio => g_out0 hC (hX _ _ h) hio)
  refine g_aload_n hC (pc := 131) 0 rfl rfl dX15_word_131 ?_
  obtain ⟨hi, h⟩ := h
  refine g_callV hC (pc := 132) (ci := 6) (As := []) gc_J6_toString (m_J6_toString hC.fl h) rfl hi q2183 q595 q596 (gle rfl) (gle rfl) rfl (gle rfl) rfl dX15_word_132 (gk_q fun q3 G2 h => ?_) (fun _ _ h hio => g_out0 hC (hX _ _ h) hio)
  exact g_aret hC (pc := 135) (Or.inl ⟨_, rfl⟩) (hK _ _ h) dX15_word_135
def wp_X15_word_127 (ad : Nat → Nat) (X : Nat → gS → Prop) (K : Option Nat → gS → Prop) (G : gS) (t1 : Nat) (ts0 : Nat) : Prop :=
  wp_X15_word_128 ad X K G t1 (0 : Int32) ts0
theorem w_X15_word_127 {C : gCx} (hC : gOk C "GoblinHousehold$Parser" cX15_word [] (some (Jvm.ClassFile.FieldType.object "java/lang/String")) "word" 2 15 450) {K : Option Nat → gS → Prop} {X : Nat → gS → Prop} (hK : ∀ r G, K r G → cxK C (some (vQ r)) G) (hX : ∀ q G, X q G → cxX C q G) {G : gS} {t1 : Nat} {ts0 : Nat} (h : wp_X15_word_127 (cxA C) X K G t1 ts0) : gGo C G 127 [(1, vQ (some t1))] [vQ (some ts0)] := by
  unfold wp_X15_word_127 at h
  refine g_iconst hC (pc := 127) (v := (0 : Int32)) (by decide) dX15_word_127 ?_
  exact g_sub [0] rfl (w_X15_word_128 hC hK hX h)
def wp_X15_word_83 (ad : Nat → Nat) (X : Nat → gS → Prop) (K : Option Nat → gS → Prop) (G : gS) (t0 : Nat) (t1 : Nat) : Prop :=
  (gIs G t1 6 ∧ wp_J6_length ad G t1  X (fun r2 G1 => (r2 ≤ (0 : Int32) → wp_X15_word_127 ad X K G1 t1 t0) ∧ (¬ r2 ≤ (0 : Int32) → wNew G1 6 4 [.null, .int 0, .int 0, .int 0] fun c4 G3 => wp_J6_init ad G3 c4  X (fun G5 => (gIs G5 c4 6 ∧ wp_J6_append ad G5 c4 (some (ad 127)) X (fun q7 G6 => wNN q7 fun c8 => (gIs G6 c8 6 ∧ wp_J6_append_4 ad G6 c8 (some t1) X (fun q10 G9 => wNN q10 fun c11 => (gIs G9 c11 6 ∧ wp_J6_append ad G9 c11 (some (ad 127)) X (fun q13 G12 => wNN q13 fun c14 => (gIs G12 c14 6 ∧ wp_J6_toString ad G12 c14  X (fun q16 G15 => (gIs G15 (ad 126) 7 ∧ wp_J7_contains ad G15 (ad 126) q16 X (fun r18 G17 => (r18 = (0 : Int32) → wp_X15_word_127 ad X K G17 t1 t0) ∧ (¬ r18 = (0 : Int32) → wp_X15_word_128 ad X K G17 t1 (1 : Int32) t0)))))))))))))))
theorem w_X15_word_83 {C : gCx} (hC : gOk C "GoblinHousehold$Parser" cX15_word [] (some (Jvm.ClassFile.FieldType.object "java/lang/String")) "word" 2 15 450) {K : Option Nat → gS → Prop} {X : Nat → gS → Prop} (hK : ∀ r G, K r G → cxK C (some (vQ r)) G) (hX : ∀ q G, X q G → cxX C q G) {G : gS} {t0 : Nat} {t1 : Nat} (h : wp_X15_word_83 (cxA C) X K G t0 t1) : gGo C G 83 [(0, vQ (some t0)), (1, vQ (some t1))] [] := by
  unfold wp_X15_word_83 at h
  refine g_aload_n hC (pc := 83) 0 rfl rfl dX15_word_83 ?_
  refine g_aload_n hC (pc := 84) 1 rfl rfl dX15_word_84 ?_
  obtain ⟨hi, h⟩ := h
  refine g_callV hC (pc := 85) (ci := 6) (As := []) gc_J6_length (m_J6_length hC.fl h) rfl hi q2244 q616 q2999 (gle rfl) (gle rfl) rfl (gle rfl) rfl dX15_word_85 (gk_i fun r2 G1 h => ?_) (fun _ _ h hio => g_out0 hC (hX _ _ h) hio)
  refine g_if_le hC (pc := 88) 127 h (by decide) dX15_word_88 (fun h => ?_) (fun h => ?_)
  · exact g_sub [1] rfl (w_X15_word_127 hC hK hX h)
  · refine g_ldcS hC (pc := 91) (List.mem_of_getElem? (i := 26) rfl) dX15_word_91 ?_
    refine g_new hC (pc := 93) in_J6 (ci := 6) rfl (by decide) tyJ6_ok q2092 q259 q102 gdf_J6 h dX15_word_93 (fun c4 G3 h => ?_)
    refine g_dup hC (pc := 96) rfl dX15_word_96 ?_
    refine g_callI hC (pc := 97) (As := []) gc_J6_init (m_J6_init hC.fl h) rfl q2093 q261 (gle rfl) (gle rfl) rfl (gle rfl) rfl dX15_word_97 (gk_v fun G5 h => ?_) (fun _ _ h hio => g_out0 hC (hX _ _ h) hio)
    refine g_ldcS hC (pc := 100) (List.mem_of_getElem? (i := 27) rfl) dX15_word_100 ?_
    obtain ⟨hi, h⟩ := h
    refine g_callV hC (pc := 102) (ci := 6) (As := [vQ (some (cxA C 127))]) gc_J6_append (m_J6_append hC.fl h) rfl hi q2102 q449 q450 (gle rfl) (gle rfl) rfl (gle rfl) rfl dX15_word_102 (gk_q fun q7 G6 h => ?_) (fun _ _ h hio => g_out0 hC (hX _ _ h) hio)
    refine g_aload_n hC (pc := 105) 1 rfl rfl dX15_word_105 ?_
    rcases q7 with _ | c8
    · exact (gNN0 h).elim
    replace h := gNN1 h
    obtain ⟨hi, h⟩ := h
    refine g_callV hC (pc := 106) (ci := 6) (As := [vQ (some t1)]) gc_J6_append_4 (m_J6_append_4 hC.fl h) rfl hi q2103 q2104 q2105 (gle rfl) (gle rfl) rfl (gle rfl) rfl dX15_word_106 (gk_q fun q10 G9 h => ?_) (fun _ _ h hio => g_out0 hC (hX _ _ h) hio)
    refine g_ldcS hC (pc := 109) (List.mem_of_getElem? (i := 27) rfl) dX15_word_109 ?_
    rcases q10 with _ | c11
    · exact (gNN0 h).elim
    replace h := gNN1 h
    obtain ⟨hi, h⟩ := h
    refine g_callV hC (pc := 111) (ci := 6) (As := [vQ (some (cxA C 127))]) gc_J6_append (m_J6_append hC.fl h) rfl hi q2102 q449 q450 (gle rfl) (gle rfl) rfl (gle rfl) rfl dX15_word_111 (gk_q fun q13 G12 h => ?_) (fun _ _ h hio => g_out0 hC (hX _ _ h) hio)
    rcases q13 with _ | c14
    · exact (gNN0 h).elim
    replace h := gNN1 h
    obtain ⟨hi, h⟩ := h
    refine g_callV hC (pc := 114) (ci := 6) (As := []) gc_J6_toString (m_J6_toString hC.fl h) rfl hi q2183 q595 q596 (gle rfl) (gle rfl) rfl (gle rfl) rfl dX15_word_114 (gk_q fun q16 G15 h => ?_) (fun _ _ h hio => g_out0 hC (hX _ _ h) hio)
    obtain ⟨hi, h⟩ := h
    refine g_callV hC (pc := 117) (ci := 7) (As := [vQ q16]) gc_J7_contains (m_J7_contains hC.fl h) rfl hi q2184 q2185 q2186 (gle rfl) (gle rfl) rfl (gle rfl) rfl dX15_word_117 (gk_i fun r18 G17 h => ?_) (fun _ _ h hio => g_out0 hC (hX _ _ h) hio)
    refine g_if_eq hC (pc := 120) 127 h (by decide) dX15_word_120 (fun h => ?_) (fun h => ?_)
    · exact g_sub [1] rfl (w_X15_word_127 hC hK hX h)
    · refine g_iconst hC (pc := 123) (v := (1 : Int32)) (by decide) dX15_word_123 ?_
      refine g_goto hC (pc := 124) 128 (by decide) dX15_word_124 ?_
      exact g_sub [1] rfl (w_X15_word_128 hC hK hX h)
def wp_X15_word_8 (ad : Nat → Nat) (X : Nat → gS → Prop) (K : Option Nat → gS → Prop) (J8 : gS → Nat → Nat → Prop) (G : gS) (t0 : Nat) (t1 : Nat) : Prop :=
  (gIs G t0 16 ∧ wp_X15_current ad G t0  X (fun r2 G1 => (r2 < (97 : Int32) → wp_X15_word_83 ad X K G1 t0 t1) ∧ (¬ r2 < (97 : Int32) → (gIs G1 t0 16 ∧ wp_X15_current ad G1 t0  X (fun r4 G3 => ((122 : Int32) < r4 → wp_X15_word_83 ad X K G3 t0 t1) ∧ (¬ (122 : Int32) < r4 → wNew G3 6 4 [.null, .int 0, .int 0, .int 0] fun c6 G5 => wp_J6_init ad G5 c6  X (fun G7 => (gIs G7 c6 6 ∧ wp_J6_append ad G7 c6 (some (ad 127)) X (fun q9 G8 => wNN q9 fun c10 => (gIs G8 c10 6 ∧ wp_J6_append_4 ad G8 c10 (some t1) X (fun q12 G11 => (gIs G11 t0 16 ∧ wp_X15_current ad G11 t0  X (fun r14 G13 => wNN q12 fun c15 => (gIs G13 c15 6 ∧ wp_J6_append_3 ad G13 c15 r14 X (fun q17 G16 => wNN q17 fun c18 => (gIs G16 c18 6 ∧ wp_J6_toString ad G16 c18  X (fun q20 G19 => (gIs G19 (ad 126) 7 ∧ wp_J7_contains ad G19 (ad 126) q20 X (fun r22 G21 => (gIs G21 t0 16 ∧ wp_X15_require ad G21 t0 r22 X (fun G23 => (gIs G23 t0 16 ∧ wp_X15_current ad G23 t0  X (fun r25 G24 => (gIs G24 t1 6 ∧ wp_J6_append_3 ad G24 t1 r25 X (fun q27 G26 => wGetI G26 t0 16 1 fun i28 => wPut G26 t0 16 1 (.int (i28 + (1 : Int32))) fun G29 => J8 G29 t0 t1)))))))))))))))))))))))))
theorem w_X15_word_8 {C : gCx} (hC : gOk C "GoblinHousehold$Parser" cX15_word [] (some (Jvm.ClassFile.FieldType.object "java/lang/String")) "word" 2 15 450) {K : Option Nat → gS → Prop} {X : Nat → gS → Prop} (hK : ∀ r G, K r G → cxK C (some (vQ r)) G) (hX : ∀ q G, X q G → cxX C q G) (n : Nat) : ∀ (G : gS) (t0 : Nat) (t1 : Nat), gLoop (fun _ _ _ => False) (wp_X15_word_8 (cxA C) X K) n G t0 t1 → gGo C G 8 [(0, vQ (some t0)), (1, vQ (some t1))] [] := by
  induction n with
  | zero => intro G t0 t1 h; exact h.elim
  | succ n ih =>
    intro G t0 t1 h
    have hJ8 := ih
    replace h : wp_X15_word_8 (cxA C) X K _ G t0 t1 := h
    unfold wp_X15_word_8 at h
    refine g_aload_n hC (pc := 8) 0 rfl rfl dX15_word_8 ?_
    obtain ⟨hi, h⟩ := h
    refine g_callV hC (pc := 9) (ci := 16) (As := []) gc_X15_current (m_X15_current hC.fl h) rfl hi q2094 q2096 qs32 (gle rfl) (gle rfl) rfl (gle rfl) rfl dX15_word_9 (gk_i fun r2 G1 h => ?_) (fun _ _ h hio => g_out0 hC (hX _ _ h) hio)
    refine g_bipush hC (pc := 12) (v := (97 : Int32)) (by decide) dX15_word_12 ?_
    refine g_icmp_lt hC (pc := 14) 83 h (by decide) dX15_word_14 (fun h => ?_) (fun h => ?_)
    · exact g_sub [0, 1] rfl (w_X15_word_83 hC hK hX h)
    · refine g_aload_n hC (pc := 17) 0 rfl rfl dX15_word_17 ?_
      obtain ⟨hi, h⟩ := h
      refine g_callV hC (pc := 18) (ci := 16) (As := []) gc_X15_current (m_X15_current hC.fl h) rfl hi q2094 q2096 qs32 (gle rfl) (gle rfl) rfl (gle rfl) rfl dX15_word_18 (gk_i fun r4 G3 h => ?_) (fun _ _ h hio => g_out0 hC (hX _ _ h) hio)
      refine g_bipush hC (pc := 21) (v := (122 : Int32)) (by decide) dX15_word_21 ?_
      refine g_icmp_gt hC (pc := 23) 83 h (by decide) dX15_word_23 (fun h => ?_) (fun h => ?_)
      · exact g_sub [0, 1] rfl (w_X15_word_83 hC hK hX h)
      · refine g_aload_n hC (pc := 26) 0 rfl rfl dX15_word_26 ?_
        refine g_ldcS hC (pc := 27) (List.mem_of_getElem? (i := 26) rfl) dX15_word_27 ?_
        refine g_new hC (pc := 29) in_J6 (ci := 6) rfl (by decide) tyJ6_ok q2092 q259 q102 gdf_J6 h dX15_word_29 (fun c6 G5 h => ?_)
        refine g_dup hC (pc := 32) rfl dX15_word_32 ?_
        refine g_callI hC (pc := 33) (As := []) gc_J6_init (m_J6_init hC.fl h) rfl q2093 q261 (gle rfl) (gle rfl) rfl (gle rfl) rfl dX15_word_33 (gk_v fun G7 h => ?_) (fun _ _ h hio => g_out0 hC (hX _ _ h) hio)
        refine g_ldcS hC (pc := 36) (List.mem_of_getElem? (i := 27) rfl) dX15_word_36 ?_
        obtain ⟨hi, h⟩ := h
        refine g_callV hC (pc := 38) (ci := 6) (As := [vQ (some (cxA C 127))]) gc_J6_append (m_J6_append hC.fl h) rfl hi q2102 q449 q450 (gle rfl) (gle rfl) rfl (gle rfl) rfl dX15_word_38 (gk_q fun q9 G8 h => ?_) (fun _ _ h hio => g_out0 hC (hX _ _ h) hio)
        refine g_aload_n hC (pc := 41) 1 rfl rfl dX15_word_41 ?_
        rcases q9 with _ | c10
        · exact (gNN0 h).elim
        replace h := gNN1 h
        obtain ⟨hi, h⟩ := h
        refine g_callV hC (pc := 42) (ci := 6) (As := [vQ (some t1)]) gc_J6_append_4 (m_J6_append_4 hC.fl h) rfl hi q2103 q2104 q2105 (gle rfl) (gle rfl) rfl (gle rfl) rfl dX15_word_42 (gk_q fun q12 G11 h => ?_) (fun _ _ h hio => g_out0 hC (hX _ _ h) hio)
        refine g_aload_n hC (pc := 45) 0 rfl rfl dX15_word_45 ?_
        obtain ⟨hi, h⟩ := h
        refine g_callV hC (pc := 46) (ci := 16) (As := []) gc_X15_current (m_X15_current hC.fl h) rfl hi q2094 q2096 qs32 (gle rfl) (gle rfl) rfl (gle rfl) rfl dX15_word_46 (gk_i fun r14 G13 h => ?_) (fun _ _ h hio => g_out0 hC (hX _ _ h) hio)
        rcases q12 with _ | c15
        · exact (gNN0 h).elim
        replace h := gNN1 h
        obtain ⟨hi, h⟩ := h
        refine g_callV hC (pc := 49) (ci := 6) (As := [vI r14]) gc_J6_append_3 (m_J6_append_3 hC.fl h) rfl hi q2182 q2041 q2042 (gle rfl) (gle rfl) rfl (gle rfl) rfl dX15_word_49 (gk_q fun q17 G16 h => ?_) (fun _ _ h hio => g_out0 hC (hX _ _ h) hio)
        rcases q17 with _ | c18
        · exact (gNN0 h).elim
        replace h := gNN1 h
        obtain ⟨hi, h⟩ := h
        refine g_callV hC (pc := 52) (ci := 6) (As := []) gc_J6_toString (m_J6_toString hC.fl h) rfl hi q2183 q595 q596 (gle rfl) (gle rfl) rfl (gle rfl) rfl dX15_word_52 (gk_q fun q20 G19 h => ?_) (fun _ _ h hio => g_out0 hC (hX _ _ h) hio)
        obtain ⟨hi, h⟩ := h
        refine g_callV hC (pc := 55) (ci := 7) (As := [vQ q20]) gc_J7_contains (m_J7_contains hC.fl h) rfl hi q2184 q2185 q2186 (gle rfl) (gle rfl) rfl (gle rfl) rfl dX15_word_55 (gk_i fun r22 G21 h => ?_) (fun _ _ h hio => g_out0 hC (hX _ _ h) hio)
        obtain ⟨hi, h⟩ := h
        refine g_callV hC (pc := 58) (ci := 16) (As := [vI r22]) gc_X15_require (m_X15_require hC.fl h) rfl hi q2222 q2224 qs33 (gle rfl) (gle rfl) rfl (gle rfl) rfl dX15_word_58 (gk_v fun G23 h => ?_) (fun _ _ h hio => g_out0 hC (hX _ _ h) hio)
        refine g_aload_n hC (pc := 61) 1 rfl rfl dX15_word_61 ?_
        refine g_aload_n hC (pc := 62) 0 rfl rfl dX15_word_62 ?_
        obtain ⟨hi, h⟩ := h
        refine g_callV hC (pc := 63) (ci := 16) (As := []) gc_X15_current (m_X15_current hC.fl h) rfl hi q2094 q2096 qs32 (gle rfl) (gle rfl) rfl (gle rfl) rfl dX15_word_63 (gk_i fun r25 G24 h => ?_) (fun _ _ h hio => g_out0 hC (hX _ _ h) hio)
        obtain ⟨hi, h⟩ := h
        refine g_callV hC (pc := 66) (ci := 6) (As := [vI r25]) gc_J6_append_3 (m_J6_append_3 hC.fl h) rfl hi q2182 q2041 q2042 (gle rfl) (gle rfl) rfl (gle rfl) rfl dX15_word_66 (gk_q fun q27 G26 h => ?_) (fun _ _ h hio => g_out0 hC (hX _ _ h) hio)
        refine g_pop hC (pc := 69) rfl dX15_word_69 ?_
        refine g_aload_n hC (pc := 70) 0 rfl rfl dX15_word_70 ?_
        refine g_dup hC (pc := 71) rfl dX15_word_71 ?_
        refine g_getI hC (pc := 72) in_X15 (ci := 16) rfl 1 (by decide) q2070 (Or.inl rfl) h dX15_word_72 (fun i28 h => ?_)
        refine g_iconst hC (pc := 75) (v := (1 : Int32)) (by decide) dX15_word_75 ?_
        refine g_iadd hC (pc := 76) dX15_word_76 ?_
        refine g_put hC (pc := 77) in_X15 (ci := 16) rfl 1 (by decide) tyX15_ok nmX15 q2070 (Or.inl rfl) rfl rfl rfl h dX15_word_77 (fun G29 h => ?_)
        refine g_goto hC (pc := 80) 8 (by decide) dX15_word_80 ?_
        exact g_sub [0, 1] rfl (hJ8 _ _ _ h)
def wp_X15_word (ad : Nat → Nat) (G : gS) (t0 : Nat) (X : Nat → gS → Prop) (K : Option Nat → gS → Prop) : Prop :=
  wNew G 6 4 [.null, .int 0, .int 0, .int 0] fun c2 G1 => wp_J6_init ad G1 c2  X (fun G3 => gLoop (fun _ _ _ => False) (wp_X15_word_8 ad X K) gFuel G3 t0 c2)
theorem w_X15_word {C : gCx} (hC : gOk C "GoblinHousehold$Parser" cX15_word [] (some (Jvm.ClassFile.FieldType.object "java/lang/String")) "word" 2 15 450) {K : Option Nat → gS → Prop} {X : Nat → gS → Prop} (hK : ∀ r G, K r G → cxK C (some (vQ r)) G) (hX : ∀ q G, X q G → cxX C q G) {G : gS} {t0 : Nat} (h : wp_X15_word (cxA C) G t0 X K) : gGo C G 0 [(0, vQ (some t0))] [] := by
  unfold wp_X15_word at h
  refine g_new hC (pc := 0) in_J6 (ci := 6) rfl (by decide) tyJ6_ok q2092 q259 q102 gdf_J6 h dX15_word_0 (fun c2 G1 h => ?_)
  refine g_dup hC (pc := 3) rfl dX15_word_3 ?_
  refine g_callI hC (pc := 4) (As := []) gc_J6_init (m_J6_init hC.fl h) rfl q2093 q261 (gle rfl) (gle rfl) rfl (gle rfl) rfl dX15_word_4 (gk_v fun G3 h => ?_) (fun _ _ h hio => g_out0 hC (hX _ _ h) hio)
  refine g_astore_n hC (pc := 7) (lv' := [(1, vQ (some c2)), (0, vQ (some t0))]) rfl (by decide) rfl dX15_word_7 ?_
  exact g_sub [1, 0] rfl (w_X15_word_8 hC hK hX gFuel _ _ _ h)
theorem gc_X15_word : gCode yX15_word cX15_word 2 (some (Jvm.ClassFile.FieldType.object "java/lang/String")) 0 := ⟨q2091, q140, ⟨by decide, by decide⟩, rfl⟩
theorem m_X15_word {l : Launch} (hfl : l.stackTraces = false) {E : gE} {G : gS} {t0 : Nat} {X : Nat → gS → Prop} {K : Option Nat → gS → Prop} (h : wp_X15_word (gAd E) G t0 X K) : gMet l yX15_word (ws_ yX15_word cX15_word 2 (some (Jvm.ClassFile.FieldType.object "java/lang/String"))) 15 450 [vQ (some t0)] E G (gRq K) X :=
  g_met hfl (plainFor_of_name (by decide +kernel)) rfl rfl rfl (gle rfl) (fun p e R s m args below meth c hC => w_X15_word hC (fun _ _ h => h) (fun _ _ h => h) h)
def wp_X15_take_14 (ad : Nat → Nat) (X : Nat → gS → Prop) (K : gS → Prop) (G : gS) (t0 : Nat) (xs0 : Int32) (ts1 : Nat) : Prop :=
  (gIs G ts1 16 ∧ wp_X15_require ad G ts1 xs0 X (fun G1 => wGetI G1 t0 16 1 fun i2 => wPut G1 t0 16 1 (.int (i2 + (1 : Int32))) fun G3 => K G3))
theorem w_X15_take_14 {C : gCx} (hC : gOk C "GoblinHousehold$Parser" cX15_take [] none "take" 2 9 247) {K : gS → Prop} {X : Nat → gS → Prop} (hK : ∀ G, K G → cxK C none G) (hX : ∀ q G, X q G → cxX C q G) {G : gS} {t0 : Nat} {xs0 : Int32} {ts1 : Nat} (h : wp_X15_take_14 (cxA C) X K G t0 xs0 ts1) : gGo C G 14 [(0, vQ (some t0))] [vI xs0, vQ (some ts1)] := by
  unfold wp_X15_take_14 at h
  obtain ⟨hi, h⟩ := h
  refine g_callV hC (pc := 14) (ci := 16) (As := [vI xs0]) gc_X15_require (m_X15_require hC.fl h) rfl hi q2222 q2224 qs33 (gle rfl) (gle rfl) rfl (gle rfl) rfl dX15_take_14 (gk_v fun G1 h => ?_) (fun _ _ h hio => g_out0 hC (hX _ _ h) hio)
  refine g_aload_n hC (pc := 17) 0 rfl rfl dX15_take_17 ?_
  refine g_dup hC (pc := 18) rfl dX15_take_18 ?_
  refine g_getI hC (pc := 19) in_X15 (ci := 16) rfl 1 (by decide) q2070 (Or.inl rfl) h dX15_take_19 (fun i2 h => ?_)
  refine g_iconst hC (pc := 22) (v := (1 : Int32)) (by decide) dX15_take_22 ?_
  refine g_iadd hC (pc := 23) dX15_take_23 ?_
  refine g_put hC (pc := 24) in_X15 (ci := 16) rfl 1 (by decide) tyX15_ok nmX15 q2070 (Or.inl rfl) rfl rfl rfl h dX15_take_24 (fun G3 h => ?_)
  exact g_vret hC (pc := 27) (hK _ h) dX15_take_27
def wp_X15_take (ad : Nat → Nat) (G : gS) (t0 : Nat) (x1 : Int32) (X : Nat → gS → Prop) (K : gS → Prop) : Prop :=
  (gIs G t0 16 ∧ wp_X15_current ad G t0  X (fun r2 G1 => (¬ r2 = x1 → wp_X15_take_14 ad X K G1 t0 (0 : Int32) t0) ∧ (r2 = x1 → wp_X15_take_14 ad X K G1 t0 (1 : Int32) t0)))
theorem w_X15_take {C : gCx} (hC : gOk C "GoblinHousehold$Parser" cX15_take [] none "take" 2 9 247) {K : gS → Prop} {X : Nat → gS → Prop} (hK : ∀ G, K G → cxK C none G) (hX : ∀ q G, X q G → cxX C q G) {G : gS} {t0 : Nat} {x1 : Int32} (h : wp_X15_take (cxA C) G t0 x1 X K) : gGo C G 0 [(0, vQ (some t0)), (1, vI x1)] [] := by
  unfold wp_X15_take at h
  refine g_aload_n hC (pc := 0) 0 rfl rfl dX15_take_0 ?_
  refine g_aload_n hC (pc := 1) 0 rfl rfl dX15_take_1 ?_
  obtain ⟨hi, h⟩ := h
  refine g_callV hC (pc := 2) (ci := 16) (As := []) gc_X15_current (m_X15_current hC.fl h) rfl hi q2094 q2096 qs32 (gle rfl) (gle rfl) rfl (gle rfl) rfl dX15_take_2 (gk_i fun r2 G1 h => ?_) (fun _ _ h hio => g_out0 hC (hX _ _ h) hio)
  refine g_iload_n hC (pc := 5) 1 rfl rfl dX15_take_5 ?_
  refine g_icmp_ne hC (pc := 6) 13 h (by decide) dX15_take_6 (fun h => ?_) (fun h => ?_)
  · refine g_iconst hC (pc := 13) (v := (0 : Int32)) (by decide) dX15_take_13 ?_
    exact g_sub [0] rfl (w_X15_take_14 hC hK hX h)
  · refine g_iconst hC (pc := 9) (v := (1 : Int32)) (by decide) dX15_take_9 ?_
    refine g_goto hC (pc := 10) 14 (by decide) dX15_take_10 ?_
    exact g_sub [0] rfl (w_X15_take_14 hC hK hX h)
theorem gc_X15_take : gCode yX15_take cX15_take 2 none 1 := ⟨q2257, q140, ⟨by decide, by decide⟩, rfl⟩
theorem m_X15_take {l : Launch} (hfl : l.stackTraces = false) {E : gE} {G : gS} {t0 : Nat} {x1 : Int32} {X : Nat → gS → Prop} {K : gS → Prop} (h : wp_X15_take (gAd E) G t0 x1 X K) : gMet l yX15_take (ws_ yX15_take cX15_take 2 none) 9 247 [vQ (some t0), vI x1] E G (gRv K) X :=
  g_met hfl (plainFor_of_name (by decide +kernel)) rfl rfl rfl (gle rfl) (fun p e R s m args below meth c hC => w_X15_take hC (fun _ h => h) (fun _ _ h => h) h)
def wp_X15_isAtDigit (ad : Nat → Nat) (G : gS) (t0 : Nat) (X : Nat → gS → Prop) (K : Int32 → gS → Prop) : Prop :=
  (gIs G t0 16 ∧ wp_X15_current ad G t0  X (fun r2 G1 => (r2 < (48 : Int32) → K (0 : Int32) G1) ∧ (¬ r2 < (48 : Int32) → (gIs G1 t0 16 ∧ wp_X15_current ad G1 t0  X (fun r4 G3 => ((57 : Int32) < r4 → K (0 : Int32) G3) ∧ (¬ (57 : Int32) < r4 → K (1 : Int32) G3))))))
theorem w_X15_isAtDigit {C : gCx} (hC : gOk C "GoblinHousehold$Parser" cX15_isAtDigit [] (some .boolean) "isAtDigit" 1 5 145) {K : Int32 → gS → Prop} {X : Nat → gS → Prop} (hK : ∀ r G, K r G → cxK C (some (vI r)) G) (hX : ∀ q G, X q G → cxX C q G) {G : gS} {t0 : Nat} (h : wp_X15_isAtDigit (cxA C) G t0 X K) : gGo C G 0 [(0, vQ (some t0))] [] := by
  unfold wp_X15_isAtDigit at h
  refine g_aload_n hC (pc := 0) 0 rfl rfl dX15_isAtDigit_0 ?_
  obtain ⟨hi, h⟩ := h
  refine g_callV hC (pc := 1) (ci := 16) (As := []) gc_X15_current (m_X15_current hC.fl h) rfl hi q2094 q2096 qs32 (gle rfl) (gle rfl) rfl (gle rfl) rfl dX15_isAtDigit_1 (gk_i fun r2 G1 h => ?_) (fun _ _ h hio => g_out0 hC (hX _ _ h) hio)
  refine g_bipush hC (pc := 4) (v := (48 : Int32)) (by decide) dX15_isAtDigit_4 ?_
  refine g_icmp_lt hC (pc := 6) 22 h (by decide) dX15_isAtDigit_6 (fun h => ?_) (fun h => ?_)
  · refine g_iconst hC (pc := 22) (v := (0 : Int32)) (by decide) dX15_isAtDigit_22 ?_
    exact g_zret hC (pc := 23) rfl (hK _ _ h) dX15_isAtDigit_23
  · refine g_aload_n hC (pc := 9) 0 rfl rfl dX15_isAtDigit_9 ?_
    obtain ⟨hi, h⟩ := h
    refine g_callV hC (pc := 10) (ci := 16) (As := []) gc_X15_current (m_X15_current hC.fl h) rfl hi q2094 q2096 qs32 (gle rfl) (gle rfl) rfl (gle rfl) rfl dX15_isAtDigit_10 (gk_i fun r4 G3 h => ?_) (fun _ _ h hio => g_out0 hC (hX _ _ h) hio)
    refine g_bipush hC (pc := 13) (v := (57 : Int32)) (by decide) dX15_isAtDigit_13 ?_
    refine g_icmp_gt hC (pc := 15) 22 h (by decide) dX15_isAtDigit_15 (fun h => ?_) (fun h => ?_)
    · refine g_iconst hC (pc := 22) (v := (0 : Int32)) (by decide) dX15_isAtDigit_22 ?_
      exact g_zret hC (pc := 23) rfl (hK _ _ h) dX15_isAtDigit_23
    · refine g_iconst hC (pc := 18) (v := (1 : Int32)) (by decide) dX15_isAtDigit_18 ?_
      refine g_goto hC (pc := 19) 23 (by decide) dX15_isAtDigit_19 ?_
      exact g_zret hC (pc := 23) rfl (hK _ _ h) dX15_isAtDigit_23
theorem gc_X15_isAtDigit : gCode yX15_isAtDigit cX15_isAtDigit 1 (some .boolean) 0 := ⟨q2265, q140, ⟨by decide, by decide⟩, rfl⟩
theorem m_X15_isAtDigit {l : Launch} (hfl : l.stackTraces = false) {E : gE} {G : gS} {t0 : Nat} {X : Nat → gS → Prop} {K : Int32 → gS → Prop} (h : wp_X15_isAtDigit (gAd E) G t0 X K) : gMet l yX15_isAtDigit (ws_ yX15_isAtDigit cX15_isAtDigit 1 (some .boolean)) 5 145 [vQ (some t0)] E G (gRi K) X :=
  g_met hfl (plainFor_of_name (by decide +kernel)) rfl rfl rfl (gle rfl) (fun p e R s m args below meth c hC => w_X15_isAtDigit hC (fun _ _ h => h) (fun _ _ h => h) h)
def wp_X15_digit (ad : Nat → Nat) (G : gS) (t0 : Nat) (X : Nat → gS → Prop) (K : Int32 → gS → Prop) : Prop :=
  (gIs G t0 16 ∧ wp_X15_isAtDigit ad G t0  X (fun r2 G1 => (gIs G1 t0 16 ∧ wp_X15_require ad G1 t0 r2 X (fun G3 => wGetI G3 t0 16 1 fun i4 => wPut G3 t0 16 1 (.int (i4 + (1 : Int32))) fun G5 => wGetQ G5 t0 16 0 fun q6 => wGetI G5 t0 16 1 fun i7 => wNN q6 fun c8 => (gIs G5 c8 7 ∧ wp_J7_charAt ad G5 c8 (i7 - (1 : Int32)) X (fun r10 G9 => K (r10 - (48 : Int32)) G9))))))
theorem w_X15_digit {C : gCx} (hC : gOk C "GoblinHousehold$Parser" cX15_digit [] (some .int) "digit" 1 9 247) {K : Int32 → gS → Prop} {X : Nat → gS → Prop} (hK : ∀ r G, K r G → cxK C (some (vI r)) G) (hX : ∀ q G, X q G → cxX C q G) {G : gS} {t0 : Nat} (h : wp_X15_digit (cxA C) G t0 X K) : gGo C G 0 [(0, vQ (some t0))] [] := by
  unfold wp_X15_digit at h
  refine g_aload_n hC (pc := 0) 0 rfl rfl dX15_digit_0 ?_
  refine g_aload_n hC (pc := 1) 0 rfl rfl dX15_digit_1 ?_
  obtain ⟨hi, h⟩ := h
  refine g_callV hC (pc := 2) (ci := 16) (As := []) gc_X15_isAtDigit (m_X15_isAtDigit hC.fl h) rfl hi q2262 q2264 qs37 (gle rfl) (gle rfl) rfl (gle rfl) rfl dX15_digit_2 (gk_i fun r2 G1 h => ?_) (fun _ _ h hio => g_out0 hC (hX _ _ h) hio)
  obtain ⟨hi, h⟩ := h
  refine g_callV hC (pc := 5) (ci := 16) (As := [vI r2]) gc_X15_require (m_X15_require hC.fl h) rfl hi q2222 q2224 qs33 (gle rfl) (gle rfl) rfl (gle rfl) rfl dX15_digit_5 (gk_v fun G3 h => ?_) (fun _ _ h hio => g_out0 hC (hX _ _ h) hio)
  refine g_aload_n hC (pc := 8) 0 rfl rfl dX15_digit_8 ?_
  refine g_dup hC (pc := 9) rfl dX15_digit_9 ?_
  refine g_getI hC (pc := 10) in_X15 (ci := 16) rfl 1 (by decide) q2070 (Or.inl rfl) h dX15_digit_10 (fun i4 h => ?_)
  refine g_iconst hC (pc := 13) (v := (1 : Int32)) (by decide) dX15_digit_13 ?_
  refine g_iadd hC (pc := 14) dX15_digit_14 ?_
  refine g_put hC (pc := 15) in_X15 (ci := 16) rfl 1 (by decide) tyX15_ok nmX15 q2070 (Or.inl rfl) rfl rfl rfl h dX15_digit_15 (fun G5 h => ?_)
  refine g_aload_n hC (pc := 18) 0 rfl rfl dX15_digit_18 ?_
  refine g_getQ hC (pc := 19) in_X15 (ci := 16) rfl 0 (by decide) q2069 (Or.inl rfl) h dX15_digit_19 (fun q6 h => ?_)
  refine g_aload_n hC (pc := 22) 0 rfl rfl dX15_digit_22 ?_
  refine g_getI hC (pc := 23) in_X15 (ci := 16) rfl 1 (by decide) q2070 (Or.inl rfl) h dX15_digit_23 (fun i7 h => ?_)
  refine g_iconst hC (pc := 26) (v := (1 : Int32)) (by decide) dX15_digit_26 ?_
  refine g_isub hC (pc := 27) dX15_digit_27 ?_
  rcases q6 with _ | c8
  · exact (gNN0 h).elim
  replace h := gNN1 h
  obtain ⟨hi, h⟩ := h
  refine g_callV hC (pc := 28) (ci := 7) (As := [vI (i7 - (1 : Int32))]) gc_J7_charAt (m_J7_charAt hC.fl h) rfl hi q2099 q2015 q2016 (gle rfl) (gle rfl) rfl (gle rfl) rfl dX15_digit_28 (gk_i fun r10 G9 h => ?_) (fun _ _ h hio => g_out0 hC (hX _ _ h) hio)
  refine g_bipush hC (pc := 31) (v := (48 : Int32)) (by decide) dX15_digit_31 ?_
  refine g_isub hC (pc := 33) dX15_digit_33 ?_
  exact g_iret hC (pc := 34) (hK _ _ h) dX15_digit_34
theorem gc_X15_digit : gCode yX15_digit cX15_digit 1 (some .int) 0 := ⟨q2261, q140, ⟨by decide, by decide⟩, rfl⟩
theorem m_X15_digit {l : Launch} (hfl : l.stackTraces = false) {E : gE} {G : gS} {t0 : Nat} {X : Nat → gS → Prop} {K : Int32 → gS → Prop} (h : wp_X15_digit (gAd E) G t0 X K) : gMet l yX15_digit (ws_ yX15_digit cX15_digit 1 (some .int)) 9 247 [vQ (some t0)] E G (gRi K) X :=
  g_met hfl (plainFor_of_name (by decide +kernel)) rfl rfl rfl (gle rfl) (fun p e R s m args below meth c hC => w_X15_digit hC (fun _ _ h => h) (fun _ _ h => h) h)
def wp_X15_spaceAndDigit (ad : Nat → Nat) (G : gS) (t0 : Nat) (X : Nat → gS → Prop) (K : Int32 → gS → Prop) : Prop :=
  (gIs G t0 16 ∧ wp_X15_take ad G t0 (32 : Int32) X (fun G1 => (gIs G1 t0 16 ∧ wp_X15_digit ad G1 t0  X (fun r3 G2 => K r3 G2))))
theorem w_X15_spaceAndDigit {C : gCx} (hC : gOk C "GoblinHousehold$Parser" cX15_spaceAndDigit [] (some .int) "spaceAndDigit" 1 10 276) {K : Int32 → gS → Prop} {X : Nat → gS → Prop} (hK : ∀ r G, K r G → cxK C (some (vI r)) G) (hX : ∀ q G, X q G → cxX C q G) {G : gS} {t0 : Nat} (h : wp_X15_spaceAndDigit (cxA C) G t0 X K) : gGo C G 0 [(0, vQ (some t0))] [] := by
  unfold wp_X15_spaceAndDigit at h
  refine g_aload_n hC (pc := 0) 0 rfl rfl dX15_spaceAndDigit_0 ?_
  refine g_bipush hC (pc := 1) (v := (32 : Int32)) (by decide) dX15_spaceAndDigit_1 ?_
  obtain ⟨hi, h⟩ := h
  refine g_callV hC (pc := 3) (ci := 16) (As := [vI (32 : Int32)]) gc_X15_take (m_X15_take hC.fl h) rfl hi q2254 q2256 qs35 (gle rfl) (gle rfl) rfl (gle rfl) rfl dX15_spaceAndDigit_3 (gk_v fun G1 h => ?_) (fun _ _ h hio => g_out0 hC (hX _ _ h) hio)
  refine g_aload_n hC (pc := 6) 0 rfl rfl dX15_spaceAndDigit_6 ?_
  obtain ⟨hi, h⟩ := h
  refine g_callV hC (pc := 7) (ci := 16) (As := []) gc_X15_digit (m_X15_digit hC.fl h) rfl hi q2258 q2260 qs36 (gle rfl) (gle rfl) rfl (gle rfl) rfl dX15_spaceAndDigit_7 (gk_i fun r3 G2 h => ?_) (fun _ _ h hio => g_out0 hC (hX _ _ h) hio)
  exact g_iret hC (pc := 10) (hK _ _ h) dX15_spaceAndDigit_10
theorem gc_X15_spaceAndDigit : gCode yX15_spaceAndDigit cX15_spaceAndDigit 1 (some .int) 0 := ⟨q2253, q140, ⟨by decide, by decide⟩, rfl⟩
theorem m_X15_spaceAndDigit {l : Launch} (hfl : l.stackTraces = false) {E : gE} {G : gS} {t0 : Nat} {X : Nat → gS → Prop} {K : Int32 → gS → Prop} (h : wp_X15_spaceAndDigit (gAd E) G t0 X K) : gMet l yX15_spaceAndDigit (ws_ yX15_spaceAndDigit cX15_spaceAndDigit 1 (some .int)) 10 276 [vQ (some t0)] E G (gRi K) X :=
  g_met hfl (plainFor_of_name (by decide +kernel)) rfl rfl rfl (gle rfl) (fun p e R s m args below meth c hC => w_X15_spaceAndDigit hC (fun _ _ h => h) (fun _ _ h => h) h)
def wp_X15_number_7 (ad : Nat → Nat) (X : Nat → gS → Prop) (K : Int32 → gS → Prop) (J7 : gS → Nat → Int32 → Int32 → Prop) (G : gS) (t0 : Nat) (x1 : Int32) (x2 : Int32) : Prop :=
  ((3 : Int32) ≤ x2 → K x1 G) ∧ (¬ (3 : Int32) ≤ x2 → (gIs G t0 16 ∧ wp_X15_isAtDigit ad G t0  X (fun r2 G1 => (r2 = (0 : Int32) → K x1 G1) ∧ (¬ r2 = (0 : Int32) → (gIs G1 t0 16 ∧ wp_X15_digit ad G1 t0  X (fun r4 G3 => J7 G3 t0 (((10 : Int32) * x1) + r4) (x2 + (1 : Int32))))))))
theorem w_X15_number_7 {C : gCx} (hC : gOk C "GoblinHousehold$Parser" cX15_number [] (some .int) "number" 3 10 275) {K : Int32 → gS → Prop} {X : Nat → gS → Prop} (hK : ∀ r G, K r G → cxK C (some (vI r)) G) (hX : ∀ q G, X q G → cxX C q G) (n : Nat) : ∀ (G : gS) (t0 : Nat) (x1 : Int32) (x2 : Int32), gLoop (fun _ _ _ _ => False) (wp_X15_number_7 (cxA C) X K) n G t0 x1 x2 → gGo C G 7 [(0, vQ (some t0)), (1, vI x1), (2, vI x2)] [] := by
  induction n with
  | zero => intro G t0 x1 x2 h; exact h.elim
  | succ n ih =>
    intro G t0 x1 x2 h
    have hJ7 := ih
    replace h : wp_X15_number_7 (cxA C) X K _ G t0 x1 x2 := h
    unfold wp_X15_number_7 at h
    refine g_iload_n hC (pc := 7) 2 rfl rfl dX15_number_7 ?_
    refine g_iconst hC (pc := 8) (v := (3 : Int32)) (by decide) dX15_number_8 ?_
    refine g_icmp_ge hC (pc := 9) 35 h (by decide) dX15_number_9 (fun h => ?_) (fun h => ?_)
    · refine g_iload_n hC (pc := 35) 1 rfl rfl dX15_number_35 ?_
      exact g_iret hC (pc := 36) (hK _ _ h) dX15_number_36
    · refine g_aload_n hC (pc := 12) 0 rfl rfl dX15_number_12 ?_
      obtain ⟨hi, h⟩ := h
      refine g_callV hC (pc := 13) (ci := 16) (As := []) gc_X15_isAtDigit (m_X15_isAtDigit hC.fl h) rfl hi q2262 q2264 qs37 (gle rfl) (gle rfl) rfl (gle rfl) rfl dX15_number_13 (gk_i fun r2 G1 h => ?_) (fun _ _ h hio => g_out0 hC (hX _ _ h) hio)
      refine g_if_eq hC (pc := 16) 35 h (by decide) dX15_number_16 (fun h => ?_) (fun h => ?_)
      · refine g_iload_n hC (pc := 35) 1 rfl rfl dX15_number_35 ?_
        exact g_iret hC (pc := 36) (hK _ _ h) dX15_number_36
      · refine g_bipush hC (pc := 19) (v := (10 : Int32)) (by decide) dX15_number_19 ?_
        refine g_iload_n hC (pc := 21) 1 rfl rfl dX15_number_21 ?_
        refine g_imul hC (pc := 22) dX15_number_22 ?_
        refine g_aload_n hC (pc := 23) 0 rfl rfl dX15_number_23 ?_
        obtain ⟨hi, h⟩ := h
        refine g_callV hC (pc := 24) (ci := 16) (As := []) gc_X15_digit (m_X15_digit hC.fl h) rfl hi q2258 q2260 qs36 (gle rfl) (gle rfl) rfl (gle rfl) rfl dX15_number_24 (gk_i fun r4 G3 h => ?_) (fun _ _ h hio => g_out0 hC (hX _ _ h) hio)
        refine g_iadd hC (pc := 27) dX15_number_27 ?_
        refine g_istore_n hC (pc := 28) (lv' := [(1, vI (((10 : Int32) * x1) + r4)), (0, vQ (some t0)), (2, vI x2)]) rfl (by decide) rfl dX15_number_28 ?_
        refine g_iinc hC (pc := 29) 2 (d := (1 : Int32)) (v := (x2 + (1 : Int32))) (lv' := [(2, vI (x2 + (1 : Int32))), (1, vI (((10 : Int32) * x1) + r4)), (0, vQ (some t0))]) rfl (by decide) rfl (by decide) rfl dX15_number_29 ?_
        refine g_goto hC (pc := 32) 7 (by decide) dX15_number_32 ?_
        exact g_sub [2, 1, 0] rfl (hJ7 _ _ _ _ h)
def wp_X15_number (ad : Nat → Nat) (G : gS) (t0 : Nat) (X : Nat → gS → Prop) (K : Int32 → gS → Prop) : Prop :=
  (gIs G t0 16 ∧ wp_X15_digit ad G t0  X (fun r2 G1 => gLoop (fun _ _ _ _ => False) (wp_X15_number_7 ad X K) gFuel G1 t0 r2 (1 : Int32)))
theorem w_X15_number {C : gCx} (hC : gOk C "GoblinHousehold$Parser" cX15_number [] (some .int) "number" 3 10 275) {K : Int32 → gS → Prop} {X : Nat → gS → Prop} (hK : ∀ r G, K r G → cxK C (some (vI r)) G) (hX : ∀ q G, X q G → cxX C q G) {G : gS} {t0 : Nat} (h : wp_X15_number (cxA C) G t0 X K) : gGo C G 0 [(0, vQ (some t0))] [] := by
  unfold wp_X15_number at h
  refine g_aload_n hC (pc := 0) 0 rfl rfl dX15_number_0 ?_
  obtain ⟨hi, h⟩ := h
  refine g_callV hC (pc := 1) (ci := 16) (As := []) gc_X15_digit (m_X15_digit hC.fl h) rfl hi q2258 q2260 qs36 (gle rfl) (gle rfl) rfl (gle rfl) rfl dX15_number_1 (gk_i fun r2 G1 h => ?_) (fun _ _ h hio => g_out0 hC (hX _ _ h) hio)
  refine g_istore_n hC (pc := 4) (lv' := [(1, vI r2), (0, vQ (some t0))]) rfl (by decide) rfl dX15_number_4 ?_
  refine g_iconst hC (pc := 5) (v := (1 : Int32)) (by decide) dX15_number_5 ?_
  refine g_istore_n hC (pc := 6) (lv' := [(2, vI (1 : Int32)), (1, vI r2), (0, vQ (some t0))]) rfl (by decide) rfl dX15_number_6 ?_
  exact g_sub [2, 1, 0] rfl (w_X15_number_7 hC hK hX gFuel _ _ _ _ h)
theorem gc_X15_number : gCode yX15_number cX15_number 3 (some .int) 0 := ⟨q2273, q140, ⟨by decide, by decide⟩, rfl⟩
theorem m_X15_number {l : Launch} (hfl : l.stackTraces = false) {E : gE} {G : gS} {t0 : Nat} {X : Nat → gS → Prop} {K : Int32 → gS → Prop} (h : wp_X15_number (gAd E) G t0 X K) : gMet l yX15_number (ws_ yX15_number cX15_number 3 (some .int)) 10 275 [vQ (some t0)] E G (gRi K) X :=
  g_met hfl (plainFor_of_name (by decide +kernel)) rfl rfl rfl (gle rfl) (fun p e R s m args below meth c hC => w_X15_number hC (fun _ _ h => h) (fun _ _ h => h) h)
def wp_X15_spaceAndNumber (ad : Nat → Nat) (G : gS) (t0 : Nat) (X : Nat → gS → Prop) (K : Int32 → gS → Prop) : Prop :=
  (gIs G t0 16 ∧ wp_X15_take ad G t0 (32 : Int32) X (fun G1 => (gIs G1 t0 16 ∧ wp_X15_number ad G1 t0  X (fun r3 G2 => K r3 G2))))
theorem w_X15_spaceAndNumber {C : gCx} (hC : gOk C "GoblinHousehold$Parser" cX15_spaceAndNumber [] (some .int) "spaceAndNumber" 1 11 305) {K : Int32 → gS → Prop} {X : Nat → gS → Prop} (hK : ∀ r G, K r G → cxK C (some (vI r)) G) (hX : ∀ q G, X q G → cxX C q G) {G : gS} {t0 : Nat} (h : wp_X15_spaceAndNumber (cxA C) G t0 X K) : gGo C G 0 [(0, vQ (some t0))] [] := by
  unfold wp_X15_spaceAndNumber at h
  refine g_aload_n hC (pc := 0) 0 rfl rfl dX15_spaceAndNumber_0 ?_
  refine g_bipush hC (pc := 1) (v := (32 : Int32)) (by decide) dX15_spaceAndNumber_1 ?_
  obtain ⟨hi, h⟩ := h
  refine g_callV hC (pc := 3) (ci := 16) (As := [vI (32 : Int32)]) gc_X15_take (m_X15_take hC.fl h) rfl hi q2254 q2256 qs35 (gle rfl) (gle rfl) rfl (gle rfl) rfl dX15_spaceAndNumber_3 (gk_v fun G1 h => ?_) (fun _ _ h hio => g_out0 hC (hX _ _ h) hio)
  refine g_aload_n hC (pc := 6) 0 rfl rfl dX15_spaceAndNumber_6 ?_
  obtain ⟨hi, h⟩ := h
  refine g_callV hC (pc := 7) (ci := 16) (As := []) gc_X15_number (m_X15_number hC.fl h) rfl hi q2270 q2272 qs39 (gle rfl) (gle rfl) rfl (gle rfl) rfl dX15_spaceAndNumber_7 (gk_i fun r3 G2 h => ?_) (fun _ _ h hio => g_out0 hC (hX _ _ h) hio)
  exact g_iret hC (pc := 10) (hK _ _ h) dX15_spaceAndNumber_10
theorem gc_X15_spaceAndNumber : gCode yX15_spaceAndNumber cX15_spaceAndNumber 1 (some .int) 0 := ⟨q2269, q140, ⟨by decide, by decide⟩, rfl⟩
theorem m_X15_spaceAndNumber {l : Launch} (hfl : l.stackTraces = false) {E : gE} {G : gS} {t0 : Nat} {X : Nat → gS → Prop} {K : Int32 → gS → Prop} (h : wp_X15_spaceAndNumber (gAd E) G t0 X K) : gMet l yX15_spaceAndNumber (ws_ yX15_spaceAndNumber cX15_spaceAndNumber 1 (some .int)) 11 305 [vQ (some t0)] E G (gRi K) X :=
  g_met hfl (plainFor_of_name (by decide +kernel)) rfl rfl rfl (gle rfl) (fun p e R s m args below meth c hC => w_X15_spaceAndNumber hC (fun _ _ h => h) (fun _ _ h => h) h)
def wp_X15_oneArgument_247 (ad : Nat → Nat) (X : Nat → gS → Prop) (K : Option Nat → gS → Prop) (G : gS) (x2 : Int32) (x4 : Int32) : Prop :=
  (x4 = (0 : Int32) → wMkL G 20 [x2] fun c2 G1 => K (some c2) G1) ∧ (x4 = (1 : Int32) → wMkL G 21 [x2] fun c4 G3 => K (some c4) G3) ∧ (x4 = (2 : Int32) → wMkL G 22 [x2] fun c6 G5 => K (some c6) G5) ∧ (x4 = (3 : Int32) → wMkL G 23 [x2] fun c8 G7 => K (some c8) G7) ∧ (x4 = (4 : Int32) → wMkL G 24 [x2] fun c10 G9 => K (some c10) G9) ∧ (x4 = (5 : Int32) → wMkL G 25 [x2] fun c12 G11 => K (some c12) G11) ∧ (x4 = (6 : Int32) → wMkL G 26 [x2] fun c14 G13 => K (some c14) G13) ∧ (x4 = (7 : Int32) → wMkL G 27 [x2] fun c16 G15 => K (some c16) G15) ∧ (¬ x4 = (0 : Int32) → ¬ x4 = (1 : Int32) → ¬ x4 = (2 : Int32) → ¬ x4 = (3 : Int32) → ¬ x4 = (4 : Int32) → ¬ x4 = (5 : Int32) → ¬ x4 = (6 : Int32) → ¬ x4 = (7 : Int32) → wMkL G 28 [x2] fun c18 G17 => K (some c18) G17)
theorem w_X15_oneArgument_247 {C : gCx} (hC : gOk C "GoblinHousehold$Parser" cX15_oneArgument [] (some (Jvm.ClassFile.FieldType.object "GoblinHousehold$Change")) "oneArgument" 5 16 3088) (hN : gNm C yX15_oneArgument) {K : Option Nat → gS → Prop} {X : Nat → gS → Prop} (hK : ∀ r G, K r G → cxK C (some (vQ r)) G) (hX : ∀ q G, X q G → cxX C q G) {G : gS} {x2 : Int32} {x4 : Int32} (h : wp_X15_oneArgument_247 (cxA C) X K G x2 x4) : gGo C G 247 [(2, vI x2), (4, vI x4)] [] := by
  unfold wp_X15_oneArgument_247 at h
  refine g_iload hC (pc := 247) 1 rfl dX15_oneArgument_247 ?_
  by_cases e0 : x4 = (0 : Int32)
  · refine g_tableIn hC (pc := 249) 296 (by rw [e0]; decide) (by rw [e0]; decide) (by rw [e0]; rfl) (by decide) dX15_oneArgument_249 ?_
    replace h := h.1 e0
    refine g_iload_n hC (pc := 296) 0 rfl rfl dX15_oneArgument_296 ?_
    refine g_indyM hC (pc := 297) (q := gSite_20) (xs := [x2]) hN (List.mem_of_getElem? (i := 20) rfl) rfl (by decide) lok_20 q3057 q2296 gc_X15_lambda_oneArgument_0 rfl rfl (gle rfl) (gle rfl) rfl rfl h dX15_oneArgument_297 (fun c2 G1 h => ?_)
    exact g_aret hC (pc := 302) (Or.inl ⟨_, rfl⟩) (hK _ _ h) dX15_oneArgument_302
  by_cases e1 : x4 = (1 : Int32)
  · refine g_tableIn hC (pc := 249) 303 (by rw [e1]; decide) (by rw [e1]; decide) (by rw [e1]; rfl) (by decide) dX15_oneArgument_249 ?_
    replace h := h.2.1 e1
    refine g_iload_n hC (pc := 303) 0 rfl rfl dX15_oneArgument_303 ?_
    refine g_indyM hC (pc := 304) (q := gSite_21) (xs := [x2]) hN (List.mem_of_getElem? (i := 21) rfl) rfl (by decide) lok_21 q3057 q2299 gc_X15_lambda_oneArgument_1 rfl rfl (gle rfl) (gle rfl) rfl rfl h dX15_oneArgument_304 (fun c4 G3 h => ?_)
    exact g_aret hC (pc := 309) (Or.inl ⟨_, rfl⟩) (hK _ _ h) dX15_oneArgument_309
  by_cases e2 : x4 = (2 : Int32)
  · refine g_tableIn hC (pc := 249) 310 (by rw [e2]; decide) (by rw [e2]; decide) (by rw [e2]; rfl) (by decide) dX15_oneArgument_249 ?_
    replace h := h.2.2.1 e2
    refine g_iload_n hC (pc := 310) 0 rfl rfl dX15_oneArgument_310 ?_
    refine g_indyM hC (pc := 311) (q := gSite_22) (xs := [x2]) hN (List.mem_of_getElem? (i := 22) rfl) rfl (by decide) lok_22 q3057 q2302 gc_X15_lambda_oneArgument_2 rfl rfl (gle rfl) (gle rfl) rfl rfl h dX15_oneArgument_311 (fun c6 G5 h => ?_)
    exact g_aret hC (pc := 316) (Or.inl ⟨_, rfl⟩) (hK _ _ h) dX15_oneArgument_316
  by_cases e3 : x4 = (3 : Int32)
  · refine g_tableIn hC (pc := 249) 317 (by rw [e3]; decide) (by rw [e3]; decide) (by rw [e3]; rfl) (by decide) dX15_oneArgument_249 ?_
    replace h := h.2.2.2.1 e3
    refine g_iload_n hC (pc := 317) 0 rfl rfl dX15_oneArgument_317 ?_
    refine g_indyM hC (pc := 318) (q := gSite_23) (xs := [x2]) hN (List.mem_of_getElem? (i := 23) rfl) rfl (by decide) lok_23 q3057 q2305 gc_X15_lambda_oneArgument_3 rfl rfl (gle rfl) (gle rfl) rfl rfl h dX15_oneArgument_318 (fun c8 G7 h => ?_)
    exact g_aret hC (pc := 323) (Or.inl ⟨_, rfl⟩) (hK _ _ h) dX15_oneArgument_323
  by_cases e4 : x4 = (4 : Int32)
  · refine g_tableIn hC (pc := 249) 324 (by rw [e4]; decide) (by rw [e4]; decide) (by rw [e4]; rfl) (by decide) dX15_oneArgument_249 ?_
    replace h := h.2.2.2.2.1 e4
    refine g_iload_n hC (pc := 324) 0 rfl rfl dX15_oneArgument_324 ?_
    refine g_indyM hC (pc := 325) (q := gSite_24) (xs := [x2]) hN (List.mem_of_getElem? (i := 24) rfl) rfl (by decide) lok_24 q3057 q2308 gc_X15_lambda_oneArgument_4 rfl rfl (gle rfl) (gle rfl) rfl rfl h dX15_oneArgument_325 (fun c10 G9 h => ?_)
    exact g_aret hC (pc := 330) (Or.inl ⟨_, rfl⟩) (hK _ _ h) dX15_oneArgument_330
  by_cases e5 : x4 = (5 : Int32)
  · refine g_tableIn hC (pc := 249) 331 (by rw [e5]; decide) (by rw [e5]; decide) (by rw [e5]; rfl) (by decide) dX15_oneArgument_249 ?_
    replace h := h.2.2.2.2.2.1 e5
    refine g_iload_n hC (pc := 331) 0 rfl rfl dX15_oneArgument_331 ?_
    refine g_indyM hC (pc := 332) (q := gSite_25) (xs := [x2]) hN (List.mem_of_getElem? (i := 25) rfl) rfl (by decide) lok_25 q3057 q2311 gc_X15_lambda_oneArgument_5 rfl rfl (gle rfl) (gle rfl) rfl rfl h dX15_oneArgument_332 (fun c12 G11 h => ?_)
    exact g_aret hC (pc := 337) (Or.inl ⟨_, rfl⟩) (hK _ _ h) dX15_oneArgument_337
  by_cases e6 : x4 = (6 : Int32)
  · refine g_tableIn hC (pc := 249) 338 (by rw [e6]; decide) (by rw [e6]; decide) (by rw [e6]; rfl) (by decide) dX15_oneArgument_249 ?_
    replace h := h.2.2.2.2.2.2.1 e6
    refine g_iload_n hC (pc := 338) 0 rfl rfl dX15_oneArgument_338 ?_
    refine g_indyM hC (pc := 339) (q := gSite_26) (xs := [x2]) hN (List.mem_of_getElem? (i := 26) rfl) rfl (by decide) lok_26 q3057 q2314 gc_X15_lambda_oneArgument_6 rfl rfl (gle rfl) (gle rfl) rfl rfl h dX15_oneArgument_339 (fun c14 G13 h => ?_)
    exact g_aret hC (pc := 344) (Or.inl ⟨_, rfl⟩) (hK _ _ h) dX15_oneArgument_344
  by_cases e7 : x4 = (7 : Int32)
  · refine g_tableIn hC (pc := 249) 345 (by rw [e7]; decide) (by rw [e7]; decide) (by rw [e7]; rfl) (by decide) dX15_oneArgument_249 ?_
    replace h := h.2.2.2.2.2.2.2.1 e7
    refine g_iload_n hC (pc := 345) 0 rfl rfl dX15_oneArgument_345 ?_
    refine g_indyM hC (pc := 346) (q := gSite_27) (xs := [x2]) hN (List.mem_of_getElem? (i := 27) rfl) rfl (by decide) lok_27 q3057 q2316 gc_X15_lambda_oneArgument_7 rfl rfl (gle rfl) (gle rfl) rfl rfl h dX15_oneArgument_346 (fun c16 G15 h => ?_)
    exact g_aret hC (pc := 351) (Or.inl ⟨_, rfl⟩) (hK _ _ h) dX15_oneArgument_351
  refine g_tableOut hC (pc := 249) 352 (by have f0 := gne (n := 0) rfl e0; have f1 := gne (n := 1) rfl e1; have f2 := gne (n := 2) rfl e2; have f3 := gne (n := 3) rfl e3; have f4 := gne (n := 4) rfl e4; have f5 := gne (n := 5) rfl e5; have f6 := gne (n := 6) rfl e6; have f7 := gne (n := 7) rfl e7; omega) (by decide) dX15_oneArgument_249 ?_
  replace h := h.2.2.2.2.2.2.2.2 e0 e1 e2 e3 e4 e5 e6 e7
  refine g_iload_n hC (pc := 352) 0 rfl rfl dX15_oneArgument_352 ?_
  refine g_indyM hC (pc := 353) (q := gSite_28) (xs := [x2]) hN (List.mem_of_getElem? (i := 28) rfl) rfl (by decide) lok_28 q3057 q2319 gc_X15_lambda_oneArgument_8 rfl rfl (gle rfl) (gle rfl) rfl rfl h dX15_oneArgument_353 (fun c18 G17 h => ?_)
  exact g_aret hC (pc := 358) (Or.inl ⟨_, rfl⟩) (hK _ _ h) dX15_oneArgument_358
def wp_X15_oneArgument_43 (ad : Nat → Nat) (X : Nat → gS → Prop) (K : Option Nat → gS → Prop) (G : gS) (o1 : Option Nat) (xs0 : Int32) : Prop :=
  wNN o1 fun c1 => (gIs G c1 7 ∧ wp_J7_hashCode ad G c1  X (fun r3 G2 => (r3 = (-1396347377 : Int32) → (gIs G2 c1 7 ∧ wp_J7_equals ad G2 c1 (some (ad 136)) X (fun r5 G4 => (r5 = (0 : Int32) → wp_X15_oneArgument_247 ad X K G4 xs0 (-1 : Int32)) ∧ (¬ r5 = (0 : Int32) → wp_X15_oneArgument_247 ad X K G4 xs0 (2 : Int32))))) ∧ (r3 = (-1367724422 : Int32) → (gIs G2 c1 7 ∧ wp_J7_equals ad G2 c1 (some (ad 138)) X (fun r7 G6 => (r7 = (0 : Int32) → wp_X15_oneArgument_247 ad X K G6 xs0 (-1 : Int32)) ∧ (¬ r7 = (0 : Int32) → wp_X15_oneArgument_247 ad X K G6 xs0 (4 : Int32))))) ∧ (r3 = (-1240627241 : Int32) → (gIs G2 c1 7 ∧ wp_J7_equals ad G2 c1 (some (ad 134)) X (fun r9 G8 => (r9 = (0 : Int32) → wp_X15_oneArgument_247 ad X K G8 xs0 (-1 : Int32)) ∧ (¬ r9 = (0 : Int32) → wp_X15_oneArgument_247 ad X K G8 xs0 (0 : Int32))))) ∧ (r3 = (-934922479 : Int32) → (gIs G2 c1 7 ∧ wp_J7_equals ad G2 c1 (some (ad 137)) X (fun r11 G10 => (r11 = (0 : Int32) → wp_X15_oneArgument_247 ad X K G10 xs0 (-1 : Int32)) ∧ (¬ r11 = (0 : Int32) → wp_X15_oneArgument_247 ad X K G10 xs0 (3 : Int32))))) ∧ (r3 = (3154629 : Int32) → (gIs G2 c1 7 ∧ wp_J7_equals ad G2 c1 (some (ad 141)) X (fun r13 G12 => (r13 = (0 : Int32) → wp_X15_oneArgument_247 ad X K G12 xs0 (-1 : Int32)) ∧ (¬ r13 = (0 : Int32) → wp_X15_oneArgument_247 ad X K G12 xs0 (7 : Int32))))) ∧ (r3 = (3496916 : Int32) → (gIs G2 c1 7 ∧ wp_J7_equals ad G2 c1 (some (ad 139)) X (fun r15 G14 => (r15 = (0 : Int32) → wp_X15_oneArgument_247 ad X K G14 xs0 (-1 : Int32)) ∧ (¬ r15 = (0 : Int32) → wp_X15_oneArgument_247 ad X K G14 xs0 (5 : Int32))))) ∧ (r3 = (3641764 : Int32) → (gIs G2 c1 7 ∧ wp_J7_equals ad G2 c1 (some (ad 140)) X (fun r17 G16 => (r17 = (0 : Int32) → wp_X15_oneArgument_247 ad X K G16 xs0 (-1 : Int32)) ∧ (¬ r17 = (0 : Int32) → wp_X15_oneArgument_247 ad X K G16 xs0 (6 : Int32))))) ∧ (r3 = (94011453 : Int32) → (gIs G2 c1 7 ∧ wp_J7_equals ad G2 c1 (some (ad 135)) X (fun r19 G18 => (r19 = (0 : Int32) → wp_X15_oneArgument_247 ad X K G18 xs0 (-1 : Int32)) ∧ (¬ r19 = (0 : Int32) → wp_X15_oneArgument_247 ad X K G18 xs0 (1 : Int32))))) ∧ (¬ r3 = (-1396347377 : Int32) → ¬ r3 = (-1367724422 : Int32) → ¬ r3 = (-1240627241 : Int32) → ¬ r3 = (-934922479 : Int32) → ¬ r3 = (3154629 : Int32) → ¬ r3 = (3496916 : Int32) → ¬ r3 = (3641764 : Int32) → ¬ r3 = (94011453 : Int32) → wp_X15_oneArgument_247 ad X K G2 xs0 (-1 : Int32))))
theorem w_X15_oneArgument_43 {C : gCx} (hC : gOk C "GoblinHousehold$Parser" cX15_oneArgument [] (some (Jvm.ClassFile.FieldType.object "GoblinHousehold$Change")) "oneArgument" 5 16 3088) (hN : gNm C yX15_oneArgument) {K : Option Nat → gS → Prop} {X : Nat → gS → Prop} (hK : ∀ r G, K r G → cxK C (some (vQ r)) G) (hX : ∀ q G, X q G → cxX C q G) {G : gS} {o1 : Option Nat} {xs0 : Int32} (h : wp_X15_oneArgument_43 (cxA C) X K G o1 xs0) : gGo C G 43 [(1, vQ o1)] [vI xs0] := by
  unfold wp_X15_oneArgument_43 at h
  refine g_istore_n hC (pc := 43) (lv' := [(2, vI xs0), (1, vQ o1)]) rfl (by decide) rfl dX15_oneArgument_43 ?_
  refine g_aload_n hC (pc := 44) 1 rfl rfl dX15_oneArgument_44 ?_
  refine g_astore_n hC (pc := 45) (lv' := [(3, vQ o1), (2, vI xs0), (1, vQ o1)]) rfl (by decide) rfl dX15_oneArgument_45 ?_
  refine g_iconst hC (pc := 46) (v := (-1 : Int32)) (by decide) dX15_oneArgument_46 ?_
  refine g_istore hC (pc := 47) (lv' := [(4, vI (-1 : Int32)), (3, vQ o1), (2, vI xs0), (1, vQ o1)]) (by decide) rfl dX15_oneArgument_47 ?_
  refine g_aload_n hC (pc := 49) 1 rfl rfl dX15_oneArgument_49 ?_
  rcases o1 with _ | c1
  · exact (gNN0 h).elim
  replace h := gNN1 h
  obtain ⟨hi, h⟩ := h
  refine g_callV hC (pc := 50) (ci := 7) (As := []) gc_J7_hashCode (m_J7_hashCode hC.fl h) rfl hi q2245 q1189 q1190 (gle rfl) (gle rfl) rfl (gle rfl) rfl dX15_oneArgument_50 (gk_i fun r3 G2 h => ?_) (fun _ _ h hio => g_out0 hC (hX _ _ h) hio)
  by_cases e0 : r3 = (-1396347377 : Int32)
  · refine g_lookup hC (pc := 53) (off := 105) 158 (by decide) (by rw [e0]; decide) (by decide) dX15_oneArgument_53 ?_
    replace h := h.1 e0
    refine g_aload_n hC (pc := 158) 1 rfl rfl dX15_oneArgument_158 ?_
    refine g_ldcS hC (pc := 159) (List.mem_of_getElem? (i := 36) rfl) dX15_oneArgument_159 ?_
    obtain ⟨hi, h⟩ := h
    refine g_callV hC (pc := 161) (ci := 7) (As := [vQ (some (cxA C 136))]) gc_J7_equals (m_J7_equals hC.fl h) rfl hi q2247 q1251 q1252 (gle rfl) (gle rfl) rfl (gle rfl) rfl dX15_oneArgument_161 (gk_i fun r5 G4 h => ?_) (fun _ _ h hio => g_out0 hC (hX _ _ h) hio)
    refine g_if_eq hC (pc := 164) 247 h (by decide) dX15_oneArgument_164 (fun h => ?_) (fun h => ?_)
    · exact g_sub [2, 0] rfl (w_X15_oneArgument_247 hC hN hK hX h)
    · refine g_iconst hC (pc := 167) (v := (2 : Int32)) (by decide) dX15_oneArgument_167 ?_
      refine g_istore hC (pc := 168) (lv' := [(4, vI (2 : Int32)), (3, vQ (some c1)), (2, vI xs0), (1, vQ (some c1))]) (by decide) rfl dX15_oneArgument_168 ?_
      refine g_goto hC (pc := 170) 247 (by decide) dX15_oneArgument_170 ?_
      exact g_sub [2, 0] rfl (w_X15_oneArgument_247 hC hN hK hX h)
  by_cases e1 : r3 = (-1367724422 : Int32)
  · refine g_lookup hC (pc := 53) (off := 135) 188 (by decide) (by rw [e1]; decide) (by decide) dX15_oneArgument_53 ?_
    replace h := h.2.1 e1
    refine g_aload_n hC (pc := 188) 1 rfl rfl dX15_oneArgument_188 ?_
    refine g_ldcS hC (pc := 189) (List.mem_of_getElem? (i := 38) rfl) dX15_oneArgument_189 ?_
    obtain ⟨hi, h⟩ := h
    refine g_callV hC (pc := 191) (ci := 7) (As := [vQ (some (cxA C 138))]) gc_J7_equals (m_J7_equals hC.fl h) rfl hi q2247 q1251 q1252 (gle rfl) (gle rfl) rfl (gle rfl) rfl dX15_oneArgument_191 (gk_i fun r7 G6 h => ?_) (fun _ _ h hio => g_out0 hC (hX _ _ h) hio)
    refine g_if_eq hC (pc := 194) 247 h (by decide) dX15_oneArgument_194 (fun h => ?_) (fun h => ?_)
    · exact g_sub [2, 0] rfl (w_X15_oneArgument_247 hC hN hK hX h)
    · refine g_iconst hC (pc := 197) (v := (4 : Int32)) (by decide) dX15_oneArgument_197 ?_
      refine g_istore hC (pc := 198) (lv' := [(4, vI (4 : Int32)), (3, vQ (some c1)), (2, vI xs0), (1, vQ (some c1))]) (by decide) rfl dX15_oneArgument_198 ?_
      refine g_goto hC (pc := 200) 247 (by decide) dX15_oneArgument_200 ?_
      exact g_sub [2, 0] rfl (w_X15_oneArgument_247 hC hN hK hX h)
  by_cases e2 : r3 = (-1240627241 : Int32)
  · refine g_lookup hC (pc := 53) (off := 75) 128 (by decide) (by rw [e2]; decide) (by decide) dX15_oneArgument_53 ?_
    replace h := h.2.2.1 e2
    refine g_aload_n hC (pc := 128) 1 rfl rfl dX15_oneArgument_128 ?_
    refine g_ldcS hC (pc := 129) (List.mem_of_getElem? (i := 34) rfl) dX15_oneArgument_129 ?_
    obtain ⟨hi, h⟩ := h
    refine g_callV hC (pc := 131) (ci := 7) (As := [vQ (some (cxA C 134))]) gc_J7_equals (m_J7_equals hC.fl h) rfl hi q2247 q1251 q1252 (gle rfl) (gle rfl) rfl (gle rfl) rfl dX15_oneArgument_131 (gk_i fun r9 G8 h => ?_) (fun _ _ h hio => g_out0 hC (hX _ _ h) hio)
    refine g_if_eq hC (pc := 134) 247 h (by decide) dX15_oneArgument_134 (fun h => ?_) (fun h => ?_)
    · exact g_sub [2, 0] rfl (w_X15_oneArgument_247 hC hN hK hX h)
    · refine g_iconst hC (pc := 137) (v := (0 : Int32)) (by decide) dX15_oneArgument_137 ?_
      refine g_istore hC (pc := 138) (lv' := [(4, vI (0 : Int32)), (3, vQ (some c1)), (2, vI xs0), (1, vQ (some c1))]) (by decide) rfl dX15_oneArgument_138 ?_
      refine g_goto hC (pc := 140) 247 (by decide) dX15_oneArgument_140 ?_
      exact g_sub [2, 0] rfl (w_X15_oneArgument_247 hC hN hK hX h)
  by_cases e3 : r3 = (-934922479 : Int32)
  · refine g_lookup hC (pc := 53) (off := 120) 173 (by decide) (by rw [e3]; decide) (by decide) dX15_oneArgument_53 ?_
    replace h := h.2.2.2.1 e3
    refine g_aload_n hC (pc := 173) 1 rfl rfl dX15_oneArgument_173 ?_
    refine g_ldcS hC (pc := 174) (List.mem_of_getElem? (i := 37) rfl) dX15_oneArgument_174 ?_
    obtain ⟨hi, h⟩ := h
    refine g_callV hC (pc := 176) (ci := 7) (As := [vQ (some (cxA C 137))]) gc_J7_equals (m_J7_equals hC.fl h) rfl hi q2247 q1251 q1252 (gle rfl) (gle rfl) rfl (gle rfl) rfl dX15_oneArgument_176 (gk_i fun r11 G10 h => ?_) (fun _ _ h hio => g_out0 hC (hX _ _ h) hio)
    refine g_if_eq hC (pc := 179) 247 h (by decide) dX15_oneArgument_179 (fun h => ?_) (fun h => ?_)
    · exact g_sub [2, 0] rfl (w_X15_oneArgument_247 hC hN hK hX h)
    · refine g_iconst hC (pc := 182) (v := (3 : Int32)) (by decide) dX15_oneArgument_182 ?_
      refine g_istore hC (pc := 183) (lv' := [(4, vI (3 : Int32)), (3, vQ (some c1)), (2, vI xs0), (1, vQ (some c1))]) (by decide) rfl dX15_oneArgument_183 ?_
      refine g_goto hC (pc := 185) 247 (by decide) dX15_oneArgument_185 ?_
      exact g_sub [2, 0] rfl (w_X15_oneArgument_247 hC hN hK hX h)
  by_cases e4 : r3 = (3154629 : Int32)
  · refine g_lookup hC (pc := 53) (off := 181) 234 (by decide) (by rw [e4]; decide) (by decide) dX15_oneArgument_53 ?_
    replace h := h.2.2.2.2.1 e4
    refine g_aload_n hC (pc := 234) 1 rfl rfl dX15_oneArgument_234 ?_
    refine g_ldcS hC (pc := 235) (List.mem_of_getElem? (i := 41) rfl) dX15_oneArgument_235 ?_
    obtain ⟨hi, h⟩ := h
    refine g_callV hC (pc := 237) (ci := 7) (As := [vQ (some (cxA C 141))]) gc_J7_equals (m_J7_equals hC.fl h) rfl hi q2247 q1251 q1252 (gle rfl) (gle rfl) rfl (gle rfl) rfl dX15_oneArgument_237 (gk_i fun r13 G12 h => ?_) (fun _ _ h hio => g_out0 hC (hX _ _ h) hio)
    refine g_if_eq hC (pc := 240) 247 h (by decide) dX15_oneArgument_240 (fun h => ?_) (fun h => ?_)
    · exact g_sub [2, 0] rfl (w_X15_oneArgument_247 hC hN hK hX h)
    · refine g_bipush hC (pc := 243) (v := (7 : Int32)) (by decide) dX15_oneArgument_243 ?_
      refine g_istore hC (pc := 245) (lv' := [(4, vI (7 : Int32)), (3, vQ (some c1)), (2, vI xs0), (1, vQ (some c1))]) (by decide) rfl dX15_oneArgument_245 ?_
      exact g_sub [2, 0] rfl (w_X15_oneArgument_247 hC hN hK hX h)
  by_cases e5 : r3 = (3496916 : Int32)
  · refine g_lookup hC (pc := 53) (off := 150) 203 (by decide) (by rw [e5]; decide) (by decide) dX15_oneArgument_53 ?_
    replace h := h.2.2.2.2.2.1 e5
    refine g_aload_n hC (pc := 203) 1 rfl rfl dX15_oneArgument_203 ?_
    refine g_ldcS hC (pc := 204) (List.mem_of_getElem? (i := 39) rfl) dX15_oneArgument_204 ?_
    obtain ⟨hi, h⟩ := h
    refine g_callV hC (pc := 206) (ci := 7) (As := [vQ (some (cxA C 139))]) gc_J7_equals (m_J7_equals hC.fl h) rfl hi q2247 q1251 q1252 (gle rfl) (gle rfl) rfl (gle rfl) rfl dX15_oneArgument_206 (gk_i fun r15 G14 h => ?_) (fun _ _ h hio => g_out0 hC (hX _ _ h) hio)
    refine g_if_eq hC (pc := 209) 247 h (by decide) dX15_oneArgument_209 (fun h => ?_) (fun h => ?_)
    · exact g_sub [2, 0] rfl (w_X15_oneArgument_247 hC hN hK hX h)
    · refine g_iconst hC (pc := 212) (v := (5 : Int32)) (by decide) dX15_oneArgument_212 ?_
      refine g_istore hC (pc := 213) (lv' := [(4, vI (5 : Int32)), (3, vQ (some c1)), (2, vI xs0), (1, vQ (some c1))]) (by decide) rfl dX15_oneArgument_213 ?_
      refine g_goto hC (pc := 215) 247 (by decide) dX15_oneArgument_215 ?_
      exact g_sub [2, 0] rfl (w_X15_oneArgument_247 hC hN hK hX h)
  by_cases e6 : r3 = (3641764 : Int32)
  · refine g_lookup hC (pc := 53) (off := 165) 218 (by decide) (by rw [e6]; decide) (by decide) dX15_oneArgument_53 ?_
    replace h := h.2.2.2.2.2.2.1 e6
    refine g_aload_n hC (pc := 218) 1 rfl rfl dX15_oneArgument_218 ?_
    refine g_ldcS hC (pc := 219) (List.mem_of_getElem? (i := 40) rfl) dX15_oneArgument_219 ?_
    obtain ⟨hi, h⟩ := h
    refine g_callV hC (pc := 221) (ci := 7) (As := [vQ (some (cxA C 140))]) gc_J7_equals (m_J7_equals hC.fl h) rfl hi q2247 q1251 q1252 (gle rfl) (gle rfl) rfl (gle rfl) rfl dX15_oneArgument_221 (gk_i fun r17 G16 h => ?_) (fun _ _ h hio => g_out0 hC (hX _ _ h) hio)
    refine g_if_eq hC (pc := 224) 247 h (by decide) dX15_oneArgument_224 (fun h => ?_) (fun h => ?_)
    · exact g_sub [2, 0] rfl (w_X15_oneArgument_247 hC hN hK hX h)
    · refine g_bipush hC (pc := 227) (v := (6 : Int32)) (by decide) dX15_oneArgument_227 ?_
      refine g_istore hC (pc := 229) (lv' := [(4, vI (6 : Int32)), (3, vQ (some c1)), (2, vI xs0), (1, vQ (some c1))]) (by decide) rfl dX15_oneArgument_229 ?_
      refine g_goto hC (pc := 231) 247 (by decide) dX15_oneArgument_231 ?_
      exact g_sub [2, 0] rfl (w_X15_oneArgument_247 hC hN hK hX h)
  by_cases e7 : r3 = (94011453 : Int32)
  · refine g_lookup hC (pc := 53) (off := 90) 143 (by decide) (by rw [e7]; decide) (by decide) dX15_oneArgument_53 ?_
    replace h := h.2.2.2.2.2.2.2.1 e7
    refine g_aload_n hC (pc := 143) 1 rfl rfl dX15_oneArgument_143 ?_
    refine g_ldcS hC (pc := 144) (List.mem_of_getElem? (i := 35) rfl) dX15_oneArgument_144 ?_
    obtain ⟨hi, h⟩ := h
    refine g_callV hC (pc := 146) (ci := 7) (As := [vQ (some (cxA C 135))]) gc_J7_equals (m_J7_equals hC.fl h) rfl hi q2247 q1251 q1252 (gle rfl) (gle rfl) rfl (gle rfl) rfl dX15_oneArgument_146 (gk_i fun r19 G18 h => ?_) (fun _ _ h hio => g_out0 hC (hX _ _ h) hio)
    refine g_if_eq hC (pc := 149) 247 h (by decide) dX15_oneArgument_149 (fun h => ?_) (fun h => ?_)
    · exact g_sub [2, 0] rfl (w_X15_oneArgument_247 hC hN hK hX h)
    · refine g_iconst hC (pc := 152) (v := (1 : Int32)) (by decide) dX15_oneArgument_152 ?_
      refine g_istore hC (pc := 153) (lv' := [(4, vI (1 : Int32)), (3, vQ (some c1)), (2, vI xs0), (1, vQ (some c1))]) (by decide) rfl dX15_oneArgument_153 ?_
      refine g_goto hC (pc := 155) 247 (by decide) dX15_oneArgument_155 ?_
      exact g_sub [2, 0] rfl (w_X15_oneArgument_247 hC hN hK hX h)
  refine g_lookup hC (pc := 53) (off := 194) 247 (by decide) (by have f0 := (gne (n := -1396347377) (by decide) e0).symm; have f1 := (gne (n := -1367724422) (by decide) e1).symm; have f2 := (gne (n := -1240627241) (by decide) e2).symm; have f3 := (gne (n := -934922479) (by decide) e3).symm; have f4 := (gne (n := 3154629) (by decide) e4).symm; have f5 := (gne (n := 3496916) (by decide) e5).symm; have f6 := (gne (n := 3641764) (by decide) e6).symm; have f7 := (gne (n := 94011453) (by decide) e7).symm; simp [Op.lookupswitch.offset, f0, f1, f2, f3, f4, f5, f6, f7]) (by decide) dX15_oneArgument_53 ?_
  replace h := h.2.2.2.2.2.2.2.2 e0 e1 e2 e3 e4 e5 e6 e7
  exact g_sub [2, 0] rfl (w_X15_oneArgument_247 hC hN hK hX h)
def wp_X15_oneArgument (ad : Nat → Nat) (G : gS) (t0 : Nat) (o1 : Option Nat) (X : Nat → gS → Prop) (K : Option Nat → gS → Prop) : Prop :=
  wNew G 6 4 [.null, .int 0, .int 0, .int 0] fun c2 G1 => wp_J6_init ad G1 c2  X (fun G3 => (gIs G3 c2 6 ∧ wp_J6_append ad G3 c2 (some (ad 127)) X (fun q5 G4 => wNN q5 fun c6 => (gIs G4 c6 6 ∧ wp_J6_append ad G4 c6 o1 X (fun q8 G7 => wNN q8 fun c9 => (gIs G7 c9 6 ∧ wp_J6_append ad G7 c9 (some (ad 127)) X (fun q11 G10 => wNN q11 fun c12 => (gIs G10 c12 6 ∧ wp_J6_toString ad G10 c12  X (fun q14 G13 => (gIs G13 (ad 133) 7 ∧ wp_J7_contains ad G13 (ad 133) q14 X (fun r16 G15 => (r16 = (0 : Int32) → (gIs G15 t0 16 ∧ wp_X15_spaceAndDigit ad G15 t0  X (fun r18 G17 => wp_X15_oneArgument_43 ad X K G17 o1 r18))) ∧ (¬ r16 = (0 : Int32) → (gIs G15 t0 16 ∧ wp_X15_spaceAndNumber ad G15 t0  X (fun r20 G19 => wp_X15_oneArgument_43 ad X K G19 o1 r20))))))))))))))
theorem w_X15_oneArgument {C : gCx} (hC : gOk C "GoblinHousehold$Parser" cX15_oneArgument [] (some (Jvm.ClassFile.FieldType.object "GoblinHousehold$Change")) "oneArgument" 5 16 3088) (hN : gNm C yX15_oneArgument) {K : Option Nat → gS → Prop} {X : Nat → gS → Prop} (hK : ∀ r G, K r G → cxK C (some (vQ r)) G) (hX : ∀ q G, X q G → cxX C q G) {G : gS} {t0 : Nat} {o1 : Option Nat} (h : wp_X15_oneArgument (cxA C) G t0 o1 X K) : gGo C G 0 [(0, vQ (some t0)), (1, vQ o1)] [] := by
  unfold wp_X15_oneArgument at h
  refine g_ldcS hC (pc := 0) (List.mem_of_getElem? (i := 33) rfl) dX15_oneArgument_0 ?_
  refine g_new hC (pc := 2) in_J6 (ci := 6) rfl (by decide) tyJ6_ok q2092 q259 q102 gdf_J6 h dX15_oneArgument_2 (fun c2 G1 h => ?_)
  refine g_dup hC (pc := 5) rfl dX15_oneArgument_5 ?_
  refine g_callI hC (pc := 6) (As := []) gc_J6_init (m_J6_init hC.fl h) rfl q2093 q261 (gle rfl) (gle rfl) rfl (gle rfl) rfl dX15_oneArgument_6 (gk_v fun G3 h => ?_) (fun _ _ h hio => g_out0 hC (hX _ _ h) hio)
  refine g_ldcS hC (pc := 9) (List.mem_of_getElem? (i := 27) rfl) dX15_oneArgument_9 ?_
  obtain ⟨hi, h⟩ := h
  refine g_callV hC (pc := 11) (ci := 6) (As := [vQ (some (cxA C 127))]) gc_J6_append (m_J6_append hC.fl h) rfl hi q2102 q449 q450 (gle rfl) (gle rfl) rfl (gle rfl) rfl dX15_oneArgument_11 (gk_q fun q5 G4 h => ?_) (fun _ _ h hio => g_out0 hC (hX _ _ h) hio)
  refine g_aload_n hC (pc := 14) 1 rfl rfl dX15_oneArgument_14 ?_
  rcases q5 with _ | c6
  · exact (gNN0 h).elim
  replace h := gNN1 h
  obtain ⟨hi, h⟩ := h
  refine g_callV hC (pc := 15) (ci := 6) (As := [vQ o1]) gc_J6_append (m_J6_append hC.fl h) rfl hi q2102 q449 q450 (gle rfl) (gle rfl) rfl (gle rfl) rfl dX15_oneArgument_15 (gk_q fun q8 G7 h => ?_) (fun _ _ h hio => g_out0 hC (hX _ _ h) hio)
  refine g_ldcS hC (pc := 18) (List.mem_of_getElem? (i := 27) rfl) dX15_oneArgument_18 ?_
  rcases q8 with _ | c9
  · exact (gNN0 h).elim
  replace h := gNN1 h
  obtain ⟨hi, h⟩ := h
  refine g_callV hC (pc := 20) (ci := 6) (As := [vQ (some (cxA C 127))]) gc_J6_append (m_J6_append hC.fl h) rfl hi q2102 q449 q450 (gle rfl) (gle rfl) rfl (gle rfl) rfl dX15_oneArgument_20 (gk_q fun q11 G10 h => ?_) (fun _ _ h hio => g_out0 hC (hX _ _ h) hio)
  rcases q11 with _ | c12
  · exact (gNN0 h).elim
  replace h := gNN1 h
  obtain ⟨hi, h⟩ := h
  refine g_callV hC (pc := 23) (ci := 6) (As := []) gc_J6_toString (m_J6_toString hC.fl h) rfl hi q2183 q595 q596 (gle rfl) (gle rfl) rfl (gle rfl) rfl dX15_oneArgument_23 (gk_q fun q14 G13 h => ?_) (fun _ _ h hio => g_out0 hC (hX _ _ h) hio)
  obtain ⟨hi, h⟩ := h
  refine g_callV hC (pc := 26) (ci := 7) (As := [vQ q14]) gc_J7_contains (m_J7_contains hC.fl h) rfl hi q2184 q2185 q2186 (gle rfl) (gle rfl) rfl (gle rfl) rfl dX15_oneArgument_26 (gk_i fun r16 G15 h => ?_) (fun _ _ h hio => g_out0 hC (hX _ _ h) hio)
  refine g_if_eq hC (pc := 29) 39 h (by decide) dX15_oneArgument_29 (fun h => ?_) (fun h => ?_)
  · refine g_aload_n hC (pc := 39) 0 rfl rfl dX15_oneArgument_39 ?_
    obtain ⟨hi, h⟩ := h
    refine g_callV hC (pc := 40) (ci := 16) (As := []) gc_X15_spaceAndDigit (m_X15_spaceAndDigit hC.fl h) rfl hi q2250 q2252 qs34 (gle rfl) (gle rfl) rfl (gle rfl) rfl dX15_oneArgument_40 (gk_i fun r18 G17 h => ?_) (fun _ _ h hio => g_out0 hC (hX _ _ h) hio)
    exact g_sub [1] rfl (w_X15_oneArgument_43 hC hN hK hX h)
  · refine g_aload_n hC (pc := 32) 0 rfl rfl dX15_oneArgument_32 ?_
    obtain ⟨hi, h⟩ := h
    refine g_callV hC (pc := 33) (ci := 16) (As := []) gc_X15_spaceAndNumber (m_X15_spaceAndNumber hC.fl h) rfl hi q2266 q2268 qs38 (gle rfl) (gle rfl) rfl (gle rfl) rfl dX15_oneArgument_33 (gk_i fun r20 G19 h => ?_) (fun _ _ h hio => g_out0 hC (hX _ _ h) hio)
    refine g_goto hC (pc := 36) 43 (by decide) dX15_oneArgument_36 ?_
    exact g_sub [1] rfl (w_X15_oneArgument_43 hC hN hK hX h)
theorem gc_X15_oneArgument : gCode yX15_oneArgument cX15_oneArgument 5 (some (Jvm.ClassFile.FieldType.object "GoblinHousehold$Change")) 1 := ⟨q2286, q140, ⟨by decide, by decide⟩, rfl⟩
theorem m_X15_oneArgument {l : Launch} (hfl : l.stackTraces = false) {E : gE} {G : gS} {t0 : Nat} {o1 : Option Nat} {X : Nat → gS → Prop} {K : Option Nat → gS → Prop} (h : wp_X15_oneArgument (gAd E) G t0 o1 X K) : gMet l yX15_oneArgument (ws_ yX15_oneArgument cX15_oneArgument 5 (some (Jvm.ClassFile.FieldType.object "GoblinHousehold$Change"))) 16 3088 [vQ (some t0), vQ o1] E G (gRq K) X :=
  g_metN hfl (plainFor_of_name (by decide +kernel)) rfl rfl rfl (gle rfl) (fun p e R s m args below meth c hC hN => w_X15_oneArgument hC hN (fun _ _ h => h) (fun _ _ h => h) h)
def wp_X15_change_199 (ad : Nat → Nat) (X : Nat → gS → Prop) (K : Option Nat → gS → Prop) (G : gS) (xs0 : Int32) : Prop :=
  wMkL G 19 [xs0] fun c2 G1 => K (some c2) G1
theorem w_X15_change_199 {C : gCx} (hC : gOk C "GoblinHousehold$Parser" cX15_change [] (some (Jvm.ClassFile.FieldType.object "GoblinHousehold$Change")) "change" 11 17 3120) (hN : gNm C yX15_change) {K : Option Nat → gS → Prop} {X : Nat → gS → Prop} (hK : ∀ r G, K r G → cxK C (some (vQ r)) G) (hX : ∀ q G, X q G → cxX C q G) {G : gS} {xs0 : Int32} (h : wp_X15_change_199 (cxA C) X K G xs0) : gGo C G 199 [] [vI xs0] := by
  unfold wp_X15_change_199 at h
  refine g_istore hC (pc := 199) (lv' := [(10, vI xs0)]) (by decide) rfl dX15_change_199 ?_
  refine g_iload hC (pc := 201) 0 rfl dX15_change_201 ?_
  refine g_indyM hC (pc := 203) (q := gSite_19) (xs := [xs0]) hN (List.mem_of_getElem? (i := 19) rfl) rfl (by decide) lok_19 q3057 q2280 gc_X15_lambda_change_11 rfl rfl (gle rfl) (gle rfl) rfl rfl h dX15_change_203 (fun c2 G1 h => ?_)
  exact g_aret hC (pc := 208) (Or.inl ⟨_, rfl⟩) (hK _ _ h) dX15_change_208
def wp_X15_change_87 (ad : Nat → Nat) (X : Nat → gS → Prop) (K : Option Nat → gS → Prop) (G : gS) (t0 : Nat) (t1 : Nat) (x3 : Int32) : Prop :=
  (x3 = (0 : Int32) → (gIs G t0 16 ∧ wp_X15_spaceAndDigit ad G t0  X (fun r2 G1 => (gIs G1 t0 16 ∧ wp_X15_spaceAndDigit ad G1 t0  X (fun r4 G3 => (gIs G3 t0 16 ∧ wp_X15_spaceAndNumber ad G3 t0  X (fun r6 G5 => (gIs G5 t0 16 ∧ wp_X15_take ad G5 t0 (47 : Int32) X (fun G7 => (gIs G7 t0 16 ∧ wp_X15_number ad G7 t0  X (fun r9 G8 => wMkL G8 17 [r2, r4, r6, r9] fun c11 G10 => K (some c11) G10))))))))))) ∧ (x3 = (1 : Int32) → (gIs G t0 16 ∧ wp_X15_spaceAndDigit ad G t0  X (fun r13 G12 => (gIs G12 t0 16 ∧ wp_X15_spaceAndNumber ad G12 t0  X (fun r15 G14 => wMkL G14 18 [r13, r15] fun c17 G16 => K (some c17) G16))))) ∧ (x3 = (2 : Int32) → (gIs G t0 16 ∧ wp_X15_current ad G t0  X (fun r19 G18 => (¬ r19 = (32 : Int32) → wp_X15_change_199 ad X K G18 (1 : Int32)) ∧ (r19 = (32 : Int32) → (gIs G18 t0 16 ∧ wp_X15_spaceAndNumber ad G18 t0  X (fun r21 G20 => wp_X15_change_199 ad X K G20 r21)))))) ∧ (¬ x3 = (0 : Int32) → ¬ x3 = (1 : Int32) → ¬ x3 = (2 : Int32) → (gIs G t0 16 ∧ wp_X15_oneArgument ad G t0 (some t1) X (fun q23 G22 => K q23 G22)))
theorem w_X15_change_87 {C : gCx} (hC : gOk C "GoblinHousehold$Parser" cX15_change [] (some (Jvm.ClassFile.FieldType.object "GoblinHousehold$Change")) "change" 11 17 3120) (hN : gNm C yX15_change) {K : Option Nat → gS → Prop} {X : Nat → gS → Prop} (hK : ∀ r G, K r G → cxK C (some (vQ r)) G) (hX : ∀ q G, X q G → cxX C q G) {G : gS} {t0 : Nat} {t1 : Nat} {x3 : Int32} (h : wp_X15_change_87 (cxA C) X K G t0 t1 x3) : gGo C G 87 [(0, vQ (some t0)), (1, vQ (some t1)), (3, vI x3)] [] := by
  unfold wp_X15_change_87 at h
  refine g_iload_n hC (pc := 87) 2 rfl rfl dX15_change_87 ?_
  by_cases e0 : x3 = (0 : Int32)
  · refine g_tableIn hC (pc := 88) 116 (by rw [e0]; decide) (by rw [e0]; decide) (by rw [e0]; rfl) (by decide) dX15_change_88 ?_
    replace h := h.1 e0
    refine g_aload_n hC (pc := 116) 0 rfl rfl dX15_change_116 ?_
    obtain ⟨hi, h⟩ := h
    refine g_callV hC (pc := 117) (ci := 16) (As := []) gc_X15_spaceAndDigit (m_X15_spaceAndDigit hC.fl h) rfl hi q2250 q2252 qs34 (gle rfl) (gle rfl) rfl (gle rfl) rfl dX15_change_117 (gk_i fun r2 G1 h => ?_) (fun _ _ h hio => g_out0 hC (hX _ _ h) hio)
    refine g_istore hC (pc := 120) (lv' := [(4, vI r2), (0, vQ (some t0)), (1, vQ (some t1)), (3, vI x3)]) (by decide) rfl dX15_change_120 ?_
    refine g_aload_n hC (pc := 122) 1 rfl rfl dX15_change_122 ?_
    obtain ⟨hi, h⟩ := h
    refine g_callV hC (pc := 123) (ci := 16) (As := []) gc_X15_spaceAndDigit (m_X15_spaceAndDigit hC.fl h) rfl hi q2250 q2252 qs34 (gle rfl) (gle rfl) rfl (gle rfl) rfl dX15_change_123 (gk_i fun r4 G3 h => ?_) (fun _ _ h hio => g_out0 hC (hX _ _ h) hio)
    refine g_istore hC (pc := 126) (lv' := [(5, vI r4), (4, vI r2), (0, vQ (some t0)), (1, vQ (some t1)), (3, vI x3)]) (by decide) rfl dX15_change_126 ?_
    refine g_aload_n hC (pc := 128) 2 rfl rfl dX15_change_128 ?_
    obtain ⟨hi, h⟩ := h
    refine g_callV hC (pc := 129) (ci := 16) (As := []) gc_X15_spaceAndNumber (m_X15_spaceAndNumber hC.fl h) rfl hi q2266 q2268 qs38 (gle rfl) (gle rfl) rfl (gle rfl) rfl dX15_change_129 (gk_i fun r6 G5 h => ?_) (fun _ _ h hio => g_out0 hC (hX _ _ h) hio)
    refine g_istore hC (pc := 132) (lv' := [(6, vI r6), (5, vI r4), (4, vI r2), (0, vQ (some t0)), (1, vQ (some t1)), (3, vI x3)]) (by decide) rfl dX15_change_132 ?_
    refine g_aload_n hC (pc := 134) 3 rfl rfl dX15_change_134 ?_
    refine g_bipush hC (pc := 135) (v := (47 : Int32)) (by decide) dX15_change_135 ?_
    obtain ⟨hi, h⟩ := h
    refine g_callV hC (pc := 137) (ci := 16) (As := [vI (47 : Int32)]) gc_X15_take (m_X15_take hC.fl h) rfl hi q2254 q2256 qs35 (gle rfl) (gle rfl) rfl (gle rfl) rfl dX15_change_137 (gk_v fun G7 h => ?_) (fun _ _ h hio => g_out0 hC (hX _ _ h) hio)
    refine g_aload_n hC (pc := 140) 3 rfl rfl dX15_change_140 ?_
    obtain ⟨hi, h⟩ := h
    refine g_callV hC (pc := 141) (ci := 16) (As := []) gc_X15_number (m_X15_number hC.fl h) rfl hi q2270 q2272 qs39 (gle rfl) (gle rfl) rfl (gle rfl) rfl dX15_change_141 (gk_i fun r9 G8 h => ?_) (fun _ _ h hio => g_out0 hC (hX _ _ h) hio)
    refine g_istore hC (pc := 144) (lv' := [(7, vI r9), (6, vI r6), (5, vI r4), (4, vI r2), (0, vQ (some t0)), (1, vQ (some t1)), (3, vI x3)]) (by decide) rfl dX15_change_144 ?_
    refine g_iload hC (pc := 146) 3 rfl dX15_change_146 ?_
    refine g_iload hC (pc := 148) 2 rfl dX15_change_148 ?_
    refine g_iload hC (pc := 150) 1 rfl dX15_change_150 ?_
    refine g_iload hC (pc := 152) 0 rfl dX15_change_152 ?_
    refine g_indyM hC (pc := 154) (q := gSite_17) (xs := [r2, r4, r6, r9]) hN (List.mem_of_getElem? (i := 17) rfl) rfl (by decide) lok_17 q3057 q2274 gc_X15_lambda_change_9 rfl rfl (gle rfl) (gle rfl) rfl rfl h dX15_change_154 (fun c11 G10 h => ?_)
    exact g_aret hC (pc := 159) (Or.inl ⟨_, rfl⟩) (hK _ _ h) dX15_change_159
  by_cases e1 : x3 = (1 : Int32)
  · refine g_tableIn hC (pc := 88) 160 (by rw [e1]; decide) (by rw [e1]; decide) (by rw [e1]; rfl) (by decide) dX15_change_88 ?_
    replace h := h.2.1 e1
    refine g_aload_n hC (pc := 160) 0 rfl rfl dX15_change_160 ?_
    obtain ⟨hi, h⟩ := h
    refine g_callV hC (pc := 161) (ci := 16) (As := []) gc_X15_spaceAndDigit (m_X15_spaceAndDigit hC.fl h) rfl hi q2250 q2252 qs34 (gle rfl) (gle rfl) rfl (gle rfl) rfl dX15_change_161 (gk_i fun r13 G12 h => ?_) (fun _ _ h hio => g_out0 hC (hX _ _ h) hio)
    refine g_istore hC (pc := 164) (lv' := [(8, vI r13), (0, vQ (some t0)), (1, vQ (some t1)), (3, vI x3)]) (by decide) rfl dX15_change_164 ?_
    refine g_aload_n hC (pc := 166) 1 rfl rfl dX15_change_166 ?_
    obtain ⟨hi, h⟩ := h
    refine g_callV hC (pc := 167) (ci := 16) (As := []) gc_X15_spaceAndNumber (m_X15_spaceAndNumber hC.fl h) rfl hi q2266 q2268 qs38 (gle rfl) (gle rfl) rfl (gle rfl) rfl dX15_change_167 (gk_i fun r15 G14 h => ?_) (fun _ _ h hio => g_out0 hC (hX _ _ h) hio)
    refine g_istore hC (pc := 170) (lv' := [(9, vI r15), (8, vI r13), (0, vQ (some t0)), (1, vQ (some t1)), (3, vI x3)]) (by decide) rfl dX15_change_170 ?_
    refine g_iload hC (pc := 172) 1 rfl dX15_change_172 ?_
    refine g_iload hC (pc := 174) 0 rfl dX15_change_174 ?_
    refine g_indyM hC (pc := 176) (q := gSite_18) (xs := [r13, r15]) hN (List.mem_of_getElem? (i := 18) rfl) rfl (by decide) lok_18 q3057 q2277 gc_X15_lambda_change_10 rfl rfl (gle rfl) (gle rfl) rfl rfl h dX15_change_176 (fun c17 G16 h => ?_)
    exact g_aret hC (pc := 181) (Or.inl ⟨_, rfl⟩) (hK _ _ h) dX15_change_181
  by_cases e2 : x3 = (2 : Int32)
  · refine g_tableIn hC (pc := 88) 182 (by rw [e2]; decide) (by rw [e2]; decide) (by rw [e2]; rfl) (by decide) dX15_change_88 ?_
    replace h := h.2.2.1 e2
    refine g_aload_n hC (pc := 182) 0 rfl rfl dX15_change_182 ?_
    obtain ⟨hi, h⟩ := h
    refine g_callV hC (pc := 183) (ci := 16) (As := []) gc_X15_current (m_X15_current hC.fl h) rfl hi q2094 q2096 qs32 (gle rfl) (gle rfl) rfl (gle rfl) rfl dX15_change_183 (gk_i fun r19 G18 h => ?_) (fun _ _ h hio => g_out0 hC (hX _ _ h) hio)
    refine g_bipush hC (pc := 186) (v := (32 : Int32)) (by decide) dX15_change_186 ?_
    refine g_icmp_ne hC (pc := 188) 198 h (by decide) dX15_change_188 (fun h => ?_) (fun h => ?_)
    · refine g_iconst hC (pc := 198) (v := (1 : Int32)) (by decide) dX15_change_198 ?_
      exact g_sub [] rfl (w_X15_change_199 hC hN hK hX h)
    · refine g_aload_n hC (pc := 191) 0 rfl rfl dX15_change_191 ?_
      obtain ⟨hi, h⟩ := h
      refine g_callV hC (pc := 192) (ci := 16) (As := []) gc_X15_spaceAndNumber (m_X15_spaceAndNumber hC.fl h) rfl hi q2266 q2268 qs38 (gle rfl) (gle rfl) rfl (gle rfl) rfl dX15_change_192 (gk_i fun r21 G20 h => ?_) (fun _ _ h hio => g_out0 hC (hX _ _ h) hio)
      refine g_goto hC (pc := 195) 199 (by decide) dX15_change_195 ?_
      exact g_sub [] rfl (w_X15_change_199 hC hN hK hX h)
  refine g_tableOut hC (pc := 88) 209 (by have f0 := gne (n := 0) rfl e0; have f1 := gne (n := 1) rfl e1; have f2 := gne (n := 2) rfl e2; omega) (by decide) dX15_change_88 ?_
  replace h := h.2.2.2 e0 e1 e2
  refine g_aload_n hC (pc := 209) 0 rfl rfl dX15_change_209 ?_
  refine g_aload_n hC (pc := 210) 1 rfl rfl dX15_change_210 ?_
  obtain ⟨hi, h⟩ := h
  refine g_callV hC (pc := 211) (ci := 16) (As := [vQ (some t1)]) gc_X15_oneArgument (m_X15_oneArgument hC.fl h) rfl hi q2283 q2285 qs40 (gle rfl) (gle rfl) rfl (gle rfl) rfl dX15_change_211 (gk_q fun q23 G22 h => ?_) (fun _ _ h hio => g_out0 hC (hX _ _ h) hio)
  exact g_aret hC (pc := 214) (Or.inl ⟨_, rfl⟩) (hK _ _ h) dX15_change_214
def wp_X15_change (ad : Nat → Nat) (G : gS) (t0 : Nat) (X : Nat → gS → Prop) (K : Option Nat → gS → Prop) : Prop :=
  (gIs G t0 16 ∧ wp_X15_word ad G t0  X (fun q2 G1 => wNN q2 fun c3 => (gIs G1 c3 7 ∧ wp_J7_hashCode ad G1 c3  X (fun r5 G4 => (r5 = (3202804 : Int32) → (gIs G4 c3 7 ∧ wp_J7_equals ad G4 c3 (some (ad 130)) X (fun r7 G6 => (r7 = (0 : Int32) → wp_X15_change_87 ad X K G6 t0 c3 (-1 : Int32)) ∧ (¬ r7 = (0 : Int32) → wp_X15_change_87 ad X K G6 t0 c3 (0 : Int32))))) ∧ (r5 = (3317999 : Int32) → (gIs G4 c3 7 ∧ wp_J7_equals ad G4 c3 (some (ad 131)) X (fun r9 G8 => (r9 = (0 : Int32) → wp_X15_change_87 ad X K G8 t0 c3 (-1 : Int32)) ∧ (¬ r9 = (0 : Int32) → wp_X15_change_87 ad X K G8 t0 c3 (1 : Int32))))) ∧ (r5 = (104817688 : Int32) → (gIs G4 c3 7 ∧ wp_J7_equals ad G4 c3 (some (ad 132)) X (fun r11 G10 => (r11 = (0 : Int32) → wp_X15_change_87 ad X K G10 t0 c3 (-1 : Int32)) ∧ (¬ r11 = (0 : Int32) → wp_X15_change_87 ad X K G10 t0 c3 (2 : Int32))))) ∧ (¬ r5 = (3202804 : Int32) → ¬ r5 = (3317999 : Int32) → ¬ r5 = (104817688 : Int32) → wp_X15_change_87 ad X K G4 t0 c3 (-1 : Int32))))))
theorem w_X15_change {C : gCx} (hC : gOk C "GoblinHousehold$Parser" cX15_change [] (some (Jvm.ClassFile.FieldType.object "GoblinHousehold$Change")) "change" 11 17 3120) (hN : gNm C yX15_change) {K : Option Nat → gS → Prop} {X : Nat → gS → Prop} (hK : ∀ r G, K r G → cxK C (some (vQ r)) G) (hX : ∀ q G, X q G → cxX C q G) {G : gS} {t0 : Nat} (h : wp_X15_change (cxA C) G t0 X K) : gGo C G 0 [(0, vQ (some t0))] [] := by
  unfold wp_X15_change at h
  refine g_aload_n hC (pc := 0) 0 rfl rfl dX15_change_0 ?_
  obtain ⟨hi, h⟩ := h
  refine g_callV hC (pc := 1) (ci := 16) (As := []) gc_X15_word (m_X15_word hC.fl h) rfl hi q2088 q2090 qs31 (gle rfl) (gle rfl) rfl (gle rfl) rfl dX15_change_1 (gk_q fun q2 G1 h => ?_) (fun _ _ h hio => g_out0 hC (hX _ _ h) hio)
  refine g_astore_n hC (pc := 4) (lv' := [(1, vQ q2), (0, vQ (some t0))]) rfl (by decide) rfl dX15_change_4 ?_
  refine g_aload_n hC (pc := 5) 0 rfl rfl dX15_change_5 ?_
  refine g_astore_n hC (pc := 6) (lv' := [(2, vQ q2), (1, vQ q2), (0, vQ (some t0))]) rfl (by decide) rfl dX15_change_6 ?_
  refine g_iconst hC (pc := 7) (v := (-1 : Int32)) (by decide) dX15_change_7 ?_
  refine g_istore_n hC (pc := 8) (lv' := [(3, vI (-1 : Int32)), (2, vQ q2), (1, vQ q2), (0, vQ (some t0))]) rfl (by decide) rfl dX15_change_8 ?_
  refine g_aload_n hC (pc := 9) 1 rfl rfl dX15_change_9 ?_
  rcases q2 with _ | c3
  · exact (gNN0 h).elim
  replace h := gNN1 h
  obtain ⟨hi, h⟩ := h
  refine g_callV hC (pc := 10) (ci := 7) (As := []) gc_J7_hashCode (m_J7_hashCode hC.fl h) rfl hi q2245 q1189 q1190 (gle rfl) (gle rfl) rfl (gle rfl) rfl dX15_change_10 (gk_i fun r5 G4 h => ?_) (fun _ _ h hio => g_out0 hC (hX _ _ h) hio)
  by_cases e0 : r5 = (3202804 : Int32)
  · refine g_lookup hC (pc := 13) (off := 35) 48 (by decide) (by rw [e0]; decide) (by decide) dX15_change_13 ?_
    replace h := h.1 e0
    refine g_aload_n hC (pc := 48) 1 rfl rfl dX15_change_48 ?_
    refine g_ldcS hC (pc := 49) (List.mem_of_getElem? (i := 30) rfl) dX15_change_49 ?_
    obtain ⟨hi, h⟩ := h
    refine g_callV hC (pc := 51) (ci := 7) (As := [vQ (some (cxA C 130))]) gc_J7_equals (m_J7_equals hC.fl h) rfl hi q2247 q1251 q1252 (gle rfl) (gle rfl) rfl (gle rfl) rfl dX15_change_51 (gk_i fun r7 G6 h => ?_) (fun _ _ h hio => g_out0 hC (hX _ _ h) hio)
    refine g_if_eq hC (pc := 54) 87 h (by decide) dX15_change_54 (fun h => ?_) (fun h => ?_)
    · exact g_sub [3, 2, 0] rfl (w_X15_change_87 hC hN hK hX h)
    · refine g_iconst hC (pc := 57) (v := (0 : Int32)) (by decide) dX15_change_57 ?_
      refine g_istore_n hC (pc := 58) (lv' := [(3, vI (0 : Int32)), (2, vQ (some c3)), (1, vQ (some c3)), (0, vQ (some t0))]) rfl (by decide) rfl dX15_change_58 ?_
      refine g_goto hC (pc := 59) 87 (by decide) dX15_change_59 ?_
      exact g_sub [3, 2, 0] rfl (w_X15_change_87 hC hN hK hX h)
  by_cases e1 : r5 = (3317999 : Int32)
  · refine g_lookup hC (pc := 13) (off := 49) 62 (by decide) (by rw [e1]; decide) (by decide) dX15_change_13 ?_
    replace h := h.2.1 e1
    refine g_aload_n hC (pc := 62) 1 rfl rfl dX15_change_62 ?_
    refine g_ldcS hC (pc := 63) (List.mem_of_getElem? (i := 31) rfl) dX15_change_63 ?_
    obtain ⟨hi, h⟩ := h
    refine g_callV hC (pc := 65) (ci := 7) (As := [vQ (some (cxA C 131))]) gc_J7_equals (m_J7_equals hC.fl h) rfl hi q2247 q1251 q1252 (gle rfl) (gle rfl) rfl (gle rfl) rfl dX15_change_65 (gk_i fun r9 G8 h => ?_) (fun _ _ h hio => g_out0 hC (hX _ _ h) hio)
    refine g_if_eq hC (pc := 68) 87 h (by decide) dX15_change_68 (fun h => ?_) (fun h => ?_)
    · exact g_sub [3, 2, 0] rfl (w_X15_change_87 hC hN hK hX h)
    · refine g_iconst hC (pc := 71) (v := (1 : Int32)) (by decide) dX15_change_71 ?_
      refine g_istore_n hC (pc := 72) (lv' := [(3, vI (1 : Int32)), (2, vQ (some c3)), (1, vQ (some c3)), (0, vQ (some t0))]) rfl (by decide) rfl dX15_change_72 ?_
      refine g_goto hC (pc := 73) 87 (by decide) dX15_change_73 ?_
      exact g_sub [3, 2, 0] rfl (w_X15_change_87 hC hN hK hX h)
  by_cases e2 : r5 = (104817688 : Int32)
  · refine g_lookup hC (pc := 13) (off := 63) 76 (by decide) (by rw [e2]; decide) (by decide) dX15_change_13 ?_
    replace h := h.2.2.1 e2
    refine g_aload_n hC (pc := 76) 1 rfl rfl dX15_change_76 ?_
    refine g_ldcS hC (pc := 77) (List.mem_of_getElem? (i := 32) rfl) dX15_change_77 ?_
    obtain ⟨hi, h⟩ := h
    refine g_callV hC (pc := 79) (ci := 7) (As := [vQ (some (cxA C 132))]) gc_J7_equals (m_J7_equals hC.fl h) rfl hi q2247 q1251 q1252 (gle rfl) (gle rfl) rfl (gle rfl) rfl dX15_change_79 (gk_i fun r11 G10 h => ?_) (fun _ _ h hio => g_out0 hC (hX _ _ h) hio)
    refine g_if_eq hC (pc := 82) 87 h (by decide) dX15_change_82 (fun h => ?_) (fun h => ?_)
    · exact g_sub [3, 2, 0] rfl (w_X15_change_87 hC hN hK hX h)
    · refine g_iconst hC (pc := 85) (v := (2 : Int32)) (by decide) dX15_change_85 ?_
      refine g_istore_n hC (pc := 86) (lv' := [(3, vI (2 : Int32)), (2, vQ (some c3)), (1, vQ (some c3)), (0, vQ (some t0))]) rfl (by decide) rfl dX15_change_86 ?_
      exact g_sub [3, 2, 0] rfl (w_X15_change_87 hC hN hK hX h)
  refine g_lookup hC (pc := 13) (off := 74) 87 (by decide) (by have f0 := (gne (n := 3202804) (by decide) e0).symm; have f1 := (gne (n := 3317999) (by decide) e1).symm; have f2 := (gne (n := 104817688) (by decide) e2).symm; simp [Op.lookupswitch.offset, f0, f1, f2]) (by decide) dX15_change_13 ?_
  replace h := h.2.2.2 e0 e1 e2
  exact g_sub [3, 2, 0] rfl (w_X15_change_87 hC hN hK hX h)
theorem gc_X15_change : gCode yX15_change cX15_change 11 (some (Jvm.ClassFile.FieldType.object "GoblinHousehold$Change")) 0 := ⟨q2087, q140, ⟨by decide, by decide⟩, rfl⟩
theorem m_X15_change {l : Launch} (hfl : l.stackTraces = false) {E : gE} {G : gS} {t0 : Nat} {X : Nat → gS → Prop} {K : Option Nat → gS → Prop} (h : wp_X15_change (gAd E) G t0 X K) : gMet l yX15_change (ws_ yX15_change cX15_change 11 (some (Jvm.ClassFile.FieldType.object "GoblinHousehold$Change"))) 17 3120 [vQ (some t0)] E G (gRq K) X :=
  g_metN hfl (plainFor_of_name (by decide +kernel)) rfl rfl rfl (gle rfl) (fun p e R s m args below meth c hC hN => w_X15_change hC hN (fun _ _ h => h) (fun _ _ h => h) h)
def wp_X16_init (ad : Nat → Nat) (G : gS) (t0 : Nat) (o1 : Option Nat) (X : Nat → gS → Prop) (K : gS → Prop) : Prop :=
  wPut G t0 15 0 (va_rf o1) fun G1 => K G1
theorem w_X16_init {C : gCx} (hC : gOk C "GoblinHousehold$Command" cX16_init [] none "<init>" 2 1 28) {K : gS → Prop} {X : Nat → gS → Prop} (hK : ∀ G, K G → cxK C none G) (hX : ∀ q G, X q G → cxX C q G) {G : gS} {t0 : Nat} {o1 : Option Nat} (h : wp_X16_init (cxA C) G t0 o1 X K) : gGo C G 0 [(0, vQ (some t0)), (1, vQ o1)] [] := by
  unfold wp_X16_init at h
  refine g_aload_n hC (pc := 0) 0 rfl rfl dX16_init_0 ?_
  refine g_objInit hC (pc := 1) q2325 q151 q152 (gle rfl) (gle rfl) (gle rfl) dX16_init_1 ?_
  refine g_aload_n hC (pc := 4) 0 rfl rfl dX16_init_4 ?_
  refine g_aload_n hC (pc := 5) 1 rfl rfl dX16_init_5 ?_
  refine g_putF hC (pc := 6) in_X16 (ci := 15) rfl 0 (by decide) tyX16_ok nmX16 q2326 (Or.inl rfl) rfl rfl rfl (gnarO _ _) (gfitO _ _) h dX16_init_6 (fun G1 h => ?_)
  exact g_vret hC (pc := 9) (hK _ h) dX16_init_9
theorem gc_X16_init : gCode yX16_init cX16_init 2 none 1 := ⟨q2324, q141, ⟨by decide, by decide⟩, rfl⟩
theorem m_X16_init {l : Launch} (hfl : l.stackTraces = false) {E : gE} {G : gS} {t0 : Nat} {o1 : Option Nat} {X : Nat → gS → Prop} {K : gS → Prop} (h : wp_X16_init (gAd E) G t0 o1 X K) : gMet l yX16_init (ws_ yX16_init cX16_init 2 none) 1 28 [vQ (some t0), vQ o1] E G (gRv K) X :=
  g_met hfl (plainFor_of_name (by decide +kernel)) rfl rfl rfl (gle rfl) (fun p e R s m args below meth c hC => w_X16_init hC (fun _ h => h) (fun _ _ h => h) h)
def wp_X15_commands_26 (ad : Nat → Nat) (X : Nat → gS → Prop) (K : Option Nat → gS → Prop) (J26 : gS → Nat → Nat → Prop) (G : gS) (t0 : Nat) (t1 : Nat) : Prop :=
  wGetI G t0 16 1 fun i1 => wGetQ G t0 16 0 fun q2 => wNN q2 fun c3 => (gIs G c3 7 ∧ wp_J7_length ad G c3  X (fun r5 G4 => (r5 ≤ i1 → K (some t1) G4) ∧ (¬ r5 ≤ i1 → (gIs G4 t0 16 ∧ wp_X15_take ad G4 t0 (59 : Int32) X (fun G6 => wNew G6 15 1 [.null] fun c8 G7 => (gIs G7 t0 16 ∧ wp_X15_change ad G7 t0  X (fun q10 G9 => wp_X16_init ad G9 c8 q10 X (fun G11 => (gIs G11 t1 3 ∧ wp_J2_add ad G11 t1 (some c8) X (fun r13 G12 => J26 G12 t0 t1))))))))))
theorem w_X15_commands_26 {C : gCx} (hC : gOk C "GoblinHousehold$Parser" cX15_commands [] (some (Jvm.ClassFile.FieldType.object "java/util/List")) "commands" 2 18 3158) {K : Option Nat → gS → Prop} {X : Nat → gS → Prop} (hK : ∀ r G, K r G → cxK C (some (vQ r)) G) (hX : ∀ q G, X q G → cxX C q G) (n : Nat) : ∀ (G : gS) (t0 : Nat) (t1 : Nat), gLoop (fun _ _ _ => False) (wp_X15_commands_26 (cxA C) X K) n G t0 t1 → gGo C G 26 [(0, vQ (some t0)), (1, vQ (some t1))] [] := by
  induction n with
  | zero => intro G t0 t1 h; exact h.elim
  | succ n ih =>
    intro G t0 t1 h
    have hJ26 := ih
    replace h : wp_X15_commands_26 (cxA C) X K _ G t0 t1 := h
    unfold wp_X15_commands_26 at h
    refine g_aload_n hC (pc := 26) 0 rfl rfl dX15_commands_26 ?_
    refine g_getI hC (pc := 27) in_X15 (ci := 16) rfl 1 (by decide) q2070 (Or.inl rfl) h dX15_commands_27 (fun i1 h => ?_)
    refine g_aload_n hC (pc := 30) 0 rfl rfl dX15_commands_30 ?_
    refine g_getQ hC (pc := 31) in_X15 (ci := 16) rfl 0 (by decide) q2069 (Or.inl rfl) h dX15_commands_31 (fun q2 h => ?_)
    rcases q2 with _ | c3
    · exact (gNN0 h).elim
    replace h := gNN1 h
    obtain ⟨hi, h⟩ := h
    refine g_callV hC (pc := 34) (ci := 7) (As := []) gc_J7_length (m_J7_length hC.fl h) rfl hi q2098 q526 q527 (gle rfl) (gle rfl) rfl (gle rfl) rfl dX15_commands_34 (gk_i fun r5 G4 h => ?_) (fun _ _ h hio => g_out0 hC (hX _ _ h) hio)
    refine g_icmp_ge hC (pc := 37) 67 h (by decide) dX15_commands_37 (fun h => ?_) (fun h => ?_)
    · refine g_aload_n hC (pc := 67) 1 rfl rfl dX15_commands_67 ?_
      exact g_aret hC (pc := 68) (Or.inl ⟨_, rfl⟩) (hK _ _ h) dX15_commands_68
    · refine g_aload_n hC (pc := 40) 0 rfl rfl dX15_commands_40 ?_
      refine g_bipush hC (pc := 41) (v := (59 : Int32)) (by decide) dX15_commands_41 ?_
      obtain ⟨hi, h⟩ := h
      refine g_callV hC (pc := 43) (ci := 16) (As := [vI (59 : Int32)]) gc_X15_take (m_X15_take hC.fl h) rfl hi q2254 q2256 qs35 (gle rfl) (gle rfl) rfl (gle rfl) rfl dX15_commands_43 (gk_v fun G6 h => ?_) (fun _ _ h hio => g_out0 hC (hX _ _ h) hio)
      refine g_aload_n hC (pc := 46) 1 rfl rfl dX15_commands_46 ?_
      refine g_new hC (pc := 47) in_X16 (ci := 15) rfl (by decide) tyX16_ok q2082 q2083 q141 gdf_X16 h dX15_commands_47 (fun c8 G7 h => ?_)
      refine g_dup hC (pc := 50) rfl dX15_commands_50 ?_
      refine g_aload_n hC (pc := 51) 0 rfl rfl dX15_commands_51 ?_
      obtain ⟨hi, h⟩ := h
      refine g_callV hC (pc := 52) (ci := 16) (As := []) gc_X15_change (m_X15_change hC.fl h) rfl hi q2084 q2086 qs30 (gle rfl) (gle rfl) rfl (gle rfl) rfl dX15_commands_52 (gk_q fun q10 G9 h => ?_) (fun _ _ h hio => g_out0 hC (hX _ _ h) hio)
      refine g_callI hC (pc := 55) (As := [vQ q10]) gc_X16_init (m_X16_init hC.fl h) rfl q2322 q2323 (gle rfl) (gle rfl) rfl (gle rfl) rfl dX15_commands_55 (gk_v fun G11 h => ?_) (fun _ _ h hio => g_out0 hC (hX _ _ h) hio)
      obtain ⟨hi, h⟩ := h
      refine g_callF hC (pc := 58) (ci := 3) (As := [vQ (some c8)]) gc_J2_add (m_J2_add hC.fl h) rfl hi q2331 (List.mem_of_getElem? (i := 4) rfl) rfl q957 q959 (gle rfl) (gle rfl) rfl (gle rfl) rfl dX15_commands_58 (gk_i fun r13 G12 h => ?_) (fun _ _ h hio => g_out0 hC (hX _ _ h) hio)
      refine g_pop hC (pc := 63) rfl dX15_commands_63 ?_
      refine g_goto hC (pc := 64) 26 (by decide) dX15_commands_64 ?_
      exact g_sub [0, 1] rfl (hJ26 _ _ _ h)
def wp_X15_commands (ad : Nat → Nat) (G : gS) (t0 : Nat) (X : Nat → gS → Prop) (K : Option Nat → gS → Prop) : Prop :=
  wNew G 3 3 [.int 0, .null, .int 0] fun c2 G1 => wp_J2_init ad G1 c2  X (fun G3 => wNew G3 15 1 [.null] fun c5 G4 => (gIs G4 t0 16 ∧ wp_X15_change ad G4 t0  X (fun q7 G6 => wp_X16_init ad G6 c5 q7 X (fun G8 => (gIs G8 c2 3 ∧ wp_J2_add ad G8 c2 (some c5) X (fun r10 G9 => gLoop (fun _ _ _ => False) (wp_X15_commands_26 ad X K) gFuel G9 t0 c2))))))
theorem w_X15_commands {C : gCx} (hC : gOk C "GoblinHousehold$Parser" cX15_commands [] (some (Jvm.ClassFile.FieldType.object "java/util/List")) "commands" 2 18 3158) {K : Option Nat → gS → Prop} {X : Nat → gS → Prop} (hK : ∀ r G, K r G → cxK C (some (vQ r)) G) (hX : ∀ q G, X q G → cxX C q G) {G : gS} {t0 : Nat} (h : wp_X15_commands (cxA C) G t0 X K) : gGo C G 0 [(0, vQ (some t0))] [] := by
  unfold wp_X15_commands at h
  refine g_new hC (pc := 0) in_J2 (ci := 3) rfl (by decide) tyJ2_ok q2080 q160 q98 gdf_J2 h dX15_commands_0 (fun c2 G1 h => ?_)
  refine g_dup hC (pc := 3) rfl dX15_commands_3 ?_
  refine g_callI hC (pc := 4) (As := []) gc_J2_init (m_J2_init hC.fl h) rfl q2081 q162 (gle rfl) (gle rfl) rfl (gle rfl) rfl dX15_commands_4 (gk_v fun G3 h => ?_) (fun _ _ h hio => g_out0 hC (hX _ _ h) hio)
  refine g_astore_n hC (pc := 7) (lv' := [(1, vQ (some c2)), (0, vQ (some t0))]) rfl (by decide) rfl dX15_commands_7 ?_
  refine g_aload_n hC (pc := 8) 0 rfl rfl dX15_commands_8 ?_
  refine g_new hC (pc := 9) in_X16 (ci := 15) rfl (by decide) tyX16_ok q2082 q2083 q141 gdf_X16 h dX15_commands_9 (fun c5 G4 h => ?_)
  refine g_dup hC (pc := 12) rfl dX15_commands_12 ?_
  refine g_aload_n hC (pc := 13) 1 rfl rfl dX15_commands_13 ?_
  obtain ⟨hi, h⟩ := h
  refine g_callV hC (pc := 14) (ci := 16) (As := []) gc_X15_change (m_X15_change hC.fl h) rfl hi q2084 q2086 qs30 (gle rfl) (gle rfl) rfl (gle rfl) rfl dX15_commands_14 (gk_q fun q7 G6 h => ?_) (fun _ _ h hio => g_out0 hC (hX _ _ h) hio)
  refine g_callI hC (pc := 17) (As := [vQ q7]) gc_X16_init (m_X16_init hC.fl h) rfl q2322 q2323 (gle rfl) (gle rfl) rfl (gle rfl) rfl dX15_commands_17 (gk_v fun G8 h => ?_) (fun _ _ h hio => g_out0 hC (hX _ _ h) hio)
  obtain ⟨hi, h⟩ := h
  refine g_callF hC (pc := 20) (ci := 3) (As := [vQ (some c5)]) gc_J2_add (m_J2_add hC.fl h) rfl hi q2331 (List.mem_of_getElem? (i := 4) rfl) rfl q957 q959 (gle rfl) (gle rfl) rfl (gle rfl) rfl dX15_commands_20 (gk_i fun r10 G9 h => ?_) (fun _ _ h hio => g_out0 hC (hX _ _ h) hio)
  refine g_pop hC (pc := 25) rfl dX15_commands_25 ?_
  exact g_sub [1, 0] rfl (w_X15_commands_26 hC hK hX gFuel _ _ _ h)
theorem gc_X15_commands : gCode yX15_commands cX15_commands 2 (some (Jvm.ClassFile.FieldType.object "java/util/List")) 0 := ⟨q2079, q140, ⟨by decide, by decide⟩, rfl⟩
theorem m_X15_commands {l : Launch} (hfl : l.stackTraces = false) {E : gE} {G : gS} {t0 : Nat} {X : Nat → gS → Prop} {K : Option Nat → gS → Prop} (h : wp_X15_commands (gAd E) G t0 X K) : gMet l yX15_commands (ws_ yX15_commands cX15_commands 2 (some (Jvm.ClassFile.FieldType.object "java/util/List"))) 18 3158 [vQ (some t0)] E G (gRq K) X :=
  g_met hfl (plainFor_of_name (by decide +kernel)) rfl rfl rfl (gle rfl) (fun p e R s m args below meth c hC => w_X15_commands hC (fun _ _ h => h) (fun _ _ h => h) h)
def wp_X16_change (ad : Nat → Nat) (G : gS) (t0 : Nat) (X : Nat → gS → Prop) (K : Option Nat → gS → Prop) : Prop :=
  wGetQ G t0 15 0 fun q1 => K q1 G
theorem w_X16_change {C : gCx} (hC : gOk C "GoblinHousehold$Command" cX16_change [] (some (Jvm.ClassFile.FieldType.object "GoblinHousehold$Change")) "change" 1 0 0) {K : Option Nat → gS → Prop} {X : Nat → gS → Prop} (hK : ∀ r G, K r G → cxK C (some (vQ r)) G) (hX : ∀ q G, X q G → cxX C q G) {G : gS} {t0 : Nat} (h : wp_X16_change (cxA C) G t0 X K) : gGo C G 0 [(0, vQ (some t0))] [] := by
  unfold wp_X16_change at h
  refine g_aload_n hC (pc := 0) 0 rfl rfl dX16_change_0 ?_
  refine g_getQ hC (pc := 1) in_X16 (ci := 15) rfl 0 (by decide) q2326 (Or.inl rfl) h dX16_change_1 (fun q1 h => ?_)
  exact g_aret hC (pc := 4) (Or.inl ⟨_, rfl⟩) (hK _ _ h) dX16_change_4
theorem gc_X16_change : gCode yX16_change cX16_change 1 (some (Jvm.ClassFile.FieldType.object "GoblinHousehold$Change")) 0 := ⟨q2340, q141, ⟨by decide, by decide⟩, rfl⟩
theorem m_X16_change {l : Launch} (hfl : l.stackTraces = false) {E : gE} {G : gS} {t0 : Nat} {X : Nat → gS → Prop} {K : Option Nat → gS → Prop} (h : wp_X16_change (gAd E) G t0 X K) : gMet l yX16_change (ws_ yX16_change cX16_change 1 (some (Jvm.ClassFile.FieldType.object "GoblinHousehold$Change"))) 0 0 [vQ (some t0)] E G (gRq K) X :=
  g_met hfl (plainFor_of_name (by decide +kernel)) rfl rfl rfl (gle rfl) (fun p e R s m args below meth c hC => w_X16_change hC (fun _ _ h => h) (fun _ _ h => h) h)
def wp_J9_init_3_at19 (ad : Nat → Nat) (G : gS) (t0 : Nat) (o1 : Option Nat) (o2 : Option Nat) (X : Nat → gS → Prop) (K : gS → Prop) : Prop :=
  wPut G t0 19 0 (va_rf (some t0)) fun G1 => wPut G1 t0 19 1 (va_rf (gOp (ad 5))) fun G2 => wPut G2 t0 19 2 (va_rf (gOp (ad 6))) fun G3 => wFill G3 t0 19 1 4 (gOp (ad 5)) (wPut G3 t0 19 3 (va_rf o1) fun G4 => wPut G4 t0 19 0 (va_rf o2) fun G5 => K G5)
theorem w_J9_init_3_at19 {C : gCx} (hC : gOk C "java/lang/Throwable" cJ9_init_3 [] none "<init>" 3 4 100) {K : gS → Prop} {X : Nat → gS → Prop} (hK : ∀ G, K G → cxK C none G) (hX : ∀ q G, X q G → cxX C q G) {G : gS} {t0 : Nat} {o1 : Option Nat} {o2 : Option Nat} (h : wp_J9_init_3_at19 (cxA C) G t0 o1 o2 X K) : gGo C G 0 [(0, vQ (some t0)), (1, vQ o1), (2, vQ o2)] [] := by
  unfold wp_J9_init_3_at19 at h
  refine g_aload_n hC (pc := 0) 0 rfl rfl dJ9_init_3_0 ?_
  refine g_objInit hC (pc := 1) q417 q151 q152 (gle rfl) (gle rfl) (gle rfl) dJ9_init_3_1 ?_
  refine g_aload_n hC (pc := 4) 0 rfl rfl dJ9_init_3_4 ?_
  refine g_aload_n hC (pc := 5) 0 rfl rfl dJ9_init_3_5 ?_
  refine g_put hC (pc := 6) in_X18 (ci := 19) rfl 0 (by decide) tyX18_ok nmX18 q659 (Or.inl rfl) rfl (gnarO _ _) (gfitO _ _) h dJ9_init_3_6 (fun G1 h => ?_)
  refine g_aload_n hC (pc := 9) 0 rfl rfl dJ9_init_3_9 ?_
  refine g_statQ hC (pc := 10) (List.mem_of_getElem? (i := 0) rfl) q418 (fun _ _ h => h) dJ9_init_3_10 ?_
  refine g_put hC (pc := 13) in_X18 (ci := 19) rfl 1 (by decide) tyX18_ok nmX18 q660 (Or.inl rfl) rfl (gnarA _ _) (gfitA _ _) h dJ9_init_3_13 (fun G2 h => ?_)
  refine g_aload_n hC (pc := 16) 0 rfl rfl dJ9_init_3_16 ?_
  refine g_statQ hC (pc := 17) (List.mem_of_getElem? (i := 1) rfl) q420 (fun _ _ h => h) dJ9_init_3_17 ?_
  refine g_put hC (pc := 20) in_X18 (ci := 19) rfl 2 (by decide) tyX18_ok nmX18 q661 (Or.inl rfl) rfl (gnarO _ _) (gfitO _ _) h dJ9_init_3_20 (fun G3 h => ?_)
  refine g_aload_n hC (pc := 23) 0 rfl rfl dJ9_init_3_23 ?_
  refine g_fill hC (pc := 24) (ci := 19) 1 4 rfl (by decide) (by decide) ⟨rfl, rfl, rfl⟩ ⟨rfl, rfl, rfl⟩ q2345 q425 q2343 (gle rfl) (gle rfl) (gle rfl) h dJ9_init_3_24 (fun h => ?_)
  refine g_pop hC (pc := 27) rfl dJ9_init_3_27 ?_
  refine g_aload_n hC (pc := 28) 0 rfl rfl dJ9_init_3_28 ?_
  refine g_aload_n hC (pc := 29) 1 rfl rfl dJ9_init_3_29 ?_
  refine g_put hC (pc := 30) in_X18 (ci := 19) rfl 3 (by decide) tyX18_ok nmX18 q658 (Or.inl rfl) rfl (gnarO _ _) (gfitO _ _) h dJ9_init_3_30 (fun G4 h => ?_)
  refine g_aload_n hC (pc := 33) 0 rfl rfl dJ9_init_3_33 ?_
  refine g_aload_n hC (pc := 34) 2 rfl rfl dJ9_init_3_34 ?_
  refine g_put hC (pc := 35) in_X18 (ci := 19) rfl 0 (by decide) tyX18_ok nmX18 q659 (Or.inl rfl) rfl (gnarO _ _) (gfitO _ _) h dJ9_init_3_35 (fun G5 h => ?_)
  exact g_vret hC (pc := 38) (hK _ h) dJ9_init_3_38
theorem m_J9_init_3_at19 {l : Launch} (hfl : l.stackTraces = false) {E : gE} {G : gS} {t0 : Nat} {o1 : Option Nat} {o2 : Option Nat} {X : Nat → gS → Prop} {K : gS → Prop} (h : wp_J9_init_3_at19 (gAd E) G t0 o1 o2 X K) : gMet l yJ9_init_3 (ws_ yJ9_init_3 cJ9_init_3 3 none) 4 100 [vQ (some t0), vQ o1, vQ o2] E G (gRv K) X :=
  g_met hfl (plainFor_of_name (by decide +kernel)) rfl rfl rfl (gle rfl) (fun p e R s m args below meth c hC => w_J9_init_3_at19 hC (fun _ h => h) (fun _ _ h => h) h)
def wp_J10_init_2_at19 (ad : Nat → Nat) (G : gS) (t0 : Nat) (o1 : Option Nat) (o2 : Option Nat) (X : Nat → gS → Prop) (K : gS → Prop) : Prop :=
  wp_J9_init_3_at19 ad G t0 o1 o2 X (fun G1 => K G1)
theorem w_J10_init_2_at19 {C : gCx} (hC : gOk C "java/lang/Exception" cJ10_init_2 [] none "<init>" 3 5 130) {K : gS → Prop} {X : Nat → gS → Prop} (hK : ∀ G, K G → cxK C none G) (hX : ∀ q G, X q G → cxX C q G) {G : gS} {t0 : Nat} {o1 : Option Nat} {o2 : Option Nat} (h : wp_J10_init_2_at19 (cxA C) G t0 o1 o2 X K) : gGo C G 0 [(0, vQ (some t0)), (1, vQ o1), (2, vQ o2)] [] := by
  unfold wp_J10_init_2_at19 at h
  refine g_aload_n hC (pc := 0) 0 rfl rfl dJ10_init_2_0 ?_
  refine g_aload_n hC (pc := 1) 1 rfl rfl dJ10_init_2_1 ?_
  refine g_aload_n hC (pc := 2) 2 rfl rfl dJ10_init_2_2 ?_
  refine g_callI hC (pc := 3) (As := [vQ o1, vQ o2]) gc_J9_init_3 (m_J9_init_3_at19 hC.fl h) rfl q908 q909 (gle rfl) (gle rfl) rfl (gle rfl) rfl dJ10_init_2_3 (gk_v fun G1 h => ?_) (fun _ _ h hio => g_out0 hC (hX _ _ h) hio)
  exact g_vret hC (pc := 6) (hK _ h) dJ10_init_2_6
theorem m_J10_init_2_at19 {l : Launch} (hfl : l.stackTraces = false) {E : gE} {G : gS} {t0 : Nat} {o1 : Option Nat} {o2 : Option Nat} {X : Nat → gS → Prop} {K : gS → Prop} (h : wp_J10_init_2_at19 (gAd E) G t0 o1 o2 X K) : gMet l yJ10_init_2 (ws_ yJ10_init_2 cJ10_init_2 3 none) 5 130 [vQ (some t0), vQ o1, vQ o2] E G (gRv K) X :=
  g_met hfl (plainFor_of_name (by decide +kernel)) rfl rfl rfl (gle rfl) (fun p e R s m args below meth c hC => w_J10_init_2_at19 hC (fun _ h => h) (fun _ _ h => h) h)
def wp_X4_init_at19 (ad : Nat → Nat) (G : gS) (t0 : Nat) (o1 : Option Nat) (X : Nat → gS → Prop) (K : gS → Prop) : Prop :=
  wp_J10_init_2_at19 ad G t0 none o1 X (fun G1 => K G1)
theorem w_X4_init_at19 {C : gCx} (hC : gOk C "GoblinHousehold$Failure" cX4_init [] none "<init>" 2 6 160) {K : gS → Prop} {X : Nat → gS → Prop} (hK : ∀ G, K G → cxK C none G) (hX : ∀ q G, X q G → cxX C q G) {G : gS} {t0 : Nat} {o1 : Option Nat} (h : wp_X4_init_at19 (cxA C) G t0 o1 X K) : gGo C G 0 [(0, vQ (some t0)), (1, vQ o1)] [] := by
  unfold wp_X4_init_at19 at h
  refine g_aload_n hC (pc := 0) 0 rfl rfl dX4_init_0 ?_
  refine g_null hC (pc := 1) dX4_init_1 ?_
  refine g_aload_n hC (pc := 2) 1 rfl rfl dX4_init_2 ?_
  refine g_callI hC (pc := 3) (As := [vQ none, vQ o1]) gc_J10_init_2 (m_J10_init_2_at19 hC.fl h) rfl q905 q906 (gle rfl) (gle rfl) rfl (gle rfl) rfl dX4_init_3 (gk_v fun G1 h => ?_) (fun _ _ h hio => g_out0 hC (hX _ _ h) hio)
  exact g_vret hC (pc := 6) (hK _ h) dX4_init_6
theorem m_X4_init_at19 {l : Launch} (hfl : l.stackTraces = false) {E : gE} {G : gS} {t0 : Nat} {o1 : Option Nat} {X : Nat → gS → Prop} {K : gS → Prop} (h : wp_X4_init_at19 (gAd E) G t0 o1 X K) : gMet l yX4_init (ws_ yX4_init cX4_init 2 none) 6 160 [vQ (some t0), vQ o1] E G (gRv K) X :=
  g_met hfl (plainFor_of_name (by decide +kernel)) rfl rfl rfl (gle rfl) (fun p e R s m args below meth c hC => w_X4_init_at19 hC (fun _ h => h) (fun _ _ h => h) h)
def wp_X18_init (ad : Nat → Nat) (G : gS) (t0 : Nat) (x1 : Int32) (o2 : Option Nat) (X : Nat → gS → Prop) (K : gS → Prop) : Prop :=
  wp_X4_init_at19 ad G t0 o2 X (fun G1 => wPut G1 t0 19 6 (.int x1) fun G2 => K G2)
theorem w_X18_init {C : gCx} (hC : gOk C "GoblinHousehold$CommandFailure" cX18_init [] none "<init>" 3 7 189) {K : gS → Prop} {X : Nat → gS → Prop} (hK : ∀ G, K G → cxK C none G) (hX : ∀ q G, X q G → cxX C q G) {G : gS} {t0 : Nat} {x1 : Int32} {o2 : Option Nat} (h : wp_X18_init (cxA C) G t0 x1 o2 X K) : gGo C G 0 [(0, vQ (some t0)), (1, vI x1), (2, vQ o2)] [] := by
  unfold wp_X18_init at h
  refine g_aload_n hC (pc := 0) 0 rfl rfl dX18_init_0 ?_
  refine g_aload_n hC (pc := 1) 2 rfl rfl dX18_init_1 ?_
  refine g_callI hC (pc := 2) (As := [vQ o2]) gc_X4_init (m_X4_init_at19 hC.fl h) rfl q2352 q903 (gle rfl) (gle rfl) rfl (gle rfl) rfl dX18_init_2 (gk_v fun G1 h => ?_) (fun _ _ h hio => g_out0 hC (hX _ _ h) hio)
  refine g_aload_n hC (pc := 5) 0 rfl rfl dX18_init_5 ?_
  refine g_iload_n hC (pc := 6) 1 rfl rfl dX18_init_6 ?_
  refine g_putF hC (pc := 7) in_X18 (ci := 19) rfl 6 (by decide) tyX18_ok nmX18 q2353 (Or.inl rfl) rfl rfl rfl rfl rfl h dX18_init_7 (fun G2 h => ?_)
  exact g_vret hC (pc := 10) (hK _ h) dX18_init_10
theorem gc_X18_init : gCode yX18_init cX18_init 3 none 2 := ⟨q2351, q143, ⟨by decide, by decide⟩, rfl⟩
theorem m_X18_init {l : Launch} (hfl : l.stackTraces = false) {E : gE} {G : gS} {t0 : Nat} {x1 : Int32} {o2 : Option Nat} {X : Nat → gS → Prop} {K : gS → Prop} (h : wp_X18_init (gAd E) G t0 x1 o2 X K) : gMet l yX18_init (ws_ yX18_init cX18_init 3 none) 7 189 [vQ (some t0), vI x1, vQ o2] E G (gRv K) X :=
  g_met hfl (plainFor_of_name (by decide +kernel)) rfl rfl rfl (gle rfl) (fun p e R s m args below meth c hC => w_X18_init hC (fun _ h => h) (fun _ _ h => h) h)
def wp_X1_execute_43 (ad : Nat → Nat) (X : Nat → gS → Prop) (K : Int32 → gS → Prop) (G : gS) (x3 : Int32) (ts0 : Nat) : Prop :=
  wNew G 19 7 [.null, .null, .null, .null, .null, .int 0, .int 0] fun c2 G1 => wp_X18_init ad G1 c2 x3 (some ts0) X (fun G3 => wThrow G3 c2 X)
theorem w_X1_execute_43 {C : gCx} (hC : gOk C "GoblinHousehold" cX1_execute [(20, 40, 43, 89)] (some .int) "execute" 5 13 364) {K : Int32 → gS → Prop} {X : Nat → gS → Prop} (hK : ∀ r G, K r G → cxK C (some (vI r)) G) (hX : ∀ q G, X q G → cxX C q G) {G : gS} {x3 : Int32} {ts0 : Nat} (h : wp_X1_execute_43 (cxA C) X K G x3 ts0) : gGo C G 43 [(3, vI x3)] [vQ (some ts0)] := by
  unfold wp_X1_execute_43 at h
  refine g_astore hC (pc := 43) (lv' := [(4, vQ (some ts0)), (3, vI x3)]) (by decide) rfl dX1_execute_43 ?_
  refine g_new hC (pc := 45) in_X18 (ci := 19) rfl (by decide) tyX18_ok q2061 q2341 q143 gdf_X18 h dX1_execute_45 (fun c2 G1 h => ?_)
  refine g_dup hC (pc := 48) rfl dX1_execute_48 ?_
  refine g_iload_n hC (pc := 49) 1 rfl rfl dX1_execute_49 ?_
  refine g_aload hC (pc := 50) 0 rfl dX1_execute_50 ?_
  refine g_callI hC (pc := 52) (As := [vI x3, vQ (some ts0)]) gc_X18_init (m_X18_init hC.fl h) rfl q2349 q2350 (gle rfl) (gle rfl) rfl (gle rfl) rfl dX1_execute_52 (gk_v fun G3 h => ?_) (fun _ _ h hio => g_out hC (gcov rfl) (hX _ _ h) hio)
  exact g_athrow hC (pc := 55) dX1_execute_55 h.1 (g_out hC (gcov rfl) (hX _ _ h.2) h.1)
def wp_X1_execute_62 (ad : Nat → Nat) (X : Nat → gS → Prop) (K : Int32 → gS → Prop) (G : gS) (t0 : Nat) (t1 : Nat) (o2 : Option Nat) : Prop :=
  (gIs G t1 3 ∧ wp_J2_size ad G t1  X (fun r2 G1 => (gIs G1 t0 1 ∧ wp_X1_commit ad G1 t0 o2 r2 X (fun r4 G3 => K r4 G3))))
theorem w_X1_execute_62 {C : gCx} (hC : gOk C "GoblinHousehold" cX1_execute [(20, 40, 43, 89)] (some .int) "execute" 5 13 364) {K : Int32 → gS → Prop} {X : Nat → gS → Prop} (hK : ∀ r G, K r G → cxK C (some (vI r)) G) (hX : ∀ q G, X q G → cxX C q G) {G : gS} {t0 : Nat} {t1 : Nat} {o2 : Option Nat} (h : wp_X1_execute_62 (cxA C) X K G t0 t1 o2) : gGo C G 62 [(0, vQ (some t0)), (1, vQ (some t1)), (2, vQ o2)] [] := by
  unfold wp_X1_execute_62 at h
  refine g_aload_n hC (pc := 62) 0 rfl rfl dX1_execute_62 ?_
  refine g_aload_n hC (pc := 63) 2 rfl rfl dX1_execute_63 ?_
  refine g_aload_n hC (pc := 64) 1 rfl rfl dX1_execute_64 ?_
  obtain ⟨hi, h⟩ := h
  refine g_callF hC (pc := 65) (ci := 3) (As := []) gc_J2_size (m_J2_size hC.fl h) rfl hi q319 (List.mem_of_getElem? (i := 0) rfl) rfl q323 q325 (gle rfl) (gle rfl) rfl (gle rfl) rfl dX1_execute_65 (gk_i fun r2 G1 h => ?_) (fun _ _ h hio => g_out hC (gcov rfl) (hX _ _ h) hio)
  obtain ⟨hi, h⟩ := h
  refine g_callV hC (pc := 70) (ci := 1) (As := [vQ o2, vI r2]) gc_X1_commit (m_X1_commit hC.fl h) rfl hi q1126 q1128 qs13 (gle rfl) (gle rfl) rfl (gle rfl) rfl dX1_execute_70 (gk_i fun r4 G3 h => ?_) (fun _ _ h hio => g_out hC (gcov rfl) (hX _ _ h) hio)
  exact g_iret hC (pc := 73) (hK _ _ h) dX1_execute_73
def wp_X1_execute_10 (ad : Nat → Nat) (X : Nat → gS → Prop) (K : Int32 → gS → Prop) (J10 : gS → Nat → Option Nat → Option Nat → Int32 → Prop) (G : gS) (t0 : Nat) (o1 : Option Nat) (o2 : Option Nat) (x3 : Int32) : Prop :=
  wNN o1 fun c1 => (gIs G c1 3 ∧ wp_J2_size ad G c1  X (fun r3 G2 => (r3 ≤ x3 → wp_X1_execute_62 ad X K G2 t0 c1 o2) ∧ (¬ r3 ≤ x3 → (gIs G2 c1 3 ∧ wp_J2_get ad G2 c1 x3 (fun y5 G6 => (gHas G6 y5 17 ∧ (wp_X1_execute_43 ad X K G6 x3 y5))) (fun q7 G4 => wCast G4 q7 [15] (wNN q7 fun c8 => (gIs G4 c8 15 ∧ wp_X16_change ad G4 c8  (fun y10 G11 => (gHas G11 y10 17 ∧ (wp_X1_execute_43 ad X K G11 x3 y10))) (fun q12 G9 => wNN q12 fun c13 => wL_Change ad G9 c13 o2 (fun y15 G16 => (gHas G16 y15 17 ∧ (wp_X1_execute_43 ad X K G16 x3 y15))) (fun r17 G14 => J10 G14 t0 (some c1) o2 (x3 + (1 : Int32)))))))))))
theorem w_X1_execute_10 {C : gCx} (hC : gOk C "GoblinHousehold" cX1_execute [(20, 40, 43, 89)] (some .int) "execute" 5 13 364) {K : Int32 → gS → Prop} {X : Nat → gS → Prop} (hK : ∀ r G, K r G → cxK C (some (vI r)) G) (hX : ∀ q G, X q G → cxX C q G) (n : Nat) : ∀ (G : gS) (t0 : Nat) (o1 : Option Nat) (o2 : Option Nat) (x3 : Int32), gLoop (fun _ _ _ _ _ => False) (wp_X1_execute_10 (cxA C) X K) n G t0 o1 o2 x3 → gGo C G 10 [(0, vQ (some t0)), (1, vQ o1), (2, vQ o2), (3, vI x3)] [] := by
  induction n with
  | zero => intro G t0 o1 o2 x3 h; exact h.elim
  | succ n ih =>
    intro G t0 o1 o2 x3 h
    have hJ10 := ih
    replace h : wp_X1_execute_10 (cxA C) X K _ G t0 o1 o2 x3 := h
    unfold wp_X1_execute_10 at h
    refine g_iload_n hC (pc := 10) 3 rfl rfl dX1_execute_10 ?_
    refine g_aload_n hC (pc := 11) 1 rfl rfl dX1_execute_11 ?_
    rcases o1 with _ | c1
    · exact (gNN0 h).elim
    replace h := gNN1 h
    obtain ⟨hi, h⟩ := h
    refine g_callF hC (pc := 12) (ci := 3) (As := []) gc_J2_size (m_J2_size hC.fl h) rfl hi q319 (List.mem_of_getElem? (i := 0) rfl) rfl q323 q325 (gle rfl) (gle rfl) rfl (gle rfl) rfl dX1_execute_12 (gk_i fun r3 G2 h => ?_) (fun _ _ h hio => g_out hC (gcov rfl) (hX _ _ h) hio)
    refine g_icmp_ge hC (pc := 17) 62 h (by decide) dX1_execute_17 (fun h => ?_) (fun h => ?_)
    · exact g_sub [0, 1, 2] rfl (w_X1_execute_62 hC hK hX h)
    · refine g_aload_n hC (pc := 20) 1 rfl rfl dX1_execute_20 ?_
      refine g_iload_n hC (pc := 21) 3 rfl rfl dX1_execute_21 ?_
      obtain ⟨hi, h⟩ := h
      refine g_callF hC (pc := 22) (ci := 3) (As := [vI x3]) gc_J2_get (m_J2_get hC.fl h) rfl hi q1065 (List.mem_of_getElem? (i := 2) rfl) rfl q364 q366 (gle rfl) (gle rfl) rfl (gle rfl) rfl dX1_execute_22 (gk_q fun q7 G4 h => ?_) (fun y5 G6 h hio => ?_)
      · refine g_cast hC (pc := 27) q2336 h (List.forall_mem_cons.mpr ⟨⟨_, rfl, Or.inr ⟨rfl, by decide⟩⟩, fun _ h => nomatch h⟩) dX1_execute_27 (fun h => ?_)
        rcases q7 with _ | c8
        · exact (gNN0 h).elim
        replace h := gNN1 h
        obtain ⟨hi, h⟩ := h
        refine g_callV hC (pc := 30) (ci := 15) (As := []) gc_X16_change (m_X16_change hC.fl h) rfl hi q2337 q2338 q2339 (gle rfl) (gle rfl) rfl (gle rfl) rfl dX1_execute_30 (gk_q fun q12 G9 h => ?_) (fun y10 G11 h hio => ?_)
        · refine g_aload_n hC (pc := 33) 2 rfl rfl dX1_execute_33 ?_
          rcases q12 with _ | c13
          · exact (gNN0 h).elim
          replace h := gNN1 h
          refine g_callChange hC (pc := 34) h q1123 (gle rfl) (gle rfl) (gle rfl) dX1_execute_34 (fun r17 G14 h => ?_) (fun y15 G16 h hio => ?_)
          · refine g_pop hC (pc := 39) rfl dX1_execute_39 ?_
            refine g_goto hC (pc := 40) 56 (by decide) dX1_execute_40 ?_
            refine g_iinc hC (pc := 56) 3 (d := (1 : Int32)) (v := (x3 + (1 : Int32))) (lv' := [(3, vI (x3 + (1 : Int32))), (0, vQ (some t0)), (1, vQ (some c1)), (2, vQ o2)]) rfl (by decide) rfl (by decide) rfl dX1_execute_56 ?_
            refine g_goto hC (pc := 59) 10 (by decide) dX1_execute_59 ?_
            exact g_sub [1, 2, 3, 0] rfl (hJ10 _ _ _ _ _ h)
          · obtain ⟨hq, h⟩ := h
            refine g_catchI hC (pc := 34) (ci := 17) rfl hq 0 rfl (fun _ h => nomatch h) rfl (by decide) q1053 (List.mem_of_getElem? (i := 22) rfl) rfl ?_
            exact g_sub [3] rfl (w_X1_execute_43 hC hK hX h)
        · obtain ⟨hq, h⟩ := h
          refine g_catchI hC (pc := 30) (ci := 17) rfl hq 0 rfl (fun _ h => nomatch h) rfl (by decide) q1053 (List.mem_of_getElem? (i := 22) rfl) rfl ?_
          exact g_sub [3] rfl (w_X1_execute_43 hC hK hX h)
      · obtain ⟨hq, h⟩ := h
        refine g_catchI hC (pc := 22) (ci := 17) rfl hq 0 rfl (fun _ h => nomatch h) rfl (by decide) q1053 (List.mem_of_getElem? (i := 22) rfl) rfl ?_
        exact g_sub [3] rfl (w_X1_execute_43 hC hK hX h)
def wp_X1_execute (ad : Nat → Nat) (G : gS) (t0 : Nat) (o1 : Option Nat) (X : Nat → gS → Prop) (K : Int32 → gS → Prop) : Prop :=
  wGetQ G t0 1 0 fun q1 => wNN q1 fun c2 => (gIs G c2 2 ∧ wp_X2_copy ad G c2  X (fun q4 G3 => gLoop (fun _ _ _ _ _ => False) (wp_X1_execute_10 ad X K) gFuel G3 t0 o1 q4 (0 : Int32)))
theorem w_X1_execute {C : gCx} (hC : gOk C "GoblinHousehold" cX1_execute [(20, 40, 43, 89)] (some .int) "execute" 5 13 364) {K : Int32 → gS → Prop} {X : Nat → gS → Prop} (hK : ∀ r G, K r G → cxK C (some (vI r)) G) (hX : ∀ q G, X q G → cxX C q G) {G : gS} {t0 : Nat} {o1 : Option Nat} (h : wp_X1_execute (cxA C) G t0 o1 X K) : gGo C G 0 [(0, vQ (some t0)), (1, vQ o1)] [] := by
  unfold wp_X1_execute at h
  refine g_aload_n hC (pc := 0) 0 rfl rfl dX1_execute_0 ?_
  refine g_getQ hC (pc := 1) in_X1 (ci := 1) rfl 0 (by decide) q292 (Or.inl rfl) h dX1_execute_1 (fun q1 h => ?_)
  rcases q1 with _ | c2
  · exact (gNN0 h).elim
  replace h := gNN1 h
  obtain ⟨hi, h⟩ := h
  refine g_callV hC (pc := 4) (ci := 2) (As := []) gc_X2_copy (m_X2_copy hC.fl h) rfl hi q1054 q1055 q1056 (gle rfl) (gle rfl) rfl (gle rfl) rfl dX1_execute_4 (gk_q fun q4 G3 h => ?_) (fun _ _ h hio => g_out hC (gcov rfl) (hX _ _ h) hio)
  refine g_astore_n hC (pc := 7) (lv' := [(2, vQ q4), (0, vQ (some t0)), (1, vQ o1)]) rfl (by decide) rfl dX1_execute_7 ?_
  refine g_iconst hC (pc := 8) (v := (0 : Int32)) (by decide) dX1_execute_8 ?_
  refine g_istore_n hC (pc := 9) (lv' := [(3, vI (0 : Int32)), (2, vQ q4), (0, vQ (some t0)), (1, vQ o1)]) rfl (by decide) rfl dX1_execute_9 ?_
  exact g_sub [2, 3, 1, 0] rfl (w_X1_execute_10 hC hK hX gFuel _ _ _ _ _ h)
theorem gc_X1_execute : gCodeW yX1_execute cX1_execute 5 (some .int) [(20, 40, 43, 89)] 1 := ⟨q2335, q94, ⟨by decide, by decide⟩, rfl⟩
theorem m_X1_execute {l : Launch} (hfl : l.stackTraces = false) {E : gE} {G : gS} {t0 : Nat} {o1 : Option Nat} {X : Nat → gS → Prop} {K : Int32 → gS → Prop} (h : wp_X1_execute (gAd E) G t0 o1 X K) : gMet l yX1_execute (wsW_ yX1_execute cX1_execute 5 (some .int) [(20, 40, 43, 89)]) 13 364 [vQ (some t0), vQ o1] E G (gRi K) X :=
  g_metW hfl (plainFor_of_name (by decide +kernel)) rfl rfl rfl (gle rfl) (fun p e R s m args below meth c hC => w_X1_execute hC (fun _ _ h => h) (fun _ _ h => h) h)
def wp_J13_rangeCheck (ad : Nat → Nat) (G : gS) (x0 : Int32) (x1 : Int32) (x2 : Int32) (X : Nat → gS → Prop) (K : gS → Prop) : Prop :=
  (x1 ≤ x2 → ((0 : Int32) ≤ x1 → (x2 ≤ x0 → K G) ∧ (¬ x2 ≤ x0 → False)) ∧ (¬ (0 : Int32) ≤ x1 → False)) ∧ (¬ x1 ≤ x2 → wNew G 21 6 [.null, .null, .null, .null, .null, .int 0] fun c2 G1 => wNew G1 6 4 [.null, .int 0, .int 0, .int 0] fun c4 G3 => wp_J6_init ad G3 c4  X (fun G5 => (gIs G5 c4 6 ∧ wp_J6_append ad G5 c4 (some (ad 143)) X (fun q7 G6 => wNN q7 fun c8 => (gIs G6 c8 6 ∧ wp_J6_append_2 ad G6 c8 x1 X (fun q10 G9 => wNN q10 fun c11 => (gIs G9 c11 6 ∧ wp_J6_append ad G9 c11 (some (ad 144)) X (fun q13 G12 => wNN q13 fun c14 => (gIs G12 c14 6 ∧ wp_J6_append_2 ad G12 c14 x2 X (fun q16 G15 => wNN q16 fun c17 => (gIs G15 c17 6 ∧ wp_J6_append ad G15 c17 (some (ad 145)) X (fun q19 G18 => wNN q19 fun c20 => (gIs G18 c20 6 ∧ wp_J6_toString ad G18 c20  X (fun q22 G21 => wp_J21_init ad G21 c2 q22 X (fun G23 => wThrow G23 c2 X)))))))))))))))
theorem w_J13_rangeCheck {C : gCx} (hC : gOk C "java/util/Arrays" cJ13_rangeCheck [] none "rangeCheck" 3 13 393) {K : gS → Prop} {X : Nat → gS → Prop} (hK : ∀ G, K G → cxK C none G) (hX : ∀ q G, X q G → cxX C q G) {G : gS} {x0 : Int32} {x1 : Int32} {x2 : Int32} (h : wp_J13_rangeCheck (cxA C) G x0 x1 x2 X K) : gGo C G 0 [(0, vI x0), (1, vI x1), (2, vI x2)] [] := by
  unfold wp_J13_rangeCheck at h
  refine g_iload_n hC (pc := 0) 1 rfl rfl dJ13_rangeCheck_0 ?_
  refine g_iload_n hC (pc := 1) 2 rfl rfl dJ13_rangeCheck_1 ?_
  refine g_icmp_le hC (pc := 2) 46 h (by decide) dJ13_rangeCheck_2 (fun h => ?_) (fun h => ?_)
  · refine g_iload_n hC (pc := 46) 1 rfl rfl dJ13_rangeCheck_46 ?_
    refine g_if_ge hC (pc := 47) 59 h (by decide) dJ13_rangeCheck_47 (fun h => ?_) (fun h => ?_)
    · refine g_iload_n hC (pc := 59) 2 rfl rfl dJ13_rangeCheck_59 ?_
      refine g_iload_n hC (pc := 60) 0 rfl rfl dJ13_rangeCheck_60 ?_
      refine g_icmp_le hC (pc := 61) 73 h (by decide) dJ13_rangeCheck_61 (fun h => ?_) (fun h => ?_)
      · exact g_vret hC (pc := 73) (hK _ h) dJ13_rangeCheck_73
      · exact h.elim
    · exact h.elim
  · refine g_new hC (pc := 5) in_J21 (ci := 21) rfl (by decide) tyJ21_ok q630 q631 q125 gdf_J21 h dJ13_rangeCheck_5 (fun c2 G1 h => ?_)
    refine g_dup hC (pc := 8) rfl dJ13_rangeCheck_8 ?_
    refine g_new hC (pc := 9) in_J6 (ci := 6) rfl (by decide) tyJ6_ok q639 q259 q102 gdf_J6 h dJ13_rangeCheck_9 (fun c4 G3 h => ?_)
    refine g_dup hC (pc := 12) rfl dJ13_rangeCheck_12 ?_
    refine g_callI hC (pc := 13) (As := []) gc_J6_init (m_J6_init hC.fl h) rfl q640 q261 (gle rfl) (gle rfl) rfl (gle rfl) rfl dJ13_rangeCheck_13 (gk_v fun G5 h => ?_) (fun _ _ h hio => g_out0 hC (hX _ _ h) hio)
    refine g_ldcS hC (pc := 16) (List.mem_of_getElem? (i := 43) rfl) dJ13_rangeCheck_16 ?_
    obtain ⟨hi, h⟩ := h
    refine g_callV hC (pc := 18) (ci := 6) (As := [vQ (some (cxA C 143))]) gc_J6_append (m_J6_append hC.fl h) rfl hi q643 q449 q450 (gle rfl) (gle rfl) rfl (gle rfl) rfl dJ13_rangeCheck_18 (gk_q fun q7 G6 h => ?_) (fun _ _ h hio => g_out0 hC (hX _ _ h) hio)
    refine g_iload_n hC (pc := 21) 1 rfl rfl dJ13_rangeCheck_21 ?_
    rcases q7 with _ | c8
    · exact (gNN0 h).elim
    replace h := gNN1 h
    obtain ⟨hi, h⟩ := h
    refine g_callV hC (pc := 22) (ci := 6) (As := [vI x1]) gc_J6_append_2 (m_J6_append_2 hC.fl h) rfl hi q641 q569 q570 (gle rfl) (gle rfl) rfl (gle rfl) rfl dJ13_rangeCheck_22 (gk_q fun q10 G9 h => ?_) (fun _ _ h hio => g_out0 hC (hX _ _ h) hio)
    refine g_ldcS hC (pc := 25) (List.mem_of_getElem? (i := 44) rfl) dJ13_rangeCheck_25 ?_
    rcases q10 with _ | c11
    · exact (gNN0 h).elim
    replace h := gNN1 h
    obtain ⟨hi, h⟩ := h
    refine g_callV hC (pc := 27) (ci := 6) (As := [vQ (some (cxA C 144))]) gc_J6_append (m_J6_append hC.fl h) rfl hi q643 q449 q450 (gle rfl) (gle rfl) rfl (gle rfl) rfl dJ13_rangeCheck_27 (gk_q fun q13 G12 h => ?_) (fun _ _ h hio => g_out0 hC (hX _ _ h) hio)
    refine g_iload_n hC (pc := 30) 2 rfl rfl dJ13_rangeCheck_30 ?_
    rcases q13 with _ | c14
    · exact (gNN0 h).elim
    replace h := gNN1 h
    obtain ⟨hi, h⟩ := h
    refine g_callV hC (pc := 31) (ci := 6) (As := [vI x2]) gc_J6_append_2 (m_J6_append_2 hC.fl h) rfl hi q641 q569 q570 (gle rfl) (gle rfl) rfl (gle rfl) rfl dJ13_rangeCheck_31 (gk_q fun q16 G15 h => ?_) (fun _ _ h hio => g_out0 hC (hX _ _ h) hio)
    refine g_ldcS hC (pc := 34) (List.mem_of_getElem? (i := 45) rfl) dJ13_rangeCheck_34 ?_
    rcases q16 with _ | c17
    · exact (gNN0 h).elim
    replace h := gNN1 h
    obtain ⟨hi, h⟩ := h
    refine g_callV hC (pc := 36) (ci := 6) (As := [vQ (some (cxA C 145))]) gc_J6_append (m_J6_append hC.fl h) rfl hi q643 q449 q450 (gle rfl) (gle rfl) rfl (gle rfl) rfl dJ13_rangeCheck_36 (gk_q fun q19 G18 h => ?_) (fun _ _ h hio => g_out0 hC (hX _ _ h) hio)
    rcases q19 with _ | c20
    · exact (gNN0 h).elim
    replace h := gNN1 h
    obtain ⟨hi, h⟩ := h
    refine g_callV hC (pc := 39) (ci := 6) (As := []) gc_J6_toString (m_J6_toString hC.fl h) rfl hi q644 q595 q596 (gle rfl) (gle rfl) rfl (gle rfl) rfl dJ13_rangeCheck_39 (gk_q fun q22 G21 h => ?_) (fun _ _ h hio => g_out0 hC (hX _ _ h) hio)
    refine g_callI hC (pc := 42) (As := [vQ q22]) gc_J21_init (m_J21_init hC.fl h) rfl q645 q646 (gle rfl) (gle rfl) rfl (gle rfl) rfl dJ13_rangeCheck_42 (gk_v fun G23 h => ?_) (fun _ _ h hio => g_out0 hC (hX _ _ h) hio)
    exact g_athrow hC (pc := 45) dJ13_rangeCheck_45 h.1 (g_out0 hC (hX _ _ h.2) h.1)
theorem gc_J13_rangeCheck : gCode yJ13_rangeCheck cJ13_rangeCheck 3 none 3 := ⟨q2392, q115, ⟨by decide, by decide⟩, rfl⟩
theorem m_J13_rangeCheck {l : Launch} (hfl : l.stackTraces = false) {E : gE} {G : gS} {x0 : Int32} {x1 : Int32} {x2 : Int32} {X : Nat → gS → Prop} {K : gS → Prop} (h : wp_J13_rangeCheck (gAd E) G x0 x1 x2 X K) : gMet l yJ13_rangeCheck (ws_ yJ13_rangeCheck cJ13_rangeCheck 3 none) 13 393 [vI x0, vI x1, vI x2] E G (gRv K) X :=
  g_met hfl (plainFor_of_name (by decide +kernel)) rfl rfl rfl (gle rfl) (fun p e R s m args below meth c hC => w_J13_rangeCheck hC (fun _ h => h) (fun _ _ h => h) h)
def wp_J13_fill_10 (ad : Nat → Nat) (X : Nat → gS → Prop) (K : gS → Prop) (J10 : gS → Nat → Int32 → Int32 → Int32 → Prop) (G : gS) (t0 : Nat) (x2 : Int32) (x3 : Int32) (x4 : Int32) : Prop :=
  (x2 ≤ x4 → K G) ∧ (¬ x2 ≤ x4 → wAstB G t0 x4 x3 fun G1 => J10 G1 t0 x2 x3 (x4 + (1 : Int32)))
theorem w_J13_fill_10 {C : gCx} (hC : gOk C "java/util/Arrays" cJ13_fill [] none "fill" 5 14 423) {K : gS → Prop} {X : Nat → gS → Prop} (hK : ∀ G, K G → cxK C none G) (hX : ∀ q G, X q G → cxX C q G) (n : Nat) : ∀ (G : gS) (t0 : Nat) (x2 : Int32) (x3 : Int32) (x4 : Int32), gLoop (fun _ _ _ _ _ => False) (wp_J13_fill_10 (cxA C) X K) n G t0 x2 x3 x4 → gGo C G 10 [(0, vQ (some t0)), (2, vI x2), (3, vI x3), (4, vI x4)] [] := by
  induction n with
  | zero => intro G t0 x2 x3 x4 h; exact h.elim
  | succ n ih =>
    intro G t0 x2 x3 x4 h
    have hJ10 := ih
    replace h : wp_J13_fill_10 (cxA C) X K _ G t0 x2 x3 x4 := h
    unfold wp_J13_fill_10 at h
    refine g_iload hC (pc := 10) 3 rfl dJ13_fill_10 ?_
    refine g_iload_n hC (pc := 12) 1 rfl rfl dJ13_fill_12 ?_
    refine g_icmp_ge hC (pc := 13) 27 h (by decide) dJ13_fill_13 (fun h => ?_) (fun h => ?_)
    · exact g_vret hC (pc := 27) (hK _ h) dJ13_fill_27
    · refine g_aload_n hC (pc := 16) 0 rfl rfl dJ13_fill_16 ?_
      refine g_iload hC (pc := 17) 3 rfl dJ13_fill_17 ?_
      refine g_iload_n hC (pc := 19) 2 rfl rfl dJ13_fill_19 ?_
      refine g_astB hC (pc := 20) h dJ13_fill_20 (fun G1 h => ?_)
      refine g_iinc hC (pc := 21) 3 (d := (1 : Int32)) (v := (x4 + (1 : Int32))) (lv' := [(4, vI (x4 + (1 : Int32))), (0, vQ (some t0)), (2, vI x2), (3, vI x3)]) rfl (by decide) rfl (by decide) rfl dJ13_fill_21 ?_
      refine g_goto hC (pc := 24) 10 (by decide) dJ13_fill_24 ?_
      exact g_sub [1, 2, 3, 0] rfl (hJ10 _ _ _ _ _ h)
def wp_J13_fill (ad : Nat → Nat) (G : gS) (o0 : Option Nat) (x1 : Int32) (x2 : Int32) (x3 : Int32) (X : Nat → gS → Prop) (K : gS → Prop) : Prop :=
  wNN o0 fun c1 => wLen G c1 fun i2 => wp_J13_rangeCheck ad G i2 x1 x2 X (fun G3 => gLoop (fun _ _ _ _ _ => False) (wp_J13_fill_10 ad X K) gFuel G3 c1 x2 x3 x1)
theorem w_J13_fill {C : gCx} (hC : gOk C "java/util/Arrays" cJ13_fill [] none "fill" 5 14 423) {K : gS → Prop} {X : Nat → gS → Prop} (hK : ∀ G, K G → cxK C none G) (hX : ∀ q G, X q G → cxX C q G) {G : gS} {o0 : Option Nat} {x1 : Int32} {x2 : Int32} {x3 : Int32} (h : wp_J13_fill (cxA C) G o0 x1 x2 x3 X K) : gGo C G 0 [(0, vQ o0), (1, vI x1), (2, vI x2), (3, vI x3)] [] := by
  unfold wp_J13_fill at h
  refine g_aload_n hC (pc := 0) 0 rfl rfl dJ13_fill_0 ?_
  rcases o0 with _ | c1
  · exact (gNN0 h).elim
  replace h := gNN1 h
  refine g_len hC (pc := 1) h dJ13_fill_1 (fun i2 h => ?_)
  refine g_iload_n hC (pc := 2) 1 rfl rfl dJ13_fill_2 ?_
  refine g_iload_n hC (pc := 3) 2 rfl rfl dJ13_fill_3 ?_
  refine g_callS hC (pc := 4) (b := 0) (As := [vI i2, vI x1, vI x2]) gc_J13_rangeCheck (m_J13_rangeCheck hC.fl h) q2390 q2391 (gle rfl) (gle rfl) rfl (gle rfl) rfl dJ13_fill_4 (gk_v fun G3 h => ?_) (fun _ _ h hio => g_out0 hC (hX _ _ h) hio)
  refine g_iload_n hC (pc := 7) 1 rfl rfl dJ13_fill_7 ?_
  refine g_istore hC (pc := 8) (lv' := [(4, vI x1), (0, vQ (some c1)), (1, vI x1), (2, vI x2), (3, vI x3)]) (by decide) rfl dJ13_fill_8 ?_
  exact g_sub [1, 3, 4, 0] rfl (w_J13_fill_10 hC hK hX gFuel _ _ _ _ _ h)
theorem gc_J13_fill : gCode yJ13_fill cJ13_fill 5 none 4 := ⟨q2389, q115, ⟨by decide, by decide⟩, rfl⟩
theorem m_J13_fill {l : Launch} (hfl : l.stackTraces = false) {E : gE} {G : gS} {o0 : Option Nat} {x1 : Int32} {x2 : Int32} {x3 : Int32} {X : Nat → gS → Prop} {K : gS → Prop} (h : wp_J13_fill (gAd E) G o0 x1 x2 x3 X K) : gMet l yJ13_fill (ws_ yJ13_fill cJ13_fill 5 none) 14 423 [vQ o0, vI x1, vI x2, vI x3] E G (gRv K) X :=
  g_met hfl (plainFor_of_name (by decide +kernel)) rfl rfl rfl (gle rfl) (fun p e R s m args below meth c hC => w_J13_fill hC (fun _ h => h) (fun _ _ h => h) h)
def wp_J19_fillNull (ad : Nat → Nat) (G : gS) (o0 : Option Nat) (x1 : Int32) (x2 : Int32) (X : Nat → gS → Prop) (K : gS → Prop) : Prop :=
  wp_J13_fill ad G o0 x1 x2 (0 : Int32) X (fun G1 => K G1)
theorem w_J19_fillNull {C : gCx} (hC : gOk C "java/lang/StringLatin1" cJ19_fillNull [] none "fillNull" 3 15 455) {K : gS → Prop} {X : Nat → gS → Prop} (hK : ∀ G, K G → cxK C none G) (hX : ∀ q G, X q G → cxX C q G) {G : gS} {o0 : Option Nat} {x1 : Int32} {x2 : Int32} (h : wp_J19_fillNull (cxA C) G o0 x1 x2 X K) : gGo C G 0 [(0, vQ o0), (1, vI x1), (2, vI x2)] [] := by
  unfold wp_J19_fillNull at h
  refine g_aload_n hC (pc := 0) 0 rfl rfl dJ19_fillNull_0 ?_
  refine g_iload_n hC (pc := 1) 1 rfl rfl dJ19_fillNull_1 ?_
  refine g_iload_n hC (pc := 2) 2 rfl rfl dJ19_fillNull_2 ?_
  refine g_iconst hC (pc := 3) (v := (0 : Int32)) (by decide) dJ19_fillNull_3 ?_
  refine g_callS hC (pc := 4) (b := 0) (As := [vQ o0, vI x1, vI x2, vI (0 : Int32)]) gc_J13_fill (m_J13_fill hC.fl h) q2387 q2388 (gle rfl) (gle rfl) rfl (gle rfl) rfl dJ19_fillNull_4 (gk_v fun G1 h => ?_) (fun _ _ h hio => g_out0 hC (hX _ _ h) hio)
  exact g_vret hC (pc := 7) (hK _ h) dJ19_fillNull_7
theorem gc_J19_fillNull : gCode yJ19_fillNull cJ19_fillNull 3 none 3 := ⟨q2386, q122, ⟨by decide, by decide⟩, rfl⟩
theorem m_J19_fillNull {l : Launch} (hfl : l.stackTraces = false) {E : gE} {G : gS} {o0 : Option Nat} {x1 : Int32} {x2 : Int32} {X : Nat → gS → Prop} {K : gS → Prop} (h : wp_J19_fillNull (gAd E) G o0 x1 x2 X K) : gMet l yJ19_fillNull (ws_ yJ19_fillNull cJ19_fillNull 3 none) 15 455 [vQ o0, vI x1, vI x2] E G (gRv K) X :=
  g_met hfl (plainFor_of_name (by decide +kernel)) rfl rfl rfl (gle rfl) (fun p e R s m args below meth c hC => w_J19_fillNull hC (fun _ h => h) (fun _ _ h => h) h)
def wp_J5_setLength_76 (ad : Nat → Nat) (X : Nat → gS → Prop) (K : gS → Prop) (G : gS) (t0 : Nat) (x1 : Int32) : Prop :=
  wPut G t0 6 3 (.int x1) fun G1 => K G1
theorem w_J5_setLength_76 {C : gCx} (hC : gOk C "java/lang/AbstractStringBuilder" cJ5_setLength [] none "setLength" 2 16 485) {K : gS → Prop} {X : Nat → gS → Prop} (hK : ∀ G, K G → cxK C none G) (hX : ∀ q G, X q G → cxX C q G) {G : gS} {t0 : Nat} {x1 : Int32} (h : wp_J5_setLength_76 (cxA C) X K G t0 x1) : gGo C G 76 [(0, vQ (some t0)), (1, vI x1)] [] := by
  unfold wp_J5_setLength_76 at h
  refine g_aload_n hC (pc := 76) 0 rfl rfl dJ5_setLength_76 ?_
  refine g_iload_n hC (pc := 77) 1 rfl rfl dJ5_setLength_77 ?_
  refine g_put hC (pc := 78) in_J6 (ci := 6) rfl 3 (by decide) tyJ6_ok nmJ6 q280 (Or.inl rfl) rfl rfl rfl h dJ5_setLength_78 (fun G1 h => ?_)
  exact g_vret hC (pc := 81) (hK _ h) dJ5_setLength_81
def wp_J5_setLength (ad : Nat → Nat) (G : gS) (t0 : Nat) (x1 : Int32) (X : Nat → gS → Prop) (K : gS → Prop) : Prop :=
  ((0 : Int32) ≤ x1 → (gIs G t0 6 ∧ wp_J5_ensureCapacityInternal ad G t0 x1 X (fun G1 => wGetI G1 t0 6 3 fun i2 => (x1 ≤ i2 → wGetI G1 t0 6 3 fun i3 => (i3 ≤ x1 → wp_J5_setLength_76 ad X K G1 t0 x1) ∧ (¬ i3 ≤ x1 → wPut G1 t0 6 2 (.int (1 : Int32)) fun G4 => wp_J5_setLength_76 ad X K G4 t0 x1)) ∧ (¬ x1 ≤ i2 → (gIs G1 t0 6 ∧ wp_J5_isLatin1 ad G1 t0  X (fun r6 G5 => (r6 = (0 : Int32) → wGetQ G5 t0 6 0 fun q7 => wGetI G5 t0 6 3 fun i8 => False) ∧ (¬ r6 = (0 : Int32) → wGetQ G5 t0 6 0 fun q9 => wGetI G5 t0 6 3 fun i10 => wp_J19_fillNull ad G5 q9 i10 x1 X (fun G11 => wp_J5_setLength_76 ad X K G11 t0 x1)))))))) ∧ (¬ (0 : Int32) ≤ x1 → False)
theorem w_J5_setLength {C : gCx} (hC : gOk C "java/lang/AbstractStringBuilder" cJ5_setLength [] none "setLength" 2 16 485) {K : gS → Prop} {X : Nat → gS → Prop} (hK : ∀ G, K G → cxK C none G) (hX : ∀ q G, X q G → cxX C q G) {G : gS} {t0 : Nat} {x1 : Int32} (h : wp_J5_setLength (cxA C) G t0 x1 X K) : gGo C G 0 [(0, vQ (some t0)), (1, vI x1)] [] := by
  unfold wp_J5_setLength at h
  refine g_iload_n hC (pc := 0) 1 rfl rfl dJ5_setLength_0 ?_
  refine g_if_ge hC (pc := 1) 13 h (by decide) dJ5_setLength_1 (fun h => ?_) (fun h => ?_)
  · refine g_aload_n hC (pc := 13) 0 rfl rfl dJ5_setLength_13 ?_
    refine g_iload_n hC (pc := 14) 1 rfl rfl dJ5_setLength_14 ?_
    obtain ⟨hi, h⟩ := h
    refine g_callP hC (pc := 15) (ci := 6) (As := [vI x1]) gc_J5_ensureCapacityInternal (m_J5_ensureCapacityInternal hC.fl h) rfl hi q459 q2992 (List.mem_of_getElem? (i := 1) rfl) q461 (gle rfl) (gle rfl) rfl (gle rfl) rfl dJ5_setLength_15 (gk_v fun G1 h => ?_) (fun _ _ h hio => g_out0 hC (hX _ _ h) hio)
    refine g_aload_n hC (pc := 18) 0 rfl rfl dJ5_setLength_18 ?_
    refine g_getI hC (pc := 19) in_J6 (ci := 6) rfl 3 (by decide) q280 (Or.inl rfl) h dJ5_setLength_19 (fun i2 h => ?_)
    refine g_iload_n hC (pc := 22) 1 rfl rfl dJ5_setLength_22 ?_
    refine g_icmp_ge hC (pc := 23) 63 h (by decide) dJ5_setLength_23 (fun h => ?_) (fun h => ?_)
    · refine g_aload_n hC (pc := 63) 0 rfl rfl dJ5_setLength_63 ?_
      refine g_getI hC (pc := 64) in_J6 (ci := 6) rfl 3 (by decide) q280 (Or.inl rfl) h dJ5_setLength_64 (fun i3 h => ?_)
      refine g_iload_n hC (pc := 67) 1 rfl rfl dJ5_setLength_67 ?_
      refine g_icmp_le hC (pc := 68) 76 h (by decide) dJ5_setLength_68 (fun h => ?_) (fun h => ?_)
      · exact g_sub [0, 1] rfl (w_J5_setLength_76 hC hK hX h)
      · refine g_aload_n hC (pc := 71) 0 rfl rfl dJ5_setLength_71 ?_
        refine g_iconst hC (pc := 72) (v := (1 : Int32)) (by decide) dJ5_setLength_72 ?_
        refine g_put hC (pc := 73) in_J6 (ci := 6) rfl 2 (by decide) tyJ6_ok nmJ6 q278 (Or.inl rfl) rfl rfl rfl h dJ5_setLength_73 (fun G4 h => ?_)
        exact g_sub [0, 1] rfl (w_J5_setLength_76 hC hK hX h)
    · refine g_aload_n hC (pc := 26) 0 rfl rfl dJ5_setLength_26 ?_
      obtain ⟨hi, h⟩ := h
      refine g_callV hC (pc := 27) (ci := 6) (As := []) gc_J5_isLatin1 (m_J5_isLatin1 hC.fl h) rfl hi q494 q495 q497 (gle rfl) (gle rfl) rfl (gle rfl) rfl dJ5_setLength_27 (gk_i fun r6 G5 h => ?_) (fun _ _ h hio => g_out0 hC (hX _ _ h) hio)
      refine g_if_eq hC (pc := 30) 48 h (by decide) dJ5_setLength_30 (fun h => ?_) (fun h => ?_)
      · refine g_aload_n hC (pc := 48) 0 rfl rfl dJ5_setLength_48 ?_
        refine g_getQ hC (pc := 49) in_J6 (ci := 6) rfl 0 (by decide) q276 (Or.inl rfl) h dJ5_setLength_49 (fun q7 h => ?_)
        refine g_aload_n hC (pc := 52) 0 rfl rfl dJ5_setLength_52 ?_
        refine g_getI hC (pc := 53) in_J6 (ci := 6) rfl 3 (by decide) q280 (Or.inl rfl) h dJ5_setLength_53 (fun i8 h => ?_)
        refine g_iload_n hC (pc := 56) 1 rfl rfl dJ5_setLength_56 ?_
        exact h.elim
      · refine g_aload_n hC (pc := 33) 0 rfl rfl dJ5_setLength_33 ?_
        refine g_getQ hC (pc := 34) in_J6 (ci := 6) rfl 0 (by decide) q276 (Or.inl rfl) h dJ5_setLength_34 (fun q9 h => ?_)
        refine g_aload_n hC (pc := 37) 0 rfl rfl dJ5_setLength_37 ?_
        refine g_getI hC (pc := 38) in_J6 (ci := 6) rfl 3 (by decide) q280 (Or.inl rfl) h dJ5_setLength_38 (fun i10 h => ?_)
        refine g_iload_n hC (pc := 41) 1 rfl rfl dJ5_setLength_41 ?_
        refine g_callS hC (pc := 42) (b := 0) (As := [vQ q9, vI i10, vI x1]) gc_J19_fillNull (m_J19_fillNull hC.fl h) q2384 q2385 (gle rfl) (gle rfl) rfl (gle rfl) rfl dJ5_setLength_42 (gk_v fun G11 h => ?_) (fun _ _ h hio => g_out0 hC (hX _ _ h) hio)
        refine g_goto hC (pc := 45) 76 (by decide) dJ5_setLength_45 ?_
        exact g_sub [0, 1] rfl (w_J5_setLength_76 hC hK hX h)
  · exact h.elim
theorem gc_J5_setLength : gCode yJ5_setLength cJ5_setLength 2 none 1 := ⟨q2364, q101, ⟨by decide, by decide⟩, rfl⟩
theorem m_J5_setLength {l : Launch} (hfl : l.stackTraces = false) {E : gE} {G : gS} {t0 : Nat} {x1 : Int32} {X : Nat → gS → Prop} {K : gS → Prop} (h : wp_J5_setLength (gAd E) G t0 x1 X K) : gMet l yJ5_setLength (ws_ yJ5_setLength cJ5_setLength 2 none) 16 485 [vQ (some t0), vI x1] E G (gRv K) X :=
  g_met hfl (plainFor_of_name (by decide +kernel)) rfl rfl rfl (gle rfl) (fun p e R s m args below meth c hC => w_J5_setLength hC (fun _ h => h) (fun _ _ h => h) h)
def wp_J6_setLength (ad : Nat → Nat) (G : gS) (t0 : Nat) (x1 : Int32) (X : Nat → gS → Prop) (K : gS → Prop) : Prop :=
  (gIs G t0 6 ∧ wp_J5_setLength ad G t0 x1 X (fun G1 => K G1))
theorem w_J6_setLength {C : gCx} (hC : gOk C "java/lang/StringBuilder" cJ6_setLength [] none "setLength" 2 17 514) {K : gS → Prop} {X : Nat → gS → Prop} (hK : ∀ G, K G → cxK C none G) (hX : ∀ q G, X q G → cxX C q G) {G : gS} {t0 : Nat} {x1 : Int32} (h : wp_J6_setLength (cxA C) G t0 x1 X K) : gGo C G 0 [(0, vQ (some t0)), (1, vI x1)] [] := by
  unfold wp_J6_setLength at h
  refine g_aload_n hC (pc := 0) 0 rfl rfl dJ6_setLength_0 ?_
  refine g_iload_n hC (pc := 1) 1 rfl rfl dJ6_setLength_1 ?_
  obtain ⟨hi, h⟩ := h
  refine g_callSU hC (pc := 2) (ci := 6) (As := [vI x1]) gc_J5_setLength (m_J5_setLength hC.fl h) rfl hi q2362 q3001 q289 q2363 (by decide) (gle rfl) (gle rfl) rfl (gle rfl) rfl dJ6_setLength_2 (gk_v fun G1 h => ?_) (fun _ _ h hio => g_out0 hC (hX _ _ h) hio)
  exact g_vret hC (pc := 5) (hK _ h) dJ6_setLength_5
theorem gc_J6_setLength : gCode yJ6_setLength cJ6_setLength 2 none 1 := ⟨q2361, q102, ⟨by decide, by decide⟩, rfl⟩
theorem m_J6_setLength {l : Launch} (hfl : l.stackTraces = false) {E : gE} {G : gS} {t0 : Nat} {x1 : Int32} {X : Nat → gS → Prop} {K : gS → Prop} (h : wp_J6_setLength (gAd E) G t0 x1 X K) : gMet l yJ6_setLength (ws_ yJ6_setLength cJ6_setLength 2 none) 17 514 [vQ (some t0), vI x1] E G (gRv K) X :=
  g_met hfl (plainFor_of_name (by decide +kernel)) rfl rfl rfl (gle rfl) (fun p e R s m args below meth c hC => w_J6_setLength hC (fun _ h => h) (fun _ _ h => h) h)
def wp_X18_index (ad : Nat → Nat) (G : gS) (t0 : Nat) (X : Nat → gS → Prop) (K : Int32 → gS → Prop) : Prop :=
  wGetI G t0 19 6 fun i1 => K i1 G
theorem w_X18_index {C : gCx} (hC : gOk C "GoblinHousehold$CommandFailure" cX18_index [] (some .int) "index" 1 0 0) {K : Int32 → gS → Prop} {X : Nat → gS → Prop} (hK : ∀ r G, K r G → cxK C (some (vI r)) G) (hX : ∀ q G, X q G → cxX C q G) {G : gS} {t0 : Nat} (h : wp_X18_index (cxA C) G t0 X K) : gGo C G 0 [(0, vQ (some t0))] [] := by
  unfold wp_X18_index at h
  refine g_aload_n hC (pc := 0) 0 rfl rfl dX18_index_0 ?_
  refine g_getI hC (pc := 1) in_X18 (ci := 19) rfl 6 (by decide) q2353 (Or.inl rfl) h dX18_index_1 (fun i1 h => ?_)
  exact g_iret hC (pc := 4) (hK _ _ h) dX18_index_4
theorem gc_X18_index : gCode yX18_index cX18_index 1 (some .int) 0 := ⟨q2418, q143, ⟨by decide, by decide⟩, rfl⟩
theorem m_X18_index {l : Launch} (hfl : l.stackTraces = false) {E : gE} {G : gS} {t0 : Nat} {X : Nat → gS → Prop} {K : Int32 → gS → Prop} (h : wp_X18_index (gAd E) G t0 X K) : gMet l yX18_index (ws_ yX18_index cX18_index 1 (some .int)) 0 0 [vQ (some t0)] E G (gRi K) X :=
  g_met hfl (plainFor_of_name (by decide +kernel)) rfl rfl rfl (gle rfl) (fun p e R s m args below meth c hC => w_X18_index hC (fun _ _ h => h) (fun _ _ h => h) h)
def wp_X18_asPublicException (ad : Nat → Nat) (G : gS) (t0 : Nat) (X : Nat → gS → Prop) (K : Option Nat → gS → Prop) : Prop :=
  wNew G 22 6 [.null, .null, .null, .null, .null, .int 0] fun c2 G1 => wp_J24_init ad G1 c2  X (fun G3 => K (some c2) G3)
theorem w_X18_asPublicException {C : gCx} (hC : gOk C "GoblinHousehold$CommandFailure" cX18_asPublicException [] (some (Jvm.ClassFile.FieldType.object "java/lang/RuntimeException")) "asPublicException" 1 8 212) {K : Option Nat → gS → Prop} {X : Nat → gS → Prop} (hK : ∀ r G, K r G → cxK C (some (vQ r)) G) (hX : ∀ q G, X q G → cxX C q G) {G : gS} {t0 : Nat} (h : wp_X18_asPublicException (cxA C) G t0 X K) : gGo C G 0 [(0, vQ (some t0))] [] := by
  unfold wp_X18_asPublicException at h
  refine g_new hC (pc := 0) in_J24 (ci := 22) rfl (by decide) tyJ24_ok q1170 q1171 q130 gdf_J24 h dX18_asPublicException_0 (fun c2 G1 h => ?_)
  refine g_dup hC (pc := 3) rfl dX18_asPublicException_3 ?_
  refine g_callI hC (pc := 4) (As := []) gc_J24_init (m_J24_init hC.fl h) rfl q1179 q1180 (gle rfl) (gle rfl) rfl (gle rfl) rfl dX18_asPublicException_4 (gk_v fun G3 h => ?_) (fun _ _ h hio => g_out0 hC (hX _ _ h) hio)
  exact g_aret hC (pc := 7) (Or.inl ⟨_, rfl⟩) (hK _ _ h) dX18_asPublicException_7
theorem gc_X18_asPublicException : gCode yX18_asPublicException cX18_asPublicException 1 (some (Jvm.ClassFile.FieldType.object "java/lang/RuntimeException")) 0 := ⟨q1169, q143, ⟨by decide, by decide⟩, rfl⟩
theorem m_X18_asPublicException {l : Launch} (hfl : l.stackTraces = false) {E : gE} {G : gS} {t0 : Nat} {X : Nat → gS → Prop} {K : Option Nat → gS → Prop} (h : wp_X18_asPublicException (gAd E) G t0 X K) : gMet l yX18_asPublicException (ws_ yX18_asPublicException cX18_asPublicException 1 (some (Jvm.ClassFile.FieldType.object "java/lang/RuntimeException"))) 8 212 [vQ (some t0)] E G (gRq K) X :=
  g_met hfl (plainFor_of_name (by decide +kernel)) rfl rfl rfl (gle rfl) (fun p e R s m args below meth c hC => w_X18_asPublicException hC (fun _ _ h => h) (fun _ _ h => h) h)
def wp_X17_position (ad : Nat → Nat) (G : gS) (t0 : Nat) (X : Nat → gS → Prop) (K : Int32 → gS → Prop) : Prop :=
  wGetI G t0 18 6 fun i1 => K i1 G
theorem w_X17_position {C : gCx} (hC : gOk C "GoblinHousehold$SyntaxFailure" cX17_position [] (some .int) "position" 1 0 0) {K : Int32 → gS → Prop} {X : Nat → gS → Prop} (hK : ∀ r G, K r G → cxK C (some (vI r)) G) (hX : ∀ q G, X q G → cxX C q G) {G : gS} {t0 : Nat} (h : wp_X17_position (cxA C) G t0 X K) : gGo C G 0 [(0, vQ (some t0))] [] := by
  unfold wp_X17_position at h
  refine g_aload_n hC (pc := 0) 0 rfl rfl dX17_position_0 ?_
  refine g_getI hC (pc := 1) in_X17 (ci := 18) rfl 6 (by decide) q2239 (Or.inl rfl) h dX17_position_1 (fun i1 h => ?_)
  exact g_iret hC (pc := 4) (hK _ _ h) dX17_position_4
theorem gc_X17_position : gCode yX17_position cX17_position 1 (some .int) 0 := ⟨q2413, q142, ⟨by decide, by decide⟩, rfl⟩
theorem m_X17_position {l : Launch} (hfl : l.stackTraces = false) {E : gE} {G : gS} {t0 : Nat} {X : Nat → gS → Prop} {K : Int32 → gS → Prop} (h : wp_X17_position (gAd E) G t0 X K) : gMet l yX17_position (ws_ yX17_position cX17_position 1 (some .int)) 0 0 [vQ (some t0)] E G (gRi K) X :=
  g_met hfl (plainFor_of_name (by decide +kernel)) rfl rfl rfl (gle rfl) (fun p e R s m args below meth c hC => w_X17_position hC (fun _ _ h => h) (fun _ _ h => h) h)
def wp_X17_asPublicException (ad : Nat → Nat) (G : gS) (t0 : Nat) (X : Nat → gS → Prop) (K : Option Nat → gS → Prop) : Prop :=
  wNew G 21 6 [.null, .null, .null, .null, .null, .int 0] fun c2 G1 => wp_J21_init_2 ad G1 c2  X (fun G3 => K (some c2) G3)
theorem w_X17_asPublicException {C : gCx} (hC : gOk C "GoblinHousehold$SyntaxFailure" cX17_asPublicException [] (some (Jvm.ClassFile.FieldType.object "java/lang/RuntimeException")) "asPublicException" 1 8 212) {K : Option Nat → gS → Prop} {X : Nat → gS → Prop} (hK : ∀ r G, K r G → cxK C (some (vQ r)) G) (hX : ∀ q G, X q G → cxX C q G) {G : gS} {t0 : Nat} (h : wp_X17_asPublicException (cxA C) G t0 X K) : gGo C G 0 [(0, vQ (some t0))] [] := by
  unfold wp_X17_asPublicException at h
  refine g_new hC (pc := 0) in_J21 (ci := 21) rfl (by decide) tyJ21_ok q1293 q631 q125 gdf_J21 h dX17_asPublicException_0 (fun c2 G1 h => ?_)
  refine g_dup hC (pc := 3) rfl dX17_asPublicException_3 ?_
  refine g_callI hC (pc := 4) (As := []) gc_J21_init_2 (m_J21_init_2 hC.fl h) rfl q1294 q1268 (gle rfl) (gle rfl) rfl (gle rfl) rfl dX17_asPublicException_4 (gk_v fun G3 h => ?_) (fun _ _ h hio => g_out0 hC (hX _ _ h) hio)
  exact g_aret hC (pc := 7) (Or.inl ⟨_, rfl⟩) (hK _ _ h) dX17_asPublicException_7
theorem gc_X17_asPublicException : gCode yX17_asPublicException cX17_asPublicException 1 (some (Jvm.ClassFile.FieldType.object "java/lang/RuntimeException")) 0 := ⟨q1292, q142, ⟨by decide, by decide⟩, rfl⟩
theorem m_X17_asPublicException {l : Launch} (hfl : l.stackTraces = false) {E : gE} {G : gS} {t0 : Nat} {X : Nat → gS → Prop} {K : Option Nat → gS → Prop} (h : wp_X17_asPublicException (gAd E) G t0 X K) : gMet l yX17_asPublicException (ws_ yX17_asPublicException cX17_asPublicException 1 (some (Jvm.ClassFile.FieldType.object "java/lang/RuntimeException"))) 8 212 [vQ (some t0)] E G (gRq K) X :=
  g_met hfl (plainFor_of_name (by decide +kernel)) rfl rfl rfl (gle rfl) (fun p e R s m args below meth c hC => w_X17_asPublicException hC (fun _ _ h => h) (fun _ _ h => h) h)
def wp_X1_runScript_60 (ad : Nat → Nat) (X : Nat → gS → Prop) (K : Int32 → gS → Prop) (G : gS) (t0 : Nat) (ts0 : Nat) : Prop :=
  wGetQ G t0 1 3 fun q1 => wNN q1 fun c2 => (gIs G c2 6 ∧ wp_J6_setLength ad G c2 (0 : Int32) X (fun G3 => wThrow G3 ts0 X))
theorem w_X1_runScript_60 {C : gCx} (hC : gOk C "GoblinHousehold" cX1_runScript [(0, 22, 32, 346), (0, 22, 46, 323), (0, 22, 60, 0), (32, 61, 60, 0)] (some .int) "runScript" 3 19 3187) {K : Int32 → gS → Prop} {X : Nat → gS → Prop} (hK : ∀ r G, K r G → cxK C (some (vI r)) G) (hX : ∀ q G, X q G → cxX C q G) {G : gS} {t0 : Nat} {ts0 : Nat} (h : wp_X1_runScript_60 (cxA C) X K G t0 ts0) : gGo C G 60 [(0, vQ (some t0))] [vQ (some ts0)] := by
  unfold wp_X1_runScript_60 at h
  refine g_astore_n hC (pc := 60) (lv' := [(2, vQ (some ts0)), (0, vQ (some t0))]) rfl (by decide) rfl dX1_runScript_60 ?_
  refine g_aload_n hC (pc := 61) 1 rfl rfl dX1_runScript_61 ?_
  refine g_getQ hC (pc := 62) in_X1 (ci := 1) rfl 3 (by decide) q295 (Or.inl rfl) h dX1_runScript_62 (fun q1 h => ?_)
  refine g_iconst hC (pc := 65) (v := (0 : Int32)) (by decide) dX1_runScript_65 ?_
  rcases q1 with _ | c2
  · exact (gNN0 h).elim
  replace h := gNN1 h
  obtain ⟨hi, h⟩ := h
  refine g_callV hC (pc := 66) (ci := 6) (As := [vI (0 : Int32)]) gc_J6_setLength (m_J6_setLength hC.fl h) rfl hi q2358 q2359 q2360 (gle rfl) (gle rfl) rfl (gle rfl) rfl dX1_runScript_66 (gk_v fun G3 h => ?_) (fun _ _ h hio => g_out hC (gcov rfl) (hX _ _ h) hio)
  refine g_aload_n hC (pc := 69) 0 rfl rfl dX1_runScript_69 ?_
  exact g_athrow hC (pc := 70) dX1_runScript_70 h.1 (g_out hC (gcov rfl) (hX _ _ h.2) h.1)
def wp_X1_runScript_32 (ad : Nat → Nat) (X : Nat → gS → Prop) (K : Int32 → gS → Prop) (G : gS) (t0 : Nat) (ts0 : Nat) : Prop :=
  (gIs G ts0 18 ∧ wp_X17_position ad G ts0  (fun y2 G3 => (gHas G3 y2 21 ∧ (wp_X1_runScript_60 ad X K G3 t0 y2)) ∨ (gHas G3 y2 22 ∧ (wp_X1_runScript_60 ad X K G3 t0 y2))) (fun r4 G1 => wPut G1 t0 1 4 (.int r4) fun G5 => (gIs G5 ts0 18 ∧ wp_X17_asPublicException ad G5 ts0  (fun y7 G8 => (gHas G8 y7 21 ∧ (wp_X1_runScript_60 ad X K G8 t0 y7)) ∨ (gHas G8 y7 22 ∧ (wp_X1_runScript_60 ad X K G8 t0 y7))) (fun q9 G6 => wNN q9 fun c10 => gIsO G6 c10 ∧ ((gHas G6 c10 21 ∧ (wp_X1_runScript_60 ad X K G6 t0 c10)) ∨ (gHas G6 c10 22 ∧ (wp_X1_runScript_60 ad X K G6 t0 c10)))))))
theorem w_X1_runScript_32 {C : gCx} (hC : gOk C "GoblinHousehold" cX1_runScript [(0, 22, 32, 346), (0, 22, 46, 323), (0, 22, 60, 0), (32, 61, 60, 0)] (some .int) "runScript" 3 19 3187) {K : Int32 → gS → Prop} {X : Nat → gS → Prop} (hK : ∀ r G, K r G → cxK C (some (vI r)) G) (hX : ∀ q G, X q G → cxX C q G) {G : gS} {t0 : Nat} {ts0 : Nat} (h : wp_X1_runScript_32 (cxA C) X K G t0 ts0) : gGo C G 32 [(0, vQ (some t0))] [vQ (some ts0)] := by
  unfold wp_X1_runScript_32 at h
  refine g_astore_n hC (pc := 32) (lv' := [(1, vQ (some ts0)), (0, vQ (some t0))]) rfl (by decide) rfl dX1_runScript_32 ?_
  refine g_aload_n hC (pc := 33) 1 rfl rfl dX1_runScript_33 ?_
  refine g_aload_n hC (pc := 34) 0 rfl rfl dX1_runScript_34 ?_
  obtain ⟨hi, h⟩ := h
  refine g_callV hC (pc := 35) (ci := 18) (As := []) gc_X17_position (m_X17_position hC.fl h) rfl hi q2410 q2411 q2412 (gle rfl) (gle rfl) rfl (gle rfl) rfl dX1_runScript_35 (gk_i fun r4 G1 h => ?_) (fun y2 G3 h hio => ?_)
  · refine g_put hC (pc := 38) in_X1 (ci := 1) rfl 4 (by decide) tyX1_ok nmX1 q296 (Or.inl rfl) rfl rfl rfl h dX1_runScript_38 (fun G5 h => ?_)
    refine g_aload_n hC (pc := 41) 0 rfl rfl dX1_runScript_41 ?_
    obtain ⟨hi, h⟩ := h
    refine g_callV hC (pc := 42) (ci := 18) (As := []) gc_X17_asPublicException (m_X17_asPublicException hC.fl h) rfl hi q2414 q1291 q3002 (gle rfl) (gle rfl) rfl (gle rfl) rfl dX1_runScript_42 (gk_q fun q9 G6 h => ?_) (fun y7 G8 h hio => ?_)
    · rcases q9 with _ | c10
      · exact (gNN0 h).elim
      replace h := gNN1 h
      obtain ⟨hio, h⟩ := h
      refine g_athrow hC (pc := 45) dX1_runScript_45 hio ?_
      rcases h with h | h
      · obtain ⟨hq, h⟩ := h
        refine g_catchAny hC (pc := 45) (ci := 21) rfl hq 3 rfl (List.forall_mem_cons.mpr ⟨Or.inl rfl, List.forall_mem_cons.mpr ⟨Or.inl rfl, List.forall_mem_cons.mpr ⟨Or.inl rfl, fun _ h => nomatch h⟩⟩⟩) rfl rfl rfl ?_
        exact g_sub [1] rfl (w_X1_runScript_60 hC hK hX h)
      · obtain ⟨hq, h⟩ := h
        refine g_catchAny hC (pc := 45) (ci := 22) rfl hq 3 rfl (List.forall_mem_cons.mpr ⟨Or.inl rfl, List.forall_mem_cons.mpr ⟨Or.inl rfl, List.forall_mem_cons.mpr ⟨Or.inl rfl, fun _ h => nomatch h⟩⟩⟩) rfl rfl rfl ?_
        exact g_sub [1] rfl (w_X1_runScript_60 hC hK hX h)
    · rcases h with h | h
      · obtain ⟨hq, h⟩ := h
        refine g_catchAny hC (pc := 42) (ci := 21) rfl hq 3 rfl (List.forall_mem_cons.mpr ⟨Or.inl rfl, List.forall_mem_cons.mpr ⟨Or.inl rfl, List.forall_mem_cons.mpr ⟨Or.inl rfl, fun _ h => nomatch h⟩⟩⟩) rfl rfl rfl ?_
        exact g_sub [1] rfl (w_X1_runScript_60 hC hK hX h)
      · obtain ⟨hq, h⟩ := h
        refine g_catchAny hC (pc := 42) (ci := 22) rfl hq 3 rfl (List.forall_mem_cons.mpr ⟨Or.inl rfl, List.forall_mem_cons.mpr ⟨Or.inl rfl, List.forall_mem_cons.mpr ⟨Or.inl rfl, fun _ h => nomatch h⟩⟩⟩) rfl rfl rfl ?_
        exact g_sub [1] rfl (w_X1_runScript_60 hC hK hX h)
  · rcases h with h | h
    · obtain ⟨hq, h⟩ := h
      refine g_catchAny hC (pc := 35) (ci := 21) rfl hq 3 rfl (List.forall_mem_cons.mpr ⟨Or.inl rfl, List.forall_mem_cons.mpr ⟨Or.inl rfl, List.forall_mem_cons.mpr ⟨Or.inl rfl, fun _ h => nomatch h⟩⟩⟩) rfl rfl rfl ?_
      exact g_sub [1] rfl (w_X1_runScript_60 hC hK hX h)
    · obtain ⟨hq, h⟩ := h
      refine g_catchAny hC (pc := 35) (ci := 22) rfl hq 3 rfl (List.forall_mem_cons.mpr ⟨Or.inl rfl, List.forall_mem_cons.mpr ⟨Or.inl rfl, List.forall_mem_cons.mpr ⟨Or.inl rfl, fun _ h => nomatch h⟩⟩⟩) rfl rfl rfl ?_
      exact g_sub [1] rfl (w_X1_runScript_60 hC hK hX h)
def wp_X1_runScript_46 (ad : Nat → Nat) (X : Nat → gS → Prop) (K : Int32 → gS → Prop) (G : gS) (t0 : Nat) (ts0 : Nat) : Prop :=
  (gIs G ts0 19 ∧ wp_X18_index ad G ts0  (fun y2 G3 => (gHas G3 y2 21 ∧ (wp_X1_runScript_60 ad X K G3 t0 y2)) ∨ (gHas G3 y2 22 ∧ (wp_X1_runScript_60 ad X K G3 t0 y2))) (fun r4 G1 => wPut G1 t0 1 5 (.int r4) fun G5 => (gIs G5 ts0 19 ∧ wp_X18_asPublicException ad G5 ts0  (fun y7 G8 => (gHas G8 y7 21 ∧ (wp_X1_runScript_60 ad X K G8 t0 y7)) ∨ (gHas G8 y7 22 ∧ (wp_X1_runScript_60 ad X K G8 t0 y7))) (fun q9 G6 => wNN q9 fun c10 => gIsO G6 c10 ∧ ((gHas G6 c10 21 ∧ (wp_X1_runScript_60 ad X K G6 t0 c10)) ∨ (gHas G6 c10 22 ∧ (wp_X1_runScript_60 ad X K G6 t0 c10)))))))
theorem w_X1_runScript_46 {C : gCx} (hC : gOk C "GoblinHousehold" cX1_runScript [(0, 22, 32, 346), (0, 22, 46, 323), (0, 22, 60, 0), (32, 61, 60, 0)] (some .int) "runScript" 3 19 3187) {K : Int32 → gS → Prop} {X : Nat → gS → Prop} (hK : ∀ r G, K r G → cxK C (some (vI r)) G) (hX : ∀ q G, X q G → cxX C q G) {G : gS} {t0 : Nat} {ts0 : Nat} (h : wp_X1_runScript_46 (cxA C) X K G t0 ts0) : gGo C G 46 [(0, vQ (some t0))] [vQ (some ts0)] := by
  unfold wp_X1_runScript_46 at h
  refine g_astore_n hC (pc := 46) (lv' := [(1, vQ (some ts0)), (0, vQ (some t0))]) rfl (by decide) rfl dX1_runScript_46 ?_
  refine g_aload_n hC (pc := 47) 1 rfl rfl dX1_runScript_47 ?_
  refine g_aload_n hC (pc := 48) 0 rfl rfl dX1_runScript_48 ?_
  obtain ⟨hi, h⟩ := h
  refine g_callV hC (pc := 49) (ci := 19) (As := []) gc_X18_index (m_X18_index hC.fl h) rfl hi q2415 q2416 q2417 (gle rfl) (gle rfl) rfl (gle rfl) rfl dX1_runScript_49 (gk_i fun r4 G1 h => ?_) (fun y2 G3 h hio => ?_)
  · refine g_put hC (pc := 52) in_X1 (ci := 1) rfl 5 (by decide) tyX1_ok nmX1 q297 (Or.inl rfl) rfl rfl rfl h dX1_runScript_52 (fun G5 h => ?_)
    refine g_aload_n hC (pc := 55) 0 rfl rfl dX1_runScript_55 ?_
    obtain ⟨hi, h⟩ := h
    refine g_callV hC (pc := 56) (ci := 19) (As := []) gc_X18_asPublicException (m_X18_asPublicException hC.fl h) rfl hi q2419 q1168 q3003 (gle rfl) (gle rfl) rfl (gle rfl) rfl dX1_runScript_56 (gk_q fun q9 G6 h => ?_) (fun y7 G8 h hio => ?_)
    · rcases q9 with _ | c10
      · exact (gNN0 h).elim
      replace h := gNN1 h
      obtain ⟨hio, h⟩ := h
      refine g_athrow hC (pc := 59) dX1_runScript_59 hio ?_
      rcases h with h | h
      · obtain ⟨hq, h⟩ := h
        refine g_catchAny hC (pc := 59) (ci := 21) rfl hq 3 rfl (List.forall_mem_cons.mpr ⟨Or.inl rfl, List.forall_mem_cons.mpr ⟨Or.inl rfl, List.forall_mem_cons.mpr ⟨Or.inl rfl, fun _ h => nomatch h⟩⟩⟩) rfl rfl rfl ?_
        exact g_sub [1] rfl (w_X1_runScript_60 hC hK hX h)
      · obtain ⟨hq, h⟩ := h
        refine g_catchAny hC (pc := 59) (ci := 22) rfl hq 3 rfl (List.forall_mem_cons.mpr ⟨Or.inl rfl, List.forall_mem_cons.mpr ⟨Or.inl rfl, List.forall_mem_cons.mpr ⟨Or.inl rfl, fun _ h => nomatch h⟩⟩⟩) rfl rfl rfl ?_
        exact g_sub [1] rfl (w_X1_runScript_60 hC hK hX h)
    · rcases h with h | h
      · obtain ⟨hq, h⟩ := h
        refine g_catchAny hC (pc := 56) (ci := 21) rfl hq 3 rfl (List.forall_mem_cons.mpr ⟨Or.inl rfl, List.forall_mem_cons.mpr ⟨Or.inl rfl, List.forall_mem_cons.mpr ⟨Or.inl rfl, fun _ h => nomatch h⟩⟩⟩) rfl rfl rfl ?_
        exact g_sub [1] rfl (w_X1_runScript_60 hC hK hX h)
      · obtain ⟨hq, h⟩ := h
        refine g_catchAny hC (pc := 56) (ci := 22) rfl hq 3 rfl (List.forall_mem_cons.mpr ⟨Or.inl rfl, List.forall_mem_cons.mpr ⟨Or.inl rfl, List.forall_mem_cons.mpr ⟨Or.inl rfl, fun _ h => nomatch h⟩⟩⟩) rfl rfl rfl ?_
        exact g_sub [1] rfl (w_X1_runScript_60 hC hK hX h)
  · rcases h with h | h
    · obtain ⟨hq, h⟩ := h
      refine g_catchAny hC (pc := 49) (ci := 21) rfl hq 3 rfl (List.forall_mem_cons.mpr ⟨Or.inl rfl, List.forall_mem_cons.mpr ⟨Or.inl rfl, List.forall_mem_cons.mpr ⟨Or.inl rfl, fun _ h => nomatch h⟩⟩⟩) rfl rfl rfl ?_
      exact g_sub [1] rfl (w_X1_runScript_60 hC hK hX h)
    · obtain ⟨hq, h⟩ := h
      refine g_catchAny hC (pc := 49) (ci := 22) rfl hq 3 rfl (List.forall_mem_cons.mpr ⟨Or.inl rfl, List.forall_mem_cons.mpr ⟨Or.inl rfl, List.forall_mem_cons.mpr ⟨Or.inl rfl, fun _ h => nomatch h⟩⟩⟩) rfl rfl rfl ?_
      exact g_sub [1] rfl (w_X1_runScript_60 hC hK hX h)
def wp_X1_runScript (ad : Nat → Nat) (G : gS) (t0 : Nat) (X : Nat → gS → Prop) (K : Int32 → gS → Prop) : Prop :=
  wNew G 16 2 [.null, .int 0] fun c2 G1 => wGetQ G1 t0 1 3 fun q3 => wNN q3 fun c4 => (gIs G1 c4 6 ∧ wp_J6_toString ad G1 c4  (fun y6 G7 => (gHas G7 y6 18 ∧ (wp_X1_runScript_32 ad X K G7 t0 y6)) ∨ (gHas G7 y6 19 ∧ (wp_X1_runScript_46 ad X K G7 t0 y6))) (fun q8 G5 => wp_X15_init ad G5 c2 q8 (fun y10 G11 => (gHas G11 y10 18 ∧ (wp_X1_runScript_32 ad X K G11 t0 y10)) ∨ (gHas G11 y10 19 ∧ (wp_X1_runScript_46 ad X K G11 t0 y10))) (fun G9 => (gIs G9 c2 16 ∧ wp_X15_commands ad G9 c2  (fun y13 G14 => (gHas G14 y13 18 ∧ (wp_X1_runScript_32 ad X K G14 t0 y13)) ∨ (gHas G14 y13 19 ∧ (wp_X1_runScript_46 ad X K G14 t0 y13))) (fun q15 G12 => (gIs G12 t0 1 ∧ wp_X1_execute ad G12 t0 q15 (fun y17 G18 => (gHas G18 y17 18 ∧ (wp_X1_runScript_32 ad X K G18 t0 y17)) ∨ (gHas G18 y17 19 ∧ (wp_X1_runScript_46 ad X K G18 t0 y17))) (fun r19 G16 => wGetQ G16 t0 1 3 fun q20 => wNN q20 fun c21 => (gIs G16 c21 6 ∧ wp_J6_setLength ad G16 c21 (0 : Int32) X (fun G22 => K r19 G22)))))))))
theorem w_X1_runScript {C : gCx} (hC : gOk C "GoblinHousehold" cX1_runScript [(0, 22, 32, 346), (0, 22, 46, 323), (0, 22, 60, 0), (32, 61, 60, 0)] (some .int) "runScript" 3 19 3187) {K : Int32 → gS → Prop} {X : Nat → gS → Prop} (hK : ∀ r G, K r G → cxK C (some (vI r)) G) (hX : ∀ q G, X q G → cxX C q G) {G : gS} {t0 : Nat} (h : wp_X1_runScript (cxA C) G t0 X K) : gGo C G 0 [(0, vQ (some t0))] [] := by
  unfold wp_X1_runScript at h
  refine g_aload_n hC (pc := 0) 0 rfl rfl dX1_runScript_0 ?_
  refine g_new hC (pc := 1) in_X15 (ci := 16) rfl (by decide) tyX15_ok q2062 q2063 q140 gdf_X15 h dX1_runScript_1 (fun c2 G1 h => ?_)
  refine g_dup hC (pc := 4) rfl dX1_runScript_4 ?_
  refine g_aload_n hC (pc := 5) 0 rfl rfl dX1_runScript_5 ?_
  refine g_getQ hC (pc := 6) in_X1 (ci := 1) rfl 3 (by decide) q295 (Or.inl rfl) h dX1_runScript_6 (fun q3 h => ?_)
  rcases q3 with _ | c4
  · exact (gNN0 h).elim
  replace h := gNN1 h
  obtain ⟨hi, h⟩ := h
  refine g_callV hC (pc := 9) (ci := 6) (As := []) gc_J6_toString (m_J6_toString hC.fl h) rfl hi q2064 q595 q596 (gle rfl) (gle rfl) rfl (gle rfl) rfl dX1_runScript_9 (gk_q fun q8 G5 h => ?_) (fun y6 G7 h hio => ?_)
  · refine g_callI hC (pc := 12) (As := [vQ q8]) gc_X15_init (m_X15_init hC.fl h) rfl q2065 q2066 (gle rfl) (gle rfl) rfl (gle rfl) rfl dX1_runScript_12 (gk_v fun G9 h => ?_) (fun y10 G11 h hio => ?_)
    · obtain ⟨hi, h⟩ := h
      refine g_callV hC (pc := 15) (ci := 16) (As := []) gc_X15_commands (m_X15_commands hC.fl h) rfl hi q2076 q2077 q2078 (gle rfl) (gle rfl) rfl (gle rfl) rfl dX1_runScript_15 (gk_q fun q15 G12 h => ?_) (fun y13 G14 h hio => ?_)
      · obtain ⟨hi, h⟩ := h
        refine g_callVW hC (pc := 18) (ci := 1) (As := [vQ q15]) gc_X1_execute (m_X1_execute hC.fl h) rfl hi q2332 q2334 qs41 (gle rfl) (gle rfl) rfl (gle rfl) rfl dX1_runScript_18 (gk_i fun r19 G16 h => ?_) (fun y17 G18 h hio => ?_)
        · refine g_istore_n hC (pc := 21) (lv' := [(1, vI r19), (0, vQ (some t0))]) rfl (by decide) rfl dX1_runScript_21 ?_
          refine g_aload_n hC (pc := 22) 1 rfl rfl dX1_runScript_22 ?_
          refine g_getQ hC (pc := 23) in_X1 (ci := 1) rfl 3 (by decide) q295 (Or.inl rfl) h dX1_runScript_23 (fun q20 h => ?_)
          refine g_iconst hC (pc := 26) (v := (0 : Int32)) (by decide) dX1_runScript_26 ?_
          rcases q20 with _ | c21
          · exact (gNN0 h).elim
          replace h := gNN1 h
          obtain ⟨hi, h⟩ := h
          refine g_callV hC (pc := 27) (ci := 6) (As := [vI (0 : Int32)]) gc_J6_setLength (m_J6_setLength hC.fl h) rfl hi q2358 q2359 q2360 (gle rfl) (gle rfl) rfl (gle rfl) rfl dX1_runScript_27 (gk_v fun G22 h => ?_) (fun _ _ h hio => g_out hC (gcov rfl) (hX _ _ h) hio)
          refine g_iload_n hC (pc := 30) 0 rfl rfl dX1_runScript_30 ?_
          exact g_iret hC (pc := 31) (hK _ _ h) dX1_runScript_31
        · rcases h with h | h
          · obtain ⟨hq, h⟩ := h
            refine g_catchI hC (pc := 18) (ci := 18) rfl hq 0 rfl (fun _ h => nomatch h) rfl (by decide) q2060 (List.mem_of_getElem? (i := 19) rfl) rfl ?_
            exact g_sub [0] rfl (w_X1_runScript_32 hC hK hX h)
          · obtain ⟨hq, h⟩ := h
            refine g_catchI hC (pc := 18) (ci := 19) rfl hq 1 rfl (List.forall_mem_cons.mpr ⟨Or.inr ⟨by decide, "GoblinHousehold$SyntaxFailure", q2060, (List.mem_of_getElem? (i := 30) rfl)⟩, fun _ h => nomatch h⟩) rfl (by decide) q2061 (List.mem_of_getElem? (i := 20) rfl) rfl ?_
            exact g_sub [0] rfl (w_X1_runScript_46 hC hK hX h)
      · rcases h with h | h
        · obtain ⟨hq, h⟩ := h
          refine g_catchI hC (pc := 15) (ci := 18) rfl hq 0 rfl (fun _ h => nomatch h) rfl (by decide) q2060 (List.mem_of_getElem? (i := 19) rfl) rfl ?_
          exact g_sub [0] rfl (w_X1_runScript_32 hC hK hX h)
        · obtain ⟨hq, h⟩ := h
          refine g_catchI hC (pc := 15) (ci := 19) rfl hq 1 rfl (List.forall_mem_cons.mpr ⟨Or.inr ⟨by decide, "GoblinHousehold$SyntaxFailure", q2060, (List.mem_of_getElem? (i := 30) rfl)⟩, fun _ h => nomatch h⟩) rfl (by decide) q2061 (List.mem_of_getElem? (i := 20) rfl) rfl ?_
          exact g_sub [0] rfl (w_X1_runScript_46 hC hK hX h)
    · rcases h with h | h
      · obtain ⟨hq, h⟩ := h
        refine g_catchI hC (pc := 12) (ci := 18) rfl hq 0 rfl (fun _ h => nomatch h) rfl (by decide) q2060 (List.mem_of_getElem? (i := 19) rfl) rfl ?_
        exact g_sub [0] rfl (w_X1_runScript_32 hC hK hX h)
      · obtain ⟨hq, h⟩ := h
        refine g_catchI hC (pc := 12) (ci := 19) rfl hq 1 rfl (List.forall_mem_cons.mpr ⟨Or.inr ⟨by decide, "GoblinHousehold$SyntaxFailure", q2060, (List.mem_of_getElem? (i := 30) rfl)⟩, fun _ h => nomatch h⟩) rfl (by decide) q2061 (List.mem_of_getElem? (i := 20) rfl) rfl ?_
        exact g_sub [0] rfl (w_X1_runScript_46 hC hK hX h)
  · rcases h with h | h
    · obtain ⟨hq, h⟩ := h
      refine g_catchI hC (pc := 9) (ci := 18) rfl hq 0 rfl (fun _ h => nomatch h) rfl (by decide) q2060 (List.mem_of_getElem? (i := 19) rfl) rfl ?_
      exact g_sub [0] rfl (w_X1_runScript_32 hC hK hX h)
    · obtain ⟨hq, h⟩ := h
      refine g_catchI hC (pc := 9) (ci := 19) rfl hq 1 rfl (List.forall_mem_cons.mpr ⟨Or.inr ⟨by decide, "GoblinHousehold$SyntaxFailure", q2060, (List.mem_of_getElem? (i := 30) rfl)⟩, fun _ h => nomatch h⟩) rfl (by decide) q2061 (List.mem_of_getElem? (i := 20) rfl) rfl ?_
      exact g_sub [0] rfl (w_X1_runScript_46 hC hK hX h)
theorem gc_X1_runScript : gCodeW yX1_runScript cX1_runScript 3 (some .int) [(0, 22, 32, 346), (0, 22, 46, 323), (0, 22, 60, 0), (32, 61, 60, 0)] 0 := ⟨q2059, q94, ⟨by decide, by decide⟩, rfl⟩
theorem m_X1_runScript {l : Launch} (hfl : l.stackTraces = false) {E : gE} {G : gS} {t0 : Nat} {X : Nat → gS → Prop} {K : Int32 → gS → Prop} (h : wp_X1_runScript (gAd E) G t0 X K) : gMet l yX1_runScript (wsW_ yX1_runScript cX1_runScript 3 (some .int) [(0, 22, 32, 346), (0, 22, 46, 323), (0, 22, 60, 0), (32, 61, 60, 0)]) 19 3187 [vQ (some t0)] E G (gRi K) X :=
  g_metW hfl (plainFor_of_name (by decide +kernel)) rfl rfl rfl (gle rfl) (fun p e R s m args below meth c hC => w_X1_runScript hC (fun _ _ h => h) (fun _ _ h => h) h)
def wp_X0_runScript_11 (ad : Nat → Nat) (X : Nat → gS → Prop) (K : Int32 → gS → Prop) (G : gS) (ts0 : Nat) : Prop :=
  K (1 : Int32) G
theorem w_X0_runScript_11 {C : gCx} (hC : gOk C "GoblinHouseholdLaw" cX0_runScript [(0, 8, 11, 13), (0, 8, 14, 15)] (some .int) "runScript" 3 20 3217) {K : Int32 → gS → Prop} {X : Nat → gS → Prop} (hK : ∀ r G, K r G → cxK C (some (vI r)) G) (hX : ∀ q G, X q G → cxX C q G) {G : gS} {ts0 : Nat} (h : wp_X0_runScript_11 (cxA C) X K G ts0) : gGo C G 11 [] [vQ (some ts0)] := by
  unfold wp_X0_runScript_11 at h
  refine g_astore_n hC (pc := 11) (lv' := [(2, vQ (some ts0))]) rfl (by decide) rfl dX0_runScript_11 ?_
  refine g_iconst hC (pc := 12) (v := (1 : Int32)) (by decide) dX0_runScript_12 ?_
  exact g_iret hC (pc := 13) (hK _ _ h) dX0_runScript_13
def wp_X0_runScript_14 (ad : Nat → Nat) (X : Nat → gS → Prop) (K : Int32 → gS → Prop) (G : gS) (ts0 : Nat) : Prop :=
  K (2 : Int32) G
theorem w_X0_runScript_14 {C : gCx} (hC : gOk C "GoblinHouseholdLaw" cX0_runScript [(0, 8, 11, 13), (0, 8, 14, 15)] (some .int) "runScript" 3 20 3217) {K : Int32 → gS → Prop} {X : Nat → gS → Prop} (hK : ∀ r G, K r G → cxK C (some (vI r)) G) (hX : ∀ q G, X q G → cxX C q G) {G : gS} {ts0 : Nat} (h : wp_X0_runScript_14 (cxA C) X K G ts0) : gGo C G 14 [] [vQ (some ts0)] := by
  unfold wp_X0_runScript_14 at h
  refine g_astore_n hC (pc := 14) (lv' := [(2, vQ (some ts0))]) rfl (by decide) rfl dX0_runScript_14 ?_
  refine g_iconst hC (pc := 15) (v := (2 : Int32)) (by decide) dX0_runScript_15 ?_
  exact g_iret hC (pc := 16) (hK _ _ h) dX0_runScript_16
def wp_X0_runScript (ad : Nat → Nat) (G : gS) (o0 : Option Nat) (o1 : Option Nat) (X : Nat → gS → Prop) (K : Int32 → gS → Prop) : Prop :=
  wNN o0 fun c1 => (gIs G c1 1 ∧ wp_X1_runScript ad G c1  (fun y3 G4 => (gHas G4 y3 21 ∧ (wp_X0_runScript_11 ad X K G4 y3)) ∨ (gHas G4 y3 22 ∧ (wp_X0_runScript_14 ad X K G4 y3))) (fun r5 G2 => wNN o1 fun c6 => wAstL G2 c6 (0 : Int32) ((r5).toInt64) fun G7 => K (0 : Int32) G7))
theorem w_X0_runScript {C : gCx} (hC : gOk C "GoblinHouseholdLaw" cX0_runScript [(0, 8, 11, 13), (0, 8, 14, 15)] (some .int) "runScript" 3 20 3217) {K : Int32 → gS → Prop} {X : Nat → gS → Prop} (hK : ∀ r G, K r G → cxK C (some (vI r)) G) (hX : ∀ q G, X q G → cxX C q G) {G : gS} {o0 : Option Nat} {o1 : Option Nat} (h : wp_X0_runScript (cxA C) G o0 o1 X K) : gGo C G 0 [(0, vQ o0), (1, vQ o1)] [] := by
  unfold wp_X0_runScript at h
  refine g_aload_n hC (pc := 0) 1 rfl rfl dX0_runScript_0 ?_
  refine g_iconst hC (pc := 1) (v := (0 : Int32)) (by decide) dX0_runScript_1 ?_
  refine g_aload_n hC (pc := 2) 0 rfl rfl dX0_runScript_2 ?_
  rcases o0 with _ | c1
  · exact (gNN0 h).elim
  replace h := gNN1 h
  obtain ⟨hi, h⟩ := h
  refine g_callVW hC (pc := 3) (ci := 1) (As := []) gc_X1_runScript (m_X1_runScript hC.fl h) rfl hi q2056 q2057 q2058 (gle rfl) (gle rfl) rfl (gle rfl) rfl dX0_runScript_3 (gk_i fun r5 G2 h => ?_) (fun y3 G4 h hio => ?_)
  · refine g_i2l hC (pc := 6) dX0_runScript_6 ?_
    rcases o1 with _ | c6
    · exact (gNN0 h).elim
    replace h := gNN1 h
    refine g_astL hC (pc := 7) h dX0_runScript_7 (fun G7 h => ?_)
    refine g_goto hC (pc := 8) 17 (by decide) dX0_runScript_8 ?_
    refine g_iconst hC (pc := 17) (v := (0 : Int32)) (by decide) dX0_runScript_17 ?_
    exact g_iret hC (pc := 18) (hK _ _ h) dX0_runScript_18
  · rcases h with h | h
    · obtain ⟨hq, h⟩ := h
      refine g_catchI hC (pc := 3) (ci := 21) rfl hq 0 rfl (fun _ h => nomatch h) rfl (by decide) q871 (List.mem_of_getElem? (i := 4) rfl) rfl ?_
      exact g_sub [] rfl (w_X0_runScript_11 hC hK hX h)
    · obtain ⟨hq, h⟩ := h
      refine g_catchI hC (pc := 3) (ci := 22) rfl hq 1 rfl (List.forall_mem_cons.mpr ⟨Or.inr ⟨by decide, "java/lang/IllegalArgumentException", q871, (List.mem_of_getElem? (i := 11) rfl)⟩, fun _ h => nomatch h⟩) rfl (by decide) q872 (List.mem_of_getElem? (i := 9) rfl) rfl ?_
      exact g_sub [] rfl (w_X0_runScript_14 hC hK hX h)
theorem gc_X0_runScript : gCodeW yX0_runScript cX0_runScript 3 (some .int) [(0, 8, 11, 13), (0, 8, 14, 15)] 2 := ⟨q2055, q93, ⟨by decide, by decide⟩, rfl⟩
theorem m_X0_runScript {l : Launch} (hfl : l.stackTraces = false) {E : gE} {G : gS} {o0 : Option Nat} {o1 : Option Nat} {X : Nat → gS → Prop} {K : Int32 → gS → Prop} (h : wp_X0_runScript (gAd E) G o0 o1 X K) : gMet l yX0_runScript (wsW_ yX0_runScript cX0_runScript 3 (some .int) [(0, 8, 11, 13), (0, 8, 14, 15)]) 20 3217 [vQ o0, vQ o1] E G (gRi K) X :=
  g_metW hfl (plainFor_of_name (by decide +kernel)) rfl rfl rfl (gle rfl) (fun p e R s m args below meth c hC => w_X0_runScript hC (fun _ _ h => h) (fun _ _ h => h) h)
