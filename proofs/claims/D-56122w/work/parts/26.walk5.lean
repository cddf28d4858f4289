/-! walk 5 (printed by gen/walk.py) -/
set_option maxRecDepth 20000
def wp_X3_startOf (ad : Nat → Nat) (G : gS) (x0 : Int32) (X : Nat → gS → Prop) (K : Int32 → gS → Prop) : Prop :=
  (x0 = (0 : Int32) → K (0 : Int32) G) ∧ (x0 = (1 : Int32) → K (7 : Int32) G) ∧ (x0 = (2 : Int32) → K ((13 : Int32) + ((7 : Int32) * (x0 - (2 : Int32)))) G) ∧ (x0 = (3 : Int32) → K ((13 : Int32) + ((7 : Int32) * (x0 - (2 : Int32)))) G) ∧ (x0 = (4 : Int32) → K ((13 : Int32) + ((7 : Int32) * (x0 - (2 : Int32)))) G) ∧ (x0 = (5 : Int32) → K (32 : Int32) G) ∧ (x0 = (6 : Int32) → K ((39 : Int32) + ((5 : Int32) * (x0 - (6 : Int32)))) G) ∧ (x0 = (7 : Int32) → K ((39 : Int32) + ((5 : Int32) * (x0 - (6 : Int32)))) G) ∧ (x0 = (8 : Int32) → K ((39 : Int32) + ((5 : Int32) * (x0 - (6 : Int32)))) G) ∧ (x0 = (9 : Int32) → K ((39 : Int32) + ((5 : Int32) * (x0 - (6 : Int32)))) G) ∧ (x0 = (10 : Int32) → K ((39 : Int32) + ((5 : Int32) * (x0 - (6 : Int32)))) G) ∧ (x0 = (11 : Int32) → K (65 : Int32) G) ∧ (¬ x0 = (0 : Int32) → ¬ x0 = (1 : Int32) → ¬ x0 = (2 : Int32) → ¬ x0 = (3 : Int32) → ¬ x0 = (4 : Int32) → ¬ x0 = (5 : Int32) → ¬ x0 = (6 : Int32) → ¬ x0 = (7 : Int32) → ¬ x0 = (8 : Int32) → ¬ x0 = (9 : Int32) → ¬ x0 = (10 : Int32) → ¬ x0 = (11 : Int32) → K (70 : Int32) G)
theorem w_X3_startOf {C : gCx} (hC : gOk C "GoblinHouseholdModel" cX3_startOf [] (some .int) "startOf" 1 0 0) {K : Int32 → gS → Prop} {X : Nat → gS → Prop} (hK : ∀ r G, K r G → cxK C (some (vI r)) G) (hX : ∀ q G, X q G → cxX C q G) {G : gS} {x0 : Int32} (h : wp_X3_startOf (cxA C) G x0 X K) : gGo C G 0 [(0, vI x0)] [] := by
  unfold wp_X3_startOf at h
  refine g_iload_n hC (pc := 0) 0 rfl rfl dX3_startOf_0 ?_
  by_cases e0 : x0 = (0 : Int32)
  · refine g_tableIn hC (pc := 1) 64 (by rw [e0]; decide) (by rw [e0]; decide) (by rw [e0]; rfl) (by decide) dX3_startOf_1 ?_
    replace h := h.1 e0
    refine g_iconst hC (pc := 64) (v := (0 : Int32)) (by decide) dX3_startOf_64 ?_
    exact g_iret hC (pc := 65) (hK _ _ h) dX3_startOf_65
  by_cases e1 : x0 = (1 : Int32)
  · refine g_tableIn hC (pc := 1) 66 (by rw [e1]; decide) (by rw [e1]; decide) (by rw [e1]; rfl) (by decide) dX3_startOf_1 ?_
    replace h := h.2.1 e1
    refine g_bipush hC (pc := 66) (v := (7 : Int32)) (by decide) dX3_startOf_66 ?_
    exact g_iret hC (pc := 68) (hK _ _ h) dX3_startOf_68
  by_cases e2 : x0 = (2 : Int32)
  · refine g_tableIn hC (pc := 1) 69 (by rw [e2]; decide) (by rw [e2]; decide) (by rw [e2]; rfl) (by decide) dX3_startOf_1 ?_
    replace h := h.2.2.1 e2
    refine g_bipush hC (pc := 69) (v := (13 : Int32)) (by decide) dX3_startOf_69 ?_
    refine g_bipush hC (pc := 71) (v := (7 : Int32)) (by decide) dX3_startOf_71 ?_
    refine g_iload_n hC (pc := 73) 0 rfl rfl dX3_startOf_73 ?_
    refine g_iconst hC (pc := 74) (v := (2 : Int32)) (by decide) dX3_startOf_74 ?_
    refine g_isub hC (pc := 75) dX3_startOf_75 ?_
    refine g_imul hC (pc := 76) dX3_startOf_76 ?_
    refine g_iadd hC (pc := 77) dX3_startOf_77 ?_
    exact g_iret hC (pc := 78) (hK _ _ h) dX3_startOf_78
  by_cases e3 : x0 = (3 : Int32)
  · refine g_tableIn hC (pc := 1) 69 (by rw [e3]; decide) (by rw [e3]; decide) (by rw [e3]; rfl) (by decide) dX3_startOf_1 ?_
    replace h := h.2.2.2.1 e3
    refine g_bipush hC (pc := 69) (v := (13 : Int32)) (by decide) dX3_startOf_69 ?_
    refine g_bipush hC (pc := 71) (v := (7 : Int32)) (by decide) dX3_startOf_71 ?_
    refine g_iload_n hC (pc := 73) 0 rfl rfl dX3_startOf_73 ?_
    refine g_iconst hC (pc := 74) (v := (2 : Int32)) (by decide) dX3_startOf_74 ?_
    refine g_isub hC (pc := 75) dX3_startOf_75 ?_
    refine g_imul hC (pc := 76) dX3_startOf_76 ?_
    refine g_iadd hC (pc := 77) dX3_startOf_77 ?_
    exact g_iret hC (pc := 78) (hK _ _ h) dX3_startOf_78
  by_cases e4 : x0 = (4 : Int32)
  · refine g_tableIn hC (pc := 1) 69 (by rw [e4]; decide) (by rw [e4]; decide) (by rw [e4]; rfl) (by decide) dX3_startOf_1 ?_
    replace h := h.2.2.2.2.1 e4
    refine g_bipush hC (pc := 69) (v := (13 : Int32)) (by decide) dX3_startOf_69 ?_
    refine g_bipush hC (pc := 71) (v := (7 : Int32)) (by decide) dX3_startOf_71 ?_
    refine g_iload_n hC (pc := 73) 0 rfl rfl dX3_startOf_73 ?_
    refine g_iconst hC (pc := 74) (v := (2 : Int32)) (by decide) dX3_startOf_74 ?_
    refine g_isub hC (pc := 75) dX3_startOf_75 ?_
    refine g_imul hC (pc := 76) dX3_startOf_76 ?_
    refine g_iadd hC (pc := 77) dX3_startOf_77 ?_
    exact g_iret hC (pc := 78) (hK _ _ h) dX3_startOf_78
  by_cases e5 : x0 = (5 : Int32)
  · refine g_tableIn hC (pc := 1) 79 (by rw [e5]; decide) (by rw [e5]; decide) (by rw [e5]; rfl) (by decide) dX3_startOf_1 ?_
    replace h := h.2.2.2.2.2.1 e5
    refine g_bipush hC (pc := 79) (v := (32 : Int32)) (by decide) dX3_startOf_79 ?_
    exact g_iret hC (pc := 81) (hK _ _ h) dX3_startOf_81
  by_cases e6 : x0 = (6 : Int32)
  · refine g_tableIn hC (pc := 1) 82 (by rw [e6]; decide) (by rw [e6]; decide) (by rw [e6]; rfl) (by decide) dX3_startOf_1 ?_
    replace h := h.2.2.2.2.2.2.1 e6
    refine g_bipush hC (pc := 82) (v := (39 : Int32)) (by decide) dX3_startOf_82 ?_
    refine g_iconst hC (pc := 84) (v := (5 : Int32)) (by decide) dX3_startOf_84 ?_
    refine g_iload_n hC (pc := 85) 0 rfl rfl dX3_startOf_85 ?_
    refine g_bipush hC (pc := 86) (v := (6 : Int32)) (by decide) dX3_startOf_86 ?_
    refine g_isub hC (pc := 88) dX3_startOf_88 ?_
    refine g_imul hC (pc := 89) dX3_startOf_89 ?_
    refine g_iadd hC (pc := 90) dX3_startOf_90 ?_
    exact g_iret hC (pc := 91) (hK _ _ h) dX3_startOf_91
  by_cases e7 : x0 = (7 : Int32)
  · refine g_tableIn hC (pc := 1) 82 (by rw [e7]; decide) (by rw [e7]; decide) (by rw [e7]; rfl) (by decide) dX3_startOf_1 ?_
    replace h := h.2.2.2.2.2.2.2.1 e7
    refine g_bipush hC (pc := 82) (v := (39 : Int32)) (by decide) dX3_startOf_82 ?_
    refine g_iconst hC (pc := 84) (v := (5 : Int32)) (by decide) dX3_startOf_84 ?_
    refine g_iload_n hC (pc := 85) 0 rfl rfl dX3_startOf_85 ?_
    refine g_bipush hC (pc := 86) (v := (6 : Int32)) (by decide) dX3_startOf_86 ?_
    refine g_isub hC (pc := 88) dX3_startOf_88 ?_
    refine g_imul hC (pc := 89) dX3_startOf_89 ?_
    refine g_iadd hC (pc := 90) dX3_startOf_90 ?_
    exact g_iret hC (pc := 91) (hK _ _ h) dX3_startOf_91
  by_cases e8 : x0 = (8 : Int32)
  · refine g_tableIn hC (pc := 1) 82 (by rw [e8]; decide) (by rw [e8]; decide) (by rw [e8]; rfl) (by decide) dX3_startOf_1 ?_
    replace h := h.2.2.2.2.2.2.2.2.1 e8
    refine g_bipush hC (pc := 82) (v := (39 : Int32)) (by decide) dX3_startOf_82 ?_
    refine g_iconst hC (pc := 84) (v := (5 : Int32)) (by decide) dX3_startOf_84 ?_
    refine g_iload_n hC (pc := 85) 0 rfl rfl dX3_startOf_85 ?_
    refine g_bipush hC (pc := 86) (v := (6 : Int32)) (by decide) dX3_startOf_86 ?_
    refine g_isub hC (pc := 88) dX3_startOf_88 ?_
    refine g_imul hC (pc := 89) dX3_startOf_89 ?_
    refine g_iadd hC (pc := 90) dX3_startOf_90 ?_
    exact g_iret hC (pc := 91) (hK _ _ h) dX3_startOf_91
  by_cases e9 : x0 = (9 : Int32)
  · refine g_tableIn hC (pc := 1) 82 (by rw [e9]; decide) (by rw [e9]; decide) (by rw [e9]; rfl) (by decide) dX3_startOf_1 ?_
    replace h := h.2.2.2.2.2.2.2.2.2.1 e9
    refine g_bipush hC (pc := 82) (v := (39 : Int32)) (by decide) dX3_startOf_82 ?_
    refine g_iconst hC (pc := 84) (v := (5 : Int32)) (by decide) dX3_startOf_84 ?_
    refine g_iload_n hC (pc := 85) 0 rfl rfl dX3_startOf_85 ?_
    refine g_bipush hC (pc := 86) (v := (6 : Int32)) (by decide) dX3_startOf_86 ?_
    refine g_isub hC (pc := 88) dX3_startOf_88 ?_
    refine g_imul hC (pc := 89) dX3_startOf_89 ?_
    refine g_iadd hC (pc := 90) dX3_startOf_90 ?_
    exact g_iret hC (pc := 91) (hK _ _ h) dX3_startOf_91
  by_cases e10 : x0 = (10 : Int32)
  · refine g_tableIn hC (pc := 1) 82 (by rw [e10]; decide) (by rw [e10]; decide) (by rw [e10]; rfl) (by decide) dX3_startOf_1 ?_
    replace h := h.2.2.2.2.2.2.2.2.2.2.1 e10
    refine g_bipush hC (pc := 82) (v := (39 : Int32)) (by decide) dX3_startOf_82 ?_
    refine g_iconst hC (pc := 84) (v := (5 : Int32)) (by decide) dX3_startOf_84 ?_
    refine g_iload_n hC (pc := 85) 0 rfl rfl dX3_startOf_85 ?_
    refine g_bipush hC (pc := 86) (v := (6 : Int32)) (by decide) dX3_startOf_86 ?_
    refine g_isub hC (pc := 88) dX3_startOf_88 ?_
    refine g_imul hC (pc := 89) dX3_startOf_89 ?_
    refine g_iadd hC (pc := 90) dX3_startOf_90 ?_
    exact g_iret hC (pc := 91) (hK _ _ h) dX3_startOf_91
  by_cases e11 : x0 = (11 : Int32)
  · refine g_tableIn hC (pc := 1) 92 (by rw [e11]; decide) (by rw [e11]; decide) (by rw [e11]; rfl) (by decide) dX3_startOf_1 ?_
    replace h := h.2.2.2.2.2.2.2.2.2.2.2.1 e11
    refine g_bipush hC (pc := 92) (v := (65 : Int32)) (by decide) dX3_startOf_92 ?_
    exact g_iret hC (pc := 94) (hK _ _ h) dX3_startOf_94
  refine g_tableOut hC (pc := 1) 95 (by have f0 := gne (n := 0) rfl e0; have f1 := gne (n := 1) rfl e1; have f2 := gne (n := 2) rfl e2; have f3 := gne (n := 3) rfl e3; have f4 := gne (n := 4) rfl e4; have f5 := gne (n := 5) rfl e5; have f6 := gne (n := 6) rfl e6; have f7 := gne (n := 7) rfl e7; have f8 := gne (n := 8) rfl e8; have f9 := gne (n := 9) rfl e9; have f10 := gne (n := 10) rfl e10; have f11 := gne (n := 11) rfl e11; omega) (by decide) dX3_startOf_1 ?_
  replace h := h.2.2.2.2.2.2.2.2.2.2.2.2 e0 e1 e2 e3 e4 e5 e6 e7 e8 e9 e10 e11
  refine g_bipush hC (pc := 95) (v := (70 : Int32)) (by decide) dX3_startOf_95 ?_
  exact g_iret hC (pc := 97) (hK _ _ h) dX3_startOf_97
theorem gc_X3_startOf : gCode yX3_startOf cX3_startOf 1 (some .int) 1 := ⟨q2948, q105, ⟨by decide, by decide⟩, rfl⟩
theorem m_X3_startOf {l : Launch} (hfl : l.stackTraces = false) {E : gE} {G : gS} {x0 : Int32} {X : Nat → gS → Prop} {K : Int32 → gS → Prop} (h : wp_X3_startOf (gAd E) G x0 X K) : gMet l yX3_startOf (ws_ yX3_startOf cX3_startOf 1 (some .int)) 0 0 [vI x0] E G (gRi K) X :=
  g_met hfl (plainFor_of_name (by decide +kernel)) rfl rfl rfl (gle rfl) (fun p e R s m args below meth c hC => w_X3_startOf hC (fun _ _ h => h) (fun _ _ h => h) h)
def wp_X3_kindHere_114 (ad : Nat → Nat) (X : Nat → gS → Prop) (K : Int32 → gS → Prop) (J9 : gS → Nat → Int32 → Int32 → Int32 → Prop) (G : gS) (t0 : Nat) (x1 : Int32) (x3 : Int32) (xs0 : Int32) : Prop :=
  J9 G t0 x1 xs0 (x3 + (1 : Int32))
theorem w_X3_kindHere_114 {C : gCx} (hC : gOk C "GoblinHouseholdModel" cX3_kindHere [] (some .int) "kindHere" 6 4 117) {K : Int32 → gS → Prop} {X : Nat → gS → Prop} (hK : ∀ r G, K r G → cxK C (some (vI r)) G) (hX : ∀ q G, X q G → cxX C q G) {J9 : gS → Nat → Int32 → Int32 → Int32 → Prop} (hJ9 : ∀ G z0 z1 z2 z3, J9 G z0 z1 z2 z3 → gGo C G 9 [(0, vQ (some z0)), (1, vI z1), (2, vI z2), (3, vI z3)] []) {G : gS} {t0 : Nat} {x1 : Int32} {x3 : Int32} {xs0 : Int32} (h : wp_X3_kindHere_114 (cxA C) X K J9 G t0 x1 x3 xs0) : gGo C G 114 [(0, vQ (some t0)), (1, vI x1), (3, vI x3)] [vI xs0] := by
  unfold wp_X3_kindHere_114 at h
  refine g_istore_n hC (pc := 114) (lv' := [(2, vI xs0), (0, vQ (some t0)), (1, vI x1), (3, vI x3)]) rfl (by decide) rfl dX3_kindHere_114 ?_
  refine g_iinc hC (pc := 115) 3 (d := (1 : Int32)) (v := (x3 + (1 : Int32))) (lv' := [(3, vI (x3 + (1 : Int32))), (2, vI xs0), (0, vQ (some t0)), (1, vI x1)]) rfl (by decide) rfl (by decide) rfl dX3_kindHere_115 ?_
  refine g_goto hC (pc := 118) 9 (by decide) dX3_kindHere_118 ?_
  exact g_sub [2, 3, 1, 0] rfl (hJ9 _ _ _ _ _ h)
def wp_X3_kindHere_90 (ad : Nat → Nat) (X : Nat → gS → Prop) (K : Int32 → gS → Prop) (J9 : gS → Nat → Int32 → Int32 → Int32 → Prop) (G : gS) (t0 : Nat) (x1 : Int32) (x2 : Int32) (x3 : Int32) (x4 : Int32) (x5 : Int32) : Prop :=
  wGetI G t0 0 16 fun i1 => (¬ x5 = x4 → wp_X3_kindHere_114 ad X K J9 G t0 (if x1 < (i1 + x5) then (i1 + x5) else x1) x3 x2) ∧ (x5 = x4 → wp_X3_kindHere_114 ad X K J9 G t0 (if x1 < (i1 + x5) then (i1 + x5) else x1) x3 x3)
theorem w_X3_kindHere_90 {C : gCx} (hC : gOk C "GoblinHouseholdModel" cX3_kindHere [] (some .int) "kindHere" 6 4 117) {K : Int32 → gS → Prop} {X : Nat → gS → Prop} (hK : ∀ r G, K r G → cxK C (some (vI r)) G) (hX : ∀ q G, X q G → cxX C q G) {J9 : gS → Nat → Int32 → Int32 → Int32 → Prop} (hJ9 : ∀ G z0 z1 z2 z3, J9 G z0 z1 z2 z3 → gGo C G 9 [(0, vQ (some z0)), (1, vI z1), (2, vI z2), (3, vI z3)] []) {G : gS} {t0 : Nat} {x1 : Int32} {x2 : Int32} {x3 : Int32} {x4 : Int32} {x5 : Int32} (h : wp_X3_kindHere_90 (cxA C) X K J9 G t0 x1 x2 x3 x4 x5) : gGo C G 90 [(0, vQ (some t0)), (1, vI x1), (2, vI x2), (3, vI x3), (4, vI x4), (5, vI x5)] [] := by
  unfold wp_X3_kindHere_90 at h
  refine g_iload_n hC (pc := 90) 1 rfl rfl dX3_kindHere_90 ?_
  refine g_aload_n hC (pc := 91) 0 rfl rfl dX3_kindHere_91 ?_
  refine g_getI hC (pc := 92) in_X3 (ci := 0) rfl 16 (by decide) q2493 (Or.inl rfl) h dX3_kindHere_92 (fun i1 h => ?_)
  refine g_iload hC (pc := 95) 5 rfl dX3_kindHere_95 ?_
  refine g_iadd hC (pc := 97) dX3_kindHere_97 ?_
  refine g_max hC (pc := 98) q2728 q471 q114 q472 (gle rfl) (gle rfl) (gle rfl) dX3_kindHere_98 ?_
  refine g_istore_n hC (pc := 101) (lv' := [(1, vI (if x1 < (i1 + x5) then (i1 + x5) else x1)), (0, vQ (some t0)), (2, vI x2), (3, vI x3), (4, vI x4), (5, vI x5)]) rfl (by decide) rfl dX3_kindHere_101 ?_
  refine g_iload hC (pc := 102) 5 rfl dX3_kindHere_102 ?_
  refine g_iload hC (pc := 104) 4 rfl dX3_kindHere_104 ?_
  refine g_icmp_ne hC (pc := 106) 113 h (by decide) dX3_kindHere_106 (fun h => ?_) (fun h => ?_)
  · refine g_iload_n hC (pc := 113) 2 rfl rfl dX3_kindHere_113 ?_
    exact g_sub [1, 0, 3] rfl (w_X3_kindHere_114 hC hK hX hJ9 h)
  · refine g_iload_n hC (pc := 109) 3 rfl rfl dX3_kindHere_109 ?_
    refine g_goto hC (pc := 110) 114 (by decide) dX3_kindHere_110 ?_
    exact g_sub [1, 0, 3] rfl (w_X3_kindHere_114 hC hK hX hJ9 h)
def wp_X3_kindHere_36 (ad : Nat → Nat) (X : Nat → gS → Prop) (K : Int32 → gS → Prop) (J9 : gS → Nat → Int32 → Int32 → Int32 → Prop) (J36 : gS → Nat → Int32 → Int32 → Int32 → Int32 → Int32 → Prop) (G : gS) (t0 : Nat) (x1 : Int32) (x2 : Int32) (x3 : Int32) (x4 : Int32) (x5 : Int32) : Prop :=
  (x4 ≤ x5 → wp_X3_kindHere_90 ad X K J9 G t0 x1 x2 x3 x4 x5) ∧ (¬ x4 ≤ x5 → wGetI G t0 0 16 fun i1 => wGetI G t0 0 15 fun i2 => (i2 ≤ (i1 + x5) → wp_X3_kindHere_90 ad X K J9 G t0 x1 x2 x3 x4 x5) ∧ (¬ i2 ≤ (i1 + x5) → wGetQ G t0 0 10 fun q3 => wGetI G t0 0 16 fun i4 => wNN q3 fun c5 => wAldI G c5 (i4 + x5) fun i6 => wp_X3_startOf ad G x3 X (fun r8 G7 => (gIs G7 (ad 147) 7 ∧ wp_J7_charAt ad G7 (ad 147) (r8 + x5) X (fun r10 G9 => (¬ i6 = r10 → wp_X3_kindHere_90 ad X K J9 G9 t0 x1 x2 x3 x4 x5) ∧ (i6 = r10 → J36 G9 t0 x1 x2 x3 x4 (x5 + (1 : Int32))))))))
theorem w_X3_kindHere_36 {C : gCx} (hC : gOk C "GoblinHouseholdModel" cX3_kindHere [] (some .int) "kindHere" 6 4 117) {K : Int32 → gS → Prop} {X : Nat → gS → Prop} (hK : ∀ r G, K r G → cxK C (some (vI r)) G) (hX : ∀ q G, X q G → cxX C q G) {J9 : gS → Nat → Int32 → Int32 → Int32 → Prop} (hJ9 : ∀ G z0 z1 z2 z3, J9 G z0 z1 z2 z3 → gGo C G 9 [(0, vQ (some z0)), (1, vI z1), (2, vI z2), (3, vI z3)] []) (n : Nat) : ∀ (G : gS) (t0 : Nat) (x1 : Int32) (x2 : Int32) (x3 : Int32) (x4 : Int32) (x5 : Int32), gLoop (fun _ _ _ _ _ _ _ => False) (wp_X3_kindHere_36 (cxA C) X K J9) n G t0 x1 x2 x3 x4 x5 → gGo C G 36 [(0, vQ (some t0)), (1, vI x1), (2, vI x2), (3, vI x3), (4, vI x4), (5, vI x5)] [] := by
  induction n with
  | zero => intro G t0 x1 x2 x3 x4 x5 h; exact h.elim
  | succ n ih =>
    intro G t0 x1 x2 x3 x4 x5 h
    have hJ36 := ih
    replace h : wp_X3_kindHere_36 (cxA C) X K J9 _ G t0 x1 x2 x3 x4 x5 := h
    unfold wp_X3_kindHere_36 at h
    refine g_iload hC (pc := 36) 5 rfl dX3_kindHere_36 ?_
    refine g_iload hC (pc := 38) 4 rfl dX3_kindHere_38 ?_
    refine g_icmp_ge hC (pc := 40) 90 h (by decide) dX3_kindHere_40 (fun h => ?_) (fun h => ?_)
    · exact g_sub [0, 1, 2, 3, 4, 5] rfl (w_X3_kindHere_90 hC hK hX hJ9 h)
    · refine g_aload_n hC (pc := 43) 0 rfl rfl dX3_kindHere_43 ?_
      refine g_getI hC (pc := 44) in_X3 (ci := 0) rfl 16 (by decide) q2493 (Or.inl rfl) h dX3_kindHere_44 (fun i1 h => ?_)
      refine g_iload hC (pc := 47) 5 rfl dX3_kindHere_47 ?_
      refine g_iadd hC (pc := 49) dX3_kindHere_49 ?_
      refine g_aload_n hC (pc := 50) 0 rfl rfl dX3_kindHere_50 ?_
      refine g_getI hC (pc := 51) in_X3 (ci := 0) rfl 15 (by decide) q2492 (Or.inl rfl) h dX3_kindHere_51 (fun i2 h => ?_)
      refine g_icmp_ge hC (pc := 54) 90 h (by decide) dX3_kindHere_54 (fun h => ?_) (fun h => ?_)
      · exact g_sub [0, 1, 2, 3, 4, 5] rfl (w_X3_kindHere_90 hC hK hX hJ9 h)
      · refine g_aload_n hC (pc := 57) 0 rfl rfl dX3_kindHere_57 ?_
        refine g_getQ hC (pc := 58) in_X3 (ci := 0) rfl 10 (by decide) q2487 (Or.inl rfl) h dX3_kindHere_58 (fun q3 h => ?_)
        refine g_aload_n hC (pc := 61) 0 rfl rfl dX3_kindHere_61 ?_
        refine g_getI hC (pc := 62) in_X3 (ci := 0) rfl 16 (by decide) q2493 (Or.inl rfl) h dX3_kindHere_62 (fun i4 h => ?_)
        refine g_iload hC (pc := 65) 5 rfl dX3_kindHere_65 ?_
        refine g_iadd hC (pc := 67) dX3_kindHere_67 ?_
        rcases q3 with _ | c5
        · exact (gNN0 h).elim
        replace h := gNN1 h
        refine g_aldI hC (pc := 68) h dX3_kindHere_68 (fun i6 h => ?_)
        refine g_ldcS hC (pc := 69) (List.mem_of_getElem? (i := 47) rfl) dX3_kindHere_69 ?_
        refine g_iload_n hC (pc := 71) 3 rfl rfl dX3_kindHere_71 ?_
        refine g_callS hC (pc := 72) (b := 0) (As := [vI x3]) gc_X3_startOf (m_X3_startOf hC.fl h) q2946 q2947 (gle rfl) (gle rfl) rfl (gle rfl) rfl dX3_kindHere_72 (gk_i fun r8 G7 h => ?_) (fun _ _ h hio => g_out0 hC (hX _ _ h) hio)
        refine g_iload hC (pc := 75) 5 rfl dX3_kindHere_75 ?_
        refine g_iadd hC (pc := 77) dX3_kindHere_77 ?_
        obtain ⟨hi, h⟩ := h
        refine g_callV hC (pc := 78) (ci := 7) (As := [vI (r8 + x5)]) gc_J7_charAt (m_J7_charAt hC.fl h) rfl hi q2950 q2015 q2016 (gle rfl) (gle rfl) rfl (gle rfl) rfl dX3_kindHere_78 (gk_i fun r10 G9 h => ?_) (fun _ _ h hio => g_out0 hC (hX _ _ h) hio)
        refine g_icmp_ne hC (pc := 81) 90 h (by decide) dX3_kindHere_81 (fun h => ?_) (fun h => ?_)
        · exact g_sub [0, 1, 2, 3, 4, 5] rfl (w_X3_kindHere_90 hC hK hX hJ9 h)
        · refine g_iinc hC (pc := 84) 5 (d := (1 : Int32)) (v := (x5 + (1 : Int32))) (lv' := [(5, vI (x5 + (1 : Int32))), (0, vQ (some t0)), (1, vI x1), (2, vI x2), (3, vI x3), (4, vI x4)]) rfl (by decide) rfl (by decide) rfl dX3_kindHere_84 ?_
          refine g_goto hC (pc := 87) 36 (by decide) dX3_kindHere_87 ?_
          exact g_sub [1, 2, 3, 4, 5, 0] rfl (hJ36 _ _ _ _ _ _ _ h)
def wp_X3_kindHere_163 (ad : Nat → Nat) (X : Nat → gS → Prop) (K : Int32 → gS → Prop) (G : gS) (x2 : Int32) (xs0 : Int32) (xs1 : Int32) (ts2 : Nat) : Prop :=
  wPut G ts2 0 16 (.int (xs1 + xs0)) fun G1 => K x2 G1
theorem w_X3_kindHere_163 {C : gCx} (hC : gOk C "GoblinHouseholdModel" cX3_kindHere [] (some .int) "kindHere" 6 4 117) {K : Int32 → gS → Prop} {X : Nat → gS → Prop} (hK : ∀ r G, K r G → cxK C (some (vI r)) G) (hX : ∀ q G, X q G → cxX C q G) {G : gS} {x2 : Int32} {xs0 : Int32} {xs1 : Int32} {ts2 : Nat} (h : wp_X3_kindHere_163 (cxA C) X K G x2 xs0 xs1 ts2) : gGo C G 163 [(2, vI x2)] [vI xs0, vI xs1, vQ (some ts2)] := by
  unfold wp_X3_kindHere_163 at h
  refine g_iadd hC (pc := 163) dX3_kindHere_163 ?_
  refine g_put hC (pc := 164) in_X3 (ci := 0) rfl 16 (by decide) tyX3_ok nmX3 q2493 (Or.inl rfl) rfl rfl rfl h dX3_kindHere_164 (fun G1 h => ?_)
  refine g_iload_n hC (pc := 167) 0 rfl rfl dX3_kindHere_167 ?_
  exact g_iret hC (pc := 168) (hK _ _ h) dX3_kindHere_168
def wp_X3_kindHere_135 (ad : Nat → Nat) (X : Nat → gS → Prop) (K : Int32 → gS → Prop) (G : gS) (t0 : Nat) (x2 : Int32) (xs0 : Int32) (ts1 : Nat) : Prop :=
  wPut G ts1 0 17 (.int xs0) fun G1 => wGetI G1 t0 0 16 fun i2 => (¬ x2 = (-1 : Int32) → wp_X3_startOf ad G1 (x2 + (1 : Int32)) X (fun r4 G3 => wp_X3_startOf ad G3 x2 X (fun r6 G5 => wp_X3_kindHere_163 ad X K G5 x2 (r4 - r6) i2 t0))) ∧ (x2 = (-1 : Int32) → wp_X3_kindHere_163 ad X K G1 x2 (0 : Int32) i2 t0)
theorem w_X3_kindHere_135 {C : gCx} (hC : gOk C "GoblinHouseholdModel" cX3_kindHere [] (some .int) "kindHere" 6 4 117) {K : Int32 → gS → Prop} {X : Nat → gS → Prop} (hK : ∀ r G, K r G → cxK C (some (vI r)) G) (hX : ∀ q G, X q G → cxX C q G) {G : gS} {t0 : Nat} {x2 : Int32} {xs0 : Int32} {ts1 : Nat} (h : wp_X3_kindHere_135 (cxA C) X K G t0 x2 xs0 ts1) : gGo C G 135 [(0, vQ (some t0)), (2, vI x2)] [vI xs0, vQ (some ts1)] := by
  unfold wp_X3_kindHere_135 at h
  refine g_put hC (pc := 135) in_X3 (ci := 0) rfl 17 (by decide) tyX3_ok nmX3 q2494 (Or.inl rfl) rfl rfl rfl h dX3_kindHere_135 (fun G1 h => ?_)
  refine g_aload_n hC (pc := 138) 0 rfl rfl dX3_kindHere_138 ?_
  refine g_dup hC (pc := 139) rfl dX3_kindHere_139 ?_
  refine g_getI hC (pc := 140) in_X3 (ci := 0) rfl 16 (by decide) q2493 (Or.inl rfl) h dX3_kindHere_140 (fun i2 h => ?_)
  refine g_iload_n hC (pc := 143) 1 rfl rfl dX3_kindHere_143 ?_
  refine g_iconst hC (pc := 144) (v := (-1 : Int32)) (by decide) dX3_kindHere_144 ?_
  refine g_icmp_ne hC (pc := 145) 152 h (by decide) dX3_kindHere_145 (fun h => ?_) (fun h => ?_)
  · refine g_iload_n hC (pc := 152) 1 rfl rfl dX3_kindHere_152 ?_
    refine g_iconst hC (pc := 153) (v := (1 : Int32)) (by decide) dX3_kindHere_153 ?_
    refine g_iadd hC (pc := 154) dX3_kindHere_154 ?_
    refine g_callS hC (pc := 155) (b := 0) (As := [vI (x2 + (1 : Int32))]) gc_X3_startOf (m_X3_startOf hC.fl h) q2946 q2947 (gle rfl) (gle rfl) rfl (gle rfl) rfl dX3_kindHere_155 (gk_i fun r4 G3 h => ?_) (fun _ _ h hio => g_out0 hC (hX _ _ h) hio)
    refine g_iload_n hC (pc := 158) 1 rfl rfl dX3_kindHere_158 ?_
    refine g_callS hC (pc := 159) (b := 0) (As := [vI x2]) gc_X3_startOf (m_X3_startOf hC.fl h) q2946 q2947 (gle rfl) (gle rfl) rfl (gle rfl) rfl dX3_kindHere_159 (gk_i fun r6 G5 h => ?_) (fun _ _ h hio => g_out0 hC (hX _ _ h) hio)
    refine g_isub hC (pc := 162) dX3_kindHere_162 ?_
    exact g_sub [1] rfl (w_X3_kindHere_163 hC hK hX h)
  · refine g_iconst hC (pc := 148) (v := (0 : Int32)) (by decide) dX3_kindHere_148 ?_
    refine g_goto hC (pc := 149) 163 (by decide) dX3_kindHere_149 ?_
    exact g_sub [1] rfl (w_X3_kindHere_163 hC hK hX h)
def wp_X3_kindHere_121 (ad : Nat → Nat) (X : Nat → gS → Prop) (K : Int32 → gS → Prop) (G : gS) (t0 : Nat) (x1 : Int32) (x2 : Int32) : Prop :=
  (¬ x2 = (-1 : Int32) → wGetI G t0 0 17 fun i1 => wp_X3_kindHere_135 ad X K G t0 x2 i1 t0) ∧ (x2 = (-1 : Int32) → wp_X3_kindHere_135 ad X K G t0 x2 x1 t0)
theorem w_X3_kindHere_121 {C : gCx} (hC : gOk C "GoblinHouseholdModel" cX3_kindHere [] (some .int) "kindHere" 6 4 117) {K : Int32 → gS → Prop} {X : Nat → gS → Prop} (hK : ∀ r G, K r G → cxK C (some (vI r)) G) (hX : ∀ q G, X q G → cxX C q G) {G : gS} {t0 : Nat} {x1 : Int32} {x2 : Int32} (h : wp_X3_kindHere_121 (cxA C) X K G t0 x1 x2) : gGo C G 121 [(0, vQ (some t0)), (1, vI x1), (2, vI x2)] [] := by
  unfold wp_X3_kindHere_121 at h
  refine g_aload_n hC (pc := 121) 0 rfl rfl dX3_kindHere_121 ?_
  refine g_iload_n hC (pc := 122) 2 rfl rfl dX3_kindHere_122 ?_
  refine g_iconst hC (pc := 123) (v := (-1 : Int32)) (by decide) dX3_kindHere_123 ?_
  refine g_icmp_ne hC (pc := 124) 131 h (by decide) dX3_kindHere_124 (fun h => ?_) (fun h => ?_)
  · refine g_aload_n hC (pc := 131) 0 rfl rfl dX3_kindHere_131 ?_
    refine g_getI hC (pc := 132) in_X3 (ci := 0) rfl 17 (by decide) q2494 (Or.inl rfl) h dX3_kindHere_132 (fun i1 h => ?_)
    exact g_sub [0, 2] rfl (w_X3_kindHere_135 hC hK hX h)
  · refine g_iload_n hC (pc := 127) 1 rfl rfl dX3_kindHere_127 ?_
    refine g_goto hC (pc := 128) 135 (by decide) dX3_kindHere_128 ?_
    exact g_sub [0, 2] rfl (w_X3_kindHere_135 hC hK hX h)
def wp_X3_kindHere_9 (ad : Nat → Nat) (X : Nat → gS → Prop) (K : Int32 → gS → Prop) (J9 : gS → Nat → Int32 → Int32 → Int32 → Prop) (G : gS) (t0 : Nat) (x1 : Int32) (x2 : Int32) (x3 : Int32) : Prop :=
  ((12 : Int32) ≤ x3 → wp_X3_kindHere_121 ad X K G t0 x1 x2) ∧ (¬ (12 : Int32) ≤ x3 → (¬ x2 = (-1 : Int32) → wp_X3_kindHere_121 ad X K G t0 x1 x2) ∧ (x2 = (-1 : Int32) → wp_X3_startOf ad G (x3 + (1 : Int32)) X (fun r2 G1 => wp_X3_startOf ad G1 x3 X (fun r4 G3 => gLoop (fun _ _ _ _ _ _ _ => False) (wp_X3_kindHere_36 ad X K J9) gFuel G3 t0 x1 x2 x3 (r2 - r4) (0 : Int32)))))
theorem w_X3_kindHere_9 {C : gCx} (hC : gOk C "GoblinHouseholdModel" cX3_kindHere [] (some .int) "kindHere" 6 4 117) {K : Int32 → gS → Prop} {X : Nat → gS → Prop} (hK : ∀ r G, K r G → cxK C (some (vI r)) G) (hX : ∀ q G, X q G → cxX C q G) (n : Nat) : ∀ (G : gS) (t0 : Nat) (x1 : Int32) (x2 : Int32) (x3 : Int32), gLoop (fun _ _ _ _ _ => False) (wp_X3_kindHere_9 (cxA C) X K) n G t0 x1 x2 x3 → gGo C G 9 [(0, vQ (some t0)), (1, vI x1), (2, vI x2), (3, vI x3)] [] := by
  induction n with
  | zero => intro G t0 x1 x2 x3 h; exact h.elim
  | succ n ih =>
    intro G t0 x1 x2 x3 h
    have hJ9 := ih
    replace h : wp_X3_kindHere_9 (cxA C) X K _ G t0 x1 x2 x3 := h
    unfold wp_X3_kindHere_9 at h
    refine g_iload_n hC (pc := 9) 3 rfl rfl dX3_kindHere_9 ?_
    refine g_bipush hC (pc := 10) (v := (12 : Int32)) (by decide) dX3_kindHere_10 ?_
    refine g_icmp_ge hC (pc := 12) 121 h (by decide) dX3_kindHere_12 (fun h => ?_) (fun h => ?_)
    · exact g_sub [0, 1, 2] rfl (w_X3_kindHere_121 hC hK hX h)
    · refine g_iload_n hC (pc := 15) 2 rfl rfl dX3_kindHere_15 ?_
      refine g_iconst hC (pc := 16) (v := (-1 : Int32)) (by decide) dX3_kindHere_16 ?_
      refine g_icmp_ne hC (pc := 17) 121 h (by decide) dX3_kindHere_17 (fun h => ?_) (fun h => ?_)
      · exact g_sub [0, 1, 2] rfl (w_X3_kindHere_121 hC hK hX h)
      · refine g_iload_n hC (pc := 20) 3 rfl rfl dX3_kindHere_20 ?_
        refine g_iconst hC (pc := 21) (v := (1 : Int32)) (by decide) dX3_kindHere_21 ?_
        refine g_iadd hC (pc := 22) dX3_kindHere_22 ?_
        refine g_callS hC (pc := 23) (b := 0) (As := [vI (x3 + (1 : Int32))]) gc_X3_startOf (m_X3_startOf hC.fl h) q2946 q2947 (gle rfl) (gle rfl) rfl (gle rfl) rfl dX3_kindHere_23 (gk_i fun r2 G1 h => ?_) (fun _ _ h hio => g_out0 hC (hX _ _ h) hio)
        refine g_iload_n hC (pc := 26) 3 rfl rfl dX3_kindHere_26 ?_
        refine g_callS hC (pc := 27) (b := 0) (As := [vI x3]) gc_X3_startOf (m_X3_startOf hC.fl h) q2946 q2947 (gle rfl) (gle rfl) rfl (gle rfl) rfl dX3_kindHere_27 (gk_i fun r4 G3 h => ?_) (fun _ _ h hio => g_out0 hC (hX _ _ h) hio)
        refine g_isub hC (pc := 30) dX3_kindHere_30 ?_
        refine g_istore hC (pc := 31) (lv' := [(4, vI (r2 - r4)), (0, vQ (some t0)), (1, vI x1), (2, vI x2), (3, vI x3)]) (by decide) rfl dX3_kindHere_31 ?_
        refine g_iconst hC (pc := 33) (v := (0 : Int32)) (by decide) dX3_kindHere_33 ?_
        refine g_istore hC (pc := 34) (lv' := [(5, vI (0 : Int32)), (4, vI (r2 - r4)), (0, vQ (some t0)), (1, vI x1), (2, vI x2), (3, vI x3)]) (by decide) rfl dX3_kindHere_34 ?_
        exact g_sub [2, 3, 4, 5, 1, 0] rfl (w_X3_kindHere_36 hC hK hX hJ9 gFuel _ _ _ _ _ _ _ h)
def wp_X3_kindHere (ad : Nat → Nat) (G : gS) (t0 : Nat) (X : Nat → gS → Prop) (K : Int32 → gS → Prop) : Prop :=
  wGetI G t0 0 16 fun i1 => gLoop (fun _ _ _ _ _ => False) (wp_X3_kindHere_9 ad X K) gFuel G t0 i1 (-1 : Int32) (0 : Int32)
theorem w_X3_kindHere {C : gCx} (hC : gOk C "GoblinHouseholdModel" cX3_kindHere [] (some .int) "kindHere" 6 4 117) {K : Int32 → gS → Prop} {X : Nat → gS → Prop} (hK : ∀ r G, K r G → cxK C (some (vI r)) G) (hX : ∀ q G, X q G → cxX C q G) {G : gS} {t0 : Nat} (h : wp_X3_kindHere (cxA C) G t0 X K) : gGo C G 0 [(0, vQ (some t0))] [] := by
  unfold wp_X3_kindHere at h
  refine g_aload_n hC (pc := 0) 0 rfl rfl dX3_kindHere_0 ?_
  refine g_getI hC (pc := 1) in_X3 (ci := 0) rfl 16 (by decide) q2493 (Or.inl rfl) h dX3_kindHere_1 (fun i1 h => ?_)
  refine g_istore_n hC (pc := 4) (lv' := [(1, vI i1), (0, vQ (some t0))]) rfl (by decide) rfl dX3_kindHere_4 ?_
  refine g_iconst hC (pc := 5) (v := (-1 : Int32)) (by decide) dX3_kindHere_5 ?_
  refine g_istore_n hC (pc := 6) (lv' := [(2, vI (-1 : Int32)), (1, vI i1), (0, vQ (some t0))]) rfl (by decide) rfl dX3_kindHere_6 ?_
  refine g_iconst hC (pc := 7) (v := (0 : Int32)) (by decide) dX3_kindHere_7 ?_
  refine g_istore_n hC (pc := 8) (lv' := [(3, vI (0 : Int32)), (2, vI (-1 : Int32)), (1, vI i1), (0, vQ (some t0))]) rfl (by decide) rfl dX3_kindHere_8 ?_
  exact g_sub [3, 2, 1, 0] rfl (w_X3_kindHere_9 hC hK hX gFuel _ _ _ _ _ h)
theorem gc_X3_kindHere : gCode yX3_kindHere cX3_kindHere 6 (some .int) 0 := ⟨q2945, q105, ⟨by decide, by decide⟩, rfl⟩
theorem m_X3_kindHere {l : Launch} (hfl : l.stackTraces = false) {E : gE} {G : gS} {t0 : Nat} {X : Nat → gS → Prop} {K : Int32 → gS → Prop} (h : wp_X3_kindHere (gAd E) G t0 X K) : gMet l yX3_kindHere (ws_ yX3_kindHere cX3_kindHere 6 (some .int)) 4 117 [vQ (some t0)] E G (gRi K) X :=
  g_met hfl (plainFor_of_name (by decide +kernel)) rfl rfl rfl (gle rfl) (fun p e R s m args below meth c hC => w_X3_kindHere hC (fun _ _ h => h) (fun _ _ h => h) h)
def wp_X3_letterHere (ad : Nat → Nat) (G : gS) (t0 : Nat) (X : Nat → gS → Prop) (K : Int32 → gS → Prop) : Prop :=
  wGetI G t0 0 16 fun i1 => wGetI G t0 0 15 fun i2 => (i2 ≤ i1 → K (-1 : Int32) G) ∧ (¬ i2 ≤ i1 → wGetQ G t0 0 10 fun q3 => wGetI G t0 0 16 fun i4 => wNN q3 fun c5 => wAldI G c5 i4 fun i6 => K i6 G)
theorem w_X3_letterHere {C : gCx} (hC : gOk C "GoblinHouseholdModel" cX3_letterHere [] (some .int) "letterHere" 1 0 0) {K : Int32 → gS → Prop} {X : Nat → gS → Prop} (hK : ∀ r G, K r G → cxK C (some (vI r)) G) (hX : ∀ q G, X q G → cxX C q G) {G : gS} {t0 : Nat} (h : wp_X3_letterHere (cxA C) G t0 X K) : gGo C G 0 [(0, vQ (some t0))] [] := by
  unfold wp_X3_letterHere at h
  refine g_aload_n hC (pc := 0) 0 rfl rfl dX3_letterHere_0 ?_
  refine g_getI hC (pc := 1) in_X3 (ci := 0) rfl 16 (by decide) q2493 (Or.inl rfl) h dX3_letterHere_1 (fun i1 h => ?_)
  refine g_aload_n hC (pc := 4) 0 rfl rfl dX3_letterHere_4 ?_
  refine g_getI hC (pc := 5) in_X3 (ci := 0) rfl 15 (by decide) q2492 (Or.inl rfl) h dX3_letterHere_5 (fun i2 h => ?_)
  refine g_icmp_ge hC (pc := 8) 23 h (by decide) dX3_letterHere_8 (fun h => ?_) (fun h => ?_)
  · refine g_iconst hC (pc := 23) (v := (-1 : Int32)) (by decide) dX3_letterHere_23 ?_
    exact g_iret hC (pc := 24) (hK _ _ h) dX3_letterHere_24
  · refine g_aload_n hC (pc := 11) 0 rfl rfl dX3_letterHere_11 ?_
    refine g_getQ hC (pc := 12) in_X3 (ci := 0) rfl 10 (by decide) q2487 (Or.inl rfl) h dX3_letterHere_12 (fun q3 h => ?_)
    refine g_aload_n hC (pc := 15) 0 rfl rfl dX3_letterHere_15 ?_
    refine g_getI hC (pc := 16) in_X3 (ci := 0) rfl 16 (by decide) q2493 (Or.inl rfl) h dX3_letterHere_16 (fun i4 h => ?_)
    rcases q3 with _ | c5
    · exact (gNN0 h).elim
    replace h := gNN1 h
    refine g_aldI hC (pc := 19) h dX3_letterHere_19 (fun i6 h => ?_)
    refine g_goto hC (pc := 20) 24 (by decide) dX3_letterHere_20 ?_
    exact g_iret hC (pc := 24) (hK _ _ h) dX3_letterHere_24
theorem gc_X3_letterHere : gCode yX3_letterHere cX3_letterHere 1 (some .int) 0 := ⟨q2954, q105, ⟨by decide, by decide⟩, rfl⟩
theorem m_X3_letterHere {l : Launch} (hfl : l.stackTraces = false) {E : gE} {G : gS} {t0 : Nat} {X : Nat → gS → Prop} {K : Int32 → gS → Prop} (h : wp_X3_letterHere (gAd E) G t0 X K) : gMet l yX3_letterHere (ws_ yX3_letterHere cX3_letterHere 1 (some .int)) 0 0 [vQ (some t0)] E G (gRi K) X :=
  g_met hfl (plainFor_of_name (by decide +kernel)) rfl rfl rfl (gle rfl) (fun p e R s m args below meth c hC => w_X3_letterHere hC (fun _ _ h => h) (fun _ _ h => h) h)
def wp_X3_reads_64 (ad : Nat → Nat) (X : Nat → gS → Prop) (K : Int32 → gS → Prop) (G : gS) (xs0 : Int32) (ts1 : Nat) : Prop :=
  wPut G ts1 0 17 (.int xs0) fun G1 => K (0 : Int32) G1
theorem w_X3_reads_64 {C : gCx} (hC : gOk C "GoblinHouseholdModel" cX3_reads [] (some .int) "reads" 3 1 30) {K : Int32 → gS → Prop} {X : Nat → gS → Prop} (hK : ∀ r G, K r G → cxK C (some (vI r)) G) (hX : ∀ q G, X q G → cxX C q G) {G : gS} {xs0 : Int32} {ts1 : Nat} (h : wp_X3_reads_64 (cxA C) X K G xs0 ts1) : gGo C G 64 [] [vI xs0, vQ (some ts1)] := by
  unfold wp_X3_reads_64 at h
  refine g_put hC (pc := 64) in_X3 (ci := 0) rfl 17 (by decide) tyX3_ok nmX3 q2494 (Or.inl rfl) rfl rfl rfl h dX3_reads_64 (fun G1 h => ?_)
  refine g_iconst hC (pc := 67) (v := (0 : Int32)) (by decide) dX3_reads_67 ?_
  exact g_iret hC (pc := 68) (hK _ _ h) dX3_reads_68
def wp_X3_reads_44 (ad : Nat → Nat) (X : Nat → gS → Prop) (K : Int32 → gS → Prop) (G : gS) (t0 : Nat) : Prop :=
  wGetI G t0 0 17 fun i1 => (¬ i1 = (-1 : Int32) → wGetI G t0 0 17 fun i2 => wp_X3_reads_64 ad X K G i2 t0) ∧ (i1 = (-1 : Int32) → wGetI G t0 0 16 fun i3 => wp_X3_reads_64 ad X K G i3 t0)
theorem w_X3_reads_44 {C : gCx} (hC : gOk C "GoblinHouseholdModel" cX3_reads [] (some .int) "reads" 3 1 30) {K : Int32 → gS → Prop} {X : Nat → gS → Prop} (hK : ∀ r G, K r G → cxK C (some (vI r)) G) (hX : ∀ q G, X q G → cxX C q G) {G : gS} {t0 : Nat} (h : wp_X3_reads_44 (cxA C) X K G t0) : gGo C G 44 [(0, vQ (some t0))] [] := by
  unfold wp_X3_reads_44 at h
  refine g_aload_n hC (pc := 44) 0 rfl rfl dX3_reads_44 ?_
  refine g_aload_n hC (pc := 45) 0 rfl rfl dX3_reads_45 ?_
  refine g_getI hC (pc := 46) in_X3 (ci := 0) rfl 17 (by decide) q2494 (Or.inl rfl) h dX3_reads_46 (fun i1 h => ?_)
  refine g_iconst hC (pc := 49) (v := (-1 : Int32)) (by decide) dX3_reads_49 ?_
  refine g_icmp_ne hC (pc := 50) 60 h (by decide) dX3_reads_50 (fun h => ?_) (fun h => ?_)
  · refine g_aload_n hC (pc := 60) 0 rfl rfl dX3_reads_60 ?_
    refine g_getI hC (pc := 61) in_X3 (ci := 0) rfl 17 (by decide) q2494 (Or.inl rfl) h dX3_reads_61 (fun i2 h => ?_)
    exact g_sub [] rfl (w_X3_reads_64 hC hK hX h)
  · refine g_aload_n hC (pc := 53) 0 rfl rfl dX3_reads_53 ?_
    refine g_getI hC (pc := 54) in_X3 (ci := 0) rfl 16 (by decide) q2493 (Or.inl rfl) h dX3_reads_54 (fun i3 h => ?_)
    refine g_goto hC (pc := 57) 64 (by decide) dX3_reads_57 ?_
    exact g_sub [] rfl (w_X3_reads_64 hC hK hX h)
def wp_X3_reads (ad : Nat → Nat) (G : gS) (t0 : Nat) (x1 : Int32) (x2 : Int32) (X : Nat → gS → Prop) (K : Int32 → gS → Prop) : Prop :=
  wGetI G t0 0 17 fun i1 => (¬ i1 = (-1 : Int32) → wp_X3_reads_44 ad X K G t0) ∧ (i1 = (-1 : Int32) → (gIs G t0 0 ∧ wp_X3_letterHere ad G t0  X (fun r3 G2 => wp_X3_isIn ad G2 r3 x1 x2 X (fun r5 G4 => (r5 = (0 : Int32) → wp_X3_reads_44 ad X K G4 t0) ∧ (¬ r5 = (0 : Int32) → wGetI G4 t0 0 16 fun i6 => wPut G4 t0 0 16 (.int (i6 + (1 : Int32))) fun G7 => wGetQ G7 t0 0 10 fun q8 => wGetI G7 t0 0 16 fun i9 => wNN q8 fun c10 => wAldI G7 c10 (i9 - (1 : Int32)) fun i11 => K (i11 - x1) G7)))))
theorem w_X3_reads {C : gCx} (hC : gOk C "GoblinHouseholdModel" cX3_reads [] (some .int) "reads" 3 1 30) {K : Int32 → gS → Prop} {X : Nat → gS → Prop} (hK : ∀ r G, K r G → cxK C (some (vI r)) G) (hX : ∀ q G, X q G → cxX C q G) {G : gS} {t0 : Nat} {x1 : Int32} {x2 : Int32} (h : wp_X3_reads (cxA C) G t0 x1 x2 X K) : gGo C G 0 [(0, vQ (some t0)), (1, vI x1), (2, vI x2)] [] := by
  unfold wp_X3_reads at h
  refine g_aload_n hC (pc := 0) 0 rfl rfl dX3_reads_0 ?_
  refine g_getI hC (pc := 1) in_X3 (ci := 0) rfl 17 (by decide) q2494 (Or.inl rfl) h dX3_reads_1 (fun i1 h => ?_)
  refine g_iconst hC (pc := 4) (v := (-1 : Int32)) (by decide) dX3_reads_4 ?_
  refine g_icmp_ne hC (pc := 5) 44 h (by decide) dX3_reads_5 (fun h => ?_) (fun h => ?_)
  · exact g_sub [0] rfl (w_X3_reads_44 hC hK hX h)
  · refine g_aload_n hC (pc := 8) 0 rfl rfl dX3_reads_8 ?_
    obtain ⟨hi, h⟩ := h
    refine g_callV hC (pc := 9) (ci := 0) (As := []) gc_X3_letterHere (m_X3_letterHere hC.fl h) rfl hi q2951 q2953 qs86 (gle rfl) (gle rfl) rfl (gle rfl) rfl dX3_reads_9 (gk_i fun r3 G2 h => ?_) (fun _ _ h hio => g_out0 hC (hX _ _ h) hio)
    refine g_iload_n hC (pc := 12) 1 rfl rfl dX3_reads_12 ?_
    refine g_iload_n hC (pc := 13) 2 rfl rfl dX3_reads_13 ?_
    refine g_callS hC (pc := 14) (b := 0) (As := [vI r3, vI x1, vI x2]) gc_X3_isIn (m_X3_isIn hC.fl h) q2577 q2578 (gle rfl) (gle rfl) rfl (gle rfl) rfl dX3_reads_14 (gk_i fun r5 G4 h => ?_) (fun _ _ h hio => g_out0 hC (hX _ _ h) hio)
    refine g_if_eq hC (pc := 17) 44 h (by decide) dX3_reads_17 (fun h => ?_) (fun h => ?_)
    · exact g_sub [0] rfl (w_X3_reads_44 hC hK hX h)
    · refine g_aload_n hC (pc := 20) 0 rfl rfl dX3_reads_20 ?_
      refine g_dup hC (pc := 21) rfl dX3_reads_21 ?_
      refine g_getI hC (pc := 22) in_X3 (ci := 0) rfl 16 (by decide) q2493 (Or.inl rfl) h dX3_reads_22 (fun i6 h => ?_)
      refine g_iconst hC (pc := 25) (v := (1 : Int32)) (by decide) dX3_reads_25 ?_
      refine g_iadd hC (pc := 26) dX3_reads_26 ?_
      refine g_put hC (pc := 27) in_X3 (ci := 0) rfl 16 (by decide) tyX3_ok nmX3 q2493 (Or.inl rfl) rfl rfl rfl h dX3_reads_27 (fun G7 h => ?_)
      refine g_aload_n hC (pc := 30) 0 rfl rfl dX3_reads_30 ?_
      refine g_getQ hC (pc := 31) in_X3 (ci := 0) rfl 10 (by decide) q2487 (Or.inl rfl) h dX3_reads_31 (fun q8 h => ?_)
      refine g_aload_n hC (pc := 34) 0 rfl rfl dX3_reads_34 ?_
      refine g_getI hC (pc := 35) in_X3 (ci := 0) rfl 16 (by decide) q2493 (Or.inl rfl) h dX3_reads_35 (fun i9 h => ?_)
      refine g_iconst hC (pc := 38) (v := (1 : Int32)) (by decide) dX3_reads_38 ?_
      refine g_isub hC (pc := 39) dX3_reads_39 ?_
      rcases q8 with _ | c10
      · exact (gNN0 h).elim
      replace h := gNN1 h
      refine g_aldI hC (pc := 40) h dX3_reads_40 (fun i11 h => ?_)
      refine g_iload_n hC (pc := 41) 1 rfl rfl dX3_reads_41 ?_
      refine g_isub hC (pc := 42) dX3_reads_42 ?_
      exact g_iret hC (pc := 43) (hK _ _ h) dX3_reads_43
theorem gc_X3_reads : gCode yX3_reads cX3_reads 3 (some .int) 2 := ⟨q2966, q105, ⟨by decide, by decide⟩, rfl⟩
theorem m_X3_reads {l : Launch} (hfl : l.stackTraces = false) {E : gE} {G : gS} {t0 : Nat} {x1 : Int32} {x2 : Int32} {X : Nat → gS → Prop} {K : Int32 → gS → Prop} (h : wp_X3_reads (gAd E) G t0 x1 x2 X K) : gMet l yX3_reads (ws_ yX3_reads cX3_reads 3 (some .int)) 1 30 [vQ (some t0), vI x1, vI x2] E G (gRi K) X :=
  g_met hfl (plainFor_of_name (by decide +kernel)) rfl rfl rfl (gle rfl) (fun p e R s m args below meth c hC => w_X3_reads hC (fun _ _ h => h) (fun _ _ h => h) h)
def wp_X3_sign (ad : Nat → Nat) (G : gS) (t0 : Nat) (x1 : Int32) (X : Nat → gS → Prop) (K : gS → Prop) : Prop :=
  (gIs G t0 0 ∧ wp_X3_reads ad G t0 x1 x1 X (fun r2 G1 => K G1))
theorem w_X3_sign {C : gCx} (hC : gOk C "GoblinHouseholdModel" cX3_sign [] none "sign" 3 2 60) {K : gS → Prop} {X : Nat → gS → Prop} (hK : ∀ G, K G → cxK C none G) (hX : ∀ q G, X q G → cxX C q G) {G : gS} {t0 : Nat} {x1 : Int32} (h : wp_X3_sign (cxA C) G t0 x1 X K) : gGo C G 0 [(0, vQ (some t0)), (1, vI x1)] [] := by
  unfold wp_X3_sign at h
  refine g_aload_n hC (pc := 0) 0 rfl rfl dX3_sign_0 ?_
  refine g_iload_n hC (pc := 1) 1 rfl rfl dX3_sign_1 ?_
  refine g_iload_n hC (pc := 2) 1 rfl rfl dX3_sign_2 ?_
  obtain ⟨hi, h⟩ := h
  refine g_callV hC (pc := 3) (ci := 0) (As := [vI x1, vI x1]) gc_X3_reads (m_X3_reads hC.fl h) rfl hi q2963 q2965 qs89 (gle rfl) (gle rfl) rfl (gle rfl) rfl dX3_sign_3 (gk_i fun r2 G1 h => ?_) (fun _ _ h hio => g_out0 hC (hX _ _ h) hio)
  refine g_istore_n hC (pc := 6) (lv' := [(2, vI r2), (0, vQ (some t0)), (1, vI x1)]) rfl (by decide) rfl dX3_sign_6 ?_
  exact g_vret hC (pc := 7) (hK _ h) dX3_sign_7
theorem gc_X3_sign : gCode yX3_sign cX3_sign 3 none 1 := ⟨q2970, q105, ⟨by decide, by decide⟩, rfl⟩
theorem m_X3_sign {l : Launch} (hfl : l.stackTraces = false) {E : gE} {G : gS} {t0 : Nat} {x1 : Int32} {X : Nat → gS → Prop} {K : gS → Prop} (h : wp_X3_sign (gAd E) G t0 x1 X K) : gMet l yX3_sign (ws_ yX3_sign cX3_sign 3 none) 2 60 [vQ (some t0), vI x1] E G (gRv K) X :=
  g_met hfl (plainFor_of_name (by decide +kernel)) rfl rfl rfl (gle rfl) (fun p e R s m args below meth c hC => w_X3_sign hC (fun _ h => h) (fun _ _ h => h) h)
def wp_X3_digit (ad : Nat → Nat) (G : gS) (t0 : Nat) (X : Nat → gS → Prop) (K : Int32 → gS → Prop) : Prop :=
  (gIs G t0 0 ∧ wp_X3_reads ad G t0 (48 : Int32) (57 : Int32) X (fun r2 G1 => K r2 G1))
theorem w_X3_digit {C : gCx} (hC : gOk C "GoblinHouseholdModel" cX3_digit [] (some .int) "digit" 1 2 60) {K : Int32 → gS → Prop} {X : Nat → gS → Prop} (hK : ∀ r G, K r G → cxK C (some (vI r)) G) (hX : ∀ q G, X q G → cxX C q G) {G : gS} {t0 : Nat} (h : wp_X3_digit (cxA C) G t0 X K) : gGo C G 0 [(0, vQ (some t0))] [] := by
  unfold wp_X3_digit at h
  refine g_aload_n hC (pc := 0) 0 rfl rfl dX3_digit_0 ?_
  refine g_bipush hC (pc := 1) (v := (48 : Int32)) (by decide) dX3_digit_1 ?_
  refine g_bipush hC (pc := 3) (v := (57 : Int32)) (by decide) dX3_digit_3 ?_
  obtain ⟨hi, h⟩ := h
  refine g_callV hC (pc := 5) (ci := 0) (As := [vI (48 : Int32), vI (57 : Int32)]) gc_X3_reads (m_X3_reads hC.fl h) rfl hi q2963 q2965 qs89 (gle rfl) (gle rfl) rfl (gle rfl) rfl dX3_digit_5 (gk_i fun r2 G1 h => ?_) (fun _ _ h hio => g_out0 hC (hX _ _ h) hio)
  exact g_iret hC (pc := 8) (hK _ _ h) dX3_digit_8
theorem gc_X3_digit : gCode yX3_digit cX3_digit 1 (some .int) 0 := ⟨q2962, q105, ⟨by decide, by decide⟩, rfl⟩
theorem m_X3_digit {l : Launch} (hfl : l.stackTraces = false) {E : gE} {G : gS} {t0 : Nat} {X : Nat → gS → Prop} {K : Int32 → gS → Prop} (h : wp_X3_digit (gAd E) G t0 X K) : gMet l yX3_digit (ws_ yX3_digit cX3_digit 1 (some .int)) 2 60 [vQ (some t0)] E G (gRi K) X :=
  g_met hfl (plainFor_of_name (by decide +kernel)) rfl rfl rfl (gle rfl) (fun p e R s m args below meth c hC => w_X3_digit hC (fun _ _ h => h) (fun _ _ h => h) h)
def wp_X3_number_7 (ad : Nat → Nat) (X : Nat → gS → Prop) (K : Int32 → gS → Prop) (J7 : gS → Nat → Int32 → Int32 → Prop) (G : gS) (t0 : Nat) (x1 : Int32) (x2 : Int32) : Prop :=
  ((3 : Int32) ≤ x2 → K x1 G) ∧ (¬ (3 : Int32) ≤ x2 → wGetI G t0 0 17 fun i1 => (¬ i1 = (-1 : Int32) → K x1 G) ∧ (i1 = (-1 : Int32) → (gIs G t0 0 ∧ wp_X3_letterHere ad G t0  X (fun r3 G2 => wp_X3_isIn ad G2 r3 (48 : Int32) (57 : Int32) X (fun r5 G4 => (r5 = (0 : Int32) → K x1 G4) ∧ (¬ r5 = (0 : Int32) → (gIs G4 t0 0 ∧ wp_X3_digit ad G4 t0  X (fun r7 G6 => J7 G6 t0 (((10 : Int32) * x1) + r7) (x2 + (1 : Int32))))))))))
theorem w_X3_number_7 {C : gCx} (hC : gOk C "GoblinHouseholdModel" cX3_number [] (some .int) "number" 3 3 88) {K : Int32 → gS → Prop} {X : Nat → gS → Prop} (hK : ∀ r G, K r G → cxK C (some (vI r)) G) (hX : ∀ q G, X q G → cxX C q G) (n : Nat) : ∀ (G : gS) (t0 : Nat) (x1 : Int32) (x2 : Int32), gLoop (fun _ _ _ _ => False) (wp_X3_number_7 (cxA C) X K) n G t0 x1 x2 → gGo C G 7 [(0, vQ (some t0)), (1, vI x1), (2, vI x2)] [] := by
  induction n with
  | zero => intro G t0 x1 x2 h; exact h.elim
  | succ n ih =>
    intro G t0 x1 x2 h
    have hJ7 := ih
    replace h : wp_X3_number_7 (cxA C) X K _ G t0 x1 x2 := h
    unfold wp_X3_number_7 at h
    refine g_iload_n hC (pc := 7) 2 rfl rfl dX3_number_7 ?_
    refine g_iconst hC (pc := 8) (v := (3 : Int32)) (by decide) dX3_number_8 ?_
    refine g_icmp_ge hC (pc := 9) 50 h (by decide) dX3_number_9 (fun h => ?_) (fun h => ?_)
    · refine g_iload_n hC (pc := 50) 1 rfl rfl dX3_number_50 ?_
      exact g_iret hC (pc := 51) (hK _ _ h) dX3_number_51
    · refine g_aload_n hC (pc := 12) 0 rfl rfl dX3_number_12 ?_
      refine g_getI hC (pc := 13) in_X3 (ci := 0) rfl 17 (by decide) q2494 (Or.inl rfl) h dX3_number_13 (fun i1 h => ?_)
      refine g_iconst hC (pc := 16) (v := (-1 : Int32)) (by decide) dX3_number_16 ?_
      refine g_icmp_ne hC (pc := 17) 50 h (by decide) dX3_number_17 (fun h => ?_) (fun h => ?_)
      · refine g_iload_n hC (pc := 50) 1 rfl rfl dX3_number_50 ?_
        exact g_iret hC (pc := 51) (hK _ _ h) dX3_number_51
      · refine g_aload_n hC (pc := 20) 0 rfl rfl dX3_number_20 ?_
        obtain ⟨hi, h⟩ := h
        refine g_callV hC (pc := 21) (ci := 0) (As := []) gc_X3_letterHere (m_X3_letterHere hC.fl h) rfl hi q2951 q2953 qs86 (gle rfl) (gle rfl) rfl (gle rfl) rfl dX3_number_21 (gk_i fun r3 G2 h => ?_) (fun _ _ h hio => g_out0 hC (hX _ _ h) hio)
        refine g_bipush hC (pc := 24) (v := (48 : Int32)) (by decide) dX3_number_24 ?_
        refine g_bipush hC (pc := 26) (v := (57 : Int32)) (by decide) dX3_number_26 ?_
        refine g_callS hC (pc := 28) (b := 0) (As := [vI r3, vI (48 : Int32), vI (57 : Int32)]) gc_X3_isIn (m_X3_isIn hC.fl h) q2577 q2578 (gle rfl) (gle rfl) rfl (gle rfl) rfl dX3_number_28 (gk_i fun r5 G4 h => ?_) (fun _ _ h hio => g_out0 hC (hX _ _ h) hio)
        refine g_if_eq hC (pc := 31) 50 h (by decide) dX3_number_31 (fun h => ?_) (fun h => ?_)
        · refine g_iload_n hC (pc := 50) 1 rfl rfl dX3_number_50 ?_
          exact g_iret hC (pc := 51) (hK _ _ h) dX3_number_51
        · refine g_bipush hC (pc := 34) (v := (10 : Int32)) (by decide) dX3_number_34 ?_
          refine g_iload_n hC (pc := 36) 1 rfl rfl dX3_number_36 ?_
          refine g_imul hC (pc := 37) dX3_number_37 ?_
          refine g_aload_n hC (pc := 38) 0 rfl rfl dX3_number_38 ?_
          obtain ⟨hi, h⟩ := h
          refine g_callV hC (pc := 39) (ci := 0) (As := []) gc_X3_digit (m_X3_digit hC.fl h) rfl hi q2959 q2961 qs88 (gle rfl) (gle rfl) rfl (gle rfl) rfl dX3_number_39 (gk_i fun r7 G6 h => ?_) (fun _ _ h hio => g_out0 hC (hX _ _ h) hio)
          refine g_iadd hC (pc := 42) dX3_number_42 ?_
          refine g_istore_n hC (pc := 43) (lv' := [(1, vI (((10 : Int32) * x1) + r7)), (0, vQ (some t0)), (2, vI x2)]) rfl (by decide) rfl dX3_number_43 ?_
          refine g_iinc hC (pc := 44) 2 (d := (1 : Int32)) (v := (x2 + (1 : Int32))) (lv' := [(2, vI (x2 + (1 : Int32))), (1, vI (((10 : Int32) * x1) + r7)), (0, vQ (some t0))]) rfl (by decide) rfl (by decide) rfl dX3_number_44 ?_
          refine g_goto hC (pc := 47) 7 (by decide) dX3_number_47 ?_
          exact g_sub [2, 1, 0] rfl (hJ7 _ _ _ _ h)
def wp_X3_number (ad : Nat → Nat) (G : gS) (t0 : Nat) (X : Nat → gS → Prop) (K : Int32 → gS → Prop) : Prop :=
  (gIs G t0 0 ∧ wp_X3_digit ad G t0  X (fun r2 G1 => gLoop (fun _ _ _ _ => False) (wp_X3_number_7 ad X K) gFuel G1 t0 r2 (1 : Int32)))
theorem w_X3_number {C : gCx} (hC : gOk C "GoblinHouseholdModel" cX3_number [] (some .int) "number" 3 3 88) {K : Int32 → gS → Prop} {X : Nat → gS → Prop} (hK : ∀ r G, K r G → cxK C (some (vI r)) G) (hX : ∀ q G, X q G → cxX C q G) {G : gS} {t0 : Nat} (h : wp_X3_number (cxA C) G t0 X K) : gGo C G 0 [(0, vQ (some t0))] [] := by
  unfold wp_X3_number at h
  refine g_aload_n hC (pc := 0) 0 rfl rfl dX3_number_0 ?_
  obtain ⟨hi, h⟩ := h
  refine g_callV hC (pc := 1) (ci := 0) (As := []) gc_X3_digit (m_X3_digit hC.fl h) rfl hi q2959 q2961 qs88 (gle rfl) (gle rfl) rfl (gle rfl) rfl dX3_number_1 (gk_i fun r2 G1 h => ?_) (fun _ _ h hio => g_out0 hC (hX _ _ h) hio)
  refine g_istore_n hC (pc := 4) (lv' := [(1, vI r2), (0, vQ (some t0))]) rfl (by decide) rfl dX3_number_4 ?_
  refine g_iconst hC (pc := 5) (v := (1 : Int32)) (by decide) dX3_number_5 ?_
  refine g_istore_n hC (pc := 6) (lv' := [(2, vI (1 : Int32)), (1, vI r2), (0, vQ (some t0))]) rfl (by decide) rfl dX3_number_6 ?_
  exact g_sub [2, 1, 0] rfl (w_X3_number_7 hC hK hX gFuel _ _ _ _ h)
theorem gc_X3_number : gCode yX3_number cX3_number 3 (some .int) 0 := ⟨q2974, q105, ⟨by decide, by decide⟩, rfl⟩
theorem m_X3_number {l : Launch} (hfl : l.stackTraces = false) {E : gE} {G : gS} {t0 : Nat} {X : Nat → gS → Prop} {K : Int32 → gS → Prop} (h : wp_X3_number (gAd E) G t0 X K) : gMet l yX3_number (ws_ yX3_number cX3_number 3 (some .int)) 3 88 [vQ (some t0)] E G (gRi K) X :=
  g_met hfl (plainFor_of_name (by decide +kernel)) rfl rfl rfl (gle rfl) (fun p e R s m args below meth c hC => w_X3_number hC (fun _ _ h => h) (fun _ _ h => h) h)
def wp_X3_readsHire (ad : Nat → Nat) (G : gS) (t0 : Nat) (x1 : Int32) (X : Nat → gS → Prop) (K : gS → Prop) : Prop :=
  wGetQ G t0 0 19 fun q1 => (gIs G t0 0 ∧ wp_X3_digit ad G t0  X (fun r3 G2 => wNN q1 fun c4 => wAstI G2 c4 (x1 + (1 : Int32)) r3 fun G5 => (gIs G5 t0 0 ∧ wp_X3_sign ad G5 t0 (32 : Int32) X (fun G6 => wGetQ G6 t0 0 19 fun q7 => (gIs G6 t0 0 ∧ wp_X3_digit ad G6 t0  X (fun r9 G8 => wNN q7 fun c10 => wAstI G8 c10 (x1 + (2 : Int32)) r9 fun G11 => (gIs G11 t0 0 ∧ wp_X3_sign ad G11 t0 (32 : Int32) X (fun G12 => wGetQ G12 t0 0 19 fun q13 => (gIs G12 t0 0 ∧ wp_X3_number ad G12 t0  X (fun r15 G14 => wNN q13 fun c16 => wAstI G14 c16 (x1 + (3 : Int32)) r15 fun G17 => (gIs G17 t0 0 ∧ wp_X3_sign ad G17 t0 (47 : Int32) X (fun G18 => wGetQ G18 t0 0 19 fun q19 => (gIs G18 t0 0 ∧ wp_X3_number ad G18 t0  X (fun r21 G20 => wNN q19 fun c22 => wAstI G20 c22 (x1 + (4 : Int32)) r21 fun G23 => K G23))))))))))))))
theorem w_X3_readsHire {C : gCx} (hC : gOk C "GoblinHouseholdModel" cX3_readsHire [] none "readsHire" 2 4 118) {K : gS → Prop} {X : Nat → gS → Prop} (hK : ∀ G, K G → cxK C none G) (hX : ∀ q G, X q G → cxX C q G) {G : gS} {t0 : Nat} {x1 : Int32} (h : wp_X3_readsHire (cxA C) G t0 x1 X K) : gGo C G 0 [(0, vQ (some t0)), (1, vI x1)] [] := by
  unfold wp_X3_readsHire at h
  refine g_aload_n hC (pc := 0) 0 rfl rfl dX3_readsHire_0 ?_
  refine g_getQ hC (pc := 1) in_X3 (ci := 0) rfl 19 (by decide) q2496 (Or.inl rfl) h dX3_readsHire_1 (fun q1 h => ?_)
  refine g_iload_n hC (pc := 4) 1 rfl rfl dX3_readsHire_4 ?_
  refine g_iconst hC (pc := 5) (v := (1 : Int32)) (by decide) dX3_readsHire_5 ?_
  refine g_iadd hC (pc := 6) dX3_readsHire_6 ?_
  refine g_aload_n hC (pc := 7) 0 rfl rfl dX3_readsHire_7 ?_
  obtain ⟨hi, h⟩ := h
  refine g_callV hC (pc := 8) (ci := 0) (As := []) gc_X3_digit (m_X3_digit hC.fl h) rfl hi q2959 q2961 qs88 (gle rfl) (gle rfl) rfl (gle rfl) rfl dX3_readsHire_8 (gk_i fun r3 G2 h => ?_) (fun _ _ h hio => g_out0 hC (hX _ _ h) hio)
  rcases q1 with _ | c4
  · exact (gNN0 h).elim
  replace h := gNN1 h
  refine g_astI hC (pc := 11) h dX3_readsHire_11 (fun G5 h => ?_)
  refine g_aload_n hC (pc := 12) 0 rfl rfl dX3_readsHire_12 ?_
  refine g_bipush hC (pc := 13) (v := (32 : Int32)) (by decide) dX3_readsHire_13 ?_
  obtain ⟨hi, h⟩ := h
  refine g_callV hC (pc := 15) (ci := 0) (As := [vI (32 : Int32)]) gc_X3_sign (m_X3_sign hC.fl h) rfl hi q2967 q2969 qs90 (gle rfl) (gle rfl) rfl (gle rfl) rfl dX3_readsHire_15 (gk_v fun G6 h => ?_) (fun _ _ h hio => g_out0 hC (hX _ _ h) hio)
  refine g_aload_n hC (pc := 18) 0 rfl rfl dX3_readsHire_18 ?_
  refine g_getQ hC (pc := 19) in_X3 (ci := 0) rfl 19 (by decide) q2496 (Or.inl rfl) h dX3_readsHire_19 (fun q7 h => ?_)
  refine g_iload_n hC (pc := 22) 1 rfl rfl dX3_readsHire_22 ?_
  refine g_iconst hC (pc := 23) (v := (2 : Int32)) (by decide) dX3_readsHire_23 ?_
  refine g_iadd hC (pc := 24) dX3_readsHire_24 ?_
  refine g_aload_n hC (pc := 25) 0 rfl rfl dX3_readsHire_25 ?_
  obtain ⟨hi, h⟩ := h
  refine g_callV hC (pc := 26) (ci := 0) (As := []) gc_X3_digit (m_X3_digit hC.fl h) rfl hi q2959 q2961 qs88 (gle rfl) (gle rfl) rfl (gle rfl) rfl dX3_readsHire_26 (gk_i fun r9 G8 h => ?_) (fun _ _ h hio => g_out0 hC (hX _ _ h) hio)
  rcases q7 with _ | c10
  · exact (gNN0 h).elim
  replace h := gNN1 h
  refine g_astI hC (pc := 29) h dX3_readsHire_29 (fun G11 h => ?_)
  refine g_aload_n hC (pc := 30) 0 rfl rfl dX3_readsHire_30 ?_
  refine g_bipush hC (pc := 31) (v := (32 : Int32)) (by decide) dX3_readsHire_31 ?_
  obtain ⟨hi, h⟩ := h
  refine g_callV hC (pc := 33) (ci := 0) (As := [vI (32 : Int32)]) gc_X3_sign (m_X3_sign hC.fl h) rfl hi q2967 q2969 qs90 (gle rfl) (gle rfl) rfl (gle rfl) rfl dX3_readsHire_33 (gk_v fun G12 h => ?_) (fun _ _ h hio => g_out0 hC (hX _ _ h) hio)
  refine g_aload_n hC (pc := 36) 0 rfl rfl dX3_readsHire_36 ?_
  refine g_getQ hC (pc := 37) in_X3 (ci := 0) rfl 19 (by decide) q2496 (Or.inl rfl) h dX3_readsHire_37 (fun q13 h => ?_)
  refine g_iload_n hC (pc := 40) 1 rfl rfl dX3_readsHire_40 ?_
  refine g_iconst hC (pc := 41) (v := (3 : Int32)) (by decide) dX3_readsHire_41 ?_
  refine g_iadd hC (pc := 42) dX3_readsHire_42 ?_
  refine g_aload_n hC (pc := 43) 0 rfl rfl dX3_readsHire_43 ?_
  obtain ⟨hi, h⟩ := h
  refine g_callV hC (pc := 44) (ci := 0) (As := []) gc_X3_number (m_X3_number hC.fl h) rfl hi q2971 q2973 qs91 (gle rfl) (gle rfl) rfl (gle rfl) rfl dX3_readsHire_44 (gk_i fun r15 G14 h => ?_) (fun _ _ h hio => g_out0 hC (hX _ _ h) hio)
  rcases q13 with _ | c16
  · exact (gNN0 h).elim
  replace h := gNN1 h
  refine g_astI hC (pc := 47) h dX3_readsHire_47 (fun G17 h => ?_)
  refine g_aload_n hC (pc := 48) 0 rfl rfl dX3_readsHire_48 ?_
  refine g_bipush hC (pc := 49) (v := (47 : Int32)) (by decide) dX3_readsHire_49 ?_
  obtain ⟨hi, h⟩ := h
  refine g_callV hC (pc := 51) (ci := 0) (As := [vI (47 : Int32)]) gc_X3_sign (m_X3_sign hC.fl h) rfl hi q2967 q2969 qs90 (gle rfl) (gle rfl) rfl (gle rfl) rfl dX3_readsHire_51 (gk_v fun G18 h => ?_) (fun _ _ h hio => g_out0 hC (hX _ _ h) hio)
  refine g_aload_n hC (pc := 54) 0 rfl rfl dX3_readsHire_54 ?_
  refine g_getQ hC (pc := 55) in_X3 (ci := 0) rfl 19 (by decide) q2496 (Or.inl rfl) h dX3_readsHire_55 (fun q19 h => ?_)
  refine g_iload_n hC (pc := 58) 1 rfl rfl dX3_readsHire_58 ?_
  refine g_iconst hC (pc := 59) (v := (4 : Int32)) (by decide) dX3_readsHire_59 ?_
  refine g_iadd hC (pc := 60) dX3_readsHire_60 ?_
  refine g_aload_n hC (pc := 61) 0 rfl rfl dX3_readsHire_61 ?_
  obtain ⟨hi, h⟩ := h
  refine g_callV hC (pc := 62) (ci := 0) (As := []) gc_X3_number (m_X3_number hC.fl h) rfl hi q2971 q2973 qs91 (gle rfl) (gle rfl) rfl (gle rfl) rfl dX3_readsHire_62 (gk_i fun r21 G20 h => ?_) (fun _ _ h hio => g_out0 hC (hX _ _ h) hio)
  rcases q19 with _ | c22
  · exact (gNN0 h).elim
  replace h := gNN1 h
  refine g_astI hC (pc := 65) h dX3_readsHire_65 (fun G23 h => ?_)
  exact g_vret hC (pc := 66) (hK _ h) dX3_readsHire_66
theorem gc_X3_readsHire : gCode yX3_readsHire cX3_readsHire 2 none 1 := ⟨q2958, q105, ⟨by decide, by decide⟩, rfl⟩
theorem m_X3_readsHire {l : Launch} (hfl : l.stackTraces = false) {E : gE} {G : gS} {t0 : Nat} {x1 : Int32} {X : Nat → gS → Prop} {K : gS → Prop} (h : wp_X3_readsHire (gAd E) G t0 x1 X K) : gMet l yX3_readsHire (ws_ yX3_readsHire cX3_readsHire 2 none) 4 118 [vQ (some t0), vI x1] E G (gRv K) X :=
  g_met hfl (plainFor_of_name (by decide +kernel)) rfl rfl rfl (gle rfl) (fun p e R s m args below meth c hC => w_X3_readsHire hC (fun _ h => h) (fun _ _ h => h) h)
def wp_X3_readsCommand_129 (ad : Nat → Nat) (X : Nat → gS → Prop) (K : gS → Prop) (G : gS) (t0 : Nat) (x1 : Int32) (x2 : Int32) (xs0 : Int32) (xs1 : Int32) (os2 : Option Nat) : Prop :=
  wNN os2 fun c1 => wAstI G c1 xs1 xs0 fun G2 => (¬ x2 = (8 : Int32) → K G2) ∧ (x2 = (8 : Int32) → (gIs G2 t0 0 ∧ wp_X3_sign ad G2 t0 (32 : Int32) X (fun G3 => wGetQ G3 t0 0 19 fun q4 => (gIs G3 t0 0 ∧ wp_X3_number ad G3 t0  X (fun r6 G5 => wNN q4 fun c7 => wAstI G5 c7 (x1 + (2 : Int32)) r6 fun G8 => K G8)))))
theorem w_X3_readsCommand_129 {C : gCx} (hC : gOk C "GoblinHouseholdModel" cX3_readsCommand [] none "readsCommand" 4 5 150) {K : gS → Prop} {X : Nat → gS → Prop} (hK : ∀ G, K G → cxK C none G) (hX : ∀ q G, X q G → cxX C q G) {G : gS} {t0 : Nat} {x1 : Int32} {x2 : Int32} {xs0 : Int32} {xs1 : Int32} {os2 : Option Nat} (h : wp_X3_readsCommand_129 (cxA C) X K G t0 x1 x2 xs0 xs1 os2) : gGo C G 129 [(0, vQ (some t0)), (1, vI x1), (2, vI x2)] [vI xs0, vI xs1, vQ os2] := by
  unfold wp_X3_readsCommand_129 at h
  rcases os2 with _ | c1
  · exact (gNN0 h).elim
  replace h := gNN1 h
  refine g_astI hC (pc := 129) h dX3_readsCommand_129 (fun G2 h => ?_)
  refine g_iload_n hC (pc := 130) 2 rfl rfl dX3_readsCommand_130 ?_
  refine g_bipush hC (pc := 131) (v := (8 : Int32)) (by decide) dX3_readsCommand_131 ?_
  refine g_icmp_ne hC (pc := 133) 154 h (by decide) dX3_readsCommand_133 (fun h => ?_) (fun h => ?_)
  · exact g_vret hC (pc := 154) (hK _ h) dX3_readsCommand_154
  · refine g_aload_n hC (pc := 136) 0 rfl rfl dX3_readsCommand_136 ?_
    refine g_bipush hC (pc := 137) (v := (32 : Int32)) (by decide) dX3_readsCommand_137 ?_
    obtain ⟨hi, h⟩ := h
    refine g_callV hC (pc := 139) (ci := 0) (As := [vI (32 : Int32)]) gc_X3_sign (m_X3_sign hC.fl h) rfl hi q2967 q2969 qs90 (gle rfl) (gle rfl) rfl (gle rfl) rfl dX3_readsCommand_139 (gk_v fun G3 h => ?_) (fun _ _ h hio => g_out0 hC (hX _ _ h) hio)
    refine g_aload_n hC (pc := 142) 0 rfl rfl dX3_readsCommand_142 ?_
    refine g_getQ hC (pc := 143) in_X3 (ci := 0) rfl 19 (by decide) q2496 (Or.inl rfl) h dX3_readsCommand_143 (fun q4 h => ?_)
    refine g_iload_n hC (pc := 146) 1 rfl rfl dX3_readsCommand_146 ?_
    refine g_iconst hC (pc := 147) (v := (2 : Int32)) (by decide) dX3_readsCommand_147 ?_
    refine g_iadd hC (pc := 148) dX3_readsCommand_148 ?_
    refine g_aload_n hC (pc := 149) 0 rfl rfl dX3_readsCommand_149 ?_
    obtain ⟨hi, h⟩ := h
    refine g_callV hC (pc := 150) (ci := 0) (As := []) gc_X3_number (m_X3_number hC.fl h) rfl hi q2971 q2973 qs91 (gle rfl) (gle rfl) rfl (gle rfl) rfl dX3_readsCommand_150 (gk_i fun r6 G5 h => ?_) (fun _ _ h hio => g_out0 hC (hX _ _ h) hio)
    rcases q4 with _ | c7
    · exact (gNN0 h).elim
    replace h := gNN1 h
    refine g_astI hC (pc := 153) h dX3_readsCommand_153 (fun G8 h => ?_)
    exact g_vret hC (pc := 154) (hK _ h) dX3_readsCommand_154
def wp_X3_readsCommand_106 (ad : Nat → Nat) (X : Nat → gS → Prop) (K : gS → Prop) (G : gS) (t0 : Nat) (x1 : Int32) (x2 : Int32) (xs0 : Int32) : Prop :=
  wGetQ G t0 0 19 fun q1 => (xs0 = (0 : Int32) → (gIs G t0 0 ∧ wp_X3_digit ad G t0  X (fun r3 G2 => wp_X3_readsCommand_129 ad X K G2 t0 x1 x2 r3 (x1 + (1 : Int32)) q1))) ∧ (¬ xs0 = (0 : Int32) → (gIs G t0 0 ∧ wp_X3_number ad G t0  X (fun r5 G4 => wp_X3_readsCommand_129 ad X K G4 t0 x1 x2 r5 (x1 + (1 : Int32)) q1)))
theorem w_X3_readsCommand_106 {C : gCx} (hC : gOk C "GoblinHouseholdModel" cX3_readsCommand [] none "readsCommand" 4 5 150) {K : gS → Prop} {X : Nat → gS → Prop} (hK : ∀ G, K G → cxK C none G) (hX : ∀ q G, X q G → cxX C q G) {G : gS} {t0 : Nat} {x1 : Int32} {x2 : Int32} {xs0 : Int32} (h : wp_X3_readsCommand_106 (cxA C) X K G t0 x1 x2 xs0) : gGo C G 106 [(0, vQ (some t0)), (1, vI x1), (2, vI x2)] [vI xs0] := by
  unfold wp_X3_readsCommand_106 at h
  refine g_istore_n hC (pc := 106) (lv' := [(3, vI xs0), (0, vQ (some t0)), (1, vI x1), (2, vI x2)]) rfl (by decide) rfl dX3_readsCommand_106 ?_
  refine g_aload_n hC (pc := 107) 1 rfl rfl dX3_readsCommand_107 ?_
  refine g_getQ hC (pc := 108) in_X3 (ci := 0) rfl 19 (by decide) q2496 (Or.inl rfl) h dX3_readsCommand_108 (fun q1 h => ?_)
  refine g_iload_n hC (pc := 111) 2 rfl rfl dX3_readsCommand_111 ?_
  refine g_iconst hC (pc := 112) (v := (1 : Int32)) (by decide) dX3_readsCommand_112 ?_
  refine g_iadd hC (pc := 113) dX3_readsCommand_113 ?_
  refine g_iload_n hC (pc := 114) 0 rfl rfl dX3_readsCommand_114 ?_
  refine g_if_eq hC (pc := 115) 125 h (by decide) dX3_readsCommand_115 (fun h => ?_) (fun h => ?_)
  · refine g_aload_n hC (pc := 125) 1 rfl rfl dX3_readsCommand_125 ?_
    obtain ⟨hi, h⟩ := h
    refine g_callV hC (pc := 126) (ci := 0) (As := []) gc_X3_digit (m_X3_digit hC.fl h) rfl hi q2959 q2961 qs88 (gle rfl) (gle rfl) rfl (gle rfl) rfl dX3_readsCommand_126 (gk_i fun r3 G2 h => ?_) (fun _ _ h hio => g_out0 hC (hX _ _ h) hio)
    exact g_sub [1, 2, 3] rfl (w_X3_readsCommand_129 hC hK hX h)
  · refine g_aload_n hC (pc := 118) 1 rfl rfl dX3_readsCommand_118 ?_
    obtain ⟨hi, h⟩ := h
    refine g_callV hC (pc := 119) (ci := 0) (As := []) gc_X3_number (m_X3_number hC.fl h) rfl hi q2971 q2973 qs91 (gle rfl) (gle rfl) rfl (gle rfl) rfl dX3_readsCommand_119 (gk_i fun r5 G4 h => ?_) (fun _ _ h hio => g_out0 hC (hX _ _ h) hio)
    refine g_goto hC (pc := 122) 129 (by decide) dX3_readsCommand_122 ?_
    exact g_sub [1, 2, 3] rfl (w_X3_readsCommand_129 hC hK hX h)
def wp_X3_readsCommand_101 (ad : Nat → Nat) (X : Nat → gS → Prop) (K : gS → Prop) (G : gS) (t0 : Nat) (x1 : Int32) (x2 : Int32) : Prop :=
  wp_X3_readsCommand_106 ad X K G t0 x1 x2 (1 : Int32)
theorem w_X3_readsCommand_101 {C : gCx} (hC : gOk C "GoblinHouseholdModel" cX3_readsCommand [] none "readsCommand" 4 5 150) {K : gS → Prop} {X : Nat → gS → Prop} (hK : ∀ G, K G → cxK C none G) (hX : ∀ q G, X q G → cxX C q G) {G : gS} {t0 : Nat} {x1 : Int32} {x2 : Int32} (h : wp_X3_readsCommand_101 (cxA C) X K G t0 x1 x2) : gGo C G 101 [(0, vQ (some t0)), (1, vI x1), (2, vI x2)] [] := by
  unfold wp_X3_readsCommand_101 at h
  refine g_iconst hC (pc := 101) (v := (1 : Int32)) (by decide) dX3_readsCommand_101 ?_
  refine g_goto hC (pc := 102) 106 (by decide) dX3_readsCommand_102 ?_
  exact g_sub [0, 1, 2] rfl (w_X3_readsCommand_106 hC hK hX h)
def wp_X3_readsCommand_85 (ad : Nat → Nat) (X : Nat → gS → Prop) (K : gS → Prop) (G : gS) (t0 : Nat) (x1 : Int32) (x2 : Int32) : Prop :=
  (x2 = (1 : Int32) → wp_X3_readsCommand_101 ad X K G t0 x1 x2) ∧ (¬ x2 = (1 : Int32) → (x2 = (5 : Int32) → wp_X3_readsCommand_101 ad X K G t0 x1 x2) ∧ (¬ x2 = (5 : Int32) → (x2 ≤ (8 : Int32) → wp_X3_readsCommand_106 ad X K G t0 x1 x2 (0 : Int32)) ∧ (¬ x2 ≤ (8 : Int32) → wp_X3_readsCommand_101 ad X K G t0 x1 x2)))
theorem w_X3_readsCommand_85 {C : gCx} (hC : gOk C "GoblinHouseholdModel" cX3_readsCommand [] none "readsCommand" 4 5 150) {K : gS → Prop} {X : Nat → gS → Prop} (hK : ∀ G, K G → cxK C none G) (hX : ∀ q G, X q G → cxX C q G) {G : gS} {t0 : Nat} {x1 : Int32} {x2 : Int32} (h : wp_X3_readsCommand_85 (cxA C) X K G t0 x1 x2) : gGo C G 85 [(0, vQ (some t0)), (1, vI x1), (2, vI x2)] [] := by
  unfold wp_X3_readsCommand_85 at h
  refine g_iload_n hC (pc := 85) 2 rfl rfl dX3_readsCommand_85 ?_
  refine g_iconst hC (pc := 86) (v := (1 : Int32)) (by decide) dX3_readsCommand_86 ?_
  refine g_icmp_eq hC (pc := 87) 101 h (by decide) dX3_readsCommand_87 (fun h => ?_) (fun h => ?_)
  · exact g_sub [0, 1, 2] rfl (w_X3_readsCommand_101 hC hK hX h)
  · refine g_iload_n hC (pc := 90) 2 rfl rfl dX3_readsCommand_90 ?_
    refine g_iconst hC (pc := 91) (v := (5 : Int32)) (by decide) dX3_readsCommand_91 ?_
    refine g_icmp_eq hC (pc := 92) 101 h (by decide) dX3_readsCommand_92 (fun h => ?_) (fun h => ?_)
    · exact g_sub [0, 1, 2] rfl (w_X3_readsCommand_101 hC hK hX h)
    · refine g_iload_n hC (pc := 95) 2 rfl rfl dX3_readsCommand_95 ?_
      refine g_bipush hC (pc := 96) (v := (8 : Int32)) (by decide) dX3_readsCommand_96 ?_
      refine g_icmp_le hC (pc := 98) 105 h (by decide) dX3_readsCommand_98 (fun h => ?_) (fun h => ?_)
      · refine g_iconst hC (pc := 105) (v := (0 : Int32)) (by decide) dX3_readsCommand_105 ?_
        exact g_sub [0, 1, 2] rfl (w_X3_readsCommand_106 hC hK hX h)
      · exact g_sub [0, 1, 2] rfl (w_X3_readsCommand_101 hC hK hX h)
def wp_X3_readsCommand_62 (ad : Nat → Nat) (X : Nat → gS → Prop) (K : gS → Prop) (G : gS) (t0 : Nat) (x1 : Int32) (x2 : Int32) : Prop :=
  (¬ x2 = (4 : Int32) → (¬ x2 = (11 : Int32) → wp_X3_readsCommand_85 ad X K G t0 x1 x2) ∧ (x2 = (11 : Int32) → (gIs G t0 0 ∧ wp_X3_sign ad G t0 (32 : Int32) X (fun G1 => wp_X3_readsCommand_85 ad X K G1 t0 x1 x2)))) ∧ (x2 = (4 : Int32) → (gIs G t0 0 ∧ wp_X3_readsHire ad G t0 x1 X (fun G2 => K G2)))
theorem w_X3_readsCommand_62 {C : gCx} (hC : gOk C "GoblinHouseholdModel" cX3_readsCommand [] none "readsCommand" 4 5 150) {K : gS → Prop} {X : Nat → gS → Prop} (hK : ∀ G, K G → cxK C none G) (hX : ∀ q G, X q G → cxX C q G) {G : gS} {t0 : Nat} {x1 : Int32} {x2 : Int32} (h : wp_X3_readsCommand_62 (cxA C) X K G t0 x1 x2) : gGo C G 62 [(0, vQ (some t0)), (1, vI x1), (2, vI x2)] [] := by
  unfold wp_X3_readsCommand_62 at h
  refine g_iload_n hC (pc := 62) 2 rfl rfl dX3_readsCommand_62 ?_
  refine g_iconst hC (pc := 63) (v := (4 : Int32)) (by decide) dX3_readsCommand_63 ?_
  refine g_icmp_ne hC (pc := 64) 73 h (by decide) dX3_readsCommand_64 (fun h => ?_) (fun h => ?_)
  · refine g_iload_n hC (pc := 73) 2 rfl rfl dX3_readsCommand_73 ?_
    refine g_bipush hC (pc := 74) (v := (11 : Int32)) (by decide) dX3_readsCommand_74 ?_
    refine g_icmp_ne hC (pc := 76) 85 h (by decide) dX3_readsCommand_76 (fun h => ?_) (fun h => ?_)
    · exact g_sub [0, 1, 2] rfl (w_X3_readsCommand_85 hC hK hX h)
    · refine g_aload_n hC (pc := 79) 0 rfl rfl dX3_readsCommand_79 ?_
      refine g_bipush hC (pc := 80) (v := (32 : Int32)) (by decide) dX3_readsCommand_80 ?_
      obtain ⟨hi, h⟩ := h
      refine g_callV hC (pc := 82) (ci := 0) (As := [vI (32 : Int32)]) gc_X3_sign (m_X3_sign hC.fl h) rfl hi q2967 q2969 qs90 (gle rfl) (gle rfl) rfl (gle rfl) rfl dX3_readsCommand_82 (gk_v fun G1 h => ?_) (fun _ _ h hio => g_out0 hC (hX _ _ h) hio)
      exact g_sub [0, 1, 2] rfl (w_X3_readsCommand_85 hC hK hX h)
  · refine g_aload_n hC (pc := 67) 0 rfl rfl dX3_readsCommand_67 ?_
    refine g_iload_n hC (pc := 68) 1 rfl rfl dX3_readsCommand_68 ?_
    obtain ⟨hi, h⟩ := h
    refine g_callV hC (pc := 69) (ci := 0) (As := [vI x1]) gc_X3_readsHire (m_X3_readsHire hC.fl h) rfl hi q2955 q2957 qs87 (gle rfl) (gle rfl) rfl (gle rfl) rfl dX3_readsCommand_69 (gk_v fun G2 h => ?_) (fun _ _ h hio => g_out0 hC (hX _ _ h) hio)
    exact g_vret hC (pc := 72) (hK _ h) dX3_readsCommand_72
def wp_X3_readsCommand (ad : Nat → Nat) (G : gS) (t0 : Nat) (X : Nat → gS → Prop) (K : gS → Prop) : Prop :=
  wGetI G t0 0 18 fun i1 => (gIs G t0 0 ∧ wp_X3_kindHere ad G t0  X (fun r3 G2 => wGetQ G2 t0 0 19 fun q4 => wNN q4 fun c5 => wAstI G2 c5 ((5 : Int32) * i1) r3 fun G6 => wGetQ G6 t0 0 19 fun q7 => wNN q7 fun c8 => wAstI G6 c8 (((5 : Int32) * i1) + (1 : Int32)) (1 : Int32) fun G9 => wGetI G9 t0 0 18 fun i10 => wPut G9 t0 0 18 (.int (i10 + (1 : Int32))) fun G11 => wGetI G11 t0 0 17 fun i12 => (¬ i12 = (-1 : Int32) → K G11) ∧ (i12 = (-1 : Int32) → (¬ r3 = (11 : Int32) → wp_X3_readsCommand_62 ad X K G11 t0 ((5 : Int32) * i1) r3) ∧ (r3 = (11 : Int32) → (gIs G11 t0 0 ∧ wp_X3_letterHere ad G11 t0  X (fun r14 G13 => (r14 = (32 : Int32) → wp_X3_readsCommand_62 ad X K G13 t0 ((5 : Int32) * i1) r3) ∧ (¬ r14 = (32 : Int32) → K G13)))))))
theorem w_X3_readsCommand {C : gCx} (hC : gOk C "GoblinHouseholdModel" cX3_readsCommand [] none "readsCommand" 4 5 150) {K : gS → Prop} {X : Nat → gS → Prop} (hK : ∀ G, K G → cxK C none G) (hX : ∀ q G, X q G → cxX C q G) {G : gS} {t0 : Nat} (h : wp_X3_readsCommand (cxA C) G t0 X K) : gGo C G 0 [(0, vQ (some t0))] [] := by
  unfold wp_X3_readsCommand at h
  refine g_iconst hC (pc := 0) (v := (5 : Int32)) (by decide) dX3_readsCommand_0 ?_
  refine g_aload_n hC (pc := 1) 0 rfl rfl dX3_readsCommand_1 ?_
  refine g_getI hC (pc := 2) in_X3 (ci := 0) rfl 18 (by decide) q2495 (Or.inl rfl) h dX3_readsCommand_2 (fun i1 h => ?_)
  refine g_imul hC (pc := 5) dX3_readsCommand_5 ?_
  refine g_istore_n hC (pc := 6) (lv' := [(1, vI ((5 : Int32) * i1)), (0, vQ (some t0))]) rfl (by decide) rfl dX3_readsCommand_6 ?_
  refine g_aload_n hC (pc := 7) 1 rfl rfl dX3_readsCommand_7 ?_
  obtain ⟨hi, h⟩ := h
  refine g_callV hC (pc := 8) (ci := 0) (As := []) gc_X3_kindHere (m_X3_kindHere hC.fl h) rfl hi q2942 q2944 qs85 (gle rfl) (gle rfl) rfl (gle rfl) rfl dX3_readsCommand_8 (gk_i fun r3 G2 h => ?_) (fun _ _ h hio => g_out0 hC (hX _ _ h) hio)
  refine g_istore_n hC (pc := 11) (lv' := [(2, vI r3), (1, vI ((5 : Int32) * i1)), (0, vQ (some t0))]) rfl (by decide) rfl dX3_readsCommand_11 ?_
  refine g_aload_n hC (pc := 12) 2 rfl rfl dX3_readsCommand_12 ?_
  refine g_getQ hC (pc := 13) in_X3 (ci := 0) rfl 19 (by decide) q2496 (Or.inl rfl) h dX3_readsCommand_13 (fun q4 h => ?_)
  refine g_iload_n hC (pc := 16) 1 rfl rfl dX3_readsCommand_16 ?_
  refine g_iload_n hC (pc := 17) 0 rfl rfl dX3_readsCommand_17 ?_
  rcases q4 with _ | c5
  · exact (gNN0 h).elim
  replace h := gNN1 h
  refine g_astI hC (pc := 18) h dX3_readsCommand_18 (fun G6 h => ?_)
  refine g_aload_n hC (pc := 19) 2 rfl rfl dX3_readsCommand_19 ?_
  refine g_getQ hC (pc := 20) in_X3 (ci := 0) rfl 19 (by decide) q2496 (Or.inl rfl) h dX3_readsCommand_20 (fun q7 h => ?_)
  refine g_iload_n hC (pc := 23) 1 rfl rfl dX3_readsCommand_23 ?_
  refine g_iconst hC (pc := 24) (v := (1 : Int32)) (by decide) dX3_readsCommand_24 ?_
  refine g_iadd hC (pc := 25) dX3_readsCommand_25 ?_
  refine g_iconst hC (pc := 26) (v := (1 : Int32)) (by decide) dX3_readsCommand_26 ?_
  rcases q7 with _ | c8
  · exact (gNN0 h).elim
  replace h := gNN1 h
  refine g_astI hC (pc := 27) h dX3_readsCommand_27 (fun G9 h => ?_)
  refine g_aload_n hC (pc := 28) 2 rfl rfl dX3_readsCommand_28 ?_
  refine g_dup hC (pc := 29) rfl dX3_readsCommand_29 ?_
  refine g_getI hC (pc := 30) in_X3 (ci := 0) rfl 18 (by decide) q2495 (Or.inl rfl) h dX3_readsCommand_30 (fun i10 h => ?_)
  refine g_iconst hC (pc := 33) (v := (1 : Int32)) (by decide) dX3_readsCommand_33 ?_
  refine g_iadd hC (pc := 34) dX3_readsCommand_34 ?_
  refine g_put hC (pc := 35) in_X3 (ci := 0) rfl 18 (by decide) tyX3_ok nmX3 q2495 (Or.inl rfl) rfl rfl rfl h dX3_readsCommand_35 (fun G11 h => ?_)
  refine g_aload_n hC (pc := 38) 2 rfl rfl dX3_readsCommand_38 ?_
  refine g_getI hC (pc := 39) in_X3 (ci := 0) rfl 17 (by decide) q2494 (Or.inl rfl) h dX3_readsCommand_39 (fun i12 h => ?_)
  refine g_iconst hC (pc := 42) (v := (-1 : Int32)) (by decide) dX3_readsCommand_42 ?_
  refine g_icmp_ne hC (pc := 43) 61 h (by decide) dX3_readsCommand_43 (fun h => ?_) (fun h => ?_)
  · exact g_vret hC (pc := 61) (hK _ h) dX3_readsCommand_61
  · refine g_iload_n hC (pc := 46) 0 rfl rfl dX3_readsCommand_46 ?_
    refine g_bipush hC (pc := 47) (v := (11 : Int32)) (by decide) dX3_readsCommand_47 ?_
    refine g_icmp_ne hC (pc := 49) 62 h (by decide) dX3_readsCommand_49 (fun h => ?_) (fun h => ?_)
    · exact g_sub [2, 1, 0] rfl (w_X3_readsCommand_62 hC hK hX h)
    · refine g_aload_n hC (pc := 52) 2 rfl rfl dX3_readsCommand_52 ?_
      obtain ⟨hi, h⟩ := h
      refine g_callV hC (pc := 53) (ci := 0) (As := []) gc_X3_letterHere (m_X3_letterHere hC.fl h) rfl hi q2951 q2953 qs86 (gle rfl) (gle rfl) rfl (gle rfl) rfl dX3_readsCommand_53 (gk_i fun r14 G13 h => ?_) (fun _ _ h hio => g_out0 hC (hX _ _ h) hio)
      refine g_bipush hC (pc := 56) (v := (32 : Int32)) (by decide) dX3_readsCommand_56 ?_
      refine g_icmp_eq hC (pc := 58) 62 h (by decide) dX3_readsCommand_58 (fun h => ?_) (fun h => ?_)
      · exact g_sub [2, 1, 0] rfl (w_X3_readsCommand_62 hC hK hX h)
      · exact g_vret hC (pc := 61) (hK _ h) dX3_readsCommand_61
theorem gc_X3_readsCommand : gCode yX3_readsCommand cX3_readsCommand 4 none 0 := ⟨q2941, q105, ⟨by decide, by decide⟩, rfl⟩
theorem m_X3_readsCommand {l : Launch} (hfl : l.stackTraces = false) {E : gE} {G : gS} {t0 : Nat} {X : Nat → gS → Prop} {K : gS → Prop} (h : wp_X3_readsCommand (gAd E) G t0 X K) : gMet l yX3_readsCommand (ws_ yX3_readsCommand cX3_readsCommand 4 none) 5 150 [vQ (some t0)] E G (gRv K) X :=
  g_met hfl (plainFor_of_name (by decide +kernel)) rfl rfl rfl (gle rfl) (fun p e R s m args below meth c hC => w_X3_readsCommand hC (fun _ h => h) (fun _ _ h => h) h)
def wp_X3_readsAll_32 (ad : Nat → Nat) (X : Nat → gS → Prop) (K : gS → Prop) (J32 : gS → Nat → Prop) (G : gS) (t0 : Nat) : Prop :=
  wGetI G t0 0 17 fun i1 => (¬ i1 = (-1 : Int32) → K G) ∧ (i1 = (-1 : Int32) → wGetI G t0 0 16 fun i2 => wGetI G t0 0 15 fun i3 => (i3 ≤ i2 → K G) ∧ (¬ i3 ≤ i2 → (gIs G t0 0 ∧ wp_X3_sign ad G t0 (59 : Int32) X (fun G4 => wGetI G4 t0 0 17 fun i5 => (¬ i5 = (-1 : Int32) → J32 G4 t0) ∧ (i5 = (-1 : Int32) → (gIs G4 t0 0 ∧ wp_X3_readsCommand ad G4 t0  X (fun G6 => J32 G6 t0)))))))
theorem w_X3_readsAll_32 {C : gCx} (hC : gOk C "GoblinHouseholdModel" cX3_readsAll [] none "readsAll" 1 6 181) {K : gS → Prop} {X : Nat → gS → Prop} (hK : ∀ G, K G → cxK C none G) (hX : ∀ q G, X q G → cxX C q G) (n : Nat) : ∀ (G : gS) (t0 : Nat), gLoop (fun _ _ => False) (wp_X3_readsAll_32 (cxA C) X K) n G t0 → gGo C G 32 [(0, vQ (some t0))] [] := by
  induction n with
  | zero => intro G t0 h; exact h.elim
  | succ n ih =>
    intro G t0 h
    have hJ32 := ih
    replace h : wp_X3_readsAll_32 (cxA C) X K _ G t0 := h
    unfold wp_X3_readsAll_32 at h
    refine g_aload_n hC (pc := 32) 0 rfl rfl dX3_readsAll_32 ?_
    refine g_getI hC (pc := 33) in_X3 (ci := 0) rfl 17 (by decide) q2494 (Or.inl rfl) h dX3_readsAll_33 (fun i1 h => ?_)
    refine g_iconst hC (pc := 36) (v := (-1 : Int32)) (by decide) dX3_readsAll_36 ?_
    refine g_icmp_ne hC (pc := 37) 72 h (by decide) dX3_readsAll_37 (fun h => ?_) (fun h => ?_)
    · exact g_vret hC (pc := 72) (hK _ h) dX3_readsAll_72
    · refine g_aload_n hC (pc := 40) 0 rfl rfl dX3_readsAll_40 ?_
      refine g_getI hC (pc := 41) in_X3 (ci := 0) rfl 16 (by decide) q2493 (Or.inl rfl) h dX3_readsAll_41 (fun i2 h => ?_)
      refine g_aload_n hC (pc := 44) 0 rfl rfl dX3_readsAll_44 ?_
      refine g_getI hC (pc := 45) in_X3 (ci := 0) rfl 15 (by decide) q2492 (Or.inl rfl) h dX3_readsAll_45 (fun i3 h => ?_)
      refine g_icmp_ge hC (pc := 48) 72 h (by decide) dX3_readsAll_48 (fun h => ?_) (fun h => ?_)
      · exact g_vret hC (pc := 72) (hK _ h) dX3_readsAll_72
      · refine g_aload_n hC (pc := 51) 0 rfl rfl dX3_readsAll_51 ?_
        refine g_bipush hC (pc := 52) (v := (59 : Int32)) (by decide) dX3_readsAll_52 ?_
        obtain ⟨hi, h⟩ := h
        refine g_callV hC (pc := 54) (ci := 0) (As := [vI (59 : Int32)]) gc_X3_sign (m_X3_sign hC.fl h) rfl hi q2967 q2969 qs90 (gle rfl) (gle rfl) rfl (gle rfl) rfl dX3_readsAll_54 (gk_v fun G4 h => ?_) (fun _ _ h hio => g_out0 hC (hX _ _ h) hio)
        refine g_aload_n hC (pc := 57) 0 rfl rfl dX3_readsAll_57 ?_
        refine g_getI hC (pc := 58) in_X3 (ci := 0) rfl 17 (by decide) q2494 (Or.inl rfl) h dX3_readsAll_58 (fun i5 h => ?_)
        refine g_iconst hC (pc := 61) (v := (-1 : Int32)) (by decide) dX3_readsAll_61 ?_
        refine g_icmp_ne hC (pc := 62) 32 h (by decide) dX3_readsAll_62 (fun h => ?_) (fun h => ?_)
        · exact g_sub [0] rfl (hJ32 _ _ h)
        · refine g_aload_n hC (pc := 65) 0 rfl rfl dX3_readsAll_65 ?_
          obtain ⟨hi, h⟩ := h
          refine g_callV hC (pc := 66) (ci := 0) (As := []) gc_X3_readsCommand (m_X3_readsCommand hC.fl h) rfl hi q2938 q2940 qs84 (gle rfl) (gle rfl) rfl (gle rfl) rfl dX3_readsAll_66 (gk_v fun G6 h => ?_) (fun _ _ h hio => g_out0 hC (hX _ _ h) hio)
          refine g_goto hC (pc := 69) 32 (by decide) dX3_readsAll_69 ?_
          exact g_sub [0] rfl (hJ32 _ _ h)
def wp_X3_readsAll (ad : Nat → Nat) (G : gS) (t0 : Nat) (X : Nat → gS → Prop) (K : gS → Prop) : Prop :=
  wGetI G t0 0 11 fun i1 => wPut G t0 0 15 (.int i1) fun G2 => wPut G2 t0 0 11 (.int (0 : Int32)) fun G3 => wPut G3 t0 0 16 (.int (0 : Int32)) fun G4 => wPut G4 t0 0 17 (.int (-1 : Int32)) fun G5 => wPut G5 t0 0 18 (.int (0 : Int32)) fun G6 => (gIs G6 t0 0 ∧ wp_X3_readsCommand ad G6 t0  X (fun G7 => gLoop (fun _ _ => False) (wp_X3_readsAll_32 ad X K) gFuel G7 t0))
theorem w_X3_readsAll {C : gCx} (hC : gOk C "GoblinHouseholdModel" cX3_readsAll [] none "readsAll" 1 6 181) {K : gS → Prop} {X : Nat → gS → Prop} (hK : ∀ G, K G → cxK C none G) (hX : ∀ q G, X q G → cxX C q G) {G : gS} {t0 : Nat} (h : wp_X3_readsAll (cxA C) G t0 X K) : gGo C G 0 [(0, vQ (some t0))] [] := by
  unfold wp_X3_readsAll at h
  refine g_aload_n hC (pc := 0) 0 rfl rfl dX3_readsAll_0 ?_
  refine g_aload_n hC (pc := 1) 0 rfl rfl dX3_readsAll_1 ?_
  refine g_getI hC (pc := 2) in_X3 (ci := 0) rfl 11 (by decide) q2488 (Or.inl rfl) h dX3_readsAll_2 (fun i1 h => ?_)
  refine g_put hC (pc := 5) in_X3 (ci := 0) rfl 15 (by decide) tyX3_ok nmX3 q2492 (Or.inl rfl) rfl rfl rfl h dX3_readsAll_5 (fun G2 h => ?_)
  refine g_aload_n hC (pc := 8) 0 rfl rfl dX3_readsAll_8 ?_
  refine g_iconst hC (pc := 9) (v := (0 : Int32)) (by decide) dX3_readsAll_9 ?_
  refine g_put hC (pc := 10) in_X3 (ci := 0) rfl 11 (by decide) tyX3_ok nmX3 q2488 (Or.inl rfl) rfl rfl rfl h dX3_readsAll_10 (fun G3 h => ?_)
  refine g_aload_n hC (pc := 13) 0 rfl rfl dX3_readsAll_13 ?_
  refine g_iconst hC (pc := 14) (v := (0 : Int32)) (by decide) dX3_readsAll_14 ?_
  refine g_put hC (pc := 15) in_X3 (ci := 0) rfl 16 (by decide) tyX3_ok nmX3 q2493 (Or.inl rfl) rfl rfl rfl h dX3_readsAll_15 (fun G4 h => ?_)
  refine g_aload_n hC (pc := 18) 0 rfl rfl dX3_readsAll_18 ?_
  refine g_iconst hC (pc := 19) (v := (-1 : Int32)) (by decide) dX3_readsAll_19 ?_
  refine g_put hC (pc := 20) in_X3 (ci := 0) rfl 17 (by decide) tyX3_ok nmX3 q2494 (Or.inl rfl) rfl rfl rfl h dX3_readsAll_20 (fun G5 h => ?_)
  refine g_aload_n hC (pc := 23) 0 rfl rfl dX3_readsAll_23 ?_
  refine g_iconst hC (pc := 24) (v := (0 : Int32)) (by decide) dX3_readsAll_24 ?_
  refine g_put hC (pc := 25) in_X3 (ci := 0) rfl 18 (by decide) tyX3_ok nmX3 q2495 (Or.inl rfl) rfl rfl rfl h dX3_readsAll_25 (fun G6 h => ?_)
  refine g_aload_n hC (pc := 28) 0 rfl rfl dX3_readsAll_28 ?_
  obtain ⟨hi, h⟩ := h
  refine g_callV hC (pc := 29) (ci := 0) (As := []) gc_X3_readsCommand (m_X3_readsCommand hC.fl h) rfl hi q2938 q2940 qs84 (gle rfl) (gle rfl) rfl (gle rfl) rfl dX3_readsAll_29 (gk_v fun G7 h => ?_) (fun _ _ h hio => g_out0 hC (hX _ _ h) hio)
  exact g_sub [0] rfl (w_X3_readsAll_32 hC hK hX gFuel _ _ h)
theorem gc_X3_readsAll : gCode yX3_readsAll cX3_readsAll 1 none 0 := ⟨q2937, q105, ⟨by decide, by decide⟩, rfl⟩
theorem m_X3_readsAll {l : Launch} (hfl : l.stackTraces = false) {E : gE} {G : gS} {t0 : Nat} {X : Nat → gS → Prop} {K : gS → Prop} (h : wp_X3_readsAll (gAd E) G t0 X K) : gMet l yX3_readsAll (ws_ yX3_readsAll cX3_readsAll 1 none) 6 181 [vQ (some t0)] E G (gRv K) X :=
  g_met hfl (plainFor_of_name (by decide +kernel)) rfl rfl rfl (gle rfl) (fun p e R s m args below meth c hC => w_X3_readsAll hC (fun _ h => h) (fun _ _ h => h) h)
def wp_X3_does (ad : Nat → Nat) (G : gS) (t0 : Nat) (x1 : Int32) (X : Nat → gS → Prop) (K : Int32 → gS → Prop) : Prop :=
  wGetQ G t0 0 19 fun q1 => wNN q1 fun c2 => wAldI G c2 (x1 + (1 : Int32)) fun i3 => wGetQ G t0 0 19 fun q4 => wNN q4 fun c5 => wAldI G c5 x1 fun i6 => (i6 = (0 : Int32) → (gIs G t0 0 ∧ wp_X3_addsGoblin ad G t0 i3 X (fun r8 G7 => K r8 G7))) ∧ (i6 = (1 : Int32) → (gIs G t0 0 ∧ wp_X3_addsBroom ad G t0 i3 X (fun r10 G9 => K r10 G9))) ∧ (i6 = (2 : Int32) → wGetQ G t0 0 19 fun q11 => wNN q11 fun c12 => wAldI G c12 x1 fun i13 => (gIs G t0 0 ∧ wp_X3_banishes ad G t0 i3 ((3 : Int32) - i13) X (fun r15 G14 => K r15 G14))) ∧ (i6 = (3 : Int32) → wGetQ G t0 0 19 fun q16 => wNN q16 fun c17 => wAldI G c17 x1 fun i18 => (gIs G t0 0 ∧ wp_X3_banishes ad G t0 i3 ((3 : Int32) - i18) X (fun r20 G19 => K r20 G19))) ∧ (i6 = (4 : Int32) → wGetQ G t0 0 19 fun q21 => wNN q21 fun c22 => wAldI G c22 (x1 + (2 : Int32)) fun i23 => wGetQ G t0 0 19 fun q24 => wNN q24 fun c25 => wAldI G c25 (x1 + (3 : Int32)) fun i26 => wGetQ G t0 0 19 fun q27 => wNN q27 fun c28 => wAldI G c28 (x1 + (4 : Int32)) fun i29 => (gIs G t0 0 ∧ wp_X3_hires ad G t0 i3 i23 i26 i29 X (fun r31 G30 => K r31 G30))) ∧ (i6 = (5 : Int32) → (gIs G t0 0 ∧ wp_X3_cancels ad G t0 i3 X (fun r33 G32 => K r33 G32))) ∧ (i6 = (6 : Int32) → wGetQ G t0 0 19 fun q34 => wNN q34 fun c35 => wAldI G c35 x1 fun i36 => (gIs G t0 0 ∧ wp_X3_rests ad G t0 i3 ((7 : Int32) - i36) X (fun r38 G37 => K r38 G37))) ∧ (i6 = (7 : Int32) → wGetQ G t0 0 19 fun q39 => wNN q39 fun c40 => wAldI G c40 x1 fun i41 => (gIs G t0 0 ∧ wp_X3_rests ad G t0 i3 ((7 : Int32) - i41) X (fun r43 G42 => K r43 G42))) ∧ (i6 = (8 : Int32) → wGetQ G t0 0 19 fun q44 => wNN q44 fun c45 => wAldI G c45 (x1 + (2 : Int32)) fun i46 => (gIs G t0 0 ∧ wp_X3_lends ad G t0 i3 i46 X (fun r48 G47 => K r48 G47))) ∧ (i6 = (9 : Int32) → (gIs G t0 0 ∧ wp_X3_funds ad G t0 i3 X (fun r50 G49 => K r50 G49))) ∧ (i6 = (10 : Int32) → (gIs G t0 0 ∧ wp_X3_spends ad G t0 i3 X (fun r52 G51 => K r52 G51))) ∧ (¬ i6 = (0 : Int32) → ¬ i6 = (1 : Int32) → ¬ i6 = (2 : Int32) → ¬ i6 = (3 : Int32) → ¬ i6 = (4 : Int32) → ¬ i6 = (5 : Int32) → ¬ i6 = (6 : Int32) → ¬ i6 = (7 : Int32) → ¬ i6 = (8 : Int32) → ¬ i6 = (9 : Int32) → ¬ i6 = (10 : Int32) → (gIs G t0 0 ∧ wp_X3_waits ad G t0 i3 X (fun r54 G53 => K r54 G53)))
theorem w_X3_does {C : gCx} (hC : gOk C "GoblinHouseholdModel" cX3_does [] (some .int) "does" 3 8 248) {K : Int32 → gS → Prop} {X : Nat → gS → Prop} (hK : ∀ r G, K r G → cxK C (some (vI r)) G) (hX : ∀ q G, X q G → cxX C q G) {G : gS} {t0 : Nat} {x1 : Int32} (h : wp_X3_does (cxA C) G t0 x1 X K) : gGo C G 0 [(0, vQ (some t0)), (1, vI x1)] [] := by
  unfold wp_X3_does at h
  refine g_aload_n hC (pc := 0) 0 rfl rfl dX3_does_0 ?_
  refine g_getQ hC (pc := 1) in_X3 (ci := 0) rfl 19 (by decide) q2496 (Or.inl rfl) h dX3_does_1 (fun q1 h => ?_)
  refine g_iload_n hC (pc := 4) 1 rfl rfl dX3_does_4 ?_
  refine g_iconst hC (pc := 5) (v := (1 : Int32)) (by decide) dX3_does_5 ?_
  refine g_iadd hC (pc := 6) dX3_does_6 ?_
  rcases q1 with _ | c2
  · exact (gNN0 h).elim
  replace h := gNN1 h
  refine g_aldI hC (pc := 7) h dX3_does_7 (fun i3 h => ?_)
  refine g_istore_n hC (pc := 8) (lv' := [(2, vI i3), (0, vQ (some t0)), (1, vI x1)]) rfl (by decide) rfl dX3_does_8 ?_
  refine g_aload_n hC (pc := 9) 1 rfl rfl dX3_does_9 ?_
  refine g_getQ hC (pc := 10) in_X3 (ci := 0) rfl 19 (by decide) q2496 (Or.inl rfl) h dX3_does_10 (fun q4 h => ?_)
  refine g_iload_n hC (pc := 13) 2 rfl rfl dX3_does_13 ?_
  rcases q4 with _ | c5
  · exact (gNN0 h).elim
  replace h := gNN1 h
  refine g_aldI hC (pc := 14) h dX3_does_14 (fun i6 h => ?_)
  by_cases e0 : i6 = (0 : Int32)
  · refine g_tableIn hC (pc := 15) 72 (by rw [e0]; decide) (by rw [e0]; decide) (by rw [e0]; rfl) (by decide) dX3_does_15 ?_
    replace h := h.1 e0
    refine g_aload_n hC (pc := 72) 1 rfl rfl dX3_does_72 ?_
    refine g_iload_n hC (pc := 73) 0 rfl rfl dX3_does_73 ?_
    obtain ⟨hi, h⟩ := h
    refine g_callV hC (pc := 74) (ci := 0) (As := [vI i3]) gc_X3_addsGoblin (m_X3_addsGoblin hC.fl h) rfl hi q2573 q2575 qs46 (gle rfl) (gle rfl) rfl (gle rfl) rfl dX3_does_74 (gk_i fun r8 G7 h => ?_) (fun _ _ h hio => g_out0 hC (hX _ _ h) hio)
    exact g_iret hC (pc := 77) (hK _ _ h) dX3_does_77
  by_cases e1 : i6 = (1 : Int32)
  · refine g_tableIn hC (pc := 15) 78 (by rw [e1]; decide) (by rw [e1]; decide) (by rw [e1]; rfl) (by decide) dX3_does_15 ?_
    replace h := h.2.1 e1
    refine g_aload_n hC (pc := 78) 1 rfl rfl dX3_does_78 ?_
    refine g_iload_n hC (pc := 79) 0 rfl rfl dX3_does_79 ?_
    obtain ⟨hi, h⟩ := h
    refine g_callV hC (pc := 80) (ci := 0) (As := [vI i3]) gc_X3_addsBroom (m_X3_addsBroom hC.fl h) rfl hi q2592 q2594 qs49 (gle rfl) (gle rfl) rfl (gle rfl) rfl dX3_does_80 (gk_i fun r10 G9 h => ?_) (fun _ _ h hio => g_out0 hC (hX _ _ h) hio)
    exact g_iret hC (pc := 83) (hK _ _ h) dX3_does_83
  by_cases e2 : i6 = (2 : Int32)
  · refine g_tableIn hC (pc := 15) 84 (by rw [e2]; decide) (by rw [e2]; decide) (by rw [e2]; rfl) (by decide) dX3_does_15 ?_
    replace h := h.2.2.1 e2
    refine g_aload_n hC (pc := 84) 1 rfl rfl dX3_does_84 ?_
    refine g_iload_n hC (pc := 85) 0 rfl rfl dX3_does_85 ?_
    refine g_iconst hC (pc := 86) (v := (3 : Int32)) (by decide) dX3_does_86 ?_
    refine g_aload_n hC (pc := 87) 1 rfl rfl dX3_does_87 ?_
    refine g_getQ hC (pc := 88) in_X3 (ci := 0) rfl 19 (by decide) q2496 (Or.inl rfl) h dX3_does_88 (fun q11 h => ?_)
    refine g_iload_n hC (pc := 91) 2 rfl rfl dX3_does_91 ?_
    rcases q11 with _ | c12
    · exact (gNN0 h).elim
    replace h := gNN1 h
    refine g_aldI hC (pc := 92) h dX3_does_92 (fun i13 h => ?_)
    refine g_isub hC (pc := 93) dX3_does_93 ?_
    obtain ⟨hi, h⟩ := h
    refine g_callV hC (pc := 94) (ci := 0) (As := [vI i3, vI ((3 : Int32) - i13)]) gc_X3_banishes (m_X3_banishes hC.fl h) rfl hi q2600 q2602 qs50 (gle rfl) (gle rfl) rfl (gle rfl) rfl dX3_does_94 (gk_i fun r15 G14 h => ?_) (fun _ _ h hio => g_out0 hC (hX _ _ h) hio)
    exact g_iret hC (pc := 97) (hK _ _ h) dX3_does_97
  by_cases e3 : i6 = (3 : Int32)
  · refine g_tableIn hC (pc := 15) 84 (by rw [e3]; decide) (by rw [e3]; decide) (by rw [e3]; rfl) (by decide) dX3_does_15 ?_
    replace h := h.2.2.2.1 e3
    refine g_aload_n hC (pc := 84) 1 rfl rfl dX3_does_84 ?_
    refine g_iload_n hC (pc := 85) 0 rfl rfl dX3_does_85 ?_
    refine g_iconst hC (pc := 86) (v := (3 : Int32)) (by decide) dX3_does_86 ?_
    refine g_aload_n hC (pc := 87) 1 rfl rfl dX3_does_87 ?_
    refine g_getQ hC (pc := 88) in_X3 (ci := 0) rfl 19 (by decide) q2496 (Or.inl rfl) h dX3_does_88 (fun q16 h => ?_)
    refine g_iload_n hC (pc := 91) 2 rfl rfl dX3_does_91 ?_
    rcases q16 with _ | c17
    · exact (gNN0 h).elim
    replace h := gNN1 h
    refine g_aldI hC (pc := 92) h dX3_does_92 (fun i18 h => ?_)
    refine g_isub hC (pc := 93) dX3_does_93 ?_
    obtain ⟨hi, h⟩ := h
    refine g_callV hC (pc := 94) (ci := 0) (As := [vI i3, vI ((3 : Int32) - i18)]) gc_X3_banishes (m_X3_banishes hC.fl h) rfl hi q2600 q2602 qs50 (gle rfl) (gle rfl) rfl (gle rfl) rfl dX3_does_94 (gk_i fun r20 G19 h => ?_) (fun _ _ h hio => g_out0 hC (hX _ _ h) hio)
    exact g_iret hC (pc := 97) (hK _ _ h) dX3_does_97
  by_cases e4 : i6 = (4 : Int32)
  · refine g_tableIn hC (pc := 15) 98 (by rw [e4]; decide) (by rw [e4]; decide) (by rw [e4]; rfl) (by decide) dX3_does_15 ?_
    replace h := h.2.2.2.2.1 e4
    refine g_aload_n hC (pc := 98) 1 rfl rfl dX3_does_98 ?_
    refine g_iload_n hC (pc := 99) 0 rfl rfl dX3_does_99 ?_
    refine g_aload_n hC (pc := 100) 1 rfl rfl dX3_does_100 ?_
    refine g_getQ hC (pc := 101) in_X3 (ci := 0) rfl 19 (by decide) q2496 (Or.inl rfl) h dX3_does_101 (fun q21 h => ?_)
    refine g_iload_n hC (pc := 104) 2 rfl rfl dX3_does_104 ?_
    refine g_iconst hC (pc := 105) (v := (2 : Int32)) (by decide) dX3_does_105 ?_
    refine g_iadd hC (pc := 106) dX3_does_106 ?_
    rcases q21 with _ | c22
    · exact (gNN0 h).elim
    replace h := gNN1 h
    refine g_aldI hC (pc := 107) h dX3_does_107 (fun i23 h => ?_)
    refine g_aload_n hC (pc := 108) 1 rfl rfl dX3_does_108 ?_
    refine g_getQ hC (pc := 109) in_X3 (ci := 0) rfl 19 (by decide) q2496 (Or.inl rfl) h dX3_does_109 (fun q24 h => ?_)
    refine g_iload_n hC (pc := 112) 2 rfl rfl dX3_does_112 ?_
    refine g_iconst hC (pc := 113) (v := (3 : Int32)) (by decide) dX3_does_113 ?_
    refine g_iadd hC (pc := 114) dX3_does_114 ?_
    rcases q24 with _ | c25
    · exact (gNN0 h).elim
    replace h := gNN1 h
    refine g_aldI hC (pc := 115) h dX3_does_115 (fun i26 h => ?_)
    refine g_aload_n hC (pc := 116) 1 rfl rfl dX3_does_116 ?_
    refine g_getQ hC (pc := 117) in_X3 (ci := 0) rfl 19 (by decide) q2496 (Or.inl rfl) h dX3_does_117 (fun q27 h => ?_)
    refine g_iload_n hC (pc := 120) 2 rfl rfl dX3_does_120 ?_
    refine g_iconst hC (pc := 121) (v := (4 : Int32)) (by decide) dX3_does_121 ?_
    refine g_iadd hC (pc := 122) dX3_does_122 ?_
    rcases q27 with _ | c28
    · exact (gNN0 h).elim
    replace h := gNN1 h
    refine g_aldI hC (pc := 123) h dX3_does_123 (fun i29 h => ?_)
    obtain ⟨hi, h⟩ := h
    refine g_callV hC (pc := 124) (ci := 0) (As := [vI i3, vI i23, vI i26, vI i29]) gc_X3_hires (m_X3_hires hC.fl h) rfl hi q2648 q2650 qs58 (gle rfl) (gle rfl) rfl (gle rfl) rfl dX3_does_124 (gk_i fun r31 G30 h => ?_) (fun _ _ h hio => g_out0 hC (hX _ _ h) hio)
    exact g_iret hC (pc := 127) (hK _ _ h) dX3_does_127
  by_cases e5 : i6 = (5 : Int32)
  · refine g_tableIn hC (pc := 15) 128 (by rw [e5]; decide) (by rw [e5]; decide) (by rw [e5]; rfl) (by decide) dX3_does_15 ?_
    replace h := h.2.2.2.2.2.1 e5
    refine g_aload_n hC (pc := 128) 1 rfl rfl dX3_does_128 ?_
    refine g_iload_n hC (pc := 129) 0 rfl rfl dX3_does_129 ?_
    obtain ⟨hi, h⟩ := h
    refine g_callV hC (pc := 130) (ci := 0) (As := [vI i3]) gc_X3_cancels (m_X3_cancels hC.fl h) rfl hi q2667 q2669 qs61 (gle rfl) (gle rfl) rfl (gle rfl) rfl dX3_does_130 (gk_i fun r33 G32 h => ?_) (fun _ _ h hio => g_out0 hC (hX _ _ h) hio)
    exact g_iret hC (pc := 133) (hK _ _ h) dX3_does_133
  by_cases e6 : i6 = (6 : Int32)
  · refine g_tableIn hC (pc := 15) 134 (by rw [e6]; decide) (by rw [e6]; decide) (by rw [e6]; rfl) (by decide) dX3_does_15 ?_
    replace h := h.2.2.2.2.2.2.1 e6
    refine g_aload_n hC (pc := 134) 1 rfl rfl dX3_does_134 ?_
    refine g_iload_n hC (pc := 135) 0 rfl rfl dX3_does_135 ?_
    refine g_bipush hC (pc := 136) (v := (7 : Int32)) (by decide) dX3_does_136 ?_
    refine g_aload_n hC (pc := 138) 1 rfl rfl dX3_does_138 ?_
    refine g_getQ hC (pc := 139) in_X3 (ci := 0) rfl 19 (by decide) q2496 (Or.inl rfl) h dX3_does_139 (fun q34 h => ?_)
    refine g_iload_n hC (pc := 142) 2 rfl rfl dX3_does_142 ?_
    rcases q34 with _ | c35
    · exact (gNN0 h).elim
    replace h := gNN1 h
    refine g_aldI hC (pc := 143) h dX3_does_143 (fun i36 h => ?_)
    refine g_isub hC (pc := 144) dX3_does_144 ?_
    obtain ⟨hi, h⟩ := h
    refine g_callV hC (pc := 145) (ci := 0) (As := [vI i3, vI ((7 : Int32) - i36)]) gc_X3_rests (m_X3_rests hC.fl h) rfl hi q2624 q2626 qs54 (gle rfl) (gle rfl) rfl (gle rfl) rfl dX3_does_145 (gk_i fun r38 G37 h => ?_) (fun _ _ h hio => g_out0 hC (hX _ _ h) hio)
    exact g_iret hC (pc := 148) (hK _ _ h) dX3_does_148
  by_cases e7 : i6 = (7 : Int32)
  · refine g_tableIn hC (pc := 15) 134 (by rw [e7]; decide) (by rw [e7]; decide) (by rw [e7]; rfl) (by decide) dX3_does_15 ?_
    replace h := h.2.2.2.2.2.2.2.1 e7
    refine g_aload_n hC (pc := 134) 1 rfl rfl dX3_does_134 ?_
    refine g_iload_n hC (pc := 135) 0 rfl rfl dX3_does_135 ?_
    refine g_bipush hC (pc := 136) (v := (7 : Int32)) (by decide) dX3_does_136 ?_
    refine g_aload_n hC (pc := 138) 1 rfl rfl dX3_does_138 ?_
    refine g_getQ hC (pc := 139) in_X3 (ci := 0) rfl 19 (by decide) q2496 (Or.inl rfl) h dX3_does_139 (fun q39 h => ?_)
    refine g_iload_n hC (pc := 142) 2 rfl rfl dX3_does_142 ?_
    rcases q39 with _ | c40
    · exact (gNN0 h).elim
    replace h := gNN1 h
    refine g_aldI hC (pc := 143) h dX3_does_143 (fun i41 h => ?_)
    refine g_isub hC (pc := 144) dX3_does_144 ?_
    obtain ⟨hi, h⟩ := h
    refine g_callV hC (pc := 145) (ci := 0) (As := [vI i3, vI ((7 : Int32) - i41)]) gc_X3_rests (m_X3_rests hC.fl h) rfl hi q2624 q2626 qs54 (gle rfl) (gle rfl) rfl (gle rfl) rfl dX3_does_145 (gk_i fun r43 G42 h => ?_) (fun _ _ h hio => g_out0 hC (hX _ _ h) hio)
    exact g_iret hC (pc := 148) (hK _ _ h) dX3_does_148
  by_cases e8 : i6 = (8 : Int32)
  · refine g_tableIn hC (pc := 15) 149 (by rw [e8]; decide) (by rw [e8]; decide) (by rw [e8]; rfl) (by decide) dX3_does_15 ?_
    replace h := h.2.2.2.2.2.2.2.2.1 e8
    refine g_aload_n hC (pc := 149) 1 rfl rfl dX3_does_149 ?_
    refine g_iload_n hC (pc := 150) 0 rfl rfl dX3_does_150 ?_
    refine g_aload_n hC (pc := 151) 1 rfl rfl dX3_does_151 ?_
    refine g_getQ hC (pc := 152) in_X3 (ci := 0) rfl 19 (by decide) q2496 (Or.inl rfl) h dX3_does_152 (fun q44 h => ?_)
    refine g_iload_n hC (pc := 155) 2 rfl rfl dX3_does_155 ?_
    refine g_iconst hC (pc := 156) (v := (2 : Int32)) (by decide) dX3_does_156 ?_
    refine g_iadd hC (pc := 157) dX3_does_157 ?_
    rcases q44 with _ | c45
    · exact (gNN0 h).elim
    replace h := gNN1 h
    refine g_aldI hC (pc := 158) h dX3_does_158 (fun i46 h => ?_)
    obtain ⟨hi, h⟩ := h
    refine g_callV hC (pc := 159) (ci := 0) (As := [vI i3, vI i46]) gc_X3_lends (m_X3_lends hC.fl h) rfl hi q2684 q2686 qs64 (gle rfl) (gle rfl) rfl (gle rfl) rfl dX3_does_159 (gk_i fun r48 G47 h => ?_) (fun _ _ h hio => g_out0 hC (hX _ _ h) hio)
    exact g_iret hC (pc := 162) (hK _ _ h) dX3_does_162
  by_cases e9 : i6 = (9 : Int32)
  · refine g_tableIn hC (pc := 15) 163 (by rw [e9]; decide) (by rw [e9]; decide) (by rw [e9]; rfl) (by decide) dX3_does_15 ?_
    replace h := h.2.2.2.2.2.2.2.2.2.1 e9
    refine g_aload_n hC (pc := 163) 1 rfl rfl dX3_does_163 ?_
    refine g_iload_n hC (pc := 164) 0 rfl rfl dX3_does_164 ?_
    obtain ⟨hi, h⟩ := h
    refine g_callV hC (pc := 165) (ci := 0) (As := [vI i3]) gc_X3_funds (m_X3_funds hC.fl h) rfl hi q2692 q2694 qs65 (gle rfl) (gle rfl) rfl (gle rfl) rfl dX3_does_165 (gk_i fun r50 G49 h => ?_) (fun _ _ h hio => g_out0 hC (hX _ _ h) hio)
    exact g_iret hC (pc := 168) (hK _ _ h) dX3_does_168
  by_cases e10 : i6 = (10 : Int32)
  · refine g_tableIn hC (pc := 15) 169 (by rw [e10]; decide) (by rw [e10]; decide) (by rw [e10]; rfl) (by decide) dX3_does_15 ?_
    replace h := h.2.2.2.2.2.2.2.2.2.2.1 e10
    refine g_aload_n hC (pc := 169) 1 rfl rfl dX3_does_169 ?_
    refine g_iload_n hC (pc := 170) 0 rfl rfl dX3_does_170 ?_
    obtain ⟨hi, h⟩ := h
    refine g_callV hC (pc := 171) (ci := 0) (As := [vI i3]) gc_X3_spends (m_X3_spends hC.fl h) rfl hi q2700 q2702 qs66 (gle rfl) (gle rfl) rfl (gle rfl) rfl dX3_does_171 (gk_i fun r52 G51 h => ?_) (fun _ _ h hio => g_out0 hC (hX _ _ h) hio)
    exact g_iret hC (pc := 174) (hK _ _ h) dX3_does_174
  refine g_tableOut hC (pc := 15) 175 (by have f0 := gne (n := 0) rfl e0; have f1 := gne (n := 1) rfl e1; have f2 := gne (n := 2) rfl e2; have f3 := gne (n := 3) rfl e3; have f4 := gne (n := 4) rfl e4; have f5 := gne (n := 5) rfl e5; have f6 := gne (n := 6) rfl e6; have f7 := gne (n := 7) rfl e7; have f8 := gne (n := 8) rfl e8; have f9 := gne (n := 9) rfl e9; have f10 := gne (n := 10) rfl e10; omega) (by decide) dX3_does_15 ?_
  replace h := h.2.2.2.2.2.2.2.2.2.2.2 e0 e1 e2 e3 e4 e5 e6 e7 e8 e9 e10
  refine g_aload_n hC (pc := 175) 1 rfl rfl dX3_does_175 ?_
  refine g_iload_n hC (pc := 176) 0 rfl rfl dX3_does_176 ?_
  obtain ⟨hi, h⟩ := h
  refine g_callV hC (pc := 177) (ci := 0) (As := [vI i3]) gc_X3_waits (m_X3_waits hC.fl h) rfl hi q2708 q2710 qs67 (gle rfl) (gle rfl) rfl (gle rfl) rfl dX3_does_177 (gk_i fun r54 G53 h => ?_) (fun _ _ h hio => g_out0 hC (hX _ _ h) hio)
  exact g_iret hC (pc := 180) (hK _ _ h) dX3_does_180
theorem gc_X3_does : gCode yX3_does cX3_does 3 (some .int) 1 := ⟨q2978, q105, ⟨by decide, by decide⟩, rfl⟩
theorem m_X3_does {l : Launch} (hfl : l.stackTraces = false) {E : gE} {G : gS} {t0 : Nat} {x1 : Int32} {X : Nat → gS → Prop} {K : Int32 → gS → Prop} (h : wp_X3_does (gAd E) G t0 x1 X K) : gMet l yX3_does (ws_ yX3_does cX3_does 3 (some .int)) 8 248 [vQ (some t0), vI x1] E G (gRi K) X :=
  g_met hfl (plainFor_of_name (by decide +kernel)) rfl rfl rfl (gle rfl) (fun p e R s m args below meth c hC => w_X3_does hC (fun _ _ h => h) (fun _ _ h => h) h)
def wp_X3_runScript_61 (ad : Nat → Nat) (X : Nat → gS → Prop) (K : Int32 → gS → Prop) (G : gS) (t0 : Nat) (x1 : Int32) : Prop :=
  wPut G t0 0 8 (.int x1) fun G1 => wPut G1 t0 0 14 (.int (2 : Int32)) fun G2 => wGetQ G2 t0 0 1 fun q3 => wGetQ G2 t0 0 0 fun q4 => wp_X3_copies ad G2 q3 (0 : Int32) q4 (0 : Int32) X (fun G5 => K (0 : Int32) G5)
theorem w_X3_runScript_61 {C : gCx} (hC : gOk C "GoblinHouseholdModel" cX3_runScript [] (some .int) "runScript" 3 9 278) {K : Int32 → gS → Prop} {X : Nat → gS → Prop} (hK : ∀ r G, K r G → cxK C (some (vI r)) G) (hX : ∀ q G, X q G → cxX C q G) {G : gS} {t0 : Nat} {x1 : Int32} (h : wp_X3_runScript_61 (cxA C) X K G t0 x1) : gGo C G 61 [(0, vQ (some t0)), (1, vI x1)] [] := by
  unfold wp_X3_runScript_61 at h
  refine g_aload_n hC (pc := 61) 0 rfl rfl dX3_runScript_61 ?_
  refine g_iload_n hC (pc := 62) 1 rfl rfl dX3_runScript_62 ?_
  refine g_put hC (pc := 63) in_X3 (ci := 0) rfl 8 (by decide) tyX3_ok nmX3 q2485 (Or.inl rfl) rfl rfl rfl h dX3_runScript_63 (fun G1 h => ?_)
  refine g_aload_n hC (pc := 66) 0 rfl rfl dX3_runScript_66 ?_
  refine g_iconst hC (pc := 67) (v := (2 : Int32)) (by decide) dX3_runScript_67 ?_
  refine g_put hC (pc := 68) in_X3 (ci := 0) rfl 14 (by decide) tyX3_ok nmX3 q2491 (Or.inl rfl) rfl rfl rfl h dX3_runScript_68 (fun G2 h => ?_)
  refine g_aload_n hC (pc := 71) 0 rfl rfl dX3_runScript_71 ?_
  refine g_getQ hC (pc := 72) in_X3 (ci := 0) rfl 1 (by decide) q2478 (Or.inl rfl) h dX3_runScript_72 (fun q3 h => ?_)
  refine g_iconst hC (pc := 75) (v := (0 : Int32)) (by decide) dX3_runScript_75 ?_
  refine g_aload_n hC (pc := 76) 0 rfl rfl dX3_runScript_76 ?_
  refine g_getQ hC (pc := 77) in_X3 (ci := 0) rfl 0 (by decide) q2477 (Or.inl rfl) h dX3_runScript_77 (fun q4 h => ?_)
  refine g_iconst hC (pc := 80) (v := (0 : Int32)) (by decide) dX3_runScript_80 ?_
  refine g_callS hC (pc := 81) (b := 0) (As := [vQ q3, vI (0 : Int32), vQ q4, vI (0 : Int32)]) gc_X3_copies (m_X3_copies hC.fl h) q2554 q2555 (gle rfl) (gle rfl) rfl (gle rfl) rfl dX3_runScript_81 (gk_v fun G5 h => ?_) (fun _ _ h hio => g_out0 hC (hX _ _ h) hio)
  refine g_iconst hC (pc := 84) (v := (0 : Int32)) (by decide) dX3_runScript_84 ?_
  exact g_iret hC (pc := 85) (hK _ _ h) dX3_runScript_85
def wp_X3_runScript_92 (ad : Nat → Nat) (X : Nat → gS → Prop) (K : Int32 → gS → Prop) (G : gS) (t0 : Nat) : Prop :=
  wGetI G t0 0 18 fun i1 => (gIs G t0 0 ∧ wp_X3_ends ad G t0 i1 X (fun r3 G2 => K r3 G2))
theorem w_X3_runScript_92 {C : gCx} (hC : gOk C "GoblinHouseholdModel" cX3_runScript [] (some .int) "runScript" 3 9 278) {K : Int32 → gS → Prop} {X : Nat → gS → Prop} (hK : ∀ r G, K r G → cxK C (some (vI r)) G) (hX : ∀ q G, X q G → cxX C q G) {G : gS} {t0 : Nat} (h : wp_X3_runScript_92 (cxA C) X K G t0) : gGo C G 92 [(0, vQ (some t0))] [] := by
  unfold wp_X3_runScript_92 at h
  refine g_aload_n hC (pc := 92) 0 rfl rfl dX3_runScript_92 ?_
  refine g_aload_n hC (pc := 93) 0 rfl rfl dX3_runScript_93 ?_
  refine g_getI hC (pc := 94) in_X3 (ci := 0) rfl 18 (by decide) q2495 (Or.inl rfl) h dX3_runScript_94 (fun i1 h => ?_)
  obtain ⟨hi, h⟩ := h
  refine g_callV hC (pc := 97) (ci := 0) (As := [vI i1]) gc_X3_ends (m_X3_ends hC.fl h) rfl hi q2580 q2582 qs47 (gle rfl) (gle rfl) rfl (gle rfl) rfl dX3_runScript_97 (gk_i fun r3 G2 h => ?_) (fun _ _ h hio => g_out0 hC (hX _ _ h) hio)
  exact g_iret hC (pc := 100) (hK _ _ h) dX3_runScript_100
def wp_X3_runScript_38 (ad : Nat → Nat) (X : Nat → gS → Prop) (K : Int32 → gS → Prop) (J38 : gS → Nat → Int32 → Prop) (G : gS) (t0 : Nat) (x1 : Int32) : Prop :=
  wGetI G t0 0 18 fun i1 => (i1 ≤ x1 → wp_X3_runScript_92 ad X K G t0) ∧ (¬ i1 ≤ x1 → (gIs G t0 0 ∧ wp_X3_does ad G t0 ((5 : Int32) * x1) X (fun r3 G2 => wGetI G2 t0 0 14 fun i4 => (i4 = (0 : Int32) → J38 G2 t0 (x1 + (1 : Int32))) ∧ (¬ i4 = (0 : Int32) → wp_X3_runScript_61 ad X K G2 t0 x1))))
theorem w_X3_runScript_38 {C : gCx} (hC : gOk C "GoblinHouseholdModel" cX3_runScript [] (some .int) "runScript" 3 9 278) {K : Int32 → gS → Prop} {X : Nat → gS → Prop} (hK : ∀ r G, K r G → cxK C (some (vI r)) G) (hX : ∀ q G, X q G → cxX C q G) (n : Nat) : ∀ (G : gS) (t0 : Nat) (x1 : Int32), gLoop (fun _ _ _ => False) (wp_X3_runScript_38 (cxA C) X K) n G t0 x1 → gGo C G 38 [(0, vQ (some t0)), (1, vI x1)] [] := by
  induction n with
  | zero => intro G t0 x1 h; exact h.elim
  | succ n ih =>
    intro G t0 x1 h
    have hJ38 := ih
    replace h : wp_X3_runScript_38 (cxA C) X K _ G t0 x1 := h
    unfold wp_X3_runScript_38 at h
    refine g_iload_n hC (pc := 38) 1 rfl rfl dX3_runScript_38 ?_
    refine g_aload_n hC (pc := 39) 0 rfl rfl dX3_runScript_39 ?_
    refine g_getI hC (pc := 40) in_X3 (ci := 0) rfl 18 (by decide) q2495 (Or.inl rfl) h dX3_runScript_40 (fun i1 h => ?_)
    refine g_icmp_ge hC (pc := 43) 92 h (by decide) dX3_runScript_43 (fun h => ?_) (fun h => ?_)
    · exact g_sub [0] rfl (w_X3_runScript_92 hC hK hX h)
    · refine g_aload_n hC (pc := 46) 0 rfl rfl dX3_runScript_46 ?_
      refine g_iconst hC (pc := 47) (v := (5 : Int32)) (by decide) dX3_runScript_47 ?_
      refine g_iload_n hC (pc := 48) 1 rfl rfl dX3_runScript_48 ?_
      refine g_imul hC (pc := 49) dX3_runScript_49 ?_
      obtain ⟨hi, h⟩ := h
      refine g_callV hC (pc := 50) (ci := 0) (As := [vI ((5 : Int32) * x1)]) gc_X3_does (m_X3_does hC.fl h) rfl hi q2975 q2977 qs92 (gle rfl) (gle rfl) rfl (gle rfl) rfl dX3_runScript_50 (gk_i fun r3 G2 h => ?_) (fun _ _ h hio => g_out0 hC (hX _ _ h) hio)
      refine g_istore_n hC (pc := 53) (lv' := [(2, vI r3), (0, vQ (some t0)), (1, vI x1)]) rfl (by decide) rfl dX3_runScript_53 ?_
      refine g_aload_n hC (pc := 54) 1 rfl rfl dX3_runScript_54 ?_
      refine g_getI hC (pc := 55) in_X3 (ci := 0) rfl 14 (by decide) q2491 (Or.inl rfl) h dX3_runScript_55 (fun i4 h => ?_)
      refine g_if_eq hC (pc := 58) 86 h (by decide) dX3_runScript_58 (fun h => ?_) (fun h => ?_)
      · refine g_iinc hC (pc := 86) 2 (d := (1 : Int32)) (v := (x1 + (1 : Int32))) (lv' := [(1, vI (x1 + (1 : Int32))), (2, vI r3), (0, vQ (some t0))]) rfl (by decide) rfl (by decide) rfl dX3_runScript_86 ?_
        refine g_goto hC (pc := 89) 38 (by decide) dX3_runScript_89 ?_
        exact g_sub [2, 0] rfl (hJ38 _ _ _ h)
      · exact g_sub [1, 2] rfl (w_X3_runScript_61 hC hK hX h)
def wp_X3_runScript (ad : Nat → Nat) (G : gS) (t0 : Nat) (X : Nat → gS → Prop) (K : Int32 → gS → Prop) : Prop :=
  (gIs G t0 0 ∧ wp_X3_readsAll ad G t0  X (fun G1 => wGetI G1 t0 0 17 fun i2 => (i2 = (-1 : Int32) → (gIs G1 t0 0 ∧ wp_X3_begins ad G1 t0  X (fun G3 => wPut G3 t0 0 14 (.int (0 : Int32)) fun G4 => gLoop (fun _ _ _ => False) (wp_X3_runScript_38 ad X K) gFuel G4 t0 (0 : Int32)))) ∧ (¬ i2 = (-1 : Int32) → wGetI G1 t0 0 17 fun i5 => wPut G1 t0 0 7 (.int i5) fun G6 => wPut G6 t0 0 14 (.int (1 : Int32)) fun G7 => K (0 : Int32) G7)))
theorem w_X3_runScript {C : gCx} (hC : gOk C "GoblinHouseholdModel" cX3_runScript [] (some .int) "runScript" 3 9 278) {K : Int32 → gS → Prop} {X : Nat → gS → Prop} (hK : ∀ r G, K r G → cxK C (some (vI r)) G) (hX : ∀ q G, X q G → cxX C q G) {G : gS} {t0 : Nat} (h : wp_X3_runScript (cxA C) G t0 X K) : gGo C G 0 [(0, vQ (some t0))] [] := by
  unfold wp_X3_runScript at h
  refine g_aload_n hC (pc := 0) 0 rfl rfl dX3_runScript_0 ?_
  obtain ⟨hi, h⟩ := h
  refine g_callV hC (pc := 1) (ci := 0) (As := []) gc_X3_readsAll (m_X3_readsAll hC.fl h) rfl hi q2934 q2936 qs83 (gle rfl) (gle rfl) rfl (gle rfl) rfl dX3_runScript_1 (gk_v fun G1 h => ?_) (fun _ _ h hio => g_out0 hC (hX _ _ h) hio)
  refine g_aload_n hC (pc := 4) 0 rfl rfl dX3_runScript_4 ?_
  refine g_getI hC (pc := 5) in_X3 (ci := 0) rfl 17 (by decide) q2494 (Or.inl rfl) h dX3_runScript_5 (fun i2 h => ?_)
  refine g_iconst hC (pc := 8) (v := (-1 : Int32)) (by decide) dX3_runScript_8 ?_
  refine g_icmp_eq hC (pc := 9) 27 h (by decide) dX3_runScript_9 (fun h => ?_) (fun h => ?_)
  · refine g_aload_n hC (pc := 27) 0 rfl rfl dX3_runScript_27 ?_
    obtain ⟨hi, h⟩ := h
    refine g_callV hC (pc := 28) (ci := 0) (As := []) gc_X3_begins (m_X3_begins hC.fl h) rfl hi q2569 q2571 qs45 (gle rfl) (gle rfl) rfl (gle rfl) rfl dX3_runScript_28 (gk_v fun G3 h => ?_) (fun _ _ h hio => g_out0 hC (hX _ _ h) hio)
    refine g_aload_n hC (pc := 31) 0 rfl rfl dX3_runScript_31 ?_
    refine g_iconst hC (pc := 32) (v := (0 : Int32)) (by decide) dX3_runScript_32 ?_
    refine g_put hC (pc := 33) in_X3 (ci := 0) rfl 14 (by decide) tyX3_ok nmX3 q2491 (Or.inl rfl) rfl rfl rfl h dX3_runScript_33 (fun G4 h => ?_)
    refine g_iconst hC (pc := 36) (v := (0 : Int32)) (by decide) dX3_runScript_36 ?_
    refine g_istore_n hC (pc := 37) (lv' := [(1, vI (0 : Int32)), (0, vQ (some t0))]) rfl (by decide) rfl dX3_runScript_37 ?_
    exact g_sub [1, 0] rfl (w_X3_runScript_38 hC hK hX gFuel _ _ _ h)
  · refine g_aload_n hC (pc := 12) 0 rfl rfl dX3_runScript_12 ?_
    refine g_aload_n hC (pc := 13) 0 rfl rfl dX3_runScript_13 ?_
    refine g_getI hC (pc := 14) in_X3 (ci := 0) rfl 17 (by decide) q2494 (Or.inl rfl) h dX3_runScript_14 (fun i5 h => ?_)
    refine g_put hC (pc := 17) in_X3 (ci := 0) rfl 7 (by decide) tyX3_ok nmX3 q2484 (Or.inl rfl) rfl rfl rfl h dX3_runScript_17 (fun G6 h => ?_)
    refine g_aload_n hC (pc := 20) 0 rfl rfl dX3_runScript_20 ?_
    refine g_iconst hC (pc := 21) (v := (1 : Int32)) (by decide) dX3_runScript_21 ?_
    refine g_put hC (pc := 22) in_X3 (ci := 0) rfl 14 (by decide) tyX3_ok nmX3 q2491 (Or.inl rfl) rfl rfl rfl h dX3_runScript_22 (fun G7 h => ?_)
    refine g_iconst hC (pc := 25) (v := (0 : Int32)) (by decide) dX3_runScript_25 ?_
    exact g_iret hC (pc := 26) (hK _ _ h) dX3_runScript_26
theorem gc_X3_runScript : gCode yX3_runScript cX3_runScript 3 (some .int) 0 := ⟨q2933, q105, ⟨by decide, by decide⟩, rfl⟩
theorem m_X3_runScript {l : Launch} (hfl : l.stackTraces = false) {E : gE} {G : gS} {t0 : Nat} {X : Nat → gS → Prop} {K : Int32 → gS → Prop} (h : wp_X3_runScript (gAd E) G t0 X K) : gMet l yX3_runScript (ws_ yX3_runScript cX3_runScript 3 (some .int)) 9 278 [vQ (some t0)] E G (gRi K) X :=
  g_met hfl (plainFor_of_name (by decide +kernel)) rfl rfl rfl (gle rfl) (fun p e R s m args below meth c hC => w_X3_runScript hC (fun _ _ h => h) (fun _ _ h => h) h)
def wp_X1_errorPosition (ad : Nat → Nat) (G : gS) (t0 : Nat) (X : Nat → gS → Prop) (K : Int32 → gS → Prop) : Prop :=
  wGetI G t0 1 4 fun i1 => wp_X1_found ad G i1 X (fun r3 G2 => K r3 G2)
theorem w_X1_errorPosition {C : gCx} (hC : gOk C "GoblinHousehold" cX1_errorPosition [] (some .int) "errorPosition" 1 10 268) {K : Int32 → gS → Prop} {X : Nat → gS → Prop} (hK : ∀ r G, K r G → cxK C (some (vI r)) G) (hX : ∀ q G, X q G → cxX C q G) {G : gS} {t0 : Nat} (h : wp_X1_errorPosition (cxA C) G t0 X K) : gGo C G 0 [(0, vQ (some t0))] [] := by
  unfold wp_X1_errorPosition at h
  refine g_aload_n hC (pc := 0) 0 rfl rfl dX1_errorPosition_0 ?_
  refine g_getI hC (pc := 1) in_X1 (ci := 1) rfl 4 (by decide) q296 (Or.inl rfl) h dX1_errorPosition_1 (fun i1 h => ?_)
  refine g_callS hC (pc := 4) (b := 0) (As := [vI i1]) gc_X1_found (m_X1_found hC.fl h) q1730 q1731 (gle rfl) (gle rfl) rfl (gle rfl) rfl dX1_errorPosition_4 (gk_i fun r3 G2 h => ?_) (fun _ _ h hio => g_out0 hC (hX _ _ h) hio)
  exact g_iret hC (pc := 7) (hK _ _ h) dX1_errorPosition_7
theorem gc_X1_errorPosition : gCode yX1_errorPosition cX1_errorPosition 1 (some .int) 0 := ⟨q2426, q94, ⟨by decide, by decide⟩, rfl⟩
theorem m_X1_errorPosition {l : Launch} (hfl : l.stackTraces = false) {E : gE} {G : gS} {t0 : Nat} {X : Nat → gS → Prop} {K : Int32 → gS → Prop} (h : wp_X1_errorPosition (gAd E) G t0 X K) : gMet l yX1_errorPosition (ws_ yX1_errorPosition cX1_errorPosition 1 (some .int)) 10 268 [vQ (some t0)] E G (gRi K) X :=
  g_met hfl (plainFor_of_name (by decide +kernel)) rfl rfl rfl (gle rfl) (fun p e R s m args below meth c hC => w_X1_errorPosition hC (fun _ _ h => h) (fun _ _ h => h) h)
def wp_X0_errorPosition_11 (ad : Nat → Nat) (X : Nat → gS → Prop) (K : Int32 → gS → Prop) (G : gS) (ts0 : Nat) : Prop :=
  K (1 : Int32) G
theorem w_X0_errorPosition_11 {C : gCx} (hC : gOk C "GoblinHouseholdLaw" cX0_errorPosition [(0, 8, 11, 37)] (some .int) "errorPosition" 3 11 296) {K : Int32 → gS → Prop} {X : Nat → gS → Prop} (hK : ∀ r G, K r G → cxK C (some (vI r)) G) (hX : ∀ q G, X q G → cxX C q G) {G : gS} {ts0 : Nat} (h : wp_X0_errorPosition_11 (cxA C) X K G ts0) : gGo C G 11 [] [vQ (some ts0)] := by
  unfold wp_X0_errorPosition_11 at h
  refine g_astore_n hC (pc := 11) (lv' := [(2, vQ (some ts0))]) rfl (by decide) rfl dX0_errorPosition_11 ?_
  refine g_iconst hC (pc := 12) (v := (1 : Int32)) (by decide) dX0_errorPosition_12 ?_
  exact g_iret hC (pc := 13) (hK _ _ h) dX0_errorPosition_13
def wp_X0_errorPosition (ad : Nat → Nat) (G : gS) (o0 : Option Nat) (o1 : Option Nat) (X : Nat → gS → Prop) (K : Int32 → gS → Prop) : Prop :=
  wNN o0 fun c1 => (gIs G c1 1 ∧ wp_X1_errorPosition ad G c1  (fun y3 G4 => (gHas G4 y3 23 ∧ (wp_X0_errorPosition_11 ad X K G4 y3))) (fun r5 G2 => wNN o1 fun c6 => wAstL G2 c6 (0 : Int32) ((r5).toInt64) fun G7 => K (0 : Int32) G7))
theorem w_X0_errorPosition {C : gCx} (hC : gOk C "GoblinHouseholdLaw" cX0_errorPosition [(0, 8, 11, 37)] (some .int) "errorPosition" 3 11 296) {K : Int32 → gS → Prop} {X : Nat → gS → Prop} (hK : ∀ r G, K r G → cxK C (some (vI r)) G) (hX : ∀ q G, X q G → cxX C q G) {G : gS} {o0 : Option Nat} {o1 : Option Nat} (h : wp_X0_errorPosition (cxA C) G o0 o1 X K) : gGo C G 0 [(0, vQ o0), (1, vQ o1)] [] := by
  unfold wp_X0_errorPosition at h
  refine g_aload_n hC (pc := 0) 1 rfl rfl dX0_errorPosition_0 ?_
  refine g_iconst hC (pc := 1) (v := (0 : Int32)) (by decide) dX0_errorPosition_1 ?_
  refine g_aload_n hC (pc := 2) 0 rfl rfl dX0_errorPosition_2 ?_
  rcases o0 with _ | c1
  · exact (gNN0 h).elim
  replace h := gNN1 h
  obtain ⟨hi, h⟩ := h
  refine g_callV hC (pc := 3) (ci := 1) (As := []) gc_X1_errorPosition (m_X1_errorPosition hC.fl h) rfl hi q2423 q2424 q2425 (gle rfl) (gle rfl) rfl (gle rfl) rfl dX0_errorPosition_3 (gk_i fun r5 G2 h => ?_) (fun y3 G4 h hio => ?_)
  · refine g_i2l hC (pc := 6) dX0_errorPosition_6 ?_
    rcases o1 with _ | c6
    · exact (gNN0 h).elim
    replace h := gNN1 h
    refine g_astL hC (pc := 7) h dX0_errorPosition_7 (fun G7 h => ?_)
    refine g_goto hC (pc := 8) 14 (by decide) dX0_errorPosition_8 ?_
    refine g_iconst hC (pc := 14) (v := (0 : Int32)) (by decide) dX0_errorPosition_14 ?_
    exact g_iret hC (pc := 15) (hK _ _ h) dX0_errorPosition_15
  · obtain ⟨hq, h⟩ := h
    refine g_catchI hC (pc := 3) (ci := 23) rfl hq 0 rfl (fun _ h => nomatch h) rfl (by decide) q1418 (List.mem_of_getElem? (i := 8) rfl) rfl ?_
    exact g_sub [] rfl (w_X0_errorPosition_11 hC hK hX h)
theorem gc_X0_errorPosition : gCodeW yX0_errorPosition cX0_errorPosition 3 (some .int) [(0, 8, 11, 37)] 2 := ⟨q2422, q93, ⟨by decide, by decide⟩, rfl⟩
theorem m_X0_errorPosition {l : Launch} (hfl : l.stackTraces = false) {E : gE} {G : gS} {o0 : Option Nat} {o1 : Option Nat} {X : Nat → gS → Prop} {K : Int32 → gS → Prop} (h : wp_X0_errorPosition (gAd E) G o0 o1 X K) : gMet l yX0_errorPosition (wsW_ yX0_errorPosition cX0_errorPosition 3 (some .int) [(0, 8, 11, 37)]) 11 296 [vQ o0, vQ o1] E G (gRi K) X :=
  g_metW hfl (plainFor_of_name (by decide +kernel)) rfl rfl rfl (gle rfl) (fun p e R s m args below meth c hC => w_X0_errorPosition hC (fun _ _ h => h) (fun _ _ h => h) h)
def wp_X3_errorPosition_14 (ad : Nat → Nat) (X : Nat → gS → Prop) (K : Int32 → gS → Prop) (G : gS) (t0 : Nat) (xs0 : Int32) (ts1 : Nat) : Prop :=
  (gIs G ts1 0 ∧ wp_X3_goes ad G ts1 xs0 X (fun r2 G1 => (r2 = (0 : Int32) → K (0 : Int32) G1) ∧ (¬ r2 = (0 : Int32) → wGetI G1 t0 0 7 fun i3 => K i3 G1)))
theorem w_X3_errorPosition_14 {C : gCx} (hC : gOk C "GoblinHouseholdModel" cX3_errorPosition [] (some .int) "errorPosition" 1 2 61) {K : Int32 → gS → Prop} {X : Nat → gS → Prop} (hK : ∀ r G, K r G → cxK C (some (vI r)) G) (hX : ∀ q G, X q G → cxX C q G) {G : gS} {t0 : Nat} {xs0 : Int32} {ts1 : Nat} (h : wp_X3_errorPosition_14 (cxA C) X K G t0 xs0 ts1) : gGo C G 14 [(0, vQ (some t0))] [vI xs0, vQ (some ts1)] := by
  unfold wp_X3_errorPosition_14 at h
  obtain ⟨hi, h⟩ := h
  refine g_callV hC (pc := 14) (ci := 0) (As := [vI xs0]) gc_X3_goes (m_X3_goes hC.fl h) rfl hi q2546 q2548 qs43 (gle rfl) (gle rfl) rfl (gle rfl) rfl dX3_errorPosition_14 (gk_i fun r2 G1 h => ?_) (fun _ _ h hio => g_out0 hC (hX _ _ h) hio)
  refine g_if_eq hC (pc := 17) 27 h (by decide) dX3_errorPosition_17 (fun h => ?_) (fun h => ?_)
  · refine g_iconst hC (pc := 27) (v := (0 : Int32)) (by decide) dX3_errorPosition_27 ?_
    exact g_iret hC (pc := 28) (hK _ _ h) dX3_errorPosition_28
  · refine g_aload_n hC (pc := 20) 0 rfl rfl dX3_errorPosition_20 ?_
    refine g_getI hC (pc := 21) in_X3 (ci := 0) rfl 7 (by decide) q2484 (Or.inl rfl) h dX3_errorPosition_21 (fun i3 h => ?_)
    refine g_goto hC (pc := 24) 28 (by decide) dX3_errorPosition_24 ?_
    exact g_iret hC (pc := 28) (hK _ _ h) dX3_errorPosition_28
def wp_X3_errorPosition (ad : Nat → Nat) (G : gS) (t0 : Nat) (X : Nat → gS → Prop) (K : Int32 → gS → Prop) : Prop :=
  wGetI G t0 0 7 fun i1 => (i1 = (-1 : Int32) → wp_X3_errorPosition_14 ad X K G t0 (0 : Int32) t0) ∧ (¬ i1 = (-1 : Int32) → wp_X3_errorPosition_14 ad X K G t0 (1 : Int32) t0)
theorem w_X3_errorPosition {C : gCx} (hC : gOk C "GoblinHouseholdModel" cX3_errorPosition [] (some .int) "errorPosition" 1 2 61) {K : Int32 → gS → Prop} {X : Nat → gS → Prop} (hK : ∀ r G, K r G → cxK C (some (vI r)) G) (hX : ∀ q G, X q G → cxX C q G) {G : gS} {t0 : Nat} (h : wp_X3_errorPosition (cxA C) G t0 X K) : gGo C G 0 [(0, vQ (some t0))] [] := by
  unfold wp_X3_errorPosition at h
  refine g_aload_n hC (pc := 0) 0 rfl rfl dX3_errorPosition_0 ?_
  refine g_aload_n hC (pc := 1) 0 rfl rfl dX3_errorPosition_1 ?_
  refine g_getI hC (pc := 2) in_X3 (ci := 0) rfl 7 (by decide) q2484 (Or.inl rfl) h dX3_errorPosition_2 (fun i1 h => ?_)
  refine g_iconst hC (pc := 5) (v := (-1 : Int32)) (by decide) dX3_errorPosition_5 ?_
  refine g_icmp_eq hC (pc := 6) 13 h (by decide) dX3_errorPosition_6 (fun h => ?_) (fun h => ?_)
  · refine g_iconst hC (pc := 13) (v := (0 : Int32)) (by decide) dX3_errorPosition_13 ?_
    exact g_sub [0] rfl (w_X3_errorPosition_14 hC hK hX h)
  · refine g_iconst hC (pc := 9) (v := (1 : Int32)) (by decide) dX3_errorPosition_9 ?_
    refine g_goto hC (pc := 10) 14 (by decide) dX3_errorPosition_10 ?_
    exact g_sub [0] rfl (w_X3_errorPosition_14 hC hK hX h)
theorem gc_X3_errorPosition : gCode yX3_errorPosition cX3_errorPosition 1 (some .int) 0 := ⟨q2982, q105, ⟨by decide, by decide⟩, rfl⟩
theorem m_X3_errorPosition {l : Launch} (hfl : l.stackTraces = false) {E : gE} {G : gS} {t0 : Nat} {X : Nat → gS → Prop} {K : Int32 → gS → Prop} (h : wp_X3_errorPosition (gAd E) G t0 X K) : gMet l yX3_errorPosition (ws_ yX3_errorPosition cX3_errorPosition 1 (some .int)) 2 61 [vQ (some t0)] E G (gRi K) X :=
  g_met hfl (plainFor_of_name (by decide +kernel)) rfl rfl rfl (gle rfl) (fun p e R s m args below meth c hC => w_X3_errorPosition hC (fun _ _ h => h) (fun _ _ h => h) h)
def wp_X1_failedCommand (ad : Nat → Nat) (G : gS) (t0 : Nat) (X : Nat → gS → Prop) (K : Int32 → gS → Prop) : Prop :=
  wGetI G t0 1 5 fun i1 => wp_X1_found ad G i1 X (fun r3 G2 => K r3 G2)
theorem w_X1_failedCommand {C : gCx} (hC : gOk C "GoblinHousehold" cX1_failedCommand [] (some .int) "failedCommand" 1 10 268) {K : Int32 → gS → Prop} {X : Nat → gS → Prop} (hK : ∀ r G, K r G → cxK C (some (vI r)) G) (hX : ∀ q G, X q G → cxX C q G) {G : gS} {t0 : Nat} (h : wp_X1_failedCommand (cxA C) G t0 X K) : gGo C G 0 [(0, vQ (some t0))] [] := by
  unfold wp_X1_failedCommand at h
  refine g_aload_n hC (pc := 0) 0 rfl rfl dX1_failedCommand_0 ?_
  refine g_getI hC (pc := 1) in_X1 (ci := 1) rfl 5 (by decide) q297 (Or.inl rfl) h dX1_failedCommand_1 (fun i1 h => ?_)
  refine g_callS hC (pc := 4) (b := 0) (As := [vI i1]) gc_X1_found (m_X1_found hC.fl h) q1730 q1731 (gle rfl) (gle rfl) rfl (gle rfl) rfl dX1_failedCommand_4 (gk_i fun r3 G2 h => ?_) (fun _ _ h hio => g_out0 hC (hX _ _ h) hio)
  exact g_iret hC (pc := 7) (hK _ _ h) dX1_failedCommand_7
theorem gc_X1_failedCommand : gCode yX1_failedCommand cX1_failedCommand 1 (some .int) 0 := ⟨q2433, q94, ⟨by decide, by decide⟩, rfl⟩
theorem m_X1_failedCommand {l : Launch} (hfl : l.stackTraces = false) {E : gE} {G : gS} {t0 : Nat} {X : Nat → gS → Prop} {K : Int32 → gS → Prop} (h : wp_X1_failedCommand (gAd E) G t0 X K) : gMet l yX1_failedCommand (ws_ yX1_failedCommand cX1_failedCommand 1 (some .int)) 10 268 [vQ (some t0)] E G (gRi K) X :=
  g_met hfl (plainFor_of_name (by decide +kernel)) rfl rfl rfl (gle rfl) (fun p e R s m args below meth c hC => w_X1_failedCommand hC (fun _ _ h => h) (fun _ _ h => h) h)
def wp_X0_failedCommand_11 (ad : Nat → Nat) (X : Nat → gS → Prop) (K : Int32 → gS → Prop) (G : gS) (ts0 : Nat) : Prop :=
  K (1 : Int32) G
theorem w_X0_failedCommand_11 {C : gCx} (hC : gOk C "GoblinHouseholdLaw" cX0_failedCommand [(0, 8, 11, 37)] (some .int) "failedCommand" 3 11 296) {K : Int32 → gS → Prop} {X : Nat → gS → Prop} (hK : ∀ r G, K r G → cxK C (some (vI r)) G) (hX : ∀ q G, X q G → cxX C q G) {G : gS} {ts0 : Nat} (h : wp_X0_failedCommand_11 (cxA C) X K G ts0) : gGo C G 11 [] [vQ (some ts0)] := by
  unfold wp_X0_failedCommand_11 at h
  refine g_astore_n hC (pc := 11) (lv' := [(2, vQ (some ts0))]) rfl (by decide) rfl dX0_failedCommand_11 ?_
  refine g_iconst hC (pc := 12) (v := (1 : Int32)) (by decide) dX0_failedCommand_12 ?_
  exact g_iret hC (pc := 13) (hK _ _ h) dX0_failedCommand_13
def wp_X0_failedCommand (ad : Nat → Nat) (G : gS) (o0 : Option Nat) (o1 : Option Nat) (X : Nat → gS → Prop) (K : Int32 → gS → Prop) : Prop :=
  wNN o0 fun c1 => (gIs G c1 1 ∧ wp_X1_failedCommand ad G c1  (fun y3 G4 => (gHas G4 y3 23 ∧ (wp_X0_failedCommand_11 ad X K G4 y3))) (fun r5 G2 => wNN o1 fun c6 => wAstL G2 c6 (0 : Int32) ((r5).toInt64) fun G7 => K (0 : Int32) G7))
theorem w_X0_failedCommand {C : gCx} (hC : gOk C "GoblinHouseholdLaw" cX0_failedCommand [(0, 8, 11, 37)] (some .int) "failedCommand" 3 11 296) {K : Int32 → gS → Prop} {X : Nat → gS → Prop} (hK : ∀ r G, K r G → cxK C (some (vI r)) G) (hX : ∀ q G, X q G → cxX C q G) {G : gS} {o0 : Option Nat} {o1 : Option Nat} (h : wp_X0_failedCommand (cxA C) G o0 o1 X K) : gGo C G 0 [(0, vQ o0), (1, vQ o1)] [] := by
  unfold wp_X0_failedCommand at h
  refine g_aload_n hC (pc := 0) 1 rfl rfl dX0_failedCommand_0 ?_
  refine g_iconst hC (pc := 1) (v := (0 : Int32)) (by decide) dX0_failedCommand_1 ?_
  refine g_aload_n hC (pc := 2) 0 rfl rfl dX0_failedCommand_2 ?_
  rcases o0 with _ | c1
  · exact (gNN0 h).elim
  replace h := gNN1 h
  obtain ⟨hi, h⟩ := h
  refine g_callV hC (pc := 3) (ci := 1) (As := []) gc_X1_failedCommand (m_X1_failedCommand hC.fl h) rfl hi q2430 q2431 q2432 (gle rfl) (gle rfl) rfl (gle rfl) rfl dX0_failedCommand_3 (gk_i fun r5 G2 h => ?_) (fun y3 G4 h hio => ?_)
  · refine g_i2l hC (pc := 6) dX0_failedCommand_6 ?_
    rcases o1 with _ | c6
    · exact (gNN0 h).elim
    replace h := gNN1 h
    refine g_astL hC (pc := 7) h dX0_failedCommand_7 (fun G7 h => ?_)
    refine g_goto hC (pc := 8) 14 (by decide) dX0_failedCommand_8 ?_
    refine g_iconst hC (pc := 14) (v := (0 : Int32)) (by decide) dX0_failedCommand_14 ?_
    exact g_iret hC (pc := 15) (hK _ _ h) dX0_failedCommand_15
  · obtain ⟨hq, h⟩ := h
    refine g_catchI hC (pc := 3) (ci := 23) rfl hq 0 rfl (fun _ h => nomatch h) rfl (by decide) q1418 (List.mem_of_getElem? (i := 8) rfl) rfl ?_
    exact g_sub [] rfl (w_X0_failedCommand_11 hC hK hX h)
theorem gc_X0_failedCommand : gCodeW yX0_failedCommand cX0_failedCommand 3 (some .int) [(0, 8, 11, 37)] 2 := ⟨q2429, q93, ⟨by decide, by decide⟩, rfl⟩
theorem m_X0_failedCommand {l : Launch} (hfl : l.stackTraces = false) {E : gE} {G : gS} {o0 : Option Nat} {o1 : Option Nat} {X : Nat → gS → Prop} {K : Int32 → gS → Prop} (h : wp_X0_failedCommand (gAd E) G o0 o1 X K) : gMet l yX0_failedCommand (wsW_ yX0_failedCommand cX0_failedCommand 3 (some .int) [(0, 8, 11, 37)]) 11 296 [vQ o0, vQ o1] E G (gRi K) X :=
  g_metW hfl (plainFor_of_name (by decide +kernel)) rfl rfl rfl (gle rfl) (fun p e R s m args below meth c hC => w_X0_failedCommand hC (fun _ _ h => h) (fun _ _ h => h) h)
def wp_X3_failedCommand_14 (ad : Nat → Nat) (X : Nat → gS → Prop) (K : Int32 → gS → Prop) (G : gS) (t0 : Nat) (xs0 : Int32) (ts1 : Nat) : Prop :=
  (gIs G ts1 0 ∧ wp_X3_goes ad G ts1 xs0 X (fun r2 G1 => (r2 = (0 : Int32) → K (0 : Int32) G1) ∧ (¬ r2 = (0 : Int32) → wGetI G1 t0 0 8 fun i3 => K i3 G1)))
theorem w_X3_failedCommand_14 {C : gCx} (hC : gOk C "GoblinHouseholdModel" cX3_failedCommand [] (some .int) "failedCommand" 1 2 61) {K : Int32 → gS → Prop} {X : Nat → gS → Prop} (hK : ∀ r G, K r G → cxK C (some (vI r)) G) (hX : ∀ q G, X q G → cxX C q G) {G : gS} {t0 : Nat} {xs0 : Int32} {ts1 : Nat} (h : wp_X3_failedCommand_14 (cxA C) X K G t0 xs0 ts1) : gGo C G 14 [(0, vQ (some t0))] [vI xs0, vQ (some ts1)] := by
  unfold wp_X3_failedCommand_14 at h
  obtain ⟨hi, h⟩ := h
  refine g_callV hC (pc := 14) (ci := 0) (As := [vI xs0]) gc_X3_goes (m_X3_goes hC.fl h) rfl hi q2546 q2548 qs43 (gle rfl) (gle rfl) rfl (gle rfl) rfl dX3_failedCommand_14 (gk_i fun r2 G1 h => ?_) (fun _ _ h hio => g_out0 hC (hX _ _ h) hio)
  refine g_if_eq hC (pc := 17) 27 h (by decide) dX3_failedCommand_17 (fun h => ?_) (fun h => ?_)
  · refine g_iconst hC (pc := 27) (v := (0 : Int32)) (by decide) dX3_failedCommand_27 ?_
    exact g_iret hC (pc := 28) (hK _ _ h) dX3_failedCommand_28
  · refine g_aload_n hC (pc := 20) 0 rfl rfl dX3_failedCommand_20 ?_
    refine g_getI hC (pc := 21) in_X3 (ci := 0) rfl 8 (by decide) q2485 (Or.inl rfl) h dX3_failedCommand_21 (fun i3 h => ?_)
    refine g_goto hC (pc := 24) 28 (by decide) dX3_failedCommand_24 ?_
    exact g_iret hC (pc := 28) (hK _ _ h) dX3_failedCommand_28
def wp_X3_failedCommand (ad : Nat → Nat) (G : gS) (t0 : Nat) (X : Nat → gS → Prop) (K : Int32 → gS → Prop) : Prop :=
  wGetI G t0 0 8 fun i1 => (i1 = (-1 : Int32) → wp_X3_failedCommand_14 ad X K G t0 (0 : Int32) t0) ∧ (¬ i1 = (-1 : Int32) → wp_X3_failedCommand_14 ad X K G t0 (1 : Int32) t0)
theorem w_X3_failedCommand {C : gCx} (hC : gOk C "GoblinHouseholdModel" cX3_failedCommand [] (some .int) "failedCommand" 1 2 61) {K : Int32 → gS → Prop} {X : Nat → gS → Prop} (hK : ∀ r G, K r G → cxK C (some (vI r)) G) (hX : ∀ q G, X q G → cxX C q G) {G : gS} {t0 : Nat} (h : wp_X3_failedCommand (cxA C) G t0 X K) : gGo C G 0 [(0, vQ (some t0))] [] := by
  unfold wp_X3_failedCommand at h
  refine g_aload_n hC (pc := 0) 0 rfl rfl dX3_failedCommand_0 ?_
  refine g_aload_n hC (pc := 1) 0 rfl rfl dX3_failedCommand_1 ?_
  refine g_getI hC (pc := 2) in_X3 (ci := 0) rfl 8 (by decide) q2485 (Or.inl rfl) h dX3_failedCommand_2 (fun i1 h => ?_)
  refine g_iconst hC (pc := 5) (v := (-1 : Int32)) (by decide) dX3_failedCommand_5 ?_
  refine g_icmp_eq hC (pc := 6) 13 h (by decide) dX3_failedCommand_6 (fun h => ?_) (fun h => ?_)
  · refine g_iconst hC (pc := 13) (v := (0 : Int32)) (by decide) dX3_failedCommand_13 ?_
    exact g_sub [0] rfl (w_X3_failedCommand_14 hC hK hX h)
  · refine g_iconst hC (pc := 9) (v := (1 : Int32)) (by decide) dX3_failedCommand_9 ?_
    refine g_goto hC (pc := 10) 14 (by decide) dX3_failedCommand_10 ?_
    exact g_sub [0] rfl (w_X3_failedCommand_14 hC hK hX h)
theorem gc_X3_failedCommand : gCode yX3_failedCommand cX3_failedCommand 1 (some .int) 0 := ⟨q2986, q105, ⟨by decide, by decide⟩, rfl⟩
theorem m_X3_failedCommand {l : Launch} (hfl : l.stackTraces = false) {E : gE} {G : gS} {t0 : Nat} {X : Nat → gS → Prop} {K : Int32 → gS → Prop} (h : wp_X3_failedCommand (gAd E) G t0 X K) : gMet l yX3_failedCommand (ws_ yX3_failedCommand cX3_failedCommand 1 (some .int)) 2 61 [vQ (some t0)] E G (gRi K) X :=
  g_met hfl (plainFor_of_name (by decide +kernel)) rfl rfl rfl (gle rfl) (fun p e R s m args below meth c hC => w_X3_failedCommand hC (fun _ _ h => h) (fun _ _ h => h) h)
def wp_J0_isEmpty (ad : Nat → Nat) (G : gS) (t0 : Nat) (X : Nat → gS → Prop) (K : Int32 → gS → Prop) : Prop :=
  (gIs G t0 4 ∧ wp_J4_size ad G t0  X (fun r2 G1 => (¬ r2 = (0 : Int32) → K (0 : Int32) G1) ∧ (r2 = (0 : Int32) → K (1 : Int32) G1)))
theorem w_J0_isEmpty {C : gCx} (hC : gOk C "java/util/AbstractCollection" cJ0_isEmpty [] (some .boolean) "isEmpty" 1 1 28) {K : Int32 → gS → Prop} {X : Nat → gS → Prop} (hK : ∀ r G, K r G → cxK C (some (vI r)) G) (hX : ∀ q G, X q G → cxX C q G) {G : gS} {t0 : Nat} (h : wp_J0_isEmpty (cxA C) G t0 X K) : gGo C G 0 [(0, vQ (some t0))] [] := by
  unfold wp_J0_isEmpty at h
  refine g_aload_n hC (pc := 0) 0 rfl rfl dJ0_isEmpty_0 ?_
  obtain ⟨hi, h⟩ := h
  refine g_callA hC (pc := 1) (ci := 4) (As := []) gc_J4_size (m_J4_size hC.fl h) (x := ⟨"java/util/AbstractCollection", "size", "()I"⟩) (owner := "java/util/AbstractCollection") rfl hi q2447 q2449 (List.mem_of_getElem? (i := 33) rfl) ⟨by decide, by decide⟩ rfl q2451 q331 (gle rfl) (gle rfl) rfl (gle rfl) rfl dJ0_isEmpty_1 (gk_i fun r2 G1 h => ?_) (fun _ _ h hio => g_out0 hC (hX _ _ h) hio)
  refine g_if_ne hC (pc := 4) 11 h (by decide) dJ0_isEmpty_4 (fun h => ?_) (fun h => ?_)
  · refine g_iconst hC (pc := 11) (v := (0 : Int32)) (by decide) dJ0_isEmpty_11 ?_
    exact g_zret hC (pc := 12) rfl (hK _ _ h) dJ0_isEmpty_12
  · refine g_iconst hC (pc := 7) (v := (1 : Int32)) (by decide) dJ0_isEmpty_7 ?_
    refine g_goto hC (pc := 8) 12 (by decide) dJ0_isEmpty_8 ?_
    exact g_zret hC (pc := 12) rfl (hK _ _ h) dJ0_isEmpty_12
theorem gc_J0_isEmpty : gCode yJ0_isEmpty cJ0_isEmpty 1 (some .boolean) 0 := ⟨q2446, q96, ⟨by decide, by decide⟩, rfl⟩
theorem m_J0_isEmpty {l : Launch} (hfl : l.stackTraces = false) {E : gE} {G : gS} {t0 : Nat} {X : Nat → gS → Prop} {K : Int32 → gS → Prop} (h : wp_J0_isEmpty (gAd E) G t0 X K) : gMet l yJ0_isEmpty (ws_ yJ0_isEmpty cJ0_isEmpty 1 (some .boolean)) 1 28 [vQ (some t0)] E G (gRi K) X :=
  g_met hfl (plainFor_of_name (by decide +kernel)) rfl rfl rfl (gle rfl) (fun p e R s m args below meth c hC => w_J0_isEmpty hC (fun _ _ h => h) (fun _ _ h => h) h)
def wp_J4_unlinkLast_42 (ad : Nat → Nat) (X : Nat → gS → Prop) (K : Option Nat → gS → Prop) (G : gS) (t0 : Nat) (o2 : Option Nat) : Prop :=
  wGetI G t0 4 1 fun i1 => wPut G t0 4 1 (.int (i1 - (1 : Int32))) fun G2 => wGetI G2 t0 4 0 fun i3 => wPut G2 t0 4 0 (.int (i3 + (1 : Int32))) fun G4 => K o2 G4
theorem w_J4_unlinkLast_42 {C : gCx} (hC : gOk C "java/util/LinkedList" cJ4_unlinkLast [] (some (Jvm.ClassFile.FieldType.object "java/lang/Object")) "unlinkLast" 4 0 0) {K : Option Nat → gS → Prop} {X : Nat → gS → Prop} (hK : ∀ r G, K r G → cxK C (some (vQ r)) G) (hX : ∀ q G, X q G → cxX C q G) {G : gS} {t0 : Nat} {o2 : Option Nat} (h : wp_J4_unlinkLast_42 (cxA C) X K G t0 o2) : gGo C G 42 [(0, vQ (some t0)), (2, vQ o2)] [] := by
  unfold wp_J4_unlinkLast_42 at h
  refine g_aload_n hC (pc := 42) 0 rfl rfl dJ4_unlinkLast_42 ?_
  refine g_dup hC (pc := 43) rfl dJ4_unlinkLast_43 ?_
  refine g_getI hC (pc := 44) in_J4 (ci := 4) rfl 1 (by decide) q247 (Or.inl rfl) h dJ4_unlinkLast_44 (fun i1 h => ?_)
  refine g_iconst hC (pc := 47) (v := (1 : Int32)) (by decide) dJ4_unlinkLast_47 ?_
  refine g_isub hC (pc := 48) dJ4_unlinkLast_48 ?_
  refine g_put hC (pc := 49) in_J4 (ci := 4) rfl 1 (by decide) tyJ4_ok nmJ4 q247 (Or.inl rfl) rfl rfl rfl h dJ4_unlinkLast_49 (fun G2 h => ?_)
  refine g_aload_n hC (pc := 52) 0 rfl rfl dJ4_unlinkLast_52 ?_
  refine g_dup hC (pc := 53) rfl dJ4_unlinkLast_53 ?_
  refine g_getI hC (pc := 54) in_J4 (ci := 4) rfl 0 (by decide) q176 (Or.inr q177) h dJ4_unlinkLast_54 (fun i3 h => ?_)
  refine g_iconst hC (pc := 57) (v := (1 : Int32)) (by decide) dJ4_unlinkLast_57 ?_
  refine g_iadd hC (pc := 58) dJ4_unlinkLast_58 ?_
  refine g_put hC (pc := 59) in_J4 (ci := 4) rfl 0 (by decide) tyJ4_ok nmJ4 q176 (Or.inr q177) rfl rfl rfl h dJ4_unlinkLast_59 (fun G4 h => ?_)
  refine g_aload_n hC (pc := 62) 1 rfl rfl dJ4_unlinkLast_62 ?_
  exact g_aret hC (pc := 63) (Or.inl ⟨_, rfl⟩) (hK _ _ h) dJ4_unlinkLast_63
def wp_J4_unlinkLast (ad : Nat → Nat) (G : gS) (t0 : Nat) (o1 : Option Nat) (X : Nat → gS → Prop) (K : Option Nat → gS → Prop) : Prop :=
  wNN o1 fun c1 => wGetQ G c1 5 0 fun q2 => wGetQ G c1 5 2 fun q3 => wPut G c1 5 0 (va_rf none) fun G4 => wPut G4 c1 5 2 (va_rf none) fun G5 => wPut G5 t0 4 3 (va_rf q3) fun G6 => (q3 = none → wPut G6 t0 4 2 (va_rf none) fun G7 => wp_J4_unlinkLast_42 ad X K G7 t0 q2) ∧ (∀ c8, q3 = some c8 → wPut G6 c8 5 1 (va_rf none) fun G9 => wp_J4_unlinkLast_42 ad X K G9 t0 q2)
theorem w_J4_unlinkLast {C : gCx} (hC : gOk C "java/util/LinkedList" cJ4_unlinkLast [] (some (Jvm.ClassFile.FieldType.object "java/lang/Object")) "unlinkLast" 4 0 0) {K : Option Nat → gS → Prop} {X : Nat → gS → Prop} (hK : ∀ r G, K r G → cxK C (some (vQ r)) G) (hX : ∀ q G, X q G → cxX C q G) {G : gS} {t0 : Nat} {o1 : Option Nat} (h : wp_J4_unlinkLast (cxA C) G t0 o1 X K) : gGo C G 0 [(0, vQ (some t0)), (1, vQ o1)] [] := by
  unfold wp_J4_unlinkLast at h
  refine g_aload_n hC (pc := 0) 1 rfl rfl dJ4_unlinkLast_0 ?_
  rcases o1 with _ | c1
  · exact (gNN0 h).elim
  replace h := gNN1 h
  refine g_getQ hC (pc := 1) in_J14 (ci := 5) rfl 0 (by decide) q1037 (Or.inl rfl) h dJ4_unlinkLast_1 (fun q2 h => ?_)
  refine g_astore_n hC (pc := 4) (lv' := [(2, vQ q2), (0, vQ (some t0)), (1, vQ (some c1))]) rfl (by decide) rfl dJ4_unlinkLast_4 ?_
  refine g_aload_n hC (pc := 5) 2 rfl rfl dJ4_unlinkLast_5 ?_
  refine g_getQ hC (pc := 6) in_J14 (ci := 5) rfl 2 (by decide) q1041 (Or.inl rfl) h dJ4_unlinkLast_6 (fun q3 h => ?_)
  refine g_astore_n hC (pc := 9) (lv' := [(3, vQ q3), (2, vQ q2), (0, vQ (some t0)), (1, vQ (some c1))]) rfl (by decide) rfl dJ4_unlinkLast_9 ?_
  refine g_aload_n hC (pc := 10) 3 rfl rfl dJ4_unlinkLast_10 ?_
  refine g_null hC (pc := 11) dJ4_unlinkLast_11 ?_
  refine g_put hC (pc := 12) in_J14 (ci := 5) rfl 0 (by decide) tyJ14_ok nmJ14 q1037 (Or.inl rfl) rfl (gnarO _ _) (gfitO _ _) h dJ4_unlinkLast_12 (fun G4 h => ?_)
  refine g_aload_n hC (pc := 15) 3 rfl rfl dJ4_unlinkLast_15 ?_
  refine g_null hC (pc := 16) dJ4_unlinkLast_16 ?_
  refine g_put hC (pc := 17) in_J14 (ci := 5) rfl 2 (by decide) tyJ14_ok nmJ14 q1041 (Or.inl rfl) rfl (gnarO _ _) (gfitO _ _) h dJ4_unlinkLast_17 (fun G5 h => ?_)
  refine g_aload_n hC (pc := 20) 2 rfl rfl dJ4_unlinkLast_20 ?_
  refine g_aload_n hC (pc := 21) 0 rfl rfl dJ4_unlinkLast_21 ?_
  refine g_put hC (pc := 22) in_J4 (ci := 4) rfl 3 (by decide) tyJ4_ok nmJ4 q249 (Or.inl rfl) rfl (gnarO _ _) (gfitO _ _) h dJ4_unlinkLast_22 (fun G6 h => ?_)
  refine g_aload_n hC (pc := 25) 0 rfl rfl dJ4_unlinkLast_25 ?_
  have hn := h; clear h
  refine g_ifnonnull hC (pc := 26) 37 (P := ¬ q3 = none) (Q := _) ⟨id, hn.1⟩ (by decide) dJ4_unlinkLast_26 (fun e0 => ?_) (fun h => ?_)
  · rcases q3 with _ | c8
    · exact absurd rfl e0
    have h := hn.2 _ rfl
    refine g_aload_n hC (pc := 37) 0 rfl rfl dJ4_unlinkLast_37 ?_
    refine g_null hC (pc := 38) dJ4_unlinkLast_38 ?_
    refine g_put hC (pc := 39) in_J14 (ci := 5) rfl 1 (by decide) tyJ14_ok nmJ14 q1039 (Or.inl rfl) rfl (gnarO _ _) (gfitO _ _) h dJ4_unlinkLast_39 (fun G9 h => ?_)
    exact g_sub [2, 1] rfl (w_J4_unlinkLast_42 hC hK hX h)
  · refine g_aload_n hC (pc := 29) 2 rfl rfl dJ4_unlinkLast_29 ?_
    refine g_null hC (pc := 30) dJ4_unlinkLast_30 ?_
    refine g_put hC (pc := 31) in_J4 (ci := 4) rfl 2 (by decide) tyJ4_ok nmJ4 q248 (Or.inl rfl) rfl (gnarO _ _) (gfitO _ _) h dJ4_unlinkLast_31 (fun G7 h => ?_)
    refine g_goto hC (pc := 34) 42 (by decide) dJ4_unlinkLast_34 ?_
    exact g_sub [2, 1] rfl (w_J4_unlinkLast_42 hC hK hX h)
theorem gc_J4_unlinkLast : gCode yJ4_unlinkLast cJ4_unlinkLast 4 (some (Jvm.ClassFile.FieldType.object "java/lang/Object")) 1 := ⟨q2459, q100, ⟨by decide, by decide⟩, rfl⟩
theorem m_J4_unlinkLast {l : Launch} (hfl : l.stackTraces = false) {E : gE} {G : gS} {t0 : Nat} {o1 : Option Nat} {X : Nat → gS → Prop} {K : Option Nat → gS → Prop} (h : wp_J4_unlinkLast (gAd E) G t0 o1 X K) : gMet l yJ4_unlinkLast (ws_ yJ4_unlinkLast cJ4_unlinkLast 4 (some (Jvm.ClassFile.FieldType.object "java/lang/Object"))) 0 0 [vQ (some t0), vQ o1] E G (gRq K) X :=
  g_met hfl (plainFor_of_name (by decide +kernel)) rfl rfl rfl (gle rfl) (fun p e R s m args below meth c hC => w_J4_unlinkLast hC (fun _ _ h => h) (fun _ _ h => h) h)
def wp_J4_removeLast (ad : Nat → Nat) (G : gS) (t0 : Nat) (X : Nat → gS → Prop) (K : Option Nat → gS → Prop) : Prop :=
  wGetQ G t0 4 3 fun q1 => (q1 = none → wNew G 23 6 [.null, .null, .null, .null, .null, .int 0] fun c3 G2 => wp_J23_init ad G2 c3  X (fun G4 => wThrow G4 c3 X)) ∧ (∀ c5, q1 = some c5 → (gIs G t0 4 ∧ wp_J4_unlinkLast ad G t0 (some c5) X (fun q7 G6 => K q7 G6)))
theorem w_J4_removeLast {C : gCx} (hC : gOk C "java/util/LinkedList" cJ4_removeLast [] (some (Jvm.ClassFile.FieldType.object "java/lang/Object")) "removeLast" 2 8 212) {K : Option Nat → gS → Prop} {X : Nat → gS → Prop} (hK : ∀ r G, K r G → cxK C (some (vQ r)) G) (hX : ∀ q G, X q G → cxX C q G) {G : gS} {t0 : Nat} (h : wp_J4_removeLast (cxA C) G t0 X K) : gGo C G 0 [(0, vQ (some t0))] [] := by
  unfold wp_J4_removeLast at h
  refine g_aload_n hC (pc := 0) 0 rfl rfl dJ4_removeLast_0 ?_
  refine g_getQ hC (pc := 1) in_J4 (ci := 4) rfl 3 (by decide) q249 (Or.inl rfl) h dJ4_removeLast_1 (fun q1 h => ?_)
  refine g_astore_n hC (pc := 4) (lv' := [(1, vQ q1), (0, vQ (some t0))]) rfl (by decide) rfl dJ4_removeLast_4 ?_
  refine g_aload_n hC (pc := 5) 0 rfl rfl dJ4_removeLast_5 ?_
  have hn := h; clear h
  refine g_ifnonnull hC (pc := 6) 17 (P := ¬ q1 = none) (Q := _) ⟨id, hn.1⟩ (by decide) dJ4_removeLast_6 (fun e0 => ?_) (fun h => ?_)
  · rcases q1 with _ | c5
    · exact absurd rfl e0
    have h := hn.2 _ rfl
    refine g_aload_n hC (pc := 17) 1 rfl rfl dJ4_removeLast_17 ?_
    refine g_aload_n hC (pc := 18) 0 rfl rfl dJ4_removeLast_18 ?_
    obtain ⟨hi, h⟩ := h
    refine g_callV hC (pc := 19) (ci := 4) (As := [vQ (some c5)]) gc_J4_unlinkLast (m_J4_unlinkLast hC.fl h) rfl hi q2456 q2458 qs42 (gle rfl) (gle rfl) rfl (gle rfl) rfl dJ4_removeLast_19 (gk_q fun q7 G6 h => ?_) (fun _ _ h hio => g_out0 hC (hX _ _ h) hio)
    exact g_aret hC (pc := 22) (Or.inl ⟨_, rfl⟩) (hK _ _ h) dJ4_removeLast_22
  · refine g_new hC (pc := 9) in_J23 (ci := 23) rfl (by decide) tyJ23_ok q1135 q1136 q129 gdf_J23 h dJ4_removeLast_9 (fun c3 G2 h => ?_)
    refine g_dup hC (pc := 12) rfl dJ4_removeLast_12 ?_
    refine g_callI hC (pc := 13) (As := []) gc_J23_init (m_J23_init hC.fl h) rfl q1144 q1145 (gle rfl) (gle rfl) rfl (gle rfl) rfl dJ4_removeLast_13 (gk_v fun G4 h => ?_) (fun _ _ h hio => g_out0 hC (hX _ _ h) hio)
    exact g_athrow hC (pc := 16) dJ4_removeLast_16 h.1 (g_out0 hC (hX _ _ h.2) h.1)
theorem gc_J4_removeLast : gCode yJ4_removeLast cJ4_removeLast 2 (some (Jvm.ClassFile.FieldType.object "java/lang/Object")) 0 := ⟨q2455, q100, ⟨by decide, by decide⟩, rfl⟩
theorem m_J4_removeLast {l : Launch} (hfl : l.stackTraces = false) {E : gE} {G : gS} {t0 : Nat} {X : Nat → gS → Prop} {K : Option Nat → gS → Prop} (h : wp_J4_removeLast (gAd E) G t0 X K) : gMet l yJ4_removeLast (ws_ yJ4_removeLast cJ4_removeLast 2 (some (Jvm.ClassFile.FieldType.object "java/lang/Object"))) 8 212 [vQ (some t0)] E G (gRq K) X :=
  g_met hfl (plainFor_of_name (by decide +kernel)) rfl rfl rfl (gle rfl) (fun p e R s m args below meth c hC => w_J4_removeLast hC (fun _ _ h => h) (fun _ _ h => h) h)
def wp_X1_undo_15 (ad : Nat → Nat) (X : Nat → gS → Prop) (K : Int32 → gS → Prop) (G : gS) (t0 : Nat) (xs0 : Int32) : Prop :=
  wp_X1_checkElement ad G xs0 X (fun G1 => wGetQ G1 t0 1 2 fun q2 => wNN q2 fun c3 => (gIs G1 c3 4 ∧ wp_J4_removeLast ad G1 c3  X (fun q5 G4 => wCast G4 q5 [2] (wPut G4 t0 1 0 (va_rf q5) fun G6 => wGetQ G6 t0 1 2 fun q7 => wNN q7 fun c8 => (gIs G6 c8 4 ∧ wp_J4_size ad G6 c8  X (fun r10 G9 => K r10 G9))))))
theorem w_X1_undo_15 {C : gCx} (hC : gOk C "GoblinHousehold" cX1_undo [] (some .int) "undo" 1 9 241) {K : Int32 → gS → Prop} {X : Nat → gS → Prop} (hK : ∀ r G, K r G → cxK C (some (vI r)) G) (hX : ∀ q G, X q G → cxX C q G) {G : gS} {t0 : Nat} {xs0 : Int32} (h : wp_X1_undo_15 (cxA C) X K G t0 xs0) : gGo C G 15 [(0, vQ (some t0))] [vI xs0] := by
  unfold wp_X1_undo_15 at h
  refine g_callS hC (pc := 15) (b := 0) (As := [vI xs0]) gc_X1_checkElement (m_X1_checkElement hC.fl h) q1733 q1734 (gle rfl) (gle rfl) rfl (gle rfl) rfl dX1_undo_15 (gk_v fun G1 h => ?_) (fun _ _ h hio => g_out0 hC (hX _ _ h) hio)
  refine g_aload_n hC (pc := 18) 0 rfl rfl dX1_undo_18 ?_
  refine g_aload_n hC (pc := 19) 0 rfl rfl dX1_undo_19 ?_
  refine g_getQ hC (pc := 20) in_X1 (ci := 1) rfl 2 (by decide) q294 (Or.inl rfl) h dX1_undo_20 (fun q2 h => ?_)
  rcases q2 with _ | c3
  · exact (gNN0 h).elim
  replace h := gNN1 h
  obtain ⟨hi, h⟩ := h
  refine g_callV hC (pc := 23) (ci := 4) (As := []) gc_J4_removeLast (m_J4_removeLast hC.fl h) rfl hi q2452 q2453 q2454 (gle rfl) (gle rfl) rfl (gle rfl) rfl dX1_undo_23 (gk_q fun q5 G4 h => ?_) (fun _ _ h hio => g_out0 hC (hX _ _ h) hio)
  refine g_cast hC (pc := 26) q153 h (List.forall_mem_cons.mpr ⟨⟨_, rfl, Or.inr ⟨rfl, by decide⟩⟩, fun _ h => nomatch h⟩) dX1_undo_26 (fun h => ?_)
  refine g_put hC (pc := 29) in_X1 (ci := 1) rfl 0 (by decide) tyX1_ok nmX1 q292 (Or.inl rfl) rfl (gnarO _ _) (gfitO _ _) h dX1_undo_29 (fun G6 h => ?_)
  refine g_aload_n hC (pc := 32) 0 rfl rfl dX1_undo_32 ?_
  refine g_getQ hC (pc := 33) in_X1 (ci := 1) rfl 2 (by decide) q294 (Or.inl rfl) h dX1_undo_33 (fun q7 h => ?_)
  rcases q7 with _ | c8
  · exact (gNN0 h).elim
  replace h := gNN1 h
  obtain ⟨hi, h⟩ := h
  refine g_callV hC (pc := 36) (ci := 4) (As := []) gc_J4_size (m_J4_size hC.fl h) rfl hi q1130 q331 q2998 (gle rfl) (gle rfl) rfl (gle rfl) rfl dX1_undo_36 (gk_i fun r10 G9 h => ?_) (fun _ _ h hio => g_out0 hC (hX _ _ h) hio)
  exact g_iret hC (pc := 39) (hK _ _ h) dX1_undo_39
def wp_X1_undo (ad : Nat → Nat) (G : gS) (t0 : Nat) (X : Nat → gS → Prop) (K : Int32 → gS → Prop) : Prop :=
  wGetQ G t0 1 2 fun q1 => wNN q1 fun c2 => (gIs G c2 4 ∧ wp_J0_isEmpty ad G c2  X (fun r4 G3 => (¬ r4 = (0 : Int32) → wp_X1_undo_15 ad X K G3 t0 (0 : Int32)) ∧ (r4 = (0 : Int32) → wp_X1_undo_15 ad X K G3 t0 (1 : Int32))))
theorem w_X1_undo {C : gCx} (hC : gOk C "GoblinHousehold" cX1_undo [] (some .int) "undo" 1 9 241) {K : Int32 → gS → Prop} {X : Nat → gS → Prop} (hK : ∀ r G, K r G → cxK C (some (vI r)) G) (hX : ∀ q G, X q G → cxX C q G) {G : gS} {t0 : Nat} (h : wp_X1_undo (cxA C) G t0 X K) : gGo C G 0 [(0, vQ (some t0))] [] := by
  unfold wp_X1_undo at h
  refine g_aload_n hC (pc := 0) 0 rfl rfl dX1_undo_0 ?_
  refine g_getQ hC (pc := 1) in_X1 (ci := 1) rfl 2 (by decide) q294 (Or.inl rfl) h dX1_undo_1 (fun q1 h => ?_)
  rcases q1 with _ | c2
  · exact (gNN0 h).elim
  replace h := gNN1 h
  obtain ⟨hi, h⟩ := h
  refine g_callU hC (pc := 4) (ci := 4) (As := []) gc_J0_isEmpty (m_J0_isEmpty hC.fl h) (x := ⟨"java/util/LinkedList", "isEmpty", "()Z"⟩) (owner := "java/util/AbstractCollection") rfl hi q2441 q2442 q2445 q2446 ⟨by decide, by decide⟩ rfl q2444 q2445 (gle rfl) (gle rfl) rfl (gle rfl) rfl dX1_undo_4 (gk_i fun r4 G3 h => ?_) (fun _ _ h hio => g_out0 hC (hX _ _ h) hio)
  refine g_if_ne hC (pc := 7) 14 h (by decide) dX1_undo_7 (fun h => ?_) (fun h => ?_)
  · refine g_iconst hC (pc := 14) (v := (0 : Int32)) (by decide) dX1_undo_14 ?_
    exact g_sub [0] rfl (w_X1_undo_15 hC hK hX h)
  · refine g_iconst hC (pc := 10) (v := (1 : Int32)) (by decide) dX1_undo_10 ?_
    refine g_goto hC (pc := 11) 15 (by decide) dX1_undo_11 ?_
    exact g_sub [0] rfl (w_X1_undo_15 hC hK hX h)
theorem gc_X1_undo : gCode yX1_undo cX1_undo 1 (some .int) 0 := ⟨q2440, q94, ⟨by decide, by decide⟩, rfl⟩
theorem m_X1_undo {l : Launch} (hfl : l.stackTraces = false) {E : gE} {G : gS} {t0 : Nat} {X : Nat → gS → Prop} {K : Int32 → gS → Prop} (h : wp_X1_undo (gAd E) G t0 X K) : gMet l yX1_undo (ws_ yX1_undo cX1_undo 1 (some .int)) 9 241 [vQ (some t0)] E G (gRi K) X :=
  g_met hfl (plainFor_of_name (by decide +kernel)) rfl rfl rfl (gle rfl) (fun p e R s m args below meth c hC => w_X1_undo hC (fun _ _ h => h) (fun _ _ h => h) h)
def wp_X0_undo_11 (ad : Nat → Nat) (X : Nat → gS → Prop) (K : Int32 → gS → Prop) (G : gS) (ts0 : Nat) : Prop :=
  K (1 : Int32) G
theorem w_X0_undo_11 {C : gCx} (hC : gOk C "GoblinHouseholdLaw" cX0_undo [(0, 8, 11, 37)] (some .int) "undo" 3 10 269) {K : Int32 → gS → Prop} {X : Nat → gS → Prop} (hK : ∀ r G, K r G → cxK C (some (vI r)) G) (hX : ∀ q G, X q G → cxX C q G) {G : gS} {ts0 : Nat} (h : wp_X0_undo_11 (cxA C) X K G ts0) : gGo C G 11 [] [vQ (some ts0)] := by
  unfold wp_X0_undo_11 at h
  refine g_astore_n hC (pc := 11) (lv' := [(2, vQ (some ts0))]) rfl (by decide) rfl dX0_undo_11 ?_
  refine g_iconst hC (pc := 12) (v := (1 : Int32)) (by decide) dX0_undo_12 ?_
  exact g_iret hC (pc := 13) (hK _ _ h) dX0_undo_13
def wp_X0_undo (ad : Nat → Nat) (G : gS) (o0 : Option Nat) (o1 : Option Nat) (X : Nat → gS → Prop) (K : Int32 → gS → Prop) : Prop :=
  wNN o0 fun c1 => (gIs G c1 1 ∧ wp_X1_undo ad G c1  (fun y3 G4 => (gHas G4 y3 23 ∧ (wp_X0_undo_11 ad X K G4 y3))) (fun r5 G2 => wNN o1 fun c6 => wAstL G2 c6 (0 : Int32) ((r5).toInt64) fun G7 => K (0 : Int32) G7))
theorem w_X0_undo {C : gCx} (hC : gOk C "GoblinHouseholdLaw" cX0_undo [(0, 8, 11, 37)] (some .int) "undo" 3 10 269) {K : Int32 → gS → Prop} {X : Nat → gS → Prop} (hK : ∀ r G, K r G → cxK C (some (vI r)) G) (hX : ∀ q G, X q G → cxX C q G) {G : gS} {o0 : Option Nat} {o1 : Option Nat} (h : wp_X0_undo (cxA C) G o0 o1 X K) : gGo C G 0 [(0, vQ o0), (1, vQ o1)] [] := by
  unfold wp_X0_undo at h
  refine g_aload_n hC (pc := 0) 1 rfl rfl dX0_undo_0 ?_
  refine g_iconst hC (pc := 1) (v := (0 : Int32)) (by decide) dX0_undo_1 ?_
  refine g_aload_n hC (pc := 2) 0 rfl rfl dX0_undo_2 ?_
  rcases o0 with _ | c1
  · exact (gNN0 h).elim
  replace h := gNN1 h
  obtain ⟨hi, h⟩ := h
  refine g_callV hC (pc := 3) (ci := 1) (As := []) gc_X1_undo (m_X1_undo hC.fl h) rfl hi q2437 q2438 q2439 (gle rfl) (gle rfl) rfl (gle rfl) rfl dX0_undo_3 (gk_i fun r5 G2 h => ?_) (fun y3 G4 h hio => ?_)
  · refine g_i2l hC (pc := 6) dX0_undo_6 ?_
    rcases o1 with _ | c6
    · exact (gNN0 h).elim
    replace h := gNN1 h
    refine g_astL hC (pc := 7) h dX0_undo_7 (fun G7 h => ?_)
    refine g_goto hC (pc := 8) 14 (by decide) dX0_undo_8 ?_
    refine g_iconst hC (pc := 14) (v := (0 : Int32)) (by decide) dX0_undo_14 ?_
    exact g_iret hC (pc := 15) (hK _ _ h) dX0_undo_15
  · obtain ⟨hq, h⟩ := h
    refine g_catchI hC (pc := 3) (ci := 23) rfl hq 0 rfl (fun _ h => nomatch h) rfl (by decide) q1418 (List.mem_of_getElem? (i := 8) rfl) rfl ?_
    exact g_sub [] rfl (w_X0_undo_11 hC hK hX h)
theorem gc_X0_undo : gCodeW yX0_undo cX0_undo 3 (some .int) [(0, 8, 11, 37)] 2 := ⟨q2436, q93, ⟨by decide, by decide⟩, rfl⟩
theorem m_X0_undo {l : Launch} (hfl : l.stackTraces = false) {E : gE} {G : gS} {o0 : Option Nat} {o1 : Option Nat} {X : Nat → gS → Prop} {K : Int32 → gS → Prop} (h : wp_X0_undo (gAd E) G o0 o1 X K) : gMet l yX0_undo (wsW_ yX0_undo cX0_undo 3 (some .int) [(0, 8, 11, 37)]) 10 269 [vQ o0, vQ o1] E G (gRi K) X :=
  g_metW hfl (plainFor_of_name (by decide +kernel)) rfl rfl rfl (gle rfl) (fun p e R s m args below meth c hC => w_X0_undo hC (fun _ _ h => h) (fun _ _ h => h) h)
def wp_X3_undo_13 (ad : Nat → Nat) (X : Nat → gS → Prop) (K : Int32 → gS → Prop) (G : gS) (t0 : Nat) (xs0 : Int32) (ts1 : Nat) : Prop :=
  (gIs G ts1 0 ∧ wp_X3_goes ad G ts1 xs0 X (fun r2 G1 => (¬ r2 = (0 : Int32) → wGetI G1 t0 0 6 fun i3 => wPut G1 t0 0 6 (.int (i3 - (1 : Int32))) fun G4 => wGetQ G4 t0 0 4 fun q5 => wGetI G4 t0 0 6 fun i6 => wGetQ G4 t0 0 0 fun q7 => wp_X3_copies ad G4 q5 (i6 * (91 : Int32)) q7 (0 : Int32) X (fun G8 => wGetI G8 t0 0 6 fun i9 => K i9 G8)) ∧ (r2 = (0 : Int32) → K (0 : Int32) G1)))
theorem w_X3_undo_13 {C : gCx} (hC : gOk C "GoblinHouseholdModel" cX3_undo [] (some .int) "undo" 1 2 61) {K : Int32 → gS → Prop} {X : Nat → gS → Prop} (hK : ∀ r G, K r G → cxK C (some (vI r)) G) (hX : ∀ q G, X q G → cxX C q G) {G : gS} {t0 : Nat} {xs0 : Int32} {ts1 : Nat} (h : wp_X3_undo_13 (cxA C) X K G t0 xs0 ts1) : gGo C G 13 [(0, vQ (some t0))] [vI xs0, vQ (some ts1)] := by
  unfold wp_X3_undo_13 at h
  obtain ⟨hi, h⟩ := h
  refine g_callV hC (pc := 13) (ci := 0) (As := [vI xs0]) gc_X3_goes (m_X3_goes hC.fl h) rfl hi q2546 q2548 qs43 (gle rfl) (gle rfl) rfl (gle rfl) rfl dX3_undo_13 (gk_i fun r2 G1 h => ?_) (fun _ _ h hio => g_out0 hC (hX _ _ h) hio)
  refine g_if_ne hC (pc := 16) 21 h (by decide) dX3_undo_16 (fun h => ?_) (fun h => ?_)
  · refine g_aload_n hC (pc := 21) 0 rfl rfl dX3_undo_21 ?_
    refine g_dup hC (pc := 22) rfl dX3_undo_22 ?_
    refine g_getI hC (pc := 23) in_X3 (ci := 0) rfl 6 (by decide) q2483 (Or.inl rfl) h dX3_undo_23 (fun i3 h => ?_)
    refine g_iconst hC (pc := 26) (v := (1 : Int32)) (by decide) dX3_undo_26 ?_
    refine g_isub hC (pc := 27) dX3_undo_27 ?_
    refine g_put hC (pc := 28) in_X3 (ci := 0) rfl 6 (by decide) tyX3_ok nmX3 q2483 (Or.inl rfl) rfl rfl rfl h dX3_undo_28 (fun G4 h => ?_)
    refine g_aload_n hC (pc := 31) 0 rfl rfl dX3_undo_31 ?_
    refine g_getQ hC (pc := 32) in_X3 (ci := 0) rfl 4 (by decide) q2481 (Or.inl rfl) h dX3_undo_32 (fun q5 h => ?_)
    refine g_aload_n hC (pc := 35) 0 rfl rfl dX3_undo_35 ?_
    refine g_getI hC (pc := 36) in_X3 (ci := 0) rfl 6 (by decide) q2483 (Or.inl rfl) h dX3_undo_36 (fun i6 h => ?_)
    refine g_bipush hC (pc := 39) (v := (91 : Int32)) (by decide) dX3_undo_39 ?_
    refine g_imul hC (pc := 41) dX3_undo_41 ?_
    refine g_aload_n hC (pc := 42) 0 rfl rfl dX3_undo_42 ?_
    refine g_getQ hC (pc := 43) in_X3 (ci := 0) rfl 0 (by decide) q2477 (Or.inl rfl) h dX3_undo_43 (fun q7 h => ?_)
    refine g_iconst hC (pc := 46) (v := (0 : Int32)) (by decide) dX3_undo_46 ?_
    refine g_callS hC (pc := 47) (b := 0) (As := [vQ q5, vI (i6 * (91 : Int32)), vQ q7, vI (0 : Int32)]) gc_X3_copies (m_X3_copies hC.fl h) q2554 q2555 (gle rfl) (gle rfl) rfl (gle rfl) rfl dX3_undo_47 (gk_v fun G8 h => ?_) (fun _ _ h hio => g_out0 hC (hX _ _ h) hio)
    refine g_aload_n hC (pc := 50) 0 rfl rfl dX3_undo_50 ?_
    refine g_getI hC (pc := 51) in_X3 (ci := 0) rfl 6 (by decide) q2483 (Or.inl rfl) h dX3_undo_51 (fun i9 h => ?_)
    exact g_iret hC (pc := 54) (hK _ _ h) dX3_undo_54
  · refine g_iconst hC (pc := 19) (v := (0 : Int32)) (by decide) dX3_undo_19 ?_
    exact g_iret hC (pc := 20) (hK _ _ h) dX3_undo_20
def wp_X3_undo (ad : Nat → Nat) (G : gS) (t0 : Nat) (X : Nat → gS → Prop) (K : Int32 → gS → Prop) : Prop :=
  wGetI G t0 0 6 fun i1 => (i1 ≤ (0 : Int32) → wp_X3_undo_13 ad X K G t0 (0 : Int32) t0) ∧ (¬ i1 ≤ (0 : Int32) → wp_X3_undo_13 ad X K G t0 (1 : Int32) t0)
theorem w_X3_undo {C : gCx} (hC : gOk C "GoblinHouseholdModel" cX3_undo [] (some .int) "undo" 1 2 61) {K : Int32 → gS → Prop} {X : Nat → gS → Prop} (hK : ∀ r G, K r G → cxK C (some (vI r)) G) (hX : ∀ q G, X q G → cxX C q G) {G : gS} {t0 : Nat} (h : wp_X3_undo (cxA C) G t0 X K) : gGo C G 0 [(0, vQ (some t0))] [] := by
  unfold wp_X3_undo at h
  refine g_aload_n hC (pc := 0) 0 rfl rfl dX3_undo_0 ?_
  refine g_aload_n hC (pc := 1) 0 rfl rfl dX3_undo_1 ?_
  refine g_getI hC (pc := 2) in_X3 (ci := 0) rfl 6 (by decide) q2483 (Or.inl rfl) h dX3_undo_2 (fun i1 h => ?_)
  refine g_if_le hC (pc := 5) 12 h (by decide) dX3_undo_5 (fun h => ?_) (fun h => ?_)
  · refine g_iconst hC (pc := 12) (v := (0 : Int32)) (by decide) dX3_undo_12 ?_
    exact g_sub [0] rfl (w_X3_undo_13 hC hK hX h)
  · refine g_iconst hC (pc := 8) (v := (1 : Int32)) (by decide) dX3_undo_8 ?_
    refine g_goto hC (pc := 9) 13 (by decide) dX3_undo_9 ?_
    exact g_sub [0] rfl (w_X3_undo_13 hC hK hX h)
theorem gc_X3_undo : gCode yX3_undo cX3_undo 1 (some .int) 0 := ⟨q2545, q105, ⟨by decide, by decide⟩, rfl⟩
theorem m_X3_undo {l : Launch} (hfl : l.stackTraces = false) {E : gE} {G : gS} {t0 : Nat} {X : Nat → gS → Prop} {K : Int32 → gS → Prop} (h : wp_X3_undo (gAd E) G t0 X K) : gMet l yX3_undo (ws_ yX3_undo cX3_undo 1 (some .int)) 2 61 [vQ (some t0)] E G (gRi K) X :=
  g_met hfl (plainFor_of_name (by decide +kernel)) rfl rfl rfl (gle rfl) (fun p e R s m args below meth c hC => w_X3_undo hC (fun _ _ h => h) (fun _ _ h => h) h)
def wp_X1_save (ad : Nat → Nat) (G : gS) (t0 : Nat) (X : Nat → gS → Prop) (K : Int32 → gS → Prop) : Prop :=
  wGetQ G t0 1 0 fun q1 => wPut G t0 1 1 (va_rf q1) fun G2 => (gIs G2 t0 1 ∧ wp_X1_openContracts ad G2 t0  X (fun r4 G3 => K r4 G3))
theorem w_X1_save {C : gCx} (hC : gOk C "GoblinHousehold" cX1_save [] (some .int) "save" 1 2 56) {K : Int32 → gS → Prop} {X : Nat → gS → Prop} (hK : ∀ r G, K r G → cxK C (some (vI r)) G) (hX : ∀ q G, X q G → cxX C q G) {G : gS} {t0 : Nat} (h : wp_X1_save (cxA C) G t0 X K) : gGo C G 0 [(0, vQ (some t0))] [] := by
  unfold wp_X1_save at h
  refine g_aload_n hC (pc := 0) 0 rfl rfl dX1_save_0 ?_
  refine g_aload_n hC (pc := 1) 0 rfl rfl dX1_save_1 ?_
  refine g_getQ hC (pc := 2) in_X1 (ci := 1) rfl 0 (by decide) q292 (Or.inl rfl) h dX1_save_2 (fun q1 h => ?_)
  refine g_put hC (pc := 5) in_X1 (ci := 1) rfl 1 (by decide) tyX1_ok nmX1 q293 (Or.inl rfl) rfl (gnarO _ _) (gfitO _ _) h dX1_save_5 (fun G2 h => ?_)
  refine g_aload_n hC (pc := 8) 0 rfl rfl dX1_save_8 ?_
  obtain ⟨hi, h⟩ := h
  refine g_callV hC (pc := 9) (ci := 1) (As := []) gc_X1_openContracts (m_X1_openContracts hC.fl h) rfl hi q867 q339 q340 (gle rfl) (gle rfl) rfl (gle rfl) rfl dX1_save_9 (gk_i fun r4 G3 h => ?_) (fun _ _ h hio => g_out0 hC (hX _ _ h) hio)
  exact g_iret hC (pc := 12) (hK _ _ h) dX1_save_12
theorem gc_X1_save : gCode yX1_save cX1_save 1 (some .int) 0 := ⟨q866, q94, ⟨by decide, by decide⟩, rfl⟩
theorem m_X1_save {l : Launch} (hfl : l.stackTraces = false) {E : gE} {G : gS} {t0 : Nat} {X : Nat → gS → Prop} {K : Int32 → gS → Prop} (h : wp_X1_save (gAd E) G t0 X K) : gMet l yX1_save (ws_ yX1_save cX1_save 1 (some .int)) 2 56 [vQ (some t0)] E G (gRi K) X :=
  g_met hfl (plainFor_of_name (by decide +kernel)) rfl rfl rfl (gle rfl) (fun p e R s m args below meth c hC => w_X1_save hC (fun _ _ h => h) (fun _ _ h => h) h)
def wp_X3_save (ad : Nat → Nat) (G : gS) (t0 : Nat) (X : Nat → gS → Prop) (K : Int32 → gS → Prop) : Prop :=
  wPut G t0 0 14 (.int (0 : Int32)) fun G1 => wGetQ G1 t0 0 0 fun q2 => wGetQ G1 t0 0 3 fun q3 => wp_X3_copies ad G1 q2 (0 : Int32) q3 (0 : Int32) X (fun G4 => wPut G4 t0 0 5 (.int (1 : Int32)) fun G5 => wGetQ G5 t0 0 0 fun q6 => wNN q6 fun c7 => wAldI G5 c7 (11 : Int32) fun i8 => K i8 G5)
theorem w_X3_save {C : gCx} (hC : gOk C "GoblinHouseholdModel" cX3_save [] (some .int) "save" 1 1 32) {K : Int32 → gS → Prop} {X : Nat → gS → Prop} (hK : ∀ r G, K r G → cxK C (some (vI r)) G) (hX : ∀ q G, X q G → cxX C q G) {G : gS} {t0 : Nat} (h : wp_X3_save (cxA C) G t0 X K) : gGo C G 0 [(0, vQ (some t0))] [] := by
  unfold wp_X3_save at h
  refine g_aload_n hC (pc := 0) 0 rfl rfl dX3_save_0 ?_
  refine g_iconst hC (pc := 1) (v := (0 : Int32)) (by decide) dX3_save_1 ?_
  refine g_put hC (pc := 2) in_X3 (ci := 0) rfl 14 (by decide) tyX3_ok nmX3 q2491 (Or.inl rfl) rfl rfl rfl h dX3_save_2 (fun G1 h => ?_)
  refine g_aload_n hC (pc := 5) 0 rfl rfl dX3_save_5 ?_
  refine g_getQ hC (pc := 6) in_X3 (ci := 0) rfl 0 (by decide) q2477 (Or.inl rfl) h dX3_save_6 (fun q2 h => ?_)
  refine g_iconst hC (pc := 9) (v := (0 : Int32)) (by decide) dX3_save_9 ?_
  refine g_aload_n hC (pc := 10) 0 rfl rfl dX3_save_10 ?_
  refine g_getQ hC (pc := 11) in_X3 (ci := 0) rfl 3 (by decide) q2480 (Or.inl rfl) h dX3_save_11 (fun q3 h => ?_)
  refine g_iconst hC (pc := 14) (v := (0 : Int32)) (by decide) dX3_save_14 ?_
  refine g_callS hC (pc := 15) (b := 0) (As := [vQ q2, vI (0 : Int32), vQ q3, vI (0 : Int32)]) gc_X3_copies (m_X3_copies hC.fl h) q2554 q2555 (gle rfl) (gle rfl) rfl (gle rfl) rfl dX3_save_15 (gk_v fun G4 h => ?_) (fun _ _ h hio => g_out0 hC (hX _ _ h) hio)
  refine g_aload_n hC (pc := 18) 0 rfl rfl dX3_save_18 ?_
  refine g_iconst hC (pc := 19) (v := (1 : Int32)) (by decide) dX3_save_19 ?_
  refine g_put hC (pc := 20) in_X3 (ci := 0) rfl 5 (by decide) tyX3_ok nmX3 q2482 (Or.inl rfl) rfl rfl rfl h dX3_save_20 (fun G5 h => ?_)
  refine g_aload_n hC (pc := 23) 0 rfl rfl dX3_save_23 ?_
  refine g_getQ hC (pc := 24) in_X3 (ci := 0) rfl 0 (by decide) q2477 (Or.inl rfl) h dX3_save_24 (fun q6 h => ?_)
  refine g_bipush hC (pc := 27) (v := (11 : Int32)) (by decide) dX3_save_27 ?_
  rcases q6 with _ | c7
  · exact (gNN0 h).elim
  replace h := gNN1 h
  refine g_aldI hC (pc := 29) h dX3_save_29 (fun i8 h => ?_)
  exact g_iret hC (pc := 30) (hK _ _ h) dX3_save_30
theorem gc_X3_save : gCode yX3_save cX3_save 1 (some .int) 0 := ⟨q2560, q105, ⟨by decide, by decide⟩, rfl⟩
theorem m_X3_save {l : Launch} (hfl : l.stackTraces = false) {E : gE} {G : gS} {t0 : Nat} {X : Nat → gS → Prop} {K : Int32 → gS → Prop} (h : wp_X3_save (gAd E) G t0 X K) : gMet l yX3_save (ws_ yX3_save cX3_save 1 (some .int)) 1 32 [vQ (some t0)] E G (gRi K) X :=
  g_met hfl (plainFor_of_name (by decide +kernel)) rfl rfl rfl (gle rfl) (fun p e R s m args below meth c hC => w_X3_save hC (fun _ _ h => h) (fun _ _ h => h) h)
def wp_J4_clear_34 (ad : Nat → Nat) (X : Nat → gS → Prop) (K : gS → Prop) (G : gS) (t0 : Nat) : Prop :=
  wPut G t0 4 3 (va_rf none) fun G1 => wPut G1 t0 4 2 (va_rf none) fun G2 => wPut G2 t0 4 1 (.int (0 : Int32)) fun G3 => wGetI G3 t0 4 0 fun i4 => wPut G3 t0 4 0 (.int (i4 + (1 : Int32))) fun G5 => K G5
theorem w_J4_clear_34 {C : gCx} (hC : gOk C "java/util/LinkedList" cJ4_clear [] none "clear" 3 0 0) {K : gS → Prop} {X : Nat → gS → Prop} (hK : ∀ G, K G → cxK C none G) (hX : ∀ q G, X q G → cxX C q G) {G : gS} {t0 : Nat} (h : wp_J4_clear_34 (cxA C) X K G t0) : gGo C G 34 [(0, vQ (some t0))] [] := by
  unfold wp_J4_clear_34 at h
  refine g_aload_n hC (pc := 34) 0 rfl rfl dJ4_clear_34 ?_
  refine g_aload_n hC (pc := 35) 0 rfl rfl dJ4_clear_35 ?_
  refine g_null hC (pc := 36) dJ4_clear_36 ?_
  refine g_dup_x1 hC (pc := 37) rfl rfl dJ4_clear_37 ?_
  refine g_put hC (pc := 38) in_J4 (ci := 4) rfl 3 (by decide) tyJ4_ok nmJ4 q249 (Or.inl rfl) rfl (gnarO _ _) (gfitO _ _) h dJ4_clear_38 (fun G1 h => ?_)
  refine g_put hC (pc := 41) in_J4 (ci := 4) rfl 2 (by decide) tyJ4_ok nmJ4 q248 (Or.inl rfl) rfl (gnarO _ _) (gfitO _ _) h dJ4_clear_41 (fun G2 h => ?_)
  refine g_aload_n hC (pc := 44) 0 rfl rfl dJ4_clear_44 ?_
  refine g_iconst hC (pc := 45) (v := (0 : Int32)) (by decide) dJ4_clear_45 ?_
  refine g_put hC (pc := 46) in_J4 (ci := 4) rfl 1 (by decide) tyJ4_ok nmJ4 q247 (Or.inl rfl) rfl rfl rfl h dJ4_clear_46 (fun G3 h => ?_)
  refine g_aload_n hC (pc := 49) 0 rfl rfl dJ4_clear_49 ?_
  refine g_dup hC (pc := 50) rfl dJ4_clear_50 ?_
  refine g_getI hC (pc := 51) in_J4 (ci := 4) rfl 0 (by decide) q176 (Or.inr q177) h dJ4_clear_51 (fun i4 h => ?_)
  refine g_iconst hC (pc := 54) (v := (1 : Int32)) (by decide) dJ4_clear_54 ?_
  refine g_iadd hC (pc := 55) dJ4_clear_55 ?_
  refine g_put hC (pc := 56) in_J4 (ci := 4) rfl 0 (by decide) tyJ4_ok nmJ4 q176 (Or.inr q177) rfl rfl rfl h dJ4_clear_56 (fun G5 h => ?_)
  exact g_vret hC (pc := 59) (hK _ h) dJ4_clear_59
def wp_J4_clear_5 (ad : Nat → Nat) (X : Nat → gS → Prop) (K : gS → Prop) (J5 : gS → Nat → Option Nat → Prop) (G : gS) (t0 : Nat) (o1 : Option Nat) : Prop :=
  (o1 = none → wp_J4_clear_34 ad X K G t0) ∧ (∀ c1, o1 = some c1 → wGetQ G c1 5 1 fun q2 => wPut G c1 5 0 (va_rf none) fun G3 => wPut G3 c1 5 1 (va_rf none) fun G4 => wPut G4 c1 5 2 (va_rf none) fun G5 => J5 G5 t0 q2)
theorem w_J4_clear_5 {C : gCx} (hC : gOk C "java/util/LinkedList" cJ4_clear [] none "clear" 3 0 0) {K : gS → Prop} {X : Nat → gS → Prop} (hK : ∀ G, K G → cxK C none G) (hX : ∀ q G, X q G → cxX C q G) (n : Nat) : ∀ (G : gS) (t0 : Nat) (o1 : Option Nat), gLoop (fun _ _ _ => False) (wp_J4_clear_5 (cxA C) X K) n G t0 o1 → gGo C G 5 [(0, vQ (some t0)), (1, vQ o1)] [] := by
  induction n with
  | zero => intro G t0 o1 h; exact h.elim
  | succ n ih =>
    intro G t0 o1 h
    have hJ5 := ih
    replace h : wp_J4_clear_5 (cxA C) X K _ G t0 o1 := h
    unfold wp_J4_clear_5 at h
    refine g_aload_n hC (pc := 5) 1 rfl rfl dJ4_clear_5 ?_
    have hn := h; clear h
    refine g_ifnull hC (pc := 6) 34 (P := _) (Q := ¬ o1 = none) ⟨hn.1, id⟩ (by decide) dJ4_clear_6 (fun h => ?_) (fun e0 => ?_)
    · exact g_sub [0] rfl (w_J4_clear_34 hC hK hX h)
    · rcases o1 with _ | c1
      · exact absurd rfl e0
      have h := hn.2 _ rfl
      refine g_aload_n hC (pc := 9) 1 rfl rfl dJ4_clear_9 ?_
      refine g_getQ hC (pc := 10) in_J14 (ci := 5) rfl 1 (by decide) q1039 (Or.inl rfl) h dJ4_clear_10 (fun q2 h => ?_)
      refine g_astore_n hC (pc := 13) (lv' := [(2, vQ q2), (0, vQ (some t0)), (1, vQ (some c1))]) rfl (by decide) rfl dJ4_clear_13 ?_
      refine g_aload_n hC (pc := 14) 2 rfl rfl dJ4_clear_14 ?_
      refine g_null hC (pc := 15) dJ4_clear_15 ?_
      refine g_put hC (pc := 16) in_J14 (ci := 5) rfl 0 (by decide) tyJ14_ok nmJ14 q1037 (Or.inl rfl) rfl (gnarO _ _) (gfitO _ _) h dJ4_clear_16 (fun G3 h => ?_)
      refine g_aload_n hC (pc := 19) 2 rfl rfl dJ4_clear_19 ?_
      refine g_null hC (pc := 20) dJ4_clear_20 ?_
      refine g_put hC (pc := 21) in_J14 (ci := 5) rfl 1 (by decide) tyJ14_ok nmJ14 q1039 (Or.inl rfl) rfl (gnarO _ _) (gfitO _ _) h dJ4_clear_21 (fun G4 h => ?_)
      refine g_aload_n hC (pc := 24) 2 rfl rfl dJ4_clear_24 ?_
      refine g_null hC (pc := 25) dJ4_clear_25 ?_
      refine g_put hC (pc := 26) in_J14 (ci := 5) rfl 2 (by decide) tyJ14_ok nmJ14 q1041 (Or.inl rfl) rfl (gnarO _ _) (gfitO _ _) h dJ4_clear_26 (fun G5 h => ?_)
      refine g_aload_n hC (pc := 29) 0 rfl rfl dJ4_clear_29 ?_
      refine g_astore_n hC (pc := 30) (lv' := [(1, vQ q2), (2, vQ q2), (0, vQ (some t0))]) rfl (by decide) rfl dJ4_clear_30 ?_
      refine g_goto hC (pc := 31) 5 (by decide) dJ4_clear_31 ?_
      exact g_sub [2, 0] rfl (hJ5 _ _ _ h)
def wp_J4_clear (ad : Nat → Nat) (G : gS) (t0 : Nat) (X : Nat → gS → Prop) (K : gS → Prop) : Prop :=
  wGetQ G t0 4 2 fun q1 => gLoop (fun _ _ _ => False) (wp_J4_clear_5 ad X K) gFuel G t0 q1
theorem w_J4_clear {C : gCx} (hC : gOk C "java/util/LinkedList" cJ4_clear [] none "clear" 3 0 0) {K : gS → Prop} {X : Nat → gS → Prop} (hK : ∀ G, K G → cxK C none G) (hX : ∀ q G, X q G → cxX C q G) {G : gS} {t0 : Nat} (h : wp_J4_clear (cxA C) G t0 X K) : gGo C G 0 [(0, vQ (some t0))] [] := by
  unfold wp_J4_clear at h
  refine g_aload_n hC (pc := 0) 0 rfl rfl dJ4_clear_0 ?_
  refine g_getQ hC (pc := 1) in_J4 (ci := 4) rfl 2 (by decide) q248 (Or.inl rfl) h dJ4_clear_1 (fun q1 h => ?_)
  refine g_astore_n hC (pc := 4) (lv' := [(1, vQ q1), (0, vQ (some t0))]) rfl (by decide) rfl dJ4_clear_4 ?_
  exact g_sub [1, 0] rfl (w_J4_clear_5 hC hK hX gFuel _ _ _ h)
theorem gc_J4_clear : gCode yJ4_clear cJ4_clear 3 none 0 := ⟨q2470, q100, ⟨by decide, by decide⟩, rfl⟩
theorem m_J4_clear {l : Launch} (hfl : l.stackTraces = false) {E : gE} {G : gS} {t0 : Nat} {X : Nat → gS → Prop} {K : gS → Prop} (h : wp_J4_clear (gAd E) G t0 X K) : gMet l yJ4_clear (ws_ yJ4_clear cJ4_clear 3 none) 0 0 [vQ (some t0)] E G (gRv K) X :=
  g_met hfl (plainFor_of_name (by decide +kernel)) rfl rfl rfl (gle rfl) (fun p e R s m args below meth c hC => w_J4_clear hC (fun _ h => h) (fun _ _ h => h) h)
def wp_X1_restore_12 (ad : Nat → Nat) (X : Nat → gS → Prop) (K : Int32 → gS → Prop) (G : gS) (t0 : Nat) (xs0 : Int32) : Prop :=
  wp_X1_checkState ad G xs0 X (fun G1 => wGetQ G1 t0 1 1 fun q2 => wPut G1 t0 1 0 (va_rf q2) fun G3 => wGetQ G3 t0 1 2 fun q4 => wNN q4 fun c5 => (gIs G3 c5 4 ∧ wp_J4_clear ad G3 c5  X (fun G6 => (gIs G6 t0 1 ∧ wp_X1_openContracts ad G6 t0  X (fun r8 G7 => K r8 G7)))))
theorem w_X1_restore_12 {C : gCx} (hC : gOk C "GoblinHousehold" cX1_restore [] (some .int) "restore" 1 9 240) {K : Int32 → gS → Prop} {X : Nat → gS → Prop} (hK : ∀ r G, K r G → cxK C (some (vI r)) G) (hX : ∀ q G, X q G → cxX C q G) {G : gS} {t0 : Nat} {xs0 : Int32} (h : wp_X1_restore_12 (cxA C) X K G t0 xs0) : gGo C G 12 [(0, vQ (some t0))] [vI xs0] := by
  unfold wp_X1_restore_12 at h
  refine g_callS hC (pc := 12) (b := 0) (As := [vI xs0]) gc_X1_checkState (m_X1_checkState hC.fl h) q1918 q1919 (gle rfl) (gle rfl) rfl (gle rfl) rfl dX1_restore_12 (gk_v fun G1 h => ?_) (fun _ _ h hio => g_out0 hC (hX _ _ h) hio)
  refine g_aload_n hC (pc := 15) 0 rfl rfl dX1_restore_15 ?_
  refine g_aload_n hC (pc := 16) 0 rfl rfl dX1_restore_16 ?_
  refine g_getQ hC (pc := 17) in_X1 (ci := 1) rfl 1 (by decide) q293 (Or.inl rfl) h dX1_restore_17 (fun q2 h => ?_)
  refine g_put hC (pc := 20) in_X1 (ci := 1) rfl 0 (by decide) tyX1_ok nmX1 q292 (Or.inl rfl) rfl (gnarO _ _) (gfitO _ _) h dX1_restore_20 (fun G3 h => ?_)
  refine g_aload_n hC (pc := 23) 0 rfl rfl dX1_restore_23 ?_
  refine g_getQ hC (pc := 24) in_X1 (ci := 1) rfl 2 (by decide) q294 (Or.inl rfl) h dX1_restore_24 (fun q4 h => ?_)
  rcases q4 with _ | c5
  · exact (gNN0 h).elim
  replace h := gNN1 h
  obtain ⟨hi, h⟩ := h
  refine g_callV hC (pc := 27) (ci := 4) (As := []) gc_J4_clear (m_J4_clear hC.fl h) rfl hi q2467 q2468 q2469 (gle rfl) (gle rfl) rfl (gle rfl) rfl dX1_restore_27 (gk_v fun G6 h => ?_) (fun _ _ h hio => g_out0 hC (hX _ _ h) hio)
  refine g_aload_n hC (pc := 30) 0 rfl rfl dX1_restore_30 ?_
  obtain ⟨hi, h⟩ := h
  refine g_callV hC (pc := 31) (ci := 1) (As := []) gc_X1_openContracts (m_X1_openContracts hC.fl h) rfl hi q867 q339 q340 (gle rfl) (gle rfl) rfl (gle rfl) rfl dX1_restore_31 (gk_i fun r8 G7 h => ?_) (fun _ _ h hio => g_out0 hC (hX _ _ h) hio)
  exact g_iret hC (pc := 34) (hK _ _ h) dX1_restore_34
def wp_X1_restore (ad : Nat → Nat) (G : gS) (t0 : Nat) (X : Nat → gS → Prop) (K : Int32 → gS → Prop) : Prop :=
  wGetQ G t0 1 1 fun q1 => (q1 = none → wp_X1_restore_12 ad X K G t0 (0 : Int32)) ∧ (∀ c2, q1 = some c2 → wp_X1_restore_12 ad X K G t0 (1 : Int32))
theorem w_X1_restore {C : gCx} (hC : gOk C "GoblinHousehold" cX1_restore [] (some .int) "restore" 1 9 240) {K : Int32 → gS → Prop} {X : Nat → gS → Prop} (hK : ∀ r G, K r G → cxK C (some (vI r)) G) (hX : ∀ q G, X q G → cxX C q G) {G : gS} {t0 : Nat} (h : wp_X1_restore (cxA C) G t0 X K) : gGo C G 0 [(0, vQ (some t0))] [] := by
  unfold wp_X1_restore at h
  refine g_aload_n hC (pc := 0) 0 rfl rfl dX1_restore_0 ?_
  refine g_getQ hC (pc := 1) in_X1 (ci := 1) rfl 1 (by decide) q293 (Or.inl rfl) h dX1_restore_1 (fun q1 h => ?_)
  have hn := h; clear h
  refine g_ifnull hC (pc := 4) 11 (P := _) (Q := ¬ q1 = none) ⟨hn.1, id⟩ (by decide) dX1_restore_4 (fun h => ?_) (fun e0 => ?_)
  · refine g_iconst hC (pc := 11) (v := (0 : Int32)) (by decide) dX1_restore_11 ?_
    exact g_sub [0] rfl (w_X1_restore_12 hC hK hX h)
  · rcases q1 with _ | c2
    · exact absurd rfl e0
    have h := hn.2 _ rfl
    refine g_iconst hC (pc := 7) (v := (1 : Int32)) (by decide) dX1_restore_7 ?_
    refine g_goto hC (pc := 8) 12 (by decide) dX1_restore_8 ?_
    exact g_sub [0] rfl (w_X1_restore_12 hC hK hX h)
theorem gc_X1_restore : gCode yX1_restore cX1_restore 1 (some .int) 0 := ⟨q2466, q94, ⟨by decide, by decide⟩, rfl⟩
theorem m_X1_restore {l : Launch} (hfl : l.stackTraces = false) {E : gE} {G : gS} {t0 : Nat} {X : Nat → gS → Prop} {K : Int32 → gS → Prop} (h : wp_X1_restore (gAd E) G t0 X K) : gMet l yX1_restore (ws_ yX1_restore cX1_restore 1 (some .int)) 9 240 [vQ (some t0)] E G (gRi K) X :=
  g_met hfl (plainFor_of_name (by decide +kernel)) rfl rfl rfl (gle rfl) (fun p e R s m args below meth c hC => w_X1_restore hC (fun _ _ h => h) (fun _ _ h => h) h)
def wp_X0_restore_11 (ad : Nat → Nat) (X : Nat → gS → Prop) (K : Int32 → gS → Prop) (G : gS) (ts0 : Nat) : Prop :=
  K (1 : Int32) G
theorem w_X0_restore_11 {C : gCx} (hC : gOk C "GoblinHouseholdLaw" cX0_restore [(0, 8, 11, 15)] (some .int) "restore" 3 10 268) {K : Int32 → gS → Prop} {X : Nat → gS → Prop} (hK : ∀ r G, K r G → cxK C (some (vI r)) G) (hX : ∀ q G, X q G → cxX C q G) {G : gS} {ts0 : Nat} (h : wp_X0_restore_11 (cxA C) X K G ts0) : gGo C G 11 [] [vQ (some ts0)] := by
  unfold wp_X0_restore_11 at h
  refine g_astore_n hC (pc := 11) (lv' := [(2, vQ (some ts0))]) rfl (by decide) rfl dX0_restore_11 ?_
  refine g_iconst hC (pc := 12) (v := (1 : Int32)) (by decide) dX0_restore_12 ?_
  exact g_iret hC (pc := 13) (hK _ _ h) dX0_restore_13
def wp_X0_restore (ad : Nat → Nat) (G : gS) (o0 : Option Nat) (o1 : Option Nat) (X : Nat → gS → Prop) (K : Int32 → gS → Prop) : Prop :=
  wNN o0 fun c1 => (gIs G c1 1 ∧ wp_X1_restore ad G c1  (fun y3 G4 => (gHas G4 y3 22 ∧ (wp_X0_restore_11 ad X K G4 y3))) (fun r5 G2 => wNN o1 fun c6 => wAstL G2 c6 (0 : Int32) ((r5).toInt64) fun G7 => K (0 : Int32) G7))
theorem w_X0_restore {C : gCx} (hC : gOk C "GoblinHouseholdLaw" cX0_restore [(0, 8, 11, 15)] (some .int) "restore" 3 10 268) {K : Int32 → gS → Prop} {X : Nat → gS → Prop} (hK : ∀ r G, K r G → cxK C (some (vI r)) G) (hX : ∀ q G, X q G → cxX C q G) {G : gS} {o0 : Option Nat} {o1 : Option Nat} (h : wp_X0_restore (cxA C) G o0 o1 X K) : gGo C G 0 [(0, vQ o0), (1, vQ o1)] [] := by
  unfold wp_X0_restore at h
  refine g_aload_n hC (pc := 0) 1 rfl rfl dX0_restore_0 ?_
  refine g_iconst hC (pc := 1) (v := (0 : Int32)) (by decide) dX0_restore_1 ?_
  refine g_aload_n hC (pc := 2) 0 rfl rfl dX0_restore_2 ?_
  rcases o0 with _ | c1
  · exact (gNN0 h).elim
  replace h := gNN1 h
  obtain ⟨hi, h⟩ := h
  refine g_callV hC (pc := 3) (ci := 1) (As := []) gc_X1_restore (m_X1_restore hC.fl h) rfl hi q2463 q2464 q2465 (gle rfl) (gle rfl) rfl (gle rfl) rfl dX0_restore_3 (gk_i fun r5 G2 h => ?_) (fun y3 G4 h hio => ?_)
  · refine g_i2l hC (pc := 6) dX0_restore_6 ?_
    rcases o1 with _ | c6
    · exact (gNN0 h).elim
    replace h := gNN1 h
    refine g_astL hC (pc := 7) h dX0_restore_7 (fun G7 h => ?_)
    refine g_goto hC (pc := 8) 14 (by decide) dX0_restore_8 ?_
    refine g_iconst hC (pc := 14) (v := (0 : Int32)) (by decide) dX0_restore_14 ?_
    exact g_iret hC (pc := 15) (hK _ _ h) dX0_restore_15
  · obtain ⟨hq, h⟩ := h
    refine g_catchI hC (pc := 3) (ci := 22) rfl hq 0 rfl (fun _ h => nomatch h) rfl (by decide) q872 (List.mem_of_getElem? (i := 9) rfl) rfl ?_
    exact g_sub [] rfl (w_X0_restore_11 hC hK hX h)
theorem gc_X0_restore : gCodeW yX0_restore cX0_restore 3 (some .int) [(0, 8, 11, 15)] 2 := ⟨q2462, q93, ⟨by decide, by decide⟩, rfl⟩
theorem m_X0_restore {l : Launch} (hfl : l.stackTraces = false) {E : gE} {G : gS} {o0 : Option Nat} {o1 : Option Nat} {X : Nat → gS → Prop} {K : Int32 → gS → Prop} (h : wp_X0_restore (gAd E) G o0 o1 X K) : gMet l yX0_restore (wsW_ yX0_restore cX0_restore 3 (some .int) [(0, 8, 11, 15)]) 10 268 [vQ o0, vQ o1] E G (gRi K) X :=
  g_metW hfl (plainFor_of_name (by decide +kernel)) rfl rfl rfl (gle rfl) (fun p e R s m args below meth c hC => w_X0_restore hC (fun _ _ h => h) (fun _ _ h => h) h)
def wp_X3_restore (ad : Nat → Nat) (G : gS) (t0 : Nat) (X : Nat → gS → Prop) (K : Int32 → gS → Prop) : Prop :=
  wGetI G t0 0 5 fun i1 => (gIs G t0 0 ∧ wp_X3_goes ad G t0 i1 X (fun r3 G2 => (¬ r3 = (0 : Int32) → wGetQ G2 t0 0 3 fun q4 => wGetQ G2 t0 0 0 fun q5 => wp_X3_copies ad G2 q4 (0 : Int32) q5 (0 : Int32) X (fun G6 => wPut G6 t0 0 6 (.int (0 : Int32)) fun G7 => wGetQ G7 t0 0 0 fun q8 => wNN q8 fun c9 => wAldI G7 c9 (11 : Int32) fun i10 => K i10 G7)) ∧ (r3 = (0 : Int32) → K (0 : Int32) G2)))
theorem w_X3_restore {C : gCx} (hC : gOk C "GoblinHouseholdModel" cX3_restore [] (some .int) "restore" 1 2 61) {K : Int32 → gS → Prop} {X : Nat → gS → Prop} (hK : ∀ r G, K r G → cxK C (some (vI r)) G) (hX : ∀ q G, X q G → cxX C q G) {G : gS} {t0 : Nat} (h : wp_X3_restore (cxA C) G t0 X K) : gGo C G 0 [(0, vQ (some t0))] [] := by
  unfold wp_X3_restore at h
  refine g_aload_n hC (pc := 0) 0 rfl rfl dX3_restore_0 ?_
  refine g_aload_n hC (pc := 1) 0 rfl rfl dX3_restore_1 ?_
  refine g_getI hC (pc := 2) in_X3 (ci := 0) rfl 5 (by decide) q2482 (Or.inl rfl) h dX3_restore_2 (fun i1 h => ?_)
  obtain ⟨hi, h⟩ := h
  refine g_callV hC (pc := 5) (ci := 0) (As := [vI i1]) gc_X3_goes (m_X3_goes hC.fl h) rfl hi q2546 q2548 qs43 (gle rfl) (gle rfl) rfl (gle rfl) rfl dX3_restore_5 (gk_i fun r3 G2 h => ?_) (fun _ _ h hio => g_out0 hC (hX _ _ h) hio)
  refine g_if_ne hC (pc := 8) 13 h (by decide) dX3_restore_8 (fun h => ?_) (fun h => ?_)
  · refine g_aload_n hC (pc := 13) 0 rfl rfl dX3_restore_13 ?_
    refine g_getQ hC (pc := 14) in_X3 (ci := 0) rfl 3 (by decide) q2480 (Or.inl rfl) h dX3_restore_14 (fun q4 h => ?_)
    refine g_iconst hC (pc := 17) (v := (0 : Int32)) (by decide) dX3_restore_17 ?_
    refine g_aload_n hC (pc := 18) 0 rfl rfl dX3_restore_18 ?_
    refine g_getQ hC (pc := 19) in_X3 (ci := 0) rfl 0 (by decide) q2477 (Or.inl rfl) h dX3_restore_19 (fun q5 h => ?_)
    refine g_iconst hC (pc := 22) (v := (0 : Int32)) (by decide) dX3_restore_22 ?_
    refine g_callS hC (pc := 23) (b := 0) (As := [vQ q4, vI (0 : Int32), vQ q5, vI (0 : Int32)]) gc_X3_copies (m_X3_copies hC.fl h) q2554 q2555 (gle rfl) (gle rfl) rfl (gle rfl) rfl dX3_restore_23 (gk_v fun G6 h => ?_) (fun _ _ h hio => g_out0 hC (hX _ _ h) hio)
    refine g_aload_n hC (pc := 26) 0 rfl rfl dX3_restore_26 ?_
    refine g_iconst hC (pc := 27) (v := (0 : Int32)) (by decide) dX3_restore_27 ?_
    refine g_put hC (pc := 28) in_X3 (ci := 0) rfl 6 (by decide) tyX3_ok nmX3 q2483 (Or.inl rfl) rfl rfl rfl h dX3_restore_28 (fun G7 h => ?_)
    refine g_aload_n hC (pc := 31) 0 rfl rfl dX3_restore_31 ?_
    refine g_getQ hC (pc := 32) in_X3 (ci := 0) rfl 0 (by decide) q2477 (Or.inl rfl) h dX3_restore_32 (fun q8 h => ?_)
    refine g_bipush hC (pc := 35) (v := (11 : Int32)) (by decide) dX3_restore_35 ?_
    rcases q8 with _ | c9
    · exact (gNN0 h).elim
    replace h := gNN1 h
    refine g_aldI hC (pc := 37) h dX3_restore_37 (fun i10 h => ?_)
    exact g_iret hC (pc := 38) (hK _ _ h) dX3_restore_38
  · refine g_iconst hC (pc := 11) (v := (0 : Int32)) (by decide) dX3_restore_11 ?_
    exact g_iret hC (pc := 12) (hK _ _ h) dX3_restore_12
theorem gc_X3_restore : gCode yX3_restore cX3_restore 1 (some .int) 0 := ⟨q2564, q105, ⟨by decide, by decide⟩, rfl⟩
theorem m_X3_restore {l : Launch} (hfl : l.stackTraces = false) {E : gE} {G : gS} {t0 : Nat} {X : Nat → gS → Prop} {K : Int32 → gS → Prop} (h : wp_X3_restore (gAd E) G t0 X K) : gMet l yX3_restore (ws_ yX3_restore cX3_restore 1 (some .int)) 2 61 [vQ (some t0)] E G (gRi K) X :=
  g_met hfl (plainFor_of_name (by decide +kernel)) rfl rfl rfl (gle rfl) (fun p e R s m args below meth c hC => w_X3_restore hC (fun _ _ h => h) (fun _ _ h => h) h)
def wp_L_law_2889 (ad : Nat → Nat) (X : Nat → gS → Prop) (K : Int32 → gS → Prop) (J28 : gS → Option Nat → Nat → Nat → Nat → Nat → Int32 → Prop) (G : gS) (t0 : Nat) (t1 : Nat) (t2 : Nat) (t3 : Nat) (t4 : Nat) (x5 : Int32) : Prop :=
  J28 G (some t0) t1 t2 t3 t4 (x5 + (5 : Int32))
theorem w_L_law_2889 {C : gCx} (hC : gOk C "GoblinHouseholdLaw" cL_law [] (some .boolean) "law" 40 22 3247) {K : Int32 → gS → Prop} {X : Nat → gS → Prop} (hK : ∀ r G, K r G → cxK C (some (vI r)) G) (hX : ∀ q G, X q G → cxX C q G) {J28 : gS → Option Nat → Nat → Nat → Nat → Nat → Int32 → Prop} (hJ28 : ∀ G z0 z1 z2 z3 z4 z5, J28 G z0 z1 z2 z3 z4 z5 → gGo C G 28 [(0, vQ z0), (1, vQ (some z1)), (2, vQ (some z2)), (3, vQ (some z3)), (4, vQ (some z4)), (5, vI z5)] []) {G : gS} {t0 : Nat} {t1 : Nat} {t2 : Nat} {t3 : Nat} {t4 : Nat} {x5 : Int32} (h : wp_L_law_2889 (cxA C) X K J28 G t0 t1 t2 t3 t4 x5) : gGo C G 2889 [(0, vQ (some t0)), (1, vQ (some t1)), (2, vQ (some t2)), (3, vQ (some t3)), (4, vQ (some t4)), (5, vI x5)] [] := by
  unfold wp_L_law_2889 at h
  refine g_iinc hC (pc := 2889) 5 (d := (5 : Int32)) (v := (x5 + (5 : Int32))) (lv' := [(5, vI (x5 + (5 : Int32))), (0, vQ (some t0)), (1, vQ (some t1)), (2, vQ (some t2)), (3, vQ (some t3)), (4, vQ (some t4))]) rfl (by decide) rfl (by decide) rfl dL_law_2889 ?_
  refine g_goto hC (pc := 2892) 28 (by decide) dL_law_2892 ?_
  exact g_sub [1, 2, 3, 4, 5, 0] rfl (hJ28 _ _ _ _ _ _ _ h)
def wp_L_law_341 (ad : Nat → Nat) (X : Nat → gS → Prop) (K : Int32 → gS → Prop) (J28 : gS → Option Nat → Nat → Nat → Nat → Nat → Int32 → Prop) (G : gS) (t0 : Nat) (t1 : Nat) (t2 : Nat) (t3 : Nat) (t4 : Nat) (x5 : Int32) : Prop :=
  wp_L_law_2889 ad X K J28 G t0 t1 t2 t3 t4 x5
theorem w_L_law_341 {C : gCx} (hC : gOk C "GoblinHouseholdLaw" cL_law [] (some .boolean) "law" 40 22 3247) {K : Int32 → gS → Prop} {X : Nat → gS → Prop} (hK : ∀ r G, K r G → cxK C (some (vI r)) G) (hX : ∀ q G, X q G → cxX C q G) {J28 : gS → Option Nat → Nat → Nat → Nat → Nat → Int32 → Prop} (hJ28 : ∀ G z0 z1 z2 z3 z4 z5, J28 G z0 z1 z2 z3 z4 z5 → gGo C G 28 [(0, vQ z0), (1, vQ (some z1)), (2, vQ (some z2)), (3, vQ (some z3)), (4, vQ (some z4)), (5, vI z5)] []) {G : gS} {t0 : Nat} {t1 : Nat} {t2 : Nat} {t3 : Nat} {t4 : Nat} {x5 : Int32} (h : wp_L_law_341 (cxA C) X K J28 G t0 t1 t2 t3 t4 x5) : gGo C G 341 [(0, vQ (some t0)), (1, vQ (some t1)), (2, vQ (some t2)), (3, vQ (some t3)), (4, vQ (some t4)), (5, vI x5)] [] := by
  unfold wp_L_law_341 at h
  refine g_goto hC (pc := 341) 2889 (by decide) dL_law_341 ?_
  exact g_sub [0, 1, 2, 3, 4, 5] rfl (w_L_law_2889 hC hK hX hJ28 h)
def wp_L_law_397 (ad : Nat → Nat) (X : Nat → gS → Prop) (K : Int32 → gS → Prop) (J28 : gS → Option Nat → Nat → Nat → Nat → Nat → Int32 → Prop) (G : gS) (t0 : Nat) (t1 : Nat) (t2 : Nat) (t3 : Nat) (t4 : Nat) (x5 : Int32) : Prop :=
  wp_L_law_2889 ad X K J28 G t0 t1 t2 t3 t4 x5
theorem w_L_law_397 {C : gCx} (hC : gOk C "GoblinHouseholdLaw" cL_law [] (some .boolean) "law" 40 22 3247) {K : Int32 → gS → Prop} {X : Nat → gS → Prop} (hK : ∀ r G, K r G → cxK C (some (vI r)) G) (hX : ∀ q G, X q G → cxX C q G) {J28 : gS → Option Nat → Nat → Nat → Nat → Nat → Int32 → Prop} (hJ28 : ∀ G z0 z1 z2 z3 z4 z5, J28 G z0 z1 z2 z3 z4 z5 → gGo C G 28 [(0, vQ z0), (1, vQ (some z1)), (2, vQ (some z2)), (3, vQ (some z3)), (4, vQ (some z4)), (5, vI z5)] []) {G : gS} {t0 : Nat} {t1 : Nat} {t2 : Nat} {t3 : Nat} {t4 : Nat} {x5 : Int32} (h : wp_L_law_397 (cxA C) X K J28 G t0 t1 t2 t3 t4 x5) : gGo C G 397 [(0, vQ (some t0)), (1, vQ (some t1)), (2, vQ (some t2)), (3, vQ (some t3)), (4, vQ (some t4)), (5, vI x5)] [] := by
  unfold wp_L_law_397 at h
  refine g_goto hC (pc := 397) 2889 (by decide) dL_law_397 ?_
  exact g_sub [0, 1, 2, 3, 4, 5] rfl (w_L_law_2889 hC hK hX hJ28 h)
def wp_L_law_453 (ad : Nat → Nat) (X : Nat → gS → Prop) (K : Int32 → gS → Prop) (J28 : gS → Option Nat → Nat → Nat → Nat → Nat → Int32 → Prop) (G : gS) (t0 : Nat) (t1 : Nat) (t2 : Nat) (t3 : Nat) (t4 : Nat) (x5 : Int32) : Prop :=
  wp_L_law_2889 ad X K J28 G t0 t1 t2 t3 t4 x5
theorem w_L_law_453 {C : gCx} (hC : gOk C "GoblinHouseholdLaw" cL_law [] (some .boolean) "law" 40 22 3247) {K : Int32 → gS → Prop} {X : Nat → gS → Prop} (hK : ∀ r G, K r G → cxK C (some (vI r)) G) (hX : ∀ q G, X q G → cxX C q G) {J28 : gS → Option Nat → Nat → Nat → Nat → Nat → Int32 → Prop} (hJ28 : ∀ G z0 z1 z2 z3 z4 z5, J28 G z0 z1 z2 z3 z4 z5 → gGo C G 28 [(0, vQ z0), (1, vQ (some z1)), (2, vQ (some z2)), (3, vQ (some z3)), (4, vQ (some z4)), (5, vI z5)] []) {G : gS} {t0 : Nat} {t1 : Nat} {t2 : Nat} {t3 : Nat} {t4 : Nat} {x5 : Int32} (h : wp_L_law_453 (cxA C) X K J28 G t0 t1 t2 t3 t4 x5) : gGo C G 453 [(0, vQ (some t0)), (1, vQ (some t1)), (2, vQ (some t2)), (3, vQ (some t3)), (4, vQ (some t4)), (5, vI x5)] [] := by
  unfold wp_L_law_453 at h
  refine g_goto hC (pc := 453) 2889 (by decide) dL_law_453 ?_
  exact g_sub [0, 1, 2, 3, 4, 5] rfl (w_L_law_2889 hC hK hX hJ28 h)
def wp_L_law_509 (ad : Nat → Nat) (X : Nat → gS → Prop) (K : Int32 → gS → Prop) (J28 : gS → Option Nat → Nat → Nat → Nat → Nat → Int32 → Prop) (G : gS) (t0 : Nat) (t1 : Nat) (t2 : Nat) (t3 : Nat) (t4 : Nat) (x5 : Int32) : Prop :=
  wp_L_law_2889 ad X K J28 G t0 t1 t2 t3 t4 x5
theorem w_L_law_509 {C : gCx} (hC : gOk C "GoblinHouseholdLaw" cL_law [] (some .boolean) "law" 40 22 3247) {K : Int32 → gS → Prop} {X : Nat → gS → Prop} (hK : ∀ r G, K r G → cxK C (some (vI r)) G) (hX : ∀ q G, X q G → cxX C q G) {J28 : gS → Option Nat → Nat → Nat → Nat → Nat → Int32 → Prop} (hJ28 : ∀ G z0 z1 z2 z3 z4 z5, J28 G z0 z1 z2 z3 z4 z5 → gGo C G 28 [(0, vQ z0), (1, vQ (some z1)), (2, vQ (some z2)), (3, vQ (some z3)), (4, vQ (some z4)), (5, vI z5)] []) {G : gS} {t0 : Nat} {t1 : Nat} {t2 : Nat} {t3 : Nat} {t4 : Nat} {x5 : Int32} (h : wp_L_law_509 (cxA C) X K J28 G t0 t1 t2 t3 t4 x5) : gGo C G 509 [(0, vQ (some t0)), (1, vQ (some t1)), (2, vQ (some t2)), (3, vQ (some t3)), (4, vQ (some t4)), (5, vI x5)] [] := by
  unfold wp_L_law_509 at h
  refine g_goto hC (pc := 509) 2889 (by decide) dL_law_509 ?_
  exact g_sub [0, 1, 2, 3, 4, 5] rfl (w_L_law_2889 hC hK hX hJ28 h)
def wp_L_law_601 (ad : Nat → Nat) (X : Nat → gS → Prop) (K : Int32 → gS → Prop) (J28 : gS → Option Nat → Nat → Nat → Nat → Nat → Int32 → Prop) (G : gS) (t0 : Nat) (t1 : Nat) (t2 : Nat) (t3 : Nat) (t4 : Nat) (x5 : Int32) : Prop :=
  wp_L_law_2889 ad X K J28 G t0 t1 t2 t3 t4 x5
theorem w_L_law_601 {C : gCx} (hC : gOk C "GoblinHouseholdLaw" cL_law [] (some .boolean) "law" 40 22 3247) {K : Int32 → gS → Prop} {X : Nat → gS → Prop} (hK : ∀ r G, K r G → cxK C (some (vI r)) G) (hX : ∀ q G, X q G → cxX C q G) {J28 : gS → Option Nat → Nat → Nat → Nat → Nat → Int32 → Prop} (hJ28 : ∀ G z0 z1 z2 z3 z4 z5, J28 G z0 z1 z2 z3 z4 z5 → gGo C G 28 [(0, vQ z0), (1, vQ (some z1)), (2, vQ (some z2)), (3, vQ (some z3)), (4, vQ (some z4)), (5, vI z5)] []) {G : gS} {t0 : Nat} {t1 : Nat} {t2 : Nat} {t3 : Nat} {t4 : Nat} {x5 : Int32} (h : wp_L_law_601 (cxA C) X K J28 G t0 t1 t2 t3 t4 x5) : gGo C G 601 [(0, vQ (some t0)), (1, vQ (some t1)), (2, vQ (some t2)), (3, vQ (some t3)), (4, vQ (some t4)), (5, vI x5)] [] := by
  unfold wp_L_law_601 at h
  refine g_goto hC (pc := 601) 2889 (by decide) dL_law_601 ?_
  exact g_sub [0, 1, 2, 3, 4, 5] rfl (w_L_law_2889 hC hK hX hJ28 h)
def wp_L_law_657 (ad : Nat → Nat) (X : Nat → gS → Prop) (K : Int32 → gS → Prop) (J28 : gS → Option Nat → Nat → Nat → Nat → Nat → Int32 → Prop) (G : gS) (t0 : Nat) (t1 : Nat) (t2 : Nat) (t3 : Nat) (t4 : Nat) (x5 : Int32) : Prop :=
  wp_L_law_2889 ad X K J28 G t0 t1 t2 t3 t4 x5
theorem w_L_law_657 {C : gCx} (hC : gOk C "GoblinHouseholdLaw" cL_law [] (some .boolean) "law" 40 22 3247) {K : Int32 → gS → Prop} {X : Nat → gS → Prop} (hK : ∀ r G, K r G → cxK C (some (vI r)) G) (hX : ∀ q G, X q G → cxX C q G) {J28 : gS → Option Nat → Nat → Nat → Nat → Nat → Int32 → Prop} (hJ28 : ∀ G z0 z1 z2 z3 z4 z5, J28 G z0 z1 z2 z3 z4 z5 → gGo C G 28 [(0, vQ z0), (1, vQ (some z1)), (2, vQ (some z2)), (3, vQ (some z3)), (4, vQ (some z4)), (5, vI z5)] []) {G : gS} {t0 : Nat} {t1 : Nat} {t2 : Nat} {t3 : Nat} {t4 : Nat} {x5 : Int32} (h : wp_L_law_657 (cxA C) X K J28 G t0 t1 t2 t3 t4 x5) : gGo C G 657 [(0, vQ (some t0)), (1, vQ (some t1)), (2, vQ (some t2)), (3, vQ (some t3)), (4, vQ (some t4)), (5, vI x5)] [] := by
  unfold wp_L_law_657 at h
  refine g_goto hC (pc := 657) 2889 (by decide) dL_law_657 ?_
  exact g_sub [0, 1, 2, 3, 4, 5] rfl (w_L_law_2889 hC hK hX hJ28 h)
def wp_L_law_713 (ad : Nat → Nat) (X : Nat → gS → Prop) (K : Int32 → gS → Prop) (J28 : gS → Option Nat → Nat → Nat → Nat → Nat → Int32 → Prop) (G : gS) (t0 : Nat) (t1 : Nat) (t2 : Nat) (t3 : Nat) (t4 : Nat) (x5 : Int32) : Prop :=
  wp_L_law_2889 ad X K J28 G t0 t1 t2 t3 t4 x5
theorem w_L_law_713 {C : gCx} (hC : gOk C "GoblinHouseholdLaw" cL_law [] (some .boolean) "law" 40 22 3247) {K : Int32 → gS → Prop} {X : Nat → gS → Prop} (hK : ∀ r G, K r G → cxK C (some (vI r)) G) (hX : ∀ q G, X q G → cxX C q G) {J28 : gS → Option Nat → Nat → Nat → Nat → Nat → Int32 → Prop} (hJ28 : ∀ G z0 z1 z2 z3 z4 z5, J28 G z0 z1 z2 z3 z4 z5 → gGo C G 28 [(0, vQ z0), (1, vQ (some z1)), (2, vQ (some z2)), (3, vQ (some z3)), (4, vQ (some z4)), (5, vI z5)] []) {G : gS} {t0 : Nat} {t1 : Nat} {t2 : Nat} {t3 : Nat} {t4 : Nat} {x5 : Int32} (h : wp_L_law_713 (cxA C) X K J28 G t0 t1 t2 t3 t4 x5) : gGo C G 713 [(0, vQ (some t0)), (1, vQ (some t1)), (2, vQ (some t2)), (3, vQ (some t3)), (4, vQ (some t4)), (5, vI x5)] [] := by
  unfold wp_L_law_713 at h
  refine g_goto hC (pc := 713) 2889 (by decide) dL_law_713 ?_
  exact g_sub [0, 1, 2, 3, 4, 5] rfl (w_L_law_2889 hC hK hX hJ28 h)
def wp_L_law_769 (ad : Nat → Nat) (X : Nat → gS → Prop) (K : Int32 → gS → Prop) (J28 : gS → Option Nat → Nat → Nat → Nat → Nat → Int32 → Prop) (G : gS) (t0 : Nat) (t1 : Nat) (t2 : Nat) (t3 : Nat) (t4 : Nat) (x5 : Int32) : Prop :=
  wp_L_law_2889 ad X K J28 G t0 t1 t2 t3 t4 x5
theorem w_L_law_769 {C : gCx} (hC : gOk C "GoblinHouseholdLaw" cL_law [] (some .boolean) "law" 40 22 3247) {K : Int32 → gS → Prop} {X : Nat → gS → Prop} (hK : ∀ r G, K r G → cxK C (some (vI r)) G) (hX : ∀ q G, X q G → cxX C q G) {J28 : gS → Option Nat → Nat → Nat → Nat → Nat → Int32 → Prop} (hJ28 : ∀ G z0 z1 z2 z3 z4 z5, J28 G z0 z1 z2 z3 z4 z5 → gGo C G 28 [(0, vQ z0), (1, vQ (some z1)), (2, vQ (some z2)), (3, vQ (some z3)), (4, vQ (some z4)), (5, vI z5)] []) {G : gS} {t0 : Nat} {t1 : Nat} {t2 : Nat} {t3 : Nat} {t4 : Nat} {x5 : Int32} (h : wp_L_law_769 (cxA C) X K J28 G t0 t1 t2 t3 t4 x5) : gGo C G 769 [(0, vQ (some t0)), (1, vQ (some t1)), (2, vQ (some t2)), (3, vQ (some t3)), (4, vQ (some t4)), (5, vI x5)] [] := by
  unfold wp_L_law_769 at h
  refine g_goto hC (pc := 769) 2889 (by decide) dL_law_769 ?_
  exact g_sub [0, 1, 2, 3, 4, 5] rfl (w_L_law_2889 hC hK hX hJ28 h)
def wp_L_law_837 (ad : Nat → Nat) (X : Nat → gS → Prop) (K : Int32 → gS → Prop) (J28 : gS → Option Nat → Nat → Nat → Nat → Nat → Int32 → Prop) (G : gS) (t0 : Nat) (t1 : Nat) (t2 : Nat) (t3 : Nat) (t4 : Nat) (x5 : Int32) : Prop :=
  wp_L_law_2889 ad X K J28 G t0 t1 t2 t3 t4 x5
theorem w_L_law_837 {C : gCx} (hC : gOk C "GoblinHouseholdLaw" cL_law [] (some .boolean) "law" 40 22 3247) {K : Int32 → gS → Prop} {X : Nat → gS → Prop} (hK : ∀ r G, K r G → cxK C (some (vI r)) G) (hX : ∀ q G, X q G → cxX C q G) {J28 : gS → Option Nat → Nat → Nat → Nat → Nat → Int32 → Prop} (hJ28 : ∀ G z0 z1 z2 z3 z4 z5, J28 G z0 z1 z2 z3 z4 z5 → gGo C G 28 [(0, vQ z0), (1, vQ (some z1)), (2, vQ (some z2)), (3, vQ (some z3)), (4, vQ (some z4)), (5, vI z5)] []) {G : gS} {t0 : Nat} {t1 : Nat} {t2 : Nat} {t3 : Nat} {t4 : Nat} {x5 : Int32} (h : wp_L_law_837 (cxA C) X K J28 G t0 t1 t2 t3 t4 x5) : gGo C G 837 [(0, vQ (some t0)), (1, vQ (some t1)), (2, vQ (some t2)), (3, vQ (some t3)), (4, vQ (some t4)), (5, vI x5)] [] := by
  unfold wp_L_law_837 at h
  refine g_goto hC (pc := 837) 2889 (by decide) dL_law_837 ?_
  exact g_sub [0, 1, 2, 3, 4, 5] rfl (w_L_law_2889 hC hK hX hJ28 h)
def wp_L_law_893 (ad : Nat → Nat) (X : Nat → gS → Prop) (K : Int32 → gS → Prop) (J28 : gS → Option Nat → Nat → Nat → Nat → Nat → Int32 → Prop) (G : gS) (t0 : Nat) (t1 : Nat) (t2 : Nat) (t3 : Nat) (t4 : Nat) (x5 : Int32) : Prop :=
  wp_L_law_2889 ad X K J28 G t0 t1 t2 t3 t4 x5
theorem w_L_law_893 {C : gCx} (hC : gOk C "GoblinHouseholdLaw" cL_law [] (some .boolean) "law" 40 22 3247) {K : Int32 → gS → Prop} {X : Nat → gS → Prop} (hK : ∀ r G, K r G → cxK C (some (vI r)) G) (hX : ∀ q G, X q G → cxX C q G) {J28 : gS → Option Nat → Nat → Nat → Nat → Nat → Int32 → Prop} (hJ28 : ∀ G z0 z1 z2 z3 z4 z5, J28 G z0 z1 z2 z3 z4 z5 → gGo C G 28 [(0, vQ z0), (1, vQ (some z1)), (2, vQ (some z2)), (3, vQ (some z3)), (4, vQ (some z4)), (5, vI z5)] []) {G : gS} {t0 : Nat} {t1 : Nat} {t2 : Nat} {t3 : Nat} {t4 : Nat} {x5 : Int32} (h : wp_L_law_893 (cxA C) X K J28 G t0 t1 t2 t3 t4 x5) : gGo C G 893 [(0, vQ (some t0)), (1, vQ (some t1)), (2, vQ (some t2)), (3, vQ (some t3)), (4, vQ (some t4)), (5, vI x5)] [] := by
  unfold wp_L_law_893 at h
  refine g_goto hC (pc := 893) 2889 (by decide) dL_law_893 ?_
  exact g_sub [0, 1, 2, 3, 4, 5] rfl (w_L_law_2889 hC hK hX hJ28 h)
def wp_L_law_949 (ad : Nat → Nat) (X : Nat → gS → Prop) (K : Int32 → gS → Prop) (J28 : gS → Option Nat → Nat → Nat → Nat → Nat → Int32 → Prop) (G : gS) (t0 : Nat) (t1 : Nat) (t2 : Nat) (t3 : Nat) (t4 : Nat) (x5 : Int32) : Prop :=
  wp_L_law_2889 ad X K J28 G t0 t1 t2 t3 t4 x5
theorem w_L_law_949 {C : gCx} (hC : gOk C "GoblinHouseholdLaw" cL_law [] (some .boolean) "law" 40 22 3247) {K : Int32 → gS → Prop} {X : Nat → gS → Prop} (hK : ∀ r G, K r G → cxK C (some (vI r)) G) (hX : ∀ q G, X q G → cxX C q G) {J28 : gS → Option Nat → Nat → Nat → Nat → Nat → Int32 → Prop} (hJ28 : ∀ G z0 z1 z2 z3 z4 z5, J28 G z0 z1 z2 z3 z4 z5 → gGo C G 28 [(0, vQ z0), (1, vQ (some z1)), (2, vQ (some z2)), (3, vQ (some z3)), (4, vQ (some z4)), (5, vI z5)] []) {G : gS} {t0 : Nat} {t1 : Nat} {t2 : Nat} {t3 : Nat} {t4 : Nat} {x5 : Int32} (h : wp_L_law_949 (cxA C) X K J28 G t0 t1 t2 t3 t4 x5) : gGo C G 949 [(0, vQ (some t0)), (1, vQ (some t1)), (2, vQ (some t2)), (3, vQ (some t3)), (4, vQ (some t4)), (5, vI x5)] [] := by
  unfold wp_L_law_949 at h
  refine g_goto hC (pc := 949) 2889 (by decide) dL_law_949 ?_
  exact g_sub [0, 1, 2, 3, 4, 5] rfl (w_L_law_2889 hC hK hX hJ28 h)
def wp_L_law_1005 (ad : Nat → Nat) (X : Nat → gS → Prop) (K : Int32 → gS → Prop) (J28 : gS → Option Nat → Nat → Nat → Nat → Nat → Int32 → Prop) (G : gS) (t0 : Nat) (t1 : Nat) (t2 : Nat) (t3 : Nat) (t4 : Nat) (x5 : Int32) : Prop :=
  wp_L_law_2889 ad X K J28 G t0 t1 t2 t3 t4 x5
theorem w_L_law_1005 {C : gCx} (hC : gOk C "GoblinHouseholdLaw" cL_law [] (some .boolean) "law" 40 22 3247) {K : Int32 → gS → Prop} {X : Nat → gS → Prop} (hK : ∀ r G, K r G → cxK C (some (vI r)) G) (hX : ∀ q G, X q G → cxX C q G) {J28 : gS → Option Nat → Nat → Nat → Nat → Nat → Int32 → Prop} (hJ28 : ∀ G z0 z1 z2 z3 z4 z5, J28 G z0 z1 z2 z3 z4 z5 → gGo C G 28 [(0, vQ z0), (1, vQ (some z1)), (2, vQ (some z2)), (3, vQ (some z3)), (4, vQ (some z4)), (5, vI z5)] []) {G : gS} {t0 : Nat} {t1 : Nat} {t2 : Nat} {t3 : Nat} {t4 : Nat} {x5 : Int32} (h : wp_L_law_1005 (cxA C) X K J28 G t0 t1 t2 t3 t4 x5) : gGo C G 1005 [(0, vQ (some t0)), (1, vQ (some t1)), (2, vQ (some t2)), (3, vQ (some t3)), (4, vQ (some t4)), (5, vI x5)] [] := by
  unfold wp_L_law_1005 at h
  refine g_goto hC (pc := 1005) 2889 (by decide) dL_law_1005 ?_
  exact g_sub [0, 1, 2, 3, 4, 5] rfl (w_L_law_2889 hC hK hX hJ28 h)
def wp_L_law_1061 (ad : Nat → Nat) (X : Nat → gS → Prop) (K : Int32 → gS → Prop) (J28 : gS → Option Nat → Nat → Nat → Nat → Nat → Int32 → Prop) (G : gS) (t0 : Nat) (t1 : Nat) (t2 : Nat) (t3 : Nat) (t4 : Nat) (x5 : Int32) : Prop :=
  wp_L_law_2889 ad X K J28 G t0 t1 t2 t3 t4 x5
theorem w_L_law_1061 {C : gCx} (hC : gOk C "GoblinHouseholdLaw" cL_law [] (some .boolean) "law" 40 22 3247) {K : Int32 → gS → Prop} {X : Nat → gS → Prop} (hK : ∀ r G, K r G → cxK C (some (vI r)) G) (hX : ∀ q G, X q G → cxX C q G) {J28 : gS → Option Nat → Nat → Nat → Nat → Nat → Int32 → Prop} (hJ28 : ∀ G z0 z1 z2 z3 z4 z5, J28 G z0 z1 z2 z3 z4 z5 → gGo C G 28 [(0, vQ z0), (1, vQ (some z1)), (2, vQ (some z2)), (3, vQ (some z3)), (4, vQ (some z4)), (5, vI z5)] []) {G : gS} {t0 : Nat} {t1 : Nat} {t2 : Nat} {t3 : Nat} {t4 : Nat} {x5 : Int32} (h : wp_L_law_1061 (cxA C) X K J28 G t0 t1 t2 t3 t4 x5) : gGo C G 1061 [(0, vQ (some t0)), (1, vQ (some t1)), (2, vQ (some t2)), (3, vQ (some t3)), (4, vQ (some t4)), (5, vI x5)] [] := by
  unfold wp_L_law_1061 at h
  refine g_goto hC (pc := 1061) 2889 (by decide) dL_law_1061 ?_
  exact g_sub [0, 1, 2, 3, 4, 5] rfl (w_L_law_2889 hC hK hX hJ28 h)
def wp_L_law_1117 (ad : Nat → Nat) (X : Nat → gS → Prop) (K : Int32 → gS → Prop) (J28 : gS → Option Nat → Nat → Nat → Nat → Nat → Int32 → Prop) (G : gS) (t0 : Nat) (t1 : Nat) (t2 : Nat) (t3 : Nat) (t4 : Nat) (x5 : Int32) : Prop :=
  wp_L_law_2889 ad X K J28 G t0 t1 t2 t3 t4 x5
theorem w_L_law_1117 {C : gCx} (hC : gOk C "GoblinHouseholdLaw" cL_law [] (some .boolean) "law" 40 22 3247) {K : Int32 → gS → Prop} {X : Nat → gS → Prop} (hK : ∀ r G, K r G → cxK C (some (vI r)) G) (hX : ∀ q G, X q G → cxX C q G) {J28 : gS → Option Nat → Nat → Nat → Nat → Nat → Int32 → Prop} (hJ28 : ∀ G z0 z1 z2 z3 z4 z5, J28 G z0 z1 z2 z3 z4 z5 → gGo C G 28 [(0, vQ z0), (1, vQ (some z1)), (2, vQ (some z2)), (3, vQ (some z3)), (4, vQ (some z4)), (5, vI z5)] []) {G : gS} {t0 : Nat} {t1 : Nat} {t2 : Nat} {t3 : Nat} {t4 : Nat} {x5 : Int32} (h : wp_L_law_1117 (cxA C) X K J28 G t0 t1 t2 t3 t4 x5) : gGo C G 1117 [(0, vQ (some t0)), (1, vQ (some t1)), (2, vQ (some t2)), (3, vQ (some t3)), (4, vQ (some t4)), (5, vI x5)] [] := by
  unfold wp_L_law_1117 at h
  refine g_goto hC (pc := 1117) 2889 (by decide) dL_law_1117 ?_
  exact g_sub [0, 1, 2, 3, 4, 5] rfl (w_L_law_2889 hC hK hX hJ28 h)
def wp_L_law_1186 (ad : Nat → Nat) (X : Nat → gS → Prop) (K : Int32 → gS → Prop) (J28 : gS → Option Nat → Nat → Nat → Nat → Nat → Int32 → Prop) (G : gS) (t0 : Nat) (t1 : Nat) (t2 : Nat) (t3 : Nat) (t4 : Nat) (x5 : Int32) : Prop :=
  wp_L_law_2889 ad X K J28 G t0 t1 t2 t3 t4 x5
theorem w_L_law_1186 {C : gCx} (hC : gOk C "GoblinHouseholdLaw" cL_law [] (some .boolean) "law" 40 22 3247) {K : Int32 → gS → Prop} {X : Nat → gS → Prop} (hK : ∀ r G, K r G → cxK C (some (vI r)) G) (hX : ∀ q G, X q G → cxX C q G) {J28 : gS → Option Nat → Nat → Nat → Nat → Nat → Int32 → Prop} (hJ28 : ∀ G z0 z1 z2 z3 z4 z5, J28 G z0 z1 z2 z3 z4 z5 → gGo C G 28 [(0, vQ z0), (1, vQ (some z1)), (2, vQ (some z2)), (3, vQ (some z3)), (4, vQ (some z4)), (5, vI z5)] []) {G : gS} {t0 : Nat} {t1 : Nat} {t2 : Nat} {t3 : Nat} {t4 : Nat} {x5 : Int32} (h : wp_L_law_1186 (cxA C) X K J28 G t0 t1 t2 t3 t4 x5) : gGo C G 1186 [(0, vQ (some t0)), (1, vQ (some t1)), (2, vQ (some t2)), (3, vQ (some t3)), (4, vQ (some t4)), (5, vI x5)] [] := by
  unfold wp_L_law_1186 at h
  refine g_goto hC (pc := 1186) 2889 (by decide) dL_law_1186 ?_
  exact g_sub [0, 1, 2, 3, 4, 5] rfl (w_L_law_2889 hC hK hX hJ28 h)
def wp_L_law_1249 (ad : Nat → Nat) (X : Nat → gS → Prop) (K : Int32 → gS → Prop) (J28 : gS → Option Nat → Nat → Nat → Nat → Nat → Int32 → Prop) (G : gS) (t0 : Nat) (t1 : Nat) (t2 : Nat) (t3 : Nat) (t4 : Nat) (x5 : Int32) : Prop :=
  wp_L_law_2889 ad X K J28 G t0 t1 t2 t3 t4 x5
theorem w_L_law_1249 {C : gCx} (hC : gOk C "GoblinHouseholdLaw" cL_law [] (some .boolean) "law" 40 22 3247) {K : Int32 → gS → Prop} {X : Nat → gS → Prop} (hK : ∀ r G, K r G → cxK C (some (vI r)) G) (hX : ∀ q G, X q G → cxX C q G) {J28 : gS → Option Nat → Nat → Nat → Nat → Nat → Int32 → Prop} (hJ28 : ∀ G z0 z1 z2 z3 z4 z5, J28 G z0 z1 z2 z3 z4 z5 → gGo C G 28 [(0, vQ z0), (1, vQ (some z1)), (2, vQ (some z2)), (3, vQ (some z3)), (4, vQ (some z4)), (5, vI z5)] []) {G : gS} {t0 : Nat} {t1 : Nat} {t2 : Nat} {t3 : Nat} {t4 : Nat} {x5 : Int32} (h : wp_L_law_1249 (cxA C) X K J28 G t0 t1 t2 t3 t4 x5) : gGo C G 1249 [(0, vQ (some t0)), (1, vQ (some t1)), (2, vQ (some t2)), (3, vQ (some t3)), (4, vQ (some t4)), (5, vI x5)] [] := by
  unfold wp_L_law_1249 at h
  refine g_goto hC (pc := 1249) 2889 (by decide) dL_law_1249 ?_
  exact g_sub [0, 1, 2, 3, 4, 5] rfl (w_L_law_2889 hC hK hX hJ28 h)
def wp_L_law_1243 (ad : Nat → Nat) (X : Nat → gS → Prop) (K : Int32 → gS → Prop) (J28 : gS → Option Nat → Nat → Nat → Nat → Nat → Int32 → Prop) (G : gS) (t0 : Nat) (t1 : Nat) (t2 : Nat) (t3 : Nat) (t4 : Nat) (x5 : Int32) (xs0 : Int64) (xs1 : Int64) : Prop :=
  ((lg_cmp xs1 xs0) = (0 : Int32) → wp_L_law_1249 ad X K J28 G t0 t1 t2 t3 t4 x5) ∧ (¬ (lg_cmp xs1 xs0) = (0 : Int32) → K (0 : Int32) G)
theorem w_L_law_1243 {C : gCx} (hC : gOk C "GoblinHouseholdLaw" cL_law [] (some .boolean) "law" 40 22 3247) {K : Int32 → gS → Prop} {X : Nat → gS → Prop} (hK : ∀ r G, K r G → cxK C (some (vI r)) G) (hX : ∀ q G, X q G → cxX C q G) {J28 : gS → Option Nat → Nat → Nat → Nat → Nat → Int32 → Prop} (hJ28 : ∀ G z0 z1 z2 z3 z4 z5, J28 G z0 z1 z2 z3 z4 z5 → gGo C G 28 [(0, vQ z0), (1, vQ (some z1)), (2, vQ (some z2)), (3, vQ (some z3)), (4, vQ (some z4)), (5, vI z5)] []) {G : gS} {t0 : Nat} {t1 : Nat} {t2 : Nat} {t3 : Nat} {t4 : Nat} {x5 : Int32} {xs0 : Int64} {xs1 : Int64} (h : wp_L_law_1243 (cxA C) X K J28 G t0 t1 t2 t3 t4 x5 xs0 xs1) : gGo C G 1243 [(0, vQ (some t0)), (1, vQ (some t1)), (2, vQ (some t2)), (3, vQ (some t3)), (4, vQ (some t4)), (5, vI x5)] [vL xs0, vL xs1] := by
  unfold wp_L_law_1243 at h
  refine g_lcmp hC (pc := 1243) dL_law_1243 ?_
  refine g_if_eq hC (pc := 1244) 1249 h (by decide) dL_law_1244 (fun h => ?_) (fun h => ?_)
  · exact g_sub [0, 1, 2, 3, 4, 5] rfl (w_L_law_1249 hC hK hX hJ28 h)
  · refine g_iconst hC (pc := 1247) (v := (0 : Int32)) (by decide) dL_law_1247 ?_
    exact g_zret hC (pc := 1248) rfl (hK _ _ h) dL_law_1248
def wp_L_law_1318 (ad : Nat → Nat) (X : Nat → gS → Prop) (K : Int32 → gS → Prop) (J28 : gS → Option Nat → Nat → Nat → Nat → Nat → Int32 → Prop) (G : gS) (t0 : Nat) (t1 : Nat) (t2 : Nat) (t3 : Nat) (t4 : Nat) (x5 : Int32) : Prop :=
  wp_L_law_2889 ad X K J28 G t0 t1 t2 t3 t4 x5
theorem w_L_law_1318 {C : gCx} (hC : gOk C "GoblinHouseholdLaw" cL_law [] (some .boolean) "law" 40 22 3247) {K : Int32 → gS → Prop} {X : Nat → gS → Prop} (hK : ∀ r G, K r G → cxK C (some (vI r)) G) (hX : ∀ q G, X q G → cxX C q G) {J28 : gS → Option Nat → Nat → Nat → Nat → Nat → Int32 → Prop} (hJ28 : ∀ G z0 z1 z2 z3 z4 z5, J28 G z0 z1 z2 z3 z4 z5 → gGo C G 28 [(0, vQ z0), (1, vQ (some z1)), (2, vQ (some z2)), (3, vQ (some z3)), (4, vQ (some z4)), (5, vI z5)] []) {G : gS} {t0 : Nat} {t1 : Nat} {t2 : Nat} {t3 : Nat} {t4 : Nat} {x5 : Int32} (h : wp_L_law_1318 (cxA C) X K J28 G t0 t1 t2 t3 t4 x5) : gGo C G 1318 [(0, vQ (some t0)), (1, vQ (some t1)), (2, vQ (some t2)), (3, vQ (some t3)), (4, vQ (some t4)), (5, vI x5)] [] := by
  unfold wp_L_law_1318 at h
  refine g_goto hC (pc := 1318) 2889 (by decide) dL_law_1318 ?_
  exact g_sub [0, 1, 2, 3, 4, 5] rfl (w_L_law_2889 hC hK hX hJ28 h)
def wp_L_law_1374 (ad : Nat → Nat) (X : Nat → gS → Prop) (K : Int32 → gS → Prop) (J28 : gS → Option Nat → Nat → Nat → Nat → Nat → Int32 → Prop) (G : gS) (t0 : Nat) (t1 : Nat) (t2 : Nat) (t3 : Nat) (t4 : Nat) (x5 : Int32) : Prop :=
  wp_L_law_2889 ad X K J28 G t0 t1 t2 t3 t4 x5
theorem w_L_law_1374 {C : gCx} (hC : gOk C "GoblinHouseholdLaw" cL_law [] (some .boolean) "law" 40 22 3247) {K : Int32 → gS → Prop} {X : Nat → gS → Prop} (hK : ∀ r G, K r G → cxK C (some (vI r)) G) (hX : ∀ q G, X q G → cxX C q G) {J28 : gS → Option Nat → Nat → Nat → Nat → Nat → Int32 → Prop} (hJ28 : ∀ G z0 z1 z2 z3 z4 z5, J28 G z0 z1 z2 z3 z4 z5 → gGo C G 28 [(0, vQ z0), (1, vQ (some z1)), (2, vQ (some z2)), (3, vQ (some z3)), (4, vQ (some z4)), (5, vI z5)] []) {G : gS} {t0 : Nat} {t1 : Nat} {t2 : Nat} {t3 : Nat} {t4 : Nat} {x5 : Int32} (h : wp_L_law_1374 (cxA C) X K J28 G t0 t1 t2 t3 t4 x5) : gGo C G 1374 [(0, vQ (some t0)), (1, vQ (some t1)), (2, vQ (some t2)), (3, vQ (some t3)), (4, vQ (some t4)), (5, vI x5)] [] := by
  unfold wp_L_law_1374 at h
  refine g_goto hC (pc := 1374) 2889 (by decide) dL_law_1374 ?_
  exact g_sub [0, 1, 2, 3, 4, 5] rfl (w_L_law_2889 hC hK hX hJ28 h)
def wp_L_law_1430 (ad : Nat → Nat) (X : Nat → gS → Prop) (K : Int32 → gS → Prop) (J28 : gS → Option Nat → Nat → Nat → Nat → Nat → Int32 → Prop) (G : gS) (t0 : Nat) (t1 : Nat) (t2 : Nat) (t3 : Nat) (t4 : Nat) (x5 : Int32) : Prop :=
  wp_L_law_2889 ad X K J28 G t0 t1 t2 t3 t4 x5
theorem w_L_law_1430 {C : gCx} (hC : gOk C "GoblinHouseholdLaw" cL_law [] (some .boolean) "law" 40 22 3247) {K : Int32 → gS → Prop} {X : Nat → gS → Prop} (hK : ∀ r G, K r G → cxK C (some (vI r)) G) (hX : ∀ q G, X q G → cxX C q G) {J28 : gS → Option Nat → Nat → Nat → Nat → Nat → Int32 → Prop} (hJ28 : ∀ G z0 z1 z2 z3 z4 z5, J28 G z0 z1 z2 z3 z4 z5 → gGo C G 28 [(0, vQ z0), (1, vQ (some z1)), (2, vQ (some z2)), (3, vQ (some z3)), (4, vQ (some z4)), (5, vI z5)] []) {G : gS} {t0 : Nat} {t1 : Nat} {t2 : Nat} {t3 : Nat} {t4 : Nat} {x5 : Int32} (h : wp_L_law_1430 (cxA C) X K J28 G t0 t1 t2 t3 t4 x5) : gGo C G 1430 [(0, vQ (some t0)), (1, vQ (some t1)), (2, vQ (some t2)), (3, vQ (some t3)), (4, vQ (some t4)), (5, vI x5)] [] := by
  unfold wp_L_law_1430 at h
  refine g_goto hC (pc := 1430) 2889 (by decide) dL_law_1430 ?_
  exact g_sub [0, 1, 2, 3, 4, 5] rfl (w_L_law_2889 hC hK hX hJ28 h)
def wp_L_law_1486 (ad : Nat → Nat) (X : Nat → gS → Prop) (K : Int32 → gS → Prop) (J28 : gS → Option Nat → Nat → Nat → Nat → Nat → Int32 → Prop) (G : gS) (t0 : Nat) (t1 : Nat) (t2 : Nat) (t3 : Nat) (t4 : Nat) (x5 : Int32) : Prop :=
  wp_L_law_2889 ad X K J28 G t0 t1 t2 t3 t4 x5
theorem w_L_law_1486 {C : gCx} (hC : gOk C "GoblinHouseholdLaw" cL_law [] (some .boolean) "law" 40 22 3247) {K : Int32 → gS → Prop} {X : Nat → gS → Prop} (hK : ∀ r G, K r G → cxK C (some (vI r)) G) (hX : ∀ q G, X q G → cxX C q G) {J28 : gS → Option Nat → Nat → Nat → Nat → Nat → Int32 → Prop} (hJ28 : ∀ G z0 z1 z2 z3 z4 z5, J28 G z0 z1 z2 z3 z4 z5 → gGo C G 28 [(0, vQ z0), (1, vQ (some z1)), (2, vQ (some z2)), (3, vQ (some z3)), (4, vQ (some z4)), (5, vI z5)] []) {G : gS} {t0 : Nat} {t1 : Nat} {t2 : Nat} {t3 : Nat} {t4 : Nat} {x5 : Int32} (h : wp_L_law_1486 (cxA C) X K J28 G t0 t1 t2 t3 t4 x5) : gGo C G 1486 [(0, vQ (some t0)), (1, vQ (some t1)), (2, vQ (some t2)), (3, vQ (some t3)), (4, vQ (some t4)), (5, vI x5)] [] := by
  unfold wp_L_law_1486 at h
  refine g_goto hC (pc := 1486) 2889 (by decide) dL_law_1486 ?_
  exact g_sub [0, 1, 2, 3, 4, 5] rfl (w_L_law_2889 hC hK hX hJ28 h)
def wp_L_law_1549 (ad : Nat → Nat) (X : Nat → gS → Prop) (K : Int32 → gS → Prop) (J28 : gS → Option Nat → Nat → Nat → Nat → Nat → Int32 → Prop) (G : gS) (t0 : Nat) (t1 : Nat) (t2 : Nat) (t3 : Nat) (t4 : Nat) (x5 : Int32) : Prop :=
  wp_L_law_2889 ad X K J28 G t0 t1 t2 t3 t4 x5
theorem w_L_law_1549 {C : gCx} (hC : gOk C "GoblinHouseholdLaw" cL_law [] (some .boolean) "law" 40 22 3247) {K : Int32 → gS → Prop} {X : Nat → gS → Prop} (hK : ∀ r G, K r G → cxK C (some (vI r)) G) (hX : ∀ q G, X q G → cxX C q G) {J28 : gS → Option Nat → Nat → Nat → Nat → Nat → Int32 → Prop} (hJ28 : ∀ G z0 z1 z2 z3 z4 z5, J28 G z0 z1 z2 z3 z4 z5 → gGo C G 28 [(0, vQ z0), (1, vQ (some z1)), (2, vQ (some z2)), (3, vQ (some z3)), (4, vQ (some z4)), (5, vI z5)] []) {G : gS} {t0 : Nat} {t1 : Nat} {t2 : Nat} {t3 : Nat} {t4 : Nat} {x5 : Int32} (h : wp_L_law_1549 (cxA C) X K J28 G t0 t1 t2 t3 t4 x5) : gGo C G 1549 [(0, vQ (some t0)), (1, vQ (some t1)), (2, vQ (some t2)), (3, vQ (some t3)), (4, vQ (some t4)), (5, vI x5)] [] := by
  unfold wp_L_law_1549 at h
  refine g_goto hC (pc := 1549) 2889 (by decide) dL_law_1549 ?_
  exact g_sub [0, 1, 2, 3, 4, 5] rfl (w_L_law_2889 hC hK hX hJ28 h)
def wp_L_law_1543 (ad : Nat → Nat) (X : Nat → gS → Prop) (K : Int32 → gS → Prop) (J28 : gS → Option Nat → Nat → Nat → Nat → Nat → Int32 → Prop) (G : gS) (t0 : Nat) (t1 : Nat) (t2 : Nat) (t3 : Nat) (t4 : Nat) (x5 : Int32) (xs0 : Int64) (xs1 : Int64) : Prop :=
  ((lg_cmp xs1 xs0) = (0 : Int32) → wp_L_law_1549 ad X K J28 G t0 t1 t2 t3 t4 x5) ∧ (¬ (lg_cmp xs1 xs0) = (0 : Int32) → K (0 : Int32) G)
theorem w_L_law_1543 {C : gCx} (hC : gOk C "GoblinHouseholdLaw" cL_law [] (some .boolean) "law" 40 22 3247) {K : Int32 → gS → Prop} {X : Nat → gS → Prop} (hK : ∀ r G, K r G → cxK C (some (vI r)) G) (hX : ∀ q G, X q G → cxX C q G) {J28 : gS → Option Nat → Nat → Nat → Nat → Nat → Int32 → Prop} (hJ28 : ∀ G z0 z1 z2 z3 z4 z5, J28 G z0 z1 z2 z3 z4 z5 → gGo C G 28 [(0, vQ z0), (1, vQ (some z1)), (2, vQ (some z2)), (3, vQ (some z3)), (4, vQ (some z4)), (5, vI z5)] []) {G : gS} {t0 : Nat} {t1 : Nat} {t2 : Nat} {t3 : Nat} {t4 : Nat} {x5 : Int32} {xs0 : Int64} {xs1 : Int64} (h : wp_L_law_1543 (cxA C) X K J28 G t0 t1 t2 t3 t4 x5 xs0 xs1) : gGo C G 1543 [(0, vQ (some t0)), (1, vQ (some t1)), (2, vQ (some t2)), (3, vQ (some t3)), (4, vQ (some t4)), (5, vI x5)] [vL xs0, vL xs1] := by
  unfold wp_L_law_1543 at h
  refine g_lcmp hC (pc := 1543) dL_law_1543 ?_
  refine g_if_eq hC (pc := 1544) 1549 h (by decide) dL_law_1544 (fun h => ?_) (fun h => ?_)
  · exact g_sub [0, 1, 2, 3, 4, 5] rfl (w_L_law_1549 hC hK hX hJ28 h)
  · refine g_iconst hC (pc := 1547) (v := (0 : Int32)) (by decide) dL_law_1547 ?_
    exact g_zret hC (pc := 1548) rfl (hK _ _ h) dL_law_1548
def wp_L_law_1605 (ad : Nat → Nat) (X : Nat → gS → Prop) (K : Int32 → gS → Prop) (J28 : gS → Option Nat → Nat → Nat → Nat → Nat → Int32 → Prop) (G : gS) (t0 : Nat) (t1 : Nat) (t2 : Nat) (t3 : Nat) (t4 : Nat) (x5 : Int32) : Prop :=
  wp_L_law_2889 ad X K J28 G t0 t1 t2 t3 t4 x5
theorem w_L_law_1605 {C : gCx} (hC : gOk C "GoblinHouseholdLaw" cL_law [] (some .boolean) "law" 40 22 3247) {K : Int32 → gS → Prop} {X : Nat → gS → Prop} (hK : ∀ r G, K r G → cxK C (some (vI r)) G) (hX : ∀ q G, X q G → cxX C q G) {J28 : gS → Option Nat → Nat → Nat → Nat → Nat → Int32 → Prop} (hJ28 : ∀ G z0 z1 z2 z3 z4 z5, J28 G z0 z1 z2 z3 z4 z5 → gGo C G 28 [(0, vQ z0), (1, vQ (some z1)), (2, vQ (some z2)), (3, vQ (some z3)), (4, vQ (some z4)), (5, vI z5)] []) {G : gS} {t0 : Nat} {t1 : Nat} {t2 : Nat} {t3 : Nat} {t4 : Nat} {x5 : Int32} (h : wp_L_law_1605 (cxA C) X K J28 G t0 t1 t2 t3 t4 x5) : gGo C G 1605 [(0, vQ (some t0)), (1, vQ (some t1)), (2, vQ (some t2)), (3, vQ (some t3)), (4, vQ (some t4)), (5, vI x5)] [] := by
  unfold wp_L_law_1605 at h
  refine g_goto hC (pc := 1605) 2889 (by decide) dL_law_1605 ?_
  exact g_sub [0, 1, 2, 3, 4, 5] rfl (w_L_law_2889 hC hK hX hJ28 h)
def wp_L_law_1661 (ad : Nat → Nat) (X : Nat → gS → Prop) (K : Int32 → gS → Prop) (J28 : gS → Option Nat → Nat → Nat → Nat → Nat → Int32 → Prop) (G : gS) (t0 : Nat) (t1 : Nat) (t2 : Nat) (t3 : Nat) (t4 : Nat) (x5 : Int32) : Prop :=
  wp_L_law_2889 ad X K J28 G t0 t1 t2 t3 t4 x5
theorem w_L_law_1661 {C : gCx} (hC : gOk C "GoblinHouseholdLaw" cL_law [] (some .boolean) "law" 40 22 3247) {K : Int32 → gS → Prop} {X : Nat → gS → Prop} (hK : ∀ r G, K r G → cxK C (some (vI r)) G) (hX : ∀ q G, X q G → cxX C q G) {J28 : gS → Option Nat → Nat → Nat → Nat → Nat → Int32 → Prop} (hJ28 : ∀ G z0 z1 z2 z3 z4 z5, J28 G z0 z1 z2 z3 z4 z5 → gGo C G 28 [(0, vQ z0), (1, vQ (some z1)), (2, vQ (some z2)), (3, vQ (some z3)), (4, vQ (some z4)), (5, vI z5)] []) {G : gS} {t0 : Nat} {t1 : Nat} {t2 : Nat} {t3 : Nat} {t4 : Nat} {x5 : Int32} (h : wp_L_law_1661 (cxA C) X K J28 G t0 t1 t2 t3 t4 x5) : gGo C G 1661 [(0, vQ (some t0)), (1, vQ (some t1)), (2, vQ (some t2)), (3, vQ (some t3)), (4, vQ (some t4)), (5, vI x5)] [] := by
  unfold wp_L_law_1661 at h
  refine g_goto hC (pc := 1661) 2889 (by decide) dL_law_1661 ?_
  exact g_sub [0, 1, 2, 3, 4, 5] rfl (w_L_law_2889 hC hK hX hJ28 h)
def wp_L_law_1717 (ad : Nat → Nat) (X : Nat → gS → Prop) (K : Int32 → gS → Prop) (J28 : gS → Option Nat → Nat → Nat → Nat → Nat → Int32 → Prop) (G : gS) (t0 : Nat) (t1 : Nat) (t2 : Nat) (t3 : Nat) (t4 : Nat) (x5 : Int32) : Prop :=
  wp_L_law_2889 ad X K J28 G t0 t1 t2 t3 t4 x5
theorem w_L_law_1717 {C : gCx} (hC : gOk C "GoblinHouseholdLaw" cL_law [] (some .boolean) "law" 40 22 3247) {K : Int32 → gS → Prop} {X : Nat → gS → Prop} (hK : ∀ r G, K r G → cxK C (some (vI r)) G) (hX : ∀ q G, X q G → cxX C q G) {J28 : gS → Option Nat → Nat → Nat → Nat → Nat → Int32 → Prop} (hJ28 : ∀ G z0 z1 z2 z3 z4 z5, J28 G z0 z1 z2 z3 z4 z5 → gGo C G 28 [(0, vQ z0), (1, vQ (some z1)), (2, vQ (some z2)), (3, vQ (some z3)), (4, vQ (some z4)), (5, vI z5)] []) {G : gS} {t0 : Nat} {t1 : Nat} {t2 : Nat} {t3 : Nat} {t4 : Nat} {x5 : Int32} (h : wp_L_law_1717 (cxA C) X K J28 G t0 t1 t2 t3 t4 x5) : gGo C G 1717 [(0, vQ (some t0)), (1, vQ (some t1)), (2, vQ (some t2)), (3, vQ (some t3)), (4, vQ (some t4)), (5, vI x5)] [] := by
  unfold wp_L_law_1717 at h
  refine g_goto hC (pc := 1717) 2889 (by decide) dL_law_1717 ?_
  exact g_sub [0, 1, 2, 3, 4, 5] rfl (w_L_law_2889 hC hK hX hJ28 h)
def wp_L_law_1773 (ad : Nat → Nat) (X : Nat → gS → Prop) (K : Int32 → gS → Prop) (J28 : gS → Option Nat → Nat → Nat → Nat → Nat → Int32 → Prop) (G : gS) (t0 : Nat) (t1 : Nat) (t2 : Nat) (t3 : Nat) (t4 : Nat) (x5 : Int32) : Prop :=
  wp_L_law_2889 ad X K J28 G t0 t1 t2 t3 t4 x5
theorem w_L_law_1773 {C : gCx} (hC : gOk C "GoblinHouseholdLaw" cL_law [] (some .boolean) "law" 40 22 3247) {K : Int32 → gS → Prop} {X : Nat → gS → Prop} (hK : ∀ r G, K r G → cxK C (some (vI r)) G) (hX : ∀ q G, X q G → cxX C q G) {J28 : gS → Option Nat → Nat → Nat → Nat → Nat → Int32 → Prop} (hJ28 : ∀ G z0 z1 z2 z3 z4 z5, J28 G z0 z1 z2 z3 z4 z5 → gGo C G 28 [(0, vQ z0), (1, vQ (some z1)), (2, vQ (some z2)), (3, vQ (some z3)), (4, vQ (some z4)), (5, vI z5)] []) {G : gS} {t0 : Nat} {t1 : Nat} {t2 : Nat} {t3 : Nat} {t4 : Nat} {x5 : Int32} (h : wp_L_law_1773 (cxA C) X K J28 G t0 t1 t2 t3 t4 x5) : gGo C G 1773 [(0, vQ (some t0)), (1, vQ (some t1)), (2, vQ (some t2)), (3, vQ (some t3)), (4, vQ (some t4)), (5, vI x5)] [] := by
  unfold wp_L_law_1773 at h
  refine g_goto hC (pc := 1773) 2889 (by decide) dL_law_1773 ?_
  exact g_sub [0, 1, 2, 3, 4, 5] rfl (w_L_law_2889 hC hK hX hJ28 h)
def wp_L_law_1842 (ad : Nat → Nat) (X : Nat → gS → Prop) (K : Int32 → gS → Prop) (J28 : gS → Option Nat → Nat → Nat → Nat → Nat → Int32 → Prop) (G : gS) (t0 : Nat) (t1 : Nat) (t2 : Nat) (t3 : Nat) (t4 : Nat) (x5 : Int32) : Prop :=
  wp_L_law_2889 ad X K J28 G t0 t1 t2 t3 t4 x5
theorem w_L_law_1842 {C : gCx} (hC : gOk C "GoblinHouseholdLaw" cL_law [] (some .boolean) "law" 40 22 3247) {K : Int32 → gS → Prop} {X : Nat → gS → Prop} (hK : ∀ r G, K r G → cxK C (some (vI r)) G) (hX : ∀ q G, X q G → cxX C q G) {J28 : gS → Option Nat → Nat → Nat → Nat → Nat → Int32 → Prop} (hJ28 : ∀ G z0 z1 z2 z3 z4 z5, J28 G z0 z1 z2 z3 z4 z5 → gGo C G 28 [(0, vQ z0), (1, vQ (some z1)), (2, vQ (some z2)), (3, vQ (some z3)), (4, vQ (some z4)), (5, vI z5)] []) {G : gS} {t0 : Nat} {t1 : Nat} {t2 : Nat} {t3 : Nat} {t4 : Nat} {x5 : Int32} (h : wp_L_law_1842 (cxA C) X K J28 G t0 t1 t2 t3 t4 x5) : gGo C G 1842 [(0, vQ (some t0)), (1, vQ (some t1)), (2, vQ (some t2)), (3, vQ (some t3)), (4, vQ (some t4)), (5, vI x5)] [] := by
  unfold wp_L_law_1842 at h
  refine g_goto hC (pc := 1842) 2889 (by decide) dL_law_1842 ?_
  exact g_sub [0, 1, 2, 3, 4, 5] rfl (w_L_law_2889 hC hK hX hJ28 h)
def wp_L_law_1898 (ad : Nat → Nat) (X : Nat → gS → Prop) (K : Int32 → gS → Prop) (J28 : gS → Option Nat → Nat → Nat → Nat → Nat → Int32 → Prop) (G : gS) (t0 : Nat) (t1 : Nat) (t2 : Nat) (t3 : Nat) (t4 : Nat) (x5 : Int32) : Prop :=
  wp_L_law_2889 ad X K J28 G t0 t1 t2 t3 t4 x5
theorem w_L_law_1898 {C : gCx} (hC : gOk C "GoblinHouseholdLaw" cL_law [] (some .boolean) "law" 40 22 3247) {K : Int32 → gS → Prop} {X : Nat → gS → Prop} (hK : ∀ r G, K r G → cxK C (some (vI r)) G) (hX : ∀ q G, X q G → cxX C q G) {J28 : gS → Option Nat → Nat → Nat → Nat → Nat → Int32 → Prop} (hJ28 : ∀ G z0 z1 z2 z3 z4 z5, J28 G z0 z1 z2 z3 z4 z5 → gGo C G 28 [(0, vQ z0), (1, vQ (some z1)), (2, vQ (some z2)), (3, vQ (some z3)), (4, vQ (some z4)), (5, vI z5)] []) {G : gS} {t0 : Nat} {t1 : Nat} {t2 : Nat} {t3 : Nat} {t4 : Nat} {x5 : Int32} (h : wp_L_law_1898 (cxA C) X K J28 G t0 t1 t2 t3 t4 x5) : gGo C G 1898 [(0, vQ (some t0)), (1, vQ (some t1)), (2, vQ (some t2)), (3, vQ (some t3)), (4, vQ (some t4)), (5, vI x5)] [] := by
  unfold wp_L_law_1898 at h
  refine g_goto hC (pc := 1898) 2889 (by decide) dL_law_1898 ?_
  exact g_sub [0, 1, 2, 3, 4, 5] rfl (w_L_law_2889 hC hK hX hJ28 h)
def wp_L_law_1954 (ad : Nat → Nat) (X : Nat → gS → Prop) (K : Int32 → gS → Prop) (J28 : gS → Option Nat → Nat → Nat → Nat → Nat → Int32 → Prop) (G : gS) (t0 : Nat) (t1 : Nat) (t2 : Nat) (t3 : Nat) (t4 : Nat) (x5 : Int32) : Prop :=
  wp_L_law_2889 ad X K J28 G t0 t1 t2 t3 t4 x5
theorem w_L_law_1954 {C : gCx} (hC : gOk C "GoblinHouseholdLaw" cL_law [] (some .boolean) "law" 40 22 3247) {K : Int32 → gS → Prop} {X : Nat → gS → Prop} (hK : ∀ r G, K r G → cxK C (some (vI r)) G) (hX : ∀ q G, X q G → cxX C q G) {J28 : gS → Option Nat → Nat → Nat → Nat → Nat → Int32 → Prop} (hJ28 : ∀ G z0 z1 z2 z3 z4 z5, J28 G z0 z1 z2 z3 z4 z5 → gGo C G 28 [(0, vQ z0), (1, vQ (some z1)), (2, vQ (some z2)), (3, vQ (some z3)), (4, vQ (some z4)), (5, vI z5)] []) {G : gS} {t0 : Nat} {t1 : Nat} {t2 : Nat} {t3 : Nat} {t4 : Nat} {x5 : Int32} (h : wp_L_law_1954 (cxA C) X K J28 G t0 t1 t2 t3 t4 x5) : gGo C G 1954 [(0, vQ (some t0)), (1, vQ (some t1)), (2, vQ (some t2)), (3, vQ (some t3)), (4, vQ (some t4)), (5, vI x5)] [] := by
  unfold wp_L_law_1954 at h
  refine g_goto hC (pc := 1954) 2889 (by decide) dL_law_1954 ?_
  exact g_sub [0, 1, 2, 3, 4, 5] rfl (w_L_law_2889 hC hK hX hJ28 h)
def wp_L_law_2010 (ad : Nat → Nat) (X : Nat → gS → Prop) (K : Int32 → gS → Prop) (J28 : gS → Option Nat → Nat → Nat → Nat → Nat → Int32 → Prop) (G : gS) (t0 : Nat) (t1 : Nat) (t2 : Nat) (t3 : Nat) (t4 : Nat) (x5 : Int32) : Prop :=
  wp_L_law_2889 ad X K J28 G t0 t1 t2 t3 t4 x5
theorem w_L_law_2010 {C : gCx} (hC : gOk C "GoblinHouseholdLaw" cL_law [] (some .boolean) "law" 40 22 3247) {K : Int32 → gS → Prop} {X : Nat → gS → Prop} (hK : ∀ r G, K r G → cxK C (some (vI r)) G) (hX : ∀ q G, X q G → cxX C q G) {J28 : gS → Option Nat → Nat → Nat → Nat → Nat → Int32 → Prop} (hJ28 : ∀ G z0 z1 z2 z3 z4 z5, J28 G z0 z1 z2 z3 z4 z5 → gGo C G 28 [(0, vQ z0), (1, vQ (some z1)), (2, vQ (some z2)), (3, vQ (some z3)), (4, vQ (some z4)), (5, vI z5)] []) {G : gS} {t0 : Nat} {t1 : Nat} {t2 : Nat} {t3 : Nat} {t4 : Nat} {x5 : Int32} (h : wp_L_law_2010 (cxA C) X K J28 G t0 t1 t2 t3 t4 x5) : gGo C G 2010 [(0, vQ (some t0)), (1, vQ (some t1)), (2, vQ (some t2)), (3, vQ (some t3)), (4, vQ (some t4)), (5, vI x5)] [] := by
  unfold wp_L_law_2010 at h
  refine g_goto hC (pc := 2010) 2889 (by decide) dL_law_2010 ?_
  exact g_sub [0, 1, 2, 3, 4, 5] rfl (w_L_law_2889 hC hK hX hJ28 h)
def wp_L_law_2066 (ad : Nat → Nat) (X : Nat → gS → Prop) (K : Int32 → gS → Prop) (J28 : gS → Option Nat → Nat → Nat → Nat → Nat → Int32 → Prop) (G : gS) (t0 : Nat) (t1 : Nat) (t2 : Nat) (t3 : Nat) (t4 : Nat) (x5 : Int32) : Prop :=
  wp_L_law_2889 ad X K J28 G t0 t1 t2 t3 t4 x5
theorem w_L_law_2066 {C : gCx} (hC : gOk C "GoblinHouseholdLaw" cL_law [] (some .boolean) "law" 40 22 3247) {K : Int32 → gS → Prop} {X : Nat → gS → Prop} (hK : ∀ r G, K r G → cxK C (some (vI r)) G) (hX : ∀ q G, X q G → cxX C q G) {J28 : gS → Option Nat → Nat → Nat → Nat → Nat → Int32 → Prop} (hJ28 : ∀ G z0 z1 z2 z3 z4 z5, J28 G z0 z1 z2 z3 z4 z5 → gGo C G 28 [(0, vQ z0), (1, vQ (some z1)), (2, vQ (some z2)), (3, vQ (some z3)), (4, vQ (some z4)), (5, vI z5)] []) {G : gS} {t0 : Nat} {t1 : Nat} {t2 : Nat} {t3 : Nat} {t4 : Nat} {x5 : Int32} (h : wp_L_law_2066 (cxA C) X K J28 G t0 t1 t2 t3 t4 x5) : gGo C G 2066 [(0, vQ (some t0)), (1, vQ (some t1)), (2, vQ (some t2)), (3, vQ (some t3)), (4, vQ (some t4)), (5, vI x5)] [] := by
  unfold wp_L_law_2066 at h
  refine g_goto hC (pc := 2066) 2889 (by decide) dL_law_2066 ?_
  exact g_sub [0, 1, 2, 3, 4, 5] rfl (w_L_law_2889 hC hK hX hJ28 h)
def wp_L_law_2122 (ad : Nat → Nat) (X : Nat → gS → Prop) (K : Int32 → gS → Prop) (J28 : gS → Option Nat → Nat → Nat → Nat → Nat → Int32 → Prop) (G : gS) (t0 : Nat) (t1 : Nat) (t2 : Nat) (t3 : Nat) (t4 : Nat) (x5 : Int32) : Prop :=
  wp_L_law_2889 ad X K J28 G t0 t1 t2 t3 t4 x5
theorem w_L_law_2122 {C : gCx} (hC : gOk C "GoblinHouseholdLaw" cL_law [] (some .boolean) "law" 40 22 3247) {K : Int32 → gS → Prop} {X : Nat → gS → Prop} (hK : ∀ r G, K r G → cxK C (some (vI r)) G) (hX : ∀ q G, X q G → cxX C q G) {J28 : gS → Option Nat → Nat → Nat → Nat → Nat → Int32 → Prop} (hJ28 : ∀ G z0 z1 z2 z3 z4 z5, J28 G z0 z1 z2 z3 z4 z5 → gGo C G 28 [(0, vQ z0), (1, vQ (some z1)), (2, vQ (some z2)), (3, vQ (some z3)), (4, vQ (some z4)), (5, vI z5)] []) {G : gS} {t0 : Nat} {t1 : Nat} {t2 : Nat} {t3 : Nat} {t4 : Nat} {x5 : Int32} (h : wp_L_law_2122 (cxA C) X K J28 G t0 t1 t2 t3 t4 x5) : gGo C G 2122 [(0, vQ (some t0)), (1, vQ (some t1)), (2, vQ (some t2)), (3, vQ (some t3)), (4, vQ (some t4)), (5, vI x5)] [] := by
  unfold wp_L_law_2122 at h
  refine g_goto hC (pc := 2122) 2889 (by decide) dL_law_2122 ?_
  exact g_sub [0, 1, 2, 3, 4, 5] rfl (w_L_law_2889 hC hK hX hJ28 h)
def wp_L_law_2178 (ad : Nat → Nat) (X : Nat → gS → Prop) (K : Int32 → gS → Prop) (J28 : gS → Option Nat → Nat → Nat → Nat → Nat → Int32 → Prop) (G : gS) (t0 : Nat) (t1 : Nat) (t2 : Nat) (t3 : Nat) (t4 : Nat) (x5 : Int32) : Prop :=
  wp_L_law_2889 ad X K J28 G t0 t1 t2 t3 t4 x5
theorem w_L_law_2178 {C : gCx} (hC : gOk C "GoblinHouseholdLaw" cL_law [] (some .boolean) "law" 40 22 3247) {K : Int32 → gS → Prop} {X : Nat → gS → Prop} (hK : ∀ r G, K r G → cxK C (some (vI r)) G) (hX : ∀ q G, X q G → cxX C q G) {J28 : gS → Option Nat → Nat → Nat → Nat → Nat → Int32 → Prop} (hJ28 : ∀ G z0 z1 z2 z3 z4 z5, J28 G z0 z1 z2 z3 z4 z5 → gGo C G 28 [(0, vQ z0), (1, vQ (some z1)), (2, vQ (some z2)), (3, vQ (some z3)), (4, vQ (some z4)), (5, vI z5)] []) {G : gS} {t0 : Nat} {t1 : Nat} {t2 : Nat} {t3 : Nat} {t4 : Nat} {x5 : Int32} (h : wp_L_law_2178 (cxA C) X K J28 G t0 t1 t2 t3 t4 x5) : gGo C G 2178 [(0, vQ (some t0)), (1, vQ (some t1)), (2, vQ (some t2)), (3, vQ (some t3)), (4, vQ (some t4)), (5, vI x5)] [] := by
  unfold wp_L_law_2178 at h
  refine g_goto hC (pc := 2178) 2889 (by decide) dL_law_2178 ?_
  exact g_sub [0, 1, 2, 3, 4, 5] rfl (w_L_law_2889 hC hK hX hJ28 h)
def wp_L_law_2246 (ad : Nat → Nat) (X : Nat → gS → Prop) (K : Int32 → gS → Prop) (J28 : gS → Option Nat → Nat → Nat → Nat → Nat → Int32 → Prop) (G : gS) (t0 : Nat) (t1 : Nat) (t2 : Nat) (t3 : Nat) (t4 : Nat) (x5 : Int32) : Prop :=
  wp_L_law_2889 ad X K J28 G t0 t1 t2 t3 t4 x5
theorem w_L_law_2246 {C : gCx} (hC : gOk C "GoblinHouseholdLaw" cL_law [] (some .boolean) "law" 40 22 3247) {K : Int32 → gS → Prop} {X : Nat → gS → Prop} (hK : ∀ r G, K r G → cxK C (some (vI r)) G) (hX : ∀ q G, X q G → cxX C q G) {J28 : gS → Option Nat → Nat → Nat → Nat → Nat → Int32 → Prop} (hJ28 : ∀ G z0 z1 z2 z3 z4 z5, J28 G z0 z1 z2 z3 z4 z5 → gGo C G 28 [(0, vQ z0), (1, vQ (some z1)), (2, vQ (some z2)), (3, vQ (some z3)), (4, vQ (some z4)), (5, vI z5)] []) {G : gS} {t0 : Nat} {t1 : Nat} {t2 : Nat} {t3 : Nat} {t4 : Nat} {x5 : Int32} (h : wp_L_law_2246 (cxA C) X K J28 G t0 t1 t2 t3 t4 x5) : gGo C G 2246 [(0, vQ (some t0)), (1, vQ (some t1)), (2, vQ (some t2)), (3, vQ (some t3)), (4, vQ (some t4)), (5, vI x5)] [] := by
  unfold wp_L_law_2246 at h
  refine g_goto hC (pc := 2246) 2889 (by decide) dL_law_2246 ?_
  exact g_sub [0, 1, 2, 3, 4, 5] rfl (w_L_law_2889 hC hK hX hJ28 h)
def wp_L_law_2391 (ad : Nat → Nat) (X : Nat → gS → Prop) (K : Int32 → gS → Prop) (J28 : gS → Option Nat → Nat → Nat → Nat → Nat → Int32 → Prop) (G : gS) (t0 : Nat) (t1 : Nat) (t2 : Nat) (t3 : Nat) (t4 : Nat) (x5 : Int32) : Prop :=
  wp_L_law_2889 ad X K J28 G t0 t1 t2 t3 t4 x5
theorem w_L_law_2391 {C : gCx} (hC : gOk C "GoblinHouseholdLaw" cL_law [] (some .boolean) "law" 40 22 3247) {K : Int32 → gS → Prop} {X : Nat → gS → Prop} (hK : ∀ r G, K r G → cxK C (some (vI r)) G) (hX : ∀ q G, X q G → cxX C q G) {J28 : gS → Option Nat → Nat → Nat → Nat → Nat → Int32 → Prop} (hJ28 : ∀ G z0 z1 z2 z3 z4 z5, J28 G z0 z1 z2 z3 z4 z5 → gGo C G 28 [(0, vQ z0), (1, vQ (some z1)), (2, vQ (some z2)), (3, vQ (some z3)), (4, vQ (some z4)), (5, vI z5)] []) {G : gS} {t0 : Nat} {t1 : Nat} {t2 : Nat} {t3 : Nat} {t4 : Nat} {x5 : Int32} (h : wp_L_law_2391 (cxA C) X K J28 G t0 t1 t2 t3 t4 x5) : gGo C G 2391 [(0, vQ (some t0)), (1, vQ (some t1)), (2, vQ (some t2)), (3, vQ (some t3)), (4, vQ (some t4)), (5, vI x5)] [] := by
  unfold wp_L_law_2391 at h
  refine g_goto hC (pc := 2391) 2889 (by decide) dL_law_2391 ?_
  exact g_sub [0, 1, 2, 3, 4, 5] rfl (w_L_law_2889 hC hK hX hJ28 h)
def wp_L_law_2457 (ad : Nat → Nat) (X : Nat → gS → Prop) (K : Int32 → gS → Prop) (J28 : gS → Option Nat → Nat → Nat → Nat → Nat → Int32 → Prop) (G : gS) (t0 : Nat) (t1 : Nat) (t2 : Nat) (t3 : Nat) (t4 : Nat) (x5 : Int32) : Prop :=
  wp_L_law_2889 ad X K J28 G t0 t1 t2 t3 t4 x5
theorem w_L_law_2457 {C : gCx} (hC : gOk C "GoblinHouseholdLaw" cL_law [] (some .boolean) "law" 40 22 3247) {K : Int32 → gS → Prop} {X : Nat → gS → Prop} (hK : ∀ r G, K r G → cxK C (some (vI r)) G) (hX : ∀ q G, X q G → cxX C q G) {J28 : gS → Option Nat → Nat → Nat → Nat → Nat → Int32 → Prop} (hJ28 : ∀ G z0 z1 z2 z3 z4 z5, J28 G z0 z1 z2 z3 z4 z5 → gGo C G 28 [(0, vQ z0), (1, vQ (some z1)), (2, vQ (some z2)), (3, vQ (some z3)), (4, vQ (some z4)), (5, vI z5)] []) {G : gS} {t0 : Nat} {t1 : Nat} {t2 : Nat} {t3 : Nat} {t4 : Nat} {x5 : Int32} (h : wp_L_law_2457 (cxA C) X K J28 G t0 t1 t2 t3 t4 x5) : gGo C G 2457 [(0, vQ (some t0)), (1, vQ (some t1)), (2, vQ (some t2)), (3, vQ (some t3)), (4, vQ (some t4)), (5, vI x5)] [] := by
  unfold wp_L_law_2457 at h
  refine g_goto hC (pc := 2457) 2889 (by decide) dL_law_2457 ?_
  exact g_sub [0, 1, 2, 3, 4, 5] rfl (w_L_law_2889 hC hK hX hJ28 h)
def wp_L_law_2526 (ad : Nat → Nat) (X : Nat → gS → Prop) (K : Int32 → gS → Prop) (J28 : gS → Option Nat → Nat → Nat → Nat → Nat → Int32 → Prop) (G : gS) (t0 : Nat) (t1 : Nat) (t2 : Nat) (t3 : Nat) (t4 : Nat) (x5 : Int32) : Prop :=
  wp_L_law_2889 ad X K J28 G t0 t1 t2 t3 t4 x5
theorem w_L_law_2526 {C : gCx} (hC : gOk C "GoblinHouseholdLaw" cL_law [] (some .boolean) "law" 40 22 3247) {K : Int32 → gS → Prop} {X : Nat → gS → Prop} (hK : ∀ r G, K r G → cxK C (some (vI r)) G) (hX : ∀ q G, X q G → cxX C q G) {J28 : gS → Option Nat → Nat → Nat → Nat → Nat → Int32 → Prop} (hJ28 : ∀ G z0 z1 z2 z3 z4 z5, J28 G z0 z1 z2 z3 z4 z5 → gGo C G 28 [(0, vQ z0), (1, vQ (some z1)), (2, vQ (some z2)), (3, vQ (some z3)), (4, vQ (some z4)), (5, vI z5)] []) {G : gS} {t0 : Nat} {t1 : Nat} {t2 : Nat} {t3 : Nat} {t4 : Nat} {x5 : Int32} (h : wp_L_law_2526 (cxA C) X K J28 G t0 t1 t2 t3 t4 x5) : gGo C G 2526 [(0, vQ (some t0)), (1, vQ (some t1)), (2, vQ (some t2)), (3, vQ (some t3)), (4, vQ (some t4)), (5, vI x5)] [] := by
  unfold wp_L_law_2526 at h
  refine g_goto hC (pc := 2526) 2889 (by decide) dL_law_2526 ?_
  exact g_sub [0, 1, 2, 3, 4, 5] rfl (w_L_law_2889 hC hK hX hJ28 h)
def wp_L_law_2595 (ad : Nat → Nat) (X : Nat → gS → Prop) (K : Int32 → gS → Prop) (J28 : gS → Option Nat → Nat → Nat → Nat → Nat → Int32 → Prop) (G : gS) (t0 : Nat) (t1 : Nat) (t2 : Nat) (t3 : Nat) (t4 : Nat) (x5 : Int32) : Prop :=
  wp_L_law_2889 ad X K J28 G t0 t1 t2 t3 t4 x5
theorem w_L_law_2595 {C : gCx} (hC : gOk C "GoblinHouseholdLaw" cL_law [] (some .boolean) "law" 40 22 3247) {K : Int32 → gS → Prop} {X : Nat → gS → Prop} (hK : ∀ r G, K r G → cxK C (some (vI r)) G) (hX : ∀ q G, X q G → cxX C q G) {J28 : gS → Option Nat → Nat → Nat → Nat → Nat → Int32 → Prop} (hJ28 : ∀ G z0 z1 z2 z3 z4 z5, J28 G z0 z1 z2 z3 z4 z5 → gGo C G 28 [(0, vQ z0), (1, vQ (some z1)), (2, vQ (some z2)), (3, vQ (some z3)), (4, vQ (some z4)), (5, vI z5)] []) {G : gS} {t0 : Nat} {t1 : Nat} {t2 : Nat} {t3 : Nat} {t4 : Nat} {x5 : Int32} (h : wp_L_law_2595 (cxA C) X K J28 G t0 t1 t2 t3 t4 x5) : gGo C G 2595 [(0, vQ (some t0)), (1, vQ (some t1)), (2, vQ (some t2)), (3, vQ (some t3)), (4, vQ (some t4)), (5, vI x5)] [] := by
  unfold wp_L_law_2595 at h
  refine g_goto hC (pc := 2595) 2889 (by decide) dL_law_2595 ?_
  exact g_sub [0, 1, 2, 3, 4, 5] rfl (w_L_law_2889 hC hK hX hJ28 h)
def wp_L_law_2653 (ad : Nat → Nat) (X : Nat → gS → Prop) (K : Int32 → gS → Prop) (J28 : gS → Option Nat → Nat → Nat → Nat → Nat → Int32 → Prop) (G : gS) (t0 : Nat) (t1 : Nat) (t2 : Nat) (t3 : Nat) (t4 : Nat) (x5 : Int32) : Prop :=
  wp_L_law_2889 ad X K J28 G t0 t1 t2 t3 t4 x5
theorem w_L_law_2653 {C : gCx} (hC : gOk C "GoblinHouseholdLaw" cL_law [] (some .boolean) "law" 40 22 3247) {K : Int32 → gS → Prop} {X : Nat → gS → Prop} (hK : ∀ r G, K r G → cxK C (some (vI r)) G) (hX : ∀ q G, X q G → cxX C q G) {J28 : gS → Option Nat → Nat → Nat → Nat → Nat → Int32 → Prop} (hJ28 : ∀ G z0 z1 z2 z3 z4 z5, J28 G z0 z1 z2 z3 z4 z5 → gGo C G 28 [(0, vQ z0), (1, vQ (some z1)), (2, vQ (some z2)), (3, vQ (some z3)), (4, vQ (some z4)), (5, vI z5)] []) {G : gS} {t0 : Nat} {t1 : Nat} {t2 : Nat} {t3 : Nat} {t4 : Nat} {x5 : Int32} (h : wp_L_law_2653 (cxA C) X K J28 G t0 t1 t2 t3 t4 x5) : gGo C G 2653 [(0, vQ (some t0)), (1, vQ (some t1)), (2, vQ (some t2)), (3, vQ (some t3)), (4, vQ (some t4)), (5, vI x5)] [] := by
  unfold wp_L_law_2653 at h
  refine g_goto hC (pc := 2653) 2889 (by decide) dL_law_2653 ?_
  exact g_sub [0, 1, 2, 3, 4, 5] rfl (w_L_law_2889 hC hK hX hJ28 h)
def wp_L_law_2697 (ad : Nat → Nat) (X : Nat → gS → Prop) (K : Int32 → gS → Prop) (J28 : gS → Option Nat → Nat → Nat → Nat → Nat → Int32 → Prop) (G : gS) (t0 : Nat) (t1 : Nat) (t2 : Nat) (t3 : Nat) (t4 : Nat) (x5 : Int32) : Prop :=
  wp_L_law_2889 ad X K J28 G t0 t1 t2 t3 t4 x5
theorem w_L_law_2697 {C : gCx} (hC : gOk C "GoblinHouseholdLaw" cL_law [] (some .boolean) "law" 40 22 3247) {K : Int32 → gS → Prop} {X : Nat → gS → Prop} (hK : ∀ r G, K r G → cxK C (some (vI r)) G) (hX : ∀ q G, X q G → cxX C q G) {J28 : gS → Option Nat → Nat → Nat → Nat → Nat → Int32 → Prop} (hJ28 : ∀ G z0 z1 z2 z3 z4 z5, J28 G z0 z1 z2 z3 z4 z5 → gGo C G 28 [(0, vQ z0), (1, vQ (some z1)), (2, vQ (some z2)), (3, vQ (some z3)), (4, vQ (some z4)), (5, vI z5)] []) {G : gS} {t0 : Nat} {t1 : Nat} {t2 : Nat} {t3 : Nat} {t4 : Nat} {x5 : Int32} (h : wp_L_law_2697 (cxA C) X K J28 G t0 t1 t2 t3 t4 x5) : gGo C G 2697 [(0, vQ (some t0)), (1, vQ (some t1)), (2, vQ (some t2)), (3, vQ (some t3)), (4, vQ (some t4)), (5, vI x5)] [] := by
  unfold wp_L_law_2697 at h
  refine g_goto hC (pc := 2697) 2889 (by decide) dL_law_2697 ?_
  exact g_sub [0, 1, 2, 3, 4, 5] rfl (w_L_law_2889 hC hK hX hJ28 h)
def wp_L_law_2741 (ad : Nat → Nat) (X : Nat → gS → Prop) (K : Int32 → gS → Prop) (J28 : gS → Option Nat → Nat → Nat → Nat → Nat → Int32 → Prop) (G : gS) (t0 : Nat) (t1 : Nat) (t2 : Nat) (t3 : Nat) (t4 : Nat) (x5 : Int32) : Prop :=
  wp_L_law_2889 ad X K J28 G t0 t1 t2 t3 t4 x5
theorem w_L_law_2741 {C : gCx} (hC : gOk C "GoblinHouseholdLaw" cL_law [] (some .boolean) "law" 40 22 3247) {K : Int32 → gS → Prop} {X : Nat → gS → Prop} (hK : ∀ r G, K r G → cxK C (some (vI r)) G) (hX : ∀ q G, X q G → cxX C q G) {J28 : gS → Option Nat → Nat → Nat → Nat → Nat → Int32 → Prop} (hJ28 : ∀ G z0 z1 z2 z3 z4 z5, J28 G z0 z1 z2 z3 z4 z5 → gGo C G 28 [(0, vQ z0), (1, vQ (some z1)), (2, vQ (some z2)), (3, vQ (some z3)), (4, vQ (some z4)), (5, vI z5)] []) {G : gS} {t0 : Nat} {t1 : Nat} {t2 : Nat} {t3 : Nat} {t4 : Nat} {x5 : Int32} (h : wp_L_law_2741 (cxA C) X K J28 G t0 t1 t2 t3 t4 x5) : gGo C G 2741 [(0, vQ (some t0)), (1, vQ (some t1)), (2, vQ (some t2)), (3, vQ (some t3)), (4, vQ (some t4)), (5, vI x5)] [] := by
  unfold wp_L_law_2741 at h
  refine g_goto hC (pc := 2741) 2889 (by decide) dL_law_2741 ?_
  exact g_sub [0, 1, 2, 3, 4, 5] rfl (w_L_law_2889 hC hK hX hJ28 h)
def wp_L_law_2785 (ad : Nat → Nat) (X : Nat → gS → Prop) (K : Int32 → gS → Prop) (J28 : gS → Option Nat → Nat → Nat → Nat → Nat → Int32 → Prop) (G : gS) (t0 : Nat) (t1 : Nat) (t2 : Nat) (t3 : Nat) (t4 : Nat) (x5 : Int32) : Prop :=
  wp_L_law_2889 ad X K J28 G t0 t1 t2 t3 t4 x5
theorem w_L_law_2785 {C : gCx} (hC : gOk C "GoblinHouseholdLaw" cL_law [] (some .boolean) "law" 40 22 3247) {K : Int32 → gS → Prop} {X : Nat → gS → Prop} (hK : ∀ r G, K r G → cxK C (some (vI r)) G) (hX : ∀ q G, X q G → cxX C q G) {J28 : gS → Option Nat → Nat → Nat → Nat → Nat → Int32 → Prop} (hJ28 : ∀ G z0 z1 z2 z3 z4 z5, J28 G z0 z1 z2 z3 z4 z5 → gGo C G 28 [(0, vQ z0), (1, vQ (some z1)), (2, vQ (some z2)), (3, vQ (some z3)), (4, vQ (some z4)), (5, vI z5)] []) {G : gS} {t0 : Nat} {t1 : Nat} {t2 : Nat} {t3 : Nat} {t4 : Nat} {x5 : Int32} (h : wp_L_law_2785 (cxA C) X K J28 G t0 t1 t2 t3 t4 x5) : gGo C G 2785 [(0, vQ (some t0)), (1, vQ (some t1)), (2, vQ (some t2)), (3, vQ (some t3)), (4, vQ (some t4)), (5, vI x5)] [] := by
  unfold wp_L_law_2785 at h
  refine g_goto hC (pc := 2785) 2889 (by decide) dL_law_2785 ?_
  exact g_sub [0, 1, 2, 3, 4, 5] rfl (w_L_law_2889 hC hK hX hJ28 h)
def wp_L_law_2829 (ad : Nat → Nat) (X : Nat → gS → Prop) (K : Int32 → gS → Prop) (J28 : gS → Option Nat → Nat → Nat → Nat → Nat → Int32 → Prop) (G : gS) (t0 : Nat) (t1 : Nat) (t2 : Nat) (t3 : Nat) (t4 : Nat) (x5 : Int32) : Prop :=
  wp_L_law_2889 ad X K J28 G t0 t1 t2 t3 t4 x5
theorem w_L_law_2829 {C : gCx} (hC : gOk C "GoblinHouseholdLaw" cL_law [] (some .boolean) "law" 40 22 3247) {K : Int32 → gS → Prop} {X : Nat → gS → Prop} (hK : ∀ r G, K r G → cxK C (some (vI r)) G) (hX : ∀ q G, X q G → cxX C q G) {J28 : gS → Option Nat → Nat → Nat → Nat → Nat → Int32 → Prop} (hJ28 : ∀ G z0 z1 z2 z3 z4 z5, J28 G z0 z1 z2 z3 z4 z5 → gGo C G 28 [(0, vQ z0), (1, vQ (some z1)), (2, vQ (some z2)), (3, vQ (some z3)), (4, vQ (some z4)), (5, vI z5)] []) {G : gS} {t0 : Nat} {t1 : Nat} {t2 : Nat} {t3 : Nat} {t4 : Nat} {x5 : Int32} (h : wp_L_law_2829 (cxA C) X K J28 G t0 t1 t2 t3 t4 x5) : gGo C G 2829 [(0, vQ (some t0)), (1, vQ (some t1)), (2, vQ (some t2)), (3, vQ (some t3)), (4, vQ (some t4)), (5, vI x5)] [] := by
  unfold wp_L_law_2829 at h
  refine g_goto hC (pc := 2829) 2889 (by decide) dL_law_2829 ?_
  exact g_sub [0, 1, 2, 3, 4, 5] rfl (w_L_law_2889 hC hK hX hJ28 h)
def wp_L_law_2886 (ad : Nat → Nat) (X : Nat → gS → Prop) (K : Int32 → gS → Prop) (J28 : gS → Option Nat → Nat → Nat → Nat → Nat → Int32 → Prop) (G : gS) (t0 : Nat) (t1 : Nat) (t2 : Nat) (t3 : Nat) (t4 : Nat) (x5 : Int32) : Prop :=
  wp_L_law_2889 ad X K J28 G t0 t1 t2 t3 t4 x5
theorem w_L_law_2886 {C : gCx} (hC : gOk C "GoblinHouseholdLaw" cL_law [] (some .boolean) "law" 40 22 3247) {K : Int32 → gS → Prop} {X : Nat → gS → Prop} (hK : ∀ r G, K r G → cxK C (some (vI r)) G) (hX : ∀ q G, X q G → cxX C q G) {J28 : gS → Option Nat → Nat → Nat → Nat → Nat → Int32 → Prop} (hJ28 : ∀ G z0 z1 z2 z3 z4 z5, J28 G z0 z1 z2 z3 z4 z5 → gGo C G 28 [(0, vQ z0), (1, vQ (some z1)), (2, vQ (some z2)), (3, vQ (some z3)), (4, vQ (some z4)), (5, vI z5)] []) {G : gS} {t0 : Nat} {t1 : Nat} {t2 : Nat} {t3 : Nat} {t4 : Nat} {x5 : Int32} (h : wp_L_law_2886 (cxA C) X K J28 G t0 t1 t2 t3 t4 x5) : gGo C G 2886 [(0, vQ (some t0)), (1, vQ (some t1)), (2, vQ (some t2)), (3, vQ (some t3)), (4, vQ (some t4)), (5, vI x5)] [] := by
  unfold wp_L_law_2886 at h
  refine g_goto hC (pc := 2886) 2889 (by decide) dL_law_2886 ?_
  exact g_sub [0, 1, 2, 3, 4, 5] rfl (w_L_law_2889 hC hK hX hJ28 h)
def wp_L_law_28 (ad : Nat → Nat) (X : Nat → gS → Prop) (K : Int32 → gS → Prop) (J28 : gS → Option Nat → Nat → Nat → Nat → Nat → Int32 → Prop) (G : gS) (o0 : Option Nat) (t1 : Nat) (t2 : Nat) (t3 : Nat) (t4 : Nat) (x5 : Int32) : Prop :=
  wNN o0 fun c1 => wLen G c1 fun i2 => ((i2 - (5 : Int32)) < x5 → K (1 : Int32) G) ∧ (¬ (i2 - (5 : Int32)) < x5 → wAldI G c1 x5 fun i3 => ((i3 &&& (63 : Int32)) = (0 : Int32) → wAldI G c1 (x5 + (1 : Int32)) fun i4 => wp_X0_addGoblin ad G (some t1) i4 (some t3) X (fun r6 G5 => wAldI G5 c1 (x5 + (1 : Int32)) fun i7 => (gIs G5 t2 0 ∧ wp_X3_addGoblin ad G5 t2 i7 X (fun r9 G8 => (gIs G8 t2 0 ∧ wp_X3_thrown ad G8 t2  X (fun r11 G10 => (r11 = r6 → (¬ r6 = (0 : Int32) → wp_L_law_341 ad X K J28 G10 c1 t1 t2 t3 t4 x5) ∧ (r6 = (0 : Int32) → wAldL G10 t3 (0 : Int32) fun i12 => ((lg_cmp i12 ((r9).toInt64)) = (0 : Int32) → wp_L_law_341 ad X K J28 G10 c1 t1 t2 t3 t4 x5) ∧ (¬ (lg_cmp i12 ((r9).toInt64)) = (0 : Int32) → K (0 : Int32) G10))) ∧ (¬ r11 = r6 → K (0 : Int32) G10))))))) ∧ ((i3 &&& (63 : Int32)) = (1 : Int32) → wAldI G c1 (x5 + (1 : Int32)) fun i13 => wp_X0_addBroom ad G (some t1) i13 (some t3) X (fun r15 G14 => wAldI G14 c1 (x5 + (1 : Int32)) fun i16 => (gIs G14 t2 0 ∧ wp_X3_addBroom ad G14 t2 i16 X (fun r18 G17 => (gIs G17 t2 0 ∧ wp_X3_thrown ad G17 t2  X (fun r20 G19 => (r20 = r15 → (¬ r15 = (0 : Int32) → wp_L_law_397 ad X K J28 G19 c1 t1 t2 t3 t4 x5) ∧ (r15 = (0 : Int32) → wAldL G19 t3 (0 : Int32) fun i21 => ((lg_cmp i21 ((r18).toInt64)) = (0 : Int32) → wp_L_law_397 ad X K J28 G19 c1 t1 t2 t3 t4 x5) ∧ (¬ (lg_cmp i21 ((r18).toInt64)) = (0 : Int32) → K (0 : Int32) G19))) ∧ (¬ r20 = r15 → K (0 : Int32) G19))))))) ∧ ((i3 &&& (63 : Int32)) = (2 : Int32) → wAldI G c1 (x5 + (1 : Int32)) fun i22 => wp_X0_banishBroom ad G (some t1) i22 (some t3) X (fun r24 G23 => wAldI G23 c1 (x5 + (1 : Int32)) fun i25 => (gIs G23 t2 0 ∧ wp_X3_banishBroom ad G23 t2 i25 X (fun r27 G26 => (gIs G26 t2 0 ∧ wp_X3_thrown ad G26 t2  X (fun r29 G28 => (r29 = r24 → (¬ r24 = (0 : Int32) → wp_L_law_453 ad X K J28 G28 c1 t1 t2 t3 t4 x5) ∧ (r24 = (0 : Int32) → wAldL G28 t3 (0 : Int32) fun i30 => ((lg_cmp i30 ((r27).toInt64)) = (0 : Int32) → wp_L_law_453 ad X K J28 G28 c1 t1 t2 t3 t4 x5) ∧ (¬ (lg_cmp i30 ((r27).toInt64)) = (0 : Int32) → K (0 : Int32) G28))) ∧ (¬ r29 = r24 → K (0 : Int32) G28))))))) ∧ ((i3 &&& (63 : Int32)) = (3 : Int32) → wAldI G c1 (x5 + (1 : Int32)) fun i31 => wp_X0_recallBroom ad G (some t1) i31 (some t3) X (fun r33 G32 => wAldI G32 c1 (x5 + (1 : Int32)) fun i34 => (gIs G32 t2 0 ∧ wp_X3_recallBroom ad G32 t2 i34 X (fun r36 G35 => (gIs G35 t2 0 ∧ wp_X3_thrown ad G35 t2  X (fun r38 G37 => (r38 = r33 → (¬ r33 = (0 : Int32) → wp_L_law_509 ad X K J28 G37 c1 t1 t2 t3 t4 x5) ∧ (r33 = (0 : Int32) → wAldL G37 t3 (0 : Int32) fun i39 => ((lg_cmp i39 ((r36).toInt64)) = (0 : Int32) → wp_L_law_509 ad X K J28 G37 c1 t1 t2 t3 t4 x5) ∧ (¬ (lg_cmp i39 ((r36).toInt64)) = (0 : Int32) → K (0 : Int32) G37))) ∧ (¬ r38 = r33 → K (0 : Int32) G37))))))) ∧ ((i3 &&& (63 : Int32)) = (4 : Int32) → wAldI G c1 (x5 + (1 : Int32)) fun i40 => wAldI G c1 (x5 + (2 : Int32)) fun i41 => wAldI G c1 (x5 + (3 : Int32)) fun i42 => wAldI G c1 (x5 + (4 : Int32)) fun i43 => wp_X0_hire ad G (some t1) i40 i41 i42 i43 (some t3) X (fun r45 G44 => wAldI G44 c1 (x5 + (1 : Int32)) fun i46 => wAldI G44 c1 (x5 + (2 : Int32)) fun i47 => wAldI G44 c1 (x5 + (3 : Int32)) fun i48 => wAldI G44 c1 (x5 + (4 : Int32)) fun i49 => (gIs G44 t2 0 ∧ wp_X3_hire ad G44 t2 i46 i47 i48 i49 X (fun r51 G50 => (gIs G50 t2 0 ∧ wp_X3_thrown ad G50 t2  X (fun r53 G52 => (r53 = r45 → (¬ r45 = (0 : Int32) → wp_L_law_601 ad X K J28 G52 c1 t1 t2 t3 t4 x5) ∧ (r45 = (0 : Int32) → wAldL G52 t3 (0 : Int32) fun i54 => ((lg_cmp i54 ((r51).toInt64)) = (0 : Int32) → wp_L_law_601 ad X K J28 G52 c1 t1 t2 t3 t4 x5) ∧ (¬ (lg_cmp i54 ((r51).toInt64)) = (0 : Int32) → K (0 : Int32) G52))) ∧ (¬ r53 = r45 → K (0 : Int32) G52))))))) ∧ ((i3 &&& (63 : Int32)) = (5 : Int32) → wAldI G c1 (x5 + (1 : Int32)) fun i55 => wp_X0_cancelContract ad G (some t1) i55 (some t3) X (fun r57 G56 => wAldI G56 c1 (x5 + (1 : Int32)) fun i58 => (gIs G56 t2 0 ∧ wp_X3_cancelContract ad G56 t2 i58 X (fun r60 G59 => (gIs G59 t2 0 ∧ wp_X3_thrown ad G59 t2  X (fun r62 G61 => (r62 = r57 → (¬ r57 = (0 : Int32) → wp_L_law_657 ad X K J28 G61 c1 t1 t2 t3 t4 x5) ∧ (r57 = (0 : Int32) → wAldL G61 t3 (0 : Int32) fun i63 => ((lg_cmp i63 ((r60).toInt64)) = (0 : Int32) → wp_L_law_657 ad X K J28 G61 c1 t1 t2 t3 t4 x5) ∧ (¬ (lg_cmp i63 ((r60).toInt64)) = (0 : Int32) → K (0 : Int32) G61))) ∧ (¬ r62 = r57 → K (0 : Int32) G61))))))) ∧ ((i3 &&& (63 : Int32)) = (6 : Int32) → wAldI G c1 (x5 + (1 : Int32)) fun i64 => wp_X0_rest ad G (some t1) i64 (some t3) X (fun r66 G65 => wAldI G65 c1 (x5 + (1 : Int32)) fun i67 => (gIs G65 t2 0 ∧ wp_X3_rest ad G65 t2 i67 X (fun r69 G68 => (gIs G68 t2 0 ∧ wp_X3_thrown ad G68 t2  X (fun r71 G70 => (r71 = r66 → (¬ r66 = (0 : Int32) → wp_L_law_713 ad X K J28 G70 c1 t1 t2 t3 t4 x5) ∧ (r66 = (0 : Int32) → wAldL G70 t3 (0 : Int32) fun i72 => ((lg_cmp i72 ((r69).toInt64)) = (0 : Int32) → wp_L_law_713 ad X K J28 G70 c1 t1 t2 t3 t4 x5) ∧ (¬ (lg_cmp i72 ((r69).toInt64)) = (0 : Int32) → K (0 : Int32) G70))) ∧ (¬ r71 = r66 → K (0 : Int32) G70))))))) ∧ ((i3 &&& (63 : Int32)) = (7 : Int32) → wAldI G c1 (x5 + (1 : Int32)) fun i73 => wp_X0_wake ad G (some t1) i73 (some t3) X (fun r75 G74 => wAldI G74 c1 (x5 + (1 : Int32)) fun i76 => (gIs G74 t2 0 ∧ wp_X3_wake ad G74 t2 i76 X (fun r78 G77 => (gIs G77 t2 0 ∧ wp_X3_thrown ad G77 t2  X (fun r80 G79 => (r80 = r75 → (¬ r75 = (0 : Int32) → wp_L_law_769 ad X K J28 G79 c1 t1 t2 t3 t4 x5) ∧ (r75 = (0 : Int32) → wAldL G79 t3 (0 : Int32) fun i81 => ((lg_cmp i81 ((r78).toInt64)) = (0 : Int32) → wp_L_law_769 ad X K J28 G79 c1 t1 t2 t3 t4 x5) ∧ (¬ (lg_cmp i81 ((r78).toInt64)) = (0 : Int32) → K (0 : Int32) G79))) ∧ (¬ r80 = r75 → K (0 : Int32) G79))))))) ∧ ((i3 &&& (63 : Int32)) = (8 : Int32) → wAldI G c1 (x5 + (1 : Int32)) fun i82 => wAldI G c1 (x5 + (2 : Int32)) fun i83 => wp_X0_lend ad G (some t1) i82 i83 (some t3) X (fun r85 G84 => wAldI G84 c1 (x5 + (1 : Int32)) fun i86 => wAldI G84 c1 (x5 + (2 : Int32)) fun i87 => (gIs G84 t2 0 ∧ wp_X3_lend ad G84 t2 i86 i87 X (fun r89 G88 => (gIs G88 t2 0 ∧ wp_X3_thrown ad G88 t2  X (fun r91 G90 => (r91 = r85 → (¬ r85 = (0 : Int32) → wp_L_law_837 ad X K J28 G90 c1 t1 t2 t3 t4 x5) ∧ (r85 = (0 : Int32) → wAldL G90 t3 (0 : Int32) fun i92 => ((lg_cmp i92 ((r89).toInt64)) = (0 : Int32) → wp_L_law_837 ad X K J28 G90 c1 t1 t2 t3 t4 x5) ∧ (¬ (lg_cmp i92 ((r89).toInt64)) = (0 : Int32) → K (0 : Int32) G90))) ∧ (¬ r91 = r85 → K (0 : Int32) G90))))))) ∧ ((i3 &&& (63 : Int32)) = (9 : Int32) → wAldI G c1 (x5 + (1 : Int32)) fun i93 => wp_X0_fund ad G (some t1) i93 (some t3) X (fun r95 G94 => wAldI G94 c1 (x5 + (1 : Int32)) fun i96 => (gIs G94 t2 0 ∧ wp_X3_fund ad G94 t2 i96 X (fun r98 G97 => (gIs G97 t2 0 ∧ wp_X3_thrown ad G97 t2  X (fun r100 G99 => (r100 = r95 → (¬ r95 = (0 : Int32) → wp_L_law_893 ad X K J28 G99 c1 t1 t2 t3 t4 x5) ∧ (r95 = (0 : Int32) → wAldL G99 t3 (0 : Int32) fun i101 => ((lg_cmp i101 ((r98).toInt64)) = (0 : Int32) → wp_L_law_893 ad X K J28 G99 c1 t1 t2 t3 t4 x5) ∧ (¬ (lg_cmp i101 ((r98).toInt64)) = (0 : Int32) → K (0 : Int32) G99))) ∧ (¬ r100 = r95 → K (0 : Int32) G99))))))) ∧ ((i3 &&& (63 : Int32)) = (10 : Int32) → wAldI G c1 (x5 + (1 : Int32)) fun i102 => wp_X0_spend ad G (some t1) i102 (some t3) X (fun r104 G103 => wAldI G103 c1 (x5 + (1 : Int32)) fun i105 => (gIs G103 t2 0 ∧ wp_X3_spend ad G103 t2 i105 X (fun r107 G106 => (gIs G106 t2 0 ∧ wp_X3_thrown ad G106 t2  X (fun r109 G108 => (r109 = r104 → (¬ r104 = (0 : Int32) → wp_L_law_949 ad X K J28 G108 c1 t1 t2 t3 t4 x5) ∧ (r104 = (0 : Int32) → wAldL G108 t3 (0 : Int32) fun i110 => ((lg_cmp i110 ((r107).toInt64)) = (0 : Int32) → wp_L_law_949 ad X K J28 G108 c1 t1 t2 t3 t4 x5) ∧ (¬ (lg_cmp i110 ((r107).toInt64)) = (0 : Int32) → K (0 : Int32) G108))) ∧ (¬ r109 = r104 → K (0 : Int32) G108))))))) ∧ ((i3 &&& (63 : Int32)) = (11 : Int32) → wAldI G c1 (x5 + (1 : Int32)) fun i111 => wp_X0_passNights ad G (some t1) i111 (some t3) X (fun r113 G112 => wAldI G112 c1 (x5 + (1 : Int32)) fun i114 => (gIs G112 t2 0 ∧ wp_X3_passNights ad G112 t2 i114 X (fun r116 G115 => (gIs G115 t2 0 ∧ wp_X3_thrown ad G115 t2  X (fun r118 G117 => (r118 = r113 → (¬ r113 = (0 : Int32) → wp_L_law_1005 ad X K J28 G117 c1 t1 t2 t3 t4 x5) ∧ (r113 = (0 : Int32) → wAldL G117 t3 (0 : Int32) fun i119 => ((lg_cmp i119 ((r116).toInt64)) = (0 : Int32) → wp_L_law_1005 ad X K J28 G117 c1 t1 t2 t3 t4 x5) ∧ (¬ (lg_cmp i119 ((r116).toInt64)) = (0 : Int32) → K (0 : Int32) G117))) ∧ (¬ r118 = r113 → K (0 : Int32) G117))))))) ∧ ((i3 &&& (63 : Int32)) = (12 : Int32) → wAldI G c1 (x5 + (1 : Int32)) fun i120 => wp_X0_dust ad G (some t1) i120 (some t3) X (fun r122 G121 => wAldI G121 c1 (x5 + (1 : Int32)) fun i123 => (gIs G121 t2 0 ∧ wp_X3_dust ad G121 t2 i123 X (fun r125 G124 => (gIs G124 t2 0 ∧ wp_X3_thrown ad G124 t2  X (fun r127 G126 => (r127 = r122 → (¬ r122 = (0 : Int32) → wp_L_law_1061 ad X K J28 G126 c1 t1 t2 t3 t4 x5) ∧ (r122 = (0 : Int32) → wAldL G126 t3 (0 : Int32) fun i128 => ((lg_cmp i128 ((r125).toInt64)) = (0 : Int32) → wp_L_law_1061 ad X K J28 G126 c1 t1 t2 t3 t4 x5) ∧ (¬ (lg_cmp i128 ((r125).toInt64)) = (0 : Int32) → K (0 : Int32) G126))) ∧ (¬ r127 = r122 → K (0 : Int32) G126))))))) ∧ ((i3 &&& (63 : Int32)) = (13 : Int32) → wAldI G c1 (x5 + (1 : Int32)) fun i129 => wp_X0_roomByDust ad G (some t1) i129 (some t3) X (fun r131 G130 => wAldI G130 c1 (x5 + (1 : Int32)) fun i132 => (gIs G130 t2 0 ∧ wp_X3_roomByDust ad G130 t2 i132 X (fun r134 G133 => (gIs G133 t2 0 ∧ wp_X3_thrown ad G133 t2  X (fun r136 G135 => (r136 = r131 → (¬ r131 = (0 : Int32) → wp_L_law_1117 ad X K J28 G135 c1 t1 t2 t3 t4 x5) ∧ (r131 = (0 : Int32) → wAldL G135 t3 (0 : Int32) fun i137 => ((lg_cmp i137 ((r134).toInt64)) = (0 : Int32) → wp_L_law_1117 ad X K J28 G135 c1 t1 t2 t3 t4 x5) ∧ (¬ (lg_cmp i137 ((r134).toInt64)) = (0 : Int32) → K (0 : Int32) G135))) ∧ (¬ r136 = r131 → K (0 : Int32) G135))))))) ∧ ((i3 &&& (63 : Int32)) = (14 : Int32) → (gIs G t1 1 ∧ wp_X1_broomCount ad G t1  X (fun r139 G138 => (gIs G138 t2 0 ∧ wp_X3_broomCount ad G138 t2  X (fun r141 G140 => (r139 = r141 → wp_L_law_2889 ad X K J28 G140 c1 t1 t2 t3 t4 x5) ∧ (¬ r139 = r141 → K (0 : Int32) G140)))))) ∧ ((i3 &&& (63 : Int32)) = (15 : Int32) → wAldI G c1 (x5 + (1 : Int32)) fun i142 => wp_X0_power ad G (some t1) i142 (some t3) X (fun r144 G143 => wAldI G143 c1 (x5 + (1 : Int32)) fun i145 => (gIs G143 t2 0 ∧ wp_X3_power ad G143 t2 i145 X (fun r147 G146 => (gIs G146 t2 0 ∧ wp_X3_thrown ad G146 t2  X (fun r149 G148 => (r149 = r144 → (¬ r144 = (0 : Int32) → wp_L_law_1186 ad X K J28 G148 c1 t1 t2 t3 t4 x5) ∧ (r144 = (0 : Int32) → wAldL G148 t3 (0 : Int32) fun i150 => ((lg_cmp i150 ((r147).toInt64)) = (0 : Int32) → wp_L_law_1186 ad X K J28 G148 c1 t1 t2 t3 t4 x5) ∧ (¬ (lg_cmp i150 ((r147).toInt64)) = (0 : Int32) → K (0 : Int32) G148))) ∧ (¬ r149 = r144 → K (0 : Int32) G148))))))) ∧ ((i3 &&& (63 : Int32)) = (16 : Int32) → wAldI G c1 (x5 + (1 : Int32)) fun i151 => wp_X0_isBanished ad G (some t1) i151 (some t3) X (fun r153 G152 => wAldI G152 c1 (x5 + (1 : Int32)) fun i154 => (gIs G152 t2 0 ∧ wp_X3_isBanished ad G152 t2 i154 X (fun r156 G155 => (gIs G155 t2 0 ∧ wp_X3_thrown ad G155 t2  X (fun r158 G157 => (r158 = r153 → (¬ r153 = (0 : Int32) → wp_L_law_1249 ad X K J28 G157 c1 t1 t2 t3 t4 x5) ∧ (r153 = (0 : Int32) → wAldL G157 t3 (0 : Int32) fun i159 => (r156 = (0 : Int32) → wp_L_law_1243 ad X K J28 G157 c1 t1 t2 t3 t4 x5 (0 : Int64) i159) ∧ (¬ r156 = (0 : Int32) → wp_L_law_1243 ad X K J28 G157 c1 t1 t2 t3 t4 x5 (1 : Int64) i159))) ∧ (¬ r158 = r153 → K (0 : Int32) G157))))))) ∧ ((i3 &&& (63 : Int32)) = (17 : Int32) → (gIs G t1 1 ∧ wp_X1_goblinCount ad G t1  X (fun r161 G160 => (gIs G160 t2 0 ∧ wp_X3_goblinCount ad G160 t2  X (fun r163 G162 => (r161 = r163 → wp_L_law_2889 ad X K J28 G162 c1 t1 t2 t3 t4 x5) ∧ (¬ r161 = r163 → K (0 : Int32) G162)))))) ∧ ((i3 &&& (63 : Int32)) = (18 : Int32) → wAldI G c1 (x5 + (1 : Int32)) fun i164 => wp_X0_strength ad G (some t1) i164 (some t3) X (fun r166 G165 => wAldI G165 c1 (x5 + (1 : Int32)) fun i167 => (gIs G165 t2 0 ∧ wp_X3_strength ad G165 t2 i167 X (fun r169 G168 => (gIs G168 t2 0 ∧ wp_X3_thrown ad G168 t2  X (fun r171 G170 => (r171 = r166 → (¬ r166 = (0 : Int32) → wp_L_law_1318 ad X K J28 G170 c1 t1 t2 t3 t4 x5) ∧ (r166 = (0 : Int32) → wAldL G170 t3 (0 : Int32) fun i172 => ((lg_cmp i172 ((r169).toInt64)) = (0 : Int32) → wp_L_law_1318 ad X K J28 G170 c1 t1 t2 t3 t4 x5) ∧ (¬ (lg_cmp i172 ((r169).toInt64)) = (0 : Int32) → K (0 : Int32) G170))) ∧ (¬ r171 = r166 → K (0 : Int32) G170))))))) ∧ ((i3 &&& (63 : Int32)) = (19 : Int32) → wAldI G c1 (x5 + (1 : Int32)) fun i173 => wp_X0_purse ad G (some t1) i173 (some t3) X (fun r175 G174 => wAldI G174 c1 (x5 + (1 : Int32)) fun i176 => (gIs G174 t2 0 ∧ wp_X3_purse ad G174 t2 i176 X (fun r178 G177 => (gIs G177 t2 0 ∧ wp_X3_thrown ad G177 t2  X (fun r180 G179 => (r180 = r175 → (¬ r175 = (0 : Int32) → wp_L_law_1374 ad X K J28 G179 c1 t1 t2 t3 t4 x5) ∧ (r175 = (0 : Int32) → wAldL G179 t3 (0 : Int32) fun i181 => ((lg_cmp i181 ((r178).toInt64)) = (0 : Int32) → wp_L_law_1374 ad X K J28 G179 c1 t1 t2 t3 t4 x5) ∧ (¬ (lg_cmp i181 ((r178).toInt64)) = (0 : Int32) → K (0 : Int32) G179))) ∧ (¬ r180 = r175 → K (0 : Int32) G179))))))) ∧ ((i3 &&& (63 : Int32)) = (20 : Int32) → wAldI G c1 (x5 + (1 : Int32)) fun i182 => wp_X0_debt ad G (some t1) i182 (some t3) X (fun r184 G183 => wAldI G183 c1 (x5 + (1 : Int32)) fun i185 => (gIs G183 t2 0 ∧ wp_X3_debt ad G183 t2 i185 X (fun r187 G186 => (gIs G186 t2 0 ∧ wp_X3_thrown ad G186 t2  X (fun r189 G188 => (r189 = r184 → (¬ r184 = (0 : Int32) → wp_L_law_1430 ad X K J28 G188 c1 t1 t2 t3 t4 x5) ∧ (r184 = (0 : Int32) → wAldL G188 t3 (0 : Int32) fun i190 => ((lg_cmp i190 ((r187).toInt64)) = (0 : Int32) → wp_L_law_1430 ad X K J28 G188 c1 t1 t2 t3 t4 x5) ∧ (¬ (lg_cmp i190 ((r187).toInt64)) = (0 : Int32) → K (0 : Int32) G188))) ∧ (¬ r189 = r184 → K (0 : Int32) G188))))))) ∧ ((i3 &&& (63 : Int32)) = (21 : Int32) → wAldI G c1 (x5 + (1 : Int32)) fun i191 => wp_X0_skippedNights ad G (some t1) i191 (some t3) X (fun r193 G192 => wAldI G192 c1 (x5 + (1 : Int32)) fun i194 => (gIs G192 t2 0 ∧ wp_X3_skippedNights ad G192 t2 i194 X (fun r196 G195 => (gIs G195 t2 0 ∧ wp_X3_thrown ad G195 t2  X (fun r198 G197 => (r198 = r193 → (¬ r193 = (0 : Int32) → wp_L_law_1486 ad X K J28 G197 c1 t1 t2 t3 t4 x5) ∧ (r193 = (0 : Int32) → wAldL G197 t3 (0 : Int32) fun i199 => ((lg_cmp i199 ((r196).toInt64)) = (0 : Int32) → wp_L_law_1486 ad X K J28 G197 c1 t1 t2 t3 t4 x5) ∧ (¬ (lg_cmp i199 ((r196).toInt64)) = (0 : Int32) → K (0 : Int32) G197))) ∧ (¬ r198 = r193 → K (0 : Int32) G197))))))) ∧ ((i3 &&& (63 : Int32)) = (22 : Int32) → wAldI G c1 (x5 + (1 : Int32)) fun i200 => wp_X0_isResting ad G (some t1) i200 (some t3) X (fun r202 G201 => wAldI G201 c1 (x5 + (1 : Int32)) fun i203 => (gIs G201 t2 0 ∧ wp_X3_isResting ad G201 t2 i203 X (fun r205 G204 => (gIs G204 t2 0 ∧ wp_X3_thrown ad G204 t2  X (fun r207 G206 => (r207 = r202 → (¬ r202 = (0 : Int32) → wp_L_law_1549 ad X K J28 G206 c1 t1 t2 t3 t4 x5) ∧ (r202 = (0 : Int32) → wAldL G206 t3 (0 : Int32) fun i208 => (r205 = (0 : Int32) → wp_L_law_1543 ad X K J28 G206 c1 t1 t2 t3 t4 x5 (0 : Int64) i208) ∧ (¬ r205 = (0 : Int32) → wp_L_law_1543 ad X K J28 G206 c1 t1 t2 t3 t4 x5 (1 : Int64) i208))) ∧ (¬ r207 = r202 → K (0 : Int32) G206))))))) ∧ ((i3 &&& (63 : Int32)) = (23 : Int32) → wAldI G c1 (x5 + (1 : Int32)) fun i209 => wp_X0_energy ad G (some t1) i209 (some t3) X (fun r211 G210 => wAldI G210 c1 (x5 + (1 : Int32)) fun i212 => (gIs G210 t2 0 ∧ wp_X3_energy ad G210 t2 i212 X (fun r214 G213 => (gIs G213 t2 0 ∧ wp_X3_thrown ad G213 t2  X (fun r216 G215 => (r216 = r211 → (¬ r211 = (0 : Int32) → wp_L_law_1605 ad X K J28 G215 c1 t1 t2 t3 t4 x5) ∧ (r211 = (0 : Int32) → wAldL G215 t3 (0 : Int32) fun i217 => ((lg_cmp i217 ((r214).toInt64)) = (0 : Int32) → wp_L_law_1605 ad X K J28 G215 c1 t1 t2 t3 t4 x5) ∧ (¬ (lg_cmp i217 ((r214).toInt64)) = (0 : Int32) → K (0 : Int32) G215))) ∧ (¬ r216 = r211 → K (0 : Int32) G215))))))) ∧ ((i3 &&& (63 : Int32)) = (24 : Int32) → wAldI G c1 (x5 + (1 : Int32)) fun i218 => wp_X0_goblinByWealth ad G (some t1) i218 (some t3) X (fun r220 G219 => wAldI G219 c1 (x5 + (1 : Int32)) fun i221 => (gIs G219 t2 0 ∧ wp_X3_goblinByWealth ad G219 t2 i221 X (fun r223 G222 => (gIs G222 t2 0 ∧ wp_X3_thrown ad G222 t2  X (fun r225 G224 => (r225 = r220 → (¬ r220 = (0 : Int32) → wp_L_law_1661 ad X K J28 G224 c1 t1 t2 t3 t4 x5) ∧ (r220 = (0 : Int32) → wAldL G224 t3 (0 : Int32) fun i226 => ((lg_cmp i226 ((r223).toInt64)) = (0 : Int32) → wp_L_law_1661 ad X K J28 G224 c1 t1 t2 t3 t4 x5) ∧ (¬ (lg_cmp i226 ((r223).toInt64)) = (0 : Int32) → K (0 : Int32) G224))) ∧ (¬ r225 = r220 → K (0 : Int32) G224))))))) ∧ ((i3 &&& (63 : Int32)) = (25 : Int32) → wAldI G c1 (x5 + (1 : Int32)) fun i227 => wp_X0_bestWages ad G (some t1) i227 (some t3) X (fun r229 G228 => wAldI G228 c1 (x5 + (1 : Int32)) fun i230 => (gIs G228 t2 0 ∧ wp_X3_bestWages ad G228 t2 i230 X (fun r232 G231 => (gIs G231 t2 0 ∧ wp_X3_thrown ad G231 t2  X (fun r234 G233 => (r234 = r229 → (¬ r229 = (0 : Int32) → wp_L_law_1717 ad X K J28 G233 c1 t1 t2 t3 t4 x5) ∧ (r229 = (0 : Int32) → wAldL G233 t3 (0 : Int32) fun i235 => ((lg_cmp i235 ((r232).toInt64)) = (0 : Int32) → wp_L_law_1717 ad X K J28 G233 c1 t1 t2 t3 t4 x5) ∧ (¬ (lg_cmp i235 ((r232).toInt64)) = (0 : Int32) → K (0 : Int32) G233))) ∧ (¬ r234 = r229 → K (0 : Int32) G233))))))) ∧ ((i3 &&& (63 : Int32)) = (26 : Int32) → wAldI G c1 (x5 + (1 : Int32)) fun i236 => wp_X0_bestWagesByTable ad G (some t1) i236 (some t3) X (fun r238 G237 => wAldI G237 c1 (x5 + (1 : Int32)) fun i239 => (gIs G237 t2 0 ∧ wp_X3_bestWagesByTable ad G237 t2 i239 X (fun r241 G240 => (gIs G240 t2 0 ∧ wp_X3_thrown ad G240 t2  X (fun r243 G242 => (r243 = r238 → (¬ r238 = (0 : Int32) → wp_L_law_1773 ad X K J28 G242 c1 t1 t2 t3 t4 x5) ∧ (r238 = (0 : Int32) → wAldL G242 t3 (0 : Int32) fun i244 => ((lg_cmp i244 ((r241).toInt64)) = (0 : Int32) → wp_L_law_1773 ad X K J28 G242 c1 t1 t2 t3 t4 x5) ∧ (¬ (lg_cmp i244 ((r241).toInt64)) = (0 : Int32) → K (0 : Int32) G242))) ∧ (¬ r243 = r238 → K (0 : Int32) G242))))))) ∧ ((i3 &&& (63 : Int32)) = (27 : Int32) → (gIs G t1 1 ∧ wp_X1_openContracts ad G t1  X (fun r246 G245 => (gIs G245 t2 0 ∧ wp_X3_openContracts ad G245 t2  X (fun r248 G247 => (r246 = r248 → wp_L_law_2889 ad X K J28 G247 c1 t1 t2 t3 t4 x5) ∧ (¬ r246 = r248 → K (0 : Int32) G247)))))) ∧ ((i3 &&& (63 : Int32)) = (28 : Int32) → wAldI G c1 (x5 + (1 : Int32)) fun i249 => wp_X0_contractAt ad G (some t1) i249 (some t3) X (fun r251 G250 => wAldI G250 c1 (x5 + (1 : Int32)) fun i252 => (gIs G250 t2 0 ∧ wp_X3_contractAt ad G250 t2 i252 X (fun r254 G253 => (gIs G253 t2 0 ∧ wp_X3_thrown ad G253 t2  X (fun r256 G255 => (r256 = r251 → (¬ r251 = (0 : Int32) → wp_L_law_1842 ad X K J28 G255 c1 t1 t2 t3 t4 x5) ∧ (r251 = (0 : Int32) → wAldL G255 t3 (0 : Int32) fun i257 => ((lg_cmp i257 ((r254).toInt64)) = (0 : Int32) → wp_L_law_1842 ad X K J28 G255 c1 t1 t2 t3 t4 x5) ∧ (¬ (lg_cmp i257 ((r254).toInt64)) = (0 : Int32) → K (0 : Int32) G255))) ∧ (¬ r256 = r251 → K (0 : Int32) G255))))))) ∧ ((i3 &&& (63 : Int32)) = (29 : Int32) → wAldI G c1 (x5 + (1 : Int32)) fun i258 => wp_X0_goblinOf ad G (some t1) i258 (some t3) X (fun r260 G259 => wAldI G259 c1 (x5 + (1 : Int32)) fun i261 => (gIs G259 t2 0 ∧ wp_X3_goblinOf ad G259 t2 i261 X (fun r263 G262 => (gIs G262 t2 0 ∧ wp_X3_thrown ad G262 t2  X (fun r265 G264 => (r265 = r260 → (¬ r260 = (0 : Int32) → wp_L_law_1898 ad X K J28 G264 c1 t1 t2 t3 t4 x5) ∧ (r260 = (0 : Int32) → wAldL G264 t3 (0 : Int32) fun i266 => ((lg_cmp i266 ((r263).toInt64)) = (0 : Int32) → wp_L_law_1898 ad X K J28 G264 c1 t1 t2 t3 t4 x5) ∧ (¬ (lg_cmp i266 ((r263).toInt64)) = (0 : Int32) → K (0 : Int32) G264))) ∧ (¬ r265 = r260 → K (0 : Int32) G264))))))) ∧ ((i3 &&& (63 : Int32)) = (30 : Int32) → wAldI G c1 (x5 + (1 : Int32)) fun i267 => wp_X0_roomOf ad G (some t1) i267 (some t3) X (fun r269 G268 => wAldI G268 c1 (x5 + (1 : Int32)) fun i270 => (gIs G268 t2 0 ∧ wp_X3_roomOf ad G268 t2 i270 X (fun r272 G271 => (gIs G271 t2 0 ∧ wp_X3_thrown ad G271 t2  X (fun r274 G273 => (r274 = r269 → (¬ r269 = (0 : Int32) → wp_L_law_1954 ad X K J28 G273 c1 t1 t2 t3 t4 x5) ∧ (r269 = (0 : Int32) → wAldL G273 t3 (0 : Int32) fun i275 => ((lg_cmp i275 ((r272).toInt64)) = (0 : Int32) → wp_L_law_1954 ad X K J28 G273 c1 t1 t2 t3 t4 x5) ∧ (¬ (lg_cmp i275 ((r272).toInt64)) = (0 : Int32) → K (0 : Int32) G273))) ∧ (¬ r274 = r269 → K (0 : Int32) G273))))))) ∧ ((i3 &&& (63 : Int32)) = (31 : Int32) → wAldI G c1 (x5 + (1 : Int32)) fun i276 => wp_X0_wage ad G (some t1) i276 (some t3) X (fun r278 G277 => wAldI G277 c1 (x5 + (1 : Int32)) fun i279 => (gIs G277 t2 0 ∧ wp_X3_wage ad G277 t2 i279 X (fun r281 G280 => (gIs G280 t2 0 ∧ wp_X3_thrown ad G280 t2  X (fun r283 G282 => (r283 = r278 → (¬ r278 = (0 : Int32) → wp_L_law_2010 ad X K J28 G282 c1 t1 t2 t3 t4 x5) ∧ (r278 = (0 : Int32) → wAldL G282 t3 (0 : Int32) fun i284 => ((lg_cmp i284 ((r281).toInt64)) = (0 : Int32) → wp_L_law_2010 ad X K J28 G282 c1 t1 t2 t3 t4 x5) ∧ (¬ (lg_cmp i284 ((r281).toInt64)) = (0 : Int32) → K (0 : Int32) G282))) ∧ (¬ r283 = r278 → K (0 : Int32) G282))))))) ∧ ((i3 &&& (63 : Int32)) = (32 : Int32) → wAldI G c1 (x5 + (1 : Int32)) fun i285 => wp_X0_effort ad G (some t1) i285 (some t3) X (fun r287 G286 => wAldI G286 c1 (x5 + (1 : Int32)) fun i288 => (gIs G286 t2 0 ∧ wp_X3_effort ad G286 t2 i288 X (fun r290 G289 => (gIs G289 t2 0 ∧ wp_X3_thrown ad G289 t2  X (fun r292 G291 => (r292 = r287 → (¬ r287 = (0 : Int32) → wp_L_law_2066 ad X K J28 G291 c1 t1 t2 t3 t4 x5) ∧ (r287 = (0 : Int32) → wAldL G291 t3 (0 : Int32) fun i293 => ((lg_cmp i293 ((r290).toInt64)) = (0 : Int32) → wp_L_law_2066 ad X K J28 G291 c1 t1 t2 t3 t4 x5) ∧ (¬ (lg_cmp i293 ((r290).toInt64)) = (0 : Int32) → K (0 : Int32) G291))) ∧ (¬ r292 = r287 → K (0 : Int32) G291))))))) ∧ ((i3 &&& (63 : Int32)) = (33 : Int32) → wAldI G c1 (x5 + (1 : Int32)) fun i294 => wp_X0_nightsUntilDone ad G (some t1) i294 (some t3) X (fun r296 G295 => wAldI G295 c1 (x5 + (1 : Int32)) fun i297 => (gIs G295 t2 0 ∧ wp_X3_nightsUntilDone ad G295 t2 i297 X (fun r299 G298 => (gIs G298 t2 0 ∧ wp_X3_thrown ad G298 t2  X (fun r301 G300 => (r301 = r296 → (¬ r296 = (0 : Int32) → wp_L_law_2122 ad X K J28 G300 c1 t1 t2 t3 t4 x5) ∧ (r296 = (0 : Int32) → wAldL G300 t3 (0 : Int32) fun i302 => ((lg_cmp i302 ((r299).toInt64)) = (0 : Int32) → wp_L_law_2122 ad X K J28 G300 c1 t1 t2 t3 t4 x5) ∧ (¬ (lg_cmp i302 ((r299).toInt64)) = (0 : Int32) → K (0 : Int32) G300))) ∧ (¬ r301 = r296 → K (0 : Int32) G300))))))) ∧ ((i3 &&& (63 : Int32)) = (34 : Int32) → wAldI G c1 (x5 + (1 : Int32)) fun i303 => wp_X0_chestAfter ad G (some t1) i303 (some t3) X (fun r305 G304 => wAldI G304 c1 (x5 + (1 : Int32)) fun i306 => (gIs G304 t2 0 ∧ wp_X3_chestAfter ad G304 t2 i306 X (fun r308 G307 => (gIs G307 t2 0 ∧ wp_X3_thrown ad G307 t2  X (fun r310 G309 => (r310 = r305 → (¬ r305 = (0 : Int32) → wp_L_law_2178 ad X K J28 G309 c1 t1 t2 t3 t4 x5) ∧ (r305 = (0 : Int32) → wAldL G309 t3 (0 : Int32) fun i311 => ((lg_cmp i311 ((r308).toInt64)) = (0 : Int32) → wp_L_law_2178 ad X K J28 G309 c1 t1 t2 t3 t4 x5) ∧ (¬ (lg_cmp i311 ((r308).toInt64)) = (0 : Int32) → K (0 : Int32) G309))) ∧ (¬ r310 = r305 → K (0 : Int32) G309))))))) ∧ ((i3 &&& (63 : Int32)) = (35 : Int32) → wAldI G c1 (x5 + (1 : Int32)) fun i312 => wAldI G c1 (x5 + (2 : Int32)) fun i313 => wp_X0_debtAfter ad G (some t1) i312 i313 (some t3) X (fun r315 G314 => wAldI G314 c1 (x5 + (1 : Int32)) fun i316 => wAldI G314 c1 (x5 + (2 : Int32)) fun i317 => (gIs G314 t2 0 ∧ wp_X3_debtAfter ad G314 t2 i316 i317 X (fun r319 G318 => (gIs G318 t2 0 ∧ wp_X3_thrown ad G318 t2  X (fun r321 G320 => (r321 = r315 → (¬ r315 = (0 : Int32) → wp_L_law_2246 ad X K J28 G320 c1 t1 t2 t3 t4 x5) ∧ (r315 = (0 : Int32) → wAldL G320 t3 (0 : Int32) fun i322 => ((lg_cmp i322 ((r319).toInt64)) = (0 : Int32) → wp_L_law_2246 ad X K J28 G320 c1 t1 t2 t3 t4 x5) ∧ (¬ (lg_cmp i322 ((r319).toInt64)) = (0 : Int32) → K (0 : Int32) G320))) ∧ (¬ r321 = r315 → K (0 : Int32) G320))))))) ∧ ((i3 &&& (63 : Int32)) = (36 : Int32) → (gIs G t1 1 ∧ wp_X1_night ad G t1  X (fun r324 G323 => (gIs G323 t2 0 ∧ wp_X3_night ad G323 t2  X (fun r326 G325 => (r324 = r326 → wp_L_law_2889 ad X K J28 G325 c1 t1 t2 t3 t4 x5) ∧ (¬ r324 = r326 → K (0 : Int32) G325)))))) ∧ ((i3 &&& (63 : Int32)) = (37 : Int32) → (gIs G t1 1 ∧ wp_X1_chest ad G t1  X (fun r328 G327 => (gIs G327 t2 0 ∧ wp_X3_chest ad G327 t2  X (fun r330 G329 => (r328 = r330 → wp_L_law_2889 ad X K J28 G329 c1 t1 t2 t3 t4 x5) ∧ (¬ r328 = r330 → K (0 : Int32) G329)))))) ∧ ((i3 &&& (63 : Int32)) = (38 : Int32) → (gIs G t1 1 ∧ wp_X1_allCrumbs ad G t1  X (fun r332 G331 => (gIs G331 t2 0 ∧ wp_X3_allCrumbs ad G331 t2  X (fun r334 G333 => (r332 = r334 → wp_L_law_2889 ad X K J28 G333 c1 t1 t2 t3 t4 x5) ∧ (¬ r332 = r334 → K (0 : Int32) G333)))))) ∧ ((i3 &&& (63 : Int32)) = (39 : Int32) → (gIs G t1 1 ∧ wp_X1_allCrumbsByAccounts ad G t1  X (fun r336 G335 => (gIs G335 t2 0 ∧ wp_X3_allCrumbsByAccounts ad G335 t2  X (fun r338 G337 => (r336 = r338 → wp_L_law_2889 ad X K J28 G337 c1 t1 t2 t3 t4 x5) ∧ (¬ r336 = r338 → K (0 : Int32) G337)))))) ∧ ((i3 &&& (63 : Int32)) = (40 : Int32) → (gIs G t1 1 ∧ wp_X1_doneTotal ad G t1  X (fun r340 G339 => (gIs G339 t2 0 ∧ wp_X3_doneTotal ad G339 t2  X (fun r342 G341 => (r340 = r342 → wp_L_law_2889 ad X K J28 G341 c1 t1 t2 t3 t4 x5) ∧ (¬ r340 = r342 → K (0 : Int32) G341)))))) ∧ ((i3 &&& (63 : Int32)) = (41 : Int32) → (gIs G t1 1 ∧ wp_X1_brokenTotal ad G t1  X (fun r344 G343 => (gIs G343 t2 0 ∧ wp_X3_brokenTotal ad G343 t2  X (fun r346 G345 => (r344 = r346 → wp_L_law_2889 ad X K J28 G345 c1 t1 t2 t3 t4 x5) ∧ (¬ r344 = r346 → K (0 : Int32) G345)))))) ∧ ((i3 &&& (63 : Int32)) = (42 : Int32) → (gIs G t1 1 ∧ wp_X1_unpaidTotal ad G t1  X (fun r348 G347 => (gIs G347 t2 0 ∧ wp_X3_unpaidTotal ad G347 t2  X (fun r350 G349 => (r348 = r350 → wp_L_law_2889 ad X K J28 G349 c1 t1 t2 t3 t4 x5) ∧ (¬ r348 = r350 → K (0 : Int32) G349)))))) ∧ ((i3 &&& (63 : Int32)) = (43 : Int32) → (gIs G t1 1 ∧ wp_X1_interestTotal ad G t1  X (fun r352 G351 => (gIs G351 t2 0 ∧ wp_X3_interestTotal ad G351 t2  X (fun r354 G353 => (r352 = r354 → wp_L_law_2889 ad X K J28 G353 c1 t1 t2 t3 t4 x5) ∧ (¬ r352 = r354 → K (0 : Int32) G353)))))) ∧ ((i3 &&& (63 : Int32)) = (44 : Int32) → (gIs G t1 1 ∧ wp_X1_meanDust ad G t1  X (fun r356 G355 => (gIs G355 t2 0 ∧ wp_X3_meanDust ad G355 t2  X (fun r358 G357 => ((Op.cmpValue (FP.dcmp r356 r358) .l) = (0 : Int32) → wp_L_law_2391 ad X K J28 G357 c1 t1 t2 t3 t4 x5) ∧ (¬ (Op.cmpValue (FP.dcmp r356 r358) .l) = (0 : Int32) → ((Op.cmpValue (FP.dcmp r356 r356) .l) = (0 : Int32) → K (0 : Int32) G357) ∧ (¬ (Op.cmpValue (FP.dcmp r356 r356) .l) = (0 : Int32) → (¬ (Op.cmpValue (FP.dcmp r358 r358) .l) = (0 : Int32) → wp_L_law_2391 ad X K J28 G357 c1 t1 t2 t3 t4 x5) ∧ ((Op.cmpValue (FP.dcmp r358 r358) .l) = (0 : Int32) → K (0 : Int32) G357)))))))) ∧ ((i3 &&& (63 : Int32)) = (45 : Int32) → wp_X0_reliability ad G (some t1) (some t4) X (fun r360 G359 => (gIs G359 t2 0 ∧ wp_X3_reliability ad G359 t2  X (fun r362 G361 => (gIs G361 t2 0 ∧ wp_X3_thrown ad G361 t2  X (fun r364 G363 => (r364 = r360 → (¬ r360 = (0 : Int32) → wp_L_law_2457 ad X K J28 G363 c1 t1 t2 t3 t4 x5) ∧ (r360 = (0 : Int32) → wAldD G363 t4 (0 : Int32) fun i365 => vf_n64 (FP.f2d r362) ∧ (((Op.cmpValue (FP.dcmp i365 (FP.f2d r362)) .l) = (0 : Int32) → wp_L_law_2457 ad X K J28 G363 c1 t1 t2 t3 t4 x5) ∧ (¬ (Op.cmpValue (FP.dcmp i365 (FP.f2d r362)) .l) = (0 : Int32) → wAldD G363 t4 (0 : Int32) fun i366 => wAldD G363 t4 (0 : Int32) fun i367 => ((Op.cmpValue (FP.dcmp i366 i367) .l) = (0 : Int32) → K (0 : Int32) G363) ∧ (¬ (Op.cmpValue (FP.dcmp i366 i367) .l) = (0 : Int32) → (¬ (Op.cmpValue (FP.fcmp r362 r362) .l) = (0 : Int32) → wp_L_law_2457 ad X K J28 G363 c1 t1 t2 t3 t4 x5) ∧ ((Op.cmpValue (FP.fcmp r362 r362) .l) = (0 : Int32) → K (0 : Int32) G363)))))) ∧ (¬ r364 = r360 → K (0 : Int32) G363))))))) ∧ ((i3 &&& (63 : Int32)) = (46 : Int32) → (gIs G t1 1 ∧ wp_X1_isConsistent ad G t1  X (fun r369 G368 => (gIs G368 t2 0 ∧ wp_X3_isConsistent ad G368 t2  X (fun r371 G370 => (r369 = r371 → wp_L_law_2889 ad X K J28 G370 c1 t1 t2 t3 t4 x5) ∧ (¬ r369 = r371 → K (0 : Int32) G370)))))) ∧ ((i3 &&& (63 : Int32)) = (47 : Int32) → wAldI G c1 (x5 + (1 : Int32)) fun i372 => wp_X0_renderGoblin ad G (some t1) i372 (some t3) X (fun r374 G373 => wAldI G373 c1 (x5 + (1 : Int32)) fun i375 => (gIs G373 t2 0 ∧ wp_X3_renderGoblin ad G373 t2 i375 X (fun r377 G376 => (gIs G376 t2 0 ∧ wp_X3_thrown ad G376 t2  X (fun r379 G378 => (r379 = r374 → (¬ r374 = (0 : Int32) → wp_L_law_2526 ad X K J28 G378 c1 t1 t2 t3 t4 x5) ∧ (r374 = (0 : Int32) → wAldL G378 t3 (0 : Int32) fun i380 => ((lg_cmp i380 ((r377).toInt64)) = (0 : Int32) → wp_L_law_2526 ad X K J28 G378 c1 t1 t2 t3 t4 x5) ∧ (¬ (lg_cmp i380 ((r377).toInt64)) = (0 : Int32) → K (0 : Int32) G378))) ∧ (¬ r379 = r374 → K (0 : Int32) G378))))))) ∧ ((i3 &&& (63 : Int32)) = (48 : Int32) → (gIs G t1 1 ∧ wp_X1_renderContracts ad G t1  X (fun r382 G381 => (gIs G381 t2 0 ∧ wp_X3_renderContracts ad G381 t2  X (fun r384 G383 => (r382 = r384 → wp_L_law_2889 ad X K J28 G383 c1 t1 t2 t3 t4 x5) ∧ (¬ r382 = r384 → K (0 : Int32) G383)))))) ∧ ((i3 &&& (63 : Int32)) = (49 : Int32) → wAldI G c1 (x5 + (1 : Int32)) fun i385 => wp_X0_outputAt ad G (some t1) i385 (some t3) X (fun r387 G386 => wAldI G386 c1 (x5 + (1 : Int32)) fun i388 => (gIs G386 t2 0 ∧ wp_X3_outputAt ad G386 t2 i388 X (fun r390 G389 => (gIs G389 t2 0 ∧ wp_X3_thrown ad G389 t2  X (fun r392 G391 => (r392 = r387 → (¬ r387 = (0 : Int32) → wp_L_law_2595 ad X K J28 G391 c1 t1 t2 t3 t4 x5) ∧ (r387 = (0 : Int32) → wAldL G391 t3 (0 : Int32) fun i393 => ((lg_cmp i393 ((r390).toInt64)) = (0 : Int32) → wp_L_law_2595 ad X K J28 G391 c1 t1 t2 t3 t4 x5) ∧ (¬ (lg_cmp i393 ((r390).toInt64)) = (0 : Int32) → K (0 : Int32) G391))) ∧ (¬ r392 = r387 → K (0 : Int32) G391))))))) ∧ ((i3 &&& (63 : Int32)) = (50 : Int32) → wAldI G c1 (x5 + (1 : Int32)) fun i394 => wp_X0_type ad G (some t1) (((i394).toUInt32 % 65536).toInt32) (some t3) X (fun r396 G395 => wAldI G395 c1 (x5 + (1 : Int32)) fun i397 => (gIs G395 t2 0 ∧ wp_X3_type ad G395 t2 (((i397).toUInt32 % 65536).toInt32) X (fun r399 G398 => (gIs G398 t2 0 ∧ wp_X3_thrown ad G398 t2  X (fun r401 G400 => (r401 = r396 → (¬ r396 = (0 : Int32) → wp_L_law_2653 ad X K J28 G400 c1 t1 t2 t3 t4 x5) ∧ (r396 = (0 : Int32) → wAldL G400 t3 (0 : Int32) fun i402 => ((lg_cmp i402 ((r399).toInt64)) = (0 : Int32) → wp_L_law_2653 ad X K J28 G400 c1 t1 t2 t3 t4 x5) ∧ (¬ (lg_cmp i402 ((r399).toInt64)) = (0 : Int32) → K (0 : Int32) G400))) ∧ (¬ r401 = r396 → K (0 : Int32) G400))))))) ∧ ((i3 &&& (63 : Int32)) = (51 : Int32) → wp_X0_runScript ad G (some t1) (some t3) X (fun r404 G403 => (gIs G403 t2 0 ∧ wp_X3_runScript ad G403 t2  X (fun r406 G405 => (gIs G405 t2 0 ∧ wp_X3_thrown ad G405 t2  X (fun r408 G407 => (r408 = r404 → (¬ r404 = (0 : Int32) → wp_L_law_2697 ad X K J28 G407 c1 t1 t2 t3 t4 x5) ∧ (r404 = (0 : Int32) → wAldL G407 t3 (0 : Int32) fun i409 => ((lg_cmp i409 ((r406).toInt64)) = (0 : Int32) → wp_L_law_2697 ad X K J28 G407 c1 t1 t2 t3 t4 x5) ∧ (¬ (lg_cmp i409 ((r406).toInt64)) = (0 : Int32) → K (0 : Int32) G407))) ∧ (¬ r408 = r404 → K (0 : Int32) G407))))))) ∧ ((i3 &&& (63 : Int32)) = (52 : Int32) → wp_X0_errorPosition ad G (some t1) (some t3) X (fun r411 G410 => (gIs G410 t2 0 ∧ wp_X3_errorPosition ad G410 t2  X (fun r413 G412 => (gIs G412 t2 0 ∧ wp_X3_thrown ad G412 t2  X (fun r415 G414 => (r415 = r411 → (¬ r411 = (0 : Int32) → wp_L_law_2741 ad X K J28 G414 c1 t1 t2 t3 t4 x5) ∧ (r411 = (0 : Int32) → wAldL G414 t3 (0 : Int32) fun i416 => ((lg_cmp i416 ((r413).toInt64)) = (0 : Int32) → wp_L_law_2741 ad X K J28 G414 c1 t1 t2 t3 t4 x5) ∧ (¬ (lg_cmp i416 ((r413).toInt64)) = (0 : Int32) → K (0 : Int32) G414))) ∧ (¬ r415 = r411 → K (0 : Int32) G414))))))) ∧ ((i3 &&& (63 : Int32)) = (53 : Int32) → wp_X0_failedCommand ad G (some t1) (some t3) X (fun r418 G417 => (gIs G417 t2 0 ∧ wp_X3_failedCommand ad G417 t2  X (fun r420 G419 => (gIs G419 t2 0 ∧ wp_X3_thrown ad G419 t2  X (fun r422 G421 => (r422 = r418 → (¬ r418 = (0 : Int32) → wp_L_law_2785 ad X K J28 G421 c1 t1 t2 t3 t4 x5) ∧ (r418 = (0 : Int32) → wAldL G421 t3 (0 : Int32) fun i423 => ((lg_cmp i423 ((r420).toInt64)) = (0 : Int32) → wp_L_law_2785 ad X K J28 G421 c1 t1 t2 t3 t4 x5) ∧ (¬ (lg_cmp i423 ((r420).toInt64)) = (0 : Int32) → K (0 : Int32) G421))) ∧ (¬ r422 = r418 → K (0 : Int32) G421))))))) ∧ ((i3 &&& (63 : Int32)) = (54 : Int32) → wp_X0_undo ad G (some t1) (some t3) X (fun r425 G424 => (gIs G424 t2 0 ∧ wp_X3_undo ad G424 t2  X (fun r427 G426 => (gIs G426 t2 0 ∧ wp_X3_thrown ad G426 t2  X (fun r429 G428 => (r429 = r425 → (¬ r425 = (0 : Int32) → wp_L_law_2829 ad X K J28 G428 c1 t1 t2 t3 t4 x5) ∧ (r425 = (0 : Int32) → wAldL G428 t3 (0 : Int32) fun i430 => ((lg_cmp i430 ((r427).toInt64)) = (0 : Int32) → wp_L_law_2829 ad X K J28 G428 c1 t1 t2 t3 t4 x5) ∧ (¬ (lg_cmp i430 ((r427).toInt64)) = (0 : Int32) → K (0 : Int32) G428))) ∧ (¬ r429 = r425 → K (0 : Int32) G428))))))) ∧ ((i3 &&& (63 : Int32)) = (55 : Int32) → (gIs G t1 1 ∧ wp_X1_save ad G t1  X (fun r432 G431 => (gIs G431 t2 0 ∧ wp_X3_save ad G431 t2  X (fun r434 G433 => (r432 = r434 → wp_L_law_2889 ad X K J28 G433 c1 t1 t2 t3 t4 x5) ∧ (¬ r432 = r434 → K (0 : Int32) G433)))))) ∧ ((i3 &&& (63 : Int32)) = (56 : Int32) → wp_X0_restore ad G (some t1) (some t3) X (fun r436 G435 => (gIs G435 t2 0 ∧ wp_X3_restore ad G435 t2  X (fun r438 G437 => (gIs G437 t2 0 ∧ wp_X3_thrown ad G437 t2  X (fun r440 G439 => (r440 = r436 → (¬ r436 = (0 : Int32) → wp_L_law_2886 ad X K J28 G439 c1 t1 t2 t3 t4 x5) ∧ (r436 = (0 : Int32) → wAldL G439 t3 (0 : Int32) fun i441 => ((lg_cmp i441 ((r438).toInt64)) = (0 : Int32) → wp_L_law_2886 ad X K J28 G439 c1 t1 t2 t3 t4 x5) ∧ (¬ (lg_cmp i441 ((r438).toInt64)) = (0 : Int32) → K (0 : Int32) G439))) ∧ (¬ r440 = r436 → K (0 : Int32) G439))))))) ∧ (¬ (i3 &&& (63 : Int32)) = (0 : Int32) → ¬ (i3 &&& (63 : Int32)) = (1 : Int32) → ¬ (i3 &&& (63 : Int32)) = (2 : Int32) → ¬ (i3 &&& (63 : Int32)) = (3 : Int32) → ¬ (i3 &&& (63 : Int32)) = (4 : Int32) → ¬ (i3 &&& (63 : Int32)) = (5 : Int32) → ¬ (i3 &&& (63 : Int32)) = (6 : Int32) → ¬ (i3 &&& (63 : Int32)) = (7 : Int32) → ¬ (i3 &&& (63 : Int32)) = (8 : Int32) → ¬ (i3 &&& (63 : Int32)) = (9 : Int32) → ¬ (i3 &&& (63 : Int32)) = (10 : Int32) → ¬ (i3 &&& (63 : Int32)) = (11 : Int32) → ¬ (i3 &&& (63 : Int32)) = (12 : Int32) → ¬ (i3 &&& (63 : Int32)) = (13 : Int32) → ¬ (i3 &&& (63 : Int32)) = (14 : Int32) → ¬ (i3 &&& (63 : Int32)) = (15 : Int32) → ¬ (i3 &&& (63 : Int32)) = (16 : Int32) → ¬ (i3 &&& (63 : Int32)) = (17 : Int32) → ¬ (i3 &&& (63 : Int32)) = (18 : Int32) → ¬ (i3 &&& (63 : Int32)) = (19 : Int32) → ¬ (i3 &&& (63 : Int32)) = (20 : Int32) → ¬ (i3 &&& (63 : Int32)) = (21 : Int32) → ¬ (i3 &&& (63 : Int32)) = (22 : Int32) → ¬ (i3 &&& (63 : Int32)) = (23 : Int32) → ¬ (i3 &&& (63 : Int32)) = (24 : Int32) → ¬ (i3 &&& (63 : Int32)) = (25 : Int32) → ¬ (i3 &&& (63 : Int32)) = (26 : Int32) → ¬ (i3 &&& (63 : Int32)) = (27 : Int32) → ¬ (i3 &&& (63 : Int32)) = (28 : Int32) → ¬ (i3 &&& (63 : Int32)) = (29 : Int32) → ¬ (i3 &&& (63 : Int32)) = (30 : Int32) → ¬ (i3 &&& (63 : Int32)) = (31 : Int32) → ¬ (i3 &&& (63 : Int32)) = (32 : Int32) → ¬ (i3 &&& (63 : Int32)) = (33 : Int32) → ¬ (i3 &&& (63 : Int32)) = (34 : Int32) → ¬ (i3 &&& (63 : Int32)) = (35 : Int32) → ¬ (i3 &&& (63 : Int32)) = (36 : Int32) → ¬ (i3 &&& (63 : Int32)) = (37 : Int32) → ¬ (i3 &&& (63 : Int32)) = (38 : Int32) → ¬ (i3 &&& (63 : Int32)) = (39 : Int32) → ¬ (i3 &&& (63 : Int32)) = (40 : Int32) → ¬ (i3 &&& (63 : Int32)) = (41 : Int32) → ¬ (i3 &&& (63 : Int32)) = (42 : Int32) → ¬ (i3 &&& (63 : Int32)) = (43 : Int32) → ¬ (i3 &&& (63 : Int32)) = (44 : Int32) → ¬ (i3 &&& (63 : Int32)) = (45 : Int32) → ¬ (i3 &&& (63 : Int32)) = (46 : Int32) → ¬ (i3 &&& (63 : Int32)) = (47 : Int32) → ¬ (i3 &&& (63 : Int32)) = (48 : Int32) → ¬ (i3 &&& (63 : Int32)) = (49 : Int32) → ¬ (i3 &&& (63 : Int32)) = (50 : Int32) → ¬ (i3 &&& (63 : Int32)) = (51 : Int32) → ¬ (i3 &&& (63 : Int32)) = (52 : Int32) → ¬ (i3 &&& (63 : Int32)) = (53 : Int32) → ¬ (i3 &&& (63 : Int32)) = (54 : Int32) → ¬ (i3 &&& (63 : Int32)) = (55 : Int32) → ¬ (i3 &&& (63 : Int32)) = (56 : Int32) → wp_L_law_2889 ad X K J28 G c1 t1 t2 t3 t4 x5))
theorem w_L_law_28 {C : gCx} (hC : gOk C "GoblinHouseholdLaw" cL_law [] (some .boolean) "law" 40 22 3247) {K : Int32 → gS → Prop} {X : Nat → gS → Prop} (hK : ∀ r G, K r G → cxK C (some (vI r)) G) (hX : ∀ q G, X q G → cxX C q G) (n : Nat) : ∀ (G : gS) (o0 : Option Nat) (t1 : Nat) (t2 : Nat) (t3 : Nat) (t4 : Nat) (x5 : Int32), gLoop (fun _ _ _ _ _ _ _ => False) (wp_L_law_28 (cxA C) X K) n G o0 t1 t2 t3 t4 x5 → gGo C G 28 [(0, vQ o0), (1, vQ (some t1)), (2, vQ (some t2)), (3, vQ (some t3)), (4, vQ (some t4)), (5, vI x5)] [] := by
  induction n with
  | zero => intro G o0 t1 t2 t3 t4 x5 h; exact h.elim
  | succ n ih =>
    intro G o0 t1 t2 t3 t4 x5 h
    have hJ28 := ih
    replace h : wp_L_law_28 (cxA C) X K _ G o0 t1 t2 t3 t4 x5 := h
    unfold wp_L_law_28 at h
    refine g_iload hC (pc := 28) 5 rfl dL_law_28 ?_
    refine g_aload_n hC (pc := 30) 0 rfl rfl dL_law_30 ?_
    rcases o0 with _ | c1
    · exact (gNN0 h).elim
    replace h := gNN1 h
    refine g_len hC (pc := 31) h dL_law_31 (fun i2 h => ?_)
    refine g_iconst hC (pc := 32) (v := (5 : Int32)) (by decide) dL_law_32 ?_
    refine g_isub hC (pc := 33) dL_law_33 ?_
    refine g_icmp_gt hC (pc := 34) 2895 h (by decide) dL_law_34 (fun h => ?_) (fun h => ?_)
    · refine g_iconst hC (pc := 2895) (v := (1 : Int32)) (by decide) dL_law_2895 ?_
      exact g_zret hC (pc := 2896) rfl (hK _ _ h) dL_law_2896
    · refine g_aload_n hC (pc := 37) 0 rfl rfl dL_law_37 ?_
      refine g_iload hC (pc := 38) 5 rfl dL_law_38 ?_
      refine g_aldI hC (pc := 40) h dL_law_40 (fun i3 h => ?_)
      refine g_bipush hC (pc := 41) (v := (63 : Int32)) (by decide) dL_law_41 ?_
      refine g_iand hC (pc := 43) dL_law_43 ?_
      by_cases e0 : (i3 &&& (63 : Int32)) = (0 : Int32)
      · refine g_tableIn hC (pc := 44) 288 (by rw [e0]; decide) (by rw [e0]; decide) (by rw [e0]; rfl) (by decide) dL_law_44 ?_
        replace h := h.1 e0
        refine g_aload_n hC (pc := 288) 1 rfl rfl dL_law_288 ?_
        refine g_aload_n hC (pc := 289) 0 rfl rfl dL_law_289 ?_
        refine g_iload hC (pc := 290) 5 rfl dL_law_290 ?_
        refine g_iconst hC (pc := 292) (v := (1 : Int32)) (by decide) dL_law_292 ?_
        refine g_iadd hC (pc := 293) dL_law_293 ?_
        refine g_aldI hC (pc := 294) h dL_law_294 (fun i4 h => ?_)
        refine g_aload_n hC (pc := 295) 3 rfl rfl dL_law_295 ?_
        refine g_callSW hC (pc := 296) (b := 0) (As := [vQ (some t1), vI i4, vQ (some t3)]) gc_X0_addGoblin (m_X0_addGoblin hC.fl h) q868 q869 (gle rfl) (gle rfl) rfl (gle rfl) rfl dL_law_296 (gk_i fun r6 G5 h => ?_) (fun _ _ h hio => g_out0 hC (hX _ _ h) hio)
        refine g_istore hC (pc := 299) (lv' := [(6, vI r6), (0, vQ (some c1)), (1, vQ (some t1)), (2, vQ (some t2)), (3, vQ (some t3)), (4, vQ (some t4)), (5, vI x5)]) (by decide) rfl dL_law_299 ?_
        refine g_aload_n hC (pc := 301) 3 rfl rfl dL_law_301 ?_
        refine g_aload_n hC (pc := 302) 1 rfl rfl dL_law_302 ?_
        refine g_iload hC (pc := 303) 6 rfl dL_law_303 ?_
        refine g_iconst hC (pc := 305) (v := (1 : Int32)) (by decide) dL_law_305 ?_
        refine g_iadd hC (pc := 306) dL_law_306 ?_
        refine g_aldI hC (pc := 307) h dL_law_307 (fun i7 h => ?_)
        obtain ⟨hi, h⟩ := h
        refine g_callV hC (pc := 308) (ci := 0) (As := [vI i7]) gc_X3_addGoblin (m_X3_addGoblin hC.fl h) rfl hi q2565 q2566 q2567 (gle rfl) (gle rfl) rfl (gle rfl) rfl dL_law_308 (gk_i fun r9 G8 h => ?_) (fun _ _ h hio => g_out0 hC (hX _ _ h) hio)
        refine g_istore hC (pc := 311) (lv' := [(7, vI r9), (6, vI r6), (0, vQ (some c1)), (1, vQ (some t1)), (2, vQ (some t2)), (3, vQ (some t3)), (4, vQ (some t4)), (5, vI x5)]) (by decide) rfl dL_law_311 ?_
        refine g_aload_n hC (pc := 313) 4 rfl rfl dL_law_313 ?_
        obtain ⟨hi, h⟩ := h
        refine g_callV hC (pc := 314) (ci := 0) (As := []) gc_X3_thrown (m_X3_thrown hC.fl h) rfl hi q2538 q2539 q2540 (gle rfl) (gle rfl) rfl (gle rfl) rfl dL_law_314 (gk_i fun r11 G10 h => ?_) (fun _ _ h hio => g_out0 hC (hX _ _ h) hio)
        refine g_iload hC (pc := 317) 1 rfl dL_law_317 ?_
        refine g_icmp_eq hC (pc := 319) 324 h (by decide) dL_law_319 (fun h => ?_) (fun h => ?_)
        · refine g_iload hC (pc := 324) 1 rfl dL_law_324 ?_
          refine g_if_ne hC (pc := 326) 341 h (by decide) dL_law_326 (fun h => ?_) (fun h => ?_)
          · exact g_sub [2, 3, 4, 5, 6, 7] rfl (w_L_law_341 hC hK hX hJ28 h)
          · refine g_aload_n hC (pc := 329) 5 rfl rfl dL_law_329 ?_
            refine g_iconst hC (pc := 330) (v := (0 : Int32)) (by decide) dL_law_330 ?_
            refine g_aldL hC (pc := 331) h dL_law_331 (fun i12 h => ?_)
            refine g_iload hC (pc := 332) 0 rfl dL_law_332 ?_
            refine g_i2l hC (pc := 334) dL_law_334 ?_
            refine g_lcmp hC (pc := 335) dL_law_335 ?_
            refine g_if_eq hC (pc := 336) 341 h (by decide) dL_law_336 (fun h => ?_) (fun h => ?_)
            · exact g_sub [2, 3, 4, 5, 6, 7] rfl (w_L_law_341 hC hK hX hJ28 h)
            · refine g_iconst hC (pc := 339) (v := (0 : Int32)) (by decide) dL_law_339 ?_
              exact g_zret hC (pc := 340) rfl (hK _ _ h) dL_law_340
        · refine g_iconst hC (pc := 322) (v := (0 : Int32)) (by decide) dL_law_322 ?_
          exact g_zret hC (pc := 323) rfl (hK _ _ h) dL_law_323
      by_cases e1 : (i3 &&& (63 : Int32)) = (1 : Int32)
      · refine g_tableIn hC (pc := 44) 344 (by rw [e1]; decide) (by rw [e1]; decide) (by rw [e1]; rfl) (by decide) dL_law_44 ?_
        replace h := h.2.1 e1
        refine g_aload_n hC (pc := 344) 1 rfl rfl dL_law_344 ?_
        refine g_aload_n hC (pc := 345) 0 rfl rfl dL_law_345 ?_
        refine g_iload hC (pc := 346) 5 rfl dL_law_346 ?_
        refine g_iconst hC (pc := 348) (v := (1 : Int32)) (by decide) dL_law_348 ?_
        refine g_iadd hC (pc := 349) dL_law_349 ?_
        refine g_aldI hC (pc := 350) h dL_law_350 (fun i13 h => ?_)
        refine g_aload_n hC (pc := 351) 3 rfl rfl dL_law_351 ?_
        refine g_callSW hC (pc := 352) (b := 0) (As := [vQ (some t1), vI i13, vQ (some t3)]) gc_X0_addBroom (m_X0_addBroom hC.fl h) q1295 q1296 (gle rfl) (gle rfl) rfl (gle rfl) rfl dL_law_352 (gk_i fun r15 G14 h => ?_) (fun _ _ h hio => g_out0 hC (hX _ _ h) hio)
        refine g_istore hC (pc := 355) (lv' := [(6, vI r15), (0, vQ (some c1)), (1, vQ (some t1)), (2, vQ (some t2)), (3, vQ (some t3)), (4, vQ (some t4)), (5, vI x5)]) (by decide) rfl dL_law_355 ?_
        refine g_aload_n hC (pc := 357) 3 rfl rfl dL_law_357 ?_
        refine g_aload_n hC (pc := 358) 1 rfl rfl dL_law_358 ?_
        refine g_iload hC (pc := 359) 6 rfl dL_law_359 ?_
        refine g_iconst hC (pc := 361) (v := (1 : Int32)) (by decide) dL_law_361 ?_
        refine g_iadd hC (pc := 362) dL_law_362 ?_
        refine g_aldI hC (pc := 363) h dL_law_363 (fun i16 h => ?_)
        obtain ⟨hi, h⟩ := h
        refine g_callV hC (pc := 364) (ci := 0) (As := [vI i16]) gc_X3_addBroom (m_X3_addBroom hC.fl h) rfl hi q2588 q2589 q2590 (gle rfl) (gle rfl) rfl (gle rfl) rfl dL_law_364 (gk_i fun r18 G17 h => ?_) (fun _ _ h hio => g_out0 hC (hX _ _ h) hio)
        refine g_istore hC (pc := 367) (lv' := [(7, vI r18), (6, vI r15), (0, vQ (some c1)), (1, vQ (some t1)), (2, vQ (some t2)), (3, vQ (some t3)), (4, vQ (some t4)), (5, vI x5)]) (by decide) rfl dL_law_367 ?_
        refine g_aload_n hC (pc := 369) 4 rfl rfl dL_law_369 ?_
        obtain ⟨hi, h⟩ := h
        refine g_callV hC (pc := 370) (ci := 0) (As := []) gc_X3_thrown (m_X3_thrown hC.fl h) rfl hi q2538 q2539 q2540 (gle rfl) (gle rfl) rfl (gle rfl) rfl dL_law_370 (gk_i fun r20 G19 h => ?_) (fun _ _ h hio => g_out0 hC (hX _ _ h) hio)
        refine g_iload hC (pc := 373) 1 rfl dL_law_373 ?_
        refine g_icmp_eq hC (pc := 375) 380 h (by decide) dL_law_375 (fun h => ?_) (fun h => ?_)
        · refine g_iload hC (pc := 380) 1 rfl dL_law_380 ?_
          refine g_if_ne hC (pc := 382) 397 h (by decide) dL_law_382 (fun h => ?_) (fun h => ?_)
          · exact g_sub [2, 3, 4, 5, 6, 7] rfl (w_L_law_397 hC hK hX hJ28 h)
          · refine g_aload_n hC (pc := 385) 5 rfl rfl dL_law_385 ?_
            refine g_iconst hC (pc := 386) (v := (0 : Int32)) (by decide) dL_law_386 ?_
            refine g_aldL hC (pc := 387) h dL_law_387 (fun i21 h => ?_)
            refine g_iload hC (pc := 388) 0 rfl dL_law_388 ?_
            refine g_i2l hC (pc := 390) dL_law_390 ?_
            refine g_lcmp hC (pc := 391) dL_law_391 ?_
            refine g_if_eq hC (pc := 392) 397 h (by decide) dL_law_392 (fun h => ?_) (fun h => ?_)
            · exact g_sub [2, 3, 4, 5, 6, 7] rfl (w_L_law_397 hC hK hX hJ28 h)
            · refine g_iconst hC (pc := 395) (v := (0 : Int32)) (by decide) dL_law_395 ?_
              exact g_zret hC (pc := 396) rfl (hK _ _ h) dL_law_396
        · refine g_iconst hC (pc := 378) (v := (0 : Int32)) (by decide) dL_law_378 ?_
          exact g_zret hC (pc := 379) rfl (hK _ _ h) dL_law_379
      by_cases e2 : (i3 &&& (63 : Int32)) = (2 : Int32)
      · refine g_tableIn hC (pc := 44) 400 (by rw [e2]; decide) (by rw [e2]; decide) (by rw [e2]; rfl) (by decide) dL_law_44 ?_
        replace h := h.2.2.1 e2
        refine g_aload_n hC (pc := 400) 1 rfl rfl dL_law_400 ?_
        refine g_aload_n hC (pc := 401) 0 rfl rfl dL_law_401 ?_
        refine g_iload hC (pc := 402) 5 rfl dL_law_402 ?_
        refine g_iconst hC (pc := 404) (v := (1 : Int32)) (by decide) dL_law_404 ?_
        refine g_iadd hC (pc := 405) dL_law_405 ?_
        refine g_aldI hC (pc := 406) h dL_law_406 (fun i22 h => ?_)
        refine g_aload_n hC (pc := 407) 3 rfl rfl dL_law_407 ?_
        refine g_callSW hC (pc := 408) (b := 0) (As := [vQ (some t1), vI i22, vQ (some t3)]) gc_X0_banishBroom (m_X0_banishBroom hC.fl h) q1309 q1310 (gle rfl) (gle rfl) rfl (gle rfl) rfl dL_law_408 (gk_i fun r24 G23 h => ?_) (fun _ _ h hio => g_out0 hC (hX _ _ h) hio)
        refine g_istore hC (pc := 411) (lv' := [(6, vI r24), (0, vQ (some c1)), (1, vQ (some t1)), (2, vQ (some t2)), (3, vQ (some t3)), (4, vQ (some t4)), (5, vI x5)]) (by decide) rfl dL_law_411 ?_
        refine g_aload_n hC (pc := 413) 3 rfl rfl dL_law_413 ?_
        refine g_aload_n hC (pc := 414) 1 rfl rfl dL_law_414 ?_
        refine g_iload hC (pc := 415) 6 rfl dL_law_415 ?_
        refine g_iconst hC (pc := 417) (v := (1 : Int32)) (by decide) dL_law_417 ?_
        refine g_iadd hC (pc := 418) dL_law_418 ?_
        refine g_aldI hC (pc := 419) h dL_law_419 (fun i25 h => ?_)
        obtain ⟨hi, h⟩ := h
        refine g_callV hC (pc := 420) (ci := 0) (As := [vI i25]) gc_X3_banishBroom (m_X3_banishBroom hC.fl h) rfl hi q2596 q2597 q2598 (gle rfl) (gle rfl) rfl (gle rfl) rfl dL_law_420 (gk_i fun r27 G26 h => ?_) (fun _ _ h hio => g_out0 hC (hX _ _ h) hio)
        refine g_istore hC (pc := 423) (lv' := [(7, vI r27), (6, vI r24), (0, vQ (some c1)), (1, vQ (some t1)), (2, vQ (some t2)), (3, vQ (some t3)), (4, vQ (some t4)), (5, vI x5)]) (by decide) rfl dL_law_423 ?_
        refine g_aload_n hC (pc := 425) 4 rfl rfl dL_law_425 ?_
        obtain ⟨hi, h⟩ := h
        refine g_callV hC (pc := 426) (ci := 0) (As := []) gc_X3_thrown (m_X3_thrown hC.fl h) rfl hi q2538 q2539 q2540 (gle rfl) (gle rfl) rfl (gle rfl) rfl dL_law_426 (gk_i fun r29 G28 h => ?_) (fun _ _ h hio => g_out0 hC (hX _ _ h) hio)
        refine g_iload hC (pc := 429) 1 rfl dL_law_429 ?_
        refine g_icmp_eq hC (pc := 431) 436 h (by decide) dL_law_431 (fun h => ?_) (fun h => ?_)
        · refine g_iload hC (pc := 436) 1 rfl dL_law_436 ?_
          refine g_if_ne hC (pc := 438) 453 h (by decide) dL_law_438 (fun h => ?_) (fun h => ?_)
          · exact g_sub [2, 3, 4, 5, 6, 7] rfl (w_L_law_453 hC hK hX hJ28 h)
          · refine g_aload_n hC (pc := 441) 5 rfl rfl dL_law_441 ?_
            refine g_iconst hC (pc := 442) (v := (0 : Int32)) (by decide) dL_law_442 ?_
            refine g_aldL hC (pc := 443) h dL_law_443 (fun i30 h => ?_)
            refine g_iload hC (pc := 444) 0 rfl dL_law_444 ?_
            refine g_i2l hC (pc := 446) dL_law_446 ?_
            refine g_lcmp hC (pc := 447) dL_law_447 ?_
            refine g_if_eq hC (pc := 448) 453 h (by decide) dL_law_448 (fun h => ?_) (fun h => ?_)
            · exact g_sub [2, 3, 4, 5, 6, 7] rfl (w_L_law_453 hC hK hX hJ28 h)
            · refine g_iconst hC (pc := 451) (v := (0 : Int32)) (by decide) dL_law_451 ?_
              exact g_zret hC (pc := 452) rfl (hK _ _ h) dL_law_452
        · refine g_iconst hC (pc := 434) (v := (0 : Int32)) (by decide) dL_law_434 ?_
          exact g_zret hC (pc := 435) rfl (hK _ _ h) dL_law_435
      by_cases e3 : (i3 &&& (63 : Int32)) = (3 : Int32)
      · refine g_tableIn hC (pc := 44) 456 (by rw [e3]; decide) (by rw [e3]; decide) (by rw [e3]; rfl) (by decide) dL_law_44 ?_
        replace h := h.2.2.2.1 e3
        refine g_aload_n hC (pc := 456) 1 rfl rfl dL_law_456 ?_
        refine g_aload_n hC (pc := 457) 0 rfl rfl dL_law_457 ?_
        refine g_iload hC (pc := 458) 5 rfl dL_law_458 ?_
        refine g_iconst hC (pc := 460) (v := (1 : Int32)) (by decide) dL_law_460 ?_
        refine g_iadd hC (pc := 461) dL_law_461 ?_
        refine g_aldI hC (pc := 462) h dL_law_462 (fun i31 h => ?_)
        refine g_aload_n hC (pc := 463) 3 rfl rfl dL_law_463 ?_
        refine g_callSW hC (pc := 464) (b := 0) (As := [vQ (some t1), vI i31, vQ (some t3)]) gc_X0_recallBroom (m_X0_recallBroom hC.fl h) q1349 q1350 (gle rfl) (gle rfl) rfl (gle rfl) rfl dL_law_464 (gk_i fun r33 G32 h => ?_) (fun _ _ h hio => g_out0 hC (hX _ _ h) hio)
        refine g_istore hC (pc := 467) (lv' := [(6, vI r33), (0, vQ (some c1)), (1, vQ (some t1)), (2, vQ (some t2)), (3, vQ (some t3)), (4, vQ (some t4)), (5, vI x5)]) (by decide) rfl dL_law_467 ?_
        refine g_aload_n hC (pc := 469) 3 rfl rfl dL_law_469 ?_
        refine g_aload_n hC (pc := 470) 1 rfl rfl dL_law_470 ?_
        refine g_iload hC (pc := 471) 6 rfl dL_law_471 ?_
        refine g_iconst hC (pc := 473) (v := (1 : Int32)) (by decide) dL_law_473 ?_
        refine g_iadd hC (pc := 474) dL_law_474 ?_
        refine g_aldI hC (pc := 475) h dL_law_475 (fun i34 h => ?_)
        obtain ⟨hi, h⟩ := h
        refine g_callV hC (pc := 476) (ci := 0) (As := [vI i34]) gc_X3_recallBroom (m_X3_recallBroom hC.fl h) rfl hi q2616 q2617 q2618 (gle rfl) (gle rfl) rfl (gle rfl) rfl dL_law_476 (gk_i fun r36 G35 h => ?_) (fun _ _ h hio => g_out0 hC (hX _ _ h) hio)
        refine g_istore hC (pc := 479) (lv' := [(7, vI r36), (6, vI r33), (0, vQ (some c1)), (1, vQ (some t1)), (2, vQ (some t2)), (3, vQ (some t3)), (4, vQ (some t4)), (5, vI x5)]) (by decide) rfl dL_law_479 ?_
        refine g_aload_n hC (pc := 481) 4 rfl rfl dL_law_481 ?_
        obtain ⟨hi, h⟩ := h
        refine g_callV hC (pc := 482) (ci := 0) (As := []) gc_X3_thrown (m_X3_thrown hC.fl h) rfl hi q2538 q2539 q2540 (gle rfl) (gle rfl) rfl (gle rfl) rfl dL_law_482 (gk_i fun r38 G37 h => ?_) (fun _ _ h hio => g_out0 hC (hX _ _ h) hio)
        refine g_iload hC (pc := 485) 1 rfl dL_law_485 ?_
        refine g_icmp_eq hC (pc := 487) 492 h (by decide) dL_law_487 (fun h => ?_) (fun h => ?_)
        · refine g_iload hC (pc := 492) 1 rfl dL_law_492 ?_
          refine g_if_ne hC (pc := 494) 509 h (by decide) dL_law_494 (fun h => ?_) (fun h => ?_)
          · exact g_sub [2, 3, 4, 5, 6, 7] rfl (w_L_law_509 hC hK hX hJ28 h)
          · refine g_aload_n hC (pc := 497) 5 rfl rfl dL_law_497 ?_
            refine g_iconst hC (pc := 498) (v := (0 : Int32)) (by decide) dL_law_498 ?_
            refine g_aldL hC (pc := 499) h dL_law_499 (fun i39 h => ?_)
            refine g_iload hC (pc := 500) 0 rfl dL_law_500 ?_
            refine g_i2l hC (pc := 502) dL_law_502 ?_
            refine g_lcmp hC (pc := 503) dL_law_503 ?_
            refine g_if_eq hC (pc := 504) 509 h (by decide) dL_law_504 (fun h => ?_) (fun h => ?_)
            · exact g_sub [2, 3, 4, 5, 6, 7] rfl (w_L_law_509 hC hK hX hJ28 h)
            · refine g_iconst hC (pc := 507) (v := (0 : Int32)) (by decide) dL_law_507 ?_
              exact g_zret hC (pc := 508) rfl (hK _ _ h) dL_law_508
        · refine g_iconst hC (pc := 490) (v := (0 : Int32)) (by decide) dL_law_490 ?_
          exact g_zret hC (pc := 491) rfl (hK _ _ h) dL_law_491
      by_cases e4 : (i3 &&& (63 : Int32)) = (4 : Int32)
      · refine g_tableIn hC (pc := 44) 512 (by rw [e4]; decide) (by rw [e4]; decide) (by rw [e4]; rfl) (by decide) dL_law_44 ?_
        replace h := h.2.2.2.2.1 e4
        refine g_aload_n hC (pc := 512) 1 rfl rfl dL_law_512 ?_
        refine g_aload_n hC (pc := 513) 0 rfl rfl dL_law_513 ?_
        refine g_iload hC (pc := 514) 5 rfl dL_law_514 ?_
        refine g_iconst hC (pc := 516) (v := (1 : Int32)) (by decide) dL_law_516 ?_
        refine g_iadd hC (pc := 517) dL_law_517 ?_
        refine g_aldI hC (pc := 518) h dL_law_518 (fun i40 h => ?_)
        refine g_aload_n hC (pc := 519) 0 rfl rfl dL_law_519 ?_
        refine g_iload hC (pc := 520) 5 rfl dL_law_520 ?_
        refine g_iconst hC (pc := 522) (v := (2 : Int32)) (by decide) dL_law_522 ?_
        refine g_iadd hC (pc := 523) dL_law_523 ?_
        refine g_aldI hC (pc := 524) h dL_law_524 (fun i41 h => ?_)
        refine g_aload_n hC (pc := 525) 0 rfl rfl dL_law_525 ?_
        refine g_iload hC (pc := 526) 5 rfl dL_law_526 ?_
        refine g_iconst hC (pc := 528) (v := (3 : Int32)) (by decide) dL_law_528 ?_
        refine g_iadd hC (pc := 529) dL_law_529 ?_
        refine g_aldI hC (pc := 530) h dL_law_530 (fun i42 h => ?_)
        refine g_aload_n hC (pc := 531) 0 rfl rfl dL_law_531 ?_
        refine g_iload hC (pc := 532) 5 rfl dL_law_532 ?_
        refine g_iconst hC (pc := 534) (v := (4 : Int32)) (by decide) dL_law_534 ?_
        refine g_iadd hC (pc := 535) dL_law_535 ?_
        refine g_aldI hC (pc := 536) h dL_law_536 (fun i43 h => ?_)
        refine g_aload_n hC (pc := 537) 3 rfl rfl dL_law_537 ?_
        refine g_callSW hC (pc := 538) (b := 0) (As := [vQ (some t1), vI i40, vI i41, vI i42, vI i43, vQ (some t3)]) gc_X0_hire (m_X0_hire hC.fl h) q1363 q1364 (gle rfl) (gle rfl) rfl (gle rfl) rfl dL_law_538 (gk_i fun r45 G44 h => ?_) (fun _ _ h hio => g_out0 hC (hX _ _ h) hio)
        refine g_istore hC (pc := 541) (lv' := [(6, vI r45), (0, vQ (some c1)), (1, vQ (some t1)), (2, vQ (some t2)), (3, vQ (some t3)), (4, vQ (some t4)), (5, vI x5)]) (by decide) rfl dL_law_541 ?_
        refine g_aload_n hC (pc := 543) 3 rfl rfl dL_law_543 ?_
        refine g_aload_n hC (pc := 544) 1 rfl rfl dL_law_544 ?_
        refine g_iload hC (pc := 545) 6 rfl dL_law_545 ?_
        refine g_iconst hC (pc := 547) (v := (1 : Int32)) (by decide) dL_law_547 ?_
        refine g_iadd hC (pc := 548) dL_law_548 ?_
        refine g_aldI hC (pc := 549) h dL_law_549 (fun i46 h => ?_)
        refine g_aload_n hC (pc := 550) 1 rfl rfl dL_law_550 ?_
        refine g_iload hC (pc := 551) 6 rfl dL_law_551 ?_
        refine g_iconst hC (pc := 553) (v := (2 : Int32)) (by decide) dL_law_553 ?_
        refine g_iadd hC (pc := 554) dL_law_554 ?_
        refine g_aldI hC (pc := 555) h dL_law_555 (fun i47 h => ?_)
        refine g_aload_n hC (pc := 556) 1 rfl rfl dL_law_556 ?_
        refine g_iload hC (pc := 557) 6 rfl dL_law_557 ?_
        refine g_iconst hC (pc := 559) (v := (3 : Int32)) (by decide) dL_law_559 ?_
        refine g_iadd hC (pc := 560) dL_law_560 ?_
        refine g_aldI hC (pc := 561) h dL_law_561 (fun i48 h => ?_)
        refine g_aload_n hC (pc := 562) 1 rfl rfl dL_law_562 ?_
        refine g_iload hC (pc := 563) 6 rfl dL_law_563 ?_
        refine g_iconst hC (pc := 565) (v := (4 : Int32)) (by decide) dL_law_565 ?_
        refine g_iadd hC (pc := 566) dL_law_566 ?_
        refine g_aldI hC (pc := 567) h dL_law_567 (fun i49 h => ?_)
        obtain ⟨hi, h⟩ := h
        refine g_callV hC (pc := 568) (ci := 0) (As := [vI i46, vI i47, vI i48, vI i49]) gc_X3_hire (m_X3_hire hC.fl h) rfl hi q2644 q2645 q2646 (gle rfl) (gle rfl) rfl (gle rfl) rfl dL_law_568 (gk_i fun r51 G50 h => ?_) (fun _ _ h hio => g_out0 hC (hX _ _ h) hio)
        refine g_istore hC (pc := 571) (lv' := [(7, vI r51), (6, vI r45), (0, vQ (some c1)), (1, vQ (some t1)), (2, vQ (some t2)), (3, vQ (some t3)), (4, vQ (some t4)), (5, vI x5)]) (by decide) rfl dL_law_571 ?_
        refine g_aload_n hC (pc := 573) 4 rfl rfl dL_law_573 ?_
        obtain ⟨hi, h⟩ := h
        refine g_callV hC (pc := 574) (ci := 0) (As := []) gc_X3_thrown (m_X3_thrown hC.fl h) rfl hi q2538 q2539 q2540 (gle rfl) (gle rfl) rfl (gle rfl) rfl dL_law_574 (gk_i fun r53 G52 h => ?_) (fun _ _ h hio => g_out0 hC (hX _ _ h) hio)
        refine g_iload hC (pc := 577) 1 rfl dL_law_577 ?_
        refine g_icmp_eq hC (pc := 579) 584 h (by decide) dL_law_579 (fun h => ?_) (fun h => ?_)
        · refine g_iload hC (pc := 584) 1 rfl dL_law_584 ?_
          refine g_if_ne hC (pc := 586) 601 h (by decide) dL_law_586 (fun h => ?_) (fun h => ?_)
          · exact g_sub [2, 3, 4, 5, 6, 7] rfl (w_L_law_601 hC hK hX hJ28 h)
          · refine g_aload_n hC (pc := 589) 5 rfl rfl dL_law_589 ?_
            refine g_iconst hC (pc := 590) (v := (0 : Int32)) (by decide) dL_law_590 ?_
            refine g_aldL hC (pc := 591) h dL_law_591 (fun i54 h => ?_)
            refine g_iload hC (pc := 592) 0 rfl dL_law_592 ?_
            refine g_i2l hC (pc := 594) dL_law_594 ?_
            refine g_lcmp hC (pc := 595) dL_law_595 ?_
            refine g_if_eq hC (pc := 596) 601 h (by decide) dL_law_596 (fun h => ?_) (fun h => ?_)
            · exact g_sub [2, 3, 4, 5, 6, 7] rfl (w_L_law_601 hC hK hX hJ28 h)
            · refine g_iconst hC (pc := 599) (v := (0 : Int32)) (by decide) dL_law_599 ?_
              exact g_zret hC (pc := 600) rfl (hK _ _ h) dL_law_600
        · refine g_iconst hC (pc := 582) (v := (0 : Int32)) (by decide) dL_law_582 ?_
          exact g_zret hC (pc := 583) rfl (hK _ _ h) dL_law_583
      by_cases e5 : (i3 &&& (63 : Int32)) = (5 : Int32)
      · refine g_tableIn hC (pc := 44) 604 (by rw [e5]; decide) (by rw [e5]; decide) (by rw [e5]; rfl) (by decide) dL_law_44 ?_
        replace h := h.2.2.2.2.2.1 e5
        refine g_aload_n hC (pc := 604) 1 rfl rfl dL_law_604 ?_
        refine g_aload_n hC (pc := 605) 0 rfl rfl dL_law_605 ?_
        refine g_iload hC (pc := 606) 5 rfl dL_law_606 ?_
        refine g_iconst hC (pc := 608) (v := (1 : Int32)) (by decide) dL_law_608 ?_
        refine g_iadd hC (pc := 609) dL_law_609 ?_
        refine g_aldI hC (pc := 610) h dL_law_610 (fun i55 h => ?_)
        refine g_aload_n hC (pc := 611) 3 rfl rfl dL_law_611 ?_
        refine g_callSW hC (pc := 612) (b := 0) (As := [vQ (some t1), vI i55, vQ (some t3)]) gc_X0_cancelContract (m_X0_cancelContract hC.fl h) q1415 q1416 (gle rfl) (gle rfl) rfl (gle rfl) rfl dL_law_612 (gk_i fun r57 G56 h => ?_) (fun _ _ h hio => g_out0 hC (hX _ _ h) hio)
        refine g_istore hC (pc := 615) (lv' := [(6, vI r57), (0, vQ (some c1)), (1, vQ (some t1)), (2, vQ (some t2)), (3, vQ (some t3)), (4, vQ (some t4)), (5, vI x5)]) (by decide) rfl dL_law_615 ?_
        refine g_aload_n hC (pc := 617) 3 rfl rfl dL_law_617 ?_
        refine g_aload_n hC (pc := 618) 1 rfl rfl dL_law_618 ?_
        refine g_iload hC (pc := 619) 6 rfl dL_law_619 ?_
        refine g_iconst hC (pc := 621) (v := (1 : Int32)) (by decide) dL_law_621 ?_
        refine g_iadd hC (pc := 622) dL_law_622 ?_
        refine g_aldI hC (pc := 623) h dL_law_623 (fun i58 h => ?_)
        obtain ⟨hi, h⟩ := h
        refine g_callV hC (pc := 624) (ci := 0) (As := [vI i58]) gc_X3_cancelContract (m_X3_cancelContract hC.fl h) rfl hi q2663 q2664 q2665 (gle rfl) (gle rfl) rfl (gle rfl) rfl dL_law_624 (gk_i fun r60 G59 h => ?_) (fun _ _ h hio => g_out0 hC (hX _ _ h) hio)
        refine g_istore hC (pc := 627) (lv' := [(7, vI r60), (6, vI r57), (0, vQ (some c1)), (1, vQ (some t1)), (2, vQ (some t2)), (3, vQ (some t3)), (4, vQ (some t4)), (5, vI x5)]) (by decide) rfl dL_law_627 ?_
        refine g_aload_n hC (pc := 629) 4 rfl rfl dL_law_629 ?_
        obtain ⟨hi, h⟩ := h
        refine g_callV hC (pc := 630) (ci := 0) (As := []) gc_X3_thrown (m_X3_thrown hC.fl h) rfl hi q2538 q2539 q2540 (gle rfl) (gle rfl) rfl (gle rfl) rfl dL_law_630 (gk_i fun r62 G61 h => ?_) (fun _ _ h hio => g_out0 hC (hX _ _ h) hio)
        refine g_iload hC (pc := 633) 1 rfl dL_law_633 ?_
        refine g_icmp_eq hC (pc := 635) 640 h (by decide) dL_law_635 (fun h => ?_) (fun h => ?_)
        · refine g_iload hC (pc := 640) 1 rfl dL_law_640 ?_
          refine g_if_ne hC (pc := 642) 657 h (by decide) dL_law_642 (fun h => ?_) (fun h => ?_)
          · exact g_sub [2, 3, 4, 5, 6, 7] rfl (w_L_law_657 hC hK hX hJ28 h)
          · refine g_aload_n hC (pc := 645) 5 rfl rfl dL_law_645 ?_
            refine g_iconst hC (pc := 646) (v := (0 : Int32)) (by decide) dL_law_646 ?_
            refine g_aldL hC (pc := 647) h dL_law_647 (fun i63 h => ?_)
            refine g_iload hC (pc := 648) 0 rfl dL_law_648 ?_
            refine g_i2l hC (pc := 650) dL_law_650 ?_
            refine g_lcmp hC (pc := 651) dL_law_651 ?_
            refine g_if_eq hC (pc := 652) 657 h (by decide) dL_law_652 (fun h => ?_) (fun h => ?_)
            · exact g_sub [2, 3, 4, 5, 6, 7] rfl (w_L_law_657 hC hK hX hJ28 h)
            · refine g_iconst hC (pc := 655) (v := (0 : Int32)) (by decide) dL_law_655 ?_
              exact g_zret hC (pc := 656) rfl (hK _ _ h) dL_law_656
        · refine g_iconst hC (pc := 638) (v := (0 : Int32)) (by decide) dL_law_638 ?_
          exact g_zret hC (pc := 639) rfl (hK _ _ h) dL_law_639
      by_cases e6 : (i3 &&& (63 : Int32)) = (6 : Int32)
      · refine g_tableIn hC (pc := 44) 660 (by rw [e6]; decide) (by rw [e6]; decide) (by rw [e6]; rfl) (by decide) dL_law_44 ?_
        replace h := h.2.2.2.2.2.2.1 e6
        refine g_aload_n hC (pc := 660) 1 rfl rfl dL_law_660 ?_
        refine g_aload_n hC (pc := 661) 0 rfl rfl dL_law_661 ?_
        refine g_iload hC (pc := 662) 5 rfl dL_law_662 ?_
        refine g_iconst hC (pc := 664) (v := (1 : Int32)) (by decide) dL_law_664 ?_
        refine g_iadd hC (pc := 665) dL_law_665 ?_
        refine g_aldI hC (pc := 666) h dL_law_666 (fun i64 h => ?_)
        refine g_aload_n hC (pc := 667) 3 rfl rfl dL_law_667 ?_
        refine g_callSW hC (pc := 668) (b := 0) (As := [vQ (some t1), vI i64, vQ (some t3)]) gc_X0_rest (m_X0_rest hC.fl h) q1549 q1550 (gle rfl) (gle rfl) rfl (gle rfl) rfl dL_law_668 (gk_i fun r66 G65 h => ?_) (fun _ _ h hio => g_out0 hC (hX _ _ h) hio)
        refine g_istore hC (pc := 671) (lv' := [(6, vI r66), (0, vQ (some c1)), (1, vQ (some t1)), (2, vQ (some t2)), (3, vQ (some t3)), (4, vQ (some t4)), (5, vI x5)]) (by decide) rfl dL_law_671 ?_
        refine g_aload_n hC (pc := 673) 3 rfl rfl dL_law_673 ?_
        refine g_aload_n hC (pc := 674) 1 rfl rfl dL_law_674 ?_
        refine g_iload hC (pc := 675) 6 rfl dL_law_675 ?_
        refine g_iconst hC (pc := 677) (v := (1 : Int32)) (by decide) dL_law_677 ?_
        refine g_iadd hC (pc := 678) dL_law_678 ?_
        refine g_aldI hC (pc := 679) h dL_law_679 (fun i67 h => ?_)
        obtain ⟨hi, h⟩ := h
        refine g_callV hC (pc := 680) (ci := 0) (As := [vI i67]) gc_X3_rest (m_X3_rest hC.fl h) rfl hi q2620 q2621 q2622 (gle rfl) (gle rfl) rfl (gle rfl) rfl dL_law_680 (gk_i fun r69 G68 h => ?_) (fun _ _ h hio => g_out0 hC (hX _ _ h) hio)
        refine g_istore hC (pc := 683) (lv' := [(7, vI r69), (6, vI r66), (0, vQ (some c1)), (1, vQ (some t1)), (2, vQ (some t2)), (3, vQ (some t3)), (4, vQ (some t4)), (5, vI x5)]) (by decide) rfl dL_law_683 ?_
        refine g_aload_n hC (pc := 685) 4 rfl rfl dL_law_685 ?_
        obtain ⟨hi, h⟩ := h
        refine g_callV hC (pc := 686) (ci := 0) (As := []) gc_X3_thrown (m_X3_thrown hC.fl h) rfl hi q2538 q2539 q2540 (gle rfl) (gle rfl) rfl (gle rfl) rfl dL_law_686 (gk_i fun r71 G70 h => ?_) (fun _ _ h hio => g_out0 hC (hX _ _ h) hio)
        refine g_iload hC (pc := 689) 1 rfl dL_law_689 ?_
        refine g_icmp_eq hC (pc := 691) 696 h (by decide) dL_law_691 (fun h => ?_) (fun h => ?_)
        · refine g_iload hC (pc := 696) 1 rfl dL_law_696 ?_
          refine g_if_ne hC (pc := 698) 713 h (by decide) dL_law_698 (fun h => ?_) (fun h => ?_)
          · exact g_sub [2, 3, 4, 5, 6, 7] rfl (w_L_law_713 hC hK hX hJ28 h)
          · refine g_aload_n hC (pc := 701) 5 rfl rfl dL_law_701 ?_
            refine g_iconst hC (pc := 702) (v := (0 : Int32)) (by decide) dL_law_702 ?_
            refine g_aldL hC (pc := 703) h dL_law_703 (fun i72 h => ?_)
            refine g_iload hC (pc := 704) 0 rfl dL_law_704 ?_
            refine g_i2l hC (pc := 706) dL_law_706 ?_
            refine g_lcmp hC (pc := 707) dL_law_707 ?_
            refine g_if_eq hC (pc := 708) 713 h (by decide) dL_law_708 (fun h => ?_) (fun h => ?_)
            · exact g_sub [2, 3, 4, 5, 6, 7] rfl (w_L_law_713 hC hK hX hJ28 h)
            · refine g_iconst hC (pc := 711) (v := (0 : Int32)) (by decide) dL_law_711 ?_
              exact g_zret hC (pc := 712) rfl (hK _ _ h) dL_law_712
        · refine g_iconst hC (pc := 694) (v := (0 : Int32)) (by decide) dL_law_694 ?_
          exact g_zret hC (pc := 695) rfl (hK _ _ h) dL_law_695
      by_cases e7 : (i3 &&& (63 : Int32)) = (7 : Int32)
      · refine g_tableIn hC (pc := 44) 716 (by rw [e7]; decide) (by rw [e7]; decide) (by rw [e7]; rfl) (by decide) dL_law_44 ?_
        replace h := h.2.2.2.2.2.2.2.1 e7
        refine g_aload_n hC (pc := 716) 1 rfl rfl dL_law_716 ?_
        refine g_aload_n hC (pc := 717) 0 rfl rfl dL_law_717 ?_
        refine g_iload hC (pc := 718) 5 rfl dL_law_718 ?_
        refine g_iconst hC (pc := 720) (v := (1 : Int32)) (by decide) dL_law_720 ?_
        refine g_iadd hC (pc := 721) dL_law_721 ?_
        refine g_aldI hC (pc := 722) h dL_law_722 (fun i73 h => ?_)
        refine g_aload_n hC (pc := 723) 3 rfl rfl dL_law_723 ?_
        refine g_callSW hC (pc := 724) (b := 0) (As := [vQ (some t1), vI i73, vQ (some t3)]) gc_X0_wake (m_X0_wake hC.fl h) q1566 q1567 (gle rfl) (gle rfl) rfl (gle rfl) rfl dL_law_724 (gk_i fun r75 G74 h => ?_) (fun _ _ h hio => g_out0 hC (hX _ _ h) hio)
        refine g_istore hC (pc := 727) (lv' := [(6, vI r75), (0, vQ (some c1)), (1, vQ (some t1)), (2, vQ (some t2)), (3, vQ (some t3)), (4, vQ (some t4)), (5, vI x5)]) (by decide) rfl dL_law_727 ?_
        refine g_aload_n hC (pc := 729) 3 rfl rfl dL_law_729 ?_
        refine g_aload_n hC (pc := 730) 1 rfl rfl dL_law_730 ?_
        refine g_iload hC (pc := 731) 6 rfl dL_law_731 ?_
        refine g_iconst hC (pc := 733) (v := (1 : Int32)) (by decide) dL_law_733 ?_
        refine g_iadd hC (pc := 734) dL_law_734 ?_
        refine g_aldI hC (pc := 735) h dL_law_735 (fun i76 h => ?_)
        obtain ⟨hi, h⟩ := h
        refine g_callV hC (pc := 736) (ci := 0) (As := [vI i76]) gc_X3_wake (m_X3_wake hC.fl h) rfl hi q2640 q2641 q2642 (gle rfl) (gle rfl) rfl (gle rfl) rfl dL_law_736 (gk_i fun r78 G77 h => ?_) (fun _ _ h hio => g_out0 hC (hX _ _ h) hio)
        refine g_istore hC (pc := 739) (lv' := [(7, vI r78), (6, vI r75), (0, vQ (some c1)), (1, vQ (some t1)), (2, vQ (some t2)), (3, vQ (some t3)), (4, vQ (some t4)), (5, vI x5)]) (by decide) rfl dL_law_739 ?_
        refine g_aload_n hC (pc := 741) 4 rfl rfl dL_law_741 ?_
        obtain ⟨hi, h⟩ := h
        refine g_callV hC (pc := 742) (ci := 0) (As := []) gc_X3_thrown (m_X3_thrown hC.fl h) rfl hi q2538 q2539 q2540 (gle rfl) (gle rfl) rfl (gle rfl) rfl dL_law_742 (gk_i fun r80 G79 h => ?_) (fun _ _ h hio => g_out0 hC (hX _ _ h) hio)
        refine g_iload hC (pc := 745) 1 rfl dL_law_745 ?_
        refine g_icmp_eq hC (pc := 747) 752 h (by decide) dL_law_747 (fun h => ?_) (fun h => ?_)
        · refine g_iload hC (pc := 752) 1 rfl dL_law_752 ?_
          refine g_if_ne hC (pc := 754) 769 h (by decide) dL_law_754 (fun h => ?_) (fun h => ?_)
          · exact g_sub [2, 3, 4, 5, 6, 7] rfl (w_L_law_769 hC hK hX hJ28 h)
          · refine g_aload_n hC (pc := 757) 5 rfl rfl dL_law_757 ?_
            refine g_iconst hC (pc := 758) (v := (0 : Int32)) (by decide) dL_law_758 ?_
            refine g_aldL hC (pc := 759) h dL_law_759 (fun i81 h => ?_)
            refine g_iload hC (pc := 760) 0 rfl dL_law_760 ?_
            refine g_i2l hC (pc := 762) dL_law_762 ?_
            refine g_lcmp hC (pc := 763) dL_law_763 ?_
            refine g_if_eq hC (pc := 764) 769 h (by decide) dL_law_764 (fun h => ?_) (fun h => ?_)
            · exact g_sub [2, 3, 4, 5, 6, 7] rfl (w_L_law_769 hC hK hX hJ28 h)
            · refine g_iconst hC (pc := 767) (v := (0 : Int32)) (by decide) dL_law_767 ?_
              exact g_zret hC (pc := 768) rfl (hK _ _ h) dL_law_768
        · refine g_iconst hC (pc := 750) (v := (0 : Int32)) (by decide) dL_law_750 ?_
          exact g_zret hC (pc := 751) rfl (hK _ _ h) dL_law_751
      by_cases e8 : (i3 &&& (63 : Int32)) = (8 : Int32)
      · refine g_tableIn hC (pc := 44) 772 (by rw [e8]; decide) (by rw [e8]; decide) (by rw [e8]; rfl) (by decide) dL_law_44 ?_
        replace h := h.2.2.2.2.2.2.2.2.1 e8
        refine g_aload_n hC (pc := 772) 1 rfl rfl dL_law_772 ?_
        refine g_aload_n hC (pc := 773) 0 rfl rfl dL_law_773 ?_
        refine g_iload hC (pc := 774) 5 rfl dL_law_774 ?_
        refine g_iconst hC (pc := 776) (v := (1 : Int32)) (by decide) dL_law_776 ?_
        refine g_iadd hC (pc := 777) dL_law_777 ?_
        refine g_aldI hC (pc := 778) h dL_law_778 (fun i82 h => ?_)
        refine g_aload_n hC (pc := 779) 0 rfl rfl dL_law_779 ?_
        refine g_iload hC (pc := 780) 5 rfl dL_law_780 ?_
        refine g_iconst hC (pc := 782) (v := (2 : Int32)) (by decide) dL_law_782 ?_
        refine g_iadd hC (pc := 783) dL_law_783 ?_
        refine g_aldI hC (pc := 784) h dL_law_784 (fun i83 h => ?_)
        refine g_aload_n hC (pc := 785) 3 rfl rfl dL_law_785 ?_
        refine g_callSW hC (pc := 786) (b := 0) (As := [vQ (some t1), vI i82, vI i83, vQ (some t3)]) gc_X0_lend (m_X0_lend hC.fl h) q1575 q1576 (gle rfl) (gle rfl) rfl (gle rfl) rfl dL_law_786 (gk_i fun r85 G84 h => ?_) (fun _ _ h hio => g_out0 hC (hX _ _ h) hio)
        refine g_istore hC (pc := 789) (lv' := [(6, vI r85), (0, vQ (some c1)), (1, vQ (some t1)), (2, vQ (some t2)), (3, vQ (some t3)), (4, vQ (some t4)), (5, vI x5)]) (by decide) rfl dL_law_789 ?_
        refine g_aload_n hC (pc := 791) 3 rfl rfl dL_law_791 ?_
        refine g_aload_n hC (pc := 792) 1 rfl rfl dL_law_792 ?_
        refine g_iload hC (pc := 793) 6 rfl dL_law_793 ?_
        refine g_iconst hC (pc := 795) (v := (1 : Int32)) (by decide) dL_law_795 ?_
        refine g_iadd hC (pc := 796) dL_law_796 ?_
        refine g_aldI hC (pc := 797) h dL_law_797 (fun i86 h => ?_)
        refine g_aload_n hC (pc := 798) 1 rfl rfl dL_law_798 ?_
        refine g_iload hC (pc := 799) 6 rfl dL_law_799 ?_
        refine g_iconst hC (pc := 801) (v := (2 : Int32)) (by decide) dL_law_801 ?_
        refine g_iadd hC (pc := 802) dL_law_802 ?_
        refine g_aldI hC (pc := 803) h dL_law_803 (fun i87 h => ?_)
        obtain ⟨hi, h⟩ := h
        refine g_callV hC (pc := 804) (ci := 0) (As := [vI i86, vI i87]) gc_X3_lend (m_X3_lend hC.fl h) rfl hi q2680 q2681 q2682 (gle rfl) (gle rfl) rfl (gle rfl) rfl dL_law_804 (gk_i fun r89 G88 h => ?_) (fun _ _ h hio => g_out0 hC (hX _ _ h) hio)
        refine g_istore hC (pc := 807) (lv' := [(7, vI r89), (6, vI r85), (0, vQ (some c1)), (1, vQ (some t1)), (2, vQ (some t2)), (3, vQ (some t3)), (4, vQ (some t4)), (5, vI x5)]) (by decide) rfl dL_law_807 ?_
        refine g_aload_n hC (pc := 809) 4 rfl rfl dL_law_809 ?_
        obtain ⟨hi, h⟩ := h
        refine g_callV hC (pc := 810) (ci := 0) (As := []) gc_X3_thrown (m_X3_thrown hC.fl h) rfl hi q2538 q2539 q2540 (gle rfl) (gle rfl) rfl (gle rfl) rfl dL_law_810 (gk_i fun r91 G90 h => ?_) (fun _ _ h hio => g_out0 hC (hX _ _ h) hio)
        refine g_iload hC (pc := 813) 1 rfl dL_law_813 ?_
        refine g_icmp_eq hC (pc := 815) 820 h (by decide) dL_law_815 (fun h => ?_) (fun h => ?_)
        · refine g_iload hC (pc := 820) 1 rfl dL_law_820 ?_
          refine g_if_ne hC (pc := 822) 837 h (by decide) dL_law_822 (fun h => ?_) (fun h => ?_)
          · exact g_sub [2, 3, 4, 5, 6, 7] rfl (w_L_law_837 hC hK hX hJ28 h)
          · refine g_aload_n hC (pc := 825) 5 rfl rfl dL_law_825 ?_
            refine g_iconst hC (pc := 826) (v := (0 : Int32)) (by decide) dL_law_826 ?_
            refine g_aldL hC (pc := 827) h dL_law_827 (fun i92 h => ?_)
            refine g_iload hC (pc := 828) 0 rfl dL_law_828 ?_
            refine g_i2l hC (pc := 830) dL_law_830 ?_
            refine g_lcmp hC (pc := 831) dL_law_831 ?_
            refine g_if_eq hC (pc := 832) 837 h (by decide) dL_law_832 (fun h => ?_) (fun h => ?_)
            · exact g_sub [2, 3, 4, 5, 6, 7] rfl (w_L_law_837 hC hK hX hJ28 h)
            · refine g_iconst hC (pc := 835) (v := (0 : Int32)) (by decide) dL_law_835 ?_
              exact g_zret hC (pc := 836) rfl (hK _ _ h) dL_law_836
        · refine g_iconst hC (pc := 818) (v := (0 : Int32)) (by decide) dL_law_818 ?_
          exact g_zret hC (pc := 819) rfl (hK _ _ h) dL_law_819
      by_cases e9 : (i3 &&& (63 : Int32)) = (9 : Int32)
      · refine g_tableIn hC (pc := 44) 840 (by rw [e9]; decide) (by rw [e9]; decide) (by rw [e9]; rfl) (by decide) dL_law_44 ?_
        replace h := h.2.2.2.2.2.2.2.2.2.1 e9
        refine g_aload_n hC (pc := 840) 1 rfl rfl dL_law_840 ?_
        refine g_aload_n hC (pc := 841) 0 rfl rfl dL_law_841 ?_
        refine g_iload hC (pc := 842) 5 rfl dL_law_842 ?_
        refine g_iconst hC (pc := 844) (v := (1 : Int32)) (by decide) dL_law_844 ?_
        refine g_iadd hC (pc := 845) dL_law_845 ?_
        refine g_aldI hC (pc := 846) h dL_law_846 (fun i93 h => ?_)
        refine g_aload_n hC (pc := 847) 3 rfl rfl dL_law_847 ?_
        refine g_callSW hC (pc := 848) (b := 0) (As := [vQ (some t1), vI i93, vQ (some t3)]) gc_X0_fund (m_X0_fund hC.fl h) q1594 q1595 (gle rfl) (gle rfl) rfl (gle rfl) rfl dL_law_848 (gk_i fun r95 G94 h => ?_) (fun _ _ h hio => g_out0 hC (hX _ _ h) hio)
        refine g_istore hC (pc := 851) (lv' := [(6, vI r95), (0, vQ (some c1)), (1, vQ (some t1)), (2, vQ (some t2)), (3, vQ (some t3)), (4, vQ (some t4)), (5, vI x5)]) (by decide) rfl dL_law_851 ?_
        refine g_aload_n hC (pc := 853) 3 rfl rfl dL_law_853 ?_
        refine g_aload_n hC (pc := 854) 1 rfl rfl dL_law_854 ?_
        refine g_iload hC (pc := 855) 6 rfl dL_law_855 ?_
        refine g_iconst hC (pc := 857) (v := (1 : Int32)) (by decide) dL_law_857 ?_
        refine g_iadd hC (pc := 858) dL_law_858 ?_
        refine g_aldI hC (pc := 859) h dL_law_859 (fun i96 h => ?_)
        obtain ⟨hi, h⟩ := h
        refine g_callV hC (pc := 860) (ci := 0) (As := [vI i96]) gc_X3_fund (m_X3_fund hC.fl h) rfl hi q2688 q2689 q2690 (gle rfl) (gle rfl) rfl (gle rfl) rfl dL_law_860 (gk_i fun r98 G97 h => ?_) (fun _ _ h hio => g_out0 hC (hX _ _ h) hio)
        refine g_istore hC (pc := 863) (lv' := [(7, vI r98), (6, vI r95), (0, vQ (some c1)), (1, vQ (some t1)), (2, vQ (some t2)), (3, vQ (some t3)), (4, vQ (some t4)), (5, vI x5)]) (by decide) rfl dL_law_863 ?_
        refine g_aload_n hC (pc := 865) 4 rfl rfl dL_law_865 ?_
        obtain ⟨hi, h⟩ := h
        refine g_callV hC (pc := 866) (ci := 0) (As := []) gc_X3_thrown (m_X3_thrown hC.fl h) rfl hi q2538 q2539 q2540 (gle rfl) (gle rfl) rfl (gle rfl) rfl dL_law_866 (gk_i fun r100 G99 h => ?_) (fun _ _ h hio => g_out0 hC (hX _ _ h) hio)
        refine g_iload hC (pc := 869) 1 rfl dL_law_869 ?_
        refine g_icmp_eq hC (pc := 871) 876 h (by decide) dL_law_871 (fun h => ?_) (fun h => ?_)
        · refine g_iload hC (pc := 876) 1 rfl dL_law_876 ?_
          refine g_if_ne hC (pc := 878) 893 h (by decide) dL_law_878 (fun h => ?_) (fun h => ?_)
          · exact g_sub [2, 3, 4, 5, 6, 7] rfl (w_L_law_893 hC hK hX hJ28 h)
          · refine g_aload_n hC (pc := 881) 5 rfl rfl dL_law_881 ?_
            refine g_iconst hC (pc := 882) (v := (0 : Int32)) (by decide) dL_law_882 ?_
            refine g_aldL hC (pc := 883) h dL_law_883 (fun i101 h => ?_)
            refine g_iload hC (pc := 884) 0 rfl dL_law_884 ?_
            refine g_i2l hC (pc := 886) dL_law_886 ?_
            refine g_lcmp hC (pc := 887) dL_law_887 ?_
            refine g_if_eq hC (pc := 888) 893 h (by decide) dL_law_888 (fun h => ?_) (fun h => ?_)
            · exact g_sub [2, 3, 4, 5, 6, 7] rfl (w_L_law_893 hC hK hX hJ28 h)
            · refine g_iconst hC (pc := 891) (v := (0 : Int32)) (by decide) dL_law_891 ?_
              exact g_zret hC (pc := 892) rfl (hK _ _ h) dL_law_892
        · refine g_iconst hC (pc := 874) (v := (0 : Int32)) (by decide) dL_law_874 ?_
          exact g_zret hC (pc := 875) rfl (hK _ _ h) dL_law_875
      by_cases e10 : (i3 &&& (63 : Int32)) = (10 : Int32)
      · refine g_tableIn hC (pc := 44) 896 (by rw [e10]; decide) (by rw [e10]; decide) (by rw [e10]; rfl) (by decide) dL_law_44 ?_
        replace h := h.2.2.2.2.2.2.2.2.2.2.1 e10
        refine g_aload_n hC (pc := 896) 1 rfl rfl dL_law_896 ?_
        refine g_aload_n hC (pc := 897) 0 rfl rfl dL_law_897 ?_
        refine g_iload hC (pc := 898) 5 rfl dL_law_898 ?_
        refine g_iconst hC (pc := 900) (v := (1 : Int32)) (by decide) dL_law_900 ?_
        refine g_iadd hC (pc := 901) dL_law_901 ?_
        refine g_aldI hC (pc := 902) h dL_law_902 (fun i102 h => ?_)
        refine g_aload_n hC (pc := 903) 3 rfl rfl dL_law_903 ?_
        refine g_callSW hC (pc := 904) (b := 0) (As := [vQ (some t1), vI i102, vQ (some t3)]) gc_X0_spend (m_X0_spend hC.fl h) q1607 q1608 (gle rfl) (gle rfl) rfl (gle rfl) rfl dL_law_904 (gk_i fun r104 G103 h => ?_) (fun _ _ h hio => g_out0 hC (hX _ _ h) hio)
        refine g_istore hC (pc := 907) (lv' := [(6, vI r104), (0, vQ (some c1)), (1, vQ (some t1)), (2, vQ (some t2)), (3, vQ (some t3)), (4, vQ (some t4)), (5, vI x5)]) (by decide) rfl dL_law_907 ?_
        refine g_aload_n hC (pc := 909) 3 rfl rfl dL_law_909 ?_
        refine g_aload_n hC (pc := 910) 1 rfl rfl dL_law_910 ?_
        refine g_iload hC (pc := 911) 6 rfl dL_law_911 ?_
        refine g_iconst hC (pc := 913) (v := (1 : Int32)) (by decide) dL_law_913 ?_
        refine g_iadd hC (pc := 914) dL_law_914 ?_
        refine g_aldI hC (pc := 915) h dL_law_915 (fun i105 h => ?_)
        obtain ⟨hi, h⟩ := h
        refine g_callV hC (pc := 916) (ci := 0) (As := [vI i105]) gc_X3_spend (m_X3_spend hC.fl h) rfl hi q2696 q2697 q2698 (gle rfl) (gle rfl) rfl (gle rfl) rfl dL_law_916 (gk_i fun r107 G106 h => ?_) (fun _ _ h hio => g_out0 hC (hX _ _ h) hio)
        refine g_istore hC (pc := 919) (lv' := [(7, vI r107), (6, vI r104), (0, vQ (some c1)), (1, vQ (some t1)), (2, vQ (some t2)), (3, vQ (some t3)), (4, vQ (some t4)), (5, vI x5)]) (by decide) rfl dL_law_919 ?_
        refine g_aload_n hC (pc := 921) 4 rfl rfl dL_law_921 ?_
        obtain ⟨hi, h⟩ := h
        refine g_callV hC (pc := 922) (ci := 0) (As := []) gc_X3_thrown (m_X3_thrown hC.fl h) rfl hi q2538 q2539 q2540 (gle rfl) (gle rfl) rfl (gle rfl) rfl dL_law_922 (gk_i fun r109 G108 h => ?_) (fun _ _ h hio => g_out0 hC (hX _ _ h) hio)
        refine g_iload hC (pc := 925) 1 rfl dL_law_925 ?_
        refine g_icmp_eq hC (pc := 927) 932 h (by decide) dL_law_927 (fun h => ?_) (fun h => ?_)
        · refine g_iload hC (pc := 932) 1 rfl dL_law_932 ?_
          refine g_if_ne hC (pc := 934) 949 h (by decide) dL_law_934 (fun h => ?_) (fun h => ?_)
          · exact g_sub [2, 3, 4, 5, 6, 7] rfl (w_L_law_949 hC hK hX hJ28 h)
          · refine g_aload_n hC (pc := 937) 5 rfl rfl dL_law_937 ?_
            refine g_iconst hC (pc := 938) (v := (0 : Int32)) (by decide) dL_law_938 ?_
            refine g_aldL hC (pc := 939) h dL_law_939 (fun i110 h => ?_)
            refine g_iload hC (pc := 940) 0 rfl dL_law_940 ?_
            refine g_i2l hC (pc := 942) dL_law_942 ?_
            refine g_lcmp hC (pc := 943) dL_law_943 ?_
            refine g_if_eq hC (pc := 944) 949 h (by decide) dL_law_944 (fun h => ?_) (fun h => ?_)
            · exact g_sub [2, 3, 4, 5, 6, 7] rfl (w_L_law_949 hC hK hX hJ28 h)
            · refine g_iconst hC (pc := 947) (v := (0 : Int32)) (by decide) dL_law_947 ?_
              exact g_zret hC (pc := 948) rfl (hK _ _ h) dL_law_948
        · refine g_iconst hC (pc := 930) (v := (0 : Int32)) (by decide) dL_law_930 ?_
          exact g_zret hC (pc := 931) rfl (hK _ _ h) dL_law_931
      by_cases e11 : (i3 &&& (63 : Int32)) = (11 : Int32)
      · refine g_tableIn hC (pc := 44) 952 (by rw [e11]; decide) (by rw [e11]; decide) (by rw [e11]; rfl) (by decide) dL_law_44 ?_
        replace h := h.2.2.2.2.2.2.2.2.2.2.2.1 e11
        refine g_aload_n hC (pc := 952) 1 rfl rfl dL_law_952 ?_
        refine g_aload_n hC (pc := 953) 0 rfl rfl dL_law_953 ?_
        refine g_iload hC (pc := 954) 5 rfl dL_law_954 ?_
        refine g_iconst hC (pc := 956) (v := (1 : Int32)) (by decide) dL_law_956 ?_
        refine g_iadd hC (pc := 957) dL_law_957 ?_
        refine g_aldI hC (pc := 958) h dL_law_958 (fun i111 h => ?_)
        refine g_aload_n hC (pc := 959) 3 rfl rfl dL_law_959 ?_
        refine g_callSW hC (pc := 960) (b := 0) (As := [vQ (some t1), vI i111, vQ (some t3)]) gc_X0_passNights (m_X0_passNights hC.fl h) q1620 q1621 (gle rfl) (gle rfl) rfl (gle rfl) rfl dL_law_960 (gk_i fun r113 G112 h => ?_) (fun _ _ h hio => g_out0 hC (hX _ _ h) hio)
        refine g_istore hC (pc := 963) (lv' := [(6, vI r113), (0, vQ (some c1)), (1, vQ (some t1)), (2, vQ (some t2)), (3, vQ (some t3)), (4, vQ (some t4)), (5, vI x5)]) (by decide) rfl dL_law_963 ?_
        refine g_aload_n hC (pc := 965) 3 rfl rfl dL_law_965 ?_
        refine g_aload_n hC (pc := 966) 1 rfl rfl dL_law_966 ?_
        refine g_iload hC (pc := 967) 6 rfl dL_law_967 ?_
        refine g_iconst hC (pc := 969) (v := (1 : Int32)) (by decide) dL_law_969 ?_
        refine g_iadd hC (pc := 970) dL_law_970 ?_
        refine g_aldI hC (pc := 971) h dL_law_971 (fun i114 h => ?_)
        obtain ⟨hi, h⟩ := h
        refine g_callV hC (pc := 972) (ci := 0) (As := [vI i114]) gc_X3_passNights (m_X3_passNights hC.fl h) rfl hi q2704 q2705 q2706 (gle rfl) (gle rfl) rfl (gle rfl) rfl dL_law_972 (gk_i fun r116 G115 h => ?_) (fun _ _ h hio => g_out0 hC (hX _ _ h) hio)
        refine g_istore hC (pc := 975) (lv' := [(7, vI r116), (6, vI r113), (0, vQ (some c1)), (1, vQ (some t1)), (2, vQ (some t2)), (3, vQ (some t3)), (4, vQ (some t4)), (5, vI x5)]) (by decide) rfl dL_law_975 ?_
        refine g_aload_n hC (pc := 977) 4 rfl rfl dL_law_977 ?_
        obtain ⟨hi, h⟩ := h
        refine g_callV hC (pc := 978) (ci := 0) (As := []) gc_X3_thrown (m_X3_thrown hC.fl h) rfl hi q2538 q2539 q2540 (gle rfl) (gle rfl) rfl (gle rfl) rfl dL_law_978 (gk_i fun r118 G117 h => ?_) (fun _ _ h hio => g_out0 hC (hX _ _ h) hio)
        refine g_iload hC (pc := 981) 1 rfl dL_law_981 ?_
        refine g_icmp_eq hC (pc := 983) 988 h (by decide) dL_law_983 (fun h => ?_) (fun h => ?_)
        · refine g_iload hC (pc := 988) 1 rfl dL_law_988 ?_
          refine g_if_ne hC (pc := 990) 1005 h (by decide) dL_law_990 (fun h => ?_) (fun h => ?_)
          · exact g_sub [2, 3, 4, 5, 6, 7] rfl (w_L_law_1005 hC hK hX hJ28 h)
          · refine g_aload_n hC (pc := 993) 5 rfl rfl dL_law_993 ?_
            refine g_iconst hC (pc := 994) (v := (0 : Int32)) (by decide) dL_law_994 ?_
            refine g_aldL hC (pc := 995) h dL_law_995 (fun i119 h => ?_)
            refine g_iload hC (pc := 996) 0 rfl dL_law_996 ?_
            refine g_i2l hC (pc := 998) dL_law_998 ?_
            refine g_lcmp hC (pc := 999) dL_law_999 ?_
            refine g_if_eq hC (pc := 1000) 1005 h (by decide) dL_law_1000 (fun h => ?_) (fun h => ?_)
            · exact g_sub [2, 3, 4, 5, 6, 7] rfl (w_L_law_1005 hC hK hX hJ28 h)
            · refine g_iconst hC (pc := 1003) (v := (0 : Int32)) (by decide) dL_law_1003 ?_
              exact g_zret hC (pc := 1004) rfl (hK _ _ h) dL_law_1004
        · refine g_iconst hC (pc := 986) (v := (0 : Int32)) (by decide) dL_law_986 ?_
          exact g_zret hC (pc := 987) rfl (hK _ _ h) dL_law_987
      by_cases e12 : (i3 &&& (63 : Int32)) = (12 : Int32)
      · refine g_tableIn hC (pc := 44) 1008 (by rw [e12]; decide) (by rw [e12]; decide) (by rw [e12]; rfl) (by decide) dL_law_44 ?_
        replace h := h.2.2.2.2.2.2.2.2.2.2.2.2.1 e12
        refine g_aload_n hC (pc := 1008) 1 rfl rfl dL_law_1008 ?_
        refine g_aload_n hC (pc := 1009) 0 rfl rfl dL_law_1009 ?_
        refine g_iload hC (pc := 1010) 5 rfl dL_law_1010 ?_
        refine g_iconst hC (pc := 1012) (v := (1 : Int32)) (by decide) dL_law_1012 ?_
        refine g_iadd hC (pc := 1013) dL_law_1013 ?_
        refine g_aldI hC (pc := 1014) h dL_law_1014 (fun i120 h => ?_)
        refine g_aload_n hC (pc := 1015) 3 rfl rfl dL_law_1015 ?_
        refine g_callSW hC (pc := 1016) (b := 0) (As := [vQ (some t1), vI i120, vQ (some t3)]) gc_X0_dust (m_X0_dust hC.fl h) q1706 q1707 (gle rfl) (gle rfl) rfl (gle rfl) rfl dL_law_1016 (gk_i fun r122 G121 h => ?_) (fun _ _ h hio => g_out0 hC (hX _ _ h) hio)
        refine g_istore hC (pc := 1019) (lv' := [(6, vI r122), (0, vQ (some c1)), (1, vQ (some t1)), (2, vQ (some t2)), (3, vQ (some t3)), (4, vQ (some t4)), (5, vI x5)]) (by decide) rfl dL_law_1019 ?_
        refine g_aload_n hC (pc := 1021) 3 rfl rfl dL_law_1021 ?_
        refine g_aload_n hC (pc := 1022) 1 rfl rfl dL_law_1022 ?_
        refine g_iload hC (pc := 1023) 6 rfl dL_law_1023 ?_
        refine g_iconst hC (pc := 1025) (v := (1 : Int32)) (by decide) dL_law_1025 ?_
        refine g_iadd hC (pc := 1026) dL_law_1026 ?_
        refine g_aldI hC (pc := 1027) h dL_law_1027 (fun i123 h => ?_)
        obtain ⟨hi, h⟩ := h
        refine g_callV hC (pc := 1028) (ci := 0) (As := [vI i123]) gc_X3_dust (m_X3_dust hC.fl h) rfl hi q2737 q2738 q2739 (gle rfl) (gle rfl) rfl (gle rfl) rfl dL_law_1028 (gk_i fun r125 G124 h => ?_) (fun _ _ h hio => g_out0 hC (hX _ _ h) hio)
        refine g_istore hC (pc := 1031) (lv' := [(7, vI r125), (6, vI r122), (0, vQ (some c1)), (1, vQ (some t1)), (2, vQ (some t2)), (3, vQ (some t3)), (4, vQ (some t4)), (5, vI x5)]) (by decide) rfl dL_law_1031 ?_
        refine g_aload_n hC (pc := 1033) 4 rfl rfl dL_law_1033 ?_
        obtain ⟨hi, h⟩ := h
        refine g_callV hC (pc := 1034) (ci := 0) (As := []) gc_X3_thrown (m_X3_thrown hC.fl h) rfl hi q2538 q2539 q2540 (gle rfl) (gle rfl) rfl (gle rfl) rfl dL_law_1034 (gk_i fun r127 G126 h => ?_) (fun _ _ h hio => g_out0 hC (hX _ _ h) hio)
        refine g_iload hC (pc := 1037) 1 rfl dL_law_1037 ?_
        refine g_icmp_eq hC (pc := 1039) 1044 h (by decide) dL_law_1039 (fun h => ?_) (fun h => ?_)
        · refine g_iload hC (pc := 1044) 1 rfl dL_law_1044 ?_
          refine g_if_ne hC (pc := 1046) 1061 h (by decide) dL_law_1046 (fun h => ?_) (fun h => ?_)
          · exact g_sub [2, 3, 4, 5, 6, 7] rfl (w_L_law_1061 hC hK hX hJ28 h)
          · refine g_aload_n hC (pc := 1049) 5 rfl rfl dL_law_1049 ?_
            refine g_iconst hC (pc := 1050) (v := (0 : Int32)) (by decide) dL_law_1050 ?_
            refine g_aldL hC (pc := 1051) h dL_law_1051 (fun i128 h => ?_)
            refine g_iload hC (pc := 1052) 0 rfl dL_law_1052 ?_
            refine g_i2l hC (pc := 1054) dL_law_1054 ?_
            refine g_lcmp hC (pc := 1055) dL_law_1055 ?_
            refine g_if_eq hC (pc := 1056) 1061 h (by decide) dL_law_1056 (fun h => ?_) (fun h => ?_)
            · exact g_sub [2, 3, 4, 5, 6, 7] rfl (w_L_law_1061 hC hK hX hJ28 h)
            · refine g_iconst hC (pc := 1059) (v := (0 : Int32)) (by decide) dL_law_1059 ?_
              exact g_zret hC (pc := 1060) rfl (hK _ _ h) dL_law_1060
        · refine g_iconst hC (pc := 1042) (v := (0 : Int32)) (by decide) dL_law_1042 ?_
          exact g_zret hC (pc := 1043) rfl (hK _ _ h) dL_law_1043
      by_cases e13 : (i3 &&& (63 : Int32)) = (13 : Int32)
      · refine g_tableIn hC (pc := 44) 1064 (by rw [e13]; decide) (by rw [e13]; decide) (by rw [e13]; rfl) (by decide) dL_law_44 ?_
        replace h := h.2.2.2.2.2.2.2.2.2.2.2.2.2.1 e13
        refine g_aload_n hC (pc := 1064) 1 rfl rfl dL_law_1064 ?_
        refine g_aload_n hC (pc := 1065) 0 rfl rfl dL_law_1065 ?_
        refine g_iload hC (pc := 1066) 5 rfl dL_law_1066 ?_
        refine g_iconst hC (pc := 1068) (v := (1 : Int32)) (by decide) dL_law_1068 ?_
        refine g_iadd hC (pc := 1069) dL_law_1069 ?_
        refine g_aldI hC (pc := 1070) h dL_law_1070 (fun i129 h => ?_)
        refine g_aload_n hC (pc := 1071) 3 rfl rfl dL_law_1071 ?_
        refine g_callSW hC (pc := 1072) (b := 0) (As := [vQ (some t1), vI i129, vQ (some t3)]) gc_X0_roomByDust (m_X0_roomByDust hC.fl h) q1719 q1720 (gle rfl) (gle rfl) rfl (gle rfl) rfl dL_law_1072 (gk_i fun r131 G130 h => ?_) (fun _ _ h hio => g_out0 hC (hX _ _ h) hio)
        refine g_istore hC (pc := 1075) (lv' := [(6, vI r131), (0, vQ (some c1)), (1, vQ (some t1)), (2, vQ (some t2)), (3, vQ (some t3)), (4, vQ (some t4)), (5, vI x5)]) (by decide) rfl dL_law_1075 ?_
        refine g_aload_n hC (pc := 1077) 3 rfl rfl dL_law_1077 ?_
        refine g_aload_n hC (pc := 1078) 1 rfl rfl dL_law_1078 ?_
        refine g_iload hC (pc := 1079) 6 rfl dL_law_1079 ?_
        refine g_iconst hC (pc := 1081) (v := (1 : Int32)) (by decide) dL_law_1081 ?_
        refine g_iadd hC (pc := 1082) dL_law_1082 ?_
        refine g_aldI hC (pc := 1083) h dL_law_1083 (fun i132 h => ?_)
        obtain ⟨hi, h⟩ := h
        refine g_callV hC (pc := 1084) (ci := 0) (As := [vI i132]) gc_X3_roomByDust (m_X3_roomByDust hC.fl h) rfl hi q2741 q2742 q2743 (gle rfl) (gle rfl) rfl (gle rfl) rfl dL_law_1084 (gk_i fun r134 G133 h => ?_) (fun _ _ h hio => g_out0 hC (hX _ _ h) hio)
        refine g_istore hC (pc := 1087) (lv' := [(7, vI r134), (6, vI r131), (0, vQ (some c1)), (1, vQ (some t1)), (2, vQ (some t2)), (3, vQ (some t3)), (4, vQ (some t4)), (5, vI x5)]) (by decide) rfl dL_law_1087 ?_
        refine g_aload_n hC (pc := 1089) 4 rfl rfl dL_law_1089 ?_
        obtain ⟨hi, h⟩ := h
        refine g_callV hC (pc := 1090) (ci := 0) (As := []) gc_X3_thrown (m_X3_thrown hC.fl h) rfl hi q2538 q2539 q2540 (gle rfl) (gle rfl) rfl (gle rfl) rfl dL_law_1090 (gk_i fun r136 G135 h => ?_) (fun _ _ h hio => g_out0 hC (hX _ _ h) hio)
        refine g_iload hC (pc := 1093) 1 rfl dL_law_1093 ?_
        refine g_icmp_eq hC (pc := 1095) 1100 h (by decide) dL_law_1095 (fun h => ?_) (fun h => ?_)
        · refine g_iload hC (pc := 1100) 1 rfl dL_law_1100 ?_
          refine g_if_ne hC (pc := 1102) 1117 h (by decide) dL_law_1102 (fun h => ?_) (fun h => ?_)
          · exact g_sub [2, 3, 4, 5, 6, 7] rfl (w_L_law_1117 hC hK hX hJ28 h)
          · refine g_aload_n hC (pc := 1105) 5 rfl rfl dL_law_1105 ?_
            refine g_iconst hC (pc := 1106) (v := (0 : Int32)) (by decide) dL_law_1106 ?_
            refine g_aldL hC (pc := 1107) h dL_law_1107 (fun i137 h => ?_)
            refine g_iload hC (pc := 1108) 0 rfl dL_law_1108 ?_
            refine g_i2l hC (pc := 1110) dL_law_1110 ?_
            refine g_lcmp hC (pc := 1111) dL_law_1111 ?_
            refine g_if_eq hC (pc := 1112) 1117 h (by decide) dL_law_1112 (fun h => ?_) (fun h => ?_)
            · exact g_sub [2, 3, 4, 5, 6, 7] rfl (w_L_law_1117 hC hK hX hJ28 h)
            · refine g_iconst hC (pc := 1115) (v := (0 : Int32)) (by decide) dL_law_1115 ?_
              exact g_zret hC (pc := 1116) rfl (hK _ _ h) dL_law_1116
        · refine g_iconst hC (pc := 1098) (v := (0 : Int32)) (by decide) dL_law_1098 ?_
          exact g_zret hC (pc := 1099) rfl (hK _ _ h) dL_law_1099
      by_cases e14 : (i3 &&& (63 : Int32)) = (14 : Int32)
      · refine g_tableIn hC (pc := 44) 1120 (by rw [e14]; decide) (by rw [e14]; decide) (by rw [e14]; rfl) (by decide) dL_law_44 ?_
        replace h := h.2.2.2.2.2.2.2.2.2.2.2.2.2.2.1 e14
        refine g_aload_n hC (pc := 1120) 1 rfl rfl dL_law_1120 ?_
        obtain ⟨hi, h⟩ := h
        refine g_callV hC (pc := 1121) (ci := 1) (As := []) gc_X1_broomCount (m_X1_broomCount hC.fl h) rfl hi q314 q315 q316 (gle rfl) (gle rfl) rfl (gle rfl) rfl dL_law_1121 (gk_i fun r139 G138 h => ?_) (fun _ _ h hio => g_out0 hC (hX _ _ h) hio)
        refine g_aload_n hC (pc := 1124) 2 rfl rfl dL_law_1124 ?_
        obtain ⟨hi, h⟩ := h
        refine g_callV hC (pc := 1125) (ci := 0) (As := []) gc_X3_broomCount (m_X3_broomCount hC.fl h) rfl hi q2745 q2746 q2747 (gle rfl) (gle rfl) rfl (gle rfl) rfl dL_law_1125 (gk_i fun r141 G140 h => ?_) (fun _ _ h hio => g_out0 hC (hX _ _ h) hio)
        refine g_icmp_eq hC (pc := 1128) 2889 h (by decide) dL_law_1128 (fun h => ?_) (fun h => ?_)
        · exact g_sub [0, 1, 2, 3, 4, 5] rfl (w_L_law_2889 hC hK hX hJ28 h)
        · refine g_iconst hC (pc := 1131) (v := (0 : Int32)) (by decide) dL_law_1131 ?_
          exact g_zret hC (pc := 1132) rfl (hK _ _ h) dL_law_1132
      by_cases e15 : (i3 &&& (63 : Int32)) = (15 : Int32)
      · refine g_tableIn hC (pc := 44) 1133 (by rw [e15]; decide) (by rw [e15]; decide) (by rw [e15]; rfl) (by decide) dL_law_44 ?_
        replace h := h.2.2.2.2.2.2.2.2.2.2.2.2.2.2.2.1 e15
        refine g_aload_n hC (pc := 1133) 1 rfl rfl dL_law_1133 ?_
        refine g_aload_n hC (pc := 1134) 0 rfl rfl dL_law_1134 ?_
        refine g_iload hC (pc := 1135) 5 rfl dL_law_1135 ?_
        refine g_iconst hC (pc := 1137) (v := (1 : Int32)) (by decide) dL_law_1137 ?_
        refine g_iadd hC (pc := 1138) dL_law_1138 ?_
        refine g_aldI hC (pc := 1139) h dL_law_1139 (fun i142 h => ?_)
        refine g_aload_n hC (pc := 1140) 3 rfl rfl dL_law_1140 ?_
        refine g_callSW hC (pc := 1141) (b := 0) (As := [vQ (some t1), vI i142, vQ (some t3)]) gc_X0_power (m_X0_power hC.fl h) q1738 q1739 (gle rfl) (gle rfl) rfl (gle rfl) rfl dL_law_1141 (gk_i fun r144 G143 h => ?_) (fun _ _ h hio => g_out0 hC (hX _ _ h) hio)
        refine g_istore hC (pc := 1144) (lv' := [(6, vI r144), (0, vQ (some c1)), (1, vQ (some t1)), (2, vQ (some t2)), (3, vQ (some t3)), (4, vQ (some t4)), (5, vI x5)]) (by decide) rfl dL_law_1144 ?_
        refine g_aload_n hC (pc := 1146) 3 rfl rfl dL_law_1146 ?_
        refine g_aload_n hC (pc := 1147) 1 rfl rfl dL_law_1147 ?_
        refine g_iload hC (pc := 1148) 6 rfl dL_law_1148 ?_
        refine g_iconst hC (pc := 1150) (v := (1 : Int32)) (by decide) dL_law_1150 ?_
        refine g_iadd hC (pc := 1151) dL_law_1151 ?_
        refine g_aldI hC (pc := 1152) h dL_law_1152 (fun i145 h => ?_)
        obtain ⟨hi, h⟩ := h
        refine g_callV hC (pc := 1153) (ci := 0) (As := [vI i145]) gc_X3_power (m_X3_power hC.fl h) rfl hi q2749 q2750 q2751 (gle rfl) (gle rfl) rfl (gle rfl) rfl dL_law_1153 (gk_i fun r147 G146 h => ?_) (fun _ _ h hio => g_out0 hC (hX _ _ h) hio)
        refine g_istore hC (pc := 1156) (lv' := [(7, vI r147), (6, vI r144), (0, vQ (some c1)), (1, vQ (some t1)), (2, vQ (some t2)), (3, vQ (some t3)), (4, vQ (some t4)), (5, vI x5)]) (by decide) rfl dL_law_1156 ?_
        refine g_aload_n hC (pc := 1158) 4 rfl rfl dL_law_1158 ?_
        obtain ⟨hi, h⟩ := h
        refine g_callV hC (pc := 1159) (ci := 0) (As := []) gc_X3_thrown (m_X3_thrown hC.fl h) rfl hi q2538 q2539 q2540 (gle rfl) (gle rfl) rfl (gle rfl) rfl dL_law_1159 (gk_i fun r149 G148 h => ?_) (fun _ _ h hio => g_out0 hC (hX _ _ h) hio)
        refine g_iload hC (pc := 1162) 1 rfl dL_law_1162 ?_
        refine g_icmp_eq hC (pc := 1164) 1169 h (by decide) dL_law_1164 (fun h => ?_) (fun h => ?_)
        · refine g_iload hC (pc := 1169) 1 rfl dL_law_1169 ?_
          refine g_if_ne hC (pc := 1171) 1186 h (by decide) dL_law_1171 (fun h => ?_) (fun h => ?_)
          · exact g_sub [2, 3, 4, 5, 6, 7] rfl (w_L_law_1186 hC hK hX hJ28 h)
          · refine g_aload_n hC (pc := 1174) 5 rfl rfl dL_law_1174 ?_
            refine g_iconst hC (pc := 1175) (v := (0 : Int32)) (by decide) dL_law_1175 ?_
            refine g_aldL hC (pc := 1176) h dL_law_1176 (fun i150 h => ?_)
            refine g_iload hC (pc := 1177) 0 rfl dL_law_1177 ?_
            refine g_i2l hC (pc := 1179) dL_law_1179 ?_
            refine g_lcmp hC (pc := 1180) dL_law_1180 ?_
            refine g_if_eq hC (pc := 1181) 1186 h (by decide) dL_law_1181 (fun h => ?_) (fun h => ?_)
            · exact g_sub [2, 3, 4, 5, 6, 7] rfl (w_L_law_1186 hC hK hX hJ28 h)
            · refine g_iconst hC (pc := 1184) (v := (0 : Int32)) (by decide) dL_law_1184 ?_
              exact g_zret hC (pc := 1185) rfl (hK _ _ h) dL_law_1185
        · refine g_iconst hC (pc := 1167) (v := (0 : Int32)) (by decide) dL_law_1167 ?_
          exact g_zret hC (pc := 1168) rfl (hK _ _ h) dL_law_1168
      by_cases e16 : (i3 &&& (63 : Int32)) = (16 : Int32)
      · refine g_tableIn hC (pc := 44) 1189 (by rw [e16]; decide) (by rw [e16]; decide) (by rw [e16]; rfl) (by decide) dL_law_44 ?_
        replace h := h.2.2.2.2.2.2.2.2.2.2.2.2.2.2.2.2.1 e16
        refine g_aload_n hC (pc := 1189) 1 rfl rfl dL_law_1189 ?_
        refine g_aload_n hC (pc := 1190) 0 rfl rfl dL_law_1190 ?_
        refine g_iload hC (pc := 1191) 5 rfl dL_law_1191 ?_
        refine g_iconst hC (pc := 1193) (v := (1 : Int32)) (by decide) dL_law_1193 ?_
        refine g_iadd hC (pc := 1194) dL_law_1194 ?_
        refine g_aldI hC (pc := 1195) h dL_law_1195 (fun i151 h => ?_)
        refine g_aload_n hC (pc := 1196) 3 rfl rfl dL_law_1196 ?_
        refine g_callSW hC (pc := 1197) (b := 0) (As := [vQ (some t1), vI i151, vQ (some t3)]) gc_X0_isBanished (m_X0_isBanished hC.fl h) q1751 q1752 (gle rfl) (gle rfl) rfl (gle rfl) rfl dL_law_1197 (gk_i fun r153 G152 h => ?_) (fun _ _ h hio => g_out0 hC (hX _ _ h) hio)
        refine g_istore hC (pc := 1200) (lv' := [(6, vI r153), (0, vQ (some c1)), (1, vQ (some t1)), (2, vQ (some t2)), (3, vQ (some t3)), (4, vQ (some t4)), (5, vI x5)]) (by decide) rfl dL_law_1200 ?_
        refine g_aload_n hC (pc := 1202) 3 rfl rfl dL_law_1202 ?_
        refine g_aload_n hC (pc := 1203) 1 rfl rfl dL_law_1203 ?_
        refine g_iload hC (pc := 1204) 6 rfl dL_law_1204 ?_
        refine g_iconst hC (pc := 1206) (v := (1 : Int32)) (by decide) dL_law_1206 ?_
        refine g_iadd hC (pc := 1207) dL_law_1207 ?_
        refine g_aldI hC (pc := 1208) h dL_law_1208 (fun i154 h => ?_)
        obtain ⟨hi, h⟩ := h
        refine g_callV hC (pc := 1209) (ci := 0) (As := [vI i154]) gc_X3_isBanished (m_X3_isBanished hC.fl h) rfl hi q2753 q2754 q2755 (gle rfl) (gle rfl) rfl (gle rfl) rfl dL_law_1209 (gk_i fun r156 G155 h => ?_) (fun _ _ h hio => g_out0 hC (hX _ _ h) hio)
        refine g_istore hC (pc := 1212) (lv' := [(7, vI r156), (6, vI r153), (0, vQ (some c1)), (1, vQ (some t1)), (2, vQ (some t2)), (3, vQ (some t3)), (4, vQ (some t4)), (5, vI x5)]) (by decide) rfl dL_law_1212 ?_
        refine g_aload_n hC (pc := 1214) 4 rfl rfl dL_law_1214 ?_
        obtain ⟨hi, h⟩ := h
        refine g_callV hC (pc := 1215) (ci := 0) (As := []) gc_X3_thrown (m_X3_thrown hC.fl h) rfl hi q2538 q2539 q2540 (gle rfl) (gle rfl) rfl (gle rfl) rfl dL_law_1215 (gk_i fun r158 G157 h => ?_) (fun _ _ h hio => g_out0 hC (hX _ _ h) hio)
        refine g_iload hC (pc := 1218) 1 rfl dL_law_1218 ?_
        refine g_icmp_eq hC (pc := 1220) 1225 h (by decide) dL_law_1220 (fun h => ?_) (fun h => ?_)
        · refine g_iload hC (pc := 1225) 1 rfl dL_law_1225 ?_
          refine g_if_ne hC (pc := 1227) 1249 h (by decide) dL_law_1227 (fun h => ?_) (fun h => ?_)
          · exact g_sub [2, 3, 4, 5, 6, 7] rfl (w_L_law_1249 hC hK hX hJ28 h)
          · refine g_aload_n hC (pc := 1230) 5 rfl rfl dL_law_1230 ?_
            refine g_iconst hC (pc := 1231) (v := (0 : Int32)) (by decide) dL_law_1231 ?_
            refine g_aldL hC (pc := 1232) h dL_law_1232 (fun i159 h => ?_)
            refine g_iload hC (pc := 1233) 0 rfl dL_law_1233 ?_
            refine g_if_eq hC (pc := 1235) 1242 h (by decide) dL_law_1235 (fun h => ?_) (fun h => ?_)
            · refine g_lconst hC (pc := 1242) (v := (0 : Int64)) (by decide) dL_law_1242 ?_
              exact g_sub [2, 3, 4, 5, 6, 7] rfl (w_L_law_1243 hC hK hX hJ28 h)
            · refine g_lconst hC (pc := 1238) (v := (1 : Int64)) (by decide) dL_law_1238 ?_
              refine g_goto hC (pc := 1239) 1243 (by decide) dL_law_1239 ?_
              exact g_sub [2, 3, 4, 5, 6, 7] rfl (w_L_law_1243 hC hK hX hJ28 h)
        · refine g_iconst hC (pc := 1223) (v := (0 : Int32)) (by decide) dL_law_1223 ?_
          exact g_zret hC (pc := 1224) rfl (hK _ _ h) dL_law_1224
      by_cases e17 : (i3 &&& (63 : Int32)) = (17 : Int32)
      · refine g_tableIn hC (pc := 44) 1252 (by rw [e17]; decide) (by rw [e17]; decide) (by rw [e17]; rfl) (by decide) dL_law_44 ?_
        replace h := h.2.2.2.2.2.2.2.2.2.2.2.2.2.2.2.2.2.1 e17
        refine g_aload_n hC (pc := 1252) 1 rfl rfl dL_law_1252 ?_
        obtain ⟨hi, h⟩ := h
        refine g_callV hC (pc := 1253) (ci := 1) (As := []) gc_X1_goblinCount (m_X1_goblinCount hC.fl h) rfl hi q334 q335 q336 (gle rfl) (gle rfl) rfl (gle rfl) rfl dL_law_1253 (gk_i fun r161 G160 h => ?_) (fun _ _ h hio => g_out0 hC (hX _ _ h) hio)
        refine g_aload_n hC (pc := 1256) 2 rfl rfl dL_law_1256 ?_
        obtain ⟨hi, h⟩ := h
        refine g_callV hC (pc := 1257) (ci := 0) (As := []) gc_X3_goblinCount (m_X3_goblinCount hC.fl h) rfl hi q2757 q2758 q2759 (gle rfl) (gle rfl) rfl (gle rfl) rfl dL_law_1257 (gk_i fun r163 G162 h => ?_) (fun _ _ h hio => g_out0 hC (hX _ _ h) hio)
        refine g_icmp_eq hC (pc := 1260) 2889 h (by decide) dL_law_1260 (fun h => ?_) (fun h => ?_)
        · exact g_sub [0, 1, 2, 3, 4, 5] rfl (w_L_law_2889 hC hK hX hJ28 h)
        · refine g_iconst hC (pc := 1263) (v := (0 : Int32)) (by decide) dL_law_1263 ?_
          exact g_zret hC (pc := 1264) rfl (hK _ _ h) dL_law_1264
      by_cases e18 : (i3 &&& (63 : Int32)) = (18 : Int32)
      · refine g_tableIn hC (pc := 44) 1265 (by rw [e18]; decide) (by rw [e18]; decide) (by rw [e18]; rfl) (by decide) dL_law_44 ?_
        replace h := h.2.2.2.2.2.2.2.2.2.2.2.2.2.2.2.2.2.2.1 e18
        refine g_aload_n hC (pc := 1265) 1 rfl rfl dL_law_1265 ?_
        refine g_aload_n hC (pc := 1266) 0 rfl rfl dL_law_1266 ?_
        refine g_iload hC (pc := 1267) 5 rfl dL_law_1267 ?_
        refine g_iconst hC (pc := 1269) (v := (1 : Int32)) (by decide) dL_law_1269 ?_
        refine g_iadd hC (pc := 1270) dL_law_1270 ?_
        refine g_aldI hC (pc := 1271) h dL_law_1271 (fun i164 h => ?_)
        refine g_aload_n hC (pc := 1272) 3 rfl rfl dL_law_1272 ?_
        refine g_callSW hC (pc := 1273) (b := 0) (As := [vQ (some t1), vI i164, vQ (some t3)]) gc_X0_strength (m_X0_strength hC.fl h) q1759 q1760 (gle rfl) (gle rfl) rfl (gle rfl) rfl dL_law_1273 (gk_i fun r166 G165 h => ?_) (fun _ _ h hio => g_out0 hC (hX _ _ h) hio)
        refine g_istore hC (pc := 1276) (lv' := [(6, vI r166), (0, vQ (some c1)), (1, vQ (some t1)), (2, vQ (some t2)), (3, vQ (some t3)), (4, vQ (some t4)), (5, vI x5)]) (by decide) rfl dL_law_1276 ?_
        refine g_aload_n hC (pc := 1278) 3 rfl rfl dL_law_1278 ?_
        refine g_aload_n hC (pc := 1279) 1 rfl rfl dL_law_1279 ?_
        refine g_iload hC (pc := 1280) 6 rfl dL_law_1280 ?_
        refine g_iconst hC (pc := 1282) (v := (1 : Int32)) (by decide) dL_law_1282 ?_
        refine g_iadd hC (pc := 1283) dL_law_1283 ?_
        refine g_aldI hC (pc := 1284) h dL_law_1284 (fun i167 h => ?_)
        obtain ⟨hi, h⟩ := h
        refine g_callV hC (pc := 1285) (ci := 0) (As := [vI i167]) gc_X3_strength (m_X3_strength hC.fl h) rfl hi q2761 q2762 q2763 (gle rfl) (gle rfl) rfl (gle rfl) rfl dL_law_1285 (gk_i fun r169 G168 h => ?_) (fun _ _ h hio => g_out0 hC (hX _ _ h) hio)
        refine g_istore hC (pc := 1288) (lv' := [(7, vI r169), (6, vI r166), (0, vQ (some c1)), (1, vQ (some t1)), (2, vQ (some t2)), (3, vQ (some t3)), (4, vQ (some t4)), (5, vI x5)]) (by decide) rfl dL_law_1288 ?_
        refine g_aload_n hC (pc := 1290) 4 rfl rfl dL_law_1290 ?_
        obtain ⟨hi, h⟩ := h
        refine g_callV hC (pc := 1291) (ci := 0) (As := []) gc_X3_thrown (m_X3_thrown hC.fl h) rfl hi q2538 q2539 q2540 (gle rfl) (gle rfl) rfl (gle rfl) rfl dL_law_1291 (gk_i fun r171 G170 h => ?_) (fun _ _ h hio => g_out0 hC (hX _ _ h) hio)
        refine g_iload hC (pc := 1294) 1 rfl dL_law_1294 ?_
        refine g_icmp_eq hC (pc := 1296) 1301 h (by decide) dL_law_1296 (fun h => ?_) (fun h => ?_)
        · refine g_iload hC (pc := 1301) 1 rfl dL_law_1301 ?_
          refine g_if_ne hC (pc := 1303) 1318 h (by decide) dL_law_1303 (fun h => ?_) (fun h => ?_)
          · exact g_sub [2, 3, 4, 5, 6, 7] rfl (w_L_law_1318 hC hK hX hJ28 h)
          · refine g_aload_n hC (pc := 1306) 5 rfl rfl dL_law_1306 ?_
            refine g_iconst hC (pc := 1307) (v := (0 : Int32)) (by decide) dL_law_1307 ?_
            refine g_aldL hC (pc := 1308) h dL_law_1308 (fun i172 h => ?_)
            refine g_iload hC (pc := 1309) 0 rfl dL_law_1309 ?_
            refine g_i2l hC (pc := 1311) dL_law_1311 ?_
            refine g_lcmp hC (pc := 1312) dL_law_1312 ?_
            refine g_if_eq hC (pc := 1313) 1318 h (by decide) dL_law_1313 (fun h => ?_) (fun h => ?_)
            · exact g_sub [2, 3, 4, 5, 6, 7] rfl (w_L_law_1318 hC hK hX hJ28 h)
            · refine g_iconst hC (pc := 1316) (v := (0 : Int32)) (by decide) dL_law_1316 ?_
              exact g_zret hC (pc := 1317) rfl (hK _ _ h) dL_law_1317
        · refine g_iconst hC (pc := 1299) (v := (0 : Int32)) (by decide) dL_law_1299 ?_
          exact g_zret hC (pc := 1300) rfl (hK _ _ h) dL_law_1300
      by_cases e19 : (i3 &&& (63 : Int32)) = (19 : Int32)
      · refine g_tableIn hC (pc := 44) 1321 (by rw [e19]; decide) (by rw [e19]; decide) (by rw [e19]; rfl) (by decide) dL_law_44 ?_
        replace h := h.2.2.2.2.2.2.2.2.2.2.2.2.2.2.2.2.2.2.2.1 e19
        refine g_aload_n hC (pc := 1321) 1 rfl rfl dL_law_1321 ?_
        refine g_aload_n hC (pc := 1322) 0 rfl rfl dL_law_1322 ?_
        refine g_iload hC (pc := 1323) 5 rfl dL_law_1323 ?_
        refine g_iconst hC (pc := 1325) (v := (1 : Int32)) (by decide) dL_law_1325 ?_
        refine g_iadd hC (pc := 1326) dL_law_1326 ?_
        refine g_aldI hC (pc := 1327) h dL_law_1327 (fun i173 h => ?_)
        refine g_aload_n hC (pc := 1328) 3 rfl rfl dL_law_1328 ?_
        refine g_callSW hC (pc := 1329) (b := 0) (As := [vQ (some t1), vI i173, vQ (some t3)]) gc_X0_purse (m_X0_purse hC.fl h) q1772 q1773 (gle rfl) (gle rfl) rfl (gle rfl) rfl dL_law_1329 (gk_i fun r175 G174 h => ?_) (fun _ _ h hio => g_out0 hC (hX _ _ h) hio)
        refine g_istore hC (pc := 1332) (lv' := [(6, vI r175), (0, vQ (some c1)), (1, vQ (some t1)), (2, vQ (some t2)), (3, vQ (some t3)), (4, vQ (some t4)), (5, vI x5)]) (by decide) rfl dL_law_1332 ?_
        refine g_aload_n hC (pc := 1334) 3 rfl rfl dL_law_1334 ?_
        refine g_aload_n hC (pc := 1335) 1 rfl rfl dL_law_1335 ?_
        refine g_iload hC (pc := 1336) 6 rfl dL_law_1336 ?_
        refine g_iconst hC (pc := 1338) (v := (1 : Int32)) (by decide) dL_law_1338 ?_
        refine g_iadd hC (pc := 1339) dL_law_1339 ?_
        refine g_aldI hC (pc := 1340) h dL_law_1340 (fun i176 h => ?_)
        obtain ⟨hi, h⟩ := h
        refine g_callV hC (pc := 1341) (ci := 0) (As := [vI i176]) gc_X3_purse (m_X3_purse hC.fl h) rfl hi q2769 q2770 q2771 (gle rfl) (gle rfl) rfl (gle rfl) rfl dL_law_1341 (gk_i fun r178 G177 h => ?_) (fun _ _ h hio => g_out0 hC (hX _ _ h) hio)
        refine g_istore hC (pc := 1344) (lv' := [(7, vI r178), (6, vI r175), (0, vQ (some c1)), (1, vQ (some t1)), (2, vQ (some t2)), (3, vQ (some t3)), (4, vQ (some t4)), (5, vI x5)]) (by decide) rfl dL_law_1344 ?_
        refine g_aload_n hC (pc := 1346) 4 rfl rfl dL_law_1346 ?_
        obtain ⟨hi, h⟩ := h
        refine g_callV hC (pc := 1347) (ci := 0) (As := []) gc_X3_thrown (m_X3_thrown hC.fl h) rfl hi q2538 q2539 q2540 (gle rfl) (gle rfl) rfl (gle rfl) rfl dL_law_1347 (gk_i fun r180 G179 h => ?_) (fun _ _ h hio => g_out0 hC (hX _ _ h) hio)
        refine g_iload hC (pc := 1350) 1 rfl dL_law_1350 ?_
        refine g_icmp_eq hC (pc := 1352) 1357 h (by decide) dL_law_1352 (fun h => ?_) (fun h => ?_)
        · refine g_iload hC (pc := 1357) 1 rfl dL_law_1357 ?_
          refine g_if_ne hC (pc := 1359) 1374 h (by decide) dL_law_1359 (fun h => ?_) (fun h => ?_)
          · exact g_sub [2, 3, 4, 5, 6, 7] rfl (w_L_law_1374 hC hK hX hJ28 h)
          · refine g_aload_n hC (pc := 1362) 5 rfl rfl dL_law_1362 ?_
            refine g_iconst hC (pc := 1363) (v := (0 : Int32)) (by decide) dL_law_1363 ?_
            refine g_aldL hC (pc := 1364) h dL_law_1364 (fun i181 h => ?_)
            refine g_iload hC (pc := 1365) 0 rfl dL_law_1365 ?_
            refine g_i2l hC (pc := 1367) dL_law_1367 ?_
            refine g_lcmp hC (pc := 1368) dL_law_1368 ?_
            refine g_if_eq hC (pc := 1369) 1374 h (by decide) dL_law_1369 (fun h => ?_) (fun h => ?_)
            · exact g_sub [2, 3, 4, 5, 6, 7] rfl (w_L_law_1374 hC hK hX hJ28 h)
            · refine g_iconst hC (pc := 1372) (v := (0 : Int32)) (by decide) dL_law_1372 ?_
              exact g_zret hC (pc := 1373) rfl (hK _ _ h) dL_law_1373
        · refine g_iconst hC (pc := 1355) (v := (0 : Int32)) (by decide) dL_law_1355 ?_
          exact g_zret hC (pc := 1356) rfl (hK _ _ h) dL_law_1356
      by_cases e20 : (i3 &&& (63 : Int32)) = (20 : Int32)
      · refine g_tableIn hC (pc := 44) 1377 (by rw [e20]; decide) (by rw [e20]; decide) (by rw [e20]; rfl) (by decide) dL_law_44 ?_
        replace h := h.2.2.2.2.2.2.2.2.2.2.2.2.2.2.2.2.2.2.2.2.1 e20
        refine g_aload_n hC (pc := 1377) 1 rfl rfl dL_law_1377 ?_
        refine g_aload_n hC (pc := 1378) 0 rfl rfl dL_law_1378 ?_
        refine g_iload hC (pc := 1379) 5 rfl dL_law_1379 ?_
        refine g_iconst hC (pc := 1381) (v := (1 : Int32)) (by decide) dL_law_1381 ?_
        refine g_iadd hC (pc := 1382) dL_law_1382 ?_
        refine g_aldI hC (pc := 1383) h dL_law_1383 (fun i182 h => ?_)
        refine g_aload_n hC (pc := 1384) 3 rfl rfl dL_law_1384 ?_
        refine g_callSW hC (pc := 1385) (b := 0) (As := [vQ (some t1), vI i182, vQ (some t3)]) gc_X0_debt (m_X0_debt hC.fl h) q1780 q1781 (gle rfl) (gle rfl) rfl (gle rfl) rfl dL_law_1385 (gk_i fun r184 G183 h => ?_) (fun _ _ h hio => g_out0 hC (hX _ _ h) hio)
        refine g_istore hC (pc := 1388) (lv' := [(6, vI r184), (0, vQ (some c1)), (1, vQ (some t1)), (2, vQ (some t2)), (3, vQ (some t3)), (4, vQ (some t4)), (5, vI x5)]) (by decide) rfl dL_law_1388 ?_
        refine g_aload_n hC (pc := 1390) 3 rfl rfl dL_law_1390 ?_
        refine g_aload_n hC (pc := 1391) 1 rfl rfl dL_law_1391 ?_
        refine g_iload hC (pc := 1392) 6 rfl dL_law_1392 ?_
        refine g_iconst hC (pc := 1394) (v := (1 : Int32)) (by decide) dL_law_1394 ?_
        refine g_iadd hC (pc := 1395) dL_law_1395 ?_
        refine g_aldI hC (pc := 1396) h dL_law_1396 (fun i185 h => ?_)
        obtain ⟨hi, h⟩ := h
        refine g_callV hC (pc := 1397) (ci := 0) (As := [vI i185]) gc_X3_debt (m_X3_debt hC.fl h) rfl hi q2773 q2774 q2775 (gle rfl) (gle rfl) rfl (gle rfl) rfl dL_law_1397 (gk_i fun r187 G186 h => ?_) (fun _ _ h hio => g_out0 hC (hX _ _ h) hio)
        refine g_istore hC (pc := 1400) (lv' := [(7, vI r187), (6, vI r184), (0, vQ (some c1)), (1, vQ (some t1)), (2, vQ (some t2)), (3, vQ (some t3)), (4, vQ (some t4)), (5, vI x5)]) (by decide) rfl dL_law_1400 ?_
        refine g_aload_n hC (pc := 1402) 4 rfl rfl dL_law_1402 ?_
        obtain ⟨hi, h⟩ := h
        refine g_callV hC (pc := 1403) (ci := 0) (As := []) gc_X3_thrown (m_X3_thrown hC.fl h) rfl hi q2538 q2539 q2540 (gle rfl) (gle rfl) rfl (gle rfl) rfl dL_law_1403 (gk_i fun r189 G188 h => ?_) (fun _ _ h hio => g_out0 hC (hX _ _ h) hio)
        refine g_iload hC (pc := 1406) 1 rfl dL_law_1406 ?_
        refine g_icmp_eq hC (pc := 1408) 1413 h (by decide) dL_law_1408 (fun h => ?_) (fun h => ?_)
        · refine g_iload hC (pc := 1413) 1 rfl dL_law_1413 ?_
          refine g_if_ne hC (pc := 1415) 1430 h (by decide) dL_law_1415 (fun h => ?_) (fun h => ?_)
          · exact g_sub [2, 3, 4, 5, 6, 7] rfl (w_L_law_1430 hC hK hX hJ28 h)
          · refine g_aload_n hC (pc := 1418) 5 rfl rfl dL_law_1418 ?_
            refine g_iconst hC (pc := 1419) (v := (0 : Int32)) (by decide) dL_law_1419 ?_
            refine g_aldL hC (pc := 1420) h dL_law_1420 (fun i190 h => ?_)
            refine g_iload hC (pc := 1421) 0 rfl dL_law_1421 ?_
            refine g_i2l hC (pc := 1423) dL_law_1423 ?_
            refine g_lcmp hC (pc := 1424) dL_law_1424 ?_
            refine g_if_eq hC (pc := 1425) 1430 h (by decide) dL_law_1425 (fun h => ?_) (fun h => ?_)
            · exact g_sub [2, 3, 4, 5, 6, 7] rfl (w_L_law_1430 hC hK hX hJ28 h)
            · refine g_iconst hC (pc := 1428) (v := (0 : Int32)) (by decide) dL_law_1428 ?_
              exact g_zret hC (pc := 1429) rfl (hK _ _ h) dL_law_1429
        · refine g_iconst hC (pc := 1411) (v := (0 : Int32)) (by decide) dL_law_1411 ?_
          exact g_zret hC (pc := 1412) rfl (hK _ _ h) dL_law_1412
      by_cases e21 : (i3 &&& (63 : Int32)) = (21 : Int32)
      · refine g_tableIn hC (pc := 44) 1433 (by rw [e21]; decide) (by rw [e21]; decide) (by rw [e21]; rfl) (by decide) dL_law_44 ?_
        replace h := h.2.2.2.2.2.2.2.2.2.2.2.2.2.2.2.2.2.2.2.2.2.1 e21
        refine g_aload_n hC (pc := 1433) 1 rfl rfl dL_law_1433 ?_
        refine g_aload_n hC (pc := 1434) 0 rfl rfl dL_law_1434 ?_
        refine g_iload hC (pc := 1435) 5 rfl dL_law_1435 ?_
        refine g_iconst hC (pc := 1437) (v := (1 : Int32)) (by decide) dL_law_1437 ?_
        refine g_iadd hC (pc := 1438) dL_law_1438 ?_
        refine g_aldI hC (pc := 1439) h dL_law_1439 (fun i191 h => ?_)
        refine g_aload_n hC (pc := 1440) 3 rfl rfl dL_law_1440 ?_
        refine g_callSW hC (pc := 1441) (b := 0) (As := [vQ (some t1), vI i191, vQ (some t3)]) gc_X0_skippedNights (m_X0_skippedNights hC.fl h) q1788 q1789 (gle rfl) (gle rfl) rfl (gle rfl) rfl dL_law_1441 (gk_i fun r193 G192 h => ?_) (fun _ _ h hio => g_out0 hC (hX _ _ h) hio)
        refine g_istore hC (pc := 1444) (lv' := [(6, vI r193), (0, vQ (some c1)), (1, vQ (some t1)), (2, vQ (some t2)), (3, vQ (some t3)), (4, vQ (some t4)), (5, vI x5)]) (by decide) rfl dL_law_1444 ?_
        refine g_aload_n hC (pc := 1446) 3 rfl rfl dL_law_1446 ?_
        refine g_aload_n hC (pc := 1447) 1 rfl rfl dL_law_1447 ?_
        refine g_iload hC (pc := 1448) 6 rfl dL_law_1448 ?_
        refine g_iconst hC (pc := 1450) (v := (1 : Int32)) (by decide) dL_law_1450 ?_
        refine g_iadd hC (pc := 1451) dL_law_1451 ?_
        refine g_aldI hC (pc := 1452) h dL_law_1452 (fun i194 h => ?_)
        obtain ⟨hi, h⟩ := h
        refine g_callV hC (pc := 1453) (ci := 0) (As := [vI i194]) gc_X3_skippedNights (m_X3_skippedNights hC.fl h) rfl hi q2777 q2778 q2779 (gle rfl) (gle rfl) rfl (gle rfl) rfl dL_law_1453 (gk_i fun r196 G195 h => ?_) (fun _ _ h hio => g_out0 hC (hX _ _ h) hio)
        refine g_istore hC (pc := 1456) (lv' := [(7, vI r196), (6, vI r193), (0, vQ (some c1)), (1, vQ (some t1)), (2, vQ (some t2)), (3, vQ (some t3)), (4, vQ (some t4)), (5, vI x5)]) (by decide) rfl dL_law_1456 ?_
        refine g_aload_n hC (pc := 1458) 4 rfl rfl dL_law_1458 ?_
        obtain ⟨hi, h⟩ := h
        refine g_callV hC (pc := 1459) (ci := 0) (As := []) gc_X3_thrown (m_X3_thrown hC.fl h) rfl hi q2538 q2539 q2540 (gle rfl) (gle rfl) rfl (gle rfl) rfl dL_law_1459 (gk_i fun r198 G197 h => ?_) (fun _ _ h hio => g_out0 hC (hX _ _ h) hio)
        refine g_iload hC (pc := 1462) 1 rfl dL_law_1462 ?_
        refine g_icmp_eq hC (pc := 1464) 1469 h (by decide) dL_law_1464 (fun h => ?_) (fun h => ?_)
        · refine g_iload hC (pc := 1469) 1 rfl dL_law_1469 ?_
          refine g_if_ne hC (pc := 1471) 1486 h (by decide) dL_law_1471 (fun h => ?_) (fun h => ?_)
          · exact g_sub [2, 3, 4, 5, 6, 7] rfl (w_L_law_1486 hC hK hX hJ28 h)
          · refine g_aload_n hC (pc := 1474) 5 rfl rfl dL_law_1474 ?_
            refine g_iconst hC (pc := 1475) (v := (0 : Int32)) (by decide) dL_law_1475 ?_
            refine g_aldL hC (pc := 1476) h dL_law_1476 (fun i199 h => ?_)
            refine g_iload hC (pc := 1477) 0 rfl dL_law_1477 ?_
            refine g_i2l hC (pc := 1479) dL_law_1479 ?_
            refine g_lcmp hC (pc := 1480) dL_law_1480 ?_
            refine g_if_eq hC (pc := 1481) 1486 h (by decide) dL_law_1481 (fun h => ?_) (fun h => ?_)
            · exact g_sub [2, 3, 4, 5, 6, 7] rfl (w_L_law_1486 hC hK hX hJ28 h)
            · refine g_iconst hC (pc := 1484) (v := (0 : Int32)) (by decide) dL_law_1484 ?_
              exact g_zret hC (pc := 1485) rfl (hK _ _ h) dL_law_1485
        · refine g_iconst hC (pc := 1467) (v := (0 : Int32)) (by decide) dL_law_1467 ?_
          exact g_zret hC (pc := 1468) rfl (hK _ _ h) dL_law_1468
      by_cases e22 : (i3 &&& (63 : Int32)) = (22 : Int32)
      · refine g_tableIn hC (pc := 44) 1489 (by rw [e22]; decide) (by rw [e22]; decide) (by rw [e22]; rfl) (by decide) dL_law_44 ?_
        replace h := h.2.2.2.2.2.2.2.2.2.2.2.2.2.2.2.2.2.2.2.2.2.2.1 e22
        refine g_aload_n hC (pc := 1489) 1 rfl rfl dL_law_1489 ?_
        refine g_aload_n hC (pc := 1490) 0 rfl rfl dL_law_1490 ?_
        refine g_iload hC (pc := 1491) 5 rfl dL_law_1491 ?_
        refine g_iconst hC (pc := 1493) (v := (1 : Int32)) (by decide) dL_law_1493 ?_
        refine g_iadd hC (pc := 1494) dL_law_1494 ?_
        refine g_aldI hC (pc := 1495) h dL_law_1495 (fun i200 h => ?_)
        refine g_aload_n hC (pc := 1496) 3 rfl rfl dL_law_1496 ?_
        refine g_callSW hC (pc := 1497) (b := 0) (As := [vQ (some t1), vI i200, vQ (some t3)]) gc_X0_isResting (m_X0_isResting hC.fl h) q1795 q1796 (gle rfl) (gle rfl) rfl (gle rfl) rfl dL_law_1497 (gk_i fun r202 G201 h => ?_) (fun _ _ h hio => g_out0 hC (hX _ _ h) hio)
        refine g_istore hC (pc := 1500) (lv' := [(6, vI r202), (0, vQ (some c1)), (1, vQ (some t1)), (2, vQ (some t2)), (3, vQ (some t3)), (4, vQ (some t4)), (5, vI x5)]) (by decide) rfl dL_law_1500 ?_
        refine g_aload_n hC (pc := 1502) 3 rfl rfl dL_law_1502 ?_
        refine g_aload_n hC (pc := 1503) 1 rfl rfl dL_law_1503 ?_
        refine g_iload hC (pc := 1504) 6 rfl dL_law_1504 ?_
        refine g_iconst hC (pc := 1506) (v := (1 : Int32)) (by decide) dL_law_1506 ?_
        refine g_iadd hC (pc := 1507) dL_law_1507 ?_
        refine g_aldI hC (pc := 1508) h dL_law_1508 (fun i203 h => ?_)
        obtain ⟨hi, h⟩ := h
        refine g_callV hC (pc := 1509) (ci := 0) (As := [vI i203]) gc_X3_isResting (m_X3_isResting hC.fl h) rfl hi q2781 q2782 q2783 (gle rfl) (gle rfl) rfl (gle rfl) rfl dL_law_1509 (gk_i fun r205 G204 h => ?_) (fun _ _ h hio => g_out0 hC (hX _ _ h) hio)
        refine g_istore hC (pc := 1512) (lv' := [(7, vI r205), (6, vI r202), (0, vQ (some c1)), (1, vQ (some t1)), (2, vQ (some t2)), (3, vQ (some t3)), (4, vQ (some t4)), (5, vI x5)]) (by decide) rfl dL_law_1512 ?_
        refine g_aload_n hC (pc := 1514) 4 rfl rfl dL_law_1514 ?_
        obtain ⟨hi, h⟩ := h
        refine g_callV hC (pc := 1515) (ci := 0) (As := []) gc_X3_thrown (m_X3_thrown hC.fl h) rfl hi q2538 q2539 q2540 (gle rfl) (gle rfl) rfl (gle rfl) rfl dL_law_1515 (gk_i fun r207 G206 h => ?_) (fun _ _ h hio => g_out0 hC (hX _ _ h) hio)
        refine g_iload hC (pc := 1518) 1 rfl dL_law_1518 ?_
        refine g_icmp_eq hC (pc := 1520) 1525 h (by decide) dL_law_1520 (fun h => ?_) (fun h => ?_)
        · refine g_iload hC (pc := 1525) 1 rfl dL_law_1525 ?_
          refine g_if_ne hC (pc := 1527) 1549 h (by decide) dL_law_1527 (fun h => ?_) (fun h => ?_)
          · exact g_sub [2, 3, 4, 5, 6, 7] rfl (w_L_law_1549 hC hK hX hJ28 h)
          · refine g_aload_n hC (pc := 1530) 5 rfl rfl dL_law_1530 ?_
            refine g_iconst hC (pc := 1531) (v := (0 : Int32)) (by decide) dL_law_1531 ?_
            refine g_aldL hC (pc := 1532) h dL_law_1532 (fun i208 h => ?_)
            refine g_iload hC (pc := 1533) 0 rfl dL_law_1533 ?_
            refine g_if_eq hC (pc := 1535) 1542 h (by decide) dL_law_1535 (fun h => ?_) (fun h => ?_)
            · refine g_lconst hC (pc := 1542) (v := (0 : Int64)) (by decide) dL_law_1542 ?_
              exact g_sub [2, 3, 4, 5, 6, 7] rfl (w_L_law_1543 hC hK hX hJ28 h)
            · refine g_lconst hC (pc := 1538) (v := (1 : Int64)) (by decide) dL_law_1538 ?_
              refine g_goto hC (pc := 1539) 1543 (by decide) dL_law_1539 ?_
              exact g_sub [2, 3, 4, 5, 6, 7] rfl (w_L_law_1543 hC hK hX hJ28 h)
        · refine g_iconst hC (pc := 1523) (v := (0 : Int32)) (by decide) dL_law_1523 ?_
          exact g_zret hC (pc := 1524) rfl (hK _ _ h) dL_law_1524
      by_cases e23 : (i3 &&& (63 : Int32)) = (23 : Int32)
      · refine g_tableIn hC (pc := 44) 1552 (by rw [e23]; decide) (by rw [e23]; decide) (by rw [e23]; rfl) (by decide) dL_law_44 ?_
        replace h := h.2.2.2.2.2.2.2.2.2.2.2.2.2.2.2.2.2.2.2.2.2.2.2.1 e23
        refine g_aload_n hC (pc := 1552) 1 rfl rfl dL_law_1552 ?_
        refine g_aload_n hC (pc := 1553) 0 rfl rfl dL_law_1553 ?_
        refine g_iload hC (pc := 1554) 5 rfl dL_law_1554 ?_
        refine g_iconst hC (pc := 1556) (v := (1 : Int32)) (by decide) dL_law_1556 ?_
        refine g_iadd hC (pc := 1557) dL_law_1557 ?_
        refine g_aldI hC (pc := 1558) h dL_law_1558 (fun i209 h => ?_)
        refine g_aload_n hC (pc := 1559) 3 rfl rfl dL_law_1559 ?_
        refine g_callSW hC (pc := 1560) (b := 0) (As := [vQ (some t1), vI i209, vQ (some t3)]) gc_X0_energy (m_X0_energy hC.fl h) q1802 q1803 (gle rfl) (gle rfl) rfl (gle rfl) rfl dL_law_1560 (gk_i fun r211 G210 h => ?_) (fun _ _ h hio => g_out0 hC (hX _ _ h) hio)
        refine g_istore hC (pc := 1563) (lv' := [(6, vI r211), (0, vQ (some c1)), (1, vQ (some t1)), (2, vQ (some t2)), (3, vQ (some t3)), (4, vQ (some t4)), (5, vI x5)]) (by decide) rfl dL_law_1563 ?_
        refine g_aload_n hC (pc := 1565) 3 rfl rfl dL_law_1565 ?_
        refine g_aload_n hC (pc := 1566) 1 rfl rfl dL_law_1566 ?_
        refine g_iload hC (pc := 1567) 6 rfl dL_law_1567 ?_
        refine g_iconst hC (pc := 1569) (v := (1 : Int32)) (by decide) dL_law_1569 ?_
        refine g_iadd hC (pc := 1570) dL_law_1570 ?_
        refine g_aldI hC (pc := 1571) h dL_law_1571 (fun i212 h => ?_)
        obtain ⟨hi, h⟩ := h
        refine g_callV hC (pc := 1572) (ci := 0) (As := [vI i212]) gc_X3_energy (m_X3_energy hC.fl h) rfl hi q2785 q2786 q2787 (gle rfl) (gle rfl) rfl (gle rfl) rfl dL_law_1572 (gk_i fun r214 G213 h => ?_) (fun _ _ h hio => g_out0 hC (hX _ _ h) hio)
        refine g_istore hC (pc := 1575) (lv' := [(7, vI r214), (6, vI r211), (0, vQ (some c1)), (1, vQ (some t1)), (2, vQ (some t2)), (3, vQ (some t3)), (4, vQ (some t4)), (5, vI x5)]) (by decide) rfl dL_law_1575 ?_
        refine g_aload_n hC (pc := 1577) 4 rfl rfl dL_law_1577 ?_
        obtain ⟨hi, h⟩ := h
        refine g_callV hC (pc := 1578) (ci := 0) (As := []) gc_X3_thrown (m_X3_thrown hC.fl h) rfl hi q2538 q2539 q2540 (gle rfl) (gle rfl) rfl (gle rfl) rfl dL_law_1578 (gk_i fun r216 G215 h => ?_) (fun _ _ h hio => g_out0 hC (hX _ _ h) hio)
        refine g_iload hC (pc := 1581) 1 rfl dL_law_1581 ?_
        refine g_icmp_eq hC (pc := 1583) 1588 h (by decide) dL_law_1583 (fun h => ?_) (fun h => ?_)
        · refine g_iload hC (pc := 1588) 1 rfl dL_law_1588 ?_
          refine g_if_ne hC (pc := 1590) 1605 h (by decide) dL_law_1590 (fun h => ?_) (fun h => ?_)
          · exact g_sub [2, 3, 4, 5, 6, 7] rfl (w_L_law_1605 hC hK hX hJ28 h)
          · refine g_aload_n hC (pc := 1593) 5 rfl rfl dL_law_1593 ?_
            refine g_iconst hC (pc := 1594) (v := (0 : Int32)) (by decide) dL_law_1594 ?_
            refine g_aldL hC (pc := 1595) h dL_law_1595 (fun i217 h => ?_)
            refine g_iload hC (pc := 1596) 0 rfl dL_law_1596 ?_
            refine g_i2l hC (pc := 1598) dL_law_1598 ?_
            refine g_lcmp hC (pc := 1599) dL_law_1599 ?_
            refine g_if_eq hC (pc := 1600) 1605 h (by decide) dL_law_1600 (fun h => ?_) (fun h => ?_)
            · exact g_sub [2, 3, 4, 5, 6, 7] rfl (w_L_law_1605 hC hK hX hJ28 h)
            · refine g_iconst hC (pc := 1603) (v := (0 : Int32)) (by decide) dL_law_1603 ?_
              exact g_zret hC (pc := 1604) rfl (hK _ _ h) dL_law_1604
        · refine g_iconst hC (pc := 1586) (v := (0 : Int32)) (by decide) dL_law_1586 ?_
          exact g_zret hC (pc := 1587) rfl (hK _ _ h) dL_law_1587
      by_cases e24 : (i3 &&& (63 : Int32)) = (24 : Int32)
      · refine g_tableIn hC (pc := 44) 1608 (by rw [e24]; decide) (by rw [e24]; decide) (by rw [e24]; rfl) (by decide) dL_law_44 ?_
        replace h := h.2.2.2.2.2.2.2.2.2.2.2.2.2.2.2.2.2.2.2.2.2.2.2.2.1 e24
        refine g_aload_n hC (pc := 1608) 1 rfl rfl dL_law_1608 ?_
        refine g_aload_n hC (pc := 1609) 0 rfl rfl dL_law_1609 ?_
        refine g_iload hC (pc := 1610) 5 rfl dL_law_1610 ?_
        refine g_iconst hC (pc := 1612) (v := (1 : Int32)) (by decide) dL_law_1612 ?_
        refine g_iadd hC (pc := 1613) dL_law_1613 ?_
        refine g_aldI hC (pc := 1614) h dL_law_1614 (fun i218 h => ?_)
        refine g_aload_n hC (pc := 1615) 3 rfl rfl dL_law_1615 ?_
        refine g_callSW hC (pc := 1616) (b := 0) (As := [vQ (some t1), vI i218, vQ (some t3)]) gc_X0_goblinByWealth (m_X0_goblinByWealth hC.fl h) q1810 q1811 (gle rfl) (gle rfl) rfl (gle rfl) rfl dL_law_1616 (gk_i fun r220 G219 h => ?_) (fun _ _ h hio => g_out0 hC (hX _ _ h) hio)
        refine g_istore hC (pc := 1619) (lv' := [(6, vI r220), (0, vQ (some c1)), (1, vQ (some t1)), (2, vQ (some t2)), (3, vQ (some t3)), (4, vQ (some t4)), (5, vI x5)]) (by decide) rfl dL_law_1619 ?_
        refine g_aload_n hC (pc := 1621) 3 rfl rfl dL_law_1621 ?_
        refine g_aload_n hC (pc := 1622) 1 rfl rfl dL_law_1622 ?_
        refine g_iload hC (pc := 1623) 6 rfl dL_law_1623 ?_
        refine g_iconst hC (pc := 1625) (v := (1 : Int32)) (by decide) dL_law_1625 ?_
        refine g_iadd hC (pc := 1626) dL_law_1626 ?_
        refine g_aldI hC (pc := 1627) h dL_law_1627 (fun i221 h => ?_)
        obtain ⟨hi, h⟩ := h
        refine g_callV hC (pc := 1628) (ci := 0) (As := [vI i221]) gc_X3_goblinByWealth (m_X3_goblinByWealth hC.fl h) rfl hi q2789 q2790 q2791 (gle rfl) (gle rfl) rfl (gle rfl) rfl dL_law_1628 (gk_i fun r223 G222 h => ?_) (fun _ _ h hio => g_out0 hC (hX _ _ h) hio)
        refine g_istore hC (pc := 1631) (lv' := [(7, vI r223), (6, vI r220), (0, vQ (some c1)), (1, vQ (some t1)), (2, vQ (some t2)), (3, vQ (some t3)), (4, vQ (some t4)), (5, vI x5)]) (by decide) rfl dL_law_1631 ?_
        refine g_aload_n hC (pc := 1633) 4 rfl rfl dL_law_1633 ?_
        obtain ⟨hi, h⟩ := h
        refine g_callV hC (pc := 1634) (ci := 0) (As := []) gc_X3_thrown (m_X3_thrown hC.fl h) rfl hi q2538 q2539 q2540 (gle rfl) (gle rfl) rfl (gle rfl) rfl dL_law_1634 (gk_i fun r225 G224 h => ?_) (fun _ _ h hio => g_out0 hC (hX _ _ h) hio)
        refine g_iload hC (pc := 1637) 1 rfl dL_law_1637 ?_
        refine g_icmp_eq hC (pc := 1639) 1644 h (by decide) dL_law_1639 (fun h => ?_) (fun h => ?_)
        · refine g_iload hC (pc := 1644) 1 rfl dL_law_1644 ?_
          refine g_if_ne hC (pc := 1646) 1661 h (by decide) dL_law_1646 (fun h => ?_) (fun h => ?_)
          · exact g_sub [2, 3, 4, 5, 6, 7] rfl (w_L_law_1661 hC hK hX hJ28 h)
          · refine g_aload_n hC (pc := 1649) 5 rfl rfl dL_law_1649 ?_
            refine g_iconst hC (pc := 1650) (v := (0 : Int32)) (by decide) dL_law_1650 ?_
            refine g_aldL hC (pc := 1651) h dL_law_1651 (fun i226 h => ?_)
            refine g_iload hC (pc := 1652) 0 rfl dL_law_1652 ?_
            refine g_i2l hC (pc := 1654) dL_law_1654 ?_
            refine g_lcmp hC (pc := 1655) dL_law_1655 ?_
            refine g_if_eq hC (pc := 1656) 1661 h (by decide) dL_law_1656 (fun h => ?_) (fun h => ?_)
            · exact g_sub [2, 3, 4, 5, 6, 7] rfl (w_L_law_1661 hC hK hX hJ28 h)
            · refine g_iconst hC (pc := 1659) (v := (0 : Int32)) (by decide) dL_law_1659 ?_
              exact g_zret hC (pc := 1660) rfl (hK _ _ h) dL_law_1660
        · refine g_iconst hC (pc := 1642) (v := (0 : Int32)) (by decide) dL_law_1642 ?_
          exact g_zret hC (pc := 1643) rfl (hK _ _ h) dL_law_1643
      by_cases e25 : (i3 &&& (63 : Int32)) = (25 : Int32)
      · refine g_tableIn hC (pc := 44) 1664 (by rw [e25]; decide) (by rw [e25]; decide) (by rw [e25]; rfl) (by decide) dL_law_44 ?_
        replace h := h.2.2.2.2.2.2.2.2.2.2.2.2.2.2.2.2.2.2.2.2.2.2.2.2.2.1 e25
        refine g_aload_n hC (pc := 1664) 1 rfl rfl dL_law_1664 ?_
        refine g_aload_n hC (pc := 1665) 0 rfl rfl dL_law_1665 ?_
        refine g_iload hC (pc := 1666) 5 rfl dL_law_1666 ?_
        refine g_iconst hC (pc := 1668) (v := (1 : Int32)) (by decide) dL_law_1668 ?_
        refine g_iadd hC (pc := 1669) dL_law_1669 ?_
        refine g_aldI hC (pc := 1670) h dL_law_1670 (fun i227 h => ?_)
        refine g_aload_n hC (pc := 1671) 3 rfl rfl dL_law_1671 ?_
        refine g_callSW hC (pc := 1672) (b := 0) (As := [vQ (some t1), vI i227, vQ (some t3)]) gc_X0_bestWages (m_X0_bestWages hC.fl h) q1831 q1832 (gle rfl) (gle rfl) rfl (gle rfl) rfl dL_law_1672 (gk_i fun r229 G228 h => ?_) (fun _ _ h hio => g_out0 hC (hX _ _ h) hio)
        refine g_istore hC (pc := 1675) (lv' := [(6, vI r229), (0, vQ (some c1)), (1, vQ (some t1)), (2, vQ (some t2)), (3, vQ (some t3)), (4, vQ (some t4)), (5, vI x5)]) (by decide) rfl dL_law_1675 ?_
        refine g_aload_n hC (pc := 1677) 3 rfl rfl dL_law_1677 ?_
        refine g_aload_n hC (pc := 1678) 1 rfl rfl dL_law_1678 ?_
        refine g_iload hC (pc := 1679) 6 rfl dL_law_1679 ?_
        refine g_iconst hC (pc := 1681) (v := (1 : Int32)) (by decide) dL_law_1681 ?_
        refine g_iadd hC (pc := 1682) dL_law_1682 ?_
        refine g_aldI hC (pc := 1683) h dL_law_1683 (fun i230 h => ?_)
        obtain ⟨hi, h⟩ := h
        refine g_callV hC (pc := 1684) (ci := 0) (As := [vI i230]) gc_X3_bestWages (m_X3_bestWages hC.fl h) rfl hi q2793 q2794 q2795 (gle rfl) (gle rfl) rfl (gle rfl) rfl dL_law_1684 (gk_i fun r232 G231 h => ?_) (fun _ _ h hio => g_out0 hC (hX _ _ h) hio)
        refine g_istore hC (pc := 1687) (lv' := [(7, vI r232), (6, vI r229), (0, vQ (some c1)), (1, vQ (some t1)), (2, vQ (some t2)), (3, vQ (some t3)), (4, vQ (some t4)), (5, vI x5)]) (by decide) rfl dL_law_1687 ?_
        refine g_aload_n hC (pc := 1689) 4 rfl rfl dL_law_1689 ?_
        obtain ⟨hi, h⟩ := h
        refine g_callV hC (pc := 1690) (ci := 0) (As := []) gc_X3_thrown (m_X3_thrown hC.fl h) rfl hi q2538 q2539 q2540 (gle rfl) (gle rfl) rfl (gle rfl) rfl dL_law_1690 (gk_i fun r234 G233 h => ?_) (fun _ _ h hio => g_out0 hC (hX _ _ h) hio)
        refine g_iload hC (pc := 1693) 1 rfl dL_law_1693 ?_
        refine g_icmp_eq hC (pc := 1695) 1700 h (by decide) dL_law_1695 (fun h => ?_) (fun h => ?_)
        · refine g_iload hC (pc := 1700) 1 rfl dL_law_1700 ?_
          refine g_if_ne hC (pc := 1702) 1717 h (by decide) dL_law_1702 (fun h => ?_) (fun h => ?_)
          · exact g_sub [2, 3, 4, 5, 6, 7] rfl (w_L_law_1717 hC hK hX hJ28 h)
          · refine g_aload_n hC (pc := 1705) 5 rfl rfl dL_law_1705 ?_
            refine g_iconst hC (pc := 1706) (v := (0 : Int32)) (by decide) dL_law_1706 ?_
            refine g_aldL hC (pc := 1707) h dL_law_1707 (fun i235 h => ?_)
            refine g_iload hC (pc := 1708) 0 rfl dL_law_1708 ?_
            refine g_i2l hC (pc := 1710) dL_law_1710 ?_
            refine g_lcmp hC (pc := 1711) dL_law_1711 ?_
            refine g_if_eq hC (pc := 1712) 1717 h (by decide) dL_law_1712 (fun h => ?_) (fun h => ?_)
            · exact g_sub [2, 3, 4, 5, 6, 7] rfl (w_L_law_1717 hC hK hX hJ28 h)
            · refine g_iconst hC (pc := 1715) (v := (0 : Int32)) (by decide) dL_law_1715 ?_
              exact g_zret hC (pc := 1716) rfl (hK _ _ h) dL_law_1716
        · refine g_iconst hC (pc := 1698) (v := (0 : Int32)) (by decide) dL_law_1698 ?_
          exact g_zret hC (pc := 1699) rfl (hK _ _ h) dL_law_1699
      by_cases e26 : (i3 &&& (63 : Int32)) = (26 : Int32)
      · refine g_tableIn hC (pc := 44) 1720 (by rw [e26]; decide) (by rw [e26]; decide) (by rw [e26]; rfl) (by decide) dL_law_44 ?_
        replace h := h.2.2.2.2.2.2.2.2.2.2.2.2.2.2.2.2.2.2.2.2.2.2.2.2.2.2.1 e26
        refine g_aload_n hC (pc := 1720) 1 rfl rfl dL_law_1720 ?_
        refine g_aload_n hC (pc := 1721) 0 rfl rfl dL_law_1721 ?_
        refine g_iload hC (pc := 1722) 5 rfl dL_law_1722 ?_
        refine g_iconst hC (pc := 1724) (v := (1 : Int32)) (by decide) dL_law_1724 ?_
        refine g_iadd hC (pc := 1725) dL_law_1725 ?_
        refine g_aldI hC (pc := 1726) h dL_law_1726 (fun i236 h => ?_)
        refine g_aload_n hC (pc := 1727) 3 rfl rfl dL_law_1727 ?_
        refine g_callSW hC (pc := 1728) (b := 0) (As := [vQ (some t1), vI i236, vQ (some t3)]) gc_X0_bestWagesByTable (m_X0_bestWagesByTable hC.fl h) q1839 q1840 (gle rfl) (gle rfl) rfl (gle rfl) rfl dL_law_1728 (gk_i fun r238 G237 h => ?_) (fun _ _ h hio => g_out0 hC (hX _ _ h) hio)
        refine g_istore hC (pc := 1731) (lv' := [(6, vI r238), (0, vQ (some c1)), (1, vQ (some t1)), (2, vQ (some t2)), (3, vQ (some t3)), (4, vQ (some t4)), (5, vI x5)]) (by decide) rfl dL_law_1731 ?_
        refine g_aload_n hC (pc := 1733) 3 rfl rfl dL_law_1733 ?_
        refine g_aload_n hC (pc := 1734) 1 rfl rfl dL_law_1734 ?_
        refine g_iload hC (pc := 1735) 6 rfl dL_law_1735 ?_
        refine g_iconst hC (pc := 1737) (v := (1 : Int32)) (by decide) dL_law_1737 ?_
        refine g_iadd hC (pc := 1738) dL_law_1738 ?_
        refine g_aldI hC (pc := 1739) h dL_law_1739 (fun i239 h => ?_)
        obtain ⟨hi, h⟩ := h
        refine g_callV hC (pc := 1740) (ci := 0) (As := [vI i239]) gc_X3_bestWagesByTable (m_X3_bestWagesByTable hC.fl h) rfl hi q2801 q2802 q2803 (gle rfl) (gle rfl) rfl (gle rfl) rfl dL_law_1740 (gk_i fun r241 G240 h => ?_) (fun _ _ h hio => g_out0 hC (hX _ _ h) hio)
        refine g_istore hC (pc := 1743) (lv' := [(7, vI r241), (6, vI r238), (0, vQ (some c1)), (1, vQ (some t1)), (2, vQ (some t2)), (3, vQ (some t3)), (4, vQ (some t4)), (5, vI x5)]) (by decide) rfl dL_law_1743 ?_
        refine g_aload_n hC (pc := 1745) 4 rfl rfl dL_law_1745 ?_
        obtain ⟨hi, h⟩ := h
        refine g_callV hC (pc := 1746) (ci := 0) (As := []) gc_X3_thrown (m_X3_thrown hC.fl h) rfl hi q2538 q2539 q2540 (gle rfl) (gle rfl) rfl (gle rfl) rfl dL_law_1746 (gk_i fun r243 G242 h => ?_) (fun _ _ h hio => g_out0 hC (hX _ _ h) hio)
        refine g_iload hC (pc := 1749) 1 rfl dL_law_1749 ?_
        refine g_icmp_eq hC (pc := 1751) 1756 h (by decide) dL_law_1751 (fun h => ?_) (fun h => ?_)
        · refine g_iload hC (pc := 1756) 1 rfl dL_law_1756 ?_
          refine g_if_ne hC (pc := 1758) 1773 h (by decide) dL_law_1758 (fun h => ?_) (fun h => ?_)
          · exact g_sub [2, 3, 4, 5, 6, 7] rfl (w_L_law_1773 hC hK hX hJ28 h)
          · refine g_aload_n hC (pc := 1761) 5 rfl rfl dL_law_1761 ?_
            refine g_iconst hC (pc := 1762) (v := (0 : Int32)) (by decide) dL_law_1762 ?_
            refine g_aldL hC (pc := 1763) h dL_law_1763 (fun i244 h => ?_)
            refine g_iload hC (pc := 1764) 0 rfl dL_law_1764 ?_
            refine g_i2l hC (pc := 1766) dL_law_1766 ?_
            refine g_lcmp hC (pc := 1767) dL_law_1767 ?_
            refine g_if_eq hC (pc := 1768) 1773 h (by decide) dL_law_1768 (fun h => ?_) (fun h => ?_)
            · exact g_sub [2, 3, 4, 5, 6, 7] rfl (w_L_law_1773 hC hK hX hJ28 h)
            · refine g_iconst hC (pc := 1771) (v := (0 : Int32)) (by decide) dL_law_1771 ?_
              exact g_zret hC (pc := 1772) rfl (hK _ _ h) dL_law_1772
        · refine g_iconst hC (pc := 1754) (v := (0 : Int32)) (by decide) dL_law_1754 ?_
          exact g_zret hC (pc := 1755) rfl (hK _ _ h) dL_law_1755
      by_cases e27 : (i3 &&& (63 : Int32)) = (27 : Int32)
      · refine g_tableIn hC (pc := 44) 1776 (by rw [e27]; decide) (by rw [e27]; decide) (by rw [e27]; rfl) (by decide) dL_law_44 ?_
        replace h := h.2.2.2.2.2.2.2.2.2.2.2.2.2.2.2.2.2.2.2.2.2.2.2.2.2.2.2.1 e27
        refine g_aload_n hC (pc := 1776) 1 rfl rfl dL_law_1776 ?_
        obtain ⟨hi, h⟩ := h
        refine g_callV hC (pc := 1777) (ci := 1) (As := []) gc_X1_openContracts (m_X1_openContracts hC.fl h) rfl hi q338 q339 q340 (gle rfl) (gle rfl) rfl (gle rfl) rfl dL_law_1777 (gk_i fun r246 G245 h => ?_) (fun _ _ h hio => g_out0 hC (hX _ _ h) hio)
        refine g_aload_n hC (pc := 1780) 2 rfl rfl dL_law_1780 ?_
        obtain ⟨hi, h⟩ := h
        refine g_callV hC (pc := 1781) (ci := 0) (As := []) gc_X3_openContracts (m_X3_openContracts hC.fl h) rfl hi q2805 q2806 q2807 (gle rfl) (gle rfl) rfl (gle rfl) rfl dL_law_1781 (gk_i fun r248 G247 h => ?_) (fun _ _ h hio => g_out0 hC (hX _ _ h) hio)
        refine g_icmp_eq hC (pc := 1784) 2889 h (by decide) dL_law_1784 (fun h => ?_) (fun h => ?_)
        · exact g_sub [0, 1, 2, 3, 4, 5] rfl (w_L_law_2889 hC hK hX hJ28 h)
        · refine g_iconst hC (pc := 1787) (v := (0 : Int32)) (by decide) dL_law_1787 ?_
          exact g_zret hC (pc := 1788) rfl (hK _ _ h) dL_law_1788
      by_cases e28 : (i3 &&& (63 : Int32)) = (28 : Int32)
      · refine g_tableIn hC (pc := 44) 1789 (by rw [e28]; decide) (by rw [e28]; decide) (by rw [e28]; rfl) (by decide) dL_law_44 ?_
        replace h := h.2.2.2.2.2.2.2.2.2.2.2.2.2.2.2.2.2.2.2.2.2.2.2.2.2.2.2.2.1 e28
        refine g_aload_n hC (pc := 1789) 1 rfl rfl dL_law_1789 ?_
        refine g_aload_n hC (pc := 1790) 0 rfl rfl dL_law_1790 ?_
        refine g_iload hC (pc := 1791) 5 rfl dL_law_1791 ?_
        refine g_iconst hC (pc := 1793) (v := (1 : Int32)) (by decide) dL_law_1793 ?_
        refine g_iadd hC (pc := 1794) dL_law_1794 ?_
        refine g_aldI hC (pc := 1795) h dL_law_1795 (fun i249 h => ?_)
        refine g_aload_n hC (pc := 1796) 3 rfl rfl dL_law_1796 ?_
        refine g_callSW hC (pc := 1797) (b := 0) (As := [vQ (some t1), vI i249, vQ (some t3)]) gc_X0_contractAt (m_X0_contractAt hC.fl h) q1847 q1848 (gle rfl) (gle rfl) rfl (gle rfl) rfl dL_law_1797 (gk_i fun r251 G250 h => ?_) (fun _ _ h hio => g_out0 hC (hX _ _ h) hio)
        refine g_istore hC (pc := 1800) (lv' := [(6, vI r251), (0, vQ (some c1)), (1, vQ (some t1)), (2, vQ (some t2)), (3, vQ (some t3)), (4, vQ (some t4)), (5, vI x5)]) (by decide) rfl dL_law_1800 ?_
        refine g_aload_n hC (pc := 1802) 3 rfl rfl dL_law_1802 ?_
        refine g_aload_n hC (pc := 1803) 1 rfl rfl dL_law_1803 ?_
        refine g_iload hC (pc := 1804) 6 rfl dL_law_1804 ?_
        refine g_iconst hC (pc := 1806) (v := (1 : Int32)) (by decide) dL_law_1806 ?_
        refine g_iadd hC (pc := 1807) dL_law_1807 ?_
        refine g_aldI hC (pc := 1808) h dL_law_1808 (fun i252 h => ?_)
        obtain ⟨hi, h⟩ := h
        refine g_callV hC (pc := 1809) (ci := 0) (As := [vI i252]) gc_X3_contractAt (m_X3_contractAt hC.fl h) rfl hi q2809 q2810 q2811 (gle rfl) (gle rfl) rfl (gle rfl) rfl dL_law_1809 (gk_i fun r254 G253 h => ?_) (fun _ _ h hio => g_out0 hC (hX _ _ h) hio)
        refine g_istore hC (pc := 1812) (lv' := [(7, vI r254), (6, vI r251), (0, vQ (some c1)), (1, vQ (some t1)), (2, vQ (some t2)), (3, vQ (some t3)), (4, vQ (some t4)), (5, vI x5)]) (by decide) rfl dL_law_1812 ?_
        refine g_aload_n hC (pc := 1814) 4 rfl rfl dL_law_1814 ?_
        obtain ⟨hi, h⟩ := h
        refine g_callV hC (pc := 1815) (ci := 0) (As := []) gc_X3_thrown (m_X3_thrown hC.fl h) rfl hi q2538 q2539 q2540 (gle rfl) (gle rfl) rfl (gle rfl) rfl dL_law_1815 (gk_i fun r256 G255 h => ?_) (fun _ _ h hio => g_out0 hC (hX _ _ h) hio)
        refine g_iload hC (pc := 1818) 1 rfl dL_law_1818 ?_
        refine g_icmp_eq hC (pc := 1820) 1825 h (by decide) dL_law_1820 (fun h => ?_) (fun h => ?_)
        · refine g_iload hC (pc := 1825) 1 rfl dL_law_1825 ?_
          refine g_if_ne hC (pc := 1827) 1842 h (by decide) dL_law_1827 (fun h => ?_) (fun h => ?_)
          · exact g_sub [2, 3, 4, 5, 6, 7] rfl (w_L_law_1842 hC hK hX hJ28 h)
          · refine g_aload_n hC (pc := 1830) 5 rfl rfl dL_law_1830 ?_
            refine g_iconst hC (pc := 1831) (v := (0 : Int32)) (by decide) dL_law_1831 ?_
            refine g_aldL hC (pc := 1832) h dL_law_1832 (fun i257 h => ?_)
            refine g_iload hC (pc := 1833) 0 rfl dL_law_1833 ?_
            refine g_i2l hC (pc := 1835) dL_law_1835 ?_
            refine g_lcmp hC (pc := 1836) dL_law_1836 ?_
            refine g_if_eq hC (pc := 1837) 1842 h (by decide) dL_law_1837 (fun h => ?_) (fun h => ?_)
            · exact g_sub [2, 3, 4, 5, 6, 7] rfl (w_L_law_1842 hC hK hX hJ28 h)
            · refine g_iconst hC (pc := 1840) (v := (0 : Int32)) (by decide) dL_law_1840 ?_
              exact g_zret hC (pc := 1841) rfl (hK _ _ h) dL_law_1841
        · refine g_iconst hC (pc := 1823) (v := (0 : Int32)) (by decide) dL_law_1823 ?_
          exact g_zret hC (pc := 1824) rfl (hK _ _ h) dL_law_1824
      by_cases e29 : (i3 &&& (63 : Int32)) = (29 : Int32)
      · refine g_tableIn hC (pc := 44) 1845 (by rw [e29]; decide) (by rw [e29]; decide) (by rw [e29]; rfl) (by decide) dL_law_44 ?_
        replace h := h.2.2.2.2.2.2.2.2.2.2.2.2.2.2.2.2.2.2.2.2.2.2.2.2.2.2.2.2.2.1 e29
        refine g_aload_n hC (pc := 1845) 1 rfl rfl dL_law_1845 ?_
        refine g_aload_n hC (pc := 1846) 0 rfl rfl dL_law_1846 ?_
        refine g_iload hC (pc := 1847) 5 rfl dL_law_1847 ?_
        refine g_iconst hC (pc := 1849) (v := (1 : Int32)) (by decide) dL_law_1849 ?_
        refine g_iadd hC (pc := 1850) dL_law_1850 ?_
        refine g_aldI hC (pc := 1851) h dL_law_1851 (fun i258 h => ?_)
        refine g_aload_n hC (pc := 1852) 3 rfl rfl dL_law_1852 ?_
        refine g_callSW hC (pc := 1853) (b := 0) (As := [vQ (some t1), vI i258, vQ (some t3)]) gc_X0_goblinOf (m_X0_goblinOf hC.fl h) q1855 q1856 (gle rfl) (gle rfl) rfl (gle rfl) rfl dL_law_1853 (gk_i fun r260 G259 h => ?_) (fun _ _ h hio => g_out0 hC (hX _ _ h) hio)
        refine g_istore hC (pc := 1856) (lv' := [(6, vI r260), (0, vQ (some c1)), (1, vQ (some t1)), (2, vQ (some t2)), (3, vQ (some t3)), (4, vQ (some t4)), (5, vI x5)]) (by decide) rfl dL_law_1856 ?_
        refine g_aload_n hC (pc := 1858) 3 rfl rfl dL_law_1858 ?_
        refine g_aload_n hC (pc := 1859) 1 rfl rfl dL_law_1859 ?_
        refine g_iload hC (pc := 1860) 6 rfl dL_law_1860 ?_
        refine g_iconst hC (pc := 1862) (v := (1 : Int32)) (by decide) dL_law_1862 ?_
        refine g_iadd hC (pc := 1863) dL_law_1863 ?_
        refine g_aldI hC (pc := 1864) h dL_law_1864 (fun i261 h => ?_)
        obtain ⟨hi, h⟩ := h
        refine g_callV hC (pc := 1865) (ci := 0) (As := [vI i261]) gc_X3_goblinOf (m_X3_goblinOf hC.fl h) rfl hi q2813 q2814 q2815 (gle rfl) (gle rfl) rfl (gle rfl) rfl dL_law_1865 (gk_i fun r263 G262 h => ?_) (fun _ _ h hio => g_out0 hC (hX _ _ h) hio)
        refine g_istore hC (pc := 1868) (lv' := [(7, vI r263), (6, vI r260), (0, vQ (some c1)), (1, vQ (some t1)), (2, vQ (some t2)), (3, vQ (some t3)), (4, vQ (some t4)), (5, vI x5)]) (by decide) rfl dL_law_1868 ?_
        refine g_aload_n hC (pc := 1870) 4 rfl rfl dL_law_1870 ?_
        obtain ⟨hi, h⟩ := h
        refine g_callV hC (pc := 1871) (ci := 0) (As := []) gc_X3_thrown (m_X3_thrown hC.fl h) rfl hi q2538 q2539 q2540 (gle rfl) (gle rfl) rfl (gle rfl) rfl dL_law_1871 (gk_i fun r265 G264 h => ?_) (fun _ _ h hio => g_out0 hC (hX _ _ h) hio)
        refine g_iload hC (pc := 1874) 1 rfl dL_law_1874 ?_
        refine g_icmp_eq hC (pc := 1876) 1881 h (by decide) dL_law_1876 (fun h => ?_) (fun h => ?_)
        · refine g_iload hC (pc := 1881) 1 rfl dL_law_1881 ?_
          refine g_if_ne hC (pc := 1883) 1898 h (by decide) dL_law_1883 (fun h => ?_) (fun h => ?_)
          · exact g_sub [2, 3, 4, 5, 6, 7] rfl (w_L_law_1898 hC hK hX hJ28 h)
          · refine g_aload_n hC (pc := 1886) 5 rfl rfl dL_law_1886 ?_
            refine g_iconst hC (pc := 1887) (v := (0 : Int32)) (by decide) dL_law_1887 ?_
            refine g_aldL hC (pc := 1888) h dL_law_1888 (fun i266 h => ?_)
            refine g_iload hC (pc := 1889) 0 rfl dL_law_1889 ?_
            refine g_i2l hC (pc := 1891) dL_law_1891 ?_
            refine g_lcmp hC (pc := 1892) dL_law_1892 ?_
            refine g_if_eq hC (pc := 1893) 1898 h (by decide) dL_law_1893 (fun h => ?_) (fun h => ?_)
            · exact g_sub [2, 3, 4, 5, 6, 7] rfl (w_L_law_1898 hC hK hX hJ28 h)
            · refine g_iconst hC (pc := 1896) (v := (0 : Int32)) (by decide) dL_law_1896 ?_
              exact g_zret hC (pc := 1897) rfl (hK _ _ h) dL_law_1897
        · refine g_iconst hC (pc := 1879) (v := (0 : Int32)) (by decide) dL_law_1879 ?_
          exact g_zret hC (pc := 1880) rfl (hK _ _ h) dL_law_1880
      by_cases e30 : (i3 &&& (63 : Int32)) = (30 : Int32)
      · refine g_tableIn hC (pc := 44) 1901 (by rw [e30]; decide) (by rw [e30]; decide) (by rw [e30]; rfl) (by decide) dL_law_44 ?_
        replace h := h.2.2.2.2.2.2.2.2.2.2.2.2.2.2.2.2.2.2.2.2.2.2.2.2.2.2.2.2.2.2.1 e30
        refine g_aload_n hC (pc := 1901) 1 rfl rfl dL_law_1901 ?_
        refine g_aload_n hC (pc := 1902) 0 rfl rfl dL_law_1902 ?_
        refine g_iload hC (pc := 1903) 5 rfl dL_law_1903 ?_
        refine g_iconst hC (pc := 1905) (v := (1 : Int32)) (by decide) dL_law_1905 ?_
        refine g_iadd hC (pc := 1906) dL_law_1906 ?_
        refine g_aldI hC (pc := 1907) h dL_law_1907 (fun i267 h => ?_)
        refine g_aload_n hC (pc := 1908) 3 rfl rfl dL_law_1908 ?_
        refine g_callSW hC (pc := 1909) (b := 0) (As := [vQ (some t1), vI i267, vQ (some t3)]) gc_X0_roomOf (m_X0_roomOf hC.fl h) q1871 q1872 (gle rfl) (gle rfl) rfl (gle rfl) rfl dL_law_1909 (gk_i fun r269 G268 h => ?_) (fun _ _ h hio => g_out0 hC (hX _ _ h) hio)
        refine g_istore hC (pc := 1912) (lv' := [(6, vI r269), (0, vQ (some c1)), (1, vQ (some t1)), (2, vQ (some t2)), (3, vQ (some t3)), (4, vQ (some t4)), (5, vI x5)]) (by decide) rfl dL_law_1912 ?_
        refine g_aload_n hC (pc := 1914) 3 rfl rfl dL_law_1914 ?_
        refine g_aload_n hC (pc := 1915) 1 rfl rfl dL_law_1915 ?_
        refine g_iload hC (pc := 1916) 6 rfl dL_law_1916 ?_
        refine g_iconst hC (pc := 1918) (v := (1 : Int32)) (by decide) dL_law_1918 ?_
        refine g_iadd hC (pc := 1919) dL_law_1919 ?_
        refine g_aldI hC (pc := 1920) h dL_law_1920 (fun i270 h => ?_)
        obtain ⟨hi, h⟩ := h
        refine g_callV hC (pc := 1921) (ci := 0) (As := [vI i270]) gc_X3_roomOf (m_X3_roomOf hC.fl h) rfl hi q2821 q2822 q2823 (gle rfl) (gle rfl) rfl (gle rfl) rfl dL_law_1921 (gk_i fun r272 G271 h => ?_) (fun _ _ h hio => g_out0 hC (hX _ _ h) hio)
        refine g_istore hC (pc := 1924) (lv' := [(7, vI r272), (6, vI r269), (0, vQ (some c1)), (1, vQ (some t1)), (2, vQ (some t2)), (3, vQ (some t3)), (4, vQ (some t4)), (5, vI x5)]) (by decide) rfl dL_law_1924 ?_
        refine g_aload_n hC (pc := 1926) 4 rfl rfl dL_law_1926 ?_
        obtain ⟨hi, h⟩ := h
        refine g_callV hC (pc := 1927) (ci := 0) (As := []) gc_X3_thrown (m_X3_thrown hC.fl h) rfl hi q2538 q2539 q2540 (gle rfl) (gle rfl) rfl (gle rfl) rfl dL_law_1927 (gk_i fun r274 G273 h => ?_) (fun _ _ h hio => g_out0 hC (hX _ _ h) hio)
        refine g_iload hC (pc := 1930) 1 rfl dL_law_1930 ?_
        refine g_icmp_eq hC (pc := 1932) 1937 h (by decide) dL_law_1932 (fun h => ?_) (fun h => ?_)
        · refine g_iload hC (pc := 1937) 1 rfl dL_law_1937 ?_
          refine g_if_ne hC (pc := 1939) 1954 h (by decide) dL_law_1939 (fun h => ?_) (fun h => ?_)
          · exact g_sub [2, 3, 4, 5, 6, 7] rfl (w_L_law_1954 hC hK hX hJ28 h)
          · refine g_aload_n hC (pc := 1942) 5 rfl rfl dL_law_1942 ?_
            refine g_iconst hC (pc := 1943) (v := (0 : Int32)) (by decide) dL_law_1943 ?_
            refine g_aldL hC (pc := 1944) h dL_law_1944 (fun i275 h => ?_)
            refine g_iload hC (pc := 1945) 0 rfl dL_law_1945 ?_
            refine g_i2l hC (pc := 1947) dL_law_1947 ?_
            refine g_lcmp hC (pc := 1948) dL_law_1948 ?_
            refine g_if_eq hC (pc := 1949) 1954 h (by decide) dL_law_1949 (fun h => ?_) (fun h => ?_)
            · exact g_sub [2, 3, 4, 5, 6, 7] rfl (w_L_law_1954 hC hK hX hJ28 h)
            · refine g_iconst hC (pc := 1952) (v := (0 : Int32)) (by decide) dL_law_1952 ?_
              exact g_zret hC (pc := 1953) rfl (hK _ _ h) dL_law_1953
        · refine g_iconst hC (pc := 1935) (v := (0 : Int32)) (by decide) dL_law_1935 ?_
          exact g_zret hC (pc := 1936) rfl (hK _ _ h) dL_law_1936
      by_cases e31 : (i3 &&& (63 : Int32)) = (31 : Int32)
      · refine g_tableIn hC (pc := 44) 1957 (by rw [e31]; decide) (by rw [e31]; decide) (by rw [e31]; rfl) (by decide) dL_law_44 ?_
        replace h := h.2.2.2.2.2.2.2.2.2.2.2.2.2.2.2.2.2.2.2.2.2.2.2.2.2.2.2.2.2.2.2.1 e31
        refine g_aload_n hC (pc := 1957) 1 rfl rfl dL_law_1957 ?_
        refine g_aload_n hC (pc := 1958) 0 rfl rfl dL_law_1958 ?_
        refine g_iload hC (pc := 1959) 5 rfl dL_law_1959 ?_
        refine g_iconst hC (pc := 1961) (v := (1 : Int32)) (by decide) dL_law_1961 ?_
        refine g_iadd hC (pc := 1962) dL_law_1962 ?_
        refine g_aldI hC (pc := 1963) h dL_law_1963 (fun i276 h => ?_)
        refine g_aload_n hC (pc := 1964) 3 rfl rfl dL_law_1964 ?_
        refine g_callSW hC (pc := 1965) (b := 0) (As := [vQ (some t1), vI i276, vQ (some t3)]) gc_X0_wage (m_X0_wage hC.fl h) q1880 q1881 (gle rfl) (gle rfl) rfl (gle rfl) rfl dL_law_1965 (gk_i fun r278 G277 h => ?_) (fun _ _ h hio => g_out0 hC (hX _ _ h) hio)
        refine g_istore hC (pc := 1968) (lv' := [(6, vI r278), (0, vQ (some c1)), (1, vQ (some t1)), (2, vQ (some t2)), (3, vQ (some t3)), (4, vQ (some t4)), (5, vI x5)]) (by decide) rfl dL_law_1968 ?_
        refine g_aload_n hC (pc := 1970) 3 rfl rfl dL_law_1970 ?_
        refine g_aload_n hC (pc := 1971) 1 rfl rfl dL_law_1971 ?_
        refine g_iload hC (pc := 1972) 6 rfl dL_law_1972 ?_
        refine g_iconst hC (pc := 1974) (v := (1 : Int32)) (by decide) dL_law_1974 ?_
        refine g_iadd hC (pc := 1975) dL_law_1975 ?_
        refine g_aldI hC (pc := 1976) h dL_law_1976 (fun i279 h => ?_)
        obtain ⟨hi, h⟩ := h
        refine g_callV hC (pc := 1977) (ci := 0) (As := [vI i279]) gc_X3_wage (m_X3_wage hC.fl h) rfl hi q2825 q2826 q2827 (gle rfl) (gle rfl) rfl (gle rfl) rfl dL_law_1977 (gk_i fun r281 G280 h => ?_) (fun _ _ h hio => g_out0 hC (hX _ _ h) hio)
        refine g_istore hC (pc := 1980) (lv' := [(7, vI r281), (6, vI r278), (0, vQ (some c1)), (1, vQ (some t1)), (2, vQ (some t2)), (3, vQ (some t3)), (4, vQ (some t4)), (5, vI x5)]) (by decide) rfl dL_law_1980 ?_
        refine g_aload_n hC (pc := 1982) 4 rfl rfl dL_law_1982 ?_
        obtain ⟨hi, h⟩ := h
        refine g_callV hC (pc := 1983) (ci := 0) (As := []) gc_X3_thrown (m_X3_thrown hC.fl h) rfl hi q2538 q2539 q2540 (gle rfl) (gle rfl) rfl (gle rfl) rfl dL_law_1983 (gk_i fun r283 G282 h => ?_) (fun _ _ h hio => g_out0 hC (hX _ _ h) hio)
        refine g_iload hC (pc := 1986) 1 rfl dL_law_1986 ?_
        refine g_icmp_eq hC (pc := 1988) 1993 h (by decide) dL_law_1988 (fun h => ?_) (fun h => ?_)
        · refine g_iload hC (pc := 1993) 1 rfl dL_law_1993 ?_
          refine g_if_ne hC (pc := 1995) 2010 h (by decide) dL_law_1995 (fun h => ?_) (fun h => ?_)
          · exact g_sub [2, 3, 4, 5, 6, 7] rfl (w_L_law_2010 hC hK hX hJ28 h)
          · refine g_aload_n hC (pc := 1998) 5 rfl rfl dL_law_1998 ?_
            refine g_iconst hC (pc := 1999) (v := (0 : Int32)) (by decide) dL_law_1999 ?_
            refine g_aldL hC (pc := 2000) h dL_law_2000 (fun i284 h => ?_)
            refine g_iload hC (pc := 2001) 0 rfl dL_law_2001 ?_
            refine g_i2l hC (pc := 2003) dL_law_2003 ?_
            refine g_lcmp hC (pc := 2004) dL_law_2004 ?_
            refine g_if_eq hC (pc := 2005) 2010 h (by decide) dL_law_2005 (fun h => ?_) (fun h => ?_)
            · exact g_sub [2, 3, 4, 5, 6, 7] rfl (w_L_law_2010 hC hK hX hJ28 h)
            · refine g_iconst hC (pc := 2008) (v := (0 : Int32)) (by decide) dL_law_2008 ?_
              exact g_zret hC (pc := 2009) rfl (hK _ _ h) dL_law_2009
        · refine g_iconst hC (pc := 1991) (v := (0 : Int32)) (by decide) dL_law_1991 ?_
          exact g_zret hC (pc := 1992) rfl (hK _ _ h) dL_law_1992
      by_cases e32 : (i3 &&& (63 : Int32)) = (32 : Int32)
      · refine g_tableIn hC (pc := 44) 2013 (by rw [e32]; decide) (by rw [e32]; decide) (by rw [e32]; rfl) (by decide) dL_law_44 ?_
        replace h := h.2.2.2.2.2.2.2.2.2.2.2.2.2.2.2.2.2.2.2.2.2.2.2.2.2.2.2.2.2.2.2.2.1 e32
        refine g_aload_n hC (pc := 2013) 1 rfl rfl dL_law_2013 ?_
        refine g_aload_n hC (pc := 2014) 0 rfl rfl dL_law_2014 ?_
        refine g_iload hC (pc := 2015) 5 rfl dL_law_2015 ?_
        refine g_iconst hC (pc := 2017) (v := (1 : Int32)) (by decide) dL_law_2017 ?_
        refine g_iadd hC (pc := 2018) dL_law_2018 ?_
        refine g_aldI hC (pc := 2019) h dL_law_2019 (fun i285 h => ?_)
        refine g_aload_n hC (pc := 2020) 3 rfl rfl dL_law_2020 ?_
        refine g_callSW hC (pc := 2021) (b := 0) (As := [vQ (some t1), vI i285, vQ (some t3)]) gc_X0_effort (m_X0_effort hC.fl h) q1889 q1890 (gle rfl) (gle rfl) rfl (gle rfl) rfl dL_law_2021 (gk_i fun r287 G286 h => ?_) (fun _ _ h hio => g_out0 hC (hX _ _ h) hio)
        refine g_istore hC (pc := 2024) (lv' := [(6, vI r287), (0, vQ (some c1)), (1, vQ (some t1)), (2, vQ (some t2)), (3, vQ (some t3)), (4, vQ (some t4)), (5, vI x5)]) (by decide) rfl dL_law_2024 ?_
        refine g_aload_n hC (pc := 2026) 3 rfl rfl dL_law_2026 ?_
        refine g_aload_n hC (pc := 2027) 1 rfl rfl dL_law_2027 ?_
        refine g_iload hC (pc := 2028) 6 rfl dL_law_2028 ?_
        refine g_iconst hC (pc := 2030) (v := (1 : Int32)) (by decide) dL_law_2030 ?_
        refine g_iadd hC (pc := 2031) dL_law_2031 ?_
        refine g_aldI hC (pc := 2032) h dL_law_2032 (fun i288 h => ?_)
        obtain ⟨hi, h⟩ := h
        refine g_callV hC (pc := 2033) (ci := 0) (As := [vI i288]) gc_X3_effort (m_X3_effort hC.fl h) rfl hi q2829 q2830 q2831 (gle rfl) (gle rfl) rfl (gle rfl) rfl dL_law_2033 (gk_i fun r290 G289 h => ?_) (fun _ _ h hio => g_out0 hC (hX _ _ h) hio)
        refine g_istore hC (pc := 2036) (lv' := [(7, vI r290), (6, vI r287), (0, vQ (some c1)), (1, vQ (some t1)), (2, vQ (some t2)), (3, vQ (some t3)), (4, vQ (some t4)), (5, vI x5)]) (by decide) rfl dL_law_2036 ?_
        refine g_aload_n hC (pc := 2038) 4 rfl rfl dL_law_2038 ?_
        obtain ⟨hi, h⟩ := h
        refine g_callV hC (pc := 2039) (ci := 0) (As := []) gc_X3_thrown (m_X3_thrown hC.fl h) rfl hi q2538 q2539 q2540 (gle rfl) (gle rfl) rfl (gle rfl) rfl dL_law_2039 (gk_i fun r292 G291 h => ?_) (fun _ _ h hio => g_out0 hC (hX _ _ h) hio)
        refine g_iload hC (pc := 2042) 1 rfl dL_law_2042 ?_
        refine g_icmp_eq hC (pc := 2044) 2049 h (by decide) dL_law_2044 (fun h => ?_) (fun h => ?_)
        · refine g_iload hC (pc := 2049) 1 rfl dL_law_2049 ?_
          refine g_if_ne hC (pc := 2051) 2066 h (by decide) dL_law_2051 (fun h => ?_) (fun h => ?_)
          · exact g_sub [2, 3, 4, 5, 6, 7] rfl (w_L_law_2066 hC hK hX hJ28 h)
          · refine g_aload_n hC (pc := 2054) 5 rfl rfl dL_law_2054 ?_
            refine g_iconst hC (pc := 2055) (v := (0 : Int32)) (by decide) dL_law_2055 ?_
            refine g_aldL hC (pc := 2056) h dL_law_2056 (fun i293 h => ?_)
            refine g_iload hC (pc := 2057) 0 rfl dL_law_2057 ?_
            refine g_i2l hC (pc := 2059) dL_law_2059 ?_
            refine g_lcmp hC (pc := 2060) dL_law_2060 ?_
            refine g_if_eq hC (pc := 2061) 2066 h (by decide) dL_law_2061 (fun h => ?_) (fun h => ?_)
            · exact g_sub [2, 3, 4, 5, 6, 7] rfl (w_L_law_2066 hC hK hX hJ28 h)
            · refine g_iconst hC (pc := 2064) (v := (0 : Int32)) (by decide) dL_law_2064 ?_
              exact g_zret hC (pc := 2065) rfl (hK _ _ h) dL_law_2065
        · refine g_iconst hC (pc := 2047) (v := (0 : Int32)) (by decide) dL_law_2047 ?_
          exact g_zret hC (pc := 2048) rfl (hK _ _ h) dL_law_2048
      by_cases e33 : (i3 &&& (63 : Int32)) = (33 : Int32)
      · refine g_tableIn hC (pc := 44) 2069 (by rw [e33]; decide) (by rw [e33]; decide) (by rw [e33]; rfl) (by decide) dL_law_44 ?_
        replace h := h.2.2.2.2.2.2.2.2.2.2.2.2.2.2.2.2.2.2.2.2.2.2.2.2.2.2.2.2.2.2.2.2.2.1 e33
        refine g_aload_n hC (pc := 2069) 1 rfl rfl dL_law_2069 ?_
        refine g_aload_n hC (pc := 2070) 0 rfl rfl dL_law_2070 ?_
        refine g_iload hC (pc := 2071) 5 rfl dL_law_2071 ?_
        refine g_iconst hC (pc := 2073) (v := (1 : Int32)) (by decide) dL_law_2073 ?_
        refine g_iadd hC (pc := 2074) dL_law_2074 ?_
        refine g_aldI hC (pc := 2075) h dL_law_2075 (fun i294 h => ?_)
        refine g_aload_n hC (pc := 2076) 3 rfl rfl dL_law_2076 ?_
        refine g_callSW hC (pc := 2077) (b := 0) (As := [vQ (some t1), vI i294, vQ (some t3)]) gc_X0_nightsUntilDone (m_X0_nightsUntilDone hC.fl h) q1898 q1899 (gle rfl) (gle rfl) rfl (gle rfl) rfl dL_law_2077 (gk_i fun r296 G295 h => ?_) (fun _ _ h hio => g_out0 hC (hX _ _ h) hio)
        refine g_istore hC (pc := 2080) (lv' := [(6, vI r296), (0, vQ (some c1)), (1, vQ (some t1)), (2, vQ (some t2)), (3, vQ (some t3)), (4, vQ (some t4)), (5, vI x5)]) (by decide) rfl dL_law_2080 ?_
        refine g_aload_n hC (pc := 2082) 3 rfl rfl dL_law_2082 ?_
        refine g_aload_n hC (pc := 2083) 1 rfl rfl dL_law_2083 ?_
        refine g_iload hC (pc := 2084) 6 rfl dL_law_2084 ?_
        refine g_iconst hC (pc := 2086) (v := (1 : Int32)) (by decide) dL_law_2086 ?_
        refine g_iadd hC (pc := 2087) dL_law_2087 ?_
        refine g_aldI hC (pc := 2088) h dL_law_2088 (fun i297 h => ?_)
        obtain ⟨hi, h⟩ := h
        refine g_callV hC (pc := 2089) (ci := 0) (As := [vI i297]) gc_X3_nightsUntilDone (m_X3_nightsUntilDone hC.fl h) rfl hi q2833 q2834 q2835 (gle rfl) (gle rfl) rfl (gle rfl) rfl dL_law_2089 (gk_i fun r299 G298 h => ?_) (fun _ _ h hio => g_out0 hC (hX _ _ h) hio)
        refine g_istore hC (pc := 2092) (lv' := [(7, vI r299), (6, vI r296), (0, vQ (some c1)), (1, vQ (some t1)), (2, vQ (some t2)), (3, vQ (some t3)), (4, vQ (some t4)), (5, vI x5)]) (by decide) rfl dL_law_2092 ?_
        refine g_aload_n hC (pc := 2094) 4 rfl rfl dL_law_2094 ?_
        obtain ⟨hi, h⟩ := h
        refine g_callV hC (pc := 2095) (ci := 0) (As := []) gc_X3_thrown (m_X3_thrown hC.fl h) rfl hi q2538 q2539 q2540 (gle rfl) (gle rfl) rfl (gle rfl) rfl dL_law_2095 (gk_i fun r301 G300 h => ?_) (fun _ _ h hio => g_out0 hC (hX _ _ h) hio)
        refine g_iload hC (pc := 2098) 1 rfl dL_law_2098 ?_
        refine g_icmp_eq hC (pc := 2100) 2105 h (by decide) dL_law_2100 (fun h => ?_) (fun h => ?_)
        · refine g_iload hC (pc := 2105) 1 rfl dL_law_2105 ?_
          refine g_if_ne hC (pc := 2107) 2122 h (by decide) dL_law_2107 (fun h => ?_) (fun h => ?_)
          · exact g_sub [2, 3, 4, 5, 6, 7] rfl (w_L_law_2122 hC hK hX hJ28 h)
          · refine g_aload_n hC (pc := 2110) 5 rfl rfl dL_law_2110 ?_
            refine g_iconst hC (pc := 2111) (v := (0 : Int32)) (by decide) dL_law_2111 ?_
            refine g_aldL hC (pc := 2112) h dL_law_2112 (fun i302 h => ?_)
            refine g_iload hC (pc := 2113) 0 rfl dL_law_2113 ?_
            refine g_i2l hC (pc := 2115) dL_law_2115 ?_
            refine g_lcmp hC (pc := 2116) dL_law_2116 ?_
            refine g_if_eq hC (pc := 2117) 2122 h (by decide) dL_law_2117 (fun h => ?_) (fun h => ?_)
            · exact g_sub [2, 3, 4, 5, 6, 7] rfl (w_L_law_2122 hC hK hX hJ28 h)
            · refine g_iconst hC (pc := 2120) (v := (0 : Int32)) (by decide) dL_law_2120 ?_
              exact g_zret hC (pc := 2121) rfl (hK _ _ h) dL_law_2121
        · refine g_iconst hC (pc := 2103) (v := (0 : Int32)) (by decide) dL_law_2103 ?_
          exact g_zret hC (pc := 2104) rfl (hK _ _ h) dL_law_2104
      by_cases e34 : (i3 &&& (63 : Int32)) = (34 : Int32)
      · refine g_tableIn hC (pc := 44) 2125 (by rw [e34]; decide) (by rw [e34]; decide) (by rw [e34]; rfl) (by decide) dL_law_44 ?_
        replace h := h.2.2.2.2.2.2.2.2.2.2.2.2.2.2.2.2.2.2.2.2.2.2.2.2.2.2.2.2.2.2.2.2.2.2.1 e34
        refine g_aload_n hC (pc := 2125) 1 rfl rfl dL_law_2125 ?_
        refine g_aload_n hC (pc := 2126) 0 rfl rfl dL_law_2126 ?_
        refine g_iload hC (pc := 2127) 5 rfl dL_law_2127 ?_
        refine g_iconst hC (pc := 2129) (v := (1 : Int32)) (by decide) dL_law_2129 ?_
        refine g_iadd hC (pc := 2130) dL_law_2130 ?_
        refine g_aldI hC (pc := 2131) h dL_law_2131 (fun i303 h => ?_)
        refine g_aload_n hC (pc := 2132) 3 rfl rfl dL_law_2132 ?_
        refine g_callSW hC (pc := 2133) (b := 0) (As := [vQ (some t1), vI i303, vQ (some t3)]) gc_X0_chestAfter (m_X0_chestAfter hC.fl h) q1923 q1924 (gle rfl) (gle rfl) rfl (gle rfl) rfl dL_law_2133 (gk_i fun r305 G304 h => ?_) (fun _ _ h hio => g_out0 hC (hX _ _ h) hio)
        refine g_istore hC (pc := 2136) (lv' := [(6, vI r305), (0, vQ (some c1)), (1, vQ (some t1)), (2, vQ (some t2)), (3, vQ (some t3)), (4, vQ (some t4)), (5, vI x5)]) (by decide) rfl dL_law_2136 ?_
        refine g_aload_n hC (pc := 2138) 3 rfl rfl dL_law_2138 ?_
        refine g_aload_n hC (pc := 2139) 1 rfl rfl dL_law_2139 ?_
        refine g_iload hC (pc := 2140) 6 rfl dL_law_2140 ?_
        refine g_iconst hC (pc := 2142) (v := (1 : Int32)) (by decide) dL_law_2142 ?_
        refine g_iadd hC (pc := 2143) dL_law_2143 ?_
        refine g_aldI hC (pc := 2144) h dL_law_2144 (fun i306 h => ?_)
        obtain ⟨hi, h⟩ := h
        refine g_callV hC (pc := 2145) (ci := 0) (As := [vI i306]) gc_X3_chestAfter (m_X3_chestAfter hC.fl h) rfl hi q2841 q2842 q2843 (gle rfl) (gle rfl) rfl (gle rfl) rfl dL_law_2145 (gk_i fun r308 G307 h => ?_) (fun _ _ h hio => g_out0 hC (hX _ _ h) hio)
        refine g_istore hC (pc := 2148) (lv' := [(7, vI r308), (6, vI r305), (0, vQ (some c1)), (1, vQ (some t1)), (2, vQ (some t2)), (3, vQ (some t3)), (4, vQ (some t4)), (5, vI x5)]) (by decide) rfl dL_law_2148 ?_
        refine g_aload_n hC (pc := 2150) 4 rfl rfl dL_law_2150 ?_
        obtain ⟨hi, h⟩ := h
        refine g_callV hC (pc := 2151) (ci := 0) (As := []) gc_X3_thrown (m_X3_thrown hC.fl h) rfl hi q2538 q2539 q2540 (gle rfl) (gle rfl) rfl (gle rfl) rfl dL_law_2151 (gk_i fun r310 G309 h => ?_) (fun _ _ h hio => g_out0 hC (hX _ _ h) hio)
        refine g_iload hC (pc := 2154) 1 rfl dL_law_2154 ?_
        refine g_icmp_eq hC (pc := 2156) 2161 h (by decide) dL_law_2156 (fun h => ?_) (fun h => ?_)
        · refine g_iload hC (pc := 2161) 1 rfl dL_law_2161 ?_
          refine g_if_ne hC (pc := 2163) 2178 h (by decide) dL_law_2163 (fun h => ?_) (fun h => ?_)
          · exact g_sub [2, 3, 4, 5, 6, 7] rfl (w_L_law_2178 hC hK hX hJ28 h)
          · refine g_aload_n hC (pc := 2166) 5 rfl rfl dL_law_2166 ?_
            refine g_iconst hC (pc := 2167) (v := (0 : Int32)) (by decide) dL_law_2167 ?_
            refine g_aldL hC (pc := 2168) h dL_law_2168 (fun i311 h => ?_)
            refine g_iload hC (pc := 2169) 0 rfl dL_law_2169 ?_
            refine g_i2l hC (pc := 2171) dL_law_2171 ?_
            refine g_lcmp hC (pc := 2172) dL_law_2172 ?_
            refine g_if_eq hC (pc := 2173) 2178 h (by decide) dL_law_2173 (fun h => ?_) (fun h => ?_)
            · exact g_sub [2, 3, 4, 5, 6, 7] rfl (w_L_law_2178 hC hK hX hJ28 h)
            · refine g_iconst hC (pc := 2176) (v := (0 : Int32)) (by decide) dL_law_2176 ?_
              exact g_zret hC (pc := 2177) rfl (hK _ _ h) dL_law_2177
        · refine g_iconst hC (pc := 2159) (v := (0 : Int32)) (by decide) dL_law_2159 ?_
          exact g_zret hC (pc := 2160) rfl (hK _ _ h) dL_law_2160
      by_cases e35 : (i3 &&& (63 : Int32)) = (35 : Int32)
      · refine g_tableIn hC (pc := 44) 2181 (by rw [e35]; decide) (by rw [e35]; decide) (by rw [e35]; rfl) (by decide) dL_law_44 ?_
        replace h := h.2.2.2.2.2.2.2.2.2.2.2.2.2.2.2.2.2.2.2.2.2.2.2.2.2.2.2.2.2.2.2.2.2.2.2.1 e35
        refine g_aload_n hC (pc := 2181) 1 rfl rfl dL_law_2181 ?_
        refine g_aload_n hC (pc := 2182) 0 rfl rfl dL_law_2182 ?_
        refine g_iload hC (pc := 2183) 5 rfl dL_law_2183 ?_
        refine g_iconst hC (pc := 2185) (v := (1 : Int32)) (by decide) dL_law_2185 ?_
        refine g_iadd hC (pc := 2186) dL_law_2186 ?_
        refine g_aldI hC (pc := 2187) h dL_law_2187 (fun i312 h => ?_)
        refine g_aload_n hC (pc := 2188) 0 rfl rfl dL_law_2188 ?_
        refine g_iload hC (pc := 2189) 5 rfl dL_law_2189 ?_
        refine g_iconst hC (pc := 2191) (v := (2 : Int32)) (by decide) dL_law_2191 ?_
        refine g_iadd hC (pc := 2192) dL_law_2192 ?_
        refine g_aldI hC (pc := 2193) h dL_law_2193 (fun i313 h => ?_)
        refine g_aload_n hC (pc := 2194) 3 rfl rfl dL_law_2194 ?_
        refine g_callSW hC (pc := 2195) (b := 0) (As := [vQ (some t1), vI i312, vI i313, vQ (some t3)]) gc_X0_debtAfter (m_X0_debtAfter hC.fl h) q1939 q1940 (gle rfl) (gle rfl) rfl (gle rfl) rfl dL_law_2195 (gk_i fun r315 G314 h => ?_) (fun _ _ h hio => g_out0 hC (hX _ _ h) hio)
        refine g_istore hC (pc := 2198) (lv' := [(6, vI r315), (0, vQ (some c1)), (1, vQ (some t1)), (2, vQ (some t2)), (3, vQ (some t3)), (4, vQ (some t4)), (5, vI x5)]) (by decide) rfl dL_law_2198 ?_
        refine g_aload_n hC (pc := 2200) 3 rfl rfl dL_law_2200 ?_
        refine g_aload_n hC (pc := 2201) 1 rfl rfl dL_law_2201 ?_
        refine g_iload hC (pc := 2202) 6 rfl dL_law_2202 ?_
        refine g_iconst hC (pc := 2204) (v := (1 : Int32)) (by decide) dL_law_2204 ?_
        refine g_iadd hC (pc := 2205) dL_law_2205 ?_
        refine g_aldI hC (pc := 2206) h dL_law_2206 (fun i316 h => ?_)
        refine g_aload_n hC (pc := 2207) 1 rfl rfl dL_law_2207 ?_
        refine g_iload hC (pc := 2208) 6 rfl dL_law_2208 ?_
        refine g_iconst hC (pc := 2210) (v := (2 : Int32)) (by decide) dL_law_2210 ?_
        refine g_iadd hC (pc := 2211) dL_law_2211 ?_
        refine g_aldI hC (pc := 2212) h dL_law_2212 (fun i317 h => ?_)
        obtain ⟨hi, h⟩ := h
        refine g_callV hC (pc := 2213) (ci := 0) (As := [vI i316, vI i317]) gc_X3_debtAfter (m_X3_debtAfter hC.fl h) rfl hi q2849 q2850 q2851 (gle rfl) (gle rfl) rfl (gle rfl) rfl dL_law_2213 (gk_i fun r319 G318 h => ?_) (fun _ _ h hio => g_out0 hC (hX _ _ h) hio)
        refine g_istore hC (pc := 2216) (lv' := [(7, vI r319), (6, vI r315), (0, vQ (some c1)), (1, vQ (some t1)), (2, vQ (some t2)), (3, vQ (some t3)), (4, vQ (some t4)), (5, vI x5)]) (by decide) rfl dL_law_2216 ?_
        refine g_aload_n hC (pc := 2218) 4 rfl rfl dL_law_2218 ?_
        obtain ⟨hi, h⟩ := h
        refine g_callV hC (pc := 2219) (ci := 0) (As := []) gc_X3_thrown (m_X3_thrown hC.fl h) rfl hi q2538 q2539 q2540 (gle rfl) (gle rfl) rfl (gle rfl) rfl dL_law_2219 (gk_i fun r321 G320 h => ?_) (fun _ _ h hio => g_out0 hC (hX _ _ h) hio)
        refine g_iload hC (pc := 2222) 1 rfl dL_law_2222 ?_
        refine g_icmp_eq hC (pc := 2224) 2229 h (by decide) dL_law_2224 (fun h => ?_) (fun h => ?_)
        · refine g_iload hC (pc := 2229) 1 rfl dL_law_2229 ?_
          refine g_if_ne hC (pc := 2231) 2246 h (by decide) dL_law_2231 (fun h => ?_) (fun h => ?_)
          · exact g_sub [2, 3, 4, 5, 6, 7] rfl (w_L_law_2246 hC hK hX hJ28 h)
          · refine g_aload_n hC (pc := 2234) 5 rfl rfl dL_law_2234 ?_
            refine g_iconst hC (pc := 2235) (v := (0 : Int32)) (by decide) dL_law_2235 ?_
            refine g_aldL hC (pc := 2236) h dL_law_2236 (fun i322 h => ?_)
            refine g_iload hC (pc := 2237) 0 rfl dL_law_2237 ?_
            refine g_i2l hC (pc := 2239) dL_law_2239 ?_
            refine g_lcmp hC (pc := 2240) dL_law_2240 ?_
            refine g_if_eq hC (pc := 2241) 2246 h (by decide) dL_law_2241 (fun h => ?_) (fun h => ?_)
            · exact g_sub [2, 3, 4, 5, 6, 7] rfl (w_L_law_2246 hC hK hX hJ28 h)
            · refine g_iconst hC (pc := 2244) (v := (0 : Int32)) (by decide) dL_law_2244 ?_
              exact g_zret hC (pc := 2245) rfl (hK _ _ h) dL_law_2245
        · refine g_iconst hC (pc := 2227) (v := (0 : Int32)) (by decide) dL_law_2227 ?_
          exact g_zret hC (pc := 2228) rfl (hK _ _ h) dL_law_2228
      by_cases e36 : (i3 &&& (63 : Int32)) = (36 : Int32)
      · refine g_tableIn hC (pc := 44) 2249 (by rw [e36]; decide) (by rw [e36]; decide) (by rw [e36]; rfl) (by decide) dL_law_44 ?_
        replace h := h.2.2.2.2.2.2.2.2.2.2.2.2.2.2.2.2.2.2.2.2.2.2.2.2.2.2.2.2.2.2.2.2.2.2.2.2.1 e36
        refine g_aload_n hC (pc := 2249) 1 rfl rfl dL_law_2249 ?_
        obtain ⟨hi, h⟩ := h
        refine g_callV hC (pc := 2250) (ci := 1) (As := []) gc_X1_night (m_X1_night hC.fl h) rfl hi q342 q343 q344 (gle rfl) (gle rfl) rfl (gle rfl) rfl dL_law_2250 (gk_i fun r324 G323 h => ?_) (fun _ _ h hio => g_out0 hC (hX _ _ h) hio)
        refine g_aload_n hC (pc := 2253) 2 rfl rfl dL_law_2253 ?_
        obtain ⟨hi, h⟩ := h
        refine g_callV hC (pc := 2254) (ci := 0) (As := []) gc_X3_night (m_X3_night hC.fl h) rfl hi q2853 q2854 q2855 (gle rfl) (gle rfl) rfl (gle rfl) rfl dL_law_2254 (gk_i fun r326 G325 h => ?_) (fun _ _ h hio => g_out0 hC (hX _ _ h) hio)
        refine g_icmp_eq hC (pc := 2257) 2889 h (by decide) dL_law_2257 (fun h => ?_) (fun h => ?_)
        · exact g_sub [0, 1, 2, 3, 4, 5] rfl (w_L_law_2889 hC hK hX hJ28 h)
        · refine g_iconst hC (pc := 2260) (v := (0 : Int32)) (by decide) dL_law_2260 ?_
          exact g_zret hC (pc := 2261) rfl (hK _ _ h) dL_law_2261
      by_cases e37 : (i3 &&& (63 : Int32)) = (37 : Int32)
      · refine g_tableIn hC (pc := 44) 2262 (by rw [e37]; decide) (by rw [e37]; decide) (by rw [e37]; rfl) (by decide) dL_law_44 ?_
        replace h := h.2.2.2.2.2.2.2.2.2.2.2.2.2.2.2.2.2.2.2.2.2.2.2.2.2.2.2.2.2.2.2.2.2.2.2.2.2.1 e37
        refine g_aload_n hC (pc := 2262) 1 rfl rfl dL_law_2262 ?_
        obtain ⟨hi, h⟩ := h
        refine g_callV hC (pc := 2263) (ci := 1) (As := []) gc_X1_chest (m_X1_chest hC.fl h) rfl hi q346 q347 q348 (gle rfl) (gle rfl) rfl (gle rfl) rfl dL_law_2263 (gk_i fun r328 G327 h => ?_) (fun _ _ h hio => g_out0 hC (hX _ _ h) hio)
        refine g_aload_n hC (pc := 2266) 2 rfl rfl dL_law_2266 ?_
        obtain ⟨hi, h⟩ := h
        refine g_callV hC (pc := 2267) (ci := 0) (As := []) gc_X3_chest (m_X3_chest hC.fl h) rfl hi q2861 q2862 q2863 (gle rfl) (gle rfl) rfl (gle rfl) rfl dL_law_2267 (gk_i fun r330 G329 h => ?_) (fun _ _ h hio => g_out0 hC (hX _ _ h) hio)
        refine g_icmp_eq hC (pc := 2270) 2889 h (by decide) dL_law_2270 (fun h => ?_) (fun h => ?_)
        · exact g_sub [0, 1, 2, 3, 4, 5] rfl (w_L_law_2889 hC hK hX hJ28 h)
        · refine g_iconst hC (pc := 2273) (v := (0 : Int32)) (by decide) dL_law_2273 ?_
          exact g_zret hC (pc := 2274) rfl (hK _ _ h) dL_law_2274
      by_cases e38 : (i3 &&& (63 : Int32)) = (38 : Int32)
      · refine g_tableIn hC (pc := 44) 2275 (by rw [e38]; decide) (by rw [e38]; decide) (by rw [e38]; rfl) (by decide) dL_law_44 ?_
        replace h := h.2.2.2.2.2.2.2.2.2.2.2.2.2.2.2.2.2.2.2.2.2.2.2.2.2.2.2.2.2.2.2.2.2.2.2.2.2.2.1 e38
        refine g_aload_n hC (pc := 2275) 1 rfl rfl dL_law_2275 ?_
        obtain ⟨hi, h⟩ := h
        refine g_callV hC (pc := 2276) (ci := 1) (As := []) gc_X1_allCrumbs (m_X1_allCrumbs hC.fl h) rfl hi q350 q351 q352 (gle rfl) (gle rfl) rfl (gle rfl) rfl dL_law_2276 (gk_i fun r332 G331 h => ?_) (fun _ _ h hio => g_out0 hC (hX _ _ h) hio)
        refine g_aload_n hC (pc := 2279) 2 rfl rfl dL_law_2279 ?_
        obtain ⟨hi, h⟩ := h
        refine g_callV hC (pc := 2280) (ci := 0) (As := []) gc_X3_allCrumbs (m_X3_allCrumbs hC.fl h) rfl hi q2865 q2866 q2867 (gle rfl) (gle rfl) rfl (gle rfl) rfl dL_law_2280 (gk_i fun r334 G333 h => ?_) (fun _ _ h hio => g_out0 hC (hX _ _ h) hio)
        refine g_icmp_eq hC (pc := 2283) 2889 h (by decide) dL_law_2283 (fun h => ?_) (fun h => ?_)
        · exact g_sub [0, 1, 2, 3, 4, 5] rfl (w_L_law_2889 hC hK hX hJ28 h)
        · refine g_iconst hC (pc := 2286) (v := (0 : Int32)) (by decide) dL_law_2286 ?_
          exact g_zret hC (pc := 2287) rfl (hK _ _ h) dL_law_2287
      by_cases e39 : (i3 &&& (63 : Int32)) = (39 : Int32)
      · refine g_tableIn hC (pc := 44) 2288 (by rw [e39]; decide) (by rw [e39]; decide) (by rw [e39]; rfl) (by decide) dL_law_44 ?_
        replace h := h.2.2.2.2.2.2.2.2.2.2.2.2.2.2.2.2.2.2.2.2.2.2.2.2.2.2.2.2.2.2.2.2.2.2.2.2.2.2.2.1 e39
        refine g_aload_n hC (pc := 2288) 1 rfl rfl dL_law_2288 ?_
        obtain ⟨hi, h⟩ := h
        refine g_callV hC (pc := 2289) (ci := 1) (As := []) gc_X1_allCrumbsByAccounts (m_X1_allCrumbsByAccounts hC.fl h) rfl hi q713 q714 q715 (gle rfl) (gle rfl) rfl (gle rfl) rfl dL_law_2289 (gk_i fun r336 G335 h => ?_) (fun _ _ h hio => g_out0 hC (hX _ _ h) hio)
        refine g_aload_n hC (pc := 2292) 2 rfl rfl dL_law_2292 ?_
        obtain ⟨hi, h⟩ := h
        refine g_callV hC (pc := 2293) (ci := 0) (As := []) gc_X3_allCrumbsByAccounts (m_X3_allCrumbsByAccounts hC.fl h) rfl hi q2869 q2870 q2871 (gle rfl) (gle rfl) rfl (gle rfl) rfl dL_law_2293 (gk_i fun r338 G337 h => ?_) (fun _ _ h hio => g_out0 hC (hX _ _ h) hio)
        refine g_icmp_eq hC (pc := 2296) 2889 h (by decide) dL_law_2296 (fun h => ?_) (fun h => ?_)
        · exact g_sub [0, 1, 2, 3, 4, 5] rfl (w_L_law_2889 hC hK hX hJ28 h)
        · refine g_iconst hC (pc := 2299) (v := (0 : Int32)) (by decide) dL_law_2299 ?_
          exact g_zret hC (pc := 2300) rfl (hK _ _ h) dL_law_2300
      by_cases e40 : (i3 &&& (63 : Int32)) = (40 : Int32)
      · refine g_tableIn hC (pc := 44) 2301 (by rw [e40]; decide) (by rw [e40]; decide) (by rw [e40]; rfl) (by decide) dL_law_44 ?_
        replace h := h.2.2.2.2.2.2.2.2.2.2.2.2.2.2.2.2.2.2.2.2.2.2.2.2.2.2.2.2.2.2.2.2.2.2.2.2.2.2.2.2.1 e40
        refine g_aload_n hC (pc := 2301) 1 rfl rfl dL_law_2301 ?_
        obtain ⟨hi, h⟩ := h
        refine g_callV hC (pc := 2302) (ci := 1) (As := []) gc_X1_doneTotal (m_X1_doneTotal hC.fl h) rfl hi q721 q722 q723 (gle rfl) (gle rfl) rfl (gle rfl) rfl dL_law_2302 (gk_i fun r340 G339 h => ?_) (fun _ _ h hio => g_out0 hC (hX _ _ h) hio)
        refine g_aload_n hC (pc := 2305) 2 rfl rfl dL_law_2305 ?_
        obtain ⟨hi, h⟩ := h
        refine g_callV hC (pc := 2306) (ci := 0) (As := []) gc_X3_doneTotal (m_X3_doneTotal hC.fl h) rfl hi q2873 q2874 q2875 (gle rfl) (gle rfl) rfl (gle rfl) rfl dL_law_2306 (gk_i fun r342 G341 h => ?_) (fun _ _ h hio => g_out0 hC (hX _ _ h) hio)
        refine g_icmp_eq hC (pc := 2309) 2889 h (by decide) dL_law_2309 (fun h => ?_) (fun h => ?_)
        · exact g_sub [0, 1, 2, 3, 4, 5] rfl (w_L_law_2889 hC hK hX hJ28 h)
        · refine g_iconst hC (pc := 2312) (v := (0 : Int32)) (by decide) dL_law_2312 ?_
          exact g_zret hC (pc := 2313) rfl (hK _ _ h) dL_law_2313
      by_cases e41 : (i3 &&& (63 : Int32)) = (41 : Int32)
      · refine g_tableIn hC (pc := 44) 2314 (by rw [e41]; decide) (by rw [e41]; decide) (by rw [e41]; rfl) (by decide) dL_law_44 ?_
        replace h := h.2.2.2.2.2.2.2.2.2.2.2.2.2.2.2.2.2.2.2.2.2.2.2.2.2.2.2.2.2.2.2.2.2.2.2.2.2.2.2.2.2.1 e41
        refine g_aload_n hC (pc := 2314) 1 rfl rfl dL_law_2314 ?_
        obtain ⟨hi, h⟩ := h
        refine g_callV hC (pc := 2315) (ci := 1) (As := []) gc_X1_brokenTotal (m_X1_brokenTotal hC.fl h) rfl hi q725 q726 q727 (gle rfl) (gle rfl) rfl (gle rfl) rfl dL_law_2315 (gk_i fun r344 G343 h => ?_) (fun _ _ h hio => g_out0 hC (hX _ _ h) hio)
        refine g_aload_n hC (pc := 2318) 2 rfl rfl dL_law_2318 ?_
        obtain ⟨hi, h⟩ := h
        refine g_callV hC (pc := 2319) (ci := 0) (As := []) gc_X3_brokenTotal (m_X3_brokenTotal hC.fl h) rfl hi q2877 q2878 q2879 (gle rfl) (gle rfl) rfl (gle rfl) rfl dL_law_2319 (gk_i fun r346 G345 h => ?_) (fun _ _ h hio => g_out0 hC (hX _ _ h) hio)
        refine g_icmp_eq hC (pc := 2322) 2889 h (by decide) dL_law_2322 (fun h => ?_) (fun h => ?_)
        · exact g_sub [0, 1, 2, 3, 4, 5] rfl (w_L_law_2889 hC hK hX hJ28 h)
        · refine g_iconst hC (pc := 2325) (v := (0 : Int32)) (by decide) dL_law_2325 ?_
          exact g_zret hC (pc := 2326) rfl (hK _ _ h) dL_law_2326
      by_cases e42 : (i3 &&& (63 : Int32)) = (42 : Int32)
      · refine g_tableIn hC (pc := 44) 2327 (by rw [e42]; decide) (by rw [e42]; decide) (by rw [e42]; rfl) (by decide) dL_law_44 ?_
        replace h := h.2.2.2.2.2.2.2.2.2.2.2.2.2.2.2.2.2.2.2.2.2.2.2.2.2.2.2.2.2.2.2.2.2.2.2.2.2.2.2.2.2.2.1 e42
        refine g_aload_n hC (pc := 2327) 1 rfl rfl dL_law_2327 ?_
        obtain ⟨hi, h⟩ := h
        refine g_callV hC (pc := 2328) (ci := 1) (As := []) gc_X1_unpaidTotal (m_X1_unpaidTotal hC.fl h) rfl hi q729 q730 q731 (gle rfl) (gle rfl) rfl (gle rfl) rfl dL_law_2328 (gk_i fun r348 G347 h => ?_) (fun _ _ h hio => g_out0 hC (hX _ _ h) hio)
        refine g_aload_n hC (pc := 2331) 2 rfl rfl dL_law_2331 ?_
        obtain ⟨hi, h⟩ := h
        refine g_callV hC (pc := 2332) (ci := 0) (As := []) gc_X3_unpaidTotal (m_X3_unpaidTotal hC.fl h) rfl hi q2881 q2882 q2883 (gle rfl) (gle rfl) rfl (gle rfl) rfl dL_law_2332 (gk_i fun r350 G349 h => ?_) (fun _ _ h hio => g_out0 hC (hX _ _ h) hio)
        refine g_icmp_eq hC (pc := 2335) 2889 h (by decide) dL_law_2335 (fun h => ?_) (fun h => ?_)
        · exact g_sub [0, 1, 2, 3, 4, 5] rfl (w_L_law_2889 hC hK hX hJ28 h)
        · refine g_iconst hC (pc := 2338) (v := (0 : Int32)) (by decide) dL_law_2338 ?_
          exact g_zret hC (pc := 2339) rfl (hK _ _ h) dL_law_2339
      by_cases e43 : (i3 &&& (63 : Int32)) = (43 : Int32)
      · refine g_tableIn hC (pc := 44) 2340 (by rw [e43]; decide) (by rw [e43]; decide) (by rw [e43]; rfl) (by decide) dL_law_44 ?_
        replace h := h.2.2.2.2.2.2.2.2.2.2.2.2.2.2.2.2.2.2.2.2.2.2.2.2.2.2.2.2.2.2.2.2.2.2.2.2.2.2.2.2.2.2.2.1 e43
        refine g_aload_n hC (pc := 2340) 1 rfl rfl dL_law_2340 ?_
        obtain ⟨hi, h⟩ := h
        refine g_callV hC (pc := 2341) (ci := 1) (As := []) gc_X1_interestTotal (m_X1_interestTotal hC.fl h) rfl hi q733 q734 q735 (gle rfl) (gle rfl) rfl (gle rfl) rfl dL_law_2341 (gk_i fun r352 G351 h => ?_) (fun _ _ h hio => g_out0 hC (hX _ _ h) hio)
        refine g_aload_n hC (pc := 2344) 2 rfl rfl dL_law_2344 ?_
        obtain ⟨hi, h⟩ := h
        refine g_callV hC (pc := 2345) (ci := 0) (As := []) gc_X3_interestTotal (m_X3_interestTotal hC.fl h) rfl hi q2885 q2886 q2887 (gle rfl) (gle rfl) rfl (gle rfl) rfl dL_law_2345 (gk_i fun r354 G353 h => ?_) (fun _ _ h hio => g_out0 hC (hX _ _ h) hio)
        refine g_icmp_eq hC (pc := 2348) 2889 h (by decide) dL_law_2348 (fun h => ?_) (fun h => ?_)
        · exact g_sub [0, 1, 2, 3, 4, 5] rfl (w_L_law_2889 hC hK hX hJ28 h)
        · refine g_iconst hC (pc := 2351) (v := (0 : Int32)) (by decide) dL_law_2351 ?_
          exact g_zret hC (pc := 2352) rfl (hK _ _ h) dL_law_2352
      by_cases e44 : (i3 &&& (63 : Int32)) = (44 : Int32)
      · refine g_tableIn hC (pc := 44) 2353 (by rw [e44]; decide) (by rw [e44]; decide) (by rw [e44]; rfl) (by decide) dL_law_44 ?_
        replace h := h.2.2.2.2.2.2.2.2.2.2.2.2.2.2.2.2.2.2.2.2.2.2.2.2.2.2.2.2.2.2.2.2.2.2.2.2.2.2.2.2.2.2.2.2.1 e44
        refine g_aload_n hC (pc := 2353) 1 rfl rfl dL_law_2353 ?_
        obtain ⟨hi, h⟩ := h
        refine g_callV hC (pc := 2354) (ci := 1) (As := []) gc_X1_meanDust (m_X1_meanDust hC.fl h) rfl hi q737 q738 q739 (gle rfl) (gle rfl) rfl (gle rfl) rfl dL_law_2354 (gk_d fun r356 G355 h => ?_) (fun _ _ h hio => g_out0 hC (hX _ _ h) hio)
        refine g_dstore hC (pc := 2357) (lv' := [(6, vD r356), (0, vQ (some c1)), (1, vQ (some t1)), (2, vQ (some t2)), (3, vQ (some t3)), (4, vQ (some t4)), (5, vI x5)]) (by decide) rfl dL_law_2357 ?_
        refine g_aload_n hC (pc := 2359) 3 rfl rfl dL_law_2359 ?_
        obtain ⟨hi, h⟩ := h
        refine g_callV hC (pc := 2360) (ci := 0) (As := []) gc_X3_meanDust (m_X3_meanDust hC.fl h) rfl hi q2889 q2890 q2891 (gle rfl) (gle rfl) rfl (gle rfl) rfl dL_law_2360 (gk_d fun r358 G357 h => ?_) (fun _ _ h hio => g_out0 hC (hX _ _ h) hio)
        refine g_dstore hC (pc := 2363) (lv' := [(8, vD r358), (6, vD r356), (0, vQ (some c1)), (1, vQ (some t1)), (2, vQ (some t2)), (3, vQ (some t3)), (4, vQ (some t4)), (5, vI x5)]) (by decide) rfl dL_law_2363 ?_
        refine g_dload hC (pc := 2365) 1 rfl dL_law_2365 ?_
        refine g_dload hC (pc := 2367) 0 rfl dL_law_2367 ?_
        refine g_dcmp hC (pc := 2369) dL_law_2369 ?_
        refine g_if_eq hC (pc := 2370) 2391 h (by decide) dL_law_2370 (fun h => ?_) (fun h => ?_)
        · exact g_sub [2, 3, 4, 5, 6, 7] rfl (w_L_law_2391 hC hK hX hJ28 h)
        · refine g_dload hC (pc := 2373) 1 rfl dL_law_2373 ?_
          refine g_dload hC (pc := 2375) 1 rfl dL_law_2375 ?_
          refine g_dcmp hC (pc := 2377) dL_law_2377 ?_
          refine g_if_eq hC (pc := 2378) 2389 h (by decide) dL_law_2378 (fun h => ?_) (fun h => ?_)
          · refine g_iconst hC (pc := 2389) (v := (0 : Int32)) (by decide) dL_law_2389 ?_
            exact g_zret hC (pc := 2390) rfl (hK _ _ h) dL_law_2390
          · refine g_dload hC (pc := 2381) 0 rfl dL_law_2381 ?_
            refine g_dload hC (pc := 2383) 0 rfl dL_law_2383 ?_
            refine g_dcmp hC (pc := 2385) dL_law_2385 ?_
            refine g_if_ne hC (pc := 2386) 2391 h (by decide) dL_law_2386 (fun h => ?_) (fun h => ?_)
            · exact g_sub [2, 3, 4, 5, 6, 7] rfl (w_L_law_2391 hC hK hX hJ28 h)
            · refine g_iconst hC (pc := 2389) (v := (0 : Int32)) (by decide) dL_law_2389 ?_
              exact g_zret hC (pc := 2390) rfl (hK _ _ h) dL_law_2390
      by_cases e45 : (i3 &&& (63 : Int32)) = (45 : Int32)
      · refine g_tableIn hC (pc := 44) 2394 (by rw [e45]; decide) (by rw [e45]; decide) (by rw [e45]; rfl) (by decide) dL_law_44 ?_
        replace h := h.2.2.2.2.2.2.2.2.2.2.2.2.2.2.2.2.2.2.2.2.2.2.2.2.2.2.2.2.2.2.2.2.2.2.2.2.2.2.2.2.2.2.2.2.2.1 e45
        refine g_aload_n hC (pc := 2394) 1 rfl rfl dL_law_2394 ?_
        refine g_aload hC (pc := 2395) 4 rfl dL_law_2395 ?_
        refine g_callSW hC (pc := 2397) (b := 0) (As := [vQ (some t1), vQ (some t4)]) gc_X0_reliability (m_X0_reliability hC.fl h) q1946 q1947 (gle rfl) (gle rfl) rfl (gle rfl) rfl dL_law_2397 (gk_i fun r360 G359 h => ?_) (fun _ _ h hio => g_out0 hC (hX _ _ h) hio)
        refine g_istore hC (pc := 2400) (lv' := [(6, vI r360), (0, vQ (some c1)), (1, vQ (some t1)), (2, vQ (some t2)), (3, vQ (some t3)), (4, vQ (some t4)), (5, vI x5)]) (by decide) rfl dL_law_2400 ?_
        refine g_aload_n hC (pc := 2402) 3 rfl rfl dL_law_2402 ?_
        obtain ⟨hi, h⟩ := h
        refine g_callV hC (pc := 2403) (ci := 0) (As := []) gc_X3_reliability (m_X3_reliability hC.fl h) rfl hi q2894 q2895 q2896 (gle rfl) (gle rfl) rfl (gle rfl) rfl dL_law_2403 (gk_f fun r362 G361 h => ?_) (fun _ _ h hio => g_out0 hC (hX _ _ h) hio)
        refine g_fstore hC (pc := 2406) (lv' := [(7, vF r362), (6, vI r360), (0, vQ (some c1)), (1, vQ (some t1)), (2, vQ (some t2)), (3, vQ (some t3)), (4, vQ (some t4)), (5, vI x5)]) (by decide) rfl dL_law_2406 ?_
        refine g_aload_n hC (pc := 2408) 4 rfl rfl dL_law_2408 ?_
        obtain ⟨hi, h⟩ := h
        refine g_callV hC (pc := 2409) (ci := 0) (As := []) gc_X3_thrown (m_X3_thrown hC.fl h) rfl hi q2538 q2539 q2540 (gle rfl) (gle rfl) rfl (gle rfl) rfl dL_law_2409 (gk_i fun r364 G363 h => ?_) (fun _ _ h hio => g_out0 hC (hX _ _ h) hio)
        refine g_iload hC (pc := 2412) 1 rfl dL_law_2412 ?_
        refine g_icmp_eq hC (pc := 2414) 2419 h (by decide) dL_law_2414 (fun h => ?_) (fun h => ?_)
        · refine g_iload hC (pc := 2419) 1 rfl dL_law_2419 ?_
          refine g_if_ne hC (pc := 2421) 2457 h (by decide) dL_law_2421 (fun h => ?_) (fun h => ?_)
          · exact g_sub [2, 3, 4, 5, 6, 7] rfl (w_L_law_2457 hC hK hX hJ28 h)
          · refine g_aload hC (pc := 2424) 6 rfl dL_law_2424 ?_
            refine g_iconst hC (pc := 2426) (v := (0 : Int32)) (by decide) dL_law_2426 ?_
            refine g_aldD hC (pc := 2427) h dL_law_2427 (fun i365 h => ?_)
            refine g_fload hC (pc := 2428) 0 rfl dL_law_2428 ?_
            obtain ⟨hz, h⟩ := h
            refine g_f2d hC (pc := 2430) hz dL_law_2430 ?_
            refine g_dcmp hC (pc := 2431) dL_law_2431 ?_
            refine g_if_eq hC (pc := 2432) 2457 h (by decide) dL_law_2432 (fun h => ?_) (fun h => ?_)
            · exact g_sub [2, 3, 4, 5, 6, 7] rfl (w_L_law_2457 hC hK hX hJ28 h)
            · refine g_aload hC (pc := 2435) 6 rfl dL_law_2435 ?_
              refine g_iconst hC (pc := 2437) (v := (0 : Int32)) (by decide) dL_law_2437 ?_
              refine g_aldD hC (pc := 2438) h dL_law_2438 (fun i366 h => ?_)
              refine g_aload hC (pc := 2439) 6 rfl dL_law_2439 ?_
              refine g_iconst hC (pc := 2441) (v := (0 : Int32)) (by decide) dL_law_2441 ?_
              refine g_aldD hC (pc := 2442) h dL_law_2442 (fun i367 h => ?_)
              refine g_dcmp hC (pc := 2443) dL_law_2443 ?_
              refine g_if_eq hC (pc := 2444) 2455 h (by decide) dL_law_2444 (fun h => ?_) (fun h => ?_)
              · refine g_iconst hC (pc := 2455) (v := (0 : Int32)) (by decide) dL_law_2455 ?_
                exact g_zret hC (pc := 2456) rfl (hK _ _ h) dL_law_2456
              · refine g_fload hC (pc := 2447) 0 rfl dL_law_2447 ?_
                refine g_fload hC (pc := 2449) 0 rfl dL_law_2449 ?_
                refine g_fcmp hC (pc := 2451) dL_law_2451 ?_
                refine g_if_ne hC (pc := 2452) 2457 h (by decide) dL_law_2452 (fun h => ?_) (fun h => ?_)
                · exact g_sub [2, 3, 4, 5, 6, 7] rfl (w_L_law_2457 hC hK hX hJ28 h)
                · refine g_iconst hC (pc := 2455) (v := (0 : Int32)) (by decide) dL_law_2455 ?_
                  exact g_zret hC (pc := 2456) rfl (hK _ _ h) dL_law_2456
        · refine g_iconst hC (pc := 2417) (v := (0 : Int32)) (by decide) dL_law_2417 ?_
          exact g_zret hC (pc := 2418) rfl (hK _ _ h) dL_law_2418
      by_cases e46 : (i3 &&& (63 : Int32)) = (46 : Int32)
      · refine g_tableIn hC (pc := 44) 2460 (by rw [e46]; decide) (by rw [e46]; decide) (by rw [e46]; rfl) (by decide) dL_law_44 ?_
        replace h := h.2.2.2.2.2.2.2.2.2.2.2.2.2.2.2.2.2.2.2.2.2.2.2.2.2.2.2.2.2.2.2.2.2.2.2.2.2.2.2.2.2.2.2.2.2.2.1 e46
        refine g_aload_n hC (pc := 2460) 1 rfl rfl dL_law_2460 ?_
        obtain ⟨hi, h⟩ := h
        refine g_callV hC (pc := 2461) (ci := 1) (As := []) gc_X1_isConsistent (m_X1_isConsistent hC.fl h) rfl hi q746 q747 q748 (gle rfl) (gle rfl) rfl (gle rfl) rfl dL_law_2461 (gk_i fun r369 G368 h => ?_) (fun _ _ h hio => g_out0 hC (hX _ _ h) hio)
        refine g_aload_n hC (pc := 2464) 2 rfl rfl dL_law_2464 ?_
        obtain ⟨hi, h⟩ := h
        refine g_callV hC (pc := 2465) (ci := 0) (As := []) gc_X3_isConsistent (m_X3_isConsistent hC.fl h) rfl hi q2898 q2899 q2900 (gle rfl) (gle rfl) rfl (gle rfl) rfl dL_law_2465 (gk_i fun r371 G370 h => ?_) (fun _ _ h hio => g_out0 hC (hX _ _ h) hio)
        refine g_icmp_eq hC (pc := 2468) 2889 h (by decide) dL_law_2468 (fun h => ?_) (fun h => ?_)
        · exact g_sub [0, 1, 2, 3, 4, 5] rfl (w_L_law_2889 hC hK hX hJ28 h)
        · refine g_iconst hC (pc := 2471) (v := (0 : Int32)) (by decide) dL_law_2471 ?_
          exact g_zret hC (pc := 2472) rfl (hK _ _ h) dL_law_2472
      by_cases e47 : (i3 &&& (63 : Int32)) = (47 : Int32)
      · refine g_tableIn hC (pc := 44) 2473 (by rw [e47]; decide) (by rw [e47]; decide) (by rw [e47]; rfl) (by decide) dL_law_44 ?_
        replace h := h.2.2.2.2.2.2.2.2.2.2.2.2.2.2.2.2.2.2.2.2.2.2.2.2.2.2.2.2.2.2.2.2.2.2.2.2.2.2.2.2.2.2.2.2.2.2.2.1 e47
        refine g_aload_n hC (pc := 2473) 1 rfl rfl dL_law_2473 ?_
        refine g_aload_n hC (pc := 2474) 0 rfl rfl dL_law_2474 ?_
        refine g_iload hC (pc := 2475) 5 rfl dL_law_2475 ?_
        refine g_iconst hC (pc := 2477) (v := (1 : Int32)) (by decide) dL_law_2477 ?_
        refine g_iadd hC (pc := 2478) dL_law_2478 ?_
        refine g_aldI hC (pc := 2479) h dL_law_2479 (fun i372 h => ?_)
        refine g_aload_n hC (pc := 2480) 3 rfl rfl dL_law_2480 ?_
        refine g_callSW hC (pc := 2481) (b := 0) (As := [vQ (some t1), vI i372, vQ (some t3)]) gc_X0_renderGoblin (m_X0_renderGoblin hC.fl h) q1972 q1973 (gle rfl) (gle rfl) rfl (gle rfl) rfl dL_law_2481 (gk_i fun r374 G373 h => ?_) (fun _ _ h hio => g_out0 hC (hX _ _ h) hio)
        refine g_istore hC (pc := 2484) (lv' := [(6, vI r374), (0, vQ (some c1)), (1, vQ (some t1)), (2, vQ (some t2)), (3, vQ (some t3)), (4, vQ (some t4)), (5, vI x5)]) (by decide) rfl dL_law_2484 ?_
        refine g_aload_n hC (pc := 2486) 3 rfl rfl dL_law_2486 ?_
        refine g_aload_n hC (pc := 2487) 1 rfl rfl dL_law_2487 ?_
        refine g_iload hC (pc := 2488) 6 rfl dL_law_2488 ?_
        refine g_iconst hC (pc := 2490) (v := (1 : Int32)) (by decide) dL_law_2490 ?_
        refine g_iadd hC (pc := 2491) dL_law_2491 ?_
        refine g_aldI hC (pc := 2492) h dL_law_2492 (fun i375 h => ?_)
        obtain ⟨hi, h⟩ := h
        refine g_callV hC (pc := 2493) (ci := 0) (As := [vI i375]) gc_X3_renderGoblin (m_X3_renderGoblin hC.fl h) rfl hi q2902 q2903 q2904 (gle rfl) (gle rfl) rfl (gle rfl) rfl dL_law_2493 (gk_i fun r377 G376 h => ?_) (fun _ _ h hio => g_out0 hC (hX _ _ h) hio)
        refine g_istore hC (pc := 2496) (lv' := [(7, vI r377), (6, vI r374), (0, vQ (some c1)), (1, vQ (some t1)), (2, vQ (some t2)), (3, vQ (some t3)), (4, vQ (some t4)), (5, vI x5)]) (by decide) rfl dL_law_2496 ?_
        refine g_aload_n hC (pc := 2498) 4 rfl rfl dL_law_2498 ?_
        obtain ⟨hi, h⟩ := h
        refine g_callV hC (pc := 2499) (ci := 0) (As := []) gc_X3_thrown (m_X3_thrown hC.fl h) rfl hi q2538 q2539 q2540 (gle rfl) (gle rfl) rfl (gle rfl) rfl dL_law_2499 (gk_i fun r379 G378 h => ?_) (fun _ _ h hio => g_out0 hC (hX _ _ h) hio)
        refine g_iload hC (pc := 2502) 1 rfl dL_law_2502 ?_
        refine g_icmp_eq hC (pc := 2504) 2509 h (by decide) dL_law_2504 (fun h => ?_) (fun h => ?_)
        · refine g_iload hC (pc := 2509) 1 rfl dL_law_2509 ?_
          refine g_if_ne hC (pc := 2511) 2526 h (by decide) dL_law_2511 (fun h => ?_) (fun h => ?_)
          · exact g_sub [2, 3, 4, 5, 6, 7] rfl (w_L_law_2526 hC hK hX hJ28 h)
          · refine g_aload_n hC (pc := 2514) 5 rfl rfl dL_law_2514 ?_
            refine g_iconst hC (pc := 2515) (v := (0 : Int32)) (by decide) dL_law_2515 ?_
            refine g_aldL hC (pc := 2516) h dL_law_2516 (fun i380 h => ?_)
            refine g_iload hC (pc := 2517) 0 rfl dL_law_2517 ?_
            refine g_i2l hC (pc := 2519) dL_law_2519 ?_
            refine g_lcmp hC (pc := 2520) dL_law_2520 ?_
            refine g_if_eq hC (pc := 2521) 2526 h (by decide) dL_law_2521 (fun h => ?_) (fun h => ?_)
            · exact g_sub [2, 3, 4, 5, 6, 7] rfl (w_L_law_2526 hC hK hX hJ28 h)
            · refine g_iconst hC (pc := 2524) (v := (0 : Int32)) (by decide) dL_law_2524 ?_
              exact g_zret hC (pc := 2525) rfl (hK _ _ h) dL_law_2525
        · refine g_iconst hC (pc := 2507) (v := (0 : Int32)) (by decide) dL_law_2507 ?_
          exact g_zret hC (pc := 2508) rfl (hK _ _ h) dL_law_2508
      by_cases e48 : (i3 &&& (63 : Int32)) = (48 : Int32)
      · refine g_tableIn hC (pc := 44) 2529 (by rw [e48]; decide) (by rw [e48]; decide) (by rw [e48]; rfl) (by decide) dL_law_44 ?_
        replace h := h.2.2.2.2.2.2.2.2.2.2.2.2.2.2.2.2.2.2.2.2.2.2.2.2.2.2.2.2.2.2.2.2.2.2.2.2.2.2.2.2.2.2.2.2.2.2.2.2.1 e48
        refine g_aload_n hC (pc := 2529) 1 rfl rfl dL_law_2529 ?_
        obtain ⟨hi, h⟩ := h
        refine g_callV hC (pc := 2530) (ci := 1) (As := []) gc_X1_renderContracts (m_X1_renderContracts hC.fl h) rfl hi q831 q832 q833 (gle rfl) (gle rfl) rfl (gle rfl) rfl dL_law_2530 (gk_i fun r382 G381 h => ?_) (fun _ _ h hio => g_out0 hC (hX _ _ h) hio)
        refine g_aload_n hC (pc := 2533) 2 rfl rfl dL_law_2533 ?_
        obtain ⟨hi, h⟩ := h
        refine g_callV hC (pc := 2534) (ci := 0) (As := []) gc_X3_renderContracts (m_X3_renderContracts hC.fl h) rfl hi q2914 q2915 q2916 (gle rfl) (gle rfl) rfl (gle rfl) rfl dL_law_2534 (gk_i fun r384 G383 h => ?_) (fun _ _ h hio => g_out0 hC (hX _ _ h) hio)
        refine g_icmp_eq hC (pc := 2537) 2889 h (by decide) dL_law_2537 (fun h => ?_) (fun h => ?_)
        · exact g_sub [0, 1, 2, 3, 4, 5] rfl (w_L_law_2889 hC hK hX hJ28 h)
        · refine g_iconst hC (pc := 2540) (v := (0 : Int32)) (by decide) dL_law_2540 ?_
          exact g_zret hC (pc := 2541) rfl (hK _ _ h) dL_law_2541
      by_cases e49 : (i3 &&& (63 : Int32)) = (49 : Int32)
      · refine g_tableIn hC (pc := 44) 2542 (by rw [e49]; decide) (by rw [e49]; decide) (by rw [e49]; rfl) (by decide) dL_law_44 ?_
        replace h := h.2.2.2.2.2.2.2.2.2.2.2.2.2.2.2.2.2.2.2.2.2.2.2.2.2.2.2.2.2.2.2.2.2.2.2.2.2.2.2.2.2.2.2.2.2.2.2.2.2.1 e49
        refine g_aload_n hC (pc := 2542) 1 rfl rfl dL_law_2542 ?_
        refine g_aload_n hC (pc := 2543) 0 rfl rfl dL_law_2543 ?_
        refine g_iload hC (pc := 2544) 5 rfl dL_law_2544 ?_
        refine g_iconst hC (pc := 2546) (v := (1 : Int32)) (by decide) dL_law_2546 ?_
        refine g_iadd hC (pc := 2547) dL_law_2547 ?_
        refine g_aldI hC (pc := 2548) h dL_law_2548 (fun i385 h => ?_)
        refine g_aload_n hC (pc := 2549) 3 rfl rfl dL_law_2549 ?_
        refine g_callSW hC (pc := 2550) (b := 0) (As := [vQ (some t1), vI i385, vQ (some t3)]) gc_X0_outputAt (m_X0_outputAt hC.fl h) q2007 q2008 (gle rfl) (gle rfl) rfl (gle rfl) rfl dL_law_2550 (gk_i fun r387 G386 h => ?_) (fun _ _ h hio => g_out0 hC (hX _ _ h) hio)
        refine g_istore hC (pc := 2553) (lv' := [(6, vI r387), (0, vQ (some c1)), (1, vQ (some t1)), (2, vQ (some t2)), (3, vQ (some t3)), (4, vQ (some t4)), (5, vI x5)]) (by decide) rfl dL_law_2553 ?_
        refine g_aload_n hC (pc := 2555) 3 rfl rfl dL_law_2555 ?_
        refine g_aload_n hC (pc := 2556) 1 rfl rfl dL_law_2556 ?_
        refine g_iload hC (pc := 2557) 6 rfl dL_law_2557 ?_
        refine g_iconst hC (pc := 2559) (v := (1 : Int32)) (by decide) dL_law_2559 ?_
        refine g_iadd hC (pc := 2560) dL_law_2560 ?_
        refine g_aldI hC (pc := 2561) h dL_law_2561 (fun i388 h => ?_)
        obtain ⟨hi, h⟩ := h
        refine g_callV hC (pc := 2562) (ci := 0) (As := [vI i388]) gc_X3_outputAt (m_X3_outputAt hC.fl h) rfl hi q2922 q2923 q2924 (gle rfl) (gle rfl) rfl (gle rfl) rfl dL_law_2562 (gk_i fun r390 G389 h => ?_) (fun _ _ h hio => g_out0 hC (hX _ _ h) hio)
        refine g_istore hC (pc := 2565) (lv' := [(7, vI r390), (6, vI r387), (0, vQ (some c1)), (1, vQ (some t1)), (2, vQ (some t2)), (3, vQ (some t3)), (4, vQ (some t4)), (5, vI x5)]) (by decide) rfl dL_law_2565 ?_
        refine g_aload_n hC (pc := 2567) 4 rfl rfl dL_law_2567 ?_
        obtain ⟨hi, h⟩ := h
        refine g_callV hC (pc := 2568) (ci := 0) (As := []) gc_X3_thrown (m_X3_thrown hC.fl h) rfl hi q2538 q2539 q2540 (gle rfl) (gle rfl) rfl (gle rfl) rfl dL_law_2568 (gk_i fun r392 G391 h => ?_) (fun _ _ h hio => g_out0 hC (hX _ _ h) hio)
        refine g_iload hC (pc := 2571) 1 rfl dL_law_2571 ?_
        refine g_icmp_eq hC (pc := 2573) 2578 h (by decide) dL_law_2573 (fun h => ?_) (fun h => ?_)
        · refine g_iload hC (pc := 2578) 1 rfl dL_law_2578 ?_
          refine g_if_ne hC (pc := 2580) 2595 h (by decide) dL_law_2580 (fun h => ?_) (fun h => ?_)
          · exact g_sub [2, 3, 4, 5, 6, 7] rfl (w_L_law_2595 hC hK hX hJ28 h)
          · refine g_aload_n hC (pc := 2583) 5 rfl rfl dL_law_2583 ?_
            refine g_iconst hC (pc := 2584) (v := (0 : Int32)) (by decide) dL_law_2584 ?_
            refine g_aldL hC (pc := 2585) h dL_law_2585 (fun i393 h => ?_)
            refine g_iload hC (pc := 2586) 0 rfl dL_law_2586 ?_
            refine g_i2l hC (pc := 2588) dL_law_2588 ?_
            refine g_lcmp hC (pc := 2589) dL_law_2589 ?_
            refine g_if_eq hC (pc := 2590) 2595 h (by decide) dL_law_2590 (fun h => ?_) (fun h => ?_)
            · exact g_sub [2, 3, 4, 5, 6, 7] rfl (w_L_law_2595 hC hK hX hJ28 h)
            · refine g_iconst hC (pc := 2593) (v := (0 : Int32)) (by decide) dL_law_2593 ?_
              exact g_zret hC (pc := 2594) rfl (hK _ _ h) dL_law_2594
        · refine g_iconst hC (pc := 2576) (v := (0 : Int32)) (by decide) dL_law_2576 ?_
          exact g_zret hC (pc := 2577) rfl (hK _ _ h) dL_law_2577
      by_cases e50 : (i3 &&& (63 : Int32)) = (50 : Int32)
      · refine g_tableIn hC (pc := 44) 2598 (by rw [e50]; decide) (by rw [e50]; decide) (by rw [e50]; rfl) (by decide) dL_law_44 ?_
        replace h := h.2.2.2.2.2.2.2.2.2.2.2.2.2.2.2.2.2.2.2.2.2.2.2.2.2.2.2.2.2.2.2.2.2.2.2.2.2.2.2.2.2.2.2.2.2.2.2.2.2.2.1 e50
        refine g_aload_n hC (pc := 2598) 1 rfl rfl dL_law_2598 ?_
        refine g_aload_n hC (pc := 2599) 0 rfl rfl dL_law_2599 ?_
        refine g_iload hC (pc := 2600) 5 rfl dL_law_2600 ?_
        refine g_iconst hC (pc := 2602) (v := (1 : Int32)) (by decide) dL_law_2602 ?_
        refine g_iadd hC (pc := 2603) dL_law_2603 ?_
        refine g_aldI hC (pc := 2604) h dL_law_2604 (fun i394 h => ?_)
        refine g_i2c hC (pc := 2605) dL_law_2605 ?_
        refine g_aload_n hC (pc := 2606) 3 rfl rfl dL_law_2606 ?_
        refine g_callSW hC (pc := 2607) (b := 0) (As := [vQ (some t1), vI ((i394).toUInt32 % 65536).toInt32, vQ (some t3)]) gc_X0_type (m_X0_type hC.fl h) q2032 q2033 (gle rfl) (gle rfl) rfl (gle rfl) rfl dL_law_2607 (gk_i fun r396 G395 h => ?_) (fun _ _ h hio => g_out0 hC (hX _ _ h) hio)
        refine g_istore hC (pc := 2610) (lv' := [(6, vI r396), (0, vQ (some c1)), (1, vQ (some t1)), (2, vQ (some t2)), (3, vQ (some t3)), (4, vQ (some t4)), (5, vI x5)]) (by decide) rfl dL_law_2610 ?_
        refine g_aload_n hC (pc := 2612) 3 rfl rfl dL_law_2612 ?_
        refine g_aload_n hC (pc := 2613) 1 rfl rfl dL_law_2613 ?_
        refine g_iload hC (pc := 2614) 6 rfl dL_law_2614 ?_
        refine g_iconst hC (pc := 2616) (v := (1 : Int32)) (by decide) dL_law_2616 ?_
        refine g_iadd hC (pc := 2617) dL_law_2617 ?_
        refine g_aldI hC (pc := 2618) h dL_law_2618 (fun i397 h => ?_)
        refine g_i2c hC (pc := 2619) dL_law_2619 ?_
        obtain ⟨hi, h⟩ := h
        refine g_callV hC (pc := 2620) (ci := 0) (As := [vI ((i397).toUInt32 % 65536).toInt32]) gc_X3_type (m_X3_type hC.fl h) rfl hi q2926 q2927 q2928 (gle rfl) (gle rfl) rfl (gle rfl) rfl dL_law_2620 (gk_i fun r399 G398 h => ?_) (fun _ _ h hio => g_out0 hC (hX _ _ h) hio)
        refine g_istore hC (pc := 2623) (lv' := [(7, vI r399), (6, vI r396), (0, vQ (some c1)), (1, vQ (some t1)), (2, vQ (some t2)), (3, vQ (some t3)), (4, vQ (some t4)), (5, vI x5)]) (by decide) rfl dL_law_2623 ?_
        refine g_aload_n hC (pc := 2625) 4 rfl rfl dL_law_2625 ?_
        obtain ⟨hi, h⟩ := h
        refine g_callV hC (pc := 2626) (ci := 0) (As := []) gc_X3_thrown (m_X3_thrown hC.fl h) rfl hi q2538 q2539 q2540 (gle rfl) (gle rfl) rfl (gle rfl) rfl dL_law_2626 (gk_i fun r401 G400 h => ?_) (fun _ _ h hio => g_out0 hC (hX _ _ h) hio)
        refine g_iload hC (pc := 2629) 1 rfl dL_law_2629 ?_
        refine g_icmp_eq hC (pc := 2631) 2636 h (by decide) dL_law_2631 (fun h => ?_) (fun h => ?_)
        · refine g_iload hC (pc := 2636) 1 rfl dL_law_2636 ?_
          refine g_if_ne hC (pc := 2638) 2653 h (by decide) dL_law_2638 (fun h => ?_) (fun h => ?_)
          · exact g_sub [2, 3, 4, 5, 6, 7] rfl (w_L_law_2653 hC hK hX hJ28 h)
          · refine g_aload_n hC (pc := 2641) 5 rfl rfl dL_law_2641 ?_
            refine g_iconst hC (pc := 2642) (v := (0 : Int32)) (by decide) dL_law_2642 ?_
            refine g_aldL hC (pc := 2643) h dL_law_2643 (fun i402 h => ?_)
            refine g_iload hC (pc := 2644) 0 rfl dL_law_2644 ?_
            refine g_i2l hC (pc := 2646) dL_law_2646 ?_
            refine g_lcmp hC (pc := 2647) dL_law_2647 ?_
            refine g_if_eq hC (pc := 2648) 2653 h (by decide) dL_law_2648 (fun h => ?_) (fun h => ?_)
            · exact g_sub [2, 3, 4, 5, 6, 7] rfl (w_L_law_2653 hC hK hX hJ28 h)
            · refine g_iconst hC (pc := 2651) (v := (0 : Int32)) (by decide) dL_law_2651 ?_
              exact g_zret hC (pc := 2652) rfl (hK _ _ h) dL_law_2652
        · refine g_iconst hC (pc := 2634) (v := (0 : Int32)) (by decide) dL_law_2634 ?_
          exact g_zret hC (pc := 2635) rfl (hK _ _ h) dL_law_2635
      by_cases e51 : (i3 &&& (63 : Int32)) = (51 : Int32)
      · refine g_tableIn hC (pc := 44) 2656 (by rw [e51]; decide) (by rw [e51]; decide) (by rw [e51]; rfl) (by decide) dL_law_44 ?_
        replace h := h.2.2.2.2.2.2.2.2.2.2.2.2.2.2.2.2.2.2.2.2.2.2.2.2.2.2.2.2.2.2.2.2.2.2.2.2.2.2.2.2.2.2.2.2.2.2.2.2.2.2.2.1 e51
        refine g_aload_n hC (pc := 2656) 1 rfl rfl dL_law_2656 ?_
        refine g_aload_n hC (pc := 2657) 3 rfl rfl dL_law_2657 ?_
        refine g_callSW hC (pc := 2658) (b := 0) (As := [vQ (some t1), vQ (some t3)]) gc_X0_runScript (m_X0_runScript hC.fl h) q2053 q2054 (gle rfl) (gle rfl) rfl (gle rfl) rfl dL_law_2658 (gk_i fun r404 G403 h => ?_) (fun _ _ h hio => g_out0 hC (hX _ _ h) hio)
        refine g_istore hC (pc := 2661) (lv' := [(6, vI r404), (0, vQ (some c1)), (1, vQ (some t1)), (2, vQ (some t2)), (3, vQ (some t3)), (4, vQ (some t4)), (5, vI x5)]) (by decide) rfl dL_law_2661 ?_
        refine g_aload_n hC (pc := 2663) 3 rfl rfl dL_law_2663 ?_
        obtain ⟨hi, h⟩ := h
        refine g_callV hC (pc := 2664) (ci := 0) (As := []) gc_X3_runScript (m_X3_runScript hC.fl h) rfl hi q2930 q2931 q2932 (gle rfl) (gle rfl) rfl (gle rfl) rfl dL_law_2664 (gk_i fun r406 G405 h => ?_) (fun _ _ h hio => g_out0 hC (hX _ _ h) hio)
        refine g_istore hC (pc := 2667) (lv' := [(7, vI r406), (6, vI r404), (0, vQ (some c1)), (1, vQ (some t1)), (2, vQ (some t2)), (3, vQ (some t3)), (4, vQ (some t4)), (5, vI x5)]) (by decide) rfl dL_law_2667 ?_
        refine g_aload_n hC (pc := 2669) 4 rfl rfl dL_law_2669 ?_
        obtain ⟨hi, h⟩ := h
        refine g_callV hC (pc := 2670) (ci := 0) (As := []) gc_X3_thrown (m_X3_thrown hC.fl h) rfl hi q2538 q2539 q2540 (gle rfl) (gle rfl) rfl (gle rfl) rfl dL_law_2670 (gk_i fun r408 G407 h => ?_) (fun _ _ h hio => g_out0 hC (hX _ _ h) hio)
        refine g_iload hC (pc := 2673) 1 rfl dL_law_2673 ?_
        refine g_icmp_eq hC (pc := 2675) 2680 h (by decide) dL_law_2675 (fun h => ?_) (fun h => ?_)
        · refine g_iload hC (pc := 2680) 1 rfl dL_law_2680 ?_
          refine g_if_ne hC (pc := 2682) 2697 h (by decide) dL_law_2682 (fun h => ?_) (fun h => ?_)
          · exact g_sub [2, 3, 4, 5, 6, 7] rfl (w_L_law_2697 hC hK hX hJ28 h)
          · refine g_aload_n hC (pc := 2685) 5 rfl rfl dL_law_2685 ?_
            refine g_iconst hC (pc := 2686) (v := (0 : Int32)) (by decide) dL_law_2686 ?_
            refine g_aldL hC (pc := 2687) h dL_law_2687 (fun i409 h => ?_)
            refine g_iload hC (pc := 2688) 0 rfl dL_law_2688 ?_
            refine g_i2l hC (pc := 2690) dL_law_2690 ?_
            refine g_lcmp hC (pc := 2691) dL_law_2691 ?_
            refine g_if_eq hC (pc := 2692) 2697 h (by decide) dL_law_2692 (fun h => ?_) (fun h => ?_)
            · exact g_sub [2, 3, 4, 5, 6, 7] rfl (w_L_law_2697 hC hK hX hJ28 h)
            · refine g_iconst hC (pc := 2695) (v := (0 : Int32)) (by decide) dL_law_2695 ?_
              exact g_zret hC (pc := 2696) rfl (hK _ _ h) dL_law_2696
        · refine g_iconst hC (pc := 2678) (v := (0 : Int32)) (by decide) dL_law_2678 ?_
          exact g_zret hC (pc := 2679) rfl (hK _ _ h) dL_law_2679
      by_cases e52 : (i3 &&& (63 : Int32)) = (52 : Int32)
      · refine g_tableIn hC (pc := 44) 2700 (by rw [e52]; decide) (by rw [e52]; decide) (by rw [e52]; rfl) (by decide) dL_law_44 ?_
        replace h := h.2.2.2.2.2.2.2.2.2.2.2.2.2.2.2.2.2.2.2.2.2.2.2.2.2.2.2.2.2.2.2.2.2.2.2.2.2.2.2.2.2.2.2.2.2.2.2.2.2.2.2.2.1 e52
        refine g_aload_n hC (pc := 2700) 1 rfl rfl dL_law_2700 ?_
        refine g_aload_n hC (pc := 2701) 3 rfl rfl dL_law_2701 ?_
        refine g_callSW hC (pc := 2702) (b := 0) (As := [vQ (some t1), vQ (some t3)]) gc_X0_errorPosition (m_X0_errorPosition hC.fl h) q2420 q2421 (gle rfl) (gle rfl) rfl (gle rfl) rfl dL_law_2702 (gk_i fun r411 G410 h => ?_) (fun _ _ h hio => g_out0 hC (hX _ _ h) hio)
        refine g_istore hC (pc := 2705) (lv' := [(6, vI r411), (0, vQ (some c1)), (1, vQ (some t1)), (2, vQ (some t2)), (3, vQ (some t3)), (4, vQ (some t4)), (5, vI x5)]) (by decide) rfl dL_law_2705 ?_
        refine g_aload_n hC (pc := 2707) 3 rfl rfl dL_law_2707 ?_
        obtain ⟨hi, h⟩ := h
        refine g_callV hC (pc := 2708) (ci := 0) (As := []) gc_X3_errorPosition (m_X3_errorPosition hC.fl h) rfl hi q2979 q2980 q2981 (gle rfl) (gle rfl) rfl (gle rfl) rfl dL_law_2708 (gk_i fun r413 G412 h => ?_) (fun _ _ h hio => g_out0 hC (hX _ _ h) hio)
        refine g_istore hC (pc := 2711) (lv' := [(7, vI r413), (6, vI r411), (0, vQ (some c1)), (1, vQ (some t1)), (2, vQ (some t2)), (3, vQ (some t3)), (4, vQ (some t4)), (5, vI x5)]) (by decide) rfl dL_law_2711 ?_
        refine g_aload_n hC (pc := 2713) 4 rfl rfl dL_law_2713 ?_
        obtain ⟨hi, h⟩ := h
        refine g_callV hC (pc := 2714) (ci := 0) (As := []) gc_X3_thrown (m_X3_thrown hC.fl h) rfl hi q2538 q2539 q2540 (gle rfl) (gle rfl) rfl (gle rfl) rfl dL_law_2714 (gk_i fun r415 G414 h => ?_) (fun _ _ h hio => g_out0 hC (hX _ _ h) hio)
        refine g_iload hC (pc := 2717) 1 rfl dL_law_2717 ?_
        refine g_icmp_eq hC (pc := 2719) 2724 h (by decide) dL_law_2719 (fun h => ?_) (fun h => ?_)
        · refine g_iload hC (pc := 2724) 1 rfl dL_law_2724 ?_
          refine g_if_ne hC (pc := 2726) 2741 h (by decide) dL_law_2726 (fun h => ?_) (fun h => ?_)
          · exact g_sub [2, 3, 4, 5, 6, 7] rfl (w_L_law_2741 hC hK hX hJ28 h)
          · refine g_aload_n hC (pc := 2729) 5 rfl rfl dL_law_2729 ?_
            refine g_iconst hC (pc := 2730) (v := (0 : Int32)) (by decide) dL_law_2730 ?_
            refine g_aldL hC (pc := 2731) h dL_law_2731 (fun i416 h => ?_)
            refine g_iload hC (pc := 2732) 0 rfl dL_law_2732 ?_
            refine g_i2l hC (pc := 2734) dL_law_2734 ?_
            refine g_lcmp hC (pc := 2735) dL_law_2735 ?_
            refine g_if_eq hC (pc := 2736) 2741 h (by decide) dL_law_2736 (fun h => ?_) (fun h => ?_)
            · exact g_sub [2, 3, 4, 5, 6, 7] rfl (w_L_law_2741 hC hK hX hJ28 h)
            · refine g_iconst hC (pc := 2739) (v := (0 : Int32)) (by decide) dL_law_2739 ?_
              exact g_zret hC (pc := 2740) rfl (hK _ _ h) dL_law_2740
        · refine g_iconst hC (pc := 2722) (v := (0 : Int32)) (by decide) dL_law_2722 ?_
          exact g_zret hC (pc := 2723) rfl (hK _ _ h) dL_law_2723
      by_cases e53 : (i3 &&& (63 : Int32)) = (53 : Int32)
      · refine g_tableIn hC (pc := 44) 2744 (by rw [e53]; decide) (by rw [e53]; decide) (by rw [e53]; rfl) (by decide) dL_law_44 ?_
        replace h := h.2.2.2.2.2.2.2.2.2.2.2.2.2.2.2.2.2.2.2.2.2.2.2.2.2.2.2.2.2.2.2.2.2.2.2.2.2.2.2.2.2.2.2.2.2.2.2.2.2.2.2.2.2.1 e53
        refine g_aload_n hC (pc := 2744) 1 rfl rfl dL_law_2744 ?_
        refine g_aload_n hC (pc := 2745) 3 rfl rfl dL_law_2745 ?_
        refine g_callSW hC (pc := 2746) (b := 0) (As := [vQ (some t1), vQ (some t3)]) gc_X0_failedCommand (m_X0_failedCommand hC.fl h) q2427 q2428 (gle rfl) (gle rfl) rfl (gle rfl) rfl dL_law_2746 (gk_i fun r418 G417 h => ?_) (fun _ _ h hio => g_out0 hC (hX _ _ h) hio)
        refine g_istore hC (pc := 2749) (lv' := [(6, vI r418), (0, vQ (some c1)), (1, vQ (some t1)), (2, vQ (some t2)), (3, vQ (some t3)), (4, vQ (some t4)), (5, vI x5)]) (by decide) rfl dL_law_2749 ?_
        refine g_aload_n hC (pc := 2751) 3 rfl rfl dL_law_2751 ?_
        obtain ⟨hi, h⟩ := h
        refine g_callV hC (pc := 2752) (ci := 0) (As := []) gc_X3_failedCommand (m_X3_failedCommand hC.fl h) rfl hi q2983 q2984 q2985 (gle rfl) (gle rfl) rfl (gle rfl) rfl dL_law_2752 (gk_i fun r420 G419 h => ?_) (fun _ _ h hio => g_out0 hC (hX _ _ h) hio)
        refine g_istore hC (pc := 2755) (lv' := [(7, vI r420), (6, vI r418), (0, vQ (some c1)), (1, vQ (some t1)), (2, vQ (some t2)), (3, vQ (some t3)), (4, vQ (some t4)), (5, vI x5)]) (by decide) rfl dL_law_2755 ?_
        refine g_aload_n hC (pc := 2757) 4 rfl rfl dL_law_2757 ?_
        obtain ⟨hi, h⟩ := h
        refine g_callV hC (pc := 2758) (ci := 0) (As := []) gc_X3_thrown (m_X3_thrown hC.fl h) rfl hi q2538 q2539 q2540 (gle rfl) (gle rfl) rfl (gle rfl) rfl dL_law_2758 (gk_i fun r422 G421 h => ?_) (fun _ _ h hio => g_out0 hC (hX _ _ h) hio)
        refine g_iload hC (pc := 2761) 1 rfl dL_law_2761 ?_
        refine g_icmp_eq hC (pc := 2763) 2768 h (by decide) dL_law_2763 (fun h => ?_) (fun h => ?_)
        · refine g_iload hC (pc := 2768) 1 rfl dL_law_2768 ?_
          refine g_if_ne hC (pc := 2770) 2785 h (by decide) dL_law_2770 (fun h => ?_) (fun h => ?_)
          · exact g_sub [2, 3, 4, 5, 6, 7] rfl (w_L_law_2785 hC hK hX hJ28 h)
          · refine g_aload_n hC (pc := 2773) 5 rfl rfl dL_law_2773 ?_
            refine g_iconst hC (pc := 2774) (v := (0 : Int32)) (by decide) dL_law_2774 ?_
            refine g_aldL hC (pc := 2775) h dL_law_2775 (fun i423 h => ?_)
            refine g_iload hC (pc := 2776) 0 rfl dL_law_2776 ?_
            refine g_i2l hC (pc := 2778) dL_law_2778 ?_
            refine g_lcmp hC (pc := 2779) dL_law_2779 ?_
            refine g_if_eq hC (pc := 2780) 2785 h (by decide) dL_law_2780 (fun h => ?_) (fun h => ?_)
            · exact g_sub [2, 3, 4, 5, 6, 7] rfl (w_L_law_2785 hC hK hX hJ28 h)
            · refine g_iconst hC (pc := 2783) (v := (0 : Int32)) (by decide) dL_law_2783 ?_
              exact g_zret hC (pc := 2784) rfl (hK _ _ h) dL_law_2784
        · refine g_iconst hC (pc := 2766) (v := (0 : Int32)) (by decide) dL_law_2766 ?_
          exact g_zret hC (pc := 2767) rfl (hK _ _ h) dL_law_2767
      by_cases e54 : (i3 &&& (63 : Int32)) = (54 : Int32)
      · refine g_tableIn hC (pc := 44) 2788 (by rw [e54]; decide) (by rw [e54]; decide) (by rw [e54]; rfl) (by decide) dL_law_44 ?_
        replace h := h.2.2.2.2.2.2.2.2.2.2.2.2.2.2.2.2.2.2.2.2.2.2.2.2.2.2.2.2.2.2.2.2.2.2.2.2.2.2.2.2.2.2.2.2.2.2.2.2.2.2.2.2.2.2.1 e54
        refine g_aload_n hC (pc := 2788) 1 rfl rfl dL_law_2788 ?_
        refine g_aload_n hC (pc := 2789) 3 rfl rfl dL_law_2789 ?_
        refine g_callSW hC (pc := 2790) (b := 0) (As := [vQ (some t1), vQ (some t3)]) gc_X0_undo (m_X0_undo hC.fl h) q2434 q2435 (gle rfl) (gle rfl) rfl (gle rfl) rfl dL_law_2790 (gk_i fun r425 G424 h => ?_) (fun _ _ h hio => g_out0 hC (hX _ _ h) hio)
        refine g_istore hC (pc := 2793) (lv' := [(6, vI r425), (0, vQ (some c1)), (1, vQ (some t1)), (2, vQ (some t2)), (3, vQ (some t3)), (4, vQ (some t4)), (5, vI x5)]) (by decide) rfl dL_law_2793 ?_
        refine g_aload_n hC (pc := 2795) 3 rfl rfl dL_law_2795 ?_
        obtain ⟨hi, h⟩ := h
        refine g_callV hC (pc := 2796) (ci := 0) (As := []) gc_X3_undo (m_X3_undo hC.fl h) rfl hi q2542 q2543 q2544 (gle rfl) (gle rfl) rfl (gle rfl) rfl dL_law_2796 (gk_i fun r427 G426 h => ?_) (fun _ _ h hio => g_out0 hC (hX _ _ h) hio)
        refine g_istore hC (pc := 2799) (lv' := [(7, vI r427), (6, vI r425), (0, vQ (some c1)), (1, vQ (some t1)), (2, vQ (some t2)), (3, vQ (some t3)), (4, vQ (some t4)), (5, vI x5)]) (by decide) rfl dL_law_2799 ?_
        refine g_aload_n hC (pc := 2801) 4 rfl rfl dL_law_2801 ?_
        obtain ⟨hi, h⟩ := h
        refine g_callV hC (pc := 2802) (ci := 0) (As := []) gc_X3_thrown (m_X3_thrown hC.fl h) rfl hi q2538 q2539 q2540 (gle rfl) (gle rfl) rfl (gle rfl) rfl dL_law_2802 (gk_i fun r429 G428 h => ?_) (fun _ _ h hio => g_out0 hC (hX _ _ h) hio)
        refine g_iload hC (pc := 2805) 1 rfl dL_law_2805 ?_
        refine g_icmp_eq hC (pc := 2807) 2812 h (by decide) dL_law_2807 (fun h => ?_) (fun h => ?_)
        · refine g_iload hC (pc := 2812) 1 rfl dL_law_2812 ?_
          refine g_if_ne hC (pc := 2814) 2829 h (by decide) dL_law_2814 (fun h => ?_) (fun h => ?_)
          · exact g_sub [2, 3, 4, 5, 6, 7] rfl (w_L_law_2829 hC hK hX hJ28 h)
          · refine g_aload_n hC (pc := 2817) 5 rfl rfl dL_law_2817 ?_
            refine g_iconst hC (pc := 2818) (v := (0 : Int32)) (by decide) dL_law_2818 ?_
            refine g_aldL hC (pc := 2819) h dL_law_2819 (fun i430 h => ?_)
            refine g_iload hC (pc := 2820) 0 rfl dL_law_2820 ?_
            refine g_i2l hC (pc := 2822) dL_law_2822 ?_
            refine g_lcmp hC (pc := 2823) dL_law_2823 ?_
            refine g_if_eq hC (pc := 2824) 2829 h (by decide) dL_law_2824 (fun h => ?_) (fun h => ?_)
            · exact g_sub [2, 3, 4, 5, 6, 7] rfl (w_L_law_2829 hC hK hX hJ28 h)
            · refine g_iconst hC (pc := 2827) (v := (0 : Int32)) (by decide) dL_law_2827 ?_
              exact g_zret hC (pc := 2828) rfl (hK _ _ h) dL_law_2828
        · refine g_iconst hC (pc := 2810) (v := (0 : Int32)) (by decide) dL_law_2810 ?_
          exact g_zret hC (pc := 2811) rfl (hK _ _ h) dL_law_2811
      by_cases e55 : (i3 &&& (63 : Int32)) = (55 : Int32)
      · refine g_tableIn hC (pc := 44) 2832 (by rw [e55]; decide) (by rw [e55]; decide) (by rw [e55]; rfl) (by decide) dL_law_44 ?_
        replace h := h.2.2.2.2.2.2.2.2.2.2.2.2.2.2.2.2.2.2.2.2.2.2.2.2.2.2.2.2.2.2.2.2.2.2.2.2.2.2.2.2.2.2.2.2.2.2.2.2.2.2.2.2.2.2.2.1 e55
        refine g_aload_n hC (pc := 2832) 1 rfl rfl dL_law_2832 ?_
        obtain ⟨hi, h⟩ := h
        refine g_callV hC (pc := 2833) (ci := 1) (As := []) gc_X1_save (m_X1_save hC.fl h) rfl hi q863 q864 q865 (gle rfl) (gle rfl) rfl (gle rfl) rfl dL_law_2833 (gk_i fun r432 G431 h => ?_) (fun _ _ h hio => g_out0 hC (hX _ _ h) hio)
        refine g_aload_n hC (pc := 2836) 2 rfl rfl dL_law_2836 ?_
        obtain ⟨hi, h⟩ := h
        refine g_callV hC (pc := 2837) (ci := 0) (As := []) gc_X3_save (m_X3_save hC.fl h) rfl hi q2557 q2558 q2559 (gle rfl) (gle rfl) rfl (gle rfl) rfl dL_law_2837 (gk_i fun r434 G433 h => ?_) (fun _ _ h hio => g_out0 hC (hX _ _ h) hio)
        refine g_icmp_eq hC (pc := 2840) 2889 h (by decide) dL_law_2840 (fun h => ?_) (fun h => ?_)
        · exact g_sub [0, 1, 2, 3, 4, 5] rfl (w_L_law_2889 hC hK hX hJ28 h)
        · refine g_iconst hC (pc := 2843) (v := (0 : Int32)) (by decide) dL_law_2843 ?_
          exact g_zret hC (pc := 2844) rfl (hK _ _ h) dL_law_2844
      by_cases e56 : (i3 &&& (63 : Int32)) = (56 : Int32)
      · refine g_tableIn hC (pc := 44) 2845 (by rw [e56]; decide) (by rw [e56]; decide) (by rw [e56]; rfl) (by decide) dL_law_44 ?_
        replace h := h.2.2.2.2.2.2.2.2.2.2.2.2.2.2.2.2.2.2.2.2.2.2.2.2.2.2.2.2.2.2.2.2.2.2.2.2.2.2.2.2.2.2.2.2.2.2.2.2.2.2.2.2.2.2.2.2.1 e56
        refine g_aload_n hC (pc := 2845) 1 rfl rfl dL_law_2845 ?_
        refine g_aload_n hC (pc := 2846) 3 rfl rfl dL_law_2846 ?_
        refine g_callSW hC (pc := 2847) (b := 0) (As := [vQ (some t1), vQ (some t3)]) gc_X0_restore (m_X0_restore hC.fl h) q2460 q2461 (gle rfl) (gle rfl) rfl (gle rfl) rfl dL_law_2847 (gk_i fun r436 G435 h => ?_) (fun _ _ h hio => g_out0 hC (hX _ _ h) hio)
        refine g_istore hC (pc := 2850) (lv' := [(6, vI r436), (0, vQ (some c1)), (1, vQ (some t1)), (2, vQ (some t2)), (3, vQ (some t3)), (4, vQ (some t4)), (5, vI x5)]) (by decide) rfl dL_law_2850 ?_
        refine g_aload_n hC (pc := 2852) 3 rfl rfl dL_law_2852 ?_
        obtain ⟨hi, h⟩ := h
        refine g_callV hC (pc := 2853) (ci := 0) (As := []) gc_X3_restore (m_X3_restore hC.fl h) rfl hi q2561 q2562 q2563 (gle rfl) (gle rfl) rfl (gle rfl) rfl dL_law_2853 (gk_i fun r438 G437 h => ?_) (fun _ _ h hio => g_out0 hC (hX _ _ h) hio)
        refine g_istore hC (pc := 2856) (lv' := [(7, vI r438), (6, vI r436), (0, vQ (some c1)), (1, vQ (some t1)), (2, vQ (some t2)), (3, vQ (some t3)), (4, vQ (some t4)), (5, vI x5)]) (by decide) rfl dL_law_2856 ?_
        refine g_aload_n hC (pc := 2858) 4 rfl rfl dL_law_2858 ?_
        obtain ⟨hi, h⟩ := h
        refine g_callV hC (pc := 2859) (ci := 0) (As := []) gc_X3_thrown (m_X3_thrown hC.fl h) rfl hi q2538 q2539 q2540 (gle rfl) (gle rfl) rfl (gle rfl) rfl dL_law_2859 (gk_i fun r440 G439 h => ?_) (fun _ _ h hio => g_out0 hC (hX _ _ h) hio)
        refine g_iload hC (pc := 2862) 1 rfl dL_law_2862 ?_
        refine g_icmp_eq hC (pc := 2864) 2869 h (by decide) dL_law_2864 (fun h => ?_) (fun h => ?_)
        · refine g_iload hC (pc := 2869) 1 rfl dL_law_2869 ?_
          refine g_if_ne hC (pc := 2871) 2886 h (by decide) dL_law_2871 (fun h => ?_) (fun h => ?_)
          · exact g_sub [2, 3, 4, 5, 6, 7] rfl (w_L_law_2886 hC hK hX hJ28 h)
          · refine g_aload_n hC (pc := 2874) 5 rfl rfl dL_law_2874 ?_
            refine g_iconst hC (pc := 2875) (v := (0 : Int32)) (by decide) dL_law_2875 ?_
            refine g_aldL hC (pc := 2876) h dL_law_2876 (fun i441 h => ?_)
            refine g_iload hC (pc := 2877) 0 rfl dL_law_2877 ?_
            refine g_i2l hC (pc := 2879) dL_law_2879 ?_
            refine g_lcmp hC (pc := 2880) dL_law_2880 ?_
            refine g_if_eq hC (pc := 2881) 2886 h (by decide) dL_law_2881 (fun h => ?_) (fun h => ?_)
            · exact g_sub [2, 3, 4, 5, 6, 7] rfl (w_L_law_2886 hC hK hX hJ28 h)
            · refine g_iconst hC (pc := 2884) (v := (0 : Int32)) (by decide) dL_law_2884 ?_
              exact g_zret hC (pc := 2885) rfl (hK _ _ h) dL_law_2885
        · refine g_iconst hC (pc := 2867) (v := (0 : Int32)) (by decide) dL_law_2867 ?_
          exact g_zret hC (pc := 2868) rfl (hK _ _ h) dL_law_2868
      refine g_tableOut hC (pc := 44) 2889 (by have f0 := gne (n := 0) rfl e0; have f1 := gne (n := 1) rfl e1; have f2 := gne (n := 2) rfl e2; have f3 := gne (n := 3) rfl e3; have f4 := gne (n := 4) rfl e4; have f5 := gne (n := 5) rfl e5; have f6 := gne (n := 6) rfl e6; have f7 := gne (n := 7) rfl e7; have f8 := gne (n := 8) rfl e8; have f9 := gne (n := 9) rfl e9; have f10 := gne (n := 10) rfl e10; have f11 := gne (n := 11) rfl e11; have f12 := gne (n := 12) rfl e12; have f13 := gne (n := 13) rfl e13; have f14 := gne (n := 14) rfl e14; have f15 := gne (n := 15) rfl e15; have f16 := gne (n := 16) rfl e16; have f17 := gne (n := 17) rfl e17; have f18 := gne (n := 18) rfl e18; have f19 := gne (n := 19) rfl e19; have f20 := gne (n := 20) rfl e20; have f21 := gne (n := 21) rfl e21; have f22 := gne (n := 22) rfl e22; have f23 := gne (n := 23) rfl e23; have f24 := gne (n := 24) rfl e24; have f25 := gne (n := 25) rfl e25; have f26 := gne (n := 26) rfl e26; have f27 := gne (n := 27) rfl e27; have f28 := gne (n := 28) rfl e28; have f29 := gne (n := 29) rfl e29; have f30 := gne (n := 30) rfl e30; have f31 := gne (n := 31) rfl e31; have f32 := gne (n := 32) rfl e32; have f33 := gne (n := 33) rfl e33; have f34 := gne (n := 34) rfl e34; have f35 := gne (n := 35) rfl e35; have f36 := gne (n := 36) rfl e36; have f37 := gne (n := 37) rfl e37; have f38 := gne (n := 38) rfl e38; have f39 := gne (n := 39) rfl e39; have f40 := gne (n := 40) rfl e40; have f41 := gne (n := 41) rfl e41; have f42 := gne (n := 42) rfl e42; have f43 := gne (n := 43) rfl e43; have f44 := gne (n := 44) rfl e44; have f45 := gne (n := 45) rfl e45; have f46 := gne (n := 46) rfl e46; have f47 := gne (n := 47) rfl e47; have f48 := gne (n := 48) rfl e48; have f49 := gne (n := 49) rfl e49; have f50 := gne (n := 50) rfl e50; have f51 := gne (n := 51) rfl e51; have f52 := gne (n := 52) rfl e52; have f53 := gne (n := 53) rfl e53; have f54 := gne (n := 54) rfl e54; have f55 := gne (n := 55) rfl e55; have f56 := gne (n := 56) rfl e56; omega) (by decide) dL_law_44 ?_
      replace h := h.2.2.2.2.2.2.2.2.2.2.2.2.2.2.2.2.2.2.2.2.2.2.2.2.2.2.2.2.2.2.2.2.2.2.2.2.2.2.2.2.2.2.2.2.2.2.2.2.2.2.2.2.2.2.2.2.2 e0 e1 e2 e3 e4 e5 e6 e7 e8 e9 e10 e11 e12 e13 e14 e15 e16 e17 e18 e19 e20 e21 e22 e23 e24 e25 e26 e27 e28 e29 e30 e31 e32 e33 e34 e35 e36 e37 e38 e39 e40 e41 e42 e43 e44 e45 e46 e47 e48 e49 e50 e51 e52 e53 e54 e55 e56
      exact g_sub [0, 1, 2, 3, 4, 5] rfl (w_L_law_2889 hC hK hX hJ28 h)
def wp_L_law (ad : Nat → Nat) (G : gS) (o0 : Option Nat) (X : Nat → gS → Prop) (K : Int32 → gS → Prop) : Prop :=
  wNew G 1 7 [.null, .null, .null, .null, .int 0, .int 0, .null] fun c2 G1 => wp_X1_init ad G1 c2  X (fun G3 => wNew G3 0 20 [.null, .null, .null, .null, .null, .int 0, .int 0, .int 0, .int 0, .null, .null, .int 0, .null, .int 0, .int 0, .int 0, .int 0, .int 0, .int 0, .null] fun c5 G4 => wp_X3_init ad G4 c5  X (fun G6 => wNewL G6 (1 : Int32) fun c8 G7 => wNewD G7 (1 : Int32) fun c10 G9 => gLoop (fun _ _ _ _ _ _ _ => False) (wp_L_law_28 ad X K) gFuel G9 o0 c2 c5 c8 c10 (0 : Int32)))
theorem w_L_law {C : gCx} (hC : gOk C "GoblinHouseholdLaw" cL_law [] (some .boolean) "law" 40 22 3247) {K : Int32 → gS → Prop} {X : Nat → gS → Prop} (hK : ∀ r G, K r G → cxK C (some (vI r)) G) (hX : ∀ q G, X q G → cxX C q G) {G : gS} {o0 : Option Nat} (h : wp_L_law (cxA C) G o0 X K) : gGo C G 0 [(0, vQ o0)] [] := by
  unfold wp_L_law at h
  refine g_new hC (pc := 0) in_X1 (ci := 1) rfl (by decide) tyX1_ok q145 q146 q94 gdf_X1 h dL_law_0 (fun c2 G1 h => ?_)
  refine g_dup hC (pc := 3) rfl dL_law_3 ?_
  refine g_callI hC (pc := 4) (As := []) gc_X1_init (m_X1_init hC.fl h) rfl q147 q148 (gle rfl) (gle rfl) rfl (gle rfl) rfl dL_law_4 (gk_v fun G3 h => ?_) (fun _ _ h hio => g_out0 hC (hX _ _ h) hio)
  refine g_astore_n hC (pc := 7) (lv' := [(1, vQ (some c2)), (0, vQ o0)]) rfl (by decide) rfl dL_law_7 ?_
  refine g_new hC (pc := 8) in_X3 (ci := 0) rfl (by decide) tyX3_ok q2471 q2472 q105 gdf_X3 h dL_law_8 (fun c5 G4 h => ?_)
  refine g_dup hC (pc := 11) rfl dL_law_11 ?_
  refine g_callI hC (pc := 12) (As := []) gc_X3_init (m_X3_init hC.fl h) rfl q2473 q2474 (gle rfl) (gle rfl) rfl (gle rfl) rfl dL_law_12 (gk_v fun G6 h => ?_) (fun _ _ h hio => g_out0 hC (hX _ _ h) hio)
  refine g_astore_n hC (pc := 15) (lv' := [(2, vQ (some c5)), (1, vQ (some c2)), (0, vQ o0)]) rfl (by decide) rfl dL_law_15 ?_
  refine g_iconst hC (pc := 16) (v := (1 : Int32)) (by decide) dL_law_16 ?_
  refine g_newL hC (pc := 17) q2987 h dL_law_17 (fun c8 G7 h => ?_)
  refine g_astore_n hC (pc := 19) (lv' := [(3, vQ (some c8)), (2, vQ (some c5)), (1, vQ (some c2)), (0, vQ o0)]) rfl (by decide) rfl dL_law_19 ?_
  refine g_iconst hC (pc := 20) (v := (1 : Int32)) (by decide) dL_law_20 ?_
  refine g_newD hC (pc := 21) q2988 h dL_law_21 (fun c10 G9 h => ?_)
  refine g_astore hC (pc := 23) (lv' := [(4, vQ (some c10)), (3, vQ (some c8)), (2, vQ (some c5)), (1, vQ (some c2)), (0, vQ o0)]) (by decide) rfl dL_law_23 ?_
  refine g_iconst hC (pc := 25) (v := (0 : Int32)) (by decide) dL_law_25 ?_
  refine g_istore hC (pc := 26) (lv' := [(5, vI (0 : Int32)), (4, vQ (some c10)), (3, vQ (some c8)), (2, vQ (some c5)), (1, vQ (some c2)), (0, vQ o0)]) (by decide) rfl dL_law_26 ?_
  exact g_sub [5, 4, 3, 2, 1, 0] rfl (w_L_law_28 hC hK hX gFuel _ _ _ _ _ _ _ h)
