/-! walk 0 (printed by gen/walk.py) -/
set_option maxRecDepth 20000
def wp_J0_init (ad : Nat → Nat) (G : gS) (t0 : Nat) (X : Nat → gS → Prop) (K : gS → Prop) : Prop :=
  K G
theorem w_J0_init {C : gCx} (hC : gOk C "java/util/AbstractCollection" cJ0_init [] none "<init>" 1 1 28) {K : gS → Prop} {X : Nat → gS → Prop} (hK : ∀ G, K G → cxK C none G) (hX : ∀ q G, X q G → cxX C q G) {G : gS} {t0 : Nat} (h : wp_J0_init (cxA C) G t0 X K) : gGo C G 0 [(0, vQ (some t0))] [] := by
  unfold wp_J0_init at h
  refine g_aload_n hC (pc := 0) 0 rfl rfl dJ0_init_0 ?_
  refine g_objInit hC (pc := 1) q170 q151 q152 (gle rfl) (gle rfl) (gle rfl) dJ0_init_1 ?_
  exact g_vret hC (pc := 4) (hK _ h) dJ0_init_4
theorem gc_J0_init : gCode yJ0_init cJ0_init 1 none 0 := ⟨q169, q96, ⟨by decide, by decide⟩, rfl⟩
theorem m_J0_init {l : Launch} (hfl : l.stackTraces = false) {E : gE} {G : gS} {t0 : Nat} {X : Nat → gS → Prop} {K : gS → Prop} (h : wp_J0_init (gAd E) G t0 X K) : gMet l yJ0_init (ws_ yJ0_init cJ0_init 1 none) 1 28 [vQ (some t0)] E G (gRv K) X :=
  g_met hfl (plainFor_of_name (by decide +kernel)) rfl rfl rfl (gle rfl) (fun p e R s m args below meth c hC => w_J0_init hC (fun _ h => h) (fun _ _ h => h) h)
def wp_J1_init_at3 (ad : Nat → Nat) (G : gS) (t0 : Nat) (X : Nat → gS → Prop) (K : gS → Prop) : Prop :=
  wp_J0_init ad G t0  X (fun G1 => wPut G1 t0 3 0 (.int (0 : Int32)) fun G2 => K G2)
theorem w_J1_init_at3 {C : gCx} (hC : gOk C "java/util/AbstractList" cJ1_init [] none "<init>" 1 2 56) {K : gS → Prop} {X : Nat → gS → Prop} (hK : ∀ G, K G → cxK C none G) (hX : ∀ q G, X q G → cxX C q G) {G : gS} {t0 : Nat} (h : wp_J1_init_at3 (cxA C) G t0 X K) : gGo C G 0 [(0, vQ (some t0))] [] := by
  unfold wp_J1_init_at3 at h
  refine g_aload_n hC (pc := 0) 0 rfl rfl dJ1_init_0 ?_
  refine g_callI hC (pc := 1) (As := []) gc_J0_init (m_J0_init hC.fl h) rfl q167 q168 (gle rfl) (gle rfl) rfl (gle rfl) rfl dJ1_init_1 (gk_v fun G1 h => ?_) (fun _ _ h hio => g_out0 hC (hX _ _ h) hio)
  refine g_aload_n hC (pc := 4) 0 rfl rfl dJ1_init_4 ?_
  refine g_iconst hC (pc := 5) (v := (0 : Int32)) (by decide) dJ1_init_5 ?_
  refine g_put hC (pc := 6) in_J2 (ci := 3) rfl 0 (by decide) tyJ2_ok nmJ2 q175 (Or.inl rfl) rfl rfl rfl h dJ1_init_6 (fun G2 h => ?_)
  exact g_vret hC (pc := 9) (hK _ h) dJ1_init_9
theorem gc_J1_init : gCode yJ1_init cJ1_init 1 none 0 := ⟨q166, q97, ⟨by decide, by decide⟩, rfl⟩
theorem m_J1_init_at3 {l : Launch} (hfl : l.stackTraces = false) {E : gE} {G : gS} {t0 : Nat} {X : Nat → gS → Prop} {K : gS → Prop} (h : wp_J1_init_at3 (gAd E) G t0 X K) : gMet l yJ1_init (ws_ yJ1_init cJ1_init 1 none) 2 56 [vQ (some t0)] E G (gRv K) X :=
  g_met hfl (plainFor_of_name (by decide +kernel)) rfl rfl rfl (gle rfl) (fun p e R s m args below meth c hC => w_J1_init_at3 hC (fun _ h => h) (fun _ _ h => h) h)
def wp_J2_init (ad : Nat → Nat) (G : gS) (t0 : Nat) (X : Nat → gS → Prop) (K : gS → Prop) : Prop :=
  wp_J1_init_at3 ad G t0  X (fun G1 => wPut G1 t0 3 1 (va_rf (some (ad 2))) fun G2 => K G2)
theorem w_J2_init {C : gCx} (hC : gOk C "java/util/ArrayList" cJ2_init [] none "<init>" 1 3 84) {K : gS → Prop} {X : Nat → gS → Prop} (hK : ∀ G, K G → cxK C none G) (hX : ∀ q G, X q G → cxX C q G) {G : gS} {t0 : Nat} (h : wp_J2_init (cxA C) G t0 X K) : gGo C G 0 [(0, vQ (some t0))] [] := by
  unfold wp_J2_init at h
  refine g_aload_n hC (pc := 0) 0 rfl rfl dJ2_init_0 ?_
  refine g_callI hC (pc := 1) (As := []) gc_J1_init (m_J1_init_at3 hC.fl h) rfl q164 q165 (gle rfl) (gle rfl) rfl (gle rfl) rfl dJ2_init_1 (gk_v fun G1 h => ?_) (fun _ _ h hio => g_out0 hC (hX _ _ h) hio)
  refine g_aload_n hC (pc := 4) 0 rfl rfl dJ2_init_4 ?_
  refine g_stat hC (pc := 5) (List.mem_of_getElem? (i := 2) rfl) q171 (fun _ _ h => h) dJ2_init_5 ?_
  refine g_put hC (pc := 8) in_J2 (ci := 3) rfl 1 (by decide) tyJ2_ok nmJ2 q173 (Or.inl rfl) rfl (gnarA _ _) (gfitA _ _) h dJ2_init_8 (fun G2 h => ?_)
  exact g_vret hC (pc := 11) (hK _ h) dJ2_init_11
theorem gc_J2_init : gCode yJ2_init cJ2_init 1 none 0 := ⟨q163, q98, ⟨by decide, by decide⟩, rfl⟩
theorem m_J2_init {l : Launch} (hfl : l.stackTraces = false) {E : gE} {G : gS} {t0 : Nat} {X : Nat → gS → Prop} {K : gS → Prop} (h : wp_J2_init (gAd E) G t0 X K) : gMet l yJ2_init (ws_ yJ2_init cJ2_init 1 none) 3 84 [vQ (some t0)] E G (gRv K) X :=
  g_met hfl (plainFor_of_name (by decide +kernel)) rfl rfl rfl (gle rfl) (fun p e R s m args below meth c hC => w_J2_init hC (fun _ h => h) (fun _ _ h => h) h)
def wp_X2_init_53 (ad : Nat → Nat) (X : Nat → gS → Prop) (K : gS → Prop) (J53 : gS → Nat → Int32 → Prop) (G : gS) (t0 : Nat) (x1 : Int32) : Prop :=
  ((6 : Int32) ≤ x1 → K G) ∧ (¬ (6 : Int32) ≤ x1 → wGetQ G t0 2 0 fun q1 => wNN q1 fun c2 => wAstI G c2 x1 (20 : Int32) fun G3 => J53 G3 t0 (x1 + (1 : Int32)))
theorem w_X2_init_53 {C : gCx} (hC : gOk C "GoblinHousehold$Household" cX2_init [] none "<init>" 2 4 112) {K : gS → Prop} {X : Nat → gS → Prop} (hK : ∀ G, K G → cxK C none G) (hX : ∀ q G, X q G → cxX C q G) (n : Nat) : ∀ (G : gS) (t0 : Nat) (x1 : Int32), gLoop (fun _ _ _ => False) (wp_X2_init_53 (cxA C) X K) n G t0 x1 → gGo C G 53 [(0, vQ (some t0)), (1, vI x1)] [] := by
  induction n with
  | zero => intro G t0 x1 h; exact h.elim
  | succ n ih =>
    intro G t0 x1 h
    have hJ53 := ih
    replace h : wp_X2_init_53 (cxA C) X K _ G t0 x1 := h
    unfold wp_X2_init_53 at h
    refine g_iload_n hC (pc := 53) 1 rfl rfl dX2_init_53 ?_
    refine g_bipush hC (pc := 54) (v := (6 : Int32)) (by decide) dX2_init_54 ?_
    refine g_icmp_ge hC (pc := 56) 73 h (by decide) dX2_init_56 (fun h => ?_) (fun h => ?_)
    · exact g_vret hC (pc := 73) (hK _ h) dX2_init_73
    · refine g_aload_n hC (pc := 59) 0 rfl rfl dX2_init_59 ?_
      refine g_getQ hC (pc := 60) in_X2 (ci := 2) rfl 0 (by decide) q188 (Or.inl rfl) h dX2_init_60 (fun q1 h => ?_)
      refine g_iload_n hC (pc := 63) 1 rfl rfl dX2_init_63 ?_
      refine g_bipush hC (pc := 64) (v := (20 : Int32)) (by decide) dX2_init_64 ?_
      rcases q1 with _ | c2
      · exact (gNN0 h).elim
      replace h := gNN1 h
      refine g_astI hC (pc := 66) h dX2_init_66 (fun G3 h => ?_)
      refine g_iinc hC (pc := 67) 1 (d := (1 : Int32)) (v := (x1 + (1 : Int32))) (lv' := [(1, vI (x1 + (1 : Int32))), (0, vQ (some t0))]) rfl (by decide) rfl (by decide) rfl dX2_init_67 ?_
      refine g_goto hC (pc := 70) 53 (by decide) dX2_init_70 ?_
      exact g_sub [1, 0] rfl (hJ53 _ _ _ h)
def wp_X2_init (ad : Nat → Nat) (G : gS) (t0 : Nat) (X : Nat → gS → Prop) (K : gS → Prop) : Prop :=
  wNewI G (6 : Int32) fun c2 G1 => wPut G1 t0 2 0 (va_rf (some c2)) fun G3 => wNew G3 3 3 [.int 0, .null, .int 0] fun c5 G4 => wp_J2_init ad G4 c5  X (fun G6 => wPut G6 t0 2 1 (va_rf (some c5)) fun G7 => wNew G7 3 3 [.int 0, .null, .int 0] fun c9 G8 => wp_J2_init ad G8 c9  X (fun G10 => wPut G10 t0 2 2 (va_rf (some c9)) fun G11 => wNew G11 3 3 [.int 0, .null, .int 0] fun c13 G12 => wp_J2_init ad G12 c13  X (fun G14 => wPut G14 t0 2 3 (va_rf (some c13)) fun G15 => wPut G15 t0 2 5 (.int (100 : Int32)) fun G16 => gLoop (fun _ _ _ => False) (wp_X2_init_53 ad X K) gFuel G16 t0 (0 : Int32))))
theorem w_X2_init {C : gCx} (hC : gOk C "GoblinHousehold$Household" cX2_init [] none "<init>" 2 4 112) {K : gS → Prop} {X : Nat → gS → Prop} (hK : ∀ G, K G → cxK C none G) (hX : ∀ q G, X q G → cxX C q G) {G : gS} {t0 : Nat} (h : wp_X2_init (cxA C) G t0 X K) : gGo C G 0 [(0, vQ (some t0))] [] := by
  unfold wp_X2_init at h
  refine g_aload_n hC (pc := 0) 0 rfl rfl dX2_init_0 ?_
  refine g_objInit hC (pc := 1) q158 q151 q152 (gle rfl) (gle rfl) (gle rfl) dX2_init_1 ?_
  refine g_aload_n hC (pc := 4) 0 rfl rfl dX2_init_4 ?_
  refine g_bipush hC (pc := 5) (v := (6 : Int32)) (by decide) dX2_init_5 ?_
  refine g_newI hC (pc := 7) q187 h dX2_init_7 (fun c2 G1 h => ?_)
  refine g_putF hC (pc := 9) in_X2 (ci := 2) rfl 0 (by decide) tyX2_ok nmX2 q188 (Or.inl rfl) rfl rfl rfl (gnarA _ _) (gfitA _ _) h dX2_init_9 (fun G3 h => ?_)
  refine g_aload_n hC (pc := 12) 0 rfl rfl dX2_init_12 ?_
  refine g_new hC (pc := 13) in_J2 (ci := 3) rfl (by decide) tyJ2_ok q159 q160 q98 gdf_J2 h dX2_init_13 (fun c5 G4 h => ?_)
  refine g_dup hC (pc := 16) rfl dX2_init_16 ?_
  refine g_callI hC (pc := 17) (As := []) gc_J2_init (m_J2_init hC.fl h) rfl q161 q162 (gle rfl) (gle rfl) rfl (gle rfl) rfl dX2_init_17 (gk_v fun G6 h => ?_) (fun _ _ h hio => g_out0 hC (hX _ _ h) hio)
  refine g_putF hC (pc := 20) in_X2 (ci := 2) rfl 1 (by decide) tyX2_ok nmX2 q190 (Or.inl rfl) rfl rfl rfl (gnarO _ _) (gfitO _ _) h dX2_init_20 (fun G7 h => ?_)
  refine g_aload_n hC (pc := 23) 0 rfl rfl dX2_init_23 ?_
  refine g_new hC (pc := 24) in_J2 (ci := 3) rfl (by decide) tyJ2_ok q159 q160 q98 gdf_J2 h dX2_init_24 (fun c9 G8 h => ?_)
  refine g_dup hC (pc := 27) rfl dX2_init_27 ?_
  refine g_callI hC (pc := 28) (As := []) gc_J2_init (m_J2_init hC.fl h) rfl q161 q162 (gle rfl) (gle rfl) rfl (gle rfl) rfl dX2_init_28 (gk_v fun G10 h => ?_) (fun _ _ h hio => g_out0 hC (hX _ _ h) hio)
  refine g_putF hC (pc := 31) in_X2 (ci := 2) rfl 2 (by decide) tyX2_ok nmX2 q192 (Or.inl rfl) rfl rfl rfl (gnarO _ _) (gfitO _ _) h dX2_init_31 (fun G11 h => ?_)
  refine g_aload_n hC (pc := 34) 0 rfl rfl dX2_init_34 ?_
  refine g_new hC (pc := 35) in_J2 (ci := 3) rfl (by decide) tyJ2_ok q159 q160 q98 gdf_J2 h dX2_init_35 (fun c13 G12 h => ?_)
  refine g_dup hC (pc := 38) rfl dX2_init_38 ?_
  refine g_callI hC (pc := 39) (As := []) gc_J2_init (m_J2_init hC.fl h) rfl q161 q162 (gle rfl) (gle rfl) rfl (gle rfl) rfl dX2_init_39 (gk_v fun G14 h => ?_) (fun _ _ h hio => g_out0 hC (hX _ _ h) hio)
  refine g_putF hC (pc := 42) in_X2 (ci := 2) rfl 3 (by decide) tyX2_ok nmX2 q194 (Or.inl rfl) rfl rfl rfl (gnarO _ _) (gfitO _ _) h dX2_init_42 (fun G15 h => ?_)
  refine g_aload_n hC (pc := 45) 0 rfl rfl dX2_init_45 ?_
  refine g_bipush hC (pc := 46) (v := (100 : Int32)) (by decide) dX2_init_46 ?_
  refine g_put hC (pc := 48) in_X2 (ci := 2) rfl 5 (by decide) tyX2_ok nmX2 q197 (Or.inl rfl) rfl rfl rfl h dX2_init_48 (fun G16 h => ?_)
  refine g_iconst hC (pc := 51) (v := (0 : Int32)) (by decide) dX2_init_51 ?_
  refine g_istore_n hC (pc := 52) (lv' := [(1, vI (0 : Int32)), (0, vQ (some t0))]) rfl (by decide) rfl dX2_init_52 ?_
  exact g_sub [1, 0] rfl (w_X2_init_53 hC hK hX gFuel _ _ _ h)
theorem gc_X2_init : gCode yX2_init cX2_init 2 none 0 := ⟨q157, q95, ⟨by decide, by decide⟩, rfl⟩
theorem m_X2_init {l : Launch} (hfl : l.stackTraces = false) {E : gE} {G : gS} {t0 : Nat} {X : Nat → gS → Prop} {K : gS → Prop} (h : wp_X2_init (gAd E) G t0 X K) : gMet l yX2_init (ws_ yX2_init cX2_init 2 none) 4 112 [vQ (some t0)] E G (gRv K) X :=
  g_met hfl (plainFor_of_name (by decide +kernel)) rfl rfl rfl (gle rfl) (fun p e R s m args below meth c hC => w_X2_init hC (fun _ h => h) (fun _ _ h => h) h)
def wp_J1_init_at4 (ad : Nat → Nat) (G : gS) (t0 : Nat) (X : Nat → gS → Prop) (K : gS → Prop) : Prop :=
  wp_J0_init ad G t0  X (fun G1 => wPut G1 t0 4 0 (.int (0 : Int32)) fun G2 => K G2)
theorem w_J1_init_at4 {C : gCx} (hC : gOk C "java/util/AbstractList" cJ1_init [] none "<init>" 1 2 56) {K : gS → Prop} {X : Nat → gS → Prop} (hK : ∀ G, K G → cxK C none G) (hX : ∀ q G, X q G → cxX C q G) {G : gS} {t0 : Nat} (h : wp_J1_init_at4 (cxA C) G t0 X K) : gGo C G 0 [(0, vQ (some t0))] [] := by
  unfold wp_J1_init_at4 at h
  refine g_aload_n hC (pc := 0) 0 rfl rfl dJ1_init_0 ?_
  refine g_callI hC (pc := 1) (As := []) gc_J0_init (m_J0_init hC.fl h) rfl q167 q168 (gle rfl) (gle rfl) rfl (gle rfl) rfl dJ1_init_1 (gk_v fun G1 h => ?_) (fun _ _ h hio => g_out0 hC (hX _ _ h) hio)
  refine g_aload_n hC (pc := 4) 0 rfl rfl dJ1_init_4 ?_
  refine g_iconst hC (pc := 5) (v := (0 : Int32)) (by decide) dJ1_init_5 ?_
  refine g_put hC (pc := 6) in_J4 (ci := 4) rfl 0 (by decide) tyJ4_ok nmJ4 q175 (Or.inl rfl) rfl rfl rfl h dJ1_init_6 (fun G2 h => ?_)
  exact g_vret hC (pc := 9) (hK _ h) dJ1_init_9
theorem m_J1_init_at4 {l : Launch} (hfl : l.stackTraces = false) {E : gE} {G : gS} {t0 : Nat} {X : Nat → gS → Prop} {K : gS → Prop} (h : wp_J1_init_at4 (gAd E) G t0 X K) : gMet l yJ1_init (ws_ yJ1_init cJ1_init 1 none) 2 56 [vQ (some t0)] E G (gRv K) X :=
  g_met hfl (plainFor_of_name (by decide +kernel)) rfl rfl rfl (gle rfl) (fun p e R s m args below meth c hC => w_J1_init_at4 hC (fun _ h => h) (fun _ _ h => h) h)
def wp_J3_init_at4 (ad : Nat → Nat) (G : gS) (t0 : Nat) (X : Nat → gS → Prop) (K : gS → Prop) : Prop :=
  wp_J1_init_at4 ad G t0  X (fun G1 => K G1)
theorem w_J3_init_at4 {C : gCx} (hC : gOk C "java/util/AbstractSequentialList" cJ3_init [] none "<init>" 1 3 84) {K : gS → Prop} {X : Nat → gS → Prop} (hK : ∀ G, K G → cxK C none G) (hX : ∀ q G, X q G → cxX C q G) {G : gS} {t0 : Nat} (h : wp_J3_init_at4 (cxA C) G t0 X K) : gGo C G 0 [(0, vQ (some t0))] [] := by
  unfold wp_J3_init_at4 at h
  refine g_aload_n hC (pc := 0) 0 rfl rfl dJ3_init_0 ?_
  refine g_callI hC (pc := 1) (As := []) gc_J1_init (m_J1_init_at4 hC.fl h) rfl q246 q165 (gle rfl) (gle rfl) rfl (gle rfl) rfl dJ3_init_1 (gk_v fun G1 h => ?_) (fun _ _ h hio => g_out0 hC (hX _ _ h) hio)
  exact g_vret hC (pc := 4) (hK _ h) dJ3_init_4
theorem gc_J3_init : gCode yJ3_init cJ3_init 1 none 0 := ⟨q245, q99, ⟨by decide, by decide⟩, rfl⟩
theorem m_J3_init_at4 {l : Launch} (hfl : l.stackTraces = false) {E : gE} {G : gS} {t0 : Nat} {X : Nat → gS → Prop} {K : gS → Prop} (h : wp_J3_init_at4 (gAd E) G t0 X K) : gMet l yJ3_init (ws_ yJ3_init cJ3_init 1 none) 3 84 [vQ (some t0)] E G (gRv K) X :=
  g_met hfl (plainFor_of_name (by decide +kernel)) rfl rfl rfl (gle rfl) (fun p e R s m args below meth c hC => w_J3_init_at4 hC (fun _ h => h) (fun _ _ h => h) h)
def wp_J4_init (ad : Nat → Nat) (G : gS) (t0 : Nat) (X : Nat → gS → Prop) (K : gS → Prop) : Prop :=
  wp_J3_init_at4 ad G t0  X (fun G1 => wPut G1 t0 4 1 (.int (0 : Int32)) fun G2 => K G2)
theorem w_J4_init {C : gCx} (hC : gOk C "java/util/LinkedList" cJ4_init [] none "<init>" 1 4 112) {K : gS → Prop} {X : Nat → gS → Prop} (hK : ∀ G, K G → cxK C none G) (hX : ∀ q G, X q G → cxX C q G) {G : gS} {t0 : Nat} (h : wp_J4_init (cxA C) G t0 X K) : gGo C G 0 [(0, vQ (some t0))] [] := by
  unfold wp_J4_init at h
  refine g_aload_n hC (pc := 0) 0 rfl rfl dJ4_init_0 ?_
  refine g_callI hC (pc := 1) (As := []) gc_J3_init (m_J3_init_at4 hC.fl h) rfl q243 q244 (gle rfl) (gle rfl) rfl (gle rfl) rfl dJ4_init_1 (gk_v fun G1 h => ?_) (fun _ _ h hio => g_out0 hC (hX _ _ h) hio)
  refine g_aload_n hC (pc := 4) 0 rfl rfl dJ4_init_4 ?_
  refine g_iconst hC (pc := 5) (v := (0 : Int32)) (by decide) dJ4_init_5 ?_
  refine g_put hC (pc := 6) in_J4 (ci := 4) rfl 1 (by decide) tyJ4_ok nmJ4 q247 (Or.inl rfl) rfl rfl rfl h dJ4_init_6 (fun G2 h => ?_)
  exact g_vret hC (pc := 9) (hK _ h) dJ4_init_9
theorem gc_J4_init : gCode yJ4_init cJ4_init 1 none 0 := ⟨q242, q100, ⟨by decide, by decide⟩, rfl⟩
theorem m_J4_init {l : Launch} (hfl : l.stackTraces = false) {E : gE} {G : gS} {t0 : Nat} {X : Nat → gS → Prop} {K : gS → Prop} (h : wp_J4_init (gAd E) G t0 X K) : gMet l yJ4_init (ws_ yJ4_init cJ4_init 1 none) 4 112 [vQ (some t0)] E G (gRv K) X :=
  g_met hfl (plainFor_of_name (by decide +kernel)) rfl rfl rfl (gle rfl) (fun p e R s m args below meth c hC => w_J4_init hC (fun _ h => h) (fun _ _ h => h) h)
def wp_J5_init (ad : Nat → Nat) (G : gS) (t0 : Nat) (x1 : Int32) (X : Nat → gS → Prop) (K : gS → Prop) : Prop :=
  wNewB G x1 fun c2 G1 => wPut G1 t0 6 0 (va_rf (some c2)) fun G3 => wPut G3 t0 6 1 (.int (0 : Int32)) fun G4 => K G4
theorem w_J5_init {C : gCx} (hC : gOk C "java/lang/AbstractStringBuilder" cJ5_init [] none "<init>" 2 1 28) {K : gS → Prop} {X : Nat → gS → Prop} (hK : ∀ G, K G → cxK C none G) (hX : ∀ q G, X q G → cxX C q G) {G : gS} {t0 : Nat} {x1 : Int32} (h : wp_J5_init (cxA C) G t0 x1 X K) : gGo C G 0 [(0, vQ (some t0)), (1, vI x1)] [] := by
  unfold wp_J5_init at h
  refine g_aload_n hC (pc := 0) 0 rfl rfl dJ5_init_0 ?_
  refine g_objInit hC (pc := 1) q266 q151 q152 (gle rfl) (gle rfl) (gle rfl) dJ5_init_1 ?_
  refine g_statI hC (pc := 4) (List.mem_of_getElem? (i := 0) rfl) q267 (fun _ _ h => h) dJ5_init_4 ?_
  refine g_if_eq hC (pc := 7) 25 (P := False) (Q := True) ⟨fun e => absurd e (by decide), fun _ => trivial⟩ (by decide) dJ5_init_7 (fun e => e.elim) (fun _ => ?_)
  refine g_aload_n hC (pc := 10) 0 rfl rfl dJ5_init_10 ?_
  refine g_iload_n hC (pc := 11) 1 rfl rfl dJ5_init_11 ?_
  refine g_newB hC (pc := 12) q290 h dJ5_init_12 (fun c2 G1 h => ?_)
  refine g_put hC (pc := 14) in_J6 (ci := 6) rfl 0 (by decide) tyJ6_ok nmJ6 q276 (Or.inl rfl) rfl (gnarA _ _) (gfitA _ _) h dJ5_init_14 (fun G3 h => ?_)
  refine g_aload_n hC (pc := 17) 0 rfl rfl dJ5_init_17 ?_
  refine g_iconst hC (pc := 18) (v := (0 : Int32)) (by decide) dJ5_init_18 ?_
  refine g_put hC (pc := 19) in_J6 (ci := 6) rfl 1 (by decide) tyJ6_ok nmJ6 q277 (Or.inl rfl) rfl rfl rfl h dJ5_init_19 (fun G4 h => ?_)
  refine g_goto hC (pc := 22) 38 (by decide) dJ5_init_22 ?_
  exact g_vret hC (pc := 38) (hK _ h) dJ5_init_38
theorem gc_J5_init : gCode yJ5_init cJ5_init 2 none 1 := ⟨q265, q101, ⟨by decide, by decide⟩, rfl⟩
theorem m_J5_init {l : Launch} (hfl : l.stackTraces = false) {E : gE} {G : gS} {t0 : Nat} {x1 : Int32} {X : Nat → gS → Prop} {K : gS → Prop} (h : wp_J5_init (gAd E) G t0 x1 X K) : gMet l yJ5_init (ws_ yJ5_init cJ5_init 2 none) 1 28 [vQ (some t0), vI x1] E G (gRv K) X :=
  g_met hfl (plainFor_of_name (by decide +kernel)) rfl rfl rfl (gle rfl) (fun p e R s m args below meth c hC => w_J5_init hC (fun _ h => h) (fun _ _ h => h) h)
def wp_J6_init (ad : Nat → Nat) (G : gS) (t0 : Nat) (X : Nat → gS → Prop) (K : gS → Prop) : Prop :=
  wp_J5_init ad G t0 (16 : Int32) X (fun G1 => K G1)
theorem w_J6_init {C : gCx} (hC : gOk C "java/lang/StringBuilder" cJ6_init [] none "<init>" 1 2 57) {K : gS → Prop} {X : Nat → gS → Prop} (hK : ∀ G, K G → cxK C none G) (hX : ∀ q G, X q G → cxX C q G) {G : gS} {t0 : Nat} (h : wp_J6_init (cxA C) G t0 X K) : gGo C G 0 [(0, vQ (some t0))] [] := by
  unfold wp_J6_init at h
  refine g_aload_n hC (pc := 0) 0 rfl rfl dJ6_init_0 ?_
  refine g_bipush hC (pc := 1) (v := (16 : Int32)) (by decide) dJ6_init_1 ?_
  refine g_callI hC (pc := 3) (As := [vI (16 : Int32)]) gc_J5_init (m_J5_init hC.fl h) rfl q263 q264 (gle rfl) (gle rfl) rfl (gle rfl) rfl dJ6_init_3 (gk_v fun G1 h => ?_) (fun _ _ h hio => g_out0 hC (hX _ _ h) hio)
  exact g_vret hC (pc := 6) (hK _ h) dJ6_init_6
theorem gc_J6_init : gCode yJ6_init cJ6_init 1 none 0 := ⟨q262, q102, ⟨by decide, by decide⟩, rfl⟩
theorem m_J6_init {l : Launch} (hfl : l.stackTraces = false) {E : gE} {G : gS} {t0 : Nat} {X : Nat → gS → Prop} {K : gS → Prop} (h : wp_J6_init (gAd E) G t0 X K) : gMet l yJ6_init (ws_ yJ6_init cJ6_init 1 none) 2 57 [vQ (some t0)] E G (gRv K) X :=
  g_met hfl (plainFor_of_name (by decide +kernel)) rfl rfl rfl (gle rfl) (fun p e R s m args below meth c hC => w_J6_init hC (fun _ h => h) (fun _ _ h => h) h)
def wp_X1_init (ad : Nat → Nat) (G : gS) (t0 : Nat) (X : Nat → gS → Prop) (K : gS → Prop) : Prop :=
  wNew G 2 13 [.null, .null, .null, .null, .int 0, .int 0, .int 0, .int 0, .int 0, .int 0, .int 0, .int 0, .int 0] fun c2 G1 => wp_X2_init ad G1 c2  X (fun G3 => wPut G3 t0 1 0 (va_rf (some c2)) fun G4 => wNew G4 4 4 [.int 0, .int 0, .null, .null] fun c6 G5 => wp_J4_init ad G5 c6  X (fun G7 => wPut G7 t0 1 2 (va_rf (some c6)) fun G8 => wNew G8 6 4 [.null, .int 0, .int 0, .int 0] fun c10 G9 => wp_J6_init ad G9 c10  X (fun G11 => wPut G11 t0 1 3 (va_rf (some c10)) fun G12 => wPut G12 t0 1 4 (.int (-1 : Int32)) fun G13 => wPut G13 t0 1 5 (.int (-1 : Int32)) fun G14 => wPut G14 t0 1 6 (va_rf (some (ad 100))) fun G15 => K G15)))
theorem w_X1_init {C : gCx} (hC : gOk C "GoblinHousehold" cX1_init [] none "<init>" 1 5 141) {K : gS → Prop} {X : Nat → gS → Prop} (hK : ∀ G, K G → cxK C none G) (hX : ∀ q G, X q G → cxX C q G) {G : gS} {t0 : Nat} (h : wp_X1_init (cxA C) G t0 X K) : gGo C G 0 [(0, vQ (some t0))] [] := by
  unfold wp_X1_init at h
  refine g_aload_n hC (pc := 0) 0 rfl rfl dX1_init_0 ?_
  refine g_objInit hC (pc := 1) q150 q151 q152 (gle rfl) (gle rfl) (gle rfl) dX1_init_1 ?_
  refine g_aload_n hC (pc := 4) 0 rfl rfl dX1_init_4 ?_
  refine g_new hC (pc := 5) in_X2 (ci := 2) rfl (by decide) tyX2_ok q153 q154 q95 gdf_X2 h dX1_init_5 (fun c2 G1 h => ?_)
  refine g_dup hC (pc := 8) rfl dX1_init_8 ?_
  refine g_callIN hC (pc := 9) (As := []) gc_X2_init (m_X2_init hC.fl h) rfl (List.mem_of_getElem? (i := 0) rfl) q156 (gle rfl) (gle rfl) rfl (gle rfl) rfl dX1_init_9 (gk_v fun G3 h => ?_) (fun _ _ h hio => g_out0 hC (hX _ _ h) hio)
  refine g_put hC (pc := 12) in_X1 (ci := 1) rfl 0 (by decide) tyX1_ok nmX1 q292 (Or.inl rfl) rfl (gnarO _ _) (gfitO _ _) h dX1_init_12 (fun G4 h => ?_)
  refine g_aload_n hC (pc := 15) 0 rfl rfl dX1_init_15 ?_
  refine g_new hC (pc := 16) in_J4 (ci := 4) rfl (by decide) tyJ4_ok q238 q239 q100 gdf_J4 h dX1_init_16 (fun c6 G5 h => ?_)
  refine g_dup hC (pc := 19) rfl dX1_init_19 ?_
  refine g_callI hC (pc := 20) (As := []) gc_J4_init (m_J4_init hC.fl h) rfl q240 q241 (gle rfl) (gle rfl) rfl (gle rfl) rfl dX1_init_20 (gk_v fun G7 h => ?_) (fun _ _ h hio => g_out0 hC (hX _ _ h) hio)
  refine g_putF hC (pc := 23) in_X1 (ci := 1) rfl 2 (by decide) tyX1_ok nmX1 q294 (Or.inl rfl) rfl rfl rfl (gnarO _ _) (gfitO _ _) h dX1_init_23 (fun G8 h => ?_)
  refine g_aload_n hC (pc := 26) 0 rfl rfl dX1_init_26 ?_
  refine g_new hC (pc := 27) in_J6 (ci := 6) rfl (by decide) tyJ6_ok q258 q259 q102 gdf_J6 h dX1_init_27 (fun c10 G9 h => ?_)
  refine g_dup hC (pc := 30) rfl dX1_init_30 ?_
  refine g_callI hC (pc := 31) (As := []) gc_J6_init (m_J6_init hC.fl h) rfl q260 q261 (gle rfl) (gle rfl) rfl (gle rfl) rfl dX1_init_31 (gk_v fun G11 h => ?_) (fun _ _ h hio => g_out0 hC (hX _ _ h) hio)
  refine g_putF hC (pc := 34) in_X1 (ci := 1) rfl 3 (by decide) tyX1_ok nmX1 q295 (Or.inl rfl) rfl rfl rfl (gnarO _ _) (gfitO _ _) h dX1_init_34 (fun G12 h => ?_)
  refine g_aload_n hC (pc := 37) 0 rfl rfl dX1_init_37 ?_
  refine g_iconst hC (pc := 38) (v := (-1 : Int32)) (by decide) dX1_init_38 ?_
  refine g_put hC (pc := 39) in_X1 (ci := 1) rfl 4 (by decide) tyX1_ok nmX1 q296 (Or.inl rfl) rfl rfl rfl h dX1_init_39 (fun G13 h => ?_)
  refine g_aload_n hC (pc := 42) 0 rfl rfl dX1_init_42 ?_
  refine g_iconst hC (pc := 43) (v := (-1 : Int32)) (by decide) dX1_init_43 ?_
  refine g_put hC (pc := 44) in_X1 (ci := 1) rfl 5 (by decide) tyX1_ok nmX1 q297 (Or.inl rfl) rfl rfl rfl h dX1_init_44 (fun G14 h => ?_)
  refine g_aload_n hC (pc := 47) 0 rfl rfl dX1_init_47 ?_
  refine g_ldcS hC (pc := 48) (List.mem_of_getElem? (i := 0) rfl) dX1_init_48 ?_
  refine g_put hC (pc := 50) in_X1 (ci := 1) rfl 6 (by decide) tyX1_ok nmX1 q298 (Or.inl rfl) rfl (gnarO _ _) (gfitO _ _) h dX1_init_50 (fun G15 h => ?_)
  exact g_vret hC (pc := 53) (hK _ h) dX1_init_53
theorem gc_X1_init : gCode yX1_init cX1_init 1 none 0 := ⟨q149, q94, ⟨by decide, by decide⟩, rfl⟩
theorem m_X1_init {l : Launch} (hfl : l.stackTraces = false) {E : gE} {G : gS} {t0 : Nat} {X : Nat → gS → Prop} {K : gS → Prop} (h : wp_X1_init (gAd E) G t0 X K) : gMet l yX1_init (ws_ yX1_init cX1_init 1 none) 5 141 [vQ (some t0)] E G (gRv K) X :=
  g_met hfl (plainFor_of_name (by decide +kernel)) rfl rfl rfl (gle rfl) (fun p e R s m args below meth c hC => w_X1_init hC (fun _ h => h) (fun _ _ h => h) h)
def wp_X3_init_99 (ad : Nat → Nat) (X : Nat → gS → Prop) (K : gS → Prop) (J99 : gS → Nat → Int32 → Prop) (G : gS) (t0 : Nat) (x1 : Int32) : Prop :=
  ((6 : Int32) ≤ x1 → K G) ∧ (¬ (6 : Int32) ≤ x1 → wGetQ G t0 0 0 fun q1 => wNN q1 fun c2 => wAstI G c2 ((12 : Int32) + x1) (20 : Int32) fun G3 => J99 G3 t0 (x1 + (1 : Int32)))
theorem w_X3_init_99 {C : gCx} (hC : gOk C "GoblinHouseholdModel" cX3_init [] none "<init>" 2 1 28) {K : gS → Prop} {X : Nat → gS → Prop} (hK : ∀ G, K G → cxK C none G) (hX : ∀ q G, X q G → cxX C q G) (n : Nat) : ∀ (G : gS) (t0 : Nat) (x1 : Int32), gLoop (fun _ _ _ => False) (wp_X3_init_99 (cxA C) X K) n G t0 x1 → gGo C G 99 [(0, vQ (some t0)), (1, vI x1)] [] := by
  induction n with
  | zero => intro G t0 x1 h; exact h.elim
  | succ n ih =>
    intro G t0 x1 h
    have hJ99 := ih
    replace h : wp_X3_init_99 (cxA C) X K _ G t0 x1 := h
    unfold wp_X3_init_99 at h
    refine g_iload_n hC (pc := 99) 1 rfl rfl dX3_init_99 ?_
    refine g_bipush hC (pc := 100) (v := (6 : Int32)) (by decide) dX3_init_100 ?_
    refine g_icmp_ge hC (pc := 102) 122 h (by decide) dX3_init_102 (fun h => ?_) (fun h => ?_)
    · exact g_vret hC (pc := 122) (hK _ h) dX3_init_122
    · refine g_aload_n hC (pc := 105) 0 rfl rfl dX3_init_105 ?_
      refine g_getQ hC (pc := 106) in_X3 (ci := 0) rfl 0 (by decide) q2477 (Or.inl rfl) h dX3_init_106 (fun q1 h => ?_)
      refine g_bipush hC (pc := 109) (v := (12 : Int32)) (by decide) dX3_init_109 ?_
      refine g_iload_n hC (pc := 111) 1 rfl rfl dX3_init_111 ?_
      refine g_iadd hC (pc := 112) dX3_init_112 ?_
      refine g_bipush hC (pc := 113) (v := (20 : Int32)) (by decide) dX3_init_113 ?_
      rcases q1 with _ | c2
      · exact (gNN0 h).elim
      replace h := gNN1 h
      refine g_astI hC (pc := 115) h dX3_init_115 (fun G3 h => ?_)
      refine g_iinc hC (pc := 116) 1 (d := (1 : Int32)) (v := (x1 + (1 : Int32))) (lv' := [(1, vI (x1 + (1 : Int32))), (0, vQ (some t0))]) rfl (by decide) rfl (by decide) rfl dX3_init_116 ?_
      refine g_goto hC (pc := 119) 99 (by decide) dX3_init_119 ?_
      exact g_sub [1, 0] rfl (hJ99 _ _ _ h)
def wp_X3_init (ad : Nat → Nat) (G : gS) (t0 : Nat) (X : Nat → gS → Prop) (K : gS → Prop) : Prop :=
  wNewI G (91 : Int32) fun c2 G1 => wPut G1 t0 0 0 (va_rf (some c2)) fun G3 => wNewI G3 (91 : Int32) fun c5 G4 => wPut G4 t0 0 1 (va_rf (some c5)) fun G6 => wNewI G6 (91 : Int32) fun c8 G7 => wPut G7 t0 0 2 (va_rf (some c8)) fun G9 => wNewI G9 (91 : Int32) fun c11 G10 => wPut G10 t0 0 3 (va_rf (some c11)) fun G12 => wNewI G12 (728 : Int32) fun c14 G13 => wPut G13 t0 0 4 (va_rf (some c14)) fun G15 => wPut G15 t0 0 7 (.int (-1 : Int32)) fun G16 => wPut G16 t0 0 8 (.int (-1 : Int32)) fun G17 => wNewI G17 (60 : Int32) fun c19 G18 => wPut G18 t0 0 9 (va_rf (some c19)) fun G20 => wNewI G20 (60 : Int32) fun c22 G21 => wPut G21 t0 0 10 (va_rf (some c22)) fun G23 => wNewI G23 (240 : Int32) fun c25 G24 => wPut G24 t0 0 12 (va_rf (some c25)) fun G26 => wNewI G26 (150 : Int32) fun c28 G27 => wPut G27 t0 0 19 (va_rf (some c28)) fun G29 => wGetQ G29 t0 0 0 fun q30 => wNN q30 fun c31 => wAstI G29 c31 (1 : Int32) (100 : Int32) fun G32 => gLoop (fun _ _ _ => False) (wp_X3_init_99 ad X K) gFuel G32 t0 (0 : Int32)
theorem w_X3_init {C : gCx} (hC : gOk C "GoblinHouseholdModel" cX3_init [] none "<init>" 2 1 28) {K : gS → Prop} {X : Nat → gS → Prop} (hK : ∀ G, K G → cxK C none G) (hX : ∀ q G, X q G → cxX C q G) {G : gS} {t0 : Nat} (h : wp_X3_init (cxA C) G t0 X K) : gGo C G 0 [(0, vQ (some t0))] [] := by
  unfold wp_X3_init at h
  refine g_aload_n hC (pc := 0) 0 rfl rfl dX3_init_0 ?_
  refine g_objInit hC (pc := 1) q2476 q151 q152 (gle rfl) (gle rfl) (gle rfl) dX3_init_1 ?_
  refine g_aload_n hC (pc := 4) 0 rfl rfl dX3_init_4 ?_
  refine g_bipush hC (pc := 5) (v := (91 : Int32)) (by decide) dX3_init_5 ?_
  refine g_newI hC (pc := 7) q187 h dX3_init_7 (fun c2 G1 h => ?_)
  refine g_putF hC (pc := 9) in_X3 (ci := 0) rfl 0 (by decide) tyX3_ok nmX3 q2477 (Or.inl rfl) rfl rfl rfl (gnarA _ _) (gfitA _ _) h dX3_init_9 (fun G3 h => ?_)
  refine g_aload_n hC (pc := 12) 0 rfl rfl dX3_init_12 ?_
  refine g_bipush hC (pc := 13) (v := (91 : Int32)) (by decide) dX3_init_13 ?_
  refine g_newI hC (pc := 15) q187 h dX3_init_15 (fun c5 G4 h => ?_)
  refine g_putF hC (pc := 17) in_X3 (ci := 0) rfl 1 (by decide) tyX3_ok nmX3 q2478 (Or.inl rfl) rfl rfl rfl (gnarA _ _) (gfitA _ _) h dX3_init_17 (fun G6 h => ?_)
  refine g_aload_n hC (pc := 20) 0 rfl rfl dX3_init_20 ?_
  refine g_bipush hC (pc := 21) (v := (91 : Int32)) (by decide) dX3_init_21 ?_
  refine g_newI hC (pc := 23) q187 h dX3_init_23 (fun c8 G7 h => ?_)
  refine g_putF hC (pc := 25) in_X3 (ci := 0) rfl 2 (by decide) tyX3_ok nmX3 q2479 (Or.inl rfl) rfl rfl rfl (gnarA _ _) (gfitA _ _) h dX3_init_25 (fun G9 h => ?_)
  refine g_aload_n hC (pc := 28) 0 rfl rfl dX3_init_28 ?_
  refine g_bipush hC (pc := 29) (v := (91 : Int32)) (by decide) dX3_init_29 ?_
  refine g_newI hC (pc := 31) q187 h dX3_init_31 (fun c11 G10 h => ?_)
  refine g_putF hC (pc := 33) in_X3 (ci := 0) rfl 3 (by decide) tyX3_ok nmX3 q2480 (Or.inl rfl) rfl rfl rfl (gnarA _ _) (gfitA _ _) h dX3_init_33 (fun G12 h => ?_)
  refine g_aload_n hC (pc := 36) 0 rfl rfl dX3_init_36 ?_
  refine g_sipush hC (pc := 37) (v := (728 : Int32)) (by decide) dX3_init_37 ?_
  refine g_newI hC (pc := 40) q187 h dX3_init_40 (fun c14 G13 h => ?_)
  refine g_putF hC (pc := 42) in_X3 (ci := 0) rfl 4 (by decide) tyX3_ok nmX3 q2481 (Or.inl rfl) rfl rfl rfl (gnarA _ _) (gfitA _ _) h dX3_init_42 (fun G15 h => ?_)
  refine g_aload_n hC (pc := 45) 0 rfl rfl dX3_init_45 ?_
  refine g_iconst hC (pc := 46) (v := (-1 : Int32)) (by decide) dX3_init_46 ?_
  refine g_put hC (pc := 47) in_X3 (ci := 0) rfl 7 (by decide) tyX3_ok nmX3 q2484 (Or.inl rfl) rfl rfl rfl h dX3_init_47 (fun G16 h => ?_)
  refine g_aload_n hC (pc := 50) 0 rfl rfl dX3_init_50 ?_
  refine g_iconst hC (pc := 51) (v := (-1 : Int32)) (by decide) dX3_init_51 ?_
  refine g_put hC (pc := 52) in_X3 (ci := 0) rfl 8 (by decide) tyX3_ok nmX3 q2485 (Or.inl rfl) rfl rfl rfl h dX3_init_52 (fun G17 h => ?_)
  refine g_aload_n hC (pc := 55) 0 rfl rfl dX3_init_55 ?_
  refine g_bipush hC (pc := 56) (v := (60 : Int32)) (by decide) dX3_init_56 ?_
  refine g_newI hC (pc := 58) q187 h dX3_init_58 (fun c19 G18 h => ?_)
  refine g_putF hC (pc := 60) in_X3 (ci := 0) rfl 9 (by decide) tyX3_ok nmX3 q2486 (Or.inl rfl) rfl rfl rfl (gnarA _ _) (gfitA _ _) h dX3_init_60 (fun G20 h => ?_)
  refine g_aload_n hC (pc := 63) 0 rfl rfl dX3_init_63 ?_
  refine g_bipush hC (pc := 64) (v := (60 : Int32)) (by decide) dX3_init_64 ?_
  refine g_newI hC (pc := 66) q187 h dX3_init_66 (fun c22 G21 h => ?_)
  refine g_putF hC (pc := 68) in_X3 (ci := 0) rfl 10 (by decide) tyX3_ok nmX3 q2487 (Or.inl rfl) rfl rfl rfl (gnarA _ _) (gfitA _ _) h dX3_init_68 (fun G23 h => ?_)
  refine g_aload_n hC (pc := 71) 0 rfl rfl dX3_init_71 ?_
  refine g_sipush hC (pc := 72) (v := (240 : Int32)) (by decide) dX3_init_72 ?_
  refine g_newI hC (pc := 75) q187 h dX3_init_75 (fun c25 G24 h => ?_)
  refine g_putF hC (pc := 77) in_X3 (ci := 0) rfl 12 (by decide) tyX3_ok nmX3 q2489 (Or.inl rfl) rfl rfl rfl (gnarA _ _) (gfitA _ _) h dX3_init_77 (fun G26 h => ?_)
  refine g_aload_n hC (pc := 80) 0 rfl rfl dX3_init_80 ?_
  refine g_sipush hC (pc := 81) (v := (150 : Int32)) (by decide) dX3_init_81 ?_
  refine g_newI hC (pc := 84) q187 h dX3_init_84 (fun c28 G27 h => ?_)
  refine g_putF hC (pc := 86) in_X3 (ci := 0) rfl 19 (by decide) tyX3_ok nmX3 q2496 (Or.inl rfl) rfl rfl rfl (gnarA _ _) (gfitA _ _) h dX3_init_86 (fun G29 h => ?_)
  refine g_aload_n hC (pc := 89) 0 rfl rfl dX3_init_89 ?_
  refine g_getQ hC (pc := 90) in_X3 (ci := 0) rfl 0 (by decide) q2477 (Or.inl rfl) h dX3_init_90 (fun q30 h => ?_)
  refine g_iconst hC (pc := 93) (v := (1 : Int32)) (by decide) dX3_init_93 ?_
  refine g_bipush hC (pc := 94) (v := (100 : Int32)) (by decide) dX3_init_94 ?_
  rcases q30 with _ | c31
  · exact (gNN0 h).elim
  replace h := gNN1 h
  refine g_astI hC (pc := 96) h dX3_init_96 (fun G32 h => ?_)
  refine g_iconst hC (pc := 97) (v := (0 : Int32)) (by decide) dX3_init_97 ?_
  refine g_istore_n hC (pc := 98) (lv' := [(1, vI (0 : Int32)), (0, vQ (some t0))]) rfl (by decide) rfl dX3_init_98 ?_
  exact g_sub [1, 0] rfl (w_X3_init_99 hC hK hX gFuel _ _ _ h)
theorem gc_X3_init : gCode yX3_init cX3_init 2 none 0 := ⟨q2475, q105, ⟨by decide, by decide⟩, rfl⟩
theorem m_X3_init {l : Launch} (hfl : l.stackTraces = false) {E : gE} {G : gS} {t0 : Nat} {X : Nat → gS → Prop} {K : gS → Prop} (h : wp_X3_init (gAd E) G t0 X K) : gMet l yX3_init (ws_ yX3_init cX3_init 2 none) 1 28 [vQ (some t0)] E G (gRv K) X :=
  g_met hfl (plainFor_of_name (by decide +kernel)) rfl rfl rfl (gle rfl) (fun p e R s m args below meth c hC => w_X3_init hC (fun _ h => h) (fun _ _ h => h) h)
def wp_X1_isBetween (ad : Nat → Nat) (G : gS) (x0 : Int32) (x1 : Int32) (x2 : Int32) (X : Nat → gS → Prop) (K : Int32 → gS → Prop) : Prop :=
  (x0 < x1 → K (0 : Int32) G) ∧ (¬ x0 < x1 → (x2 < x0 → K (0 : Int32) G) ∧ (¬ x2 < x0 → K (1 : Int32) G))
theorem w_X1_isBetween {C : gCx} (hC : gOk C "GoblinHousehold" cX1_isBetween [] (some .boolean) "isBetween" 3 0 0) {K : Int32 → gS → Prop} {X : Nat → gS → Prop} (hK : ∀ r G, K r G → cxK C (some (vI r)) G) (hX : ∀ q G, X q G → cxX C q G) {G : gS} {x0 : Int32} {x1 : Int32} {x2 : Int32} (h : wp_X1_isBetween (cxA C) G x0 x1 x2 X K) : gGo C G 0 [(0, vI x0), (1, vI x1), (2, vI x2)] [] := by
  unfold wp_X1_isBetween at h
  refine g_iload_n hC (pc := 0) 0 rfl rfl dX1_isBetween_0 ?_
  refine g_iload_n hC (pc := 1) 1 rfl rfl dX1_isBetween_1 ?_
  refine g_icmp_lt hC (pc := 2) 14 h (by decide) dX1_isBetween_2 (fun h => ?_) (fun h => ?_)
  · refine g_iconst hC (pc := 14) (v := (0 : Int32)) (by decide) dX1_isBetween_14 ?_
    exact g_zret hC (pc := 15) rfl (hK _ _ h) dX1_isBetween_15
  · refine g_iload_n hC (pc := 5) 0 rfl rfl dX1_isBetween_5 ?_
    refine g_iload_n hC (pc := 6) 2 rfl rfl dX1_isBetween_6 ?_
    refine g_icmp_gt hC (pc := 7) 14 h (by decide) dX1_isBetween_7 (fun h => ?_) (fun h => ?_)
    · refine g_iconst hC (pc := 14) (v := (0 : Int32)) (by decide) dX1_isBetween_14 ?_
      exact g_zret hC (pc := 15) rfl (hK _ _ h) dX1_isBetween_15
    · refine g_iconst hC (pc := 10) (v := (1 : Int32)) (by decide) dX1_isBetween_10 ?_
      refine g_goto hC (pc := 11) 15 (by decide) dX1_isBetween_11 ?_
      exact g_zret hC (pc := 15) rfl (hK _ _ h) dX1_isBetween_15
theorem gc_X1_isBetween : gCode yX1_isBetween cX1_isBetween 3 (some .boolean) 3 := ⟨q885, q94, ⟨by decide, by decide⟩, rfl⟩
theorem m_X1_isBetween {l : Launch} (hfl : l.stackTraces = false) {E : gE} {G : gS} {x0 : Int32} {x1 : Int32} {x2 : Int32} {X : Nat → gS → Prop} {K : Int32 → gS → Prop} (h : wp_X1_isBetween (gAd E) G x0 x1 x2 X K) : gMet l yX1_isBetween (ws_ yX1_isBetween cX1_isBetween 3 (some .boolean)) 0 0 [vI x0, vI x1, vI x2] E G (gRi K) X :=
  g_met hfl (plainFor_of_name (by decide +kernel)) rfl rfl rfl (gle rfl) (fun p e R s m args below meth c hC => w_X1_isBetween hC (fun _ _ h => h) (fun _ _ h => h) h)
def wp_J9_init_3_at17 (ad : Nat → Nat) (G : gS) (t0 : Nat) (o1 : Option Nat) (o2 : Option Nat) (X : Nat → gS → Prop) (K : gS → Prop) : Prop :=
  wPut G t0 17 0 (va_rf (some t0)) fun G1 => wPut G1 t0 17 1 (va_rf (gOp (ad 5))) fun G2 => wPut G2 t0 17 2 (va_rf (gOp (ad 6))) fun G3 => wFill G3 t0 17 1 4 (gOp (ad 5)) (wPut G3 t0 17 3 (va_rf o1) fun G4 => wPut G4 t0 17 0 (va_rf o2) fun G5 => K G5)
theorem w_J9_init_3_at17 {C : gCx} (hC : gOk C "java/lang/Throwable" cJ9_init_3 [] none "<init>" 3 4 100) {K : gS → Prop} {X : Nat → gS → Prop} (hK : ∀ G, K G → cxK C none G) (hX : ∀ q G, X q G → cxX C q G) {G : gS} {t0 : Nat} {o1 : Option Nat} {o2 : Option Nat} (h : wp_J9_init_3_at17 (cxA C) G t0 o1 o2 X K) : gGo C G 0 [(0, vQ (some t0)), (1, vQ o1), (2, vQ o2)] [] := by
  unfold wp_J9_init_3_at17 at h
  refine g_aload_n hC (pc := 0) 0 rfl rfl dJ9_init_3_0 ?_
  refine g_objInit hC (pc := 1) q417 q151 q152 (gle rfl) (gle rfl) (gle rfl) dJ9_init_3_1 ?_
  refine g_aload_n hC (pc := 4) 0 rfl rfl dJ9_init_3_4 ?_
  refine g_aload_n hC (pc := 5) 0 rfl rfl dJ9_init_3_5 ?_
  refine g_put hC (pc := 6) in_X5 (ci := 17) rfl 0 (by decide) tyX5_ok nmX5 q659 (Or.inl rfl) rfl (gnarO _ _) (gfitO _ _) h dJ9_init_3_6 (fun G1 h => ?_)
  refine g_aload_n hC (pc := 9) 0 rfl rfl dJ9_init_3_9 ?_
  refine g_statQ hC (pc := 10) (List.mem_of_getElem? (i := 0) rfl) q418 (fun _ _ h => h) dJ9_init_3_10 ?_
  refine g_put hC (pc := 13) in_X5 (ci := 17) rfl 1 (by decide) tyX5_ok nmX5 q660 (Or.inl rfl) rfl (gnarA _ _) (gfitA _ _) h dJ9_init_3_13 (fun G2 h => ?_)
  refine g_aload_n hC (pc := 16) 0 rfl rfl dJ9_init_3_16 ?_
  refine g_statQ hC (pc := 17) (List.mem_of_getElem? (i := 1) rfl) q420 (fun _ _ h => h) dJ9_init_3_17 ?_
  refine g_put hC (pc := 20) in_X5 (ci := 17) rfl 2 (by decide) tyX5_ok nmX5 q661 (Or.inl rfl) rfl (gnarO _ _) (gfitO _ _) h dJ9_init_3_20 (fun G3 h => ?_)
  refine g_aload_n hC (pc := 23) 0 rfl rfl dJ9_init_3_23 ?_
  refine g_fill hC (pc := 24) (ci := 17) 1 4 rfl (by decide) (by decide) ⟨rfl, rfl, rfl⟩ ⟨rfl, rfl, rfl⟩ q895 q426 q893 (gle rfl) (gle rfl) (gle rfl) h dJ9_init_3_24 (fun h => ?_)
  refine g_pop hC (pc := 27) rfl dJ9_init_3_27 ?_
  refine g_aload_n hC (pc := 28) 0 rfl rfl dJ9_init_3_28 ?_
  refine g_aload_n hC (pc := 29) 1 rfl rfl dJ9_init_3_29 ?_
  refine g_put hC (pc := 30) in_X5 (ci := 17) rfl 3 (by decide) tyX5_ok nmX5 q658 (Or.inl rfl) rfl (gnarO _ _) (gfitO _ _) h dJ9_init_3_30 (fun G4 h => ?_)
  refine g_aload_n hC (pc := 33) 0 rfl rfl dJ9_init_3_33 ?_
  refine g_aload_n hC (pc := 34) 2 rfl rfl dJ9_init_3_34 ?_
  refine g_put hC (pc := 35) in_X5 (ci := 17) rfl 0 (by decide) tyX5_ok nmX5 q659 (Or.inl rfl) rfl (gnarO _ _) (gfitO _ _) h dJ9_init_3_35 (fun G5 h => ?_)
  exact g_vret hC (pc := 38) (hK _ h) dJ9_init_3_38
theorem gc_J9_init_3 : gCode yJ9_init_3 cJ9_init_3 3 none 2 := ⟨q910, q106, ⟨by decide, by decide⟩, rfl⟩
theorem m_J9_init_3_at17 {l : Launch} (hfl : l.stackTraces = false) {E : gE} {G : gS} {t0 : Nat} {o1 : Option Nat} {o2 : Option Nat} {X : Nat → gS → Prop} {K : gS → Prop} (h : wp_J9_init_3_at17 (gAd E) G t0 o1 o2 X K) : gMet l yJ9_init_3 (ws_ yJ9_init_3 cJ9_init_3 3 none) 4 100 [vQ (some t0), vQ o1, vQ o2] E G (gRv K) X :=
  g_met hfl (plainFor_of_name (by decide +kernel)) rfl rfl rfl (gle rfl) (fun p e R s m args below meth c hC => w_J9_init_3_at17 hC (fun _ h => h) (fun _ _ h => h) h)
def wp_J10_init_2_at17 (ad : Nat → Nat) (G : gS) (t0 : Nat) (o1 : Option Nat) (o2 : Option Nat) (X : Nat → gS → Prop) (K : gS → Prop) : Prop :=
  wp_J9_init_3_at17 ad G t0 o1 o2 X (fun G1 => K G1)
theorem w_J10_init_2_at17 {C : gCx} (hC : gOk C "java/lang/Exception" cJ10_init_2 [] none "<init>" 3 5 130) {K : gS → Prop} {X : Nat → gS → Prop} (hK : ∀ G, K G → cxK C none G) (hX : ∀ q G, X q G → cxX C q G) {G : gS} {t0 : Nat} {o1 : Option Nat} {o2 : Option Nat} (h : wp_J10_init_2_at17 (cxA C) G t0 o1 o2 X K) : gGo C G 0 [(0, vQ (some t0)), (1, vQ o1), (2, vQ o2)] [] := by
  unfold wp_J10_init_2_at17 at h
  refine g_aload_n hC (pc := 0) 0 rfl rfl dJ10_init_2_0 ?_
  refine g_aload_n hC (pc := 1) 1 rfl rfl dJ10_init_2_1 ?_
  refine g_aload_n hC (pc := 2) 2 rfl rfl dJ10_init_2_2 ?_
  refine g_callI hC (pc := 3) (As := [vQ o1, vQ o2]) gc_J9_init_3 (m_J9_init_3_at17 hC.fl h) rfl q908 q909 (gle rfl) (gle rfl) rfl (gle rfl) rfl dJ10_init_2_3 (gk_v fun G1 h => ?_) (fun _ _ h hio => g_out0 hC (hX _ _ h) hio)
  exact g_vret hC (pc := 6) (hK _ h) dJ10_init_2_6
theorem gc_J10_init_2 : gCode yJ10_init_2 cJ10_init_2 3 none 2 := ⟨q907, q107, ⟨by decide, by decide⟩, rfl⟩
theorem m_J10_init_2_at17 {l : Launch} (hfl : l.stackTraces = false) {E : gE} {G : gS} {t0 : Nat} {o1 : Option Nat} {o2 : Option Nat} {X : Nat → gS → Prop} {K : gS → Prop} (h : wp_J10_init_2_at17 (gAd E) G t0 o1 o2 X K) : gMet l yJ10_init_2 (ws_ yJ10_init_2 cJ10_init_2 3 none) 5 130 [vQ (some t0), vQ o1, vQ o2] E G (gRv K) X :=
  g_met hfl (plainFor_of_name (by decide +kernel)) rfl rfl rfl (gle rfl) (fun p e R s m args below meth c hC => w_J10_init_2_at17 hC (fun _ h => h) (fun _ _ h => h) h)
def wp_X4_init_at17 (ad : Nat → Nat) (G : gS) (t0 : Nat) (o1 : Option Nat) (X : Nat → gS → Prop) (K : gS → Prop) : Prop :=
  wp_J10_init_2_at17 ad G t0 none o1 X (fun G1 => K G1)
theorem w_X4_init_at17 {C : gCx} (hC : gOk C "GoblinHousehold$Failure" cX4_init [] none "<init>" 2 6 160) {K : gS → Prop} {X : Nat → gS → Prop} (hK : ∀ G, K G → cxK C none G) (hX : ∀ q G, X q G → cxX C q G) {G : gS} {t0 : Nat} {o1 : Option Nat} (h : wp_X4_init_at17 (cxA C) G t0 o1 X K) : gGo C G 0 [(0, vQ (some t0)), (1, vQ o1)] [] := by
  unfold wp_X4_init_at17 at h
  refine g_aload_n hC (pc := 0) 0 rfl rfl dX4_init_0 ?_
  refine g_null hC (pc := 1) dX4_init_1 ?_
  refine g_aload_n hC (pc := 2) 1 rfl rfl dX4_init_2 ?_
  refine g_callI hC (pc := 3) (As := [vQ none, vQ o1]) gc_J10_init_2 (m_J10_init_2_at17 hC.fl h) rfl q905 q906 (gle rfl) (gle rfl) rfl (gle rfl) rfl dX4_init_3 (gk_v fun G1 h => ?_) (fun _ _ h hio => g_out0 hC (hX _ _ h) hio)
  exact g_vret hC (pc := 6) (hK _ h) dX4_init_6
theorem gc_X4_init : gCode yX4_init cX4_init 2 none 1 := ⟨q904, q108, ⟨by decide, by decide⟩, rfl⟩
theorem m_X4_init_at17 {l : Launch} (hfl : l.stackTraces = false) {E : gE} {G : gS} {t0 : Nat} {o1 : Option Nat} {X : Nat → gS → Prop} {K : gS → Prop} (h : wp_X4_init_at17 (gAd E) G t0 o1 X K) : gMet l yX4_init (ws_ yX4_init cX4_init 2 none) 6 160 [vQ (some t0), vQ o1] E G (gRv K) X :=
  g_met hfl (plainFor_of_name (by decide +kernel)) rfl rfl rfl (gle rfl) (fun p e R s m args below meth c hC => w_X4_init_at17 hC (fun _ h => h) (fun _ _ h => h) h)
def wp_X5_init (ad : Nat → Nat) (G : gS) (t0 : Nat) (o1 : Option Nat) (X : Nat → gS → Prop) (K : gS → Prop) : Prop :=
  wp_X4_init_at17 ad G t0 none X (fun G1 => wPut G1 t0 17 6 (va_rf o1) fun G2 => K G2)
theorem w_X5_init {C : gCx} (hC : gOk C "GoblinHousehold$ConditionFailure" cX5_init [] none "<init>" 2 7 189) {K : gS → Prop} {X : Nat → gS → Prop} (hK : ∀ G, K G → cxK C none G) (hX : ∀ q G, X q G → cxX C q G) {G : gS} {t0 : Nat} {o1 : Option Nat} (h : wp_X5_init (cxA C) G t0 o1 X K) : gGo C G 0 [(0, vQ (some t0)), (1, vQ o1)] [] := by
  unfold wp_X5_init at h
  refine g_aload_n hC (pc := 0) 0 rfl rfl dX5_init_0 ?_
  refine g_null hC (pc := 1) dX5_init_1 ?_
  refine g_callI hC (pc := 2) (As := [vQ none]) gc_X4_init (m_X4_init_at17 hC.fl h) rfl q902 q903 (gle rfl) (gle rfl) rfl (gle rfl) rfl dX5_init_2 (gk_v fun G1 h => ?_) (fun _ _ h hio => g_out0 hC (hX _ _ h) hio)
  refine g_aload_n hC (pc := 5) 0 rfl rfl dX5_init_5 ?_
  refine g_aload_n hC (pc := 6) 1 rfl rfl dX5_init_6 ?_
  refine g_putF hC (pc := 7) in_X5 (ci := 17) rfl 6 (by decide) tyX5_ok nmX5 q911 (Or.inl rfl) rfl rfl rfl (gnarO _ _) (gfitO _ _) h dX5_init_7 (fun G2 h => ?_)
  exact g_vret hC (pc := 10) (hK _ h) dX5_init_10
theorem gc_X5_init : gCode yX5_init cX5_init 2 none 1 := ⟨q901, q109, ⟨by decide, by decide⟩, rfl⟩
theorem m_X5_init {l : Launch} (hfl : l.stackTraces = false) {E : gE} {G : gS} {t0 : Nat} {o1 : Option Nat} {X : Nat → gS → Prop} {K : gS → Prop} (h : wp_X5_init (gAd E) G t0 o1 X K) : gMet l yX5_init (ws_ yX5_init cX5_init 2 none) 7 189 [vQ (some t0), vQ o1] E G (gRv K) X :=
  g_met hfl (plainFor_of_name (by decide +kernel)) rfl rfl rfl (gle rfl) (fun p e R s m args below meth c hC => w_X5_init hC (fun _ h => h) (fun _ _ h => h) h)
def wp_X1_demand (ad : Nat → Nat) (G : gS) (x0 : Int32) (o1 : Option Nat) (X : Nat → gS → Prop) (K : gS → Prop) : Prop :=
  (¬ x0 = (0 : Int32) → K G) ∧ (x0 = (0 : Int32) → wNew G 17 7 [.null, .null, .null, .null, .null, .int 0, .null] fun c2 G1 => wp_X5_init ad G1 c2 o1 X (fun G3 => wThrow G3 c2 X))
theorem w_X1_demand {C : gCx} (hC : gOk C "GoblinHousehold" cX1_demand [] none "demand" 2 8 218) {K : gS → Prop} {X : Nat → gS → Prop} (hK : ∀ G, K G → cxK C none G) (hX : ∀ q G, X q G → cxX C q G) {G : gS} {x0 : Int32} {o1 : Option Nat} (h : wp_X1_demand (cxA C) G x0 o1 X K) : gGo C G 0 [(0, vI x0), (1, vQ o1)] [] := by
  unfold wp_X1_demand at h
  refine g_iload_n hC (pc := 0) 0 rfl rfl dX1_demand_0 ?_
  refine g_if_ne hC (pc := 1) 13 h (by decide) dX1_demand_1 (fun h => ?_) (fun h => ?_)
  · exact g_vret hC (pc := 13) (hK _ h) dX1_demand_13
  · refine g_new hC (pc := 4) in_X5 (ci := 17) rfl (by decide) tyX5_ok q890 q891 q109 gdf_X5 h dX1_demand_4 (fun c2 G1 h => ?_)
    refine g_dup hC (pc := 7) rfl dX1_demand_7 ?_
    refine g_aload_n hC (pc := 8) 1 rfl rfl dX1_demand_8 ?_
    refine g_callI hC (pc := 9) (As := [vQ o1]) gc_X5_init (m_X5_init hC.fl h) rfl q899 q900 (gle rfl) (gle rfl) rfl (gle rfl) rfl dX1_demand_9 (gk_v fun G3 h => ?_) (fun _ _ h hio => g_out0 hC (hX _ _ h) hio)
    exact g_athrow hC (pc := 12) dX1_demand_12 h.1 (g_out0 hC (hX _ _ h.2) h.1)
theorem gc_X1_demand : gCode yX1_demand cX1_demand 2 none 2 := ⟨q889, q94, ⟨by decide, by decide⟩, rfl⟩
theorem m_X1_demand {l : Launch} (hfl : l.stackTraces = false) {E : gE} {G : gS} {x0 : Int32} {o1 : Option Nat} {X : Nat → gS → Prop} {K : gS → Prop} (h : wp_X1_demand (gAd E) G x0 o1 X K) : gMet l yX1_demand (ws_ yX1_demand cX1_demand 2 none) 8 218 [vI x0, vQ o1] E G (gRv K) X :=
  g_met hfl (plainFor_of_name (by decide +kernel)) rfl rfl rfl (gle rfl) (fun p e R s m args below meth c hC => w_X1_demand hC (fun _ h => h) (fun _ _ h => h) h)
def wp_J2_size (ad : Nat → Nat) (G : gS) (t0 : Nat) (X : Nat → gS → Prop) (K : Int32 → gS → Prop) : Prop :=
  wGetI G t0 3 2 fun i1 => K i1 G
theorem w_J2_size {C : gCx} (hC : gOk C "java/util/ArrayList" cJ2_size [] (some .int) "size" 1 0 0) {K : Int32 → gS → Prop} {X : Nat → gS → Prop} (hK : ∀ r G, K r G → cxK C (some (vI r)) G) (hX : ∀ q G, X q G → cxX C q G) {G : gS} {t0 : Nat} (h : wp_J2_size (cxA C) G t0 X K) : gGo C G 0 [(0, vQ (some t0))] [] := by
  unfold wp_J2_size at h
  refine g_aload_n hC (pc := 0) 0 rfl rfl dJ2_size_0 ?_
  refine g_getI hC (pc := 1) in_J2 (ci := 3) rfl 2 (by decide) q174 (Or.inl rfl) h dJ2_size_1 (fun i1 h => ?_)
  exact g_iret hC (pc := 4) (hK _ _ h) dJ2_size_4
theorem gc_J2_size : gCode yJ2_size cJ2_size 1 (some .int) 0 := ⟨q327, q98, ⟨by decide, by decide⟩, rfl⟩
theorem m_J2_size {l : Launch} (hfl : l.stackTraces = false) {E : gE} {G : gS} {t0 : Nat} {X : Nat → gS → Prop} {K : Int32 → gS → Prop} (h : wp_J2_size (gAd E) G t0 X K) : gMet l yJ2_size (ws_ yJ2_size cJ2_size 1 (some .int)) 0 0 [vQ (some t0)] E G (gRi K) X :=
  g_met hfl (plainFor_of_name (by decide +kernel)) rfl rfl rfl (gle rfl) (fun p e R s m args below meth c hC => w_J2_size hC (fun _ _ h => h) (fun _ _ h => h) h)
def wp_X6_init (ad : Nat → Nat) (G : gS) (t0 : Nat) (x1 : Int32) (X : Nat → gS → Prop) (K : gS → Prop) : Prop :=
  wPut G t0 9 0 (.int x1) fun G1 => K G1
theorem w_X6_init {C : gCx} (hC : gOk C "GoblinHousehold$Being" cX6_init [] none "<init>" 2 1 28) {K : gS → Prop} {X : Nat → gS → Prop} (hK : ∀ G, K G → cxK C none G) (hX : ∀ q G, X q G → cxX C q G) {G : gS} {t0 : Nat} {x1 : Int32} (h : wp_X6_init (cxA C) G t0 x1 X K) : gGo C G 0 [(0, vQ (some t0)), (1, vI x1)] [] := by
  unfold wp_X6_init at h
  refine g_aload_n hC (pc := 0) 0 rfl rfl dX6_init_0 ?_
  refine g_objInit hC (pc := 1) q927 q151 q152 (gle rfl) (gle rfl) (gle rfl) dX6_init_1 ?_
  refine g_aload_n hC (pc := 4) 0 rfl rfl dX6_init_4 ?_
  refine g_iload_n hC (pc := 5) 1 rfl rfl dX6_init_5 ?_
  refine g_putF hC (pc := 6) in_X8 (ci := 9) rfl 0 (by decide) tyX8_ok nmX8 q939 (Or.inl rfl) rfl rfl rfl rfl rfl h dX6_init_6 (fun G1 h => ?_)
  exact g_vret hC (pc := 9) (hK _ h) dX6_init_9
theorem gc_X6_init : gCode yX6_init cX6_init 2 none 1 := ⟨q926, q110, ⟨by decide, by decide⟩, rfl⟩
theorem m_X6_init {l : Launch} (hfl : l.stackTraces = false) {E : gE} {G : gS} {t0 : Nat} {x1 : Int32} {X : Nat → gS → Prop} {K : gS → Prop} (h : wp_X6_init (gAd E) G t0 x1 X K) : gMet l yX6_init (ws_ yX6_init cX6_init 2 none) 1 28 [vQ (some t0), vI x1] E G (gRv K) X :=
  g_met hfl (plainFor_of_name (by decide +kernel)) rfl rfl rfl (gle rfl) (fun p e R s m args below meth c hC => w_X6_init hC (fun _ h => h) (fun _ _ h => h) h)
def wp_X7_init (ad : Nat → Nat) (G : gS) (t0 : Nat) (x1 : Int32) (X : Nat → gS → Prop) (K : gS → Prop) : Prop :=
  wp_X6_init ad G t0 x1 X (fun G1 => K G1)
theorem w_X7_init {C : gCx} (hC : gOk C "GoblinHousehold$Debtor" cX7_init [] none "<init>" 2 2 57) {K : gS → Prop} {X : Nat → gS → Prop} (hK : ∀ G, K G → cxK C none G) (hX : ∀ q G, X q G → cxX C q G) {G : gS} {t0 : Nat} {x1 : Int32} (h : wp_X7_init (cxA C) G t0 x1 X K) : gGo C G 0 [(0, vQ (some t0)), (1, vI x1)] [] := by
  unfold wp_X7_init at h
  refine g_aload_n hC (pc := 0) 0 rfl rfl dX7_init_0 ?_
  refine g_iload_n hC (pc := 1) 1 rfl rfl dX7_init_1 ?_
  refine g_callI hC (pc := 2) (As := [vI x1]) gc_X6_init (m_X6_init hC.fl h) rfl q924 q925 (gle rfl) (gle rfl) rfl (gle rfl) rfl dX7_init_2 (gk_v fun G1 h => ?_) (fun _ _ h hio => g_out0 hC (hX _ _ h) hio)
  exact g_vret hC (pc := 5) (hK _ h) dX7_init_5
theorem gc_X7_init : gCode yX7_init cX7_init 2 none 1 := ⟨q923, q111, ⟨by decide, by decide⟩, rfl⟩
theorem m_X7_init {l : Launch} (hfl : l.stackTraces = false) {E : gE} {G : gS} {t0 : Nat} {x1 : Int32} {X : Nat → gS → Prop} {K : gS → Prop} (h : wp_X7_init (gAd E) G t0 x1 X K) : gMet l yX7_init (ws_ yX7_init cX7_init 2 none) 2 57 [vQ (some t0), vI x1] E G (gRv K) X :=
  g_met hfl (plainFor_of_name (by decide +kernel)) rfl rfl rfl (gle rfl) (fun p e R s m args below meth c hC => w_X7_init hC (fun _ h => h) (fun _ _ h => h) h)
def wp_X8_init (ad : Nat → Nat) (G : gS) (t0 : Nat) (x1 : Int32) (x2 : Int32) (X : Nat → gS → Prop) (K : gS → Prop) : Prop :=
  wp_X7_init ad G t0 x1 X (fun G1 => wPut G1 t0 9 3 (.int x2) fun G2 => K G2)
theorem w_X8_init {C : gCx} (hC : gOk C "GoblinHousehold$Goblin" cX8_init [] none "<init>" 3 3 86) {K : gS → Prop} {X : Nat → gS → Prop} (hK : ∀ G, K G → cxK C none G) (hX : ∀ q G, X q G → cxX C q G) {G : gS} {t0 : Nat} {x1 : Int32} {x2 : Int32} (h : wp_X8_init (cxA C) G t0 x1 x2 X K) : gGo C G 0 [(0, vQ (some t0)), (1, vI x1), (2, vI x2)] [] := by
  unfold wp_X8_init at h
  refine g_aload_n hC (pc := 0) 0 rfl rfl dX8_init_0 ?_
  refine g_iload_n hC (pc := 1) 1 rfl rfl dX8_init_1 ?_
  refine g_callI hC (pc := 2) (As := [vI x1]) gc_X7_init (m_X7_init hC.fl h) rfl q921 q922 (gle rfl) (gle rfl) rfl (gle rfl) rfl dX8_init_2 (gk_v fun G1 h => ?_) (fun _ _ h hio => g_out0 hC (hX _ _ h) hio)
  refine g_aload_n hC (pc := 5) 0 rfl rfl dX8_init_5 ?_
  refine g_iload_n hC (pc := 6) 2 rfl rfl dX8_init_6 ?_
  refine g_putF hC (pc := 7) in_X8 (ci := 9) rfl 3 (by decide) tyX8_ok nmX8 q928 (Or.inl rfl) rfl rfl rfl rfl rfl h dX8_init_7 (fun G2 h => ?_)
  exact g_vret hC (pc := 10) (hK _ h) dX8_init_10
theorem gc_X8_init : gCode yX8_init cX8_init 3 none 2 := ⟨q920, q112, ⟨by decide, by decide⟩, rfl⟩
theorem m_X8_init {l : Launch} (hfl : l.stackTraces = false) {E : gE} {G : gS} {t0 : Nat} {x1 : Int32} {x2 : Int32} {X : Nat → gS → Prop} {K : gS → Prop} (h : wp_X8_init (gAd E) G t0 x1 x2 X K) : gMet l yX8_init (ws_ yX8_init cX8_init 3 none) 3 86 [vQ (some t0), vI x1, vI x2] E G (gRv K) X :=
  g_met hfl (plainFor_of_name (by decide +kernel)) rfl rfl rfl (gle rfl) (fun p e R s m args below meth c hC => w_X8_init hC (fun _ h => h) (fun _ _ h => h) h)
def wp_J11_hugeLength (ad : Nat → Nat) (G : gS) (x0 : Int32) (x1 : Int32) (X : Nat → gS → Prop) (K : Int32 → gS → Prop) : Prop :=
  ((0 : Int32) ≤ (x0 + x1) → ((2147483639 : Int32) < (x0 + x1) → K (x0 + x1) G) ∧ (¬ (2147483639 : Int32) < (x0 + x1) → K (2147483639 : Int32) G)) ∧ (¬ (0 : Int32) ≤ (x0 + x1) → False)
theorem w_J11_hugeLength {C : gCx} (hC : gOk C "jdk/internal/util/ArraysSupport" cJ11_hugeLength [] (some .int) "hugeLength" 3 0 0) {K : Int32 → gS → Prop} {X : Nat → gS → Prop} (hK : ∀ r G, K r G → cxK C (some (vI r)) G) (hX : ∀ q G, X q G → cxX C q G) {G : gS} {x0 : Int32} {x1 : Int32} (h : wp_J11_hugeLength (cxA C) G x0 x1 X K) : gGo C G 0 [(0, vI x0), (1, vI x1)] [] := by
  unfold wp_J11_hugeLength at h
  refine g_iload_n hC (pc := 0) 0 rfl rfl dJ11_hugeLength_0 ?_
  refine g_iload_n hC (pc := 1) 1 rfl rfl dJ11_hugeLength_1 ?_
  refine g_iadd hC (pc := 2) dJ11_hugeLength_2 ?_
  refine g_istore_n hC (pc := 3) (lv' := [(2, vI (x0 + x1)), (0, vI x0), (1, vI x1)]) rfl (by decide) rfl dJ11_hugeLength_3 ?_
  refine g_iload_n hC (pc := 4) 0 rfl rfl dJ11_hugeLength_4 ?_
  refine g_if_ge hC (pc := 5) 49 h (by decide) dJ11_hugeLength_5 (fun h => ?_) (fun h => ?_)
  · refine g_iload_n hC (pc := 49) 0 rfl rfl dJ11_hugeLength_49 ?_
    refine g_ldcI hC (pc := 50) q473 dJ11_hugeLength_50 ?_
    refine g_icmp_gt hC (pc := 52) 58 h (by decide) dJ11_hugeLength_52 (fun h => ?_) (fun h => ?_)
    · refine g_iload_n hC (pc := 58) 0 rfl rfl dJ11_hugeLength_58 ?_
      exact g_iret hC (pc := 59) (hK _ _ h) dJ11_hugeLength_59
    · refine g_ldcI hC (pc := 55) q473 dJ11_hugeLength_55 ?_
      exact g_iret hC (pc := 57) (hK _ _ h) dJ11_hugeLength_57
  · exact h.elim
theorem gc_J11_hugeLength : gCode yJ11_hugeLength cJ11_hugeLength 3 (some .int) 2 := ⟨q476, q113, ⟨by decide, by decide⟩, rfl⟩
theorem m_J11_hugeLength {l : Launch} (hfl : l.stackTraces = false) {E : gE} {G : gS} {x0 : Int32} {x1 : Int32} {X : Nat → gS → Prop} {K : Int32 → gS → Prop} (h : wp_J11_hugeLength (gAd E) G x0 x1 X K) : gMet l yJ11_hugeLength (ws_ yJ11_hugeLength cJ11_hugeLength 3 (some .int)) 0 0 [vI x0, vI x1] E G (gRi K) X :=
  g_met hfl (plainFor_of_name (by decide +kernel)) rfl rfl rfl (gle rfl) (fun p e R s m args below meth c hC => w_J11_hugeLength hC (fun _ _ h => h) (fun _ _ h => h) h)
def wp_J11_newLength_21 (ad : Nat → Nat) (X : Nat → gS → Prop) (K : Int32 → gS → Prop) (G : gS) (x0 : Int32) (x1 : Int32) : Prop :=
  wp_J11_hugeLength ad G x0 x1 X (fun r2 G1 => K r2 G1)
theorem w_J11_newLength_21 {C : gCx} (hC : gOk C "jdk/internal/util/ArraysSupport" cJ11_newLength [] (some .int) "newLength" 4 1 30) {K : Int32 → gS → Prop} {X : Nat → gS → Prop} (hK : ∀ r G, K r G → cxK C (some (vI r)) G) (hX : ∀ q G, X q G → cxX C q G) {G : gS} {x0 : Int32} {x1 : Int32} (h : wp_J11_newLength_21 (cxA C) X K G x0 x1) : gGo C G 21 [(0, vI x0), (1, vI x1)] [] := by
  unfold wp_J11_newLength_21 at h
  refine g_iload_n hC (pc := 21) 0 rfl rfl dJ11_newLength_21 ?_
  refine g_iload_n hC (pc := 22) 1 rfl rfl dJ11_newLength_22 ?_
  refine g_callS hC (pc := 23) (b := 0) (As := [vI x0, vI x1]) gc_J11_hugeLength (m_J11_hugeLength hC.fl h) q474 q475 (gle rfl) (gle rfl) rfl (gle rfl) rfl dJ11_newLength_23 (gk_i fun r2 G1 h => ?_) (fun _ _ h hio => g_out0 hC (hX _ _ h) hio)
  exact g_iret hC (pc := 26) (hK _ _ h) dJ11_newLength_26
def wp_J11_newLength (ad : Nat → Nat) (G : gS) (x0 : Int32) (x1 : Int32) (x2 : Int32) (X : Nat → gS → Prop) (K : Int32 → gS → Prop) : Prop :=
  ((x0 + (if x1 < x2 then x2 else x1)) ≤ (0 : Int32) → wp_J11_newLength_21 ad X K G x0 x1) ∧ (¬ (x0 + (if x1 < x2 then x2 else x1)) ≤ (0 : Int32) → ((2147483639 : Int32) < (x0 + (if x1 < x2 then x2 else x1)) → wp_J11_newLength_21 ad X K G x0 x1) ∧ (¬ (2147483639 : Int32) < (x0 + (if x1 < x2 then x2 else x1)) → K (x0 + (if x1 < x2 then x2 else x1)) G))
theorem w_J11_newLength {C : gCx} (hC : gOk C "jdk/internal/util/ArraysSupport" cJ11_newLength [] (some .int) "newLength" 4 1 30) {K : Int32 → gS → Prop} {X : Nat → gS → Prop} (hK : ∀ r G, K r G → cxK C (some (vI r)) G) (hX : ∀ q G, X q G → cxX C q G) {G : gS} {x0 : Int32} {x1 : Int32} {x2 : Int32} (h : wp_J11_newLength (cxA C) G x0 x1 x2 X K) : gGo C G 0 [(0, vI x0), (1, vI x1), (2, vI x2)] [] := by
  unfold wp_J11_newLength at h
  refine g_iload_n hC (pc := 0) 0 rfl rfl dJ11_newLength_0 ?_
  refine g_iload_n hC (pc := 1) 1 rfl rfl dJ11_newLength_1 ?_
  refine g_iload_n hC (pc := 2) 2 rfl rfl dJ11_newLength_2 ?_
  refine g_max hC (pc := 3) q470 q471 q114 q472 (gle rfl) (gle rfl) (gle rfl) dJ11_newLength_3 ?_
  refine g_iadd hC (pc := 6) dJ11_newLength_6 ?_
  refine g_istore_n hC (pc := 7) (lv' := [(3, vI (x0 + (if x1 < x2 then x2 else x1))), (0, vI x0), (1, vI x1), (2, vI x2)]) rfl (by decide) rfl dJ11_newLength_7 ?_
  refine g_iconst hC (pc := 8) (v := (0 : Int32)) (by decide) dJ11_newLength_8 ?_
  refine g_iload_n hC (pc := 9) 0 rfl rfl dJ11_newLength_9 ?_
  refine g_icmp_ge hC (pc := 10) 21 h (by decide) dJ11_newLength_10 (fun h => ?_) (fun h => ?_)
  · exact g_sub [1, 2] rfl (w_J11_newLength_21 hC hK hX h)
  · refine g_iload_n hC (pc := 13) 0 rfl rfl dJ11_newLength_13 ?_
    refine g_ldcI hC (pc := 14) q473 dJ11_newLength_14 ?_
    refine g_icmp_gt hC (pc := 16) 21 h (by decide) dJ11_newLength_16 (fun h => ?_) (fun h => ?_)
    · exact g_sub [1, 2] rfl (w_J11_newLength_21 hC hK hX h)
    · refine g_iload_n hC (pc := 19) 0 rfl rfl dJ11_newLength_19 ?_
      exact g_iret hC (pc := 20) (hK _ _ h) dJ11_newLength_20
theorem gc_J11_newLength : gCode yJ11_newLength cJ11_newLength 4 (some .int) 3 := ⟨q469, q113, ⟨by decide, by decide⟩, rfl⟩
theorem m_J11_newLength {l : Launch} (hfl : l.stackTraces = false) {E : gE} {G : gS} {x0 : Int32} {x1 : Int32} {x2 : Int32} {X : Nat → gS → Prop} {K : Int32 → gS → Prop} (h : wp_J11_newLength (gAd E) G x0 x1 x2 X K) : gMet l yJ11_newLength (ws_ yJ11_newLength cJ11_newLength 4 (some .int)) 1 30 [vI x0, vI x1, vI x2] E G (gRi K) X :=
  g_met hfl (plainFor_of_name (by decide +kernel)) rfl rfl rfl (gle rfl) (fun p e R s m args below meth c hC => w_J11_newLength hC (fun _ _ h => h) (fun _ _ h => h) h)
def wp_J13_copyOf_2 (ad : Nat → Nat) (G : gS) (o0 : Option Nat) (x1 : Int32) (X : Nat → gS → Prop) (K : Option Nat → gS → Prop) : Prop :=
  False
theorem w_J13_copyOf_2 {C : gCx} (hC : gOk C "java/util/Arrays" cJ13_copyOf_2 [] (some (Jvm.ClassFile.FieldType.array (Jvm.ClassFile.FieldType.object "java/lang/Object"))) "copyOf" 2 0 0) {K : Option Nat → gS → Prop} {X : Nat → gS → Prop} (hK : ∀ r G, K r G → cxK C (some (vQ r)) G) (hX : ∀ q G, X q G → cxX C q G) {G : gS} {o0 : Option Nat} {x1 : Int32} (h : wp_J13_copyOf_2 (cxA C) G o0 x1 X K) : gGo C G 0 [(0, vQ o0), (1, vI x1)] [] := by
  unfold wp_J13_copyOf_2 at h
  refine g_aload_n hC (pc := 0) 0 rfl rfl dJ13_copyOf_2_0 ?_
  refine g_iload_n hC (pc := 1) 1 rfl rfl dJ13_copyOf_2_1 ?_
  refine g_aload_n hC (pc := 2) 0 rfl rfl dJ13_copyOf_2_2 ?_
  exact h.elim
theorem gc_J13_copyOf_2 : gCode yJ13_copyOf_2 cJ13_copyOf_2 2 (some (Jvm.ClassFile.FieldType.array (Jvm.ClassFile.FieldType.object "java/lang/Object"))) 2 := ⟨q977, q115, ⟨by decide, by decide⟩, rfl⟩
theorem m_J13_copyOf_2 {l : Launch} (hfl : l.stackTraces = false) {E : gE} {G : gS} {o0 : Option Nat} {x1 : Int32} {X : Nat → gS → Prop} {K : Option Nat → gS → Prop} (h : wp_J13_copyOf_2 (gAd E) G o0 x1 X K) : gMet l yJ13_copyOf_2 (ws_ yJ13_copyOf_2 cJ13_copyOf_2 2 (some (Jvm.ClassFile.FieldType.array (Jvm.ClassFile.FieldType.object "java/lang/Object")))) 0 0 [vQ o0, vI x1] E G (gRq K) X :=
  g_met hfl (plainFor_of_name (by decide +kernel)) rfl rfl rfl (gle rfl) (fun p e R s m args below meth c hC => w_J13_copyOf_2 hC (fun _ _ h => h) (fun _ _ h => h) h)
def wp_J2_grow_2_20 (ad : Nat → Nat) (X : Nat → gS → Prop) (K : Option Nat → gS → Prop) (G : gS) (t0 : Nat) (x1 : Int32) (x2 : Int32) : Prop :=
  wp_J11_newLength ad G x2 (x1 - x2) (x2 >>> ((1 : Int32) &&& 31)) X (fun r2 G1 => wGetQ G1 t0 3 1 fun q3 => wp_J13_copyOf_2 ad G1 q3 r2 X (fun q5 G4 => wPut G4 t0 3 1 (va_rf q5) fun G6 => K q5 G6))
theorem w_J2_grow_2_20 {C : gCx} (hC : gOk C "java/util/ArrayList" cJ2_grow_2 [] (some (Jvm.ClassFile.FieldType.array (Jvm.ClassFile.FieldType.object "java/lang/Object"))) "grow" 4 2 61) {K : Option Nat → gS → Prop} {X : Nat → gS → Prop} (hK : ∀ r G, K r G → cxK C (some (vQ r)) G) (hX : ∀ q G, X q G → cxX C q G) {G : gS} {t0 : Nat} {x1 : Int32} {x2 : Int32} (h : wp_J2_grow_2_20 (cxA C) X K G t0 x1 x2) : gGo C G 20 [(0, vQ (some t0)), (1, vI x1), (2, vI x2)] [] := by
  unfold wp_J2_grow_2_20 at h
  refine g_iload_n hC (pc := 20) 2 rfl rfl dJ2_grow_2_20 ?_
  refine g_iload_n hC (pc := 21) 1 rfl rfl dJ2_grow_2_21 ?_
  refine g_iload_n hC (pc := 22) 2 rfl rfl dJ2_grow_2_22 ?_
  refine g_isub hC (pc := 23) dJ2_grow_2_23 ?_
  refine g_iload_n hC (pc := 24) 2 rfl rfl dJ2_grow_2_24 ?_
  refine g_iconst hC (pc := 25) (v := (1 : Int32)) (by decide) dJ2_grow_2_25 ?_
  refine g_ishr hC (pc := 26) dJ2_grow_2_26 ?_
  refine g_callS hC (pc := 27) (b := 0) (As := [vI x2, vI (x1 - x2), vI (x2 >>> ((1 : Int32) &&& 31))]) gc_J11_newLength (m_J11_newLength hC.fl h) q974 q468 (gle rfl) (gle rfl) rfl (gle rfl) rfl dJ2_grow_2_27 (gk_i fun r2 G1 h => ?_) (fun _ _ h hio => g_out0 hC (hX _ _ h) hio)
  refine g_istore_n hC (pc := 30) (lv' := [(3, vI r2), (0, vQ (some t0)), (1, vI x1), (2, vI x2)]) rfl (by decide) rfl dJ2_grow_2_30 ?_
  refine g_aload_n hC (pc := 31) 1 rfl rfl dJ2_grow_2_31 ?_
  refine g_aload_n hC (pc := 32) 1 rfl rfl dJ2_grow_2_32 ?_
  refine g_getQ hC (pc := 33) in_J2 (ci := 3) rfl 1 (by decide) q173 (Or.inl rfl) h dJ2_grow_2_33 (fun q3 h => ?_)
  refine g_iload_n hC (pc := 36) 0 rfl rfl dJ2_grow_2_36 ?_
  refine g_callS hC (pc := 37) (b := 0) (As := [vQ q3, vI r2]) gc_J13_copyOf_2 (m_J13_copyOf_2 hC.fl h) q975 q976 (gle rfl) (gle rfl) rfl (gle rfl) rfl dJ2_grow_2_37 (gk_q fun q5 G4 h => ?_) (fun _ _ h hio => g_out0 hC (hX _ _ h) hio)
  refine g_dup_x1 hC (pc := 40) rfl rfl dJ2_grow_2_40 ?_
  refine g_put hC (pc := 41) in_J2 (ci := 3) rfl 1 (by decide) tyJ2_ok nmJ2 q173 (Or.inl rfl) rfl (gnarA _ _) (gfitA _ _) h dJ2_grow_2_41 (fun G6 h => ?_)
  exact g_aret hC (pc := 44) (Or.inr ⟨_, rfl⟩) (hK _ _ h) dJ2_grow_2_44
def wp_J2_grow_2 (ad : Nat → Nat) (G : gS) (t0 : Nat) (x1 : Int32) (X : Nat → gS → Prop) (K : Option Nat → gS → Prop) : Prop :=
  wGetQ G t0 3 1 fun q1 => wNN q1 fun c2 => wLen G c2 fun i3 => ((0 : Int32) < i3 → wp_J2_grow_2_20 ad X K G t0 x1 i3) ∧ (¬ (0 : Int32) < i3 → wGetQ G t0 3 1 fun q4 => (q4 = (some (ad 2)) → wNewQ G (if (10 : Int32) < x1 then x1 else (10 : Int32)) fun c6 G5 => wPut G5 t0 3 1 (va_rf (some c6)) fun G7 => K (some c6) G7) ∧ (¬ q4 = (some (ad 2)) → wp_J2_grow_2_20 ad X K G t0 x1 i3))
theorem w_J2_grow_2 {C : gCx} (hC : gOk C "java/util/ArrayList" cJ2_grow_2 [] (some (Jvm.ClassFile.FieldType.array (Jvm.ClassFile.FieldType.object "java/lang/Object"))) "grow" 4 2 61) {K : Option Nat → gS → Prop} {X : Nat → gS → Prop} (hK : ∀ r G, K r G → cxK C (some (vQ r)) G) (hX : ∀ q G, X q G → cxX C q G) {G : gS} {t0 : Nat} {x1 : Int32} (h : wp_J2_grow_2 (cxA C) G t0 x1 X K) : gGo C G 0 [(0, vQ (some t0)), (1, vI x1)] [] := by
  unfold wp_J2_grow_2 at h
  refine g_aload_n hC (pc := 0) 0 rfl rfl dJ2_grow_2_0 ?_
  refine g_getQ hC (pc := 1) in_J2 (ci := 3) rfl 1 (by decide) q173 (Or.inl rfl) h dJ2_grow_2_1 (fun q1 h => ?_)
  rcases q1 with _ | c2
  · exact (gNN0 h).elim
  replace h := gNN1 h
  refine g_len hC (pc := 4) h dJ2_grow_2_4 (fun i3 h => ?_)
  refine g_istore_n hC (pc := 5) (lv' := [(2, vI i3), (0, vQ (some t0)), (1, vI x1)]) rfl (by decide) rfl dJ2_grow_2_5 ?_
  refine g_iload_n hC (pc := 6) 0 rfl rfl dJ2_grow_2_6 ?_
  refine g_if_gt hC (pc := 7) 20 h (by decide) dJ2_grow_2_7 (fun h => ?_) (fun h => ?_)
  · exact g_sub [1, 2, 0] rfl (w_J2_grow_2_20 hC hK hX h)
  · refine g_aload_n hC (pc := 10) 1 rfl rfl dJ2_grow_2_10 ?_
    refine g_getQ hC (pc := 11) in_J2 (ci := 3) rfl 1 (by decide) q173 (Or.inl rfl) h dJ2_grow_2_11 (fun q4 h => ?_)
    refine g_stat hC (pc := 14) (List.mem_of_getElem? (i := 2) rfl) q171 (fun _ _ h => h) dJ2_grow_2_14 ?_
    refine g_acmp_eq hC (pc := 17) 45 h (by decide) dJ2_grow_2_17 (fun h => ?_) (fun h => ?_)
    · refine g_aload_n hC (pc := 45) 1 rfl rfl dJ2_grow_2_45 ?_
      refine g_bipush hC (pc := 46) (v := (10 : Int32)) (by decide) dJ2_grow_2_46 ?_
      refine g_iload_n hC (pc := 48) 2 rfl rfl dJ2_grow_2_48 ?_
      refine g_max hC (pc := 49) q1019 q471 q114 q472 (gle rfl) (gle rfl) (gle rfl) dJ2_grow_2_49 ?_
      refine g_newQ hC (pc := 52) q1020 h dJ2_grow_2_52 (fun c6 G5 h => ?_)
      refine g_dup_x1 hC (pc := 55) rfl rfl dJ2_grow_2_55 ?_
      refine g_put hC (pc := 56) in_J2 (ci := 3) rfl 1 (by decide) tyJ2_ok nmJ2 q173 (Or.inl rfl) rfl (gnarA _ _) (gfitA _ _) h dJ2_grow_2_56 (fun G7 h => ?_)
      exact g_aret hC (pc := 59) (Or.inr ⟨_, rfl⟩) (hK _ _ h) dJ2_grow_2_59
    · exact g_sub [1, 2, 0] rfl (w_J2_grow_2_20 hC hK hX h)
theorem gc_J2_grow_2 : gCode yJ2_grow_2 cJ2_grow_2 4 (some (Jvm.ClassFile.FieldType.array (Jvm.ClassFile.FieldType.object "java/lang/Object"))) 1 := ⟨q973, q98, ⟨by decide, by decide⟩, rfl⟩
theorem m_J2_grow_2 {l : Launch} (hfl : l.stackTraces = false) {E : gE} {G : gS} {t0 : Nat} {x1 : Int32} {X : Nat → gS → Prop} {K : Option Nat → gS → Prop} (h : wp_J2_grow_2 (gAd E) G t0 x1 X K) : gMet l yJ2_grow_2 (ws_ yJ2_grow_2 cJ2_grow_2 4 (some (Jvm.ClassFile.FieldType.array (Jvm.ClassFile.FieldType.object "java/lang/Object")))) 2 61 [vQ (some t0), vI x1] E G (gRq K) X :=
  g_met hfl (plainFor_of_name (by decide +kernel)) rfl rfl rfl (gle rfl) (fun p e R s m args below meth c hC => w_J2_grow_2 hC (fun _ _ h => h) (fun _ _ h => h) h)
def wp_J2_grow (ad : Nat → Nat) (G : gS) (t0 : Nat) (X : Nat → gS → Prop) (K : Option Nat → gS → Prop) : Prop :=
  wGetI G t0 3 2 fun i1 => (gIs G t0 3 ∧ wp_J2_grow_2 ad G t0 (i1 + (1 : Int32)) X (fun q3 G2 => K q3 G2))
theorem w_J2_grow {C : gCx} (hC : gOk C "java/util/ArrayList" cJ2_grow [] (some (Jvm.ClassFile.FieldType.array (Jvm.ClassFile.FieldType.object "java/lang/Object"))) "grow" 1 3 92) {K : Option Nat → gS → Prop} {X : Nat → gS → Prop} (hK : ∀ r G, K r G → cxK C (some (vQ r)) G) (hX : ∀ q G, X q G → cxX C q G) {G : gS} {t0 : Nat} (h : wp_J2_grow (cxA C) G t0 X K) : gGo C G 0 [(0, vQ (some t0))] [] := by
  unfold wp_J2_grow at h
  refine g_aload_n hC (pc := 0) 0 rfl rfl dJ2_grow_0 ?_
  refine g_aload_n hC (pc := 1) 0 rfl rfl dJ2_grow_1 ?_
  refine g_getI hC (pc := 2) in_J2 (ci := 3) rfl 2 (by decide) q174 (Or.inl rfl) h dJ2_grow_2 (fun i1 h => ?_)
  refine g_iconst hC (pc := 5) (v := (1 : Int32)) (by decide) dJ2_grow_5 ?_
  refine g_iadd hC (pc := 6) dJ2_grow_6 ?_
  obtain ⟨hi, h⟩ := h
  refine g_callV hC (pc := 7) (ci := 3) (As := [vI (i1 + (1 : Int32))]) gc_J2_grow_2 (m_J2_grow_2 hC.fl h) rfl hi q970 q972 qs11 (gle rfl) (gle rfl) rfl (gle rfl) rfl dJ2_grow_7 (gk_q fun q3 G2 h => ?_) (fun _ _ h hio => g_out0 hC (hX _ _ h) hio)
  exact g_aret hC (pc := 10) (Or.inr ⟨_, rfl⟩) (hK _ _ h) dJ2_grow_10
theorem gc_J2_grow : gCode yJ2_grow cJ2_grow 1 (some (Jvm.ClassFile.FieldType.array (Jvm.ClassFile.FieldType.object "java/lang/Object"))) 0 := ⟨q969, q98, ⟨by decide, by decide⟩, rfl⟩
theorem m_J2_grow {l : Launch} (hfl : l.stackTraces = false) {E : gE} {G : gS} {t0 : Nat} {X : Nat → gS → Prop} {K : Option Nat → gS → Prop} (h : wp_J2_grow (gAd E) G t0 X K) : gMet l yJ2_grow (ws_ yJ2_grow cJ2_grow 1 (some (Jvm.ClassFile.FieldType.array (Jvm.ClassFile.FieldType.object "java/lang/Object")))) 3 92 [vQ (some t0)] E G (gRq K) X :=
  g_met hfl (plainFor_of_name (by decide +kernel)) rfl rfl rfl (gle rfl) (fun p e R s m args below meth c hC => w_J2_grow hC (fun _ _ h => h) (fun _ _ h => h) h)
def wp_J2_add_2_11 (ad : Nat → Nat) (X : Nat → gS → Prop) (K : gS → Prop) (G : gS) (t0 : Nat) (o1 : Option Nat) (o2 : Option Nat) (x3 : Int32) : Prop :=
  wNN o2 fun c1 => wAstQ G c1 x3 o1 fun G2 => wPut G2 t0 3 2 (.int (x3 + (1 : Int32))) fun G3 => K G3
theorem w_J2_add_2_11 {C : gCx} (hC : gOk C "java/util/ArrayList" cJ2_add_2 [] none "add" 4 4 120) {K : gS → Prop} {X : Nat → gS → Prop} (hK : ∀ G, K G → cxK C none G) (hX : ∀ q G, X q G → cxX C q G) {G : gS} {t0 : Nat} {o1 : Option Nat} {o2 : Option Nat} {x3 : Int32} (h : wp_J2_add_2_11 (cxA C) X K G t0 o1 o2 x3) : gGo C G 11 [(0, vQ (some t0)), (1, vQ o1), (2, vQ o2), (3, vI x3)] [] := by
  unfold wp_J2_add_2_11 at h
  refine g_aload_n hC (pc := 11) 2 rfl rfl dJ2_add_2_11 ?_
  refine g_iload_n hC (pc := 12) 3 rfl rfl dJ2_add_2_12 ?_
  refine g_aload_n hC (pc := 13) 1 rfl rfl dJ2_add_2_13 ?_
  rcases o2 with _ | c1
  · exact (gNN0 h).elim
  replace h := gNN1 h
  refine g_astQ hC (pc := 14) h dJ2_add_2_14 (fun G2 h => ?_)
  refine g_aload_n hC (pc := 15) 0 rfl rfl dJ2_add_2_15 ?_
  refine g_iload_n hC (pc := 16) 3 rfl rfl dJ2_add_2_16 ?_
  refine g_iconst hC (pc := 17) (v := (1 : Int32)) (by decide) dJ2_add_2_17 ?_
  refine g_iadd hC (pc := 18) dJ2_add_2_18 ?_
  refine g_put hC (pc := 19) in_J2 (ci := 3) rfl 2 (by decide) tyJ2_ok nmJ2 q174 (Or.inl rfl) rfl rfl rfl h dJ2_add_2_19 (fun G3 h => ?_)
  exact g_vret hC (pc := 22) (hK _ h) dJ2_add_2_22
def wp_J2_add_2 (ad : Nat → Nat) (G : gS) (t0 : Nat) (o1 : Option Nat) (o2 : Option Nat) (x3 : Int32) (X : Nat → gS → Prop) (K : gS → Prop) : Prop :=
  wNN o2 fun c1 => wLen G c1 fun i2 => (¬ x3 = i2 → wp_J2_add_2_11 ad X K G t0 o1 (some c1) x3) ∧ (x3 = i2 → (gIs G t0 3 ∧ wp_J2_grow ad G t0  X (fun q4 G3 => wp_J2_add_2_11 ad X K G3 t0 o1 q4 x3)))
theorem w_J2_add_2 {C : gCx} (hC : gOk C "java/util/ArrayList" cJ2_add_2 [] none "add" 4 4 120) {K : gS → Prop} {X : Nat → gS → Prop} (hK : ∀ G, K G → cxK C none G) (hX : ∀ q G, X q G → cxX C q G) {G : gS} {t0 : Nat} {o1 : Option Nat} {o2 : Option Nat} {x3 : Int32} (h : wp_J2_add_2 (cxA C) G t0 o1 o2 x3 X K) : gGo C G 0 [(0, vQ (some t0)), (1, vQ o1), (2, vQ o2), (3, vI x3)] [] := by
  unfold wp_J2_add_2 at h
  refine g_iload_n hC (pc := 0) 3 rfl rfl dJ2_add_2_0 ?_
  refine g_aload_n hC (pc := 1) 2 rfl rfl dJ2_add_2_1 ?_
  rcases o2 with _ | c1
  · exact (gNN0 h).elim
  replace h := gNN1 h
  refine g_len hC (pc := 2) h dJ2_add_2_2 (fun i2 h => ?_)
  refine g_icmp_ne hC (pc := 3) 11 h (by decide) dJ2_add_2_3 (fun h => ?_) (fun h => ?_)
  · exact g_sub [0, 1, 2, 3] rfl (w_J2_add_2_11 hC hK hX h)
  · refine g_aload_n hC (pc := 6) 0 rfl rfl dJ2_add_2_6 ?_
    obtain ⟨hi, h⟩ := h
    refine g_callV hC (pc := 7) (ci := 3) (As := []) gc_J2_grow (m_J2_grow hC.fl h) rfl hi q966 q968 qs10 (gle rfl) (gle rfl) rfl (gle rfl) rfl dJ2_add_2_7 (gk_q fun q4 G3 h => ?_) (fun _ _ h hio => g_out0 hC (hX _ _ h) hio)
    refine g_astore_n hC (pc := 10) (lv' := [(2, vQ q4), (0, vQ (some t0)), (1, vQ o1), (3, vI x3)]) rfl (by decide) rfl dJ2_add_2_10 ?_
    exact g_sub [1, 2, 0, 3] rfl (w_J2_add_2_11 hC hK hX h)
theorem gc_J2_add_2 : gCode yJ2_add_2 cJ2_add_2 4 none 3 := ⟨q965, q98, ⟨by decide, by decide⟩, rfl⟩
theorem m_J2_add_2 {l : Launch} (hfl : l.stackTraces = false) {E : gE} {G : gS} {t0 : Nat} {o1 : Option Nat} {o2 : Option Nat} {x3 : Int32} {X : Nat → gS → Prop} {K : gS → Prop} (h : wp_J2_add_2 (gAd E) G t0 o1 o2 x3 X K) : gMet l yJ2_add_2 (ws_ yJ2_add_2 cJ2_add_2 4 none) 4 120 [vQ (some t0), vQ o1, vQ o2, vI x3] E G (gRv K) X :=
  g_met hfl (plainFor_of_name (by decide +kernel)) rfl rfl rfl (gle rfl) (fun p e R s m args below meth c hC => w_J2_add_2 hC (fun _ h => h) (fun _ _ h => h) h)
def wp_J2_add (ad : Nat → Nat) (G : gS) (t0 : Nat) (o1 : Option Nat) (X : Nat → gS → Prop) (K : Int32 → gS → Prop) : Prop :=
  wGetI G t0 3 0 fun i1 => wPut G t0 3 0 (.int (i1 + (1 : Int32))) fun G2 => wGetQ G2 t0 3 1 fun q3 => wGetI G2 t0 3 2 fun i4 => (gIs G2 t0 3 ∧ wp_J2_add_2 ad G2 t0 o1 q3 i4 X (fun G5 => K (1 : Int32) G5))
theorem w_J2_add {C : gCx} (hC : gOk C "java/util/ArrayList" cJ2_add [] (some .boolean) "add" 2 5 151) {K : Int32 → gS → Prop} {X : Nat → gS → Prop} (hK : ∀ r G, K r G → cxK C (some (vI r)) G) (hX : ∀ q G, X q G → cxX C q G) {G : gS} {t0 : Nat} {o1 : Option Nat} (h : wp_J2_add (cxA C) G t0 o1 X K) : gGo C G 0 [(0, vQ (some t0)), (1, vQ o1)] [] := by
  unfold wp_J2_add at h
  refine g_aload_n hC (pc := 0) 0 rfl rfl dJ2_add_0 ?_
  refine g_dup hC (pc := 1) rfl dJ2_add_1 ?_
  refine g_getI hC (pc := 2) in_J2 (ci := 3) rfl 0 (by decide) q178 (Or.inr q179) h dJ2_add_2 (fun i1 h => ?_)
  refine g_iconst hC (pc := 5) (v := (1 : Int32)) (by decide) dJ2_add_5 ?_
  refine g_iadd hC (pc := 6) dJ2_add_6 ?_
  refine g_put hC (pc := 7) in_J2 (ci := 3) rfl 0 (by decide) tyJ2_ok nmJ2 q178 (Or.inr q179) rfl rfl rfl h dJ2_add_7 (fun G2 h => ?_)
  refine g_aload_n hC (pc := 10) 0 rfl rfl dJ2_add_10 ?_
  refine g_aload_n hC (pc := 11) 1 rfl rfl dJ2_add_11 ?_
  refine g_aload_n hC (pc := 12) 0 rfl rfl dJ2_add_12 ?_
  refine g_getQ hC (pc := 13) in_J2 (ci := 3) rfl 1 (by decide) q173 (Or.inl rfl) h dJ2_add_13 (fun q3 h => ?_)
  refine g_aload_n hC (pc := 16) 0 rfl rfl dJ2_add_16 ?_
  refine g_getI hC (pc := 17) in_J2 (ci := 3) rfl 2 (by decide) q174 (Or.inl rfl) h dJ2_add_17 (fun i4 h => ?_)
  obtain ⟨hi, h⟩ := h
  refine g_callV hC (pc := 20) (ci := 3) (As := [vQ o1, vQ q3, vI i4]) gc_J2_add_2 (m_J2_add_2 hC.fl h) rfl hi q962 q964 qs9 (gle rfl) (gle rfl) rfl (gle rfl) rfl dJ2_add_20 (gk_v fun G5 h => ?_) (fun _ _ h hio => g_out0 hC (hX _ _ h) hio)
  refine g_iconst hC (pc := 23) (v := (1 : Int32)) (by decide) dJ2_add_23 ?_
  exact g_zret hC (pc := 24) rfl (hK _ _ h) dJ2_add_24
theorem gc_J2_add : gCode yJ2_add cJ2_add 2 (some .boolean) 1 := ⟨q961, q98, ⟨by decide, by decide⟩, rfl⟩
theorem m_J2_add {l : Launch} (hfl : l.stackTraces = false) {E : gE} {G : gS} {t0 : Nat} {o1 : Option Nat} {X : Nat → gS → Prop} {K : Int32 → gS → Prop} (h : wp_J2_add (gAd E) G t0 o1 X K) : gMet l yJ2_add (ws_ yJ2_add cJ2_add 2 (some .boolean)) 5 151 [vQ (some t0), vQ o1] E G (gRi K) X :=
  g_met hfl (plainFor_of_name (by decide +kernel)) rfl rfl rfl (gle rfl) (fun p e R s m args below meth c hC => w_J2_add hC (fun _ _ h => h) (fun _ _ h => h) h)
def wp_X2_addGoblin_30 (ad : Nat → Nat) (X : Nat → gS → Prop) (K : Int32 → gS → Prop) (G : gS) (t0 : Nat) (x1 : Int32) (xs0 : Int32) : Prop :=
  wp_X1_demand ad G xs0 (some (ad 111)) X (fun G1 => wGetQ G1 t0 2 2 fun q2 => wNew G1 9 6 [.int 0, .int 0, .int 0, .int 0, .int 0, .int 0] fun c4 G3 => wGetQ G3 t0 2 2 fun q5 => wNN q5 fun c6 => (gIs G3 c6 3 ∧ wp_J2_size ad G3 c6  X (fun r8 G7 => wp_X8_init ad G7 c4 r8 x1 X (fun G9 => wNN q2 fun c10 => (gIs G9 c10 3 ∧ wp_J2_add ad G9 c10 (some c4) X (fun r12 G11 => wGetQ G11 t0 2 2 fun q13 => wNN q13 fun c14 => (gIs G11 c14 3 ∧ wp_J2_size ad G11 c14  X (fun r16 G15 => K (r16 - (1 : Int32)) G15))))))))
theorem w_X2_addGoblin_30 {C : gCx} (hC : gOk C "GoblinHousehold$Household" cX2_addGoblin [] (some .int) "addGoblin" 2 9 247) {K : Int32 → gS → Prop} {X : Nat → gS → Prop} (hK : ∀ r G, K r G → cxK C (some (vI r)) G) (hX : ∀ q G, X q G → cxX C q G) {G : gS} {t0 : Nat} {x1 : Int32} {xs0 : Int32} (h : wp_X2_addGoblin_30 (cxA C) X K G t0 x1 xs0) : gGo C G 30 [(0, vQ (some t0)), (1, vI x1)] [vI xs0] := by
  unfold wp_X2_addGoblin_30 at h
  refine g_ldcS hC (pc := 30) (List.mem_of_getElem? (i := 11) rfl) dX2_addGoblin_30 ?_
  refine g_callSN hC (pc := 32) (b := 0) (As := [vI xs0, vQ (some (cxA C 111))]) gc_X1_demand (m_X1_demand hC.fl h) (List.mem_of_getElem? (i := 3) rfl) q888 (gle rfl) (gle rfl) rfl (gle rfl) rfl dX2_addGoblin_32 (gk_v fun G1 h => ?_) (fun _ _ h hio => g_out0 hC (hX _ _ h) hio)
  refine g_aload_n hC (pc := 35) 0 rfl rfl dX2_addGoblin_35 ?_
  refine g_getQ hC (pc := 36) in_X2 (ci := 2) rfl 2 (by decide) q192 (Or.inl rfl) h dX2_addGoblin_36 (fun q2 h => ?_)
  refine g_new hC (pc := 39) in_X8 (ci := 9) rfl (by decide) tyX8_ok q706 q917 q112 gdf_X8 h dX2_addGoblin_39 (fun c4 G3 h => ?_)
  refine g_dup hC (pc := 42) rfl dX2_addGoblin_42 ?_
  refine g_aload_n hC (pc := 43) 0 rfl rfl dX2_addGoblin_43 ?_
  refine g_getQ hC (pc := 44) in_X2 (ci := 2) rfl 2 (by decide) q192 (Or.inl rfl) h dX2_addGoblin_44 (fun q5 h => ?_)
  rcases q5 with _ | c6
  · exact (gNN0 h).elim
  replace h := gNN1 h
  obtain ⟨hi, h⟩ := h
  refine g_callF hC (pc := 47) (ci := 3) (As := []) gc_J2_size (m_J2_size hC.fl h) rfl hi q359 (List.mem_of_getElem? (i := 0) rfl) rfl q323 q325 (gle rfl) (gle rfl) rfl (gle rfl) rfl dX2_addGoblin_47 (gk_i fun r8 G7 h => ?_) (fun _ _ h hio => g_out0 hC (hX _ _ h) hio)
  refine g_iload_n hC (pc := 52) 1 rfl rfl dX2_addGoblin_52 ?_
  refine g_callI hC (pc := 53) (As := [vI r8, vI x1]) gc_X8_init (m_X8_init hC.fl h) rfl q918 q919 (gle rfl) (gle rfl) rfl (gle rfl) rfl dX2_addGoblin_53 (gk_v fun G9 h => ?_) (fun _ _ h hio => g_out0 hC (hX _ _ h) hio)
  rcases q2 with _ | c10
  · exact (gNN0 h).elim
  replace h := gNN1 h
  obtain ⟨hi, h⟩ := h
  refine g_callF hC (pc := 56) (ci := 3) (As := [vQ (some c4)]) gc_J2_add (m_J2_add hC.fl h) rfl hi q954 (List.mem_of_getElem? (i := 4) rfl) rfl q957 q959 (gle rfl) (gle rfl) rfl (gle rfl) rfl dX2_addGoblin_56 (gk_i fun r12 G11 h => ?_) (fun _ _ h hio => g_out0 hC (hX _ _ h) hio)
  refine g_pop hC (pc := 61) rfl dX2_addGoblin_61 ?_
  refine g_aload_n hC (pc := 62) 0 rfl rfl dX2_addGoblin_62 ?_
  refine g_getQ hC (pc := 63) in_X2 (ci := 2) rfl 2 (by decide) q192 (Or.inl rfl) h dX2_addGoblin_63 (fun q13 h => ?_)
  rcases q13 with _ | c14
  · exact (gNN0 h).elim
  replace h := gNN1 h
  obtain ⟨hi, h⟩ := h
  refine g_callF hC (pc := 66) (ci := 3) (As := []) gc_J2_size (m_J2_size hC.fl h) rfl hi q359 (List.mem_of_getElem? (i := 0) rfl) rfl q323 q325 (gle rfl) (gle rfl) rfl (gle rfl) rfl dX2_addGoblin_66 (gk_i fun r16 G15 h => ?_) (fun _ _ h hio => g_out0 hC (hX _ _ h) hio)
  refine g_iconst hC (pc := 71) (v := (1 : Int32)) (by decide) dX2_addGoblin_71 ?_
  refine g_isub hC (pc := 72) dX2_addGoblin_72 ?_
  exact g_iret hC (pc := 73) (hK _ _ h) dX2_addGoblin_73
def wp_X2_addGoblin (ad : Nat → Nat) (G : gS) (t0 : Nat) (x1 : Int32) (X : Nat → gS → Prop) (K : Int32 → gS → Prop) : Prop :=
  wp_X1_isBetween ad G x1 (1 : Int32) (9 : Int32) X (fun r2 G1 => wp_X1_demand ad G1 r2 (some (ad 110)) X (fun G3 => wGetQ G3 t0 2 2 fun q4 => wNN q4 fun c5 => (gIs G3 c5 3 ∧ wp_J2_size ad G3 c5  X (fun r7 G6 => ((5 : Int32) ≤ r7 → wp_X2_addGoblin_30 ad X K G6 t0 x1 (0 : Int32)) ∧ (¬ (5 : Int32) ≤ r7 → wp_X2_addGoblin_30 ad X K G6 t0 x1 (1 : Int32))))))
theorem w_X2_addGoblin {C : gCx} (hC : gOk C "GoblinHousehold$Household" cX2_addGoblin [] (some .int) "addGoblin" 2 9 247) {K : Int32 → gS → Prop} {X : Nat → gS → Prop} (hK : ∀ r G, K r G → cxK C (some (vI r)) G) (hX : ∀ q G, X q G → cxX C q G) {G : gS} {t0 : Nat} {x1 : Int32} (h : wp_X2_addGoblin (cxA C) G t0 x1 X K) : gGo C G 0 [(0, vQ (some t0)), (1, vI x1)] [] := by
  unfold wp_X2_addGoblin at h
  refine g_iload_n hC (pc := 0) 1 rfl rfl dX2_addGoblin_0 ?_
  refine g_iconst hC (pc := 1) (v := (1 : Int32)) (by decide) dX2_addGoblin_1 ?_
  refine g_bipush hC (pc := 2) (v := (9 : Int32)) (by decide) dX2_addGoblin_2 ?_
  refine g_callSN hC (pc := 4) (b := 0) (As := [vI x1, vI (1 : Int32), vI (9 : Int32)]) gc_X1_isBetween (m_X1_isBetween hC.fl h) (List.mem_of_getElem? (i := 2) rfl) q884 (gle rfl) (gle rfl) rfl (gle rfl) rfl dX2_addGoblin_4 (gk_i fun r2 G1 h => ?_) (fun _ _ h hio => g_out0 hC (hX _ _ h) hio)
  refine g_ldcS hC (pc := 7) (List.mem_of_getElem? (i := 10) rfl) dX2_addGoblin_7 ?_
  refine g_callSN hC (pc := 9) (b := 0) (As := [vI r2, vQ (some (cxA C 110))]) gc_X1_demand (m_X1_demand hC.fl h) (List.mem_of_getElem? (i := 3) rfl) q888 (gle rfl) (gle rfl) rfl (gle rfl) rfl dX2_addGoblin_9 (gk_v fun G3 h => ?_) (fun _ _ h hio => g_out0 hC (hX _ _ h) hio)
  refine g_aload_n hC (pc := 12) 0 rfl rfl dX2_addGoblin_12 ?_
  refine g_getQ hC (pc := 13) in_X2 (ci := 2) rfl 2 (by decide) q192 (Or.inl rfl) h dX2_addGoblin_13 (fun q4 h => ?_)
  rcases q4 with _ | c5
  · exact (gNN0 h).elim
  replace h := gNN1 h
  obtain ⟨hi, h⟩ := h
  refine g_callF hC (pc := 16) (ci := 3) (As := []) gc_J2_size (m_J2_size hC.fl h) rfl hi q359 (List.mem_of_getElem? (i := 0) rfl) rfl q323 q325 (gle rfl) (gle rfl) rfl (gle rfl) rfl dX2_addGoblin_16 (gk_i fun r7 G6 h => ?_) (fun _ _ h hio => g_out0 hC (hX _ _ h) hio)
  refine g_iconst hC (pc := 21) (v := (5 : Int32)) (by decide) dX2_addGoblin_21 ?_
  refine g_icmp_ge hC (pc := 22) 29 h (by decide) dX2_addGoblin_22 (fun h => ?_) (fun h => ?_)
  · refine g_iconst hC (pc := 29) (v := (0 : Int32)) (by decide) dX2_addGoblin_29 ?_
    exact g_sub [0, 1] rfl (w_X2_addGoblin_30 hC hK hX h)
  · refine g_iconst hC (pc := 25) (v := (1 : Int32)) (by decide) dX2_addGoblin_25 ?_
    refine g_goto hC (pc := 26) 30 (by decide) dX2_addGoblin_26 ?_
    exact g_sub [0, 1] rfl (w_X2_addGoblin_30 hC hK hX h)
theorem gc_X2_addGoblin : gCode yX2_addGoblin cX2_addGoblin 2 (some .int) 1 := ⟨q882, q95, ⟨by decide, by decide⟩, rfl⟩
theorem m_X2_addGoblin {l : Launch} (hfl : l.stackTraces = false) {E : gE} {G : gS} {t0 : Nat} {x1 : Int32} {X : Nat → gS → Prop} {K : Int32 → gS → Prop} (h : wp_X2_addGoblin (gAd E) G t0 x1 X K) : gMet l yX2_addGoblin (ws_ yX2_addGoblin cX2_addGoblin 2 (some .int)) 9 247 [vQ (some t0), vI x1] E G (gRi K) X :=
  g_met hfl (plainFor_of_name (by decide +kernel)) rfl rfl rfl (gle rfl) (fun p e R s m args below meth c hC => w_X2_addGoblin hC (fun _ _ h => h) (fun _ _ h => h) h)
def wp_X1_lambda_addGoblin_0 (ad : Nat → Nat) (G : gS) (x0 : Int32) (o1 : Option Nat) (X : Nat → gS → Prop) (K : Int32 → gS → Prop) : Prop :=
  wNN o1 fun c1 => (gIs G c1 2 ∧ wp_X2_addGoblin ad G c1 x0 X (fun r3 G2 => K r3 G2))
theorem w_X1_lambda_addGoblin_0 {C : gCx} (hC : gOk C "GoblinHousehold" cX1_lambda_addGoblin_0 [] (some .int) "lambda$addGoblin$0" 2 10 276) {K : Int32 → gS → Prop} {X : Nat → gS → Prop} (hK : ∀ r G, K r G → cxK C (some (vI r)) G) (hX : ∀ q G, X q G → cxX C q G) {G : gS} {x0 : Int32} {o1 : Option Nat} (h : wp_X1_lambda_addGoblin_0 (cxA C) G x0 o1 X K) : gGo C G 0 [(0, vI x0), (1, vQ o1)] [] := by
  unfold wp_X1_lambda_addGoblin_0 at h
  refine g_aload_n hC (pc := 0) 1 rfl rfl dX1_lambda_addGoblin_0_0 ?_
  refine g_iload_n hC (pc := 1) 0 rfl rfl dX1_lambda_addGoblin_0_1 ?_
  rcases o1 with _ | c1
  · exact (gNN0 h).elim
  replace h := gNN1 h
  obtain ⟨hi, h⟩ := h
  refine g_callV hC (pc := 2) (ci := 2) (As := [vI x0]) gc_X2_addGoblin (m_X2_addGoblin hC.fl h) rfl hi q879 q880 q881 (gle rfl) (gle rfl) rfl (gle rfl) rfl dX1_lambda_addGoblin_0_2 (gk_i fun r3 G2 h => ?_) (fun _ _ h hio => g_out0 hC (hX _ _ h) hio)
  exact g_iret hC (pc := 5) (hK _ _ h) dX1_lambda_addGoblin_0_5
theorem gc_X1_lambda_addGoblin_0 : gCode yX1_lambda_addGoblin_0 cX1_lambda_addGoblin_0 2 (some .int) 2 := ⟨q878, q94, ⟨by decide, by decide⟩, rfl⟩
theorem m_X1_lambda_addGoblin_0 {l : Launch} (hfl : l.stackTraces = false) {E : gE} {G : gS} {x0 : Int32} {o1 : Option Nat} {X : Nat → gS → Prop} {K : Int32 → gS → Prop} (h : wp_X1_lambda_addGoblin_0 (gAd E) G x0 o1 X K) : gMet l yX1_lambda_addGoblin_0 (ws_ yX1_lambda_addGoblin_0 cX1_lambda_addGoblin_0 2 (some .int)) 10 276 [vI x0, vQ o1] E G (gRi K) X :=
  g_met hfl (plainFor_of_name (by decide +kernel)) rfl rfl rfl (gle rfl) (fun p e R s m args below meth c hC => w_X1_lambda_addGoblin_0 hC (fun _ _ h => h) (fun _ _ h => h) h)
def wp_J16_checkIndex_9 (ad : Nat → Nat) (X : Nat → gS → Prop) (K : Int32 → gS → Prop) (G : gS) (x0 : Int32) (x1 : Int32) (o2 : Option Nat) : Prop :=
  False
theorem w_J16_checkIndex_9 {C : gCx} (hC : gOk C "jdk/internal/util/Preconditions" cJ16_checkIndex [] (some .int) "checkIndex" 3 0 0) {K : Int32 → gS → Prop} {X : Nat → gS → Prop} (hK : ∀ r G, K r G → cxK C (some (vI r)) G) (hX : ∀ q G, X q G → cxX C q G) {G : gS} {x0 : Int32} {x1 : Int32} {o2 : Option Nat} (h : wp_J16_checkIndex_9 (cxA C) X K G x0 x1 o2) : gGo C G 9 [(0, vI x0), (1, vI x1), (2, vQ o2)] [] := by
  unfold wp_J16_checkIndex_9 at h
  refine g_aload_n hC (pc := 9) 2 rfl rfl dJ16_checkIndex_9 ?_
  refine g_iload_n hC (pc := 10) 0 rfl rfl dJ16_checkIndex_10 ?_
  refine g_iload_n hC (pc := 11) 1 rfl rfl dJ16_checkIndex_11 ?_
  exact h.elim
def wp_J16_checkIndex (ad : Nat → Nat) (G : gS) (x0 : Int32) (x1 : Int32) (o2 : Option Nat) (X : Nat → gS → Prop) (K : Int32 → gS → Prop) : Prop :=
  (x0 < (0 : Int32) → wp_J16_checkIndex_9 ad X K G x0 x1 o2) ∧ (¬ x0 < (0 : Int32) → (x0 < x1 → K x0 G) ∧ (¬ x0 < x1 → wp_J16_checkIndex_9 ad X K G x0 x1 o2))
theorem w_J16_checkIndex {C : gCx} (hC : gOk C "jdk/internal/util/Preconditions" cJ16_checkIndex [] (some .int) "checkIndex" 3 0 0) {K : Int32 → gS → Prop} {X : Nat → gS → Prop} (hK : ∀ r G, K r G → cxK C (some (vI r)) G) (hX : ∀ q G, X q G → cxX C q G) {G : gS} {x0 : Int32} {x1 : Int32} {o2 : Option Nat} (h : wp_J16_checkIndex (cxA C) G x0 x1 o2 X K) : gGo C G 0 [(0, vI x0), (1, vI x1), (2, vQ o2)] [] := by
  unfold wp_J16_checkIndex at h
  refine g_iload_n hC (pc := 0) 0 rfl rfl dJ16_checkIndex_0 ?_
  refine g_if_lt hC (pc := 1) 9 h (by decide) dJ16_checkIndex_1 (fun h => ?_) (fun h => ?_)
  · exact g_sub [0, 1, 2] rfl (w_J16_checkIndex_9 hC hK hX h)
  · refine g_iload_n hC (pc := 4) 0 rfl rfl dJ16_checkIndex_4 ?_
    refine g_iload_n hC (pc := 5) 1 rfl rfl dJ16_checkIndex_5 ?_
    refine g_icmp_lt hC (pc := 6) 16 h (by decide) dJ16_checkIndex_6 (fun h => ?_) (fun h => ?_)
    · refine g_iload_n hC (pc := 16) 0 rfl rfl dJ16_checkIndex_16 ?_
      exact g_iret hC (pc := 17) (hK _ _ h) dJ16_checkIndex_17
    · exact g_sub [0, 1, 2] rfl (w_J16_checkIndex_9 hC hK hX h)
theorem gc_J16_checkIndex : gCode yJ16_checkIndex cJ16_checkIndex 3 (some .int) 3 := ⟨q374, q119, ⟨by decide, by decide⟩, rfl⟩
theorem m_J16_checkIndex {l : Launch} (hfl : l.stackTraces = false) {E : gE} {G : gS} {x0 : Int32} {x1 : Int32} {o2 : Option Nat} {X : Nat → gS → Prop} {K : Int32 → gS → Prop} (h : wp_J16_checkIndex (gAd E) G x0 x1 o2 X K) : gMet l yJ16_checkIndex (ws_ yJ16_checkIndex cJ16_checkIndex 3 (some .int)) 0 0 [vI x0, vI x1, vQ o2] E G (gRi K) X :=
  g_met hfl (plainFor_of_name (by decide +kernel)) rfl rfl rfl (gle rfl) (fun p e R s m args below meth c hC => w_J16_checkIndex hC (fun _ _ h => h) (fun _ _ h => h) h)
def wp_J15_checkIndex (ad : Nat → Nat) (G : gS) (x0 : Int32) (x1 : Int32) (X : Nat → gS → Prop) (K : Int32 → gS → Prop) : Prop :=
  wp_J16_checkIndex ad G x0 x1 none X (fun r2 G1 => K r2 G1)
theorem w_J15_checkIndex {C : gCx} (hC : gOk C "java/util/Objects" cJ15_checkIndex [] (some .int) "checkIndex" 2 1 30) {K : Int32 → gS → Prop} {X : Nat → gS → Prop} (hK : ∀ r G, K r G → cxK C (some (vI r)) G) (hX : ∀ q G, X q G → cxX C q G) {G : gS} {x0 : Int32} {x1 : Int32} (h : wp_J15_checkIndex (cxA C) G x0 x1 X K) : gGo C G 0 [(0, vI x0), (1, vI x1)] [] := by
  unfold wp_J15_checkIndex at h
  refine g_iload_n hC (pc := 0) 0 rfl rfl dJ15_checkIndex_0 ?_
  refine g_iload_n hC (pc := 1) 1 rfl rfl dJ15_checkIndex_1 ?_
  refine g_null hC (pc := 2) dJ15_checkIndex_2 ?_
  refine g_callS hC (pc := 3) (b := 0) (As := [vI x0, vI x1, vQ none]) gc_J16_checkIndex (m_J16_checkIndex hC.fl h) q372 q373 (gle rfl) (gle rfl) rfl (gle rfl) rfl dJ15_checkIndex_3 (gk_i fun r2 G1 h => ?_) (fun _ _ h hio => g_out0 hC (hX _ _ h) hio)
  exact g_iret hC (pc := 6) (hK _ _ h) dJ15_checkIndex_6
theorem gc_J15_checkIndex : gCode yJ15_checkIndex cJ15_checkIndex 2 (some .int) 2 := ⟨q371, q118, ⟨by decide, by decide⟩, rfl⟩
theorem m_J15_checkIndex {l : Launch} (hfl : l.stackTraces = false) {E : gE} {G : gS} {x0 : Int32} {x1 : Int32} {X : Nat → gS → Prop} {K : Int32 → gS → Prop} (h : wp_J15_checkIndex (gAd E) G x0 x1 X K) : gMet l yJ15_checkIndex (ws_ yJ15_checkIndex cJ15_checkIndex 2 (some .int)) 1 30 [vI x0, vI x1] E G (gRi K) X :=
  g_met hfl (plainFor_of_name (by decide +kernel)) rfl rfl rfl (gle rfl) (fun p e R s m args below meth c hC => w_J15_checkIndex hC (fun _ _ h => h) (fun _ _ h => h) h)
def wp_J2_elementData (ad : Nat → Nat) (G : gS) (t0 : Nat) (x1 : Int32) (X : Nat → gS → Prop) (K : Option Nat → gS → Prop) : Prop :=
  wGetQ G t0 3 1 fun q1 => wNN q1 fun c2 => wAldQ G c2 x1 fun q3 => K q3 G
theorem w_J2_elementData {C : gCx} (hC : gOk C "java/util/ArrayList" cJ2_elementData [] (some (Jvm.ClassFile.FieldType.object "java/lang/Object")) "elementData" 2 0 0) {K : Option Nat → gS → Prop} {X : Nat → gS → Prop} (hK : ∀ r G, K r G → cxK C (some (vQ r)) G) (hX : ∀ q G, X q G → cxX C q G) {G : gS} {t0 : Nat} {x1 : Int32} (h : wp_J2_elementData (cxA C) G t0 x1 X K) : gGo C G 0 [(0, vQ (some t0)), (1, vI x1)] [] := by
  unfold wp_J2_elementData at h
  refine g_aload_n hC (pc := 0) 0 rfl rfl dJ2_elementData_0 ?_
  refine g_getQ hC (pc := 1) in_J2 (ci := 3) rfl 1 (by decide) q173 (Or.inl rfl) h dJ2_elementData_1 (fun q1 h => ?_)
  refine g_iload_n hC (pc := 4) 1 rfl rfl dJ2_elementData_4 ?_
  rcases q1 with _ | c2
  · exact (gNN0 h).elim
  replace h := gNN1 h
  refine g_aldQ hC (pc := 5) h dJ2_elementData_5 (fun q3 h => ?_)
  exact g_aret hC (pc := 6) (Or.inl ⟨_, rfl⟩) (hK _ _ h) dJ2_elementData_6
theorem gc_J2_elementData : gCode yJ2_elementData cJ2_elementData 2 (some (Jvm.ClassFile.FieldType.object "java/lang/Object")) 1 := ⟨q378, q98, ⟨by decide, by decide⟩, rfl⟩
theorem m_J2_elementData {l : Launch} (hfl : l.stackTraces = false) {E : gE} {G : gS} {t0 : Nat} {x1 : Int32} {X : Nat → gS → Prop} {K : Option Nat → gS → Prop} (h : wp_J2_elementData (gAd E) G t0 x1 X K) : gMet l yJ2_elementData (ws_ yJ2_elementData cJ2_elementData 2 (some (Jvm.ClassFile.FieldType.object "java/lang/Object"))) 0 0 [vQ (some t0), vI x1] E G (gRq K) X :=
  g_met hfl (plainFor_of_name (by decide +kernel)) rfl rfl rfl (gle rfl) (fun p e R s m args below meth c hC => w_J2_elementData hC (fun _ _ h => h) (fun _ _ h => h) h)
def wp_J2_get (ad : Nat → Nat) (G : gS) (t0 : Nat) (x1 : Int32) (X : Nat → gS → Prop) (K : Option Nat → gS → Prop) : Prop :=
  wGetI G t0 3 2 fun i1 => wp_J15_checkIndex ad G x1 i1 X (fun r3 G2 => (gIs G2 t0 3 ∧ wp_J2_elementData ad G2 t0 x1 X (fun q5 G4 => K q5 G4)))
theorem w_J2_get {C : gCx} (hC : gOk C "java/util/ArrayList" cJ2_get [] (some (Jvm.ClassFile.FieldType.object "java/lang/Object")) "get" 2 2 59) {K : Option Nat → gS → Prop} {X : Nat → gS → Prop} (hK : ∀ r G, K r G → cxK C (some (vQ r)) G) (hX : ∀ q G, X q G → cxX C q G) {G : gS} {t0 : Nat} {x1 : Int32} (h : wp_J2_get (cxA C) G t0 x1 X K) : gGo C G 0 [(0, vQ (some t0)), (1, vI x1)] [] := by
  unfold wp_J2_get at h
  refine g_iload_n hC (pc := 0) 1 rfl rfl dJ2_get_0 ?_
  refine g_aload_n hC (pc := 1) 0 rfl rfl dJ2_get_1 ?_
  refine g_getI hC (pc := 2) in_J2 (ci := 3) rfl 2 (by decide) q174 (Or.inl rfl) h dJ2_get_2 (fun i1 h => ?_)
  refine g_callS hC (pc := 5) (b := 0) (As := [vI x1, vI i1]) gc_J15_checkIndex (m_J15_checkIndex hC.fl h) q369 q370 (gle rfl) (gle rfl) rfl (gle rfl) rfl dJ2_get_5 (gk_i fun r3 G2 h => ?_) (fun _ _ h hio => g_out0 hC (hX _ _ h) hio)
  refine g_pop hC (pc := 8) rfl dJ2_get_8 ?_
  refine g_aload_n hC (pc := 9) 0 rfl rfl dJ2_get_9 ?_
  refine g_iload_n hC (pc := 10) 1 rfl rfl dJ2_get_10 ?_
  obtain ⟨hi, h⟩ := h
  refine g_callV hC (pc := 11) (ci := 3) (As := [vI x1]) gc_J2_elementData (m_J2_elementData hC.fl h) rfl hi q375 q376 q377 (gle rfl) (gle rfl) rfl (gle rfl) rfl dJ2_get_11 (gk_q fun q5 G4 h => ?_) (fun _ _ h hio => g_out0 hC (hX _ _ h) hio)
  exact g_aret hC (pc := 14) (Or.inl ⟨_, rfl⟩) (hK _ _ h) dJ2_get_14
theorem gc_J2_get : gCode yJ2_get cJ2_get 2 (some (Jvm.ClassFile.FieldType.object "java/lang/Object")) 1 := ⟨q368, q98, ⟨by decide, by decide⟩, rfl⟩
theorem m_J2_get {l : Launch} (hfl : l.stackTraces = false) {E : gE} {G : gS} {t0 : Nat} {x1 : Int32} {X : Nat → gS → Prop} {K : Option Nat → gS → Prop} (h : wp_J2_get (gAd E) G t0 x1 X K) : gMet l yJ2_get (ws_ yJ2_get cJ2_get 2 (some (Jvm.ClassFile.FieldType.object "java/lang/Object"))) 2 59 [vQ (some t0), vI x1] E G (gRq K) X :=
  g_met hfl (plainFor_of_name (by decide +kernel)) rfl rfl rfl (gle rfl) (fun p e R s m args below meth c hC => w_J2_get hC (fun _ _ h => h) (fun _ _ h => h) h)
def wp_X9_init (ad : Nat → Nat) (G : gS) (t0 : Nat) (x1 : Int32) (X : Nat → gS → Prop) (K : gS → Prop) : Prop :=
  wPut G t0 8 1 (va_rf (some (ad 0))) fun G1 => wPut G1 t0 8 0 (.int x1) fun G2 => K G2
theorem w_X9_init {C : gCx} (hC : gOk C "GoblinHousehold$Broom" cX9_init [] none "<init>" 2 1 28) {K : gS → Prop} {X : Nat → gS → Prop} (hK : ∀ G, K G → cxK C none G) (hX : ∀ q G, X q G → cxX C q G) {G : gS} {t0 : Nat} {x1 : Int32} (h : wp_X9_init (cxA C) G t0 x1 X K) : gGo C G 0 [(0, vQ (some t0)), (1, vI x1)] [] := by
  unfold wp_X9_init at h
  refine g_aload_n hC (pc := 0) 0 rfl rfl dX9_init_0 ?_
  refine g_objInit hC (pc := 1) q1086 q151 q152 (gle rfl) (gle rfl) (gle rfl) dX9_init_1 ?_
  refine g_aload_n hC (pc := 4) 0 rfl rfl dX9_init_4 ?_
  refine g_stat hC (pc := 5) (List.mem_of_getElem? (i := 0) rfl) q791 (fun _ _ h => h) dX9_init_5 ?_
  refine g_put hC (pc := 8) in_X9 (ci := 8) rfl 1 (by decide) tyX9_ok nmX9 q1089 (Or.inl rfl) rfl (gnarO _ _) (gfitO _ _) h dX9_init_8 (fun G1 h => ?_)
  refine g_aload_n hC (pc := 11) 0 rfl rfl dX9_init_11 ?_
  refine g_iload_n hC (pc := 12) 1 rfl rfl dX9_init_12 ?_
  refine g_putF hC (pc := 13) in_X9 (ci := 8) rfl 0 (by decide) tyX9_ok nmX9 q1087 (Or.inl rfl) rfl rfl rfl rfl rfl h dX9_init_13 (fun G2 h => ?_)
  exact g_vret hC (pc := 16) (hK _ h) dX9_init_16
theorem gc_X9_init : gCode yX9_init cX9_init 2 none 1 := ⟨q1085, q126, ⟨by decide, by decide⟩, rfl⟩
theorem m_X9_init {l : Launch} (hfl : l.stackTraces = false) {E : gE} {G : gS} {t0 : Nat} {x1 : Int32} {X : Nat → gS → Prop} {K : gS → Prop} (h : wp_X9_init (gAd E) G t0 x1 X K) : gMet l yX9_init (ws_ yX9_init cX9_init 2 none) 1 28 [vQ (some t0), vI x1] E G (gRv K) X :=
  g_met hfl (plainFor_of_name (by decide +kernel)) rfl rfl rfl (gle rfl) (fun p e R s m args below meth c hC => w_X9_init hC (fun _ h => h) (fun _ _ h => h) h)
def wp_X9_copy_2 (ad : Nat → Nat) (G : gS) (t0 : Nat) (X : Nat → gS → Prop) (K : Option Nat → gS → Prop) : Prop :=
  wNew G 8 2 [.int 0, .null] fun c2 G1 => wGetI G1 t0 8 0 fun i3 => wp_X9_init ad G1 c2 i3 X (fun G4 => wGetQ G4 t0 8 1 fun q5 => wPut G4 c2 8 1 (va_rf q5) fun G6 => K (some c2) G6)
theorem w_X9_copy_2 {C : gCx} (hC : gOk C "GoblinHousehold$Broom" cX9_copy_2 [] (some (Jvm.ClassFile.FieldType.object "GoblinHousehold$Broom")) "copy" 2 2 57) {K : Option Nat → gS → Prop} {X : Nat → gS → Prop} (hK : ∀ r G, K r G → cxK C (some (vQ r)) G) (hX : ∀ q G, X q G → cxX C q G) {G : gS} {t0 : Nat} (h : wp_X9_copy_2 (cxA C) G t0 X K) : gGo C G 0 [(0, vQ (some t0))] [] := by
  unfold wp_X9_copy_2 at h
  refine g_new hC (pc := 0) in_X9 (ci := 8) rfl (by decide) tyX9_ok q1081 q1082 q126 gdf_X9 h dX9_copy_2_0 (fun c2 G1 h => ?_)
  refine g_dup hC (pc := 3) rfl dX9_copy_2_3 ?_
  refine g_aload_n hC (pc := 4) 0 rfl rfl dX9_copy_2_4 ?_
  refine g_getI hC (pc := 5) in_X9 (ci := 8) rfl 0 (by decide) q1087 (Or.inl rfl) h dX9_copy_2_5 (fun i3 h => ?_)
  refine g_callI hC (pc := 8) (As := [vI i3]) gc_X9_init (m_X9_init hC.fl h) rfl q1083 q1084 (gle rfl) (gle rfl) rfl (gle rfl) rfl dX9_copy_2_8 (gk_v fun G4 h => ?_) (fun _ _ h hio => g_out0 hC (hX _ _ h) hio)
  refine g_astore_n hC (pc := 11) (lv' := [(1, vQ (some c2)), (0, vQ (some t0))]) rfl (by decide) rfl dX9_copy_2_11 ?_
  refine g_aload_n hC (pc := 12) 0 rfl rfl dX9_copy_2_12 ?_
  refine g_aload_n hC (pc := 13) 1 rfl rfl dX9_copy_2_13 ?_
  refine g_getQ hC (pc := 14) in_X9 (ci := 8) rfl 1 (by decide) q1089 (Or.inl rfl) h dX9_copy_2_14 (fun q5 h => ?_)
  refine g_put hC (pc := 17) in_X9 (ci := 8) rfl 1 (by decide) tyX9_ok nmX9 q1089 (Or.inl rfl) rfl (gnarO _ _) (gfitO _ _) h dX9_copy_2_17 (fun G6 h => ?_)
  refine g_aload_n hC (pc := 20) 0 rfl rfl dX9_copy_2_20 ?_
  exact g_aret hC (pc := 21) (Or.inl ⟨_, rfl⟩) (hK _ _ h) dX9_copy_2_21
theorem gc_X9_copy_2 : gCode yX9_copy_2 cX9_copy_2 2 (some (Jvm.ClassFile.FieldType.object "GoblinHousehold$Broom")) 0 := ⟨q1080, q126, ⟨by decide, by decide⟩, rfl⟩
theorem m_X9_copy_2 {l : Launch} (hfl : l.stackTraces = false) {E : gE} {G : gS} {t0 : Nat} {X : Nat → gS → Prop} {K : Option Nat → gS → Prop} (h : wp_X9_copy_2 (gAd E) G t0 X K) : gMet l yX9_copy_2 (ws_ yX9_copy_2 cX9_copy_2 2 (some (Jvm.ClassFile.FieldType.object "GoblinHousehold$Broom"))) 2 57 [vQ (some t0)] E G (gRq K) X :=
  g_met hfl (plainFor_of_name (by decide +kernel)) rfl rfl rfl (gle rfl) (fun p e R s m args below meth c hC => w_X9_copy_2 hC (fun _ _ h => h) (fun _ _ h => h) h)
def wp_X9_copy (ad : Nat → Nat) (G : gS) (t0 : Nat) (X : Nat → gS → Prop) (K : Option Nat → gS → Prop) : Prop :=
  (gIs G t0 8 ∧ wp_X9_copy_2 ad G t0  X (fun q2 G1 => K q2 G1))
theorem w_X9_copy {C : gCx} (hC : gOk C "GoblinHousehold$Broom" cX9_copy [] (some (Jvm.ClassFile.FieldType.object "java/lang/Object")) "copy" 1 3 86) {K : Option Nat → gS → Prop} {X : Nat → gS → Prop} (hK : ∀ r G, K r G → cxK C (some (vQ r)) G) (hX : ∀ q G, X q G → cxX C q G) {G : gS} {t0 : Nat} (h : wp_X9_copy (cxA C) G t0 X K) : gGo C G 0 [(0, vQ (some t0))] [] := by
  unfold wp_X9_copy at h
  refine g_aload_n hC (pc := 0) 0 rfl rfl dX9_copy_0 ?_
  obtain ⟨hi, h⟩ := h
  refine g_callV hC (pc := 1) (ci := 8) (As := []) gc_X9_copy_2 (m_X9_copy_2 hC.fl h) rfl hi q1077 q1078 q1079 (gle rfl) (gle rfl) rfl (gle rfl) rfl dX9_copy_1 (gk_q fun q2 G1 h => ?_) (fun _ _ h hio => g_out0 hC (hX _ _ h) hio)
  exact g_aret hC (pc := 4) (Or.inl ⟨_, rfl⟩) (hK _ _ h) dX9_copy_4
theorem gc_X9_copy : gCode yX9_copy cX9_copy 1 (some (Jvm.ClassFile.FieldType.object "java/lang/Object")) 0 := ⟨q1076, q126, ⟨by decide, by decide⟩, rfl⟩
theorem m_X9_copy {l : Launch} (hfl : l.stackTraces = false) {E : gE} {G : gS} {t0 : Nat} {X : Nat → gS → Prop} {K : Option Nat → gS → Prop} (h : wp_X9_copy (gAd E) G t0 X K) : gMet l yX9_copy (ws_ yX9_copy cX9_copy 1 (some (Jvm.ClassFile.FieldType.object "java/lang/Object"))) 3 86 [vQ (some t0)] E G (gRq K) X :=
  g_met hfl (plainFor_of_name (by decide +kernel)) rfl rfl rfl (gle rfl) (fun p e R s m args below meth c hC => w_X9_copy hC (fun _ _ h => h) (fun _ _ h => h) h)
def wp_X6_index (ad : Nat → Nat) (G : gS) (t0 : Nat) (X : Nat → gS → Prop) (K : Int32 → gS → Prop) : Prop :=
  wGetI G t0 9 0 fun i1 => K i1 G
theorem w_X6_index {C : gCx} (hC : gOk C "GoblinHousehold$Being" cX6_index [] (some .int) "index" 1 0 0) {K : Int32 → gS → Prop} {X : Nat → gS → Prop} (hK : ∀ r G, K r G → cxK C (some (vI r)) G) (hX : ∀ q G, X q G → cxX C q G) {G : gS} {t0 : Nat} (h : wp_X6_index (cxA C) G t0 X K) : gGo C G 0 [(0, vQ (some t0))] [] := by
  unfold wp_X6_index at h
  refine g_aload_n hC (pc := 0) 0 rfl rfl dX6_index_0 ?_
  refine g_getI hC (pc := 1) in_X8 (ci := 9) rfl 0 (by decide) q939 (Or.inl rfl) h dX6_index_1 (fun i1 h => ?_)
  exact g_iret hC (pc := 4) (hK _ _ h) dX6_index_4
theorem gc_X6_index : gCode yX6_index cX6_index 1 (some .int) 0 := ⟨q1112, q110, ⟨by decide, by decide⟩, rfl⟩
theorem m_X6_index {l : Launch} (hfl : l.stackTraces = false) {E : gE} {G : gS} {t0 : Nat} {X : Nat → gS → Prop} {K : Int32 → gS → Prop} (h : wp_X6_index (gAd E) G t0 X K) : gMet l yX6_index (ws_ yX6_index cX6_index 1 (some .int)) 0 0 [vQ (some t0)] E G (gRi K) X :=
  g_met hfl (plainFor_of_name (by decide +kernel)) rfl rfl rfl (gle rfl) (fun p e R s m args below meth c hC => w_X6_index hC (fun _ _ h => h) (fun _ _ h => h) h)
def wp_X7_takeOver (ad : Nat → Nat) (G : gS) (t0 : Nat) (o1 : Option Nat) (X : Nat → gS → Prop) (K : gS → Prop) : Prop :=
  wNN o1 fun c1 => wGetI G c1 9 1 fun i2 => wPut G t0 9 1 (.int i2) fun G3 => wGetI G3 c1 9 2 fun i4 => wPut G3 t0 9 2 (.int i4) fun G5 => K G5
theorem w_X7_takeOver {C : gCx} (hC : gOk C "GoblinHousehold$Debtor" cX7_takeOver [] none "takeOver" 2 0 0) {K : gS → Prop} {X : Nat → gS → Prop} (hK : ∀ G, K G → cxK C none G) (hX : ∀ q G, X q G → cxX C q G) {G : gS} {t0 : Nat} {o1 : Option Nat} (h : wp_X7_takeOver (cxA C) G t0 o1 X K) : gGo C G 0 [(0, vQ (some t0)), (1, vQ o1)] [] := by
  unfold wp_X7_takeOver at h
  refine g_aload_n hC (pc := 0) 0 rfl rfl dX7_takeOver_0 ?_
  refine g_aload_n hC (pc := 1) 1 rfl rfl dX7_takeOver_1 ?_
  rcases o1 with _ | c1
  · exact (gNN0 h).elim
  replace h := gNN1 h
  refine g_getI hC (pc := 2) in_X8 (ci := 9) rfl 1 (by decide) q937 (Or.inl rfl) h dX7_takeOver_2 (fun i2 h => ?_)
  refine g_put hC (pc := 5) in_X8 (ci := 9) rfl 1 (by decide) tyX8_ok nmX8 q937 (Or.inl rfl) rfl rfl rfl h dX7_takeOver_5 (fun G3 h => ?_)
  refine g_aload_n hC (pc := 8) 0 rfl rfl dX7_takeOver_8 ?_
  refine g_aload_n hC (pc := 9) 1 rfl rfl dX7_takeOver_9 ?_
  refine g_getI hC (pc := 10) in_X8 (ci := 9) rfl 2 (by decide) q938 (Or.inl rfl) h dX7_takeOver_10 (fun i4 h => ?_)
  refine g_put hC (pc := 13) in_X8 (ci := 9) rfl 2 (by decide) tyX8_ok nmX8 q938 (Or.inl rfl) rfl rfl rfl h dX7_takeOver_13 (fun G5 h => ?_)
  exact g_vret hC (pc := 16) (hK _ h) dX7_takeOver_16
theorem gc_X7_takeOver : gCode yX7_takeOver cX7_takeOver 2 none 1 := ⟨q1119, q111, ⟨by decide, by decide⟩, rfl⟩
theorem m_X7_takeOver {l : Launch} (hfl : l.stackTraces = false) {E : gE} {G : gS} {t0 : Nat} {o1 : Option Nat} {X : Nat → gS → Prop} {K : gS → Prop} (h : wp_X7_takeOver (gAd E) G t0 o1 X K) : gMet l yX7_takeOver (ws_ yX7_takeOver cX7_takeOver 2 none) 0 0 [vQ (some t0), vQ o1] E G (gRv K) X :=
  g_met hfl (plainFor_of_name (by decide +kernel)) rfl rfl rfl (gle rfl) (fun p e R s m args below meth c hC => w_X7_takeOver hC (fun _ h => h) (fun _ _ h => h) h)
def wp_X8_copy_2 (ad : Nat → Nat) (G : gS) (t0 : Nat) (X : Nat → gS → Prop) (K : Option Nat → gS → Prop) : Prop :=
  wNew G 9 6 [.int 0, .int 0, .int 0, .int 0, .int 0, .int 0] fun c2 G1 => (gIs G1 t0 9 ∧ wp_X6_index ad G1 t0  X (fun r4 G3 => wGetI G3 t0 9 3 fun i5 => wp_X8_init ad G3 c2 r4 i5 X (fun G6 => (gIs G6 c2 9 ∧ wp_X7_takeOver ad G6 c2 (some t0) X (fun G7 => wGetI G7 t0 9 4 fun i8 => gNF .boolean i8 ∧ (wPut G7 c2 9 4 (.int i8) fun G9 => wGetI G9 t0 9 5 fun i10 => wPut G9 c2 9 5 (.int i10) fun G11 => K (some c2) G11))))))
theorem w_X8_copy_2 {C : gCx} (hC : gOk C "GoblinHousehold$Goblin" cX8_copy_2 [] (some (Jvm.ClassFile.FieldType.object "GoblinHousehold$Goblin")) "copy" 2 4 116) {K : Option Nat → gS → Prop} {X : Nat → gS → Prop} (hK : ∀ r G, K r G → cxK C (some (vQ r)) G) (hX : ∀ q G, X q G → cxX C q G) {G : gS} {t0 : Nat} (h : wp_X8_copy_2 (cxA C) G t0 X K) : gGo C G 0 [(0, vQ (some t0))] [] := by
  unfold wp_X8_copy_2 at h
  refine g_new hC (pc := 0) in_X8 (ci := 9) rfl (by decide) tyX8_ok q1106 q917 q112 gdf_X8 h dX8_copy_2_0 (fun c2 G1 h => ?_)
  refine g_dup hC (pc := 3) rfl dX8_copy_2_3 ?_
  refine g_aload_n hC (pc := 4) 0 rfl rfl dX8_copy_2_4 ?_
  obtain ⟨hi, h⟩ := h
  refine g_callU hC (pc := 5) (ci := 9) (As := []) gc_X6_index (m_X6_index hC.fl h) (x := ⟨"GoblinHousehold$Goblin", "index", "()I"⟩) (owner := "GoblinHousehold$Being") rfl hi q1107 q1108 q1111 q1112 ⟨by decide, by decide⟩ rfl q1110 q1111 (gle rfl) (gle rfl) rfl (gle rfl) rfl dX8_copy_2_5 (gk_i fun r4 G3 h => ?_) (fun _ _ h hio => g_out0 hC (hX _ _ h) hio)
  refine g_aload_n hC (pc := 8) 0 rfl rfl dX8_copy_2_8 ?_
  refine g_getI hC (pc := 9) in_X8 (ci := 9) rfl 3 (by decide) q928 (Or.inl rfl) h dX8_copy_2_9 (fun i5 h => ?_)
  refine g_callI hC (pc := 12) (As := [vI r4, vI i5]) gc_X8_init (m_X8_init hC.fl h) rfl q1113 q919 (gle rfl) (gle rfl) rfl (gle rfl) rfl dX8_copy_2_12 (gk_v fun G6 h => ?_) (fun _ _ h hio => g_out0 hC (hX _ _ h) hio)
  refine g_astore_n hC (pc := 15) (lv' := [(1, vQ (some c2)), (0, vQ (some t0))]) rfl (by decide) rfl dX8_copy_2_15 ?_
  refine g_aload_n hC (pc := 16) 0 rfl rfl dX8_copy_2_16 ?_
  refine g_aload_n hC (pc := 17) 1 rfl rfl dX8_copy_2_17 ?_
  obtain ⟨hi, h⟩ := h
  refine g_callU hC (pc := 18) (ci := 9) (As := [vQ (some t0)]) gc_X7_takeOver (m_X7_takeOver hC.fl h) (x := ⟨"GoblinHousehold$Goblin", "takeOver", "(LGoblinHousehold$Debtor;)V"⟩) (owner := "GoblinHousehold$Debtor") rfl hi q1114 q1115 q1118 q1119 ⟨by decide, by decide⟩ rfl q1117 q1118 (gle rfl) (gle rfl) rfl (gle rfl) rfl dX8_copy_2_18 (gk_v fun G7 h => ?_) (fun _ _ h hio => g_out0 hC (hX _ _ h) hio)
  refine g_aload_n hC (pc := 21) 0 rfl rfl dX8_copy_2_21 ?_
  refine g_aload_n hC (pc := 22) 1 rfl rfl dX8_copy_2_22 ?_
  refine g_getI hC (pc := 23) in_X8 (ci := 9) rfl 4 (by decide) q931 (Or.inl rfl) h dX8_copy_2_23 (fun i8 h => ?_)
  obtain ⟨hz, h⟩ := h
  refine g_put hC (pc := 26) in_X8 (ci := 9) rfl 4 (by decide) tyX8_ok nmX8 q931 (Or.inl rfl) rfl hz.1 hz.2 h dX8_copy_2_26 (fun G9 h => ?_)
  refine g_aload_n hC (pc := 29) 0 rfl rfl dX8_copy_2_29 ?_
  refine g_aload_n hC (pc := 30) 1 rfl rfl dX8_copy_2_30 ?_
  refine g_getI hC (pc := 31) in_X8 (ci := 9) rfl 5 (by decide) q934 (Or.inl rfl) h dX8_copy_2_31 (fun i10 h => ?_)
  refine g_put hC (pc := 34) in_X8 (ci := 9) rfl 5 (by decide) tyX8_ok nmX8 q934 (Or.inl rfl) rfl rfl rfl h dX8_copy_2_34 (fun G11 h => ?_)
  refine g_aload_n hC (pc := 37) 0 rfl rfl dX8_copy_2_37 ?_
  exact g_aret hC (pc := 38) (Or.inl ⟨_, rfl⟩) (hK _ _ h) dX8_copy_2_38
theorem gc_X8_copy_2 : gCode yX8_copy_2 cX8_copy_2 2 (some (Jvm.ClassFile.FieldType.object "GoblinHousehold$Goblin")) 0 := ⟨q1105, q112, ⟨by decide, by decide⟩, rfl⟩
theorem m_X8_copy_2 {l : Launch} (hfl : l.stackTraces = false) {E : gE} {G : gS} {t0 : Nat} {X : Nat → gS → Prop} {K : Option Nat → gS → Prop} (h : wp_X8_copy_2 (gAd E) G t0 X K) : gMet l yX8_copy_2 (ws_ yX8_copy_2 cX8_copy_2 2 (some (Jvm.ClassFile.FieldType.object "GoblinHousehold$Goblin"))) 4 116 [vQ (some t0)] E G (gRq K) X :=
  g_met hfl (plainFor_of_name (by decide +kernel)) rfl rfl rfl (gle rfl) (fun p e R s m args below meth c hC => w_X8_copy_2 hC (fun _ _ h => h) (fun _ _ h => h) h)
def wp_X8_copy (ad : Nat → Nat) (G : gS) (t0 : Nat) (X : Nat → gS → Prop) (K : Option Nat → gS → Prop) : Prop :=
  (gIs G t0 9 ∧ wp_X8_copy_2 ad G t0  X (fun q2 G1 => K q2 G1))
theorem w_X8_copy {C : gCx} (hC : gOk C "GoblinHousehold$Goblin" cX8_copy [] (some (Jvm.ClassFile.FieldType.object "java/lang/Object")) "copy" 1 5 145) {K : Option Nat → gS → Prop} {X : Nat → gS → Prop} (hK : ∀ r G, K r G → cxK C (some (vQ r)) G) (hX : ∀ q G, X q G → cxX C q G) {G : gS} {t0 : Nat} (h : wp_X8_copy (cxA C) G t0 X K) : gGo C G 0 [(0, vQ (some t0))] [] := by
  unfold wp_X8_copy at h
  refine g_aload_n hC (pc := 0) 0 rfl rfl dX8_copy_0 ?_
  obtain ⟨hi, h⟩ := h
  refine g_callV hC (pc := 1) (ci := 9) (As := []) gc_X8_copy_2 (m_X8_copy_2 hC.fl h) rfl hi q1102 q1103 q1104 (gle rfl) (gle rfl) rfl (gle rfl) rfl dX8_copy_1 (gk_q fun q2 G1 h => ?_) (fun _ _ h hio => g_out0 hC (hX _ _ h) hio)
  exact g_aret hC (pc := 4) (Or.inl ⟨_, rfl⟩) (hK _ _ h) dX8_copy_4
theorem gc_X8_copy : gCode yX8_copy cX8_copy 1 (some (Jvm.ClassFile.FieldType.object "java/lang/Object")) 0 := ⟨q1101, q112, ⟨by decide, by decide⟩, rfl⟩
theorem m_X8_copy {l : Launch} (hfl : l.stackTraces = false) {E : gE} {G : gS} {t0 : Nat} {X : Nat → gS → Prop} {K : Option Nat → gS → Prop} (h : wp_X8_copy (gAd E) G t0 X K) : gMet l yX8_copy (ws_ yX8_copy cX8_copy 1 (some (Jvm.ClassFile.FieldType.object "java/lang/Object"))) 5 145 [vQ (some t0)] E G (gRq K) X :=
  g_met hfl (plainFor_of_name (by decide +kernel)) rfl rfl rfl (gle rfl) (fun p e R s m args below meth c hC => w_X8_copy hC (fun _ _ h => h) (fun _ _ h => h) h)
def wp_X1_copyAll_2 (ad : Nat → Nat) (X : Nat → gS → Prop) (K : gS → Prop) (J2 : gS → Option Nat → Option Nat → Int32 → Prop) (G : gS) (o0 : Option Nat) (o1 : Option Nat) (x2 : Int32) : Prop :=
  wNN o0 fun c1 => (gIs G c1 3 ∧ wp_J2_size ad G c1  X (fun r3 G2 => (r3 ≤ x2 → K G2) ∧ (¬ r3 ≤ x2 → (gIs G2 c1 3 ∧ wp_J2_get ad G2 c1 x2 X (fun q5 G4 => wCast G4 q5 [8, 9] (wNN q5 fun c6 => ((gIs G4 c6 8 ∧ wp_X9_copy ad G4 c6  X (fun q8 G7 => wNN o1 fun c9 => (gIs G7 c9 3 ∧ wp_J2_add ad G7 c9 q8 X (fun r11 G10 => J2 G10 (some c1) (some c9) (x2 + (1 : Int32))))))) ∨ ((gIs G4 c6 9 ∧ wp_X8_copy ad G4 c6  X (fun q13 G12 => wNN o1 fun c14 => (gIs G12 c14 3 ∧ wp_J2_add ad G12 c14 q13 X (fun r16 G15 => J2 G15 (some c1) (some c14) (x2 + (1 : Int32)))))))))))))
theorem w_X1_copyAll_2 {C : gCx} (hC : gOk C "GoblinHousehold" cX1_copyAll [] none "copyAll" 3 6 180) {K : gS → Prop} {X : Nat → gS → Prop} (hK : ∀ G, K G → cxK C none G) (hX : ∀ q G, X q G → cxX C q G) (n : Nat) : ∀ (G : gS) (o0 : Option Nat) (o1 : Option Nat) (x2 : Int32), gLoop (fun _ _ _ _ => False) (wp_X1_copyAll_2 (cxA C) X K) n G o0 o1 x2 → gGo C G 2 [(0, vQ o0), (1, vQ o1), (2, vI x2)] [] := by
  induction n with
  | zero => intro G o0 o1 x2 h; exact h.elim
  | succ n ih =>
    intro G o0 o1 x2 h
    have hJ2 := ih
    replace h : wp_X1_copyAll_2 (cxA C) X K _ G o0 o1 x2 := h
    unfold wp_X1_copyAll_2 at h
    refine g_iload_n hC (pc := 2) 2 rfl rfl dX1_copyAll_2 ?_
    refine g_aload_n hC (pc := 3) 0 rfl rfl dX1_copyAll_3 ?_
    rcases o0 with _ | c1
    · exact (gNN0 h).elim
    replace h := gNN1 h
    obtain ⟨hi, h⟩ := h
    refine g_callF hC (pc := 4) (ci := 3) (As := []) gc_J2_size (m_J2_size hC.fl h) rfl hi q319 (List.mem_of_getElem? (i := 0) rfl) rfl q323 q325 (gle rfl) (gle rfl) rfl (gle rfl) rfl dX1_copyAll_4 (gk_i fun r3 G2 h => ?_) (fun _ _ h hio => g_out0 hC (hX _ _ h) hio)
    refine g_icmp_ge hC (pc := 9) 40 h (by decide) dX1_copyAll_9 (fun h => ?_) (fun h => ?_)
    · exact g_vret hC (pc := 40) (hK _ h) dX1_copyAll_40
    · refine g_aload_n hC (pc := 12) 1 rfl rfl dX1_copyAll_12 ?_
      refine g_aload_n hC (pc := 13) 0 rfl rfl dX1_copyAll_13 ?_
      refine g_iload_n hC (pc := 14) 2 rfl rfl dX1_copyAll_14 ?_
      obtain ⟨hi, h⟩ := h
      refine g_callF hC (pc := 15) (ci := 3) (As := [vI x2]) gc_J2_get (m_J2_get hC.fl h) rfl hi q1065 (List.mem_of_getElem? (i := 2) rfl) rfl q364 q366 (gle rfl) (gle rfl) rfl (gle rfl) rfl dX1_copyAll_15 (gk_q fun q5 G4 h => ?_) (fun _ _ h hio => g_out0 hC (hX _ _ h) hio)
      refine g_cast hC (pc := 20) q1066 h (List.forall_mem_cons.mpr ⟨⟨_, rfl, Or.inl (List.mem_of_getElem? (i := 6) rfl)⟩, List.forall_mem_cons.mpr ⟨⟨_, rfl, Or.inl (List.mem_of_getElem? (i := 7) rfl)⟩, fun _ h => nomatch h⟩⟩) dX1_copyAll_20 (fun h => ?_)
      rcases q5 with _ | c6
      · exact (gNN0 h).elim
      replace h := gNN1 h
      rcases h with h | h
      · obtain ⟨hi, h⟩ := h
        refine g_callF hC (pc := 23) (ci := 8) (As := []) gc_X9_copy (m_X9_copy hC.fl h) rfl hi q1068 (List.mem_of_getElem? (i := 6) rfl) rfl q1072 q1074 (gle rfl) (gle rfl) rfl (gle rfl) rfl dX1_copyAll_23 (gk_q fun q8 G7 h => ?_) (fun _ _ h hio => g_out0 hC (hX _ _ h) hio)
        rcases o1 with _ | c9
        · exact (gNN0 h).elim
        replace h := gNN1 h
        obtain ⟨hi, h⟩ := h
        refine g_callF hC (pc := 28) (ci := 3) (As := [vQ q8]) gc_J2_add (m_J2_add hC.fl h) rfl hi q1121 (List.mem_of_getElem? (i := 4) rfl) rfl q957 q959 (gle rfl) (gle rfl) rfl (gle rfl) rfl dX1_copyAll_28 (gk_i fun r11 G10 h => ?_) (fun _ _ h hio => g_out0 hC (hX _ _ h) hio)
        refine g_pop hC (pc := 33) rfl dX1_copyAll_33 ?_
        refine g_iinc hC (pc := 34) 2 (d := (1 : Int32)) (v := (x2 + (1 : Int32))) (lv' := [(2, vI (x2 + (1 : Int32))), (0, vQ (some c1)), (1, vQ (some c9))]) rfl (by decide) rfl (by decide) rfl dX1_copyAll_34 ?_
        refine g_goto hC (pc := 37) 2 (by decide) dX1_copyAll_37 ?_
        exact g_sub [1, 2, 0] rfl (hJ2 _ _ _ _ h)
      · obtain ⟨hi, h⟩ := h
        refine g_callF hC (pc := 23) (ci := 9) (As := []) gc_X8_copy (m_X8_copy hC.fl h) rfl hi q1068 (List.mem_of_getElem? (i := 7) rfl) rfl q1097 q1099 (gle rfl) (gle rfl) rfl (gle rfl) rfl dX1_copyAll_23 (gk_q fun q13 G12 h => ?_) (fun _ _ h hio => g_out0 hC (hX _ _ h) hio)
        rcases o1 with _ | c14
        · exact (gNN0 h).elim
        replace h := gNN1 h
        obtain ⟨hi, h⟩ := h
        refine g_callF hC (pc := 28) (ci := 3) (As := [vQ q13]) gc_J2_add (m_J2_add hC.fl h) rfl hi q1121 (List.mem_of_getElem? (i := 4) rfl) rfl q957 q959 (gle rfl) (gle rfl) rfl (gle rfl) rfl dX1_copyAll_28 (gk_i fun r16 G15 h => ?_) (fun _ _ h hio => g_out0 hC (hX _ _ h) hio)
        refine g_pop hC (pc := 33) rfl dX1_copyAll_33 ?_
        refine g_iinc hC (pc := 34) 2 (d := (1 : Int32)) (v := (x2 + (1 : Int32))) (lv' := [(2, vI (x2 + (1 : Int32))), (0, vQ (some c1)), (1, vQ (some c14))]) rfl (by decide) rfl (by decide) rfl dX1_copyAll_34 ?_
        refine g_goto hC (pc := 37) 2 (by decide) dX1_copyAll_37 ?_
        exact g_sub [1, 2, 0] rfl (hJ2 _ _ _ _ h)
def wp_X1_copyAll (ad : Nat → Nat) (G : gS) (o0 : Option Nat) (o1 : Option Nat) (X : Nat → gS → Prop) (K : gS → Prop) : Prop :=
  gLoop (fun _ _ _ _ => False) (wp_X1_copyAll_2 ad X K) gFuel G o0 o1 (0 : Int32)
theorem w_X1_copyAll {C : gCx} (hC : gOk C "GoblinHousehold" cX1_copyAll [] none "copyAll" 3 6 180) {K : gS → Prop} {X : Nat → gS → Prop} (hK : ∀ G, K G → cxK C none G) (hX : ∀ q G, X q G → cxX C q G) {G : gS} {o0 : Option Nat} {o1 : Option Nat} (h : wp_X1_copyAll (cxA C) G o0 o1 X K) : gGo C G 0 [(0, vQ o0), (1, vQ o1)] [] := by
  unfold wp_X1_copyAll at h
  refine g_iconst hC (pc := 0) (v := (0 : Int32)) (by decide) dX1_copyAll_0 ?_
  refine g_istore_n hC (pc := 1) (lv' := [(2, vI (0 : Int32)), (0, vQ o0), (1, vQ o1)]) rfl (by decide) rfl dX1_copyAll_1 ?_
  exact g_sub [1, 2, 0] rfl (w_X1_copyAll_2 hC hK hX gFuel _ _ _ _ h)
theorem gc_X1_copyAll : gCode yX1_copyAll cX1_copyAll 3 none 2 := ⟨q1063, q94, ⟨by decide, by decide⟩, rfl⟩
theorem m_X1_copyAll {l : Launch} (hfl : l.stackTraces = false) {E : gE} {G : gS} {o0 : Option Nat} {o1 : Option Nat} {X : Nat → gS → Prop} {K : gS → Prop} (h : wp_X1_copyAll (gAd E) G o0 o1 X K) : gMet l yX1_copyAll (ws_ yX1_copyAll cX1_copyAll 3 none) 6 180 [vQ o0, vQ o1] E G (gRv K) X :=
  g_met hfl (plainFor_of_name (by decide +kernel)) rfl rfl rfl (gle rfl) (fun p e R s m args below meth c hC => w_X1_copyAll hC (fun _ h => h) (fun _ _ h => h) h)
def wp_X2_copy_89 (ad : Nat → Nat) (X : Nat → gS → Prop) (K : Option Nat → gS → Prop) (G : gS) (t0 : Nat) (t1 : Nat) : Prop :=
  wGetI G t0 2 4 fun i1 => wPut G t1 2 4 (.int i1) fun G2 => wGetI G2 t0 2 5 fun i3 => wPut G2 t1 2 5 (.int i3) fun G4 => wGetI G4 t0 2 6 fun i5 => wPut G4 t1 2 6 (.int i5) fun G6 => wGetI G6 t0 2 7 fun i7 => wPut G6 t1 2 7 (.int i7) fun G8 => wGetI G8 t0 2 8 fun i9 => wPut G8 t1 2 8 (.int i9) fun G10 => wGetI G10 t0 2 9 fun i11 => wPut G10 t1 2 9 (.int i11) fun G12 => wGetI G12 t0 2 10 fun i13 => wPut G12 t1 2 10 (.int i13) fun G14 => wGetI G14 t0 2 11 fun i15 => wPut G14 t1 2 11 (.int i15) fun G16 => wGetI G16 t0 2 12 fun i17 => wPut G16 t1 2 12 (.int i17) fun G18 => K (some t1) G18
theorem w_X2_copy_89 {C : gCx} (hC : gOk C "GoblinHousehold$Household" cX2_copy [] (some (Jvm.ClassFile.FieldType.object "GoblinHousehold$Household")) "copy" 3 7 210) {K : Option Nat → gS → Prop} {X : Nat → gS → Prop} (hK : ∀ r G, K r G → cxK C (some (vQ r)) G) (hX : ∀ q G, X q G → cxX C q G) {G : gS} {t0 : Nat} {t1 : Nat} (h : wp_X2_copy_89 (cxA C) X K G t0 t1) : gGo C G 89 [(0, vQ (some t0)), (1, vQ (some t1))] [] := by
  unfold wp_X2_copy_89 at h
  refine g_aload_n hC (pc := 89) 1 rfl rfl dX2_copy_89 ?_
  refine g_aload_n hC (pc := 90) 0 rfl rfl dX2_copy_90 ?_
  refine g_getI hC (pc := 91) in_X2 (ci := 2) rfl 4 (by decide) q196 (Or.inl rfl) h dX2_copy_91 (fun i1 h => ?_)
  refine g_put hC (pc := 94) in_X2 (ci := 2) rfl 4 (by decide) tyX2_ok nmX2 q196 (Or.inl rfl) rfl rfl rfl h dX2_copy_94 (fun G2 h => ?_)
  refine g_aload_n hC (pc := 97) 1 rfl rfl dX2_copy_97 ?_
  refine g_aload_n hC (pc := 98) 0 rfl rfl dX2_copy_98 ?_
  refine g_getI hC (pc := 99) in_X2 (ci := 2) rfl 5 (by decide) q197 (Or.inl rfl) h dX2_copy_99 (fun i3 h => ?_)
  refine g_put hC (pc := 102) in_X2 (ci := 2) rfl 5 (by decide) tyX2_ok nmX2 q197 (Or.inl rfl) rfl rfl rfl h dX2_copy_102 (fun G4 h => ?_)
  refine g_aload_n hC (pc := 105) 1 rfl rfl dX2_copy_105 ?_
  refine g_aload_n hC (pc := 106) 0 rfl rfl dX2_copy_106 ?_
  refine g_getI hC (pc := 107) in_X2 (ci := 2) rfl 6 (by decide) q199 (Or.inl rfl) h dX2_copy_107 (fun i5 h => ?_)
  refine g_put hC (pc := 110) in_X2 (ci := 2) rfl 6 (by decide) tyX2_ok nmX2 q199 (Or.inl rfl) rfl rfl rfl h dX2_copy_110 (fun G6 h => ?_)
  refine g_aload_n hC (pc := 113) 1 rfl rfl dX2_copy_113 ?_
  refine g_aload_n hC (pc := 114) 0 rfl rfl dX2_copy_114 ?_
  refine g_getI hC (pc := 115) in_X2 (ci := 2) rfl 7 (by decide) q201 (Or.inl rfl) h dX2_copy_115 (fun i7 h => ?_)
  refine g_put hC (pc := 118) in_X2 (ci := 2) rfl 7 (by decide) tyX2_ok nmX2 q201 (Or.inl rfl) rfl rfl rfl h dX2_copy_118 (fun G8 h => ?_)
  refine g_aload_n hC (pc := 121) 1 rfl rfl dX2_copy_121 ?_
  refine g_aload_n hC (pc := 122) 0 rfl rfl dX2_copy_122 ?_
  refine g_getI hC (pc := 123) in_X2 (ci := 2) rfl 8 (by decide) q202 (Or.inl rfl) h dX2_copy_123 (fun i9 h => ?_)
  refine g_put hC (pc := 126) in_X2 (ci := 2) rfl 8 (by decide) tyX2_ok nmX2 q202 (Or.inl rfl) rfl rfl rfl h dX2_copy_126 (fun G10 h => ?_)
  refine g_aload_n hC (pc := 129) 1 rfl rfl dX2_copy_129 ?_
  refine g_aload_n hC (pc := 130) 0 rfl rfl dX2_copy_130 ?_
  refine g_getI hC (pc := 131) in_X2 (ci := 2) rfl 9 (by decide) q203 (Or.inl rfl) h dX2_copy_131 (fun i11 h => ?_)
  refine g_put hC (pc := 134) in_X2 (ci := 2) rfl 9 (by decide) tyX2_ok nmX2 q203 (Or.inl rfl) rfl rfl rfl h dX2_copy_134 (fun G12 h => ?_)
  refine g_aload_n hC (pc := 137) 1 rfl rfl dX2_copy_137 ?_
  refine g_aload_n hC (pc := 138) 0 rfl rfl dX2_copy_138 ?_
  refine g_getI hC (pc := 139) in_X2 (ci := 2) rfl 10 (by decide) q205 (Or.inl rfl) h dX2_copy_139 (fun i13 h => ?_)
  refine g_put hC (pc := 142) in_X2 (ci := 2) rfl 10 (by decide) tyX2_ok nmX2 q205 (Or.inl rfl) rfl rfl rfl h dX2_copy_142 (fun G14 h => ?_)
  refine g_aload_n hC (pc := 145) 1 rfl rfl dX2_copy_145 ?_
  refine g_aload_n hC (pc := 146) 0 rfl rfl dX2_copy_146 ?_
  refine g_getI hC (pc := 147) in_X2 (ci := 2) rfl 11 (by decide) q207 (Or.inl rfl) h dX2_copy_147 (fun i15 h => ?_)
  refine g_put hC (pc := 150) in_X2 (ci := 2) rfl 11 (by decide) tyX2_ok nmX2 q207 (Or.inl rfl) rfl rfl rfl h dX2_copy_150 (fun G16 h => ?_)
  refine g_aload_n hC (pc := 153) 1 rfl rfl dX2_copy_153 ?_
  refine g_aload_n hC (pc := 154) 0 rfl rfl dX2_copy_154 ?_
  refine g_getI hC (pc := 155) in_X2 (ci := 2) rfl 12 (by decide) q209 (Or.inl rfl) h dX2_copy_155 (fun i17 h => ?_)
  refine g_put hC (pc := 158) in_X2 (ci := 2) rfl 12 (by decide) tyX2_ok nmX2 q209 (Or.inl rfl) rfl rfl rfl h dX2_copy_158 (fun G18 h => ?_)
  refine g_aload_n hC (pc := 161) 1 rfl rfl dX2_copy_161 ?_
  exact g_aret hC (pc := 162) (Or.inl ⟨_, rfl⟩) (hK _ _ h) dX2_copy_162
def wp_X2_copy_47 (ad : Nat → Nat) (X : Nat → gS → Prop) (K : Option Nat → gS → Prop) (J47 : gS → Nat → Nat → Int32 → Prop) (G : gS) (t0 : Nat) (t1 : Nat) (x2 : Int32) : Prop :=
  wGetQ G t0 2 3 fun q1 => wNN q1 fun c2 => (gIs G c2 3 ∧ wp_J2_size ad G c2  X (fun r4 G3 => (r4 ≤ x2 → wp_X2_copy_89 ad X K G3 t0 t1) ∧ (¬ r4 ≤ x2 → wGetQ G3 t1 2 3 fun q5 => wGetQ G3 t0 2 3 fun q6 => wNN q6 fun c7 => (gIs G3 c7 3 ∧ wp_J2_get ad G3 c7 x2 X (fun q9 G8 => wCast G8 q9 [10] (wNN q5 fun c10 => (gIs G8 c10 3 ∧ wp_J2_add ad G8 c10 q9 X (fun r12 G11 => J47 G11 t0 t1 (x2 + (1 : Int32))))))))))
theorem w_X2_copy_47 {C : gCx} (hC : gOk C "GoblinHousehold$Household" cX2_copy [] (some (Jvm.ClassFile.FieldType.object "GoblinHousehold$Household")) "copy" 3 7 210) {K : Option Nat → gS → Prop} {X : Nat → gS → Prop} (hK : ∀ r G, K r G → cxK C (some (vQ r)) G) (hX : ∀ q G, X q G → cxX C q G) (n : Nat) : ∀ (G : gS) (t0 : Nat) (t1 : Nat) (x2 : Int32), gLoop (fun _ _ _ _ => False) (wp_X2_copy_47 (cxA C) X K) n G t0 t1 x2 → gGo C G 47 [(0, vQ (some t0)), (1, vQ (some t1)), (2, vI x2)] [] := by
  induction n with
  | zero => intro G t0 t1 x2 h; exact h.elim
  | succ n ih =>
    intro G t0 t1 x2 h
    have hJ47 := ih
    replace h : wp_X2_copy_47 (cxA C) X K _ G t0 t1 x2 := h
    unfold wp_X2_copy_47 at h
    refine g_iload_n hC (pc := 47) 2 rfl rfl dX2_copy_47 ?_
    refine g_aload_n hC (pc := 48) 0 rfl rfl dX2_copy_48 ?_
    refine g_getQ hC (pc := 49) in_X2 (ci := 2) rfl 3 (by decide) q194 (Or.inl rfl) h dX2_copy_49 (fun q1 h => ?_)
    rcases q1 with _ | c2
    · exact (gNN0 h).elim
    replace h := gNN1 h
    obtain ⟨hi, h⟩ := h
    refine g_callF hC (pc := 52) (ci := 3) (As := []) gc_J2_size (m_J2_size hC.fl h) rfl hi q359 (List.mem_of_getElem? (i := 0) rfl) rfl q323 q325 (gle rfl) (gle rfl) rfl (gle rfl) rfl dX2_copy_52 (gk_i fun r4 G3 h => ?_) (fun _ _ h hio => g_out0 hC (hX _ _ h) hio)
    refine g_icmp_ge hC (pc := 57) 89 h (by decide) dX2_copy_57 (fun h => ?_) (fun h => ?_)
    · exact g_sub [0, 1] rfl (w_X2_copy_89 hC hK hX h)
    · refine g_aload_n hC (pc := 60) 1 rfl rfl dX2_copy_60 ?_
      refine g_getQ hC (pc := 61) in_X2 (ci := 2) rfl 3 (by decide) q194 (Or.inl rfl) h dX2_copy_61 (fun q5 h => ?_)
      refine g_aload_n hC (pc := 64) 0 rfl rfl dX2_copy_64 ?_
      refine g_getQ hC (pc := 65) in_X2 (ci := 2) rfl 3 (by decide) q194 (Or.inl rfl) h dX2_copy_65 (fun q6 h => ?_)
      refine g_iload_n hC (pc := 68) 2 rfl rfl dX2_copy_68 ?_
      rcases q6 with _ | c7
      · exact (gNN0 h).elim
      replace h := gNN1 h
      obtain ⟨hi, h⟩ := h
      refine g_callF hC (pc := 69) (ci := 3) (As := [vI x2]) gc_J2_get (m_J2_get hC.fl h) rfl hi q361 (List.mem_of_getElem? (i := 2) rfl) rfl q364 q366 (gle rfl) (gle rfl) rfl (gle rfl) rfl dX2_copy_69 (gk_q fun q9 G8 h => ?_) (fun _ _ h hio => g_out0 hC (hX _ _ h) hio)
      refine g_cast hC (pc := 74) q764 h (List.forall_mem_cons.mpr ⟨⟨_, rfl, Or.inr ⟨rfl, by decide⟩⟩, fun _ h => nomatch h⟩) dX2_copy_74 (fun h => ?_)
      rcases q5 with _ | c10
      · exact (gNN0 h).elim
      replace h := gNN1 h
      obtain ⟨hi, h⟩ := h
      refine g_callF hC (pc := 77) (ci := 3) (As := [vQ q9]) gc_J2_add (m_J2_add hC.fl h) rfl hi q954 (List.mem_of_getElem? (i := 4) rfl) rfl q957 q959 (gle rfl) (gle rfl) rfl (gle rfl) rfl dX2_copy_77 (gk_i fun r12 G11 h => ?_) (fun _ _ h hio => g_out0 hC (hX _ _ h) hio)
      refine g_pop hC (pc := 82) rfl dX2_copy_82 ?_
      refine g_iinc hC (pc := 83) 2 (d := (1 : Int32)) (v := (x2 + (1 : Int32))) (lv' := [(2, vI (x2 + (1 : Int32))), (0, vQ (some t0)), (1, vQ (some t1))]) rfl (by decide) rfl (by decide) rfl dX2_copy_83 ?_
      refine g_goto hC (pc := 86) 47 (by decide) dX2_copy_86 ?_
      exact g_sub [1, 2, 0] rfl (hJ47 _ _ _ _ h)
def wp_X2_copy (ad : Nat → Nat) (G : gS) (t0 : Nat) (X : Nat → gS → Prop) (K : Option Nat → gS → Prop) : Prop :=
  wNew G 2 13 [.null, .null, .null, .null, .int 0, .int 0, .int 0, .int 0, .int 0, .int 0, .int 0, .int 0, .int 0] fun c2 G1 => wp_X2_init ad G1 c2  X (fun G3 => wGetQ G3 t0 2 0 fun q4 => wGetQ G3 c2 2 0 fun q5 => wNN q4 fun c6 => wNN q5 fun c7 => wCopyI G3 c6 (0 : Int32) c7 (0 : Int32) (6 : Int32) fun G8 => wGetQ G8 t0 2 1 fun q9 => wGetQ G8 c2 2 1 fun q10 => wp_X1_copyAll ad G8 q9 q10 X (fun G11 => wGetQ G11 t0 2 2 fun q12 => wGetQ G11 c2 2 2 fun q13 => wp_X1_copyAll ad G11 q12 q13 X (fun G14 => gLoop (fun _ _ _ _ => False) (wp_X2_copy_47 ad X K) gFuel G14 t0 c2 (0 : Int32))))
theorem w_X2_copy {C : gCx} (hC : gOk C "GoblinHousehold$Household" cX2_copy [] (some (Jvm.ClassFile.FieldType.object "GoblinHousehold$Household")) "copy" 3 7 210) {K : Option Nat → gS → Prop} {X : Nat → gS → Prop} (hK : ∀ r G, K r G → cxK C (some (vQ r)) G) (hX : ∀ q G, X q G → cxX C q G) {G : gS} {t0 : Nat} (h : wp_X2_copy (cxA C) G t0 X K) : gGo C G 0 [(0, vQ (some t0))] [] := by
  unfold wp_X2_copy at h
  refine g_new hC (pc := 0) in_X2 (ci := 2) rfl (by decide) tyX2_ok q1058 q154 q95 gdf_X2 h dX2_copy_0 (fun c2 G1 h => ?_)
  refine g_dup hC (pc := 3) rfl dX2_copy_3 ?_
  refine g_callI hC (pc := 4) (As := []) gc_X2_init (m_X2_init hC.fl h) rfl q1059 q156 (gle rfl) (gle rfl) rfl (gle rfl) rfl dX2_copy_4 (gk_v fun G3 h => ?_) (fun _ _ h hio => g_out0 hC (hX _ _ h) hio)
  refine g_astore_n hC (pc := 7) (lv' := [(1, vQ (some c2)), (0, vQ (some t0))]) rfl (by decide) rfl dX2_copy_7 ?_
  refine g_aload_n hC (pc := 8) 1 rfl rfl dX2_copy_8 ?_
  refine g_getQ hC (pc := 9) in_X2 (ci := 2) rfl 0 (by decide) q188 (Or.inl rfl) h dX2_copy_9 (fun q4 h => ?_)
  refine g_iconst hC (pc := 12) (v := (0 : Int32)) (by decide) dX2_copy_12 ?_
  refine g_aload_n hC (pc := 13) 0 rfl rfl dX2_copy_13 ?_
  refine g_getQ hC (pc := 14) in_X2 (ci := 2) rfl 0 (by decide) q188 (Or.inl rfl) h dX2_copy_14 (fun q5 h => ?_)
  refine g_iconst hC (pc := 17) (v := (0 : Int32)) (by decide) dX2_copy_17 ?_
  refine g_bipush hC (pc := 18) (v := (6 : Int32)) (by decide) dX2_copy_18 ?_
  rcases q4 with _ | c6
  · exact (gNN0 h).elim
  replace h := gNN1 h
  rcases q5 with _ | c7
  · exact (gNN0 h).elim
  replace h := gNN1 h
  refine g_copyI hC (pc := 20) q1060 q493 q492 q116 (gle rfl) (gle rfl) (gle rfl) h dX2_copy_20 (fun G8 h => ?_)
  refine g_aload_n hC (pc := 23) 1 rfl rfl dX2_copy_23 ?_
  refine g_getQ hC (pc := 24) in_X2 (ci := 2) rfl 1 (by decide) q190 (Or.inl rfl) h dX2_copy_24 (fun q9 h => ?_)
  refine g_aload_n hC (pc := 27) 0 rfl rfl dX2_copy_27 ?_
  refine g_getQ hC (pc := 28) in_X2 (ci := 2) rfl 1 (by decide) q190 (Or.inl rfl) h dX2_copy_28 (fun q10 h => ?_)
  refine g_callSN hC (pc := 31) (b := 0) (As := [vQ q9, vQ q10]) gc_X1_copyAll (m_X1_copyAll hC.fl h) (List.mem_of_getElem? (i := 4) rfl) q1062 (gle rfl) (gle rfl) rfl (gle rfl) rfl dX2_copy_31 (gk_v fun G11 h => ?_) (fun _ _ h hio => g_out0 hC (hX _ _ h) hio)
  refine g_aload_n hC (pc := 34) 1 rfl rfl dX2_copy_34 ?_
  refine g_getQ hC (pc := 35) in_X2 (ci := 2) rfl 2 (by decide) q192 (Or.inl rfl) h dX2_copy_35 (fun q12 h => ?_)
  refine g_aload_n hC (pc := 38) 0 rfl rfl dX2_copy_38 ?_
  refine g_getQ hC (pc := 39) in_X2 (ci := 2) rfl 2 (by decide) q192 (Or.inl rfl) h dX2_copy_39 (fun q13 h => ?_)
  refine g_callSN hC (pc := 42) (b := 0) (As := [vQ q12, vQ q13]) gc_X1_copyAll (m_X1_copyAll hC.fl h) (List.mem_of_getElem? (i := 4) rfl) q1062 (gle rfl) (gle rfl) rfl (gle rfl) rfl dX2_copy_42 (gk_v fun G14 h => ?_) (fun _ _ h hio => g_out0 hC (hX _ _ h) hio)
  refine g_iconst hC (pc := 45) (v := (0 : Int32)) (by decide) dX2_copy_45 ?_
  refine g_istore_n hC (pc := 46) (lv' := [(2, vI (0 : Int32)), (1, vQ (some c2)), (0, vQ (some t0))]) rfl (by decide) rfl dX2_copy_46 ?_
  exact g_sub [2, 1, 0] rfl (w_X2_copy_47 hC hK hX gFuel _ _ _ _ h)
theorem gc_X2_copy : gCode yX2_copy cX2_copy 3 (some (Jvm.ClassFile.FieldType.object "GoblinHousehold$Household")) 0 := ⟨q1057, q95, ⟨by decide, by decide⟩, rfl⟩
theorem m_X2_copy {l : Launch} (hfl : l.stackTraces = false) {E : gE} {G : gS} {t0 : Nat} {X : Nat → gS → Prop} {K : Option Nat → gS → Prop} (h : wp_X2_copy (gAd E) G t0 X K) : gMet l yX2_copy (ws_ yX2_copy cX2_copy 3 (some (Jvm.ClassFile.FieldType.object "GoblinHousehold$Household"))) 7 210 [vQ (some t0)] E G (gRq K) X :=
  g_met hfl (plainFor_of_name (by decide +kernel)) rfl rfl rfl (gle rfl) (fun p e R s m args below meth c hC => w_X2_copy hC (fun _ _ h => h) (fun _ _ h => h) h)
def wp_X2_addBroom_30 (ad : Nat → Nat) (X : Nat → gS → Prop) (K : Int32 → gS → Prop) (G : gS) (t0 : Nat) (x1 : Int32) (xs0 : Int32) : Prop :=
  wp_X1_demand ad G xs0 (some (ad 111)) X (fun G1 => wGetQ G1 t0 2 1 fun q2 => wNew G1 8 2 [.int 0, .null] fun c4 G3 => wp_X9_init ad G3 c4 x1 X (fun G5 => wNN q2 fun c6 => (gIs G5 c6 3 ∧ wp_J2_add ad G5 c6 (some c4) X (fun r8 G7 => wGetQ G7 t0 2 1 fun q9 => wNN q9 fun c10 => (gIs G7 c10 3 ∧ wp_J2_size ad G7 c10  X (fun r12 G11 => K (r12 - (1 : Int32)) G11))))))
theorem w_X2_addBroom_30 {C : gCx} (hC : gOk C "GoblinHousehold$Household" cX2_addBroom [] (some .int) "addBroom" 2 9 247) {K : Int32 → gS → Prop} {X : Nat → gS → Prop} (hK : ∀ r G, K r G → cxK C (some (vI r)) G) (hX : ∀ q G, X q G → cxX C q G) {G : gS} {t0 : Nat} {x1 : Int32} {xs0 : Int32} (h : wp_X2_addBroom_30 (cxA C) X K G t0 x1 xs0) : gGo C G 30 [(0, vQ (some t0)), (1, vI x1)] [vI xs0] := by
  unfold wp_X2_addBroom_30 at h
  refine g_ldcS hC (pc := 30) (List.mem_of_getElem? (i := 11) rfl) dX2_addBroom_30 ?_
  refine g_callSN hC (pc := 32) (b := 0) (As := [vI xs0, vQ (some (cxA C 111))]) gc_X1_demand (m_X1_demand hC.fl h) (List.mem_of_getElem? (i := 3) rfl) q888 (gle rfl) (gle rfl) rfl (gle rfl) rfl dX2_addBroom_32 (gk_v fun G1 h => ?_) (fun _ _ h hio => g_out0 hC (hX _ _ h) hio)
  refine g_aload_n hC (pc := 35) 0 rfl rfl dX2_addBroom_35 ?_
  refine g_getQ hC (pc := 36) in_X2 (ci := 2) rfl 1 (by decide) q190 (Or.inl rfl) h dX2_addBroom_36 (fun q2 h => ?_)
  refine g_new hC (pc := 39) in_X9 (ci := 8) rfl (by decide) tyX9_ok q786 q1082 q126 gdf_X9 h dX2_addBroom_39 (fun c4 G3 h => ?_)
  refine g_dup hC (pc := 42) rfl dX2_addBroom_42 ?_
  refine g_iload_n hC (pc := 43) 1 rfl rfl dX2_addBroom_43 ?_
  refine g_callI hC (pc := 44) (As := [vI x1]) gc_X9_init (m_X9_init hC.fl h) rfl q1308 q1084 (gle rfl) (gle rfl) rfl (gle rfl) rfl dX2_addBroom_44 (gk_v fun G5 h => ?_) (fun _ _ h hio => g_out0 hC (hX _ _ h) hio)
  rcases q2 with _ | c6
  · exact (gNN0 h).elim
  replace h := gNN1 h
  obtain ⟨hi, h⟩ := h
  refine g_callF hC (pc := 47) (ci := 3) (As := [vQ (some c4)]) gc_J2_add (m_J2_add hC.fl h) rfl hi q954 (List.mem_of_getElem? (i := 4) rfl) rfl q957 q959 (gle rfl) (gle rfl) rfl (gle rfl) rfl dX2_addBroom_47 (gk_i fun r8 G7 h => ?_) (fun _ _ h hio => g_out0 hC (hX _ _ h) hio)
  refine g_pop hC (pc := 52) rfl dX2_addBroom_52 ?_
  refine g_aload_n hC (pc := 53) 0 rfl rfl dX2_addBroom_53 ?_
  refine g_getQ hC (pc := 54) in_X2 (ci := 2) rfl 1 (by decide) q190 (Or.inl rfl) h dX2_addBroom_54 (fun q9 h => ?_)
  rcases q9 with _ | c10
  · exact (gNN0 h).elim
  replace h := gNN1 h
  obtain ⟨hi, h⟩ := h
  refine g_callF hC (pc := 57) (ci := 3) (As := []) gc_J2_size (m_J2_size hC.fl h) rfl hi q359 (List.mem_of_getElem? (i := 0) rfl) rfl q323 q325 (gle rfl) (gle rfl) rfl (gle rfl) rfl dX2_addBroom_57 (gk_i fun r12 G11 h => ?_) (fun _ _ h hio => g_out0 hC (hX _ _ h) hio)
  refine g_iconst hC (pc := 62) (v := (1 : Int32)) (by decide) dX2_addBroom_62 ?_
  refine g_isub hC (pc := 63) dX2_addBroom_63 ?_
  exact g_iret hC (pc := 64) (hK _ _ h) dX2_addBroom_64
def wp_X2_addBroom (ad : Nat → Nat) (G : gS) (t0 : Nat) (x1 : Int32) (X : Nat → gS → Prop) (K : Int32 → gS → Prop) : Prop :=
  wp_X1_isBetween ad G x1 (1 : Int32) (20 : Int32) X (fun r2 G1 => wp_X1_demand ad G1 r2 (some (ad 110)) X (fun G3 => wGetQ G3 t0 2 1 fun q4 => wNN q4 fun c5 => (gIs G3 c5 3 ∧ wp_J2_size ad G3 c5  X (fun r7 G6 => ((4 : Int32) ≤ r7 → wp_X2_addBroom_30 ad X K G6 t0 x1 (0 : Int32)) ∧ (¬ (4 : Int32) ≤ r7 → wp_X2_addBroom_30 ad X K G6 t0 x1 (1 : Int32))))))
theorem w_X2_addBroom {C : gCx} (hC : gOk C "GoblinHousehold$Household" cX2_addBroom [] (some .int) "addBroom" 2 9 247) {K : Int32 → gS → Prop} {X : Nat → gS → Prop} (hK : ∀ r G, K r G → cxK C (some (vI r)) G) (hX : ∀ q G, X q G → cxX C q G) {G : gS} {t0 : Nat} {x1 : Int32} (h : wp_X2_addBroom (cxA C) G t0 x1 X K) : gGo C G 0 [(0, vQ (some t0)), (1, vI x1)] [] := by
  unfold wp_X2_addBroom at h
  refine g_iload_n hC (pc := 0) 1 rfl rfl dX2_addBroom_0 ?_
  refine g_iconst hC (pc := 1) (v := (1 : Int32)) (by decide) dX2_addBroom_1 ?_
  refine g_bipush hC (pc := 2) (v := (20 : Int32)) (by decide) dX2_addBroom_2 ?_
  refine g_callSN hC (pc := 4) (b := 0) (As := [vI x1, vI (1 : Int32), vI (20 : Int32)]) gc_X1_isBetween (m_X1_isBetween hC.fl h) (List.mem_of_getElem? (i := 2) rfl) q884 (gle rfl) (gle rfl) rfl (gle rfl) rfl dX2_addBroom_4 (gk_i fun r2 G1 h => ?_) (fun _ _ h hio => g_out0 hC (hX _ _ h) hio)
  refine g_ldcS hC (pc := 7) (List.mem_of_getElem? (i := 10) rfl) dX2_addBroom_7 ?_
  refine g_callSN hC (pc := 9) (b := 0) (As := [vI r2, vQ (some (cxA C 110))]) gc_X1_demand (m_X1_demand hC.fl h) (List.mem_of_getElem? (i := 3) rfl) q888 (gle rfl) (gle rfl) rfl (gle rfl) rfl dX2_addBroom_9 (gk_v fun G3 h => ?_) (fun _ _ h hio => g_out0 hC (hX _ _ h) hio)
  refine g_aload_n hC (pc := 12) 0 rfl rfl dX2_addBroom_12 ?_
  refine g_getQ hC (pc := 13) in_X2 (ci := 2) rfl 1 (by decide) q190 (Or.inl rfl) h dX2_addBroom_13 (fun q4 h => ?_)
  rcases q4 with _ | c5
  · exact (gNN0 h).elim
  replace h := gNN1 h
  obtain ⟨hi, h⟩ := h
  refine g_callF hC (pc := 16) (ci := 3) (As := []) gc_J2_size (m_J2_size hC.fl h) rfl hi q359 (List.mem_of_getElem? (i := 0) rfl) rfl q323 q325 (gle rfl) (gle rfl) rfl (gle rfl) rfl dX2_addBroom_16 (gk_i fun r7 G6 h => ?_) (fun _ _ h hio => g_out0 hC (hX _ _ h) hio)
  refine g_iconst hC (pc := 21) (v := (4 : Int32)) (by decide) dX2_addBroom_21 ?_
  refine g_icmp_ge hC (pc := 22) 29 h (by decide) dX2_addBroom_22 (fun h => ?_) (fun h => ?_)
  · refine g_iconst hC (pc := 29) (v := (0 : Int32)) (by decide) dX2_addBroom_29 ?_
    exact g_sub [0, 1] rfl (w_X2_addBroom_30 hC hK hX h)
  · refine g_iconst hC (pc := 25) (v := (1 : Int32)) (by decide) dX2_addBroom_25 ?_
    refine g_goto hC (pc := 26) 30 (by decide) dX2_addBroom_26 ?_
    exact g_sub [0, 1] rfl (w_X2_addBroom_30 hC hK hX h)
theorem gc_X2_addBroom : gCode yX2_addBroom cX2_addBroom 2 (some .int) 1 := ⟨q1307, q95, ⟨by decide, by decide⟩, rfl⟩
theorem m_X2_addBroom {l : Launch} (hfl : l.stackTraces = false) {E : gE} {G : gS} {t0 : Nat} {x1 : Int32} {X : Nat → gS → Prop} {K : Int32 → gS → Prop} (h : wp_X2_addBroom (gAd E) G t0 x1 X K) : gMet l yX2_addBroom (ws_ yX2_addBroom cX2_addBroom 2 (some .int)) 9 247 [vQ (some t0), vI x1] E G (gRi K) X :=
  g_met hfl (plainFor_of_name (by decide +kernel)) rfl rfl rfl (gle rfl) (fun p e R s m args below meth c hC => w_X2_addBroom hC (fun _ _ h => h) (fun _ _ h => h) h)
def wp_X1_lambda_addBroom_1 (ad : Nat → Nat) (G : gS) (x0 : Int32) (o1 : Option Nat) (X : Nat → gS → Prop) (K : Int32 → gS → Prop) : Prop :=
  wNN o1 fun c1 => (gIs G c1 2 ∧ wp_X2_addBroom ad G c1 x0 X (fun r3 G2 => K r3 G2))
theorem w_X1_lambda_addBroom_1 {C : gCx} (hC : gOk C "GoblinHousehold" cX1_lambda_addBroom_1 [] (some .int) "lambda$addBroom$1" 2 10 276) {K : Int32 → gS → Prop} {X : Nat → gS → Prop} (hK : ∀ r G, K r G → cxK C (some (vI r)) G) (hX : ∀ q G, X q G → cxX C q G) {G : gS} {x0 : Int32} {o1 : Option Nat} (h : wp_X1_lambda_addBroom_1 (cxA C) G x0 o1 X K) : gGo C G 0 [(0, vI x0), (1, vQ o1)] [] := by
  unfold wp_X1_lambda_addBroom_1 at h
  refine g_aload_n hC (pc := 0) 1 rfl rfl dX1_lambda_addBroom_1_0 ?_
  refine g_iload_n hC (pc := 1) 0 rfl rfl dX1_lambda_addBroom_1_1 ?_
  rcases o1 with _ | c1
  · exact (gNN0 h).elim
  replace h := gNN1 h
  obtain ⟨hi, h⟩ := h
  refine g_callV hC (pc := 2) (ci := 2) (As := [vI x0]) gc_X2_addBroom (m_X2_addBroom hC.fl h) rfl hi q1304 q1305 q1306 (gle rfl) (gle rfl) rfl (gle rfl) rfl dX1_lambda_addBroom_1_2 (gk_i fun r3 G2 h => ?_) (fun _ _ h hio => g_out0 hC (hX _ _ h) hio)
  exact g_iret hC (pc := 5) (hK _ _ h) dX1_lambda_addBroom_1_5
theorem gc_X1_lambda_addBroom_1 : gCode yX1_lambda_addBroom_1 cX1_lambda_addBroom_1 2 (some .int) 2 := ⟨q1303, q94, ⟨by decide, by decide⟩, rfl⟩
theorem m_X1_lambda_addBroom_1 {l : Launch} (hfl : l.stackTraces = false) {E : gE} {G : gS} {x0 : Int32} {o1 : Option Nat} {X : Nat → gS → Prop} {K : Int32 → gS → Prop} (h : wp_X1_lambda_addBroom_1 (gAd E) G x0 o1 X K) : gMet l yX1_lambda_addBroom_1 (ws_ yX1_lambda_addBroom_1 cX1_lambda_addBroom_1 2 (some .int)) 10 276 [vI x0, vQ o1] E G (gRi K) X :=
  g_met hfl (plainFor_of_name (by decide +kernel)) rfl rfl rfl (gle rfl) (fun p e R s m args below meth c hC => w_X1_lambda_addBroom_1 hC (fun _ _ h => h) (fun _ _ h => h) h)
def wp_X2_isBroom (ad : Nat → Nat) (G : gS) (t0 : Nat) (x1 : Int32) (X : Nat → gS → Prop) (K : Int32 → gS → Prop) : Prop :=
  wGetQ G t0 2 1 fun q1 => wNN q1 fun c2 => (gIs G c2 3 ∧ wp_J2_size ad G c2  X (fun r4 G3 => wp_X1_isBetween ad G3 x1 (0 : Int32) (r4 - (1 : Int32)) X (fun r6 G5 => gNar .boolean r6 ∧ K r6 G5)))
theorem w_X2_isBroom {C : gCx} (hC : gOk C "GoblinHousehold$Household" cX2_isBroom [] (some .boolean) "isBroom" 2 1 30) {K : Int32 → gS → Prop} {X : Nat → gS → Prop} (hK : ∀ r G, K r G → cxK C (some (vI r)) G) (hX : ∀ q G, X q G → cxX C q G) {G : gS} {t0 : Nat} {x1 : Int32} (h : wp_X2_isBroom (cxA C) G t0 x1 X K) : gGo C G 0 [(0, vQ (some t0)), (1, vI x1)] [] := by
  unfold wp_X2_isBroom at h
  refine g_iload_n hC (pc := 0) 1 rfl rfl dX2_isBroom_0 ?_
  refine g_iconst hC (pc := 1) (v := (0 : Int32)) (by decide) dX2_isBroom_1 ?_
  refine g_aload_n hC (pc := 2) 0 rfl rfl dX2_isBroom_2 ?_
  refine g_getQ hC (pc := 3) in_X2 (ci := 2) rfl 1 (by decide) q190 (Or.inl rfl) h dX2_isBroom_3 (fun q1 h => ?_)
  rcases q1 with _ | c2
  · exact (gNN0 h).elim
  replace h := gNN1 h
  obtain ⟨hi, h⟩ := h
  refine g_callF hC (pc := 6) (ci := 3) (As := []) gc_J2_size (m_J2_size hC.fl h) rfl hi q359 (List.mem_of_getElem? (i := 0) rfl) rfl q323 q325 (gle rfl) (gle rfl) rfl (gle rfl) rfl dX2_isBroom_6 (gk_i fun r4 G3 h => ?_) (fun _ _ h hio => g_out0 hC (hX _ _ h) hio)
  refine g_iconst hC (pc := 11) (v := (1 : Int32)) (by decide) dX2_isBroom_11 ?_
  refine g_isub hC (pc := 12) dX2_isBroom_12 ?_
  refine g_callSN hC (pc := 13) (b := 0) (As := [vI x1, vI (0 : Int32), vI (r4 - (1 : Int32))]) gc_X1_isBetween (m_X1_isBetween hC.fl h) (List.mem_of_getElem? (i := 2) rfl) q884 (gle rfl) (gle rfl) rfl (gle rfl) rfl dX2_isBroom_13 (gk_i fun r6 G5 h => ?_) (fun _ _ h hio => g_out0 hC (hX _ _ h) hio)
  exact g_zret hC (pc := 16) h.1 (hK _ _ h.2) dX2_isBroom_16
theorem gc_X2_isBroom : gCode yX2_isBroom cX2_isBroom 2 (some .boolean) 1 := ⟨q1347, q95, ⟨by decide, by decide⟩, rfl⟩
theorem m_X2_isBroom {l : Launch} (hfl : l.stackTraces = false) {E : gE} {G : gS} {t0 : Nat} {x1 : Int32} {X : Nat → gS → Prop} {K : Int32 → gS → Prop} (h : wp_X2_isBroom (gAd E) G t0 x1 X K) : gMet l yX2_isBroom (ws_ yX2_isBroom cX2_isBroom 2 (some .boolean)) 1 30 [vQ (some t0), vI x1] E G (gRi K) X :=
  g_met hfl (plainFor_of_name (by decide +kernel)) rfl rfl rfl (gle rfl) (fun p e R s m args below meth c hC => w_X2_isBroom hC (fun _ _ h => h) (fun _ _ h => h) h)
def wp_X9_isUsed (ad : Nat → Nat) (G : gS) (t0 : Nat) (X : Nat → gS → Prop) (K : Int32 → gS → Prop) : Prop :=
  wGetQ G t0 8 1 fun q1 => (¬ q1 = (some (ad 0)) → K (0 : Int32) G) ∧ (q1 = (some (ad 0)) → K (1 : Int32) G)
theorem w_X9_isUsed {C : gCx} (hC : gOk C "GoblinHousehold$Broom" cX9_isUsed [] (some .boolean) "isUsed" 1 0 0) {K : Int32 → gS → Prop} {X : Nat → gS → Prop} (hK : ∀ r G, K r G → cxK C (some (vI r)) G) (hX : ∀ q G, X q G → cxX C q G) {G : gS} {t0 : Nat} (h : wp_X9_isUsed (cxA C) G t0 X K) : gGo C G 0 [(0, vQ (some t0))] [] := by
  unfold wp_X9_isUsed at h
  refine g_aload_n hC (pc := 0) 0 rfl rfl dX9_isUsed_0 ?_
  refine g_getQ hC (pc := 1) in_X9 (ci := 8) rfl 1 (by decide) q1089 (Or.inl rfl) h dX9_isUsed_1 (fun q1 h => ?_)
  refine g_stat hC (pc := 4) (List.mem_of_getElem? (i := 0) rfl) q791 (fun _ _ h => h) dX9_isUsed_4 ?_
  refine g_acmp_ne hC (pc := 7) 14 h (by decide) dX9_isUsed_7 (fun h => ?_) (fun h => ?_)
  · refine g_iconst hC (pc := 14) (v := (0 : Int32)) (by decide) dX9_isUsed_14 ?_
    exact g_zret hC (pc := 15) rfl (hK _ _ h) dX9_isUsed_15
  · refine g_iconst hC (pc := 10) (v := (1 : Int32)) (by decide) dX9_isUsed_10 ?_
    refine g_goto hC (pc := 11) 15 (by decide) dX9_isUsed_11 ?_
    exact g_zret hC (pc := 15) rfl (hK _ _ h) dX9_isUsed_15
theorem gc_X9_isUsed : gCode yX9_isUsed cX9_isUsed 1 (some .boolean) 0 := ⟨q790, q126, ⟨by decide, by decide⟩, rfl⟩
theorem m_X9_isUsed {l : Launch} (hfl : l.stackTraces = false) {E : gE} {G : gS} {t0 : Nat} {X : Nat → gS → Prop} {K : Int32 → gS → Prop} (h : wp_X9_isUsed (gAd E) G t0 X K) : gMet l yX9_isUsed (ws_ yX9_isUsed cX9_isUsed 1 (some .boolean)) 0 0 [vQ (some t0)] E G (gRi K) X :=
  g_met hfl (plainFor_of_name (by decide +kernel)) rfl rfl rfl (gle rfl) (fun p e R s m args below meth c hC => w_X9_isUsed hC (fun _ _ h => h) (fun _ _ h => h) h)
def wp_X2_usedBrooms_42 (ad : Nat → Nat) (X : Nat → gS → Prop) (K : Int32 → gS → Prop) (J4 : gS → Nat → Int32 → Int32 → Prop) (G : gS) (t0 : Nat) (x2 : Int32) (xs0 : Int32) (xs1 : Int32) : Prop :=
  J4 G t0 (xs1 + xs0) (x2 + (1 : Int32))
theorem w_X2_usedBrooms_42 {C : gCx} (hC : gOk C "GoblinHousehold$Household" cX2_usedBrooms [] (some .int) "usedBrooms" 3 3 88) {K : Int32 → gS → Prop} {X : Nat → gS → Prop} (hK : ∀ r G, K r G → cxK C (some (vI r)) G) (hX : ∀ q G, X q G → cxX C q G) {J4 : gS → Nat → Int32 → Int32 → Prop} (hJ4 : ∀ G z0 z1 z2, J4 G z0 z1 z2 → gGo C G 4 [(0, vQ (some z0)), (1, vI z1), (2, vI z2)] []) {G : gS} {t0 : Nat} {x2 : Int32} {xs0 : Int32} {xs1 : Int32} (h : wp_X2_usedBrooms_42 (cxA C) X K J4 G t0 x2 xs0 xs1) : gGo C G 42 [(0, vQ (some t0)), (2, vI x2)] [vI xs0, vI xs1] := by
  unfold wp_X2_usedBrooms_42 at h
  refine g_iadd hC (pc := 42) dX2_usedBrooms_42 ?_
  refine g_istore_n hC (pc := 43) (lv' := [(1, vI (xs1 + xs0)), (0, vQ (some t0)), (2, vI x2)]) rfl (by decide) rfl dX2_usedBrooms_43 ?_
  refine g_iinc hC (pc := 44) 2 (d := (1 : Int32)) (v := (x2 + (1 : Int32))) (lv' := [(2, vI (x2 + (1 : Int32))), (1, vI (xs1 + xs0)), (0, vQ (some t0))]) rfl (by decide) rfl (by decide) rfl dX2_usedBrooms_44 ?_
  refine g_goto hC (pc := 47) 4 (by decide) dX2_usedBrooms_47 ?_
  exact g_sub [2, 1, 0] rfl (hJ4 _ _ _ _ h)
def wp_X2_usedBrooms_4 (ad : Nat → Nat) (X : Nat → gS → Prop) (K : Int32 → gS → Prop) (J4 : gS → Nat → Int32 → Int32 → Prop) (G : gS) (t0 : Nat) (x1 : Int32) (x2 : Int32) : Prop :=
  wGetQ G t0 2 1 fun q1 => wNN q1 fun c2 => (gIs G c2 3 ∧ wp_J2_size ad G c2  X (fun r4 G3 => (r4 ≤ x2 → K x1 G3) ∧ (¬ r4 ≤ x2 → wGetQ G3 t0 2 1 fun q5 => wNN q5 fun c6 => (gIs G3 c6 3 ∧ wp_J2_get ad G3 c6 x2 X (fun q8 G7 => wCast G7 q8 [8] (wNN q8 fun c9 => (gIs G7 c9 8 ∧ wp_X9_isUsed ad G7 c9  X (fun r11 G10 => (r11 = (0 : Int32) → wp_X2_usedBrooms_42 ad X K J4 G10 t0 x2 (0 : Int32) x1) ∧ (¬ r11 = (0 : Int32) → wp_X2_usedBrooms_42 ad X K J4 G10 t0 x2 (1 : Int32) x1)))))))))
theorem w_X2_usedBrooms_4 {C : gCx} (hC : gOk C "GoblinHousehold$Household" cX2_usedBrooms [] (some .int) "usedBrooms" 3 3 88) {K : Int32 → gS → Prop} {X : Nat → gS → Prop} (hK : ∀ r G, K r G → cxK C (some (vI r)) G) (hX : ∀ q G, X q G → cxX C q G) (n : Nat) : ∀ (G : gS) (t0 : Nat) (x1 : Int32) (x2 : Int32), gLoop (fun _ _ _ _ => False) (wp_X2_usedBrooms_4 (cxA C) X K) n G t0 x1 x2 → gGo C G 4 [(0, vQ (some t0)), (1, vI x1), (2, vI x2)] [] := by
  induction n with
  | zero => intro G t0 x1 x2 h; exact h.elim
  | succ n ih =>
    intro G t0 x1 x2 h
    have hJ4 := ih
    replace h : wp_X2_usedBrooms_4 (cxA C) X K _ G t0 x1 x2 := h
    unfold wp_X2_usedBrooms_4 at h
    refine g_iload_n hC (pc := 4) 2 rfl rfl dX2_usedBrooms_4 ?_
    refine g_aload_n hC (pc := 5) 0 rfl rfl dX2_usedBrooms_5 ?_
    refine g_getQ hC (pc := 6) in_X2 (ci := 2) rfl 1 (by decide) q190 (Or.inl rfl) h dX2_usedBrooms_6 (fun q1 h => ?_)
    rcases q1 with _ | c2
    · exact (gNN0 h).elim
    replace h := gNN1 h
    obtain ⟨hi, h⟩ := h
    refine g_callF hC (pc := 9) (ci := 3) (As := []) gc_J2_size (m_J2_size hC.fl h) rfl hi q359 (List.mem_of_getElem? (i := 0) rfl) rfl q323 q325 (gle rfl) (gle rfl) rfl (gle rfl) rfl dX2_usedBrooms_9 (gk_i fun r4 G3 h => ?_) (fun _ _ h hio => g_out0 hC (hX _ _ h) hio)
    refine g_icmp_ge hC (pc := 14) 50 h (by decide) dX2_usedBrooms_14 (fun h => ?_) (fun h => ?_)
    · refine g_iload_n hC (pc := 50) 1 rfl rfl dX2_usedBrooms_50 ?_
      exact g_iret hC (pc := 51) (hK _ _ h) dX2_usedBrooms_51
    · refine g_iload_n hC (pc := 17) 1 rfl rfl dX2_usedBrooms_17 ?_
      refine g_aload_n hC (pc := 18) 0 rfl rfl dX2_usedBrooms_18 ?_
      refine g_getQ hC (pc := 19) in_X2 (ci := 2) rfl 1 (by decide) q190 (Or.inl rfl) h dX2_usedBrooms_19 (fun q5 h => ?_)
      refine g_iload_n hC (pc := 22) 2 rfl rfl dX2_usedBrooms_22 ?_
      rcases q5 with _ | c6
      · exact (gNN0 h).elim
      replace h := gNN1 h
      obtain ⟨hi, h⟩ := h
      refine g_callF hC (pc := 23) (ci := 3) (As := [vI x2]) gc_J2_get (m_J2_get hC.fl h) rfl hi q361 (List.mem_of_getElem? (i := 2) rfl) rfl q364 q366 (gle rfl) (gle rfl) rfl (gle rfl) rfl dX2_usedBrooms_23 (gk_q fun q8 G7 h => ?_) (fun _ _ h hio => g_out0 hC (hX _ _ h) hio)
      refine g_cast hC (pc := 28) q786 h (List.forall_mem_cons.mpr ⟨⟨_, rfl, Or.inr ⟨rfl, by decide⟩⟩, fun _ h => nomatch h⟩) dX2_usedBrooms_28 (fun h => ?_)
      rcases q8 with _ | c9
      · exact (gNN0 h).elim
      replace h := gNN1 h
      obtain ⟨hi, h⟩ := h
      refine g_callV hC (pc := 31) (ci := 8) (As := []) gc_X9_isUsed (m_X9_isUsed hC.fl h) rfl hi q787 q788 q789 (gle rfl) (gle rfl) rfl (gle rfl) rfl dX2_usedBrooms_31 (gk_i fun r11 G10 h => ?_) (fun _ _ h hio => g_out0 hC (hX _ _ h) hio)
      refine g_if_eq hC (pc := 34) 41 h (by decide) dX2_usedBrooms_34 (fun h => ?_) (fun h => ?_)
      · refine g_iconst hC (pc := 41) (v := (0 : Int32)) (by decide) dX2_usedBrooms_41 ?_
        exact g_sub [0, 2] rfl (w_X2_usedBrooms_42 hC hK hX hJ4 h)
      · refine g_iconst hC (pc := 37) (v := (1 : Int32)) (by decide) dX2_usedBrooms_37 ?_
        refine g_goto hC (pc := 38) 42 (by decide) dX2_usedBrooms_38 ?_
        exact g_sub [0, 2] rfl (w_X2_usedBrooms_42 hC hK hX hJ4 h)
def wp_X2_usedBrooms (ad : Nat → Nat) (G : gS) (t0 : Nat) (X : Nat → gS → Prop) (K : Int32 → gS → Prop) : Prop :=
  gLoop (fun _ _ _ _ => False) (wp_X2_usedBrooms_4 ad X K) gFuel G t0 (0 : Int32) (0 : Int32)
theorem w_X2_usedBrooms {C : gCx} (hC : gOk C "GoblinHousehold$Household" cX2_usedBrooms [] (some .int) "usedBrooms" 3 3 88) {K : Int32 → gS → Prop} {X : Nat → gS → Prop} (hK : ∀ r G, K r G → cxK C (some (vI r)) G) (hX : ∀ q G, X q G → cxX C q G) {G : gS} {t0 : Nat} (h : wp_X2_usedBrooms (cxA C) G t0 X K) : gGo C G 0 [(0, vQ (some t0))] [] := by
  unfold wp_X2_usedBrooms at h
  refine g_iconst hC (pc := 0) (v := (0 : Int32)) (by decide) dX2_usedBrooms_0 ?_
  refine g_istore_n hC (pc := 1) (lv' := [(1, vI (0 : Int32)), (0, vQ (some t0))]) rfl (by decide) rfl dX2_usedBrooms_1 ?_
  refine g_iconst hC (pc := 2) (v := (0 : Int32)) (by decide) dX2_usedBrooms_2 ?_
  refine g_istore_n hC (pc := 3) (lv' := [(2, vI (0 : Int32)), (1, vI (0 : Int32)), (0, vQ (some t0))]) rfl (by decide) rfl dX2_usedBrooms_3 ?_
  exact g_sub [2, 1, 0] rfl (w_X2_usedBrooms_4 hC hK hX gFuel _ _ _ _ h)
theorem gc_X2_usedBrooms : gCode yX2_usedBrooms cX2_usedBrooms 3 (some .int) 0 := ⟨q785, q95, ⟨by decide, by decide⟩, rfl⟩
theorem m_X2_usedBrooms {l : Launch} (hfl : l.stackTraces = false) {E : gE} {G : gS} {t0 : Nat} {X : Nat → gS → Prop} {K : Int32 → gS → Prop} (h : wp_X2_usedBrooms (gAd E) G t0 X K) : gMet l yX2_usedBrooms (ws_ yX2_usedBrooms cX2_usedBrooms 3 (some .int)) 3 88 [vQ (some t0)] E G (gRi K) X :=
  g_met hfl (plainFor_of_name (by decide +kernel)) rfl rfl rfl (gle rfl) (fun p e R s m args below meth c hC => w_X2_usedBrooms hC (fun _ _ h => h) (fun _ _ h => h) h)
def wp_X2_setStanding_35 (ad : Nat → Nat) (X : Nat → gS → Prop) (K : Int32 → gS → Prop) (G : gS) (t0 : Nat) (x1 : Int32) (o2 : Option Nat) (xs0 : Int32) : Prop :=
  wp_X1_demand ad G xs0 (some (ad 111)) X (fun G1 => wGetQ G1 t0 2 1 fun q2 => wNN q2 fun c3 => (gIs G1 c3 3 ∧ wp_J2_get ad G1 c3 x1 X (fun q5 G4 => wCast G4 q5 [8] (wNN q5 fun c6 => wPut G4 c6 8 1 (va_rf o2) fun G7 => (gIs G7 t0 2 ∧ wp_X2_usedBrooms ad G7 t0  X (fun r9 G8 => K r9 G8))))))
theorem w_X2_setStanding_35 {C : gCx} (hC : gOk C "GoblinHousehold$Household" cX2_setStanding [] (some .int) "setStanding" 3 9 247) {K : Int32 → gS → Prop} {X : Nat → gS → Prop} (hK : ∀ r G, K r G → cxK C (some (vI r)) G) (hX : ∀ q G, X q G → cxX C q G) {G : gS} {t0 : Nat} {x1 : Int32} {o2 : Option Nat} {xs0 : Int32} (h : wp_X2_setStanding_35 (cxA C) X K G t0 x1 o2 xs0) : gGo C G 35 [(0, vQ (some t0)), (1, vI x1), (2, vQ o2)] [vI xs0] := by
  unfold wp_X2_setStanding_35 at h
  refine g_ldcS hC (pc := 35) (List.mem_of_getElem? (i := 11) rfl) dX2_setStanding_35 ?_
  refine g_callSN hC (pc := 37) (b := 0) (As := [vI xs0, vQ (some (cxA C 111))]) gc_X1_demand (m_X1_demand hC.fl h) (List.mem_of_getElem? (i := 3) rfl) q888 (gle rfl) (gle rfl) rfl (gle rfl) rfl dX2_setStanding_37 (gk_v fun G1 h => ?_) (fun _ _ h hio => g_out0 hC (hX _ _ h) hio)
  refine g_aload_n hC (pc := 40) 0 rfl rfl dX2_setStanding_40 ?_
  refine g_getQ hC (pc := 41) in_X2 (ci := 2) rfl 1 (by decide) q190 (Or.inl rfl) h dX2_setStanding_41 (fun q2 h => ?_)
  refine g_iload_n hC (pc := 44) 1 rfl rfl dX2_setStanding_44 ?_
  rcases q2 with _ | c3
  · exact (gNN0 h).elim
  replace h := gNN1 h
  obtain ⟨hi, h⟩ := h
  refine g_callF hC (pc := 45) (ci := 3) (As := [vI x1]) gc_J2_get (m_J2_get hC.fl h) rfl hi q361 (List.mem_of_getElem? (i := 2) rfl) rfl q364 q366 (gle rfl) (gle rfl) rfl (gle rfl) rfl dX2_setStanding_45 (gk_q fun q5 G4 h => ?_) (fun _ _ h hio => g_out0 hC (hX _ _ h) hio)
  refine g_cast hC (pc := 50) q786 h (List.forall_mem_cons.mpr ⟨⟨_, rfl, Or.inr ⟨rfl, by decide⟩⟩, fun _ h => nomatch h⟩) dX2_setStanding_50 (fun h => ?_)
  refine g_aload_n hC (pc := 53) 2 rfl rfl dX2_setStanding_53 ?_
  rcases q5 with _ | c6
  · exact (gNN0 h).elim
  replace h := gNN1 h
  refine g_putN hC (pc := 54) in_X9 (ci := 8) rfl 1 (by decide) tyX9_ok nmX9 (List.mem_of_getElem? (i := 17) rfl) (Or.inl rfl) rfl (gnarO _ _) (gfitO _ _) h dX2_setStanding_54 (fun G7 h => ?_)
  refine g_aload_n hC (pc := 57) 0 rfl rfl dX2_setStanding_57 ?_
  obtain ⟨hi, h⟩ := h
  refine g_callV hC (pc := 58) (ci := 2) (As := []) gc_X2_usedBrooms (m_X2_usedBrooms hC.fl h) rfl hi q782 q783 q784 (gle rfl) (gle rfl) rfl (gle rfl) rfl dX2_setStanding_58 (gk_i fun r9 G8 h => ?_) (fun _ _ h hio => g_out0 hC (hX _ _ h) hio)
  exact g_iret hC (pc := 61) (hK _ _ h) dX2_setStanding_61
def wp_X2_setStanding (ad : Nat → Nat) (G : gS) (t0 : Nat) (x1 : Int32) (o2 : Option Nat) (X : Nat → gS → Prop) (K : Int32 → gS → Prop) : Prop :=
  (gIs G t0 2 ∧ wp_X2_isBroom ad G t0 x1 X (fun r2 G1 => wp_X1_demand ad G1 r2 (some (ad 117)) X (fun G3 => wGetQ G3 t0 2 1 fun q4 => wNN q4 fun c5 => (gIs G3 c5 3 ∧ wp_J2_get ad G3 c5 x1 X (fun q7 G6 => wCast G6 q7 [8] (wNN q7 fun c8 => wGetQ G6 c8 8 1 fun q9 => (q9 = o2 → wp_X2_setStanding_35 ad X K G6 t0 x1 o2 (0 : Int32)) ∧ (¬ q9 = o2 → wp_X2_setStanding_35 ad X K G6 t0 x1 o2 (1 : Int32))))))))
theorem w_X2_setStanding {C : gCx} (hC : gOk C "GoblinHousehold$Household" cX2_setStanding [] (some .int) "setStanding" 3 9 247) {K : Int32 → gS → Prop} {X : Nat → gS → Prop} (hK : ∀ r G, K r G → cxK C (some (vI r)) G) (hX : ∀ q G, X q G → cxX C q G) {G : gS} {t0 : Nat} {x1 : Int32} {o2 : Option Nat} (h : wp_X2_setStanding (cxA C) G t0 x1 o2 X K) : gGo C G 0 [(0, vQ (some t0)), (1, vI x1), (2, vQ o2)] [] := by
  unfold wp_X2_setStanding at h
  refine g_aload_n hC (pc := 0) 0 rfl rfl dX2_setStanding_0 ?_
  refine g_iload_n hC (pc := 1) 1 rfl rfl dX2_setStanding_1 ?_
  obtain ⟨hi, h⟩ := h
  refine g_callV hC (pc := 2) (ci := 2) (As := [vI x1]) gc_X2_isBroom (m_X2_isBroom hC.fl h) rfl hi q1344 q1345 q1346 (gle rfl) (gle rfl) rfl (gle rfl) rfl dX2_setStanding_2 (gk_i fun r2 G1 h => ?_) (fun _ _ h hio => g_out0 hC (hX _ _ h) hio)
  refine g_ldcS hC (pc := 5) (List.mem_of_getElem? (i := 17) rfl) dX2_setStanding_5 ?_
  refine g_callSN hC (pc := 7) (b := 0) (As := [vI r2, vQ (some (cxA C 117))]) gc_X1_demand (m_X1_demand hC.fl h) (List.mem_of_getElem? (i := 3) rfl) q888 (gle rfl) (gle rfl) rfl (gle rfl) rfl dX2_setStanding_7 (gk_v fun G3 h => ?_) (fun _ _ h hio => g_out0 hC (hX _ _ h) hio)
  refine g_aload_n hC (pc := 10) 0 rfl rfl dX2_setStanding_10 ?_
  refine g_getQ hC (pc := 11) in_X2 (ci := 2) rfl 1 (by decide) q190 (Or.inl rfl) h dX2_setStanding_11 (fun q4 h => ?_)
  refine g_iload_n hC (pc := 14) 1 rfl rfl dX2_setStanding_14 ?_
  rcases q4 with _ | c5
  · exact (gNN0 h).elim
  replace h := gNN1 h
  obtain ⟨hi, h⟩ := h
  refine g_callF hC (pc := 15) (ci := 3) (As := [vI x1]) gc_J2_get (m_J2_get hC.fl h) rfl hi q361 (List.mem_of_getElem? (i := 2) rfl) rfl q364 q366 (gle rfl) (gle rfl) rfl (gle rfl) rfl dX2_setStanding_15 (gk_q fun q7 G6 h => ?_) (fun _ _ h hio => g_out0 hC (hX _ _ h) hio)
  refine g_cast hC (pc := 20) q786 h (List.forall_mem_cons.mpr ⟨⟨_, rfl, Or.inr ⟨rfl, by decide⟩⟩, fun _ h => nomatch h⟩) dX2_setStanding_20 (fun h => ?_)
  rcases q7 with _ | c8
  · exact (gNN0 h).elim
  replace h := gNN1 h
  refine g_getQN hC (pc := 23) in_X9 (ci := 8) rfl 1 (by decide) (List.mem_of_getElem? (i := 17) rfl) (Or.inl rfl) h dX2_setStanding_23 (fun q9 h => ?_)
  refine g_aload_n hC (pc := 26) 2 rfl rfl dX2_setStanding_26 ?_
  refine g_acmp_eq hC (pc := 27) 34 h (by decide) dX2_setStanding_27 (fun h => ?_) (fun h => ?_)
  · refine g_iconst hC (pc := 34) (v := (0 : Int32)) (by decide) dX2_setStanding_34 ?_
    exact g_sub [0, 1, 2] rfl (w_X2_setStanding_35 hC hK hX h)
  · refine g_iconst hC (pc := 30) (v := (1 : Int32)) (by decide) dX2_setStanding_30 ?_
    refine g_goto hC (pc := 31) 35 (by decide) dX2_setStanding_31 ?_
    exact g_sub [0, 1, 2] rfl (w_X2_setStanding_35 hC hK hX h)
theorem gc_X2_setStanding : gCode yX2_setStanding cX2_setStanding 3 (some .int) 2 := ⟨q1343, q95, ⟨by decide, by decide⟩, rfl⟩
theorem m_X2_setStanding {l : Launch} (hfl : l.stackTraces = false) {E : gE} {G : gS} {t0 : Nat} {x1 : Int32} {o2 : Option Nat} {X : Nat → gS → Prop} {K : Int32 → gS → Prop} (h : wp_X2_setStanding (gAd E) G t0 x1 o2 X K) : gMet l yX2_setStanding (ws_ yX2_setStanding cX2_setStanding 3 (some .int)) 9 247 [vQ (some t0), vI x1, vQ o2] E G (gRi K) X :=
  g_met hfl (plainFor_of_name (by decide +kernel)) rfl rfl rfl (gle rfl) (fun p e R s m args below meth c hC => w_X2_setStanding hC (fun _ _ h => h) (fun _ _ h => h) h)
def wp_X2_banish (ad : Nat → Nat) (G : gS) (t0 : Nat) (x1 : Int32) (X : Nat → gS → Prop) (K : Int32 → gS → Prop) : Prop :=
  (gIs G t0 2 ∧ wp_X2_setStanding ad G t0 x1 (some (ad 1)) X (fun r2 G1 => K r2 G1))
theorem w_X2_banish {C : gCx} (hC : gOk C "GoblinHousehold$Household" cX2_banish [] (some .int) "banish" 2 10 277) {K : Int32 → gS → Prop} {X : Nat → gS → Prop} (hK : ∀ r G, K r G → cxK C (some (vI r)) G) (hX : ∀ q G, X q G → cxX C q G) {G : gS} {t0 : Nat} {x1 : Int32} (h : wp_X2_banish (cxA C) G t0 x1 X K) : gGo C G 0 [(0, vQ (some t0)), (1, vI x1)] [] := by
  unfold wp_X2_banish at h
  refine g_aload_n hC (pc := 0) 0 rfl rfl dX2_banish_0 ?_
  refine g_iload_n hC (pc := 1) 1 rfl rfl dX2_banish_1 ?_
  refine g_stat hC (pc := 2) (List.mem_of_getElem? (i := 1) rfl) q1338 (fun _ _ h => h) dX2_banish_2 ?_
  obtain ⟨hi, h⟩ := h
  refine g_callV hC (pc := 5) (ci := 2) (As := [vI x1, vQ (some (cxA C 1))]) gc_X2_setStanding (m_X2_setStanding hC.fl h) rfl hi q1340 q1342 qs15 (gle rfl) (gle rfl) rfl (gle rfl) rfl dX2_banish_5 (gk_i fun r2 G1 h => ?_) (fun _ _ h hio => g_out0 hC (hX _ _ h) hio)
  exact g_iret hC (pc := 8) (hK _ _ h) dX2_banish_8
theorem gc_X2_banish : gCode yX2_banish cX2_banish 2 (some .int) 1 := ⟨q1337, q95, ⟨by decide, by decide⟩, rfl⟩
theorem m_X2_banish {l : Launch} (hfl : l.stackTraces = false) {E : gE} {G : gS} {t0 : Nat} {x1 : Int32} {X : Nat → gS → Prop} {K : Int32 → gS → Prop} (h : wp_X2_banish (gAd E) G t0 x1 X K) : gMet l yX2_banish (ws_ yX2_banish cX2_banish 2 (some .int)) 10 277 [vQ (some t0), vI x1] E G (gRi K) X :=
  g_met hfl (plainFor_of_name (by decide +kernel)) rfl rfl rfl (gle rfl) (fun p e R s m args below meth c hC => w_X2_banish hC (fun _ _ h => h) (fun _ _ h => h) h)
def wp_X1_lambda_banishBroom_2 (ad : Nat → Nat) (G : gS) (x0 : Int32) (o1 : Option Nat) (X : Nat → gS → Prop) (K : Int32 → gS → Prop) : Prop :=
  wNN o1 fun c1 => (gIs G c1 2 ∧ wp_X2_banish ad G c1 x0 X (fun r3 G2 => K r3 G2))
theorem w_X1_lambda_banishBroom_2 {C : gCx} (hC : gOk C "GoblinHousehold" cX1_lambda_banishBroom_2 [] (some .int) "lambda$banishBroom$2" 2 11 306) {K : Int32 → gS → Prop} {X : Nat → gS → Prop} (hK : ∀ r G, K r G → cxK C (some (vI r)) G) (hX : ∀ q G, X q G → cxX C q G) {G : gS} {x0 : Int32} {o1 : Option Nat} (h : wp_X1_lambda_banishBroom_2 (cxA C) G x0 o1 X K) : gGo C G 0 [(0, vI x0), (1, vQ o1)] [] := by
  unfold wp_X1_lambda_banishBroom_2 at h
  refine g_aload_n hC (pc := 0) 1 rfl rfl dX1_lambda_banishBroom_2_0 ?_
  refine g_iload_n hC (pc := 1) 0 rfl rfl dX1_lambda_banishBroom_2_1 ?_
  rcases o1 with _ | c1
  · exact (gNN0 h).elim
  replace h := gNN1 h
  obtain ⟨hi, h⟩ := h
  refine g_callV hC (pc := 2) (ci := 2) (As := [vI x0]) gc_X2_banish (m_X2_banish hC.fl h) rfl hi q1334 q1335 q1336 (gle rfl) (gle rfl) rfl (gle rfl) rfl dX1_lambda_banishBroom_2_2 (gk_i fun r3 G2 h => ?_) (fun _ _ h hio => g_out0 hC (hX _ _ h) hio)
  exact g_iret hC (pc := 5) (hK _ _ h) dX1_lambda_banishBroom_2_5
theorem gc_X1_lambda_banishBroom_2 : gCode yX1_lambda_banishBroom_2 cX1_lambda_banishBroom_2 2 (some .int) 2 := ⟨q1333, q94, ⟨by decide, by decide⟩, rfl⟩
theorem m_X1_lambda_banishBroom_2 {l : Launch} (hfl : l.stackTraces = false) {E : gE} {G : gS} {x0 : Int32} {o1 : Option Nat} {X : Nat → gS → Prop} {K : Int32 → gS → Prop} (h : wp_X1_lambda_banishBroom_2 (gAd E) G x0 o1 X K) : gMet l yX1_lambda_banishBroom_2 (ws_ yX1_lambda_banishBroom_2 cX1_lambda_banishBroom_2 2 (some .int)) 11 306 [vI x0, vQ o1] E G (gRi K) X :=
  g_met hfl (plainFor_of_name (by decide +kernel)) rfl rfl rfl (gle rfl) (fun p e R s m args below meth c hC => w_X1_lambda_banishBroom_2 hC (fun _ _ h => h) (fun _ _ h => h) h)
def wp_X2_recall (ad : Nat → Nat) (G : gS) (t0 : Nat) (x1 : Int32) (X : Nat → gS → Prop) (K : Int32 → gS → Prop) : Prop :=
  (gIs G t0 2 ∧ wp_X2_setStanding ad G t0 x1 (some (ad 0)) X (fun r2 G1 => K r2 G1))
theorem w_X2_recall {C : gCx} (hC : gOk C "GoblinHousehold$Household" cX2_recall [] (some .int) "recall" 2 10 277) {K : Int32 → gS → Prop} {X : Nat → gS → Prop} (hK : ∀ r G, K r G → cxK C (some (vI r)) G) (hX : ∀ q G, X q G → cxX C q G) {G : gS} {t0 : Nat} {x1 : Int32} (h : wp_X2_recall (cxA C) G t0 x1 X K) : gGo C G 0 [(0, vQ (some t0)), (1, vI x1)] [] := by
  unfold wp_X2_recall at h
  refine g_aload_n hC (pc := 0) 0 rfl rfl dX2_recall_0 ?_
  refine g_iload_n hC (pc := 1) 1 rfl rfl dX2_recall_1 ?_
  refine g_stat hC (pc := 2) (List.mem_of_getElem? (i := 0) rfl) q1362 (fun _ _ h => h) dX2_recall_2 ?_
  obtain ⟨hi, h⟩ := h
  refine g_callV hC (pc := 5) (ci := 2) (As := [vI x1, vQ (some (cxA C 0))]) gc_X2_setStanding (m_X2_setStanding hC.fl h) rfl hi q1340 q1342 qs15 (gle rfl) (gle rfl) rfl (gle rfl) rfl dX2_recall_5 (gk_i fun r2 G1 h => ?_) (fun _ _ h hio => g_out0 hC (hX _ _ h) hio)
  exact g_iret hC (pc := 8) (hK _ _ h) dX2_recall_8
theorem gc_X2_recall : gCode yX2_recall cX2_recall 2 (some .int) 1 := ⟨q1361, q95, ⟨by decide, by decide⟩, rfl⟩
theorem m_X2_recall {l : Launch} (hfl : l.stackTraces = false) {E : gE} {G : gS} {t0 : Nat} {x1 : Int32} {X : Nat → gS → Prop} {K : Int32 → gS → Prop} (h : wp_X2_recall (gAd E) G t0 x1 X K) : gMet l yX2_recall (ws_ yX2_recall cX2_recall 2 (some .int)) 10 277 [vQ (some t0), vI x1] E G (gRi K) X :=
  g_met hfl (plainFor_of_name (by decide +kernel)) rfl rfl rfl (gle rfl) (fun p e R s m args below meth c hC => w_X2_recall hC (fun _ _ h => h) (fun _ _ h => h) h)
def wp_X1_lambda_recallBroom_3 (ad : Nat → Nat) (G : gS) (x0 : Int32) (o1 : Option Nat) (X : Nat → gS → Prop) (K : Int32 → gS → Prop) : Prop :=
  wNN o1 fun c1 => (gIs G c1 2 ∧ wp_X2_recall ad G c1 x0 X (fun r3 G2 => K r3 G2))
theorem w_X1_lambda_recallBroom_3 {C : gCx} (hC : gOk C "GoblinHousehold" cX1_lambda_recallBroom_3 [] (some .int) "lambda$recallBroom$3" 2 11 306) {K : Int32 → gS → Prop} {X : Nat → gS → Prop} (hK : ∀ r G, K r G → cxK C (some (vI r)) G) (hX : ∀ q G, X q G → cxX C q G) {G : gS} {x0 : Int32} {o1 : Option Nat} (h : wp_X1_lambda_recallBroom_3 (cxA C) G x0 o1 X K) : gGo C G 0 [(0, vI x0), (1, vQ o1)] [] := by
  unfold wp_X1_lambda_recallBroom_3 at h
  refine g_aload_n hC (pc := 0) 1 rfl rfl dX1_lambda_recallBroom_3_0 ?_
  refine g_iload_n hC (pc := 1) 0 rfl rfl dX1_lambda_recallBroom_3_1 ?_
  rcases o1 with _ | c1
  · exact (gNN0 h).elim
  replace h := gNN1 h
  obtain ⟨hi, h⟩ := h
  refine g_callV hC (pc := 2) (ci := 2) (As := [vI x0]) gc_X2_recall (m_X2_recall hC.fl h) rfl hi q1358 q1359 q1360 (gle rfl) (gle rfl) rfl (gle rfl) rfl dX1_lambda_recallBroom_3_2 (gk_i fun r3 G2 h => ?_) (fun _ _ h hio => g_out0 hC (hX _ _ h) hio)
  exact g_iret hC (pc := 5) (hK _ _ h) dX1_lambda_recallBroom_3_5
theorem gc_X1_lambda_recallBroom_3 : gCode yX1_lambda_recallBroom_3 cX1_lambda_recallBroom_3 2 (some .int) 2 := ⟨q1357, q94, ⟨by decide, by decide⟩, rfl⟩
theorem m_X1_lambda_recallBroom_3 {l : Launch} (hfl : l.stackTraces = false) {E : gE} {G : gS} {x0 : Int32} {o1 : Option Nat} {X : Nat → gS → Prop} {K : Int32 → gS → Prop} (h : wp_X1_lambda_recallBroom_3 (gAd E) G x0 o1 X K) : gMet l yX1_lambda_recallBroom_3 (ws_ yX1_lambda_recallBroom_3 cX1_lambda_recallBroom_3 2 (some .int)) 11 306 [vI x0, vQ o1] E G (gRi K) X :=
  g_met hfl (plainFor_of_name (by decide +kernel)) rfl rfl rfl (gle rfl) (fun p e R s m args below meth c hC => w_X1_lambda_recallBroom_3 hC (fun _ _ h => h) (fun _ _ h => h) h)
def wp_X2_isGoblin (ad : Nat → Nat) (G : gS) (t0 : Nat) (x1 : Int32) (X : Nat → gS → Prop) (K : Int32 → gS → Prop) : Prop :=
  wGetQ G t0 2 2 fun q1 => wNN q1 fun c2 => (gIs G c2 3 ∧ wp_J2_size ad G c2  X (fun r4 G3 => wp_X1_isBetween ad G3 x1 (0 : Int32) (r4 - (1 : Int32)) X (fun r6 G5 => gNar .boolean r6 ∧ K r6 G5)))
theorem w_X2_isGoblin {C : gCx} (hC : gOk C "GoblinHousehold$Household" cX2_isGoblin [] (some .boolean) "isGoblin" 2 1 30) {K : Int32 → gS → Prop} {X : Nat → gS → Prop} (hK : ∀ r G, K r G → cxK C (some (vI r)) G) (hX : ∀ q G, X q G → cxX C q G) {G : gS} {t0 : Nat} {x1 : Int32} (h : wp_X2_isGoblin (cxA C) G t0 x1 X K) : gGo C G 0 [(0, vQ (some t0)), (1, vI x1)] [] := by
  unfold wp_X2_isGoblin at h
  refine g_iload_n hC (pc := 0) 1 rfl rfl dX2_isGoblin_0 ?_
  refine g_iconst hC (pc := 1) (v := (0 : Int32)) (by decide) dX2_isGoblin_1 ?_
  refine g_aload_n hC (pc := 2) 0 rfl rfl dX2_isGoblin_2 ?_
  refine g_getQ hC (pc := 3) in_X2 (ci := 2) rfl 2 (by decide) q192 (Or.inl rfl) h dX2_isGoblin_3 (fun q1 h => ?_)
  rcases q1 with _ | c2
  · exact (gNN0 h).elim
  replace h := gNN1 h
  obtain ⟨hi, h⟩ := h
  refine g_callF hC (pc := 6) (ci := 3) (As := []) gc_J2_size (m_J2_size hC.fl h) rfl hi q359 (List.mem_of_getElem? (i := 0) rfl) rfl q323 q325 (gle rfl) (gle rfl) rfl (gle rfl) rfl dX2_isGoblin_6 (gk_i fun r4 G3 h => ?_) (fun _ _ h hio => g_out0 hC (hX _ _ h) hio)
  refine g_iconst hC (pc := 11) (v := (1 : Int32)) (by decide) dX2_isGoblin_11 ?_
  refine g_isub hC (pc := 12) dX2_isGoblin_12 ?_
  refine g_callSN hC (pc := 13) (b := 0) (As := [vI x1, vI (0 : Int32), vI (r4 - (1 : Int32))]) gc_X1_isBetween (m_X1_isBetween hC.fl h) (List.mem_of_getElem? (i := 2) rfl) q884 (gle rfl) (gle rfl) rfl (gle rfl) rfl dX2_isGoblin_13 (gk_i fun r6 G5 h => ?_) (fun _ _ h hio => g_out0 hC (hX _ _ h) hio)
  exact g_zret hC (pc := 16) h.1 (hK _ _ h.2) dX2_isGoblin_16
theorem gc_X2_isGoblin : gCode yX2_isGoblin cX2_isGoblin 2 (some .boolean) 1 := ⟨q1380, q95, ⟨by decide, by decide⟩, rfl⟩
theorem m_X2_isGoblin {l : Launch} (hfl : l.stackTraces = false) {E : gE} {G : gS} {t0 : Nat} {x1 : Int32} {X : Nat → gS → Prop} {K : Int32 → gS → Prop} (h : wp_X2_isGoblin (gAd E) G t0 x1 X K) : gMet l yX2_isGoblin (ws_ yX2_isGoblin cX2_isGoblin 2 (some .boolean)) 1 30 [vQ (some t0), vI x1] E G (gRi K) X :=
  g_met hfl (plainFor_of_name (by decide +kernel)) rfl rfl rfl (gle rfl) (fun p e R s m args below meth c hC => w_X2_isGoblin hC (fun _ _ h => h) (fun _ _ h => h) h)
def wp_X2_hasContract_62 (ad : Nat → Nat) (X : Nat → gS → Prop) (K : Int32 → gS → Prop) (J5 : gS → Nat → Int32 → Int32 → Int32 → Int32 → Prop) (G : gS) (t0 : Nat) (x1 : Int32) (x2 : Int32) (x4 : Int32) (xs0 : Int32) : Prop :=
  J5 G t0 x1 x2 xs0 (x4 + (1 : Int32))
theorem w_X2_hasContract_62 {C : gCx} (hC : gOk C "GoblinHousehold$Household" cX2_hasContract [] (some .boolean) "hasContract" 6 3 88) {K : Int32 → gS → Prop} {X : Nat → gS → Prop} (hK : ∀ r G, K r G → cxK C (some (vI r)) G) (hX : ∀ q G, X q G → cxX C q G) {J5 : gS → Nat → Int32 → Int32 → Int32 → Int32 → Prop} (hJ5 : ∀ G z0 z1 z2 z3 z4, J5 G z0 z1 z2 z3 z4 → gGo C G 5 [(0, vQ (some z0)), (1, vI z1), (2, vI z2), (3, vI z3), (4, vI z4)] []) {G : gS} {t0 : Nat} {x1 : Int32} {x2 : Int32} {x4 : Int32} {xs0 : Int32} (h : wp_X2_hasContract_62 (cxA C) X K J5 G t0 x1 x2 x4 xs0) : gGo C G 62 [(0, vQ (some t0)), (1, vI x1), (2, vI x2), (4, vI x4)] [vI xs0] := by
  unfold wp_X2_hasContract_62 at h
  refine g_istore_n hC (pc := 62) (lv' := [(3, vI xs0), (0, vQ (some t0)), (1, vI x1), (2, vI x2), (4, vI x4)]) rfl (by decide) rfl dX2_hasContract_62 ?_
  refine g_iinc hC (pc := 63) 4 (d := (1 : Int32)) (v := (x4 + (1 : Int32))) (lv' := [(4, vI (x4 + (1 : Int32))), (3, vI xs0), (0, vQ (some t0)), (1, vI x1), (2, vI x2)]) rfl (by decide) rfl (by decide) rfl dX2_hasContract_63 ?_
  refine g_goto hC (pc := 66) 5 (by decide) dX2_hasContract_66 ?_
  exact g_sub [2, 3, 4, 1, 0] rfl (hJ5 _ _ _ _ _ _ h)
def wp_X2_hasContract_57 (ad : Nat → Nat) (X : Nat → gS → Prop) (K : Int32 → gS → Prop) (J5 : gS → Nat → Int32 → Int32 → Int32 → Int32 → Prop) (G : gS) (t0 : Nat) (x1 : Int32) (x2 : Int32) (x4 : Int32) : Prop :=
  wp_X2_hasContract_62 ad X K J5 G t0 x1 x2 x4 (1 : Int32)
theorem w_X2_hasContract_57 {C : gCx} (hC : gOk C "GoblinHousehold$Household" cX2_hasContract [] (some .boolean) "hasContract" 6 3 88) {K : Int32 → gS → Prop} {X : Nat → gS → Prop} (hK : ∀ r G, K r G → cxK C (some (vI r)) G) (hX : ∀ q G, X q G → cxX C q G) {J5 : gS → Nat → Int32 → Int32 → Int32 → Int32 → Prop} (hJ5 : ∀ G z0 z1 z2 z3 z4, J5 G z0 z1 z2 z3 z4 → gGo C G 5 [(0, vQ (some z0)), (1, vI z1), (2, vI z2), (3, vI z3), (4, vI z4)] []) {G : gS} {t0 : Nat} {x1 : Int32} {x2 : Int32} {x4 : Int32} (h : wp_X2_hasContract_57 (cxA C) X K J5 G t0 x1 x2 x4) : gGo C G 57 [(0, vQ (some t0)), (1, vI x1), (2, vI x2), (4, vI x4)] [] := by
  unfold wp_X2_hasContract_57 at h
  refine g_iconst hC (pc := 57) (v := (1 : Int32)) (by decide) dX2_hasContract_57 ?_
  refine g_goto hC (pc := 58) 62 (by decide) dX2_hasContract_58 ?_
  exact g_sub [0, 1, 2, 3] rfl (w_X2_hasContract_62 hC hK hX hJ5 h)
def wp_X2_hasContract_61 (ad : Nat → Nat) (X : Nat → gS → Prop) (K : Int32 → gS → Prop) (J5 : gS → Nat → Int32 → Int32 → Int32 → Int32 → Prop) (G : gS) (t0 : Nat) (x1 : Int32) (x2 : Int32) (x4 : Int32) : Prop :=
  wp_X2_hasContract_62 ad X K J5 G t0 x1 x2 x4 (0 : Int32)
theorem w_X2_hasContract_61 {C : gCx} (hC : gOk C "GoblinHousehold$Household" cX2_hasContract [] (some .boolean) "hasContract" 6 3 88) {K : Int32 → gS → Prop} {X : Nat → gS → Prop} (hK : ∀ r G, K r G → cxK C (some (vI r)) G) (hX : ∀ q G, X q G → cxX C q G) {J5 : gS → Nat → Int32 → Int32 → Int32 → Int32 → Prop} (hJ5 : ∀ G z0 z1 z2 z3 z4, J5 G z0 z1 z2 z3 z4 → gGo C G 5 [(0, vQ (some z0)), (1, vI z1), (2, vI z2), (3, vI z3), (4, vI z4)] []) {G : gS} {t0 : Nat} {x1 : Int32} {x2 : Int32} {x4 : Int32} (h : wp_X2_hasContract_61 (cxA C) X K J5 G t0 x1 x2 x4) : gGo C G 61 [(0, vQ (some t0)), (1, vI x1), (2, vI x2), (4, vI x4)] [] := by
  unfold wp_X2_hasContract_61 at h
  refine g_iconst hC (pc := 61) (v := (0 : Int32)) (by decide) dX2_hasContract_61 ?_
  exact g_sub [0, 1, 2, 3] rfl (w_X2_hasContract_62 hC hK hX hJ5 h)
def wp_X2_hasContract_5 (ad : Nat → Nat) (X : Nat → gS → Prop) (K : Int32 → gS → Prop) (J5 : gS → Nat → Int32 → Int32 → Int32 → Int32 → Prop) (G : gS) (t0 : Nat) (x1 : Int32) (x2 : Int32) (x3 : Int32) (x4 : Int32) : Prop :=
  wGetQ G t0 2 3 fun q1 => wNN q1 fun c2 => (gIs G c2 3 ∧ wp_J2_size ad G c2  X (fun r4 G3 => (r4 ≤ x4 → gNar .boolean x3 ∧ K x3 G3) ∧ (¬ r4 ≤ x4 → wGetQ G3 t0 2 3 fun q5 => wNN q5 fun c6 => (gIs G3 c6 3 ∧ wp_J2_get ad G3 c6 x4 X (fun q8 G7 => wCast G7 q8 [10] ((¬ x3 = (0 : Int32) → wp_X2_hasContract_57 ad X K J5 G7 t0 x1 x2 x4) ∧ (x3 = (0 : Int32) → wNN q8 fun c9 => wGetI G7 c9 10 1 fun i10 => (¬ i10 = x1 → wp_X2_hasContract_61 ad X K J5 G7 t0 x1 x2 x4) ∧ (i10 = x1 → wGetI G7 c9 10 2 fun i11 => (¬ i11 = x2 → wp_X2_hasContract_61 ad X K J5 G7 t0 x1 x2 x4) ∧ (i11 = x2 → wp_X2_hasContract_57 ad X K J5 G7 t0 x1 x2 x4)))))))))
theorem w_X2_hasContract_5 {C : gCx} (hC : gOk C "GoblinHousehold$Household" cX2_hasContract [] (some .boolean) "hasContract" 6 3 88) {K : Int32 → gS → Prop} {X : Nat → gS → Prop} (hK : ∀ r G, K r G → cxK C (some (vI r)) G) (hX : ∀ q G, X q G → cxX C q G) (n : Nat) : ∀ (G : gS) (t0 : Nat) (x1 : Int32) (x2 : Int32) (x3 : Int32) (x4 : Int32), gLoop (fun _ _ _ _ _ _ => False) (wp_X2_hasContract_5 (cxA C) X K) n G t0 x1 x2 x3 x4 → gGo C G 5 [(0, vQ (some t0)), (1, vI x1), (2, vI x2), (3, vI x3), (4, vI x4)] [] := by
  induction n with
  | zero => intro G t0 x1 x2 x3 x4 h; exact h.elim
  | succ n ih =>
    intro G t0 x1 x2 x3 x4 h
    have hJ5 := ih
    replace h : wp_X2_hasContract_5 (cxA C) X K _ G t0 x1 x2 x3 x4 := h
    unfold wp_X2_hasContract_5 at h
    refine g_iload hC (pc := 5) 4 rfl dX2_hasContract_5 ?_
    refine g_aload_n hC (pc := 7) 0 rfl rfl dX2_hasContract_7 ?_
    refine g_getQ hC (pc := 8) in_X2 (ci := 2) rfl 3 (by decide) q194 (Or.inl rfl) h dX2_hasContract_8 (fun q1 h => ?_)
    rcases q1 with _ | c2
    · exact (gNN0 h).elim
    replace h := gNN1 h
    obtain ⟨hi, h⟩ := h
    refine g_callF hC (pc := 11) (ci := 3) (As := []) gc_J2_size (m_J2_size hC.fl h) rfl hi q359 (List.mem_of_getElem? (i := 0) rfl) rfl q323 q325 (gle rfl) (gle rfl) rfl (gle rfl) rfl dX2_hasContract_11 (gk_i fun r4 G3 h => ?_) (fun _ _ h hio => g_out0 hC (hX _ _ h) hio)
    refine g_icmp_ge hC (pc := 16) 69 h (by decide) dX2_hasContract_16 (fun h => ?_) (fun h => ?_)
    · refine g_iload_n hC (pc := 69) 3 rfl rfl dX2_hasContract_69 ?_
      exact g_zret hC (pc := 70) h.1 (hK _ _ h.2) dX2_hasContract_70
    · refine g_aload_n hC (pc := 19) 0 rfl rfl dX2_hasContract_19 ?_
      refine g_getQ hC (pc := 20) in_X2 (ci := 2) rfl 3 (by decide) q194 (Or.inl rfl) h dX2_hasContract_20 (fun q5 h => ?_)
      refine g_iload hC (pc := 23) 4 rfl dX2_hasContract_23 ?_
      rcases q5 with _ | c6
      · exact (gNN0 h).elim
      replace h := gNN1 h
      obtain ⟨hi, h⟩ := h
      refine g_callF hC (pc := 25) (ci := 3) (As := [vI x4]) gc_J2_get (m_J2_get hC.fl h) rfl hi q361 (List.mem_of_getElem? (i := 2) rfl) rfl q364 q366 (gle rfl) (gle rfl) rfl (gle rfl) rfl dX2_hasContract_25 (gk_q fun q8 G7 h => ?_) (fun _ _ h hio => g_out0 hC (hX _ _ h) hio)
      refine g_cast hC (pc := 30) q764 h (List.forall_mem_cons.mpr ⟨⟨_, rfl, Or.inr ⟨rfl, by decide⟩⟩, fun _ h => nomatch h⟩) dX2_hasContract_30 (fun h => ?_)
      refine g_astore hC (pc := 33) (lv' := [(5, vQ q8), (0, vQ (some t0)), (1, vI x1), (2, vI x2), (3, vI x3), (4, vI x4)]) (by decide) rfl dX2_hasContract_33 ?_
      refine g_iload_n hC (pc := 35) 4 rfl rfl dX2_hasContract_35 ?_
      refine g_if_ne hC (pc := 36) 57 h (by decide) dX2_hasContract_36 (fun h => ?_) (fun h => ?_)
      · exact g_sub [1, 2, 3, 5] rfl (w_X2_hasContract_57 hC hK hX hJ5 h)
      · refine g_aload hC (pc := 39) 0 rfl dX2_hasContract_39 ?_
        rcases q8 with _ | c9
        · exact (gNN0 h).elim
        replace h := gNN1 h
        refine g_getIN hC (pc := 41) in_X10 (ci := 10) rfl 1 (by decide) (List.mem_of_getElem? (i := 20) rfl) (Or.inl rfl) h dX2_hasContract_41 (fun i10 h => ?_)
        refine g_iload_n hC (pc := 44) 2 rfl rfl dX2_hasContract_44 ?_
        refine g_icmp_ne hC (pc := 45) 61 h (by decide) dX2_hasContract_45 (fun h => ?_) (fun h => ?_)
        · exact g_sub [1, 2, 3, 5] rfl (w_X2_hasContract_61 hC hK hX hJ5 h)
        · refine g_aload hC (pc := 48) 0 rfl dX2_hasContract_48 ?_
          refine g_getIN hC (pc := 50) in_X10 (ci := 10) rfl 2 (by decide) (List.mem_of_getElem? (i := 22) rfl) (Or.inl rfl) h dX2_hasContract_50 (fun i11 h => ?_)
          refine g_iload_n hC (pc := 53) 3 rfl rfl dX2_hasContract_53 ?_
          refine g_icmp_ne hC (pc := 54) 61 h (by decide) dX2_hasContract_54 (fun h => ?_) (fun h => ?_)
          · exact g_sub [1, 2, 3, 5] rfl (w_X2_hasContract_61 hC hK hX hJ5 h)
          · exact g_sub [1, 2, 3, 5] rfl (w_X2_hasContract_57 hC hK hX hJ5 h)
def wp_X2_hasContract (ad : Nat → Nat) (G : gS) (t0 : Nat) (x1 : Int32) (x2 : Int32) (X : Nat → gS → Prop) (K : Int32 → gS → Prop) : Prop :=
  gLoop (fun _ _ _ _ _ _ => False) (wp_X2_hasContract_5 ad X K) gFuel G t0 x1 x2 (0 : Int32) (0 : Int32)
theorem w_X2_hasContract {C : gCx} (hC : gOk C "GoblinHousehold$Household" cX2_hasContract [] (some .boolean) "hasContract" 6 3 88) {K : Int32 → gS → Prop} {X : Nat → gS → Prop} (hK : ∀ r G, K r G → cxK C (some (vI r)) G) (hX : ∀ q G, X q G → cxX C q G) {G : gS} {t0 : Nat} {x1 : Int32} {x2 : Int32} (h : wp_X2_hasContract (cxA C) G t0 x1 x2 X K) : gGo C G 0 [(0, vQ (some t0)), (1, vI x1), (2, vI x2)] [] := by
  unfold wp_X2_hasContract at h
  refine g_iconst hC (pc := 0) (v := (0 : Int32)) (by decide) dX2_hasContract_0 ?_
  refine g_istore_n hC (pc := 1) (lv' := [(3, vI (0 : Int32)), (0, vQ (some t0)), (1, vI x1), (2, vI x2)]) rfl (by decide) rfl dX2_hasContract_1 ?_
  refine g_iconst hC (pc := 2) (v := (0 : Int32)) (by decide) dX2_hasContract_2 ?_
  refine g_istore hC (pc := 3) (lv' := [(4, vI (0 : Int32)), (3, vI (0 : Int32)), (0, vQ (some t0)), (1, vI x1), (2, vI x2)]) (by decide) rfl dX2_hasContract_3 ?_
  exact g_sub [2, 3, 4, 1, 0] rfl (w_X2_hasContract_5 hC hK hX gFuel _ _ _ _ _ _ h)
theorem gc_X2_hasContract : gCode yX2_hasContract cX2_hasContract 6 (some .boolean) 2 := ⟨q824, q95, ⟨by decide, by decide⟩, rfl⟩
theorem m_X2_hasContract {l : Launch} (hfl : l.stackTraces = false) {E : gE} {G : gS} {t0 : Nat} {x1 : Int32} {x2 : Int32} {X : Nat → gS → Prop} {K : Int32 → gS → Prop} (h : wp_X2_hasContract (gAd E) G t0 x1 x2 X K) : gMet l yX2_hasContract (ws_ yX2_hasContract cX2_hasContract 6 (some .boolean)) 3 88 [vQ (some t0), vI x1, vI x2] E G (gRi K) X :=
  g_met hfl (plainFor_of_name (by decide +kernel)) rfl rfl rfl (gle rfl) (fun p e R s m args below meth c hC => w_X2_hasContract hC (fun _ _ h => h) (fun _ _ h => h) h)
def wp_X10_init (ad : Nat → Nat) (G : gS) (t0 : Nat) (x1 : Int32) (x2 : Int32) (x3 : Int32) (x4 : Int32) (x5 : Int32) (X : Nat → gS → Prop) (K : gS → Prop) : Prop :=
  wPut G t0 10 0 (.int x1) fun G1 => wPut G1 t0 10 1 (.int x2) fun G2 => wPut G2 t0 10 2 (.int x3) fun G3 => wPut G3 t0 10 3 (.int x4) fun G4 => wPut G4 t0 10 4 (.int x5) fun G5 => K G5
theorem w_X10_init {C : gCx} (hC : gOk C "GoblinHousehold$Contract" cX10_init [] none "<init>" 6 1 28) {K : gS → Prop} {X : Nat → gS → Prop} (hK : ∀ G, K G → cxK C none G) (hX : ∀ q G, X q G → cxX C q G) {G : gS} {t0 : Nat} {x1 : Int32} {x2 : Int32} {x3 : Int32} {x4 : Int32} {x5 : Int32} (h : wp_X10_init (cxA C) G t0 x1 x2 x3 x4 x5 X K) : gGo C G 0 [(0, vQ (some t0)), (1, vI x1), (2, vI x2), (3, vI x3), (4, vI x4), (5, vI x5)] [] := by
  unfold wp_X10_init at h
  refine g_aload_n hC (pc := 0) 0 rfl rfl dX10_init_0 ?_
  refine g_objInit hC (pc := 1) q1386 q151 q152 (gle rfl) (gle rfl) (gle rfl) dX10_init_1 ?_
  refine g_aload_n hC (pc := 4) 0 rfl rfl dX10_init_4 ?_
  refine g_iload_n hC (pc := 5) 1 rfl rfl dX10_init_5 ?_
  refine g_putF hC (pc := 6) in_X10 (ci := 10) rfl 0 (by decide) tyX10_ok nmX10 q1387 (Or.inl rfl) rfl rfl rfl rfl rfl h dX10_init_6 (fun G1 h => ?_)
  refine g_aload_n hC (pc := 9) 0 rfl rfl dX10_init_9 ?_
  refine g_iload_n hC (pc := 10) 2 rfl rfl dX10_init_10 ?_
  refine g_putF hC (pc := 11) in_X10 (ci := 10) rfl 1 (by decide) tyX10_ok nmX10 q1390 (Or.inl rfl) rfl rfl rfl rfl rfl h dX10_init_11 (fun G2 h => ?_)
  refine g_aload_n hC (pc := 14) 0 rfl rfl dX10_init_14 ?_
  refine g_iload_n hC (pc := 15) 3 rfl rfl dX10_init_15 ?_
  refine g_putF hC (pc := 16) in_X10 (ci := 10) rfl 2 (by decide) tyX10_ok nmX10 q1393 (Or.inl rfl) rfl rfl rfl rfl rfl h dX10_init_16 (fun G3 h => ?_)
  refine g_aload_n hC (pc := 19) 0 rfl rfl dX10_init_19 ?_
  refine g_iload hC (pc := 20) 4 rfl dX10_init_20 ?_
  refine g_putF hC (pc := 22) in_X10 (ci := 10) rfl 3 (by decide) tyX10_ok nmX10 q1396 (Or.inl rfl) rfl rfl rfl rfl rfl h dX10_init_22 (fun G4 h => ?_)
  refine g_aload_n hC (pc := 25) 0 rfl rfl dX10_init_25 ?_
  refine g_iload hC (pc := 26) 5 rfl dX10_init_26 ?_
  refine g_putF hC (pc := 28) in_X10 (ci := 10) rfl 4 (by decide) tyX10_ok nmX10 q1400 (Or.inl rfl) rfl rfl rfl rfl rfl h dX10_init_28 (fun G5 h => ?_)
  exact g_vret hC (pc := 31) (hK _ h) dX10_init_31
theorem gc_X10_init : gCode yX10_init cX10_init 6 none 5 := ⟨q1385, q133, ⟨by decide, by decide⟩, rfl⟩
theorem m_X10_init {l : Launch} (hfl : l.stackTraces = false) {E : gE} {G : gS} {t0 : Nat} {x1 : Int32} {x2 : Int32} {x3 : Int32} {x4 : Int32} {x5 : Int32} {X : Nat → gS → Prop} {K : gS → Prop} (h : wp_X10_init (gAd E) G t0 x1 x2 x3 x4 x5 X K) : gMet l yX10_init (ws_ yX10_init cX10_init 6 none) 1 28 [vQ (some t0), vI x1, vI x2, vI x3, vI x4, vI x5] E G (gRv K) X :=
  g_met hfl (plainFor_of_name (by decide +kernel)) rfl rfl rfl (gle rfl) (fun p e R s m args below meth c hC => w_X10_init hC (fun _ h => h) (fun _ _ h => h) h)
def wp_X2_hire_96 (ad : Nat → Nat) (X : Nat → gS → Prop) (K : Int32 → gS → Prop) (G : gS) (t0 : Nat) (x1 : Int32) (x2 : Int32) (x3 : Int32) (x4 : Int32) (xs0 : Int32) : Prop :=
  wp_X1_demand ad G xs0 (some (ad 118)) X (fun G1 => wGetQ G1 t0 2 3 fun q2 => wNew G1 10 5 [.int 0, .int 0, .int 0, .int 0, .int 0] fun c4 G3 => wGetI G3 t0 2 4 fun i5 => wp_X10_init ad G3 c4 i5 x1 x2 x3 x4 X (fun G6 => wNN q2 fun c7 => (gIs G6 c7 3 ∧ wp_J2_add ad G6 c7 (some c4) X (fun r9 G8 => wGetI G8 t0 2 4 fun i10 => wPut G8 t0 2 4 (.int (i10 + (1 : Int32))) fun G11 => wGetI G11 t0 2 4 fun i12 => K (i12 - (1 : Int32)) G11))))
theorem w_X2_hire_96 {C : gCx} (hC : gOk C "GoblinHousehold$Household" cX2_hire [] (some .int) "hire" 5 9 247) {K : Int32 → gS → Prop} {X : Nat → gS → Prop} (hK : ∀ r G, K r G → cxK C (some (vI r)) G) (hX : ∀ q G, X q G → cxX C q G) {G : gS} {t0 : Nat} {x1 : Int32} {x2 : Int32} {x3 : Int32} {x4 : Int32} {xs0 : Int32} (h : wp_X2_hire_96 (cxA C) X K G t0 x1 x2 x3 x4 xs0) : gGo C G 96 [(0, vQ (some t0)), (1, vI x1), (2, vI x2), (3, vI x3), (4, vI x4)] [vI xs0] := by
  unfold wp_X2_hire_96 at h
  refine g_ldcS hC (pc := 96) (List.mem_of_getElem? (i := 18) rfl) dX2_hire_96 ?_
  refine g_callSN hC (pc := 98) (b := 0) (As := [vI xs0, vQ (some (cxA C 118))]) gc_X1_demand (m_X1_demand hC.fl h) (List.mem_of_getElem? (i := 3) rfl) q888 (gle rfl) (gle rfl) rfl (gle rfl) rfl dX2_hire_98 (gk_v fun G1 h => ?_) (fun _ _ h hio => g_out0 hC (hX _ _ h) hio)
  refine g_aload_n hC (pc := 101) 0 rfl rfl dX2_hire_101 ?_
  refine g_getQ hC (pc := 102) in_X2 (ci := 2) rfl 3 (by decide) q194 (Or.inl rfl) h dX2_hire_102 (fun q2 h => ?_)
  refine g_new hC (pc := 105) in_X10 (ci := 10) rfl (by decide) tyX10_ok q764 q1382 q133 gdf_X10 h dX2_hire_105 (fun c4 G3 h => ?_)
  refine g_dup hC (pc := 108) rfl dX2_hire_108 ?_
  refine g_aload_n hC (pc := 109) 0 rfl rfl dX2_hire_109 ?_
  refine g_getI hC (pc := 110) in_X2 (ci := 2) rfl 4 (by decide) q196 (Or.inl rfl) h dX2_hire_110 (fun i5 h => ?_)
  refine g_iload_n hC (pc := 113) 1 rfl rfl dX2_hire_113 ?_
  refine g_iload_n hC (pc := 114) 2 rfl rfl dX2_hire_114 ?_
  refine g_iload_n hC (pc := 115) 3 rfl rfl dX2_hire_115 ?_
  refine g_iload hC (pc := 116) 4 rfl dX2_hire_116 ?_
  refine g_callI hC (pc := 118) (As := [vI i5, vI x1, vI x2, vI x3, vI x4]) gc_X10_init (m_X10_init hC.fl h) rfl q1383 q1384 (gle rfl) (gle rfl) rfl (gle rfl) rfl dX2_hire_118 (gk_v fun G6 h => ?_) (fun _ _ h hio => g_out0 hC (hX _ _ h) hio)
  rcases q2 with _ | c7
  · exact (gNN0 h).elim
  replace h := gNN1 h
  obtain ⟨hi, h⟩ := h
  refine g_callF hC (pc := 121) (ci := 3) (As := [vQ (some c4)]) gc_J2_add (m_J2_add hC.fl h) rfl hi q954 (List.mem_of_getElem? (i := 4) rfl) rfl q957 q959 (gle rfl) (gle rfl) rfl (gle rfl) rfl dX2_hire_121 (gk_i fun r9 G8 h => ?_) (fun _ _ h hio => g_out0 hC (hX _ _ h) hio)
  refine g_pop hC (pc := 126) rfl dX2_hire_126 ?_
  refine g_aload_n hC (pc := 127) 0 rfl rfl dX2_hire_127 ?_
  refine g_dup hC (pc := 128) rfl dX2_hire_128 ?_
  refine g_getI hC (pc := 129) in_X2 (ci := 2) rfl 4 (by decide) q196 (Or.inl rfl) h dX2_hire_129 (fun i10 h => ?_)
  refine g_iconst hC (pc := 132) (v := (1 : Int32)) (by decide) dX2_hire_132 ?_
  refine g_iadd hC (pc := 133) dX2_hire_133 ?_
  refine g_put hC (pc := 134) in_X2 (ci := 2) rfl 4 (by decide) tyX2_ok nmX2 q196 (Or.inl rfl) rfl rfl rfl h dX2_hire_134 (fun G11 h => ?_)
  refine g_aload_n hC (pc := 137) 0 rfl rfl dX2_hire_137 ?_
  refine g_getI hC (pc := 138) in_X2 (ci := 2) rfl 4 (by decide) q196 (Or.inl rfl) h dX2_hire_138 (fun i12 h => ?_)
  refine g_iconst hC (pc := 141) (v := (1 : Int32)) (by decide) dX2_hire_141 ?_
  refine g_isub hC (pc := 142) dX2_hire_142 ?_
  exact g_iret hC (pc := 143) (hK _ _ h) dX2_hire_143
def wp_X2_hire_77 (ad : Nat → Nat) (X : Nat → gS → Prop) (K : Int32 → gS → Prop) (G : gS) (t0 : Nat) (x1 : Int32) (x2 : Int32) (x3 : Int32) (x4 : Int32) (xs0 : Int32) : Prop :=
  wp_X1_demand ad G xs0 (some (ad 111)) X (fun G1 => (gIs G1 t0 2 ∧ wp_X2_hasContract ad G1 t0 x1 x2 X (fun r3 G2 => (¬ r3 = (0 : Int32) → wp_X2_hire_96 ad X K G2 t0 x1 x2 x3 x4 (0 : Int32)) ∧ (r3 = (0 : Int32) → wp_X2_hire_96 ad X K G2 t0 x1 x2 x3 x4 (1 : Int32)))))
theorem w_X2_hire_77 {C : gCx} (hC : gOk C "GoblinHousehold$Household" cX2_hire [] (some .int) "hire" 5 9 247) {K : Int32 → gS → Prop} {X : Nat → gS → Prop} (hK : ∀ r G, K r G → cxK C (some (vI r)) G) (hX : ∀ q G, X q G → cxX C q G) {G : gS} {t0 : Nat} {x1 : Int32} {x2 : Int32} {x3 : Int32} {x4 : Int32} {xs0 : Int32} (h : wp_X2_hire_77 (cxA C) X K G t0 x1 x2 x3 x4 xs0) : gGo C G 77 [(0, vQ (some t0)), (1, vI x1), (2, vI x2), (3, vI x3), (4, vI x4)] [vI xs0] := by
  unfold wp_X2_hire_77 at h
  refine g_ldcS hC (pc := 77) (List.mem_of_getElem? (i := 11) rfl) dX2_hire_77 ?_
  refine g_callSN hC (pc := 79) (b := 0) (As := [vI xs0, vQ (some (cxA C 111))]) gc_X1_demand (m_X1_demand hC.fl h) (List.mem_of_getElem? (i := 3) rfl) q888 (gle rfl) (gle rfl) rfl (gle rfl) rfl dX2_hire_79 (gk_v fun G1 h => ?_) (fun _ _ h hio => g_out0 hC (hX _ _ h) hio)
  refine g_aload_n hC (pc := 82) 0 rfl rfl dX2_hire_82 ?_
  refine g_iload_n hC (pc := 83) 1 rfl rfl dX2_hire_83 ?_
  refine g_iload_n hC (pc := 84) 2 rfl rfl dX2_hire_84 ?_
  obtain ⟨hi, h⟩ := h
  refine g_callV hC (pc := 85) (ci := 2) (As := [vI x1, vI x2]) gc_X2_hasContract (m_X2_hasContract hC.fl h) rfl hi q821 q823 qs7 (gle rfl) (gle rfl) rfl (gle rfl) rfl dX2_hire_85 (gk_i fun r3 G2 h => ?_) (fun _ _ h hio => g_out0 hC (hX _ _ h) hio)
  refine g_if_ne hC (pc := 88) 95 h (by decide) dX2_hire_88 (fun h => ?_) (fun h => ?_)
  · refine g_iconst hC (pc := 95) (v := (0 : Int32)) (by decide) dX2_hire_95 ?_
    exact g_sub [0, 1, 2, 3, 4] rfl (w_X2_hire_96 hC hK hX h)
  · refine g_iconst hC (pc := 91) (v := (1 : Int32)) (by decide) dX2_hire_91 ?_
    refine g_goto hC (pc := 92) 96 (by decide) dX2_hire_92 ?_
    exact g_sub [0, 1, 2, 3, 4] rfl (w_X2_hire_96 hC hK hX h)
def wp_X2_hire_53 (ad : Nat → Nat) (X : Nat → gS → Prop) (K : Int32 → gS → Prop) (G : gS) (t0 : Nat) (x1 : Int32) (x2 : Int32) (x3 : Int32) (x4 : Int32) (xs0 : Int32) : Prop :=
  wp_X1_demand ad G xs0 (some (ad 110)) X (fun G1 => wGetQ G1 t0 2 3 fun q2 => wNN q2 fun c3 => (gIs G1 c3 3 ∧ wp_J2_size ad G1 c3  X (fun r5 G4 => ((8 : Int32) ≤ r5 → wp_X2_hire_77 ad X K G4 t0 x1 x2 x3 x4 (0 : Int32)) ∧ (¬ (8 : Int32) ≤ r5 → wp_X2_hire_77 ad X K G4 t0 x1 x2 x3 x4 (1 : Int32)))))
theorem w_X2_hire_53 {C : gCx} (hC : gOk C "GoblinHousehold$Household" cX2_hire [] (some .int) "hire" 5 9 247) {K : Int32 → gS → Prop} {X : Nat → gS → Prop} (hK : ∀ r G, K r G → cxK C (some (vI r)) G) (hX : ∀ q G, X q G → cxX C q G) {G : gS} {t0 : Nat} {x1 : Int32} {x2 : Int32} {x3 : Int32} {x4 : Int32} {xs0 : Int32} (h : wp_X2_hire_53 (cxA C) X K G t0 x1 x2 x3 x4 xs0) : gGo C G 53 [(0, vQ (some t0)), (1, vI x1), (2, vI x2), (3, vI x3), (4, vI x4)] [vI xs0] := by
  unfold wp_X2_hire_53 at h
  refine g_ldcS hC (pc := 53) (List.mem_of_getElem? (i := 10) rfl) dX2_hire_53 ?_
  refine g_callSN hC (pc := 55) (b := 0) (As := [vI xs0, vQ (some (cxA C 110))]) gc_X1_demand (m_X1_demand hC.fl h) (List.mem_of_getElem? (i := 3) rfl) q888 (gle rfl) (gle rfl) rfl (gle rfl) rfl dX2_hire_55 (gk_v fun G1 h => ?_) (fun _ _ h hio => g_out0 hC (hX _ _ h) hio)
  refine g_aload_n hC (pc := 58) 0 rfl rfl dX2_hire_58 ?_
  refine g_getQ hC (pc := 59) in_X2 (ci := 2) rfl 3 (by decide) q194 (Or.inl rfl) h dX2_hire_59 (fun q2 h => ?_)
  rcases q2 with _ | c3
  · exact (gNN0 h).elim
  replace h := gNN1 h
  obtain ⟨hi, h⟩ := h
  refine g_callF hC (pc := 62) (ci := 3) (As := []) gc_J2_size (m_J2_size hC.fl h) rfl hi q359 (List.mem_of_getElem? (i := 0) rfl) rfl q323 q325 (gle rfl) (gle rfl) rfl (gle rfl) rfl dX2_hire_62 (gk_i fun r5 G4 h => ?_) (fun _ _ h hio => g_out0 hC (hX _ _ h) hio)
  refine g_bipush hC (pc := 67) (v := (8 : Int32)) (by decide) dX2_hire_67 ?_
  refine g_icmp_ge hC (pc := 69) 76 h (by decide) dX2_hire_69 (fun h => ?_) (fun h => ?_)
  · refine g_iconst hC (pc := 76) (v := (0 : Int32)) (by decide) dX2_hire_76 ?_
    exact g_sub [0, 1, 2, 3, 4] rfl (w_X2_hire_77 hC hK hX h)
  · refine g_iconst hC (pc := 72) (v := (1 : Int32)) (by decide) dX2_hire_72 ?_
    refine g_goto hC (pc := 73) 77 (by decide) dX2_hire_73 ?_
    exact g_sub [0, 1, 2, 3, 4] rfl (w_X2_hire_77 hC hK hX h)
def wp_X2_hire_52 (ad : Nat → Nat) (X : Nat → gS → Prop) (K : Int32 → gS → Prop) (G : gS) (t0 : Nat) (x1 : Int32) (x2 : Int32) (x3 : Int32) (x4 : Int32) : Prop :=
  wp_X2_hire_53 ad X K G t0 x1 x2 x3 x4 (0 : Int32)
theorem w_X2_hire_52 {C : gCx} (hC : gOk C "GoblinHousehold$Household" cX2_hire [] (some .int) "hire" 5 9 247) {K : Int32 → gS → Prop} {X : Nat → gS → Prop} (hK : ∀ r G, K r G → cxK C (some (vI r)) G) (hX : ∀ q G, X q G → cxX C q G) {G : gS} {t0 : Nat} {x1 : Int32} {x2 : Int32} {x3 : Int32} {x4 : Int32} (h : wp_X2_hire_52 (cxA C) X K G t0 x1 x2 x3 x4) : gGo C G 52 [(0, vQ (some t0)), (1, vI x1), (2, vI x2), (3, vI x3), (4, vI x4)] [] := by
  unfold wp_X2_hire_52 at h
  refine g_iconst hC (pc := 52) (v := (0 : Int32)) (by decide) dX2_hire_52 ?_
  exact g_sub [0, 1, 2, 3, 4] rfl (w_X2_hire_53 hC hK hX h)
def wp_X2_hire_22 (ad : Nat → Nat) (X : Nat → gS → Prop) (K : Int32 → gS → Prop) (G : gS) (t0 : Nat) (x1 : Int32) (x2 : Int32) (x3 : Int32) (x4 : Int32) (xs0 : Int32) : Prop :=
  wp_X1_demand ad G xs0 (some (ad 117)) X (fun G1 => wp_X1_isBetween ad G1 x3 (1 : Int32) (50 : Int32) X (fun r3 G2 => (r3 = (0 : Int32) → wp_X2_hire_52 ad X K G2 t0 x1 x2 x3 x4) ∧ (¬ r3 = (0 : Int32) → wp_X1_isBetween ad G2 x4 (1 : Int32) (20 : Int32) X (fun r5 G4 => (r5 = (0 : Int32) → wp_X2_hire_52 ad X K G4 t0 x1 x2 x3 x4) ∧ (¬ r5 = (0 : Int32) → wp_X2_hire_53 ad X K G4 t0 x1 x2 x3 x4 (1 : Int32))))))
theorem w_X2_hire_22 {C : gCx} (hC : gOk C "GoblinHousehold$Household" cX2_hire [] (some .int) "hire" 5 9 247) {K : Int32 → gS → Prop} {X : Nat → gS → Prop} (hK : ∀ r G, K r G → cxK C (some (vI r)) G) (hX : ∀ q G, X q G → cxX C q G) {G : gS} {t0 : Nat} {x1 : Int32} {x2 : Int32} {x3 : Int32} {x4 : Int32} {xs0 : Int32} (h : wp_X2_hire_22 (cxA C) X K G t0 x1 x2 x3 x4 xs0) : gGo C G 22 [(0, vQ (some t0)), (1, vI x1), (2, vI x2), (3, vI x3), (4, vI x4)] [vI xs0] := by
  unfold wp_X2_hire_22 at h
  refine g_ldcS hC (pc := 22) (List.mem_of_getElem? (i := 17) rfl) dX2_hire_22 ?_
  refine g_callSN hC (pc := 24) (b := 0) (As := [vI xs0, vQ (some (cxA C 117))]) gc_X1_demand (m_X1_demand hC.fl h) (List.mem_of_getElem? (i := 3) rfl) q888 (gle rfl) (gle rfl) rfl (gle rfl) rfl dX2_hire_24 (gk_v fun G1 h => ?_) (fun _ _ h hio => g_out0 hC (hX _ _ h) hio)
  refine g_iload_n hC (pc := 27) 3 rfl rfl dX2_hire_27 ?_
  refine g_iconst hC (pc := 28) (v := (1 : Int32)) (by decide) dX2_hire_28 ?_
  refine g_bipush hC (pc := 29) (v := (50 : Int32)) (by decide) dX2_hire_29 ?_
  refine g_callSN hC (pc := 31) (b := 0) (As := [vI x3, vI (1 : Int32), vI (50 : Int32)]) gc_X1_isBetween (m_X1_isBetween hC.fl h) (List.mem_of_getElem? (i := 2) rfl) q884 (gle rfl) (gle rfl) rfl (gle rfl) rfl dX2_hire_31 (gk_i fun r3 G2 h => ?_) (fun _ _ h hio => g_out0 hC (hX _ _ h) hio)
  refine g_if_eq hC (pc := 34) 52 h (by decide) dX2_hire_34 (fun h => ?_) (fun h => ?_)
  · exact g_sub [0, 1, 2, 3, 4] rfl (w_X2_hire_52 hC hK hX h)
  · refine g_iload hC (pc := 37) 4 rfl dX2_hire_37 ?_
    refine g_iconst hC (pc := 39) (v := (1 : Int32)) (by decide) dX2_hire_39 ?_
    refine g_bipush hC (pc := 40) (v := (20 : Int32)) (by decide) dX2_hire_40 ?_
    refine g_callSN hC (pc := 42) (b := 0) (As := [vI x4, vI (1 : Int32), vI (20 : Int32)]) gc_X1_isBetween (m_X1_isBetween hC.fl h) (List.mem_of_getElem? (i := 2) rfl) q884 (gle rfl) (gle rfl) rfl (gle rfl) rfl dX2_hire_42 (gk_i fun r5 G4 h => ?_) (fun _ _ h hio => g_out0 hC (hX _ _ h) hio)
    refine g_if_eq hC (pc := 45) 52 h (by decide) dX2_hire_45 (fun h => ?_) (fun h => ?_)
    · exact g_sub [0, 1, 2, 3, 4] rfl (w_X2_hire_52 hC hK hX h)
    · refine g_iconst hC (pc := 48) (v := (1 : Int32)) (by decide) dX2_hire_48 ?_
      refine g_goto hC (pc := 49) 53 (by decide) dX2_hire_49 ?_
      exact g_sub [0, 1, 2, 3, 4] rfl (w_X2_hire_53 hC hK hX h)
def wp_X2_hire_21 (ad : Nat → Nat) (X : Nat → gS → Prop) (K : Int32 → gS → Prop) (G : gS) (t0 : Nat) (x1 : Int32) (x2 : Int32) (x3 : Int32) (x4 : Int32) : Prop :=
  wp_X2_hire_22 ad X K G t0 x1 x2 x3 x4 (0 : Int32)
theorem w_X2_hire_21 {C : gCx} (hC : gOk C "GoblinHousehold$Household" cX2_hire [] (some .int) "hire" 5 9 247) {K : Int32 → gS → Prop} {X : Nat → gS → Prop} (hK : ∀ r G, K r G → cxK C (some (vI r)) G) (hX : ∀ q G, X q G → cxX C q G) {G : gS} {t0 : Nat} {x1 : Int32} {x2 : Int32} {x3 : Int32} {x4 : Int32} (h : wp_X2_hire_21 (cxA C) X K G t0 x1 x2 x3 x4) : gGo C G 21 [(0, vQ (some t0)), (1, vI x1), (2, vI x2), (3, vI x3), (4, vI x4)] [] := by
  unfold wp_X2_hire_21 at h
  refine g_iconst hC (pc := 21) (v := (0 : Int32)) (by decide) dX2_hire_21 ?_
  exact g_sub [0, 1, 2, 3, 4] rfl (w_X2_hire_22 hC hK hX h)
def wp_X2_hire (ad : Nat → Nat) (G : gS) (t0 : Nat) (x1 : Int32) (x2 : Int32) (x3 : Int32) (x4 : Int32) (X : Nat → gS → Prop) (K : Int32 → gS → Prop) : Prop :=
  (gIs G t0 2 ∧ wp_X2_isGoblin ad G t0 x1 X (fun r2 G1 => (r2 = (0 : Int32) → wp_X2_hire_21 ad X K G1 t0 x1 x2 x3 x4) ∧ (¬ r2 = (0 : Int32) → wp_X1_isBetween ad G1 x2 (0 : Int32) (5 : Int32) X (fun r4 G3 => (r4 = (0 : Int32) → wp_X2_hire_21 ad X K G3 t0 x1 x2 x3 x4) ∧ (¬ r4 = (0 : Int32) → wp_X2_hire_22 ad X K G3 t0 x1 x2 x3 x4 (1 : Int32))))))
theorem w_X2_hire {C : gCx} (hC : gOk C "GoblinHousehold$Household" cX2_hire [] (some .int) "hire" 5 9 247) {K : Int32 → gS → Prop} {X : Nat → gS → Prop} (hK : ∀ r G, K r G → cxK C (some (vI r)) G) (hX : ∀ q G, X q G → cxX C q G) {G : gS} {t0 : Nat} {x1 : Int32} {x2 : Int32} {x3 : Int32} {x4 : Int32} (h : wp_X2_hire (cxA C) G t0 x1 x2 x3 x4 X K) : gGo C G 0 [(0, vQ (some t0)), (1, vI x1), (2, vI x2), (3, vI x3), (4, vI x4)] [] := by
  unfold wp_X2_hire at h
  refine g_aload_n hC (pc := 0) 0 rfl rfl dX2_hire_0 ?_
  refine g_iload_n hC (pc := 1) 1 rfl rfl dX2_hire_1 ?_
  obtain ⟨hi, h⟩ := h
  refine g_callV hC (pc := 2) (ci := 2) (As := [vI x1]) gc_X2_isGoblin (m_X2_isGoblin hC.fl h) rfl hi q1377 q1378 q1379 (gle rfl) (gle rfl) rfl (gle rfl) rfl dX2_hire_2 (gk_i fun r2 G1 h => ?_) (fun _ _ h hio => g_out0 hC (hX _ _ h) hio)
  refine g_if_eq hC (pc := 5) 21 h (by decide) dX2_hire_5 (fun h => ?_) (fun h => ?_)
  · exact g_sub [0, 1, 2, 3, 4] rfl (w_X2_hire_21 hC hK hX h)
  · refine g_iload_n hC (pc := 8) 2 rfl rfl dX2_hire_8 ?_
    refine g_iconst hC (pc := 9) (v := (0 : Int32)) (by decide) dX2_hire_9 ?_
    refine g_iconst hC (pc := 10) (v := (5 : Int32)) (by decide) dX2_hire_10 ?_
    refine g_callSN hC (pc := 11) (b := 0) (As := [vI x2, vI (0 : Int32), vI (5 : Int32)]) gc_X1_isBetween (m_X1_isBetween hC.fl h) (List.mem_of_getElem? (i := 2) rfl) q884 (gle rfl) (gle rfl) rfl (gle rfl) rfl dX2_hire_11 (gk_i fun r4 G3 h => ?_) (fun _ _ h hio => g_out0 hC (hX _ _ h) hio)
    refine g_if_eq hC (pc := 14) 21 h (by decide) dX2_hire_14 (fun h => ?_) (fun h => ?_)
    · exact g_sub [0, 1, 2, 3, 4] rfl (w_X2_hire_21 hC hK hX h)
    · refine g_iconst hC (pc := 17) (v := (1 : Int32)) (by decide) dX2_hire_17 ?_
      refine g_goto hC (pc := 18) 22 (by decide) dX2_hire_18 ?_
      exact g_sub [0, 1, 2, 3, 4] rfl (w_X2_hire_22 hC hK hX h)
theorem gc_X2_hire : gCode yX2_hire cX2_hire 5 (some .int) 4 := ⟨q1376, q95, ⟨by decide, by decide⟩, rfl⟩
theorem m_X2_hire {l : Launch} (hfl : l.stackTraces = false) {E : gE} {G : gS} {t0 : Nat} {x1 : Int32} {x2 : Int32} {x3 : Int32} {x4 : Int32} {X : Nat → gS → Prop} {K : Int32 → gS → Prop} (h : wp_X2_hire (gAd E) G t0 x1 x2 x3 x4 X K) : gMet l yX2_hire (ws_ yX2_hire cX2_hire 5 (some .int)) 9 247 [vQ (some t0), vI x1, vI x2, vI x3, vI x4] E G (gRi K) X :=
  g_met hfl (plainFor_of_name (by decide +kernel)) rfl rfl rfl (gle rfl) (fun p e R s m args below meth c hC => w_X2_hire hC (fun _ _ h => h) (fun _ _ h => h) h)
def wp_X1_lambda_hire_4 (ad : Nat → Nat) (G : gS) (x0 : Int32) (x1 : Int32) (x2 : Int32) (x3 : Int32) (o4 : Option Nat) (X : Nat → gS → Prop) (K : Int32 → gS → Prop) : Prop :=
  wNN o4 fun c1 => (gIs G c1 2 ∧ wp_X2_hire ad G c1 x0 x1 x2 x3 X (fun r3 G2 => K r3 G2))
theorem w_X1_lambda_hire_4 {C : gCx} (hC : gOk C "GoblinHousehold" cX1_lambda_hire_4 [] (some .int) "lambda$hire$4" 5 10 279) {K : Int32 → gS → Prop} {X : Nat → gS → Prop} (hK : ∀ r G, K r G → cxK C (some (vI r)) G) (hX : ∀ q G, X q G → cxX C q G) {G : gS} {x0 : Int32} {x1 : Int32} {x2 : Int32} {x3 : Int32} {o4 : Option Nat} (h : wp_X1_lambda_hire_4 (cxA C) G x0 x1 x2 x3 o4 X K) : gGo C G 0 [(0, vI x0), (1, vI x1), (2, vI x2), (3, vI x3), (4, vQ o4)] [] := by
  unfold wp_X1_lambda_hire_4 at h
  refine g_aload hC (pc := 0) 4 rfl dX1_lambda_hire_4_0 ?_
  refine g_iload_n hC (pc := 2) 0 rfl rfl dX1_lambda_hire_4_2 ?_
  refine g_iload_n hC (pc := 3) 1 rfl rfl dX1_lambda_hire_4_3 ?_
  refine g_iload_n hC (pc := 4) 2 rfl rfl dX1_lambda_hire_4_4 ?_
  refine g_iload_n hC (pc := 5) 3 rfl rfl dX1_lambda_hire_4_5 ?_
  rcases o4 with _ | c1
  · exact (gNN0 h).elim
  replace h := gNN1 h
  obtain ⟨hi, h⟩ := h
  refine g_callV hC (pc := 6) (ci := 2) (As := [vI x0, vI x1, vI x2, vI x3]) gc_X2_hire (m_X2_hire hC.fl h) rfl hi q1373 q1374 q1375 (gle rfl) (gle rfl) rfl (gle rfl) rfl dX1_lambda_hire_4_6 (gk_i fun r3 G2 h => ?_) (fun _ _ h hio => g_out0 hC (hX _ _ h) hio)
  exact g_iret hC (pc := 9) (hK _ _ h) dX1_lambda_hire_4_9
theorem gc_X1_lambda_hire_4 : gCode yX1_lambda_hire_4 cX1_lambda_hire_4 5 (some .int) 5 := ⟨q1372, q94, ⟨by decide, by decide⟩, rfl⟩
theorem m_X1_lambda_hire_4 {l : Launch} (hfl : l.stackTraces = false) {E : gE} {G : gS} {x0 : Int32} {x1 : Int32} {x2 : Int32} {x3 : Int32} {o4 : Option Nat} {X : Nat → gS → Prop} {K : Int32 → gS → Prop} (h : wp_X1_lambda_hire_4 (gAd E) G x0 x1 x2 x3 o4 X K) : gMet l yX1_lambda_hire_4 (ws_ yX1_lambda_hire_4 cX1_lambda_hire_4 5 (some .int)) 10 279 [vI x0, vI x1, vI x2, vI x3, vQ o4] E G (gRi K) X :=
  g_met hfl (plainFor_of_name (by decide +kernel)) rfl rfl rfl (gle rfl) (fun p e R s m args below meth c hC => w_X1_lambda_hire_4 hC (fun _ _ h => h) (fun _ _ h => h) h)
def wp_X2_find_54 (ad : Nat → Nat) (X : Nat → gS → Prop) (K : Option Nat → gS → Prop) (J4 : gS → Nat → Int32 → Option Nat → Int32 → Prop) (G : gS) (t0 : Nat) (x1 : Int32) (x3 : Int32) (os0 : Option Nat) : Prop :=
  J4 G t0 x1 os0 (x3 + (1 : Int32))
theorem w_X2_find_54 {C : gCx} (hC : gOk C "GoblinHousehold$Household" cX2_find [] (some (Jvm.ClassFile.FieldType.object "GoblinHousehold$Contract")) "find" 4 3 88) {K : Option Nat → gS → Prop} {X : Nat → gS → Prop} (hK : ∀ r G, K r G → cxK C (some (vQ r)) G) (hX : ∀ q G, X q G → cxX C q G) {J4 : gS → Nat → Int32 → Option Nat → Int32 → Prop} (hJ4 : ∀ G z0 z1 z2 z3, J4 G z0 z1 z2 z3 → gGo C G 4 [(0, vQ (some z0)), (1, vI z1), (2, vQ z2), (3, vI z3)] []) {G : gS} {t0 : Nat} {x1 : Int32} {x3 : Int32} {os0 : Option Nat} (h : wp_X2_find_54 (cxA C) X K J4 G t0 x1 x3 os0) : gGo C G 54 [(0, vQ (some t0)), (1, vI x1), (3, vI x3)] [vQ os0] := by
  unfold wp_X2_find_54 at h
  refine g_astore_n hC (pc := 54) (lv' := [(2, vQ os0), (0, vQ (some t0)), (1, vI x1), (3, vI x3)]) rfl (by decide) rfl dX2_find_54 ?_
  refine g_iinc hC (pc := 55) 3 (d := (1 : Int32)) (v := (x3 + (1 : Int32))) (lv' := [(3, vI (x3 + (1 : Int32))), (2, vQ os0), (0, vQ (some t0)), (1, vI x1)]) rfl (by decide) rfl (by decide) rfl dX2_find_55 ?_
  refine g_goto hC (pc := 58) 4 (by decide) dX2_find_58 ?_
  exact g_sub [2, 3, 1, 0] rfl (hJ4 _ _ _ _ _ h)
def wp_X2_find_4 (ad : Nat → Nat) (X : Nat → gS → Prop) (K : Option Nat → gS → Prop) (J4 : gS → Nat → Int32 → Option Nat → Int32 → Prop) (G : gS) (t0 : Nat) (x1 : Int32) (o2 : Option Nat) (x3 : Int32) : Prop :=
  wGetQ G t0 2 3 fun q1 => wNN q1 fun c2 => (gIs G c2 3 ∧ wp_J2_size ad G c2  X (fun r4 G3 => (r4 ≤ x3 → K o2 G3) ∧ (¬ r4 ≤ x3 → wGetQ G3 t0 2 3 fun q5 => wNN q5 fun c6 => (gIs G3 c6 3 ∧ wp_J2_get ad G3 c6 x3 X (fun q8 G7 => wCast G7 q8 [10] (wNN q8 fun c9 => wGetI G7 c9 10 0 fun i10 => (¬ i10 = x1 → wp_X2_find_54 ad X K J4 G7 t0 x1 x3 o2) ∧ (i10 = x1 → wGetQ G7 t0 2 3 fun q11 => wNN q11 fun c12 => (gIs G7 c12 3 ∧ wp_J2_get ad G7 c12 x3 X (fun q14 G13 => wCast G13 q14 [10] (wp_X2_find_54 ad X K J4 G13 t0 x1 x3 q14))))))))))
theorem w_X2_find_4 {C : gCx} (hC : gOk C "GoblinHousehold$Household" cX2_find [] (some (Jvm.ClassFile.FieldType.object "GoblinHousehold$Contract")) "find" 4 3 88) {K : Option Nat → gS → Prop} {X : Nat → gS → Prop} (hK : ∀ r G, K r G → cxK C (some (vQ r)) G) (hX : ∀ q G, X q G → cxX C q G) (n : Nat) : ∀ (G : gS) (t0 : Nat) (x1 : Int32) (o2 : Option Nat) (x3 : Int32), gLoop (fun _ _ _ _ _ => False) (wp_X2_find_4 (cxA C) X K) n G t0 x1 o2 x3 → gGo C G 4 [(0, vQ (some t0)), (1, vI x1), (2, vQ o2), (3, vI x3)] [] := by
  induction n with
  | zero => intro G t0 x1 o2 x3 h; exact h.elim
  | succ n ih =>
    intro G t0 x1 o2 x3 h
    have hJ4 := ih
    replace h : wp_X2_find_4 (cxA C) X K _ G t0 x1 o2 x3 := h
    unfold wp_X2_find_4 at h
    refine g_iload_n hC (pc := 4) 3 rfl rfl dX2_find_4 ?_
    refine g_aload_n hC (pc := 5) 0 rfl rfl dX2_find_5 ?_
    refine g_getQ hC (pc := 6) in_X2 (ci := 2) rfl 3 (by decide) q194 (Or.inl rfl) h dX2_find_6 (fun q1 h => ?_)
    rcases q1 with _ | c2
    · exact (gNN0 h).elim
    replace h := gNN1 h
    obtain ⟨hi, h⟩ := h
    refine g_callF hC (pc := 9) (ci := 3) (As := []) gc_J2_size (m_J2_size hC.fl h) rfl hi q359 (List.mem_of_getElem? (i := 0) rfl) rfl q323 q325 (gle rfl) (gle rfl) rfl (gle rfl) rfl dX2_find_9 (gk_i fun r4 G3 h => ?_) (fun _ _ h hio => g_out0 hC (hX _ _ h) hio)
    refine g_icmp_ge hC (pc := 14) 61 h (by decide) dX2_find_14 (fun h => ?_) (fun h => ?_)
    · refine g_aload_n hC (pc := 61) 2 rfl rfl dX2_find_61 ?_
      exact g_aret hC (pc := 62) (Or.inl ⟨_, rfl⟩) (hK _ _ h) dX2_find_62
    · refine g_aload_n hC (pc := 17) 0 rfl rfl dX2_find_17 ?_
      refine g_getQ hC (pc := 18) in_X2 (ci := 2) rfl 3 (by decide) q194 (Or.inl rfl) h dX2_find_18 (fun q5 h => ?_)
      refine g_iload_n hC (pc := 21) 3 rfl rfl dX2_find_21 ?_
      rcases q5 with _ | c6
      · exact (gNN0 h).elim
      replace h := gNN1 h
      obtain ⟨hi, h⟩ := h
      refine g_callF hC (pc := 22) (ci := 3) (As := [vI x3]) gc_J2_get (m_J2_get hC.fl h) rfl hi q361 (List.mem_of_getElem? (i := 2) rfl) rfl q364 q366 (gle rfl) (gle rfl) rfl (gle rfl) rfl dX2_find_22 (gk_q fun q8 G7 h => ?_) (fun _ _ h hio => g_out0 hC (hX _ _ h) hio)
      refine g_cast hC (pc := 27) q764 h (List.forall_mem_cons.mpr ⟨⟨_, rfl, Or.inr ⟨rfl, by decide⟩⟩, fun _ h => nomatch h⟩) dX2_find_27 (fun h => ?_)
      rcases q8 with _ | c9
      · exact (gNN0 h).elim
      replace h := gNN1 h
      refine g_getIN hC (pc := 30) in_X10 (ci := 10) rfl 0 (by decide) (List.mem_of_getElem? (i := 18) rfl) (Or.inl rfl) h dX2_find_30 (fun i10 h => ?_)
      refine g_iload_n hC (pc := 33) 1 rfl rfl dX2_find_33 ?_
      refine g_icmp_ne hC (pc := 34) 53 h (by decide) dX2_find_34 (fun h => ?_) (fun h => ?_)
      · refine g_aload_n hC (pc := 53) 2 rfl rfl dX2_find_53 ?_
        exact g_sub [0, 1, 3] rfl (w_X2_find_54 hC hK hX hJ4 h)
      · refine g_aload_n hC (pc := 37) 0 rfl rfl dX2_find_37 ?_
        refine g_getQ hC (pc := 38) in_X2 (ci := 2) rfl 3 (by decide) q194 (Or.inl rfl) h dX2_find_38 (fun q11 h => ?_)
        refine g_iload_n hC (pc := 41) 3 rfl rfl dX2_find_41 ?_
        rcases q11 with _ | c12
        · exact (gNN0 h).elim
        replace h := gNN1 h
        obtain ⟨hi, h⟩ := h
        refine g_callF hC (pc := 42) (ci := 3) (As := [vI x3]) gc_J2_get (m_J2_get hC.fl h) rfl hi q361 (List.mem_of_getElem? (i := 2) rfl) rfl q364 q366 (gle rfl) (gle rfl) rfl (gle rfl) rfl dX2_find_42 (gk_q fun q14 G13 h => ?_) (fun _ _ h hio => g_out0 hC (hX _ _ h) hio)
        refine g_cast hC (pc := 47) q764 h (List.forall_mem_cons.mpr ⟨⟨_, rfl, Or.inr ⟨rfl, by decide⟩⟩, fun _ h => nomatch h⟩) dX2_find_47 (fun h => ?_)
        refine g_goto hC (pc := 50) 54 (by decide) dX2_find_50 ?_
        exact g_sub [0, 1, 3] rfl (w_X2_find_54 hC hK hX hJ4 h)
def wp_X2_find (ad : Nat → Nat) (G : gS) (t0 : Nat) (x1 : Int32) (X : Nat → gS → Prop) (K : Option Nat → gS → Prop) : Prop :=
  gLoop (fun _ _ _ _ _ => False) (wp_X2_find_4 ad X K) gFuel G t0 x1 none (0 : Int32)
theorem w_X2_find {C : gCx} (hC : gOk C "GoblinHousehold$Household" cX2_find [] (some (Jvm.ClassFile.FieldType.object "GoblinHousehold$Contract")) "find" 4 3 88) {K : Option Nat → gS → Prop} {X : Nat → gS → Prop} (hK : ∀ r G, K r G → cxK C (some (vQ r)) G) (hX : ∀ q G, X q G → cxX C q G) {G : gS} {t0 : Nat} {x1 : Int32} (h : wp_X2_find (cxA C) G t0 x1 X K) : gGo C G 0 [(0, vQ (some t0)), (1, vI x1)] [] := by
  unfold wp_X2_find at h
  refine g_null hC (pc := 0) dX2_find_0 ?_
  refine g_astore_n hC (pc := 1) (lv' := [(2, vQ none), (0, vQ (some t0)), (1, vI x1)]) rfl (by decide) rfl dX2_find_1 ?_
  refine g_iconst hC (pc := 2) (v := (0 : Int32)) (by decide) dX2_find_2 ?_
  refine g_istore_n hC (pc := 3) (lv' := [(3, vI (0 : Int32)), (2, vQ none), (0, vQ (some t0)), (1, vI x1)]) rfl (by decide) rfl dX2_find_3 ?_
  exact g_sub [2, 3, 1, 0] rfl (w_X2_find_4 hC hK hX gFuel _ _ _ _ _ h)
theorem gc_X2_find : gCode yX2_find cX2_find 4 (some (Jvm.ClassFile.FieldType.object "GoblinHousehold$Contract")) 1 := ⟨q1432, q95, ⟨by decide, by decide⟩, rfl⟩
theorem m_X2_find {l : Launch} (hfl : l.stackTraces = false) {E : gE} {G : gS} {t0 : Nat} {x1 : Int32} {X : Nat → gS → Prop} {K : Option Nat → gS → Prop} (h : wp_X2_find (gAd E) G t0 x1 X K) : gMet l yX2_find (ws_ yX2_find cX2_find 4 (some (Jvm.ClassFile.FieldType.object "GoblinHousehold$Contract"))) 3 88 [vQ (some t0), vI x1] E G (gRq K) X :=
  g_met hfl (plainFor_of_name (by decide +kernel)) rfl rfl rfl (gle rfl) (fun p e R s m args below meth c hC => w_X2_find hC (fun _ _ h => h) (fun _ _ h => h) h)
def wp_J27_init (ad : Nat → Nat) (G : gS) (t0 : Nat) (X : Nat → gS → Prop) (K : gS → Prop) : Prop :=
  K G
theorem w_J27_init {C : gCx} (hC : gOk C "java/lang/Record" cJ27_init [] none "<init>" 1 1 28) {K : gS → Prop} {X : Nat → gS → Prop} (hK : ∀ G, K G → cxK C none G) (hX : ∀ q G, X q G → cxX C q G) {G : gS} {t0 : Nat} (h : wp_J27_init (cxA C) G t0 X K) : gGo C G 0 [(0, vQ (some t0))] [] := by
  unfold wp_J27_init at h
  refine g_aload_n hC (pc := 0) 0 rfl rfl dJ27_init_0 ?_
  refine g_objInit hC (pc := 1) q1443 q151 q152 (gle rfl) (gle rfl) (gle rfl) dJ27_init_1 ?_
  exact g_vret hC (pc := 4) (hK _ h) dJ27_init_4
theorem gc_J27_init : gCode yJ27_init cJ27_init 1 none 0 := ⟨q1442, q134, ⟨by decide, by decide⟩, rfl⟩
theorem m_J27_init {l : Launch} (hfl : l.stackTraces = false) {E : gE} {G : gS} {t0 : Nat} {X : Nat → gS → Prop} {K : gS → Prop} (h : wp_J27_init (gAd E) G t0 X K) : gMet l yJ27_init (ws_ yJ27_init cJ27_init 1 none) 1 28 [vQ (some t0)] E G (gRv K) X :=
  g_met hfl (plainFor_of_name (by decide +kernel)) rfl rfl rfl (gle rfl) (fun p e R s m args below meth c hC => w_J27_init hC (fun _ h => h) (fun _ _ h => h) h)
def wp_X11_init (ad : Nat → Nat) (G : gS) (t0 : Nat) (o1 : Option Nat) (X : Nat → gS → Prop) (K : gS → Prop) : Prop :=
  wp_J27_init ad G t0  X (fun G1 => wPut G1 t0 13 0 (va_rf o1) fun G2 => K G2)
theorem w_X11_init {C : gCx} (hC : gOk C "GoblinHousehold$Cancelled" cX11_init [] none "<init>" 2 2 56) {K : gS → Prop} {X : Nat → gS → Prop} (hK : ∀ G, K G → cxK C none G) (hX : ∀ q G, X q G → cxX C q G) {G : gS} {t0 : Nat} {o1 : Option Nat} (h : wp_X11_init (cxA C) G t0 o1 X K) : gGo C G 0 [(0, vQ (some t0)), (1, vQ o1)] [] := by
  unfold wp_X11_init at h
  refine g_aload_n hC (pc := 0) 0 rfl rfl dX11_init_0 ?_
  refine g_callI hC (pc := 1) (As := []) gc_J27_init (m_J27_init hC.fl h) rfl q1440 q1441 (gle rfl) (gle rfl) rfl (gle rfl) rfl dX11_init_1 (gk_v fun G1 h => ?_) (fun _ _ h hio => g_out0 hC (hX _ _ h) hio)
  refine g_aload_n hC (pc := 4) 0 rfl rfl dX11_init_4 ?_
  refine g_aload_n hC (pc := 5) 1 rfl rfl dX11_init_5 ?_
  refine g_putF hC (pc := 6) in_X11 (ci := 13) rfl 0 (by decide) tyX11_ok nmX11 q1444 (Or.inl rfl) rfl rfl rfl (gnarO _ _) (gfitO _ _) h dX11_init_6 (fun G2 h => ?_)
  exact g_vret hC (pc := 9) (hK _ h) dX11_init_9
theorem gc_X11_init : gCode yX11_init cX11_init 2 none 1 := ⟨q1439, q135, ⟨by decide, by decide⟩, rfl⟩
theorem m_X11_init {l : Launch} (hfl : l.stackTraces = false) {E : gE} {G : gS} {t0 : Nat} {o1 : Option Nat} {X : Nat → gS → Prop} {K : gS → Prop} (h : wp_X11_init (gAd E) G t0 o1 X K) : gMet l yX11_init (ws_ yX11_init cX11_init 2 none) 2 56 [vQ (some t0), vQ o1] E G (gRv K) X :=
  g_met hfl (plainFor_of_name (by decide +kernel)) rfl rfl rfl (gle rfl) (fun p e R s m args below meth c hC => w_X11_init hC (fun _ h => h) (fun _ _ h => h) h)
def wp_X12_contract (ad : Nat → Nat) (G : gS) (t0 : Nat) (X : Nat → gS → Prop) (K : Option Nat → gS → Prop) : Prop :=
  wGetQ G t0 12 0 fun q1 => K q1 G
theorem w_X12_contract {C : gCx} (hC : gOk C "GoblinHousehold$Done" cX12_contract [] (some (Jvm.ClassFile.FieldType.object "GoblinHousehold$Contract")) "contract" 1 0 0) {K : Option Nat → gS → Prop} {X : Nat → gS → Prop} (hK : ∀ r G, K r G → cxK C (some (vQ r)) G) (hX : ∀ q G, X q G → cxX C q G) {G : gS} {t0 : Nat} (h : wp_X12_contract (cxA C) G t0 X K) : gGo C G 0 [(0, vQ (some t0))] [] := by
  unfold wp_X12_contract at h
  refine g_aload_n hC (pc := 0) 0 rfl rfl dX12_contract_0 ?_
  refine g_getQ hC (pc := 1) in_X12 (ci := 12) rfl 0 (by decide) q1672 (Or.inl rfl) h dX12_contract_1 (fun q1 h => ?_)
  exact g_aret hC (pc := 4) (Or.inl ⟨_, rfl⟩) (hK _ _ h) dX12_contract_4
theorem gc_X12_contract : gCode yX12_contract cX12_contract 1 (some (Jvm.ClassFile.FieldType.object "GoblinHousehold$Contract")) 0 := ⟨q1473, q136, ⟨by decide, by decide⟩, rfl⟩
theorem m_X12_contract {l : Launch} (hfl : l.stackTraces = false) {E : gE} {G : gS} {t0 : Nat} {X : Nat → gS → Prop} {K : Option Nat → gS → Prop} (h : wp_X12_contract (gAd E) G t0 X K) : gMet l yX12_contract (ws_ yX12_contract cX12_contract 1 (some (Jvm.ClassFile.FieldType.object "GoblinHousehold$Contract"))) 0 0 [vQ (some t0)] E G (gRq K) X :=
  g_met hfl (plainFor_of_name (by decide +kernel)) rfl rfl rfl (gle rfl) (fun p e R s m args below meth c hC => w_X12_contract hC (fun _ _ h => h) (fun _ _ h => h) h)
def wp_J30_equals (ad : Nat → Nat) (G : gS) (t0 : Nat) (o1 : Option Nat) (X : Nat → gS → Prop) (K : Int32 → gS → Prop) : Prop :=
  (¬ (some t0) = o1 → K (0 : Int32) G) ∧ ((some t0) = o1 → K (1 : Int32) G)
theorem w_J30_equals {C : gCx} (hC : gOk C "java/lang/Object" cJ30_equals [] (some .boolean) "equals" 2 0 0) {K : Int32 → gS → Prop} {X : Nat → gS → Prop} (hK : ∀ r G, K r G → cxK C (some (vI r)) G) (hX : ∀ q G, X q G → cxX C q G) {G : gS} {t0 : Nat} {o1 : Option Nat} (h : wp_J30_equals (cxA C) G t0 o1 X K) : gGo C G 0 [(0, vQ (some t0)), (1, vQ o1)] [] := by
  unfold wp_J30_equals at h
  refine g_aload_n hC (pc := 0) 0 rfl rfl dJ30_equals_0 ?_
  refine g_aload_n hC (pc := 1) 1 rfl rfl dJ30_equals_1 ?_
  refine g_acmp_ne hC (pc := 2) 9 h (by decide) dJ30_equals_2 (fun h => ?_) (fun h => ?_)
  · refine g_iconst hC (pc := 9) (v := (0 : Int32)) (by decide) dJ30_equals_9 ?_
    exact g_zret hC (pc := 10) rfl (hK _ _ h) dJ30_equals_10
  · refine g_iconst hC (pc := 5) (v := (1 : Int32)) (by decide) dJ30_equals_5 ?_
    refine g_goto hC (pc := 6) 10 (by decide) dJ30_equals_6 ?_
    exact g_zret hC (pc := 10) rfl (hK _ _ h) dJ30_equals_10
theorem gc_J30_equals : gCode yJ30_equals cJ30_equals 2 (some .boolean) 1 := ⟨q1525, q3004, ⟨by decide, by decide⟩, rfl⟩
theorem m_J30_equals {l : Launch} (hfl : l.stackTraces = false) {E : gE} {G : gS} {t0 : Nat} {o1 : Option Nat} {X : Nat → gS → Prop} {K : Int32 → gS → Prop} (h : wp_J30_equals (gAd E) G t0 o1 X K) : gMet l yJ30_equals (ws_ yJ30_equals cJ30_equals 2 (some .boolean)) 0 0 [vQ (some t0), vQ o1] E G (gRi K) X :=
  g_met hfl (by decide +kernel) rfl rfl rfl (gle rfl) (fun p e R s m args below meth c hC => w_J30_equals hC (fun _ _ h => h) (fun _ _ h => h) h)
def wp_J2_fastRemove_34 (ad : Nat → Nat) (X : Nat → gS → Prop) (K : gS → Prop) (G : gS) (t0 : Nat) (o1 : Option Nat) (x3 : Int32) : Prop :=
  wPut G t0 3 2 (.int x3) fun G1 => wNN o1 fun c2 => wAstQ G1 c2 x3 none fun G3 => K G3
theorem w_J2_fastRemove_34 {C : gCx} (hC : gOk C "java/util/ArrayList" cJ2_fastRemove [] none "fastRemove" 4 1 64) {K : gS → Prop} {X : Nat → gS → Prop} (hK : ∀ G, K G → cxK C none G) (hX : ∀ q G, X q G → cxX C q G) {G : gS} {t0 : Nat} {o1 : Option Nat} {x3 : Int32} (h : wp_J2_fastRemove_34 (cxA C) X K G t0 o1 x3) : gGo C G 34 [(0, vQ (some t0)), (1, vQ o1), (3, vI x3)] [] := by
  unfold wp_J2_fastRemove_34 at h
  refine g_aload_n hC (pc := 34) 1 rfl rfl dJ2_fastRemove_34 ?_
  refine g_aload_n hC (pc := 35) 0 rfl rfl dJ2_fastRemove_35 ?_
  refine g_iload_n hC (pc := 36) 2 rfl rfl dJ2_fastRemove_36 ?_
  refine g_dup_x1 hC (pc := 37) rfl rfl dJ2_fastRemove_37 ?_
  refine g_put hC (pc := 38) in_J2 (ci := 3) rfl 2 (by decide) tyJ2_ok nmJ2 q174 (Or.inl rfl) rfl rfl rfl h dJ2_fastRemove_38 (fun G1 h => ?_)
  refine g_null hC (pc := 41) dJ2_fastRemove_41 ?_
  rcases o1 with _ | c2
  · exact (gNN0 h).elim
  replace h := gNN1 h
  refine g_astQ hC (pc := 42) h dJ2_fastRemove_42 (fun G3 h => ?_)
  exact g_vret hC (pc := 43) (hK _ h) dJ2_fastRemove_43
def wp_J2_fastRemove (ad : Nat → Nat) (G : gS) (t0 : Nat) (o1 : Option Nat) (x2 : Int32) (X : Nat → gS → Prop) (K : gS → Prop) : Prop :=
  wGetI G t0 3 0 fun i1 => wPut G t0 3 0 (.int (i1 + (1 : Int32))) fun G2 => wGetI G2 t0 3 2 fun i3 => ((i3 - (1 : Int32)) ≤ x2 → wp_J2_fastRemove_34 ad X K G2 t0 o1 (i3 - (1 : Int32))) ∧ (¬ (i3 - (1 : Int32)) ≤ x2 → wNN o1 fun c4 => wCopyQ G2 c4 (x2 + (1 : Int32)) c4 x2 ((i3 - (1 : Int32)) - x2) fun G5 => wp_J2_fastRemove_34 ad X K G5 t0 (some c4) (i3 - (1 : Int32)))
theorem w_J2_fastRemove {C : gCx} (hC : gOk C "java/util/ArrayList" cJ2_fastRemove [] none "fastRemove" 4 1 64) {K : gS → Prop} {X : Nat → gS → Prop} (hK : ∀ G, K G → cxK C none G) (hX : ∀ q G, X q G → cxX C q G) {G : gS} {t0 : Nat} {o1 : Option Nat} {x2 : Int32} (h : wp_J2_fastRemove (cxA C) G t0 o1 x2 X K) : gGo C G 0 [(0, vQ (some t0)), (1, vQ o1), (2, vI x2)] [] := by
  unfold wp_J2_fastRemove at h
  refine g_aload_n hC (pc := 0) 0 rfl rfl dJ2_fastRemove_0 ?_
  refine g_dup hC (pc := 1) rfl dJ2_fastRemove_1 ?_
  refine g_getI hC (pc := 2) in_J2 (ci := 3) rfl 0 (by decide) q178 (Or.inr q179) h dJ2_fastRemove_2 (fun i1 h => ?_)
  refine g_iconst hC (pc := 5) (v := (1 : Int32)) (by decide) dJ2_fastRemove_5 ?_
  refine g_iadd hC (pc := 6) dJ2_fastRemove_6 ?_
  refine g_put hC (pc := 7) in_J2 (ci := 3) rfl 0 (by decide) tyJ2_ok nmJ2 q178 (Or.inr q179) rfl rfl rfl h dJ2_fastRemove_7 (fun G2 h => ?_)
  refine g_aload_n hC (pc := 10) 0 rfl rfl dJ2_fastRemove_10 ?_
  refine g_getI hC (pc := 11) in_J2 (ci := 3) rfl 2 (by decide) q174 (Or.inl rfl) h dJ2_fastRemove_11 (fun i3 h => ?_)
  refine g_iconst hC (pc := 14) (v := (1 : Int32)) (by decide) dJ2_fastRemove_14 ?_
  refine g_isub hC (pc := 15) dJ2_fastRemove_15 ?_
  refine g_dup hC (pc := 16) rfl dJ2_fastRemove_16 ?_
  refine g_istore_n hC (pc := 17) (lv' := [(3, vI (i3 - (1 : Int32))), (0, vQ (some t0)), (1, vQ o1), (2, vI x2)]) rfl (by decide) rfl dJ2_fastRemove_17 ?_
  refine g_iload_n hC (pc := 18) 3 rfl rfl dJ2_fastRemove_18 ?_
  refine g_icmp_le hC (pc := 19) 34 h (by decide) dJ2_fastRemove_19 (fun h => ?_) (fun h => ?_)
  · exact g_sub [1, 2, 0] rfl (w_J2_fastRemove_34 hC hK hX h)
  · refine g_aload_n hC (pc := 22) 2 rfl rfl dJ2_fastRemove_22 ?_
    refine g_iload_n hC (pc := 23) 3 rfl rfl dJ2_fastRemove_23 ?_
    refine g_iconst hC (pc := 24) (v := (1 : Int32)) (by decide) dJ2_fastRemove_24 ?_
    refine g_iadd hC (pc := 25) dJ2_fastRemove_25 ?_
    refine g_aload_n hC (pc := 26) 2 rfl rfl dJ2_fastRemove_26 ?_
    refine g_iload_n hC (pc := 27) 3 rfl rfl dJ2_fastRemove_27 ?_
    refine g_iload_n hC (pc := 28) 0 rfl rfl dJ2_fastRemove_28 ?_
    refine g_iload_n hC (pc := 29) 3 rfl rfl dJ2_fastRemove_29 ?_
    refine g_isub hC (pc := 30) dJ2_fastRemove_30 ?_
    rcases o1 with _ | c4
    · exact (gNN0 h).elim
    replace h := gNN1 h
    refine g_copyQ hC (pc := 31) q1530 q493 q492 q116 (gle rfl) (gle rfl) (gle rfl) h dJ2_fastRemove_31 (fun G5 h => ?_)
    exact g_sub [1, 2, 0] rfl (w_J2_fastRemove_34 hC hK hX h)
theorem gc_J2_fastRemove : gCode yJ2_fastRemove cJ2_fastRemove 4 none 2 := ⟨q1529, q98, ⟨by decide, by decide⟩, rfl⟩
theorem m_J2_fastRemove {l : Launch} (hfl : l.stackTraces = false) {E : gE} {G : gS} {t0 : Nat} {o1 : Option Nat} {x2 : Int32} {X : Nat → gS → Prop} {K : gS → Prop} (h : wp_J2_fastRemove (gAd E) G t0 o1 x2 X K) : gMet l yJ2_fastRemove (ws_ yJ2_fastRemove cJ2_fastRemove 4 none) 1 64 [vQ (some t0), vQ o1, vI x2] E G (gRv K) X :=
  g_met hfl (plainFor_of_name (by decide +kernel)) rfl rfl rfl (gle rfl) (fun p e R s m args below meth c hC => w_J2_fastRemove hC (fun _ h => h) (fun _ _ h => h) h)
def wp_J2_remove_67 (ad : Nat → Nat) (X : Nat → gS → Prop) (K : Int32 → gS → Prop) (G : gS) (t0 : Nat) (t2 : Nat) (x4 : Int32) : Prop :=
  (gIs G t0 3 ∧ wp_J2_fastRemove ad G t0 (some t2) x4 X (fun G1 => K (1 : Int32) G1))
theorem w_J2_remove_67 {C : gCx} (hC : gOk C "java/util/ArrayList" cJ2_remove [] (some .boolean) "remove" 5 2 95) {K : Int32 → gS → Prop} {X : Nat → gS → Prop} (hK : ∀ r G, K r G → cxK C (some (vI r)) G) (hX : ∀ q G, X q G → cxX C q G) {G : gS} {t0 : Nat} {t2 : Nat} {x4 : Int32} (h : wp_J2_remove_67 (cxA C) X K G t0 t2 x4) : gGo C G 67 [(0, vQ (some t0)), (2, vQ (some t2)), (4, vI x4)] [] := by
  unfold wp_J2_remove_67 at h
  refine g_aload_n hC (pc := 67) 0 rfl rfl dJ2_remove_67 ?_
  refine g_aload_n hC (pc := 68) 1 rfl rfl dJ2_remove_68 ?_
  refine g_iload hC (pc := 69) 2 rfl dJ2_remove_69 ?_
  obtain ⟨hi, h⟩ := h
  refine g_callV hC (pc := 71) (ci := 3) (As := [vQ (some t2), vI x4]) gc_J2_fastRemove (m_J2_fastRemove hC.fl h) rfl hi q1526 q1528 qs17 (gle rfl) (gle rfl) rfl (gle rfl) rfl dJ2_remove_71 (gk_v fun G1 h => ?_) (fun _ _ h hio => g_out0 hC (hX _ _ h) hio)
  refine g_iconst hC (pc := 74) (v := (1 : Int32)) (by decide) dJ2_remove_74 ?_
  exact g_zret hC (pc := 75) rfl (hK _ _ h) dJ2_remove_75
def wp_J2_remove_30 (ad : Nat → Nat) (X : Nat → gS → Prop) (K : Int32 → gS → Prop) (G : gS) (t0 : Nat) (t2 : Nat) (x4 : Int32) : Prop :=
  wp_J2_remove_67 ad X K G t0 t2 x4
theorem w_J2_remove_30 {C : gCx} (hC : gOk C "java/util/ArrayList" cJ2_remove [] (some .boolean) "remove" 5 2 95) {K : Int32 → gS → Prop} {X : Nat → gS → Prop} (hK : ∀ r G, K r G → cxK C (some (vI r)) G) (hX : ∀ q G, X q G → cxX C q G) {G : gS} {t0 : Nat} {t2 : Nat} {x4 : Int32} (h : wp_J2_remove_30 (cxA C) X K G t0 t2 x4) : gGo C G 30 [(0, vQ (some t0)), (2, vQ (some t2)), (4, vI x4)] [] := by
  unfold wp_J2_remove_30 at h
  refine g_goto hC (pc := 30) 67 (by decide) dJ2_remove_30 ?_
  exact g_sub [0, 1, 2] rfl (w_J2_remove_67 hC hK hX h)
def wp_J2_remove_17 (ad : Nat → Nat) (X : Nat → gS → Prop) (K : Int32 → gS → Prop) (J17 : gS → Nat → Option Nat → Int32 → Int32 → Prop) (G : gS) (t0 : Nat) (o2 : Option Nat) (x3 : Int32) (x4 : Int32) : Prop :=
  (x3 ≤ x4 → K (0 : Int32) G) ∧ (¬ x3 ≤ x4 → wNN o2 fun c1 => wAldQ G c1 x4 fun q2 => (q2 = none → wp_J2_remove_30 ad X K G t0 c1 x4) ∧ (∀ c3, q2 = some c3 → J17 G t0 (some c1) x3 (x4 + (1 : Int32))))
theorem w_J2_remove_17 {C : gCx} (hC : gOk C "java/util/ArrayList" cJ2_remove [] (some .boolean) "remove" 5 2 95) {K : Int32 → gS → Prop} {X : Nat → gS → Prop} (hK : ∀ r G, K r G → cxK C (some (vI r)) G) (hX : ∀ q G, X q G → cxX C q G) (n : Nat) : ∀ (G : gS) (t0 : Nat) (o2 : Option Nat) (x3 : Int32) (x4 : Int32), gLoop (fun _ _ _ _ _ => False) (wp_J2_remove_17 (cxA C) X K) n G t0 o2 x3 x4 → gGo C G 17 [(0, vQ (some t0)), (2, vQ o2), (3, vI x3), (4, vI x4)] [] := by
  induction n with
  | zero => intro G t0 o2 x3 x4 h; exact h.elim
  | succ n ih =>
    intro G t0 o2 x3 x4 h
    have hJ17 := ih
    replace h : wp_J2_remove_17 (cxA C) X K _ G t0 o2 x3 x4 := h
    unfold wp_J2_remove_17 at h
    refine g_iload hC (pc := 17) 3 rfl dJ2_remove_17 ?_
    refine g_iload_n hC (pc := 19) 2 rfl rfl dJ2_remove_19 ?_
    refine g_icmp_ge hC (pc := 20) 65 h (by decide) dJ2_remove_20 (fun h => ?_) (fun h => ?_)
    · refine g_iconst hC (pc := 65) (v := (0 : Int32)) (by decide) dJ2_remove_65 ?_
      exact g_zret hC (pc := 66) rfl (hK _ _ h) dJ2_remove_66
    · refine g_aload_n hC (pc := 23) 1 rfl rfl dJ2_remove_23 ?_
      refine g_iload hC (pc := 24) 3 rfl dJ2_remove_24 ?_
      rcases o2 with _ | c1
      · exact (gNN0 h).elim
      replace h := gNN1 h
      refine g_aldQ hC (pc := 26) h dJ2_remove_26 (fun q2 h => ?_)
      have hn := h; clear h
      refine g_ifnonnull hC (pc := 27) 33 (P := ¬ q2 = none) (Q := _) ⟨id, hn.1⟩ (by decide) dJ2_remove_27 (fun e0 => ?_) (fun h => ?_)
      · rcases q2 with _ | c3
        · exact absurd rfl e0
        have h := hn.2 _ rfl
        refine g_iinc hC (pc := 33) 3 (d := (1 : Int32)) (v := (x4 + (1 : Int32))) (lv' := [(4, vI (x4 + (1 : Int32))), (0, vQ (some t0)), (2, vQ (some c1)), (3, vI x3)]) rfl (by decide) rfl (by decide) rfl dJ2_remove_33 ?_
        refine g_goto hC (pc := 36) 17 (by decide) dJ2_remove_36 ?_
        exact g_sub [1, 2, 3, 0] rfl (hJ17 _ _ _ _ _ h)
      · exact g_sub [0, 1, 3] rfl (w_J2_remove_30 hC hK hX h)
def wp_J2_remove_56 (ad : Nat → Nat) (X : Nat → gS → Prop) (K : Int32 → gS → Prop) (G : gS) (t0 : Nat) (t2 : Nat) (x4 : Int32) : Prop :=
  wp_J2_remove_67 ad X K G t0 t2 x4
theorem w_J2_remove_56 {C : gCx} (hC : gOk C "java/util/ArrayList" cJ2_remove [] (some .boolean) "remove" 5 2 95) {K : Int32 → gS → Prop} {X : Nat → gS → Prop} (hK : ∀ r G, K r G → cxK C (some (vI r)) G) (hX : ∀ q G, X q G → cxX C q G) {G : gS} {t0 : Nat} {t2 : Nat} {x4 : Int32} (h : wp_J2_remove_56 (cxA C) X K G t0 t2 x4) : gGo C G 56 [(0, vQ (some t0)), (2, vQ (some t2)), (4, vI x4)] [] := by
  unfold wp_J2_remove_56 at h
  refine g_goto hC (pc := 56) 67 (by decide) dJ2_remove_56 ?_
  exact g_sub [0, 1, 2] rfl (w_J2_remove_67 hC hK hX h)
def wp_J2_remove_39 (ad : Nat → Nat) (X : Nat → gS → Prop) (K : Int32 → gS → Prop) (J39 : gS → Nat → Nat → Option Nat → Int32 → Int32 → Prop) (G : gS) (t0 : Nat) (t1 : Nat) (o2 : Option Nat) (x3 : Int32) (x4 : Int32) : Prop :=
  (x3 ≤ x4 → K (0 : Int32) G) ∧ (¬ x3 ≤ x4 → wNN o2 fun c1 => wAldQ G c1 x4 fun q2 => (gIs G t1 10 ∧ wp_J30_equals ad G t1 q2 X (fun r4 G3 => (r4 = (0 : Int32) → J39 G3 t0 t1 (some c1) x3 (x4 + (1 : Int32))) ∧ (¬ r4 = (0 : Int32) → wp_J2_remove_56 ad X K G3 t0 c1 x4))))
theorem w_J2_remove_39 {C : gCx} (hC : gOk C "java/util/ArrayList" cJ2_remove [] (some .boolean) "remove" 5 2 95) {K : Int32 → gS → Prop} {X : Nat → gS → Prop} (hK : ∀ r G, K r G → cxK C (some (vI r)) G) (hX : ∀ q G, X q G → cxX C q G) (n : Nat) : ∀ (G : gS) (t0 : Nat) (t1 : Nat) (o2 : Option Nat) (x3 : Int32) (x4 : Int32), gLoop (fun _ _ _ _ _ _ => False) (wp_J2_remove_39 (cxA C) X K) n G t0 t1 o2 x3 x4 → gGo C G 39 [(0, vQ (some t0)), (1, vQ (some t1)), (2, vQ o2), (3, vI x3), (4, vI x4)] [] := by
  induction n with
  | zero => intro G t0 t1 o2 x3 x4 h; exact h.elim
  | succ n ih =>
    intro G t0 t1 o2 x3 x4 h
    have hJ39 := ih
    replace h : wp_J2_remove_39 (cxA C) X K _ G t0 t1 o2 x3 x4 := h
    unfold wp_J2_remove_39 at h
    refine g_iload hC (pc := 39) 4 rfl dJ2_remove_39 ?_
    refine g_iload_n hC (pc := 41) 3 rfl rfl dJ2_remove_41 ?_
    refine g_icmp_ge hC (pc := 42) 65 h (by decide) dJ2_remove_42 (fun h => ?_) (fun h => ?_)
    · refine g_iconst hC (pc := 65) (v := (0 : Int32)) (by decide) dJ2_remove_65 ?_
      exact g_zret hC (pc := 66) rfl (hK _ _ h) dJ2_remove_66
    · refine g_aload_n hC (pc := 45) 1 rfl rfl dJ2_remove_45 ?_
      refine g_aload_n hC (pc := 46) 2 rfl rfl dJ2_remove_46 ?_
      refine g_iload hC (pc := 47) 4 rfl dJ2_remove_47 ?_
      rcases o2 with _ | c1
      · exact (gNN0 h).elim
      replace h := gNN1 h
      refine g_aldQ hC (pc := 49) h dJ2_remove_49 (fun q2 h => ?_)
      obtain ⟨hi, h⟩ := h
      refine g_callV hC (pc := 50) (ci := 10) (As := [vQ q2]) gc_J30_equals (m_J30_equals hC.fl h) rfl hi q1484 q1485 q1506 (gle rfl) (gle rfl) rfl (gle rfl) rfl dJ2_remove_50 (gk_i fun r4 G3 h => ?_) (fun _ _ h hio => g_out0 hC (hX _ _ h) hio)
      refine g_if_eq hC (pc := 53) 59 h (by decide) dJ2_remove_53 (fun h => ?_) (fun h => ?_)
      · refine g_iinc hC (pc := 59) 4 (d := (1 : Int32)) (v := (x4 + (1 : Int32))) (lv' := [(4, vI (x4 + (1 : Int32))), (0, vQ (some t0)), (1, vQ (some t1)), (2, vQ (some c1)), (3, vI x3)]) rfl (by decide) rfl (by decide) rfl dJ2_remove_59 ?_
        refine g_goto hC (pc := 62) 39 (by decide) dJ2_remove_62 ?_
        exact g_sub [1, 2, 3, 4, 0] rfl (hJ39 _ _ _ _ _ _ h)
      · exact g_sub [0, 2, 4] rfl (w_J2_remove_56 hC hK hX h)
def wp_J2_remove (ad : Nat → Nat) (G : gS) (t0 : Nat) (o1 : Option Nat) (X : Nat → gS → Prop) (K : Int32 → gS → Prop) : Prop :=
  wGetQ G t0 3 1 fun q1 => wGetI G t0 3 2 fun i2 => (o1 = none → gLoop (fun _ _ _ _ _ => False) (wp_J2_remove_17 ad X K) gFuel G t0 q1 i2 (0 : Int32)) ∧ (∀ c3, o1 = some c3 → gLoop (fun _ _ _ _ _ _ => False) (wp_J2_remove_39 ad X K) gFuel G t0 c3 q1 i2 (0 : Int32))
theorem w_J2_remove {C : gCx} (hC : gOk C "java/util/ArrayList" cJ2_remove [] (some .boolean) "remove" 5 2 95) {K : Int32 → gS → Prop} {X : Nat → gS → Prop} (hK : ∀ r G, K r G → cxK C (some (vI r)) G) (hX : ∀ q G, X q G → cxX C q G) {G : gS} {t0 : Nat} {o1 : Option Nat} (h : wp_J2_remove (cxA C) G t0 o1 X K) : gGo C G 0 [(0, vQ (some t0)), (1, vQ o1)] [] := by
  unfold wp_J2_remove at h
  refine g_aload_n hC (pc := 0) 0 rfl rfl dJ2_remove_0 ?_
  refine g_getQ hC (pc := 1) in_J2 (ci := 3) rfl 1 (by decide) q173 (Or.inl rfl) h dJ2_remove_1 (fun q1 h => ?_)
  refine g_astore_n hC (pc := 4) (lv' := [(2, vQ q1), (0, vQ (some t0)), (1, vQ o1)]) rfl (by decide) rfl dJ2_remove_4 ?_
  refine g_aload_n hC (pc := 5) 1 rfl rfl dJ2_remove_5 ?_
  refine g_getI hC (pc := 6) in_J2 (ci := 3) rfl 2 (by decide) q174 (Or.inl rfl) h dJ2_remove_6 (fun i2 h => ?_)
  refine g_istore_n hC (pc := 9) (lv' := [(3, vI i2), (2, vQ q1), (0, vQ (some t0)), (1, vQ o1)]) rfl (by decide) rfl dJ2_remove_9 ?_
  refine g_iconst hC (pc := 10) (v := (0 : Int32)) (by decide) dJ2_remove_10 ?_
  refine g_istore hC (pc := 11) (lv' := [(4, vI (0 : Int32)), (3, vI i2), (2, vQ q1), (0, vQ (some t0)), (1, vQ o1)]) (by decide) rfl dJ2_remove_11 ?_
  refine g_aload_n hC (pc := 13) 4 rfl rfl dJ2_remove_13 ?_
  have hn := h; clear h
  refine g_ifnonnull hC (pc := 14) 39 (P := ¬ o1 = none) (Q := _) ⟨id, hn.1⟩ (by decide) dJ2_remove_14 (fun e0 => ?_) (fun h => ?_)
  · rcases o1 with _ | c3
    · exact absurd rfl e0
    have h := hn.2 _ rfl
    exact g_sub [3, 4, 2, 1, 0] rfl (w_J2_remove_39 hC hK hX gFuel _ _ _ _ _ _ h)
  · exact g_sub [3, 2, 1, 0] rfl (w_J2_remove_17 hC hK hX gFuel _ _ _ _ _ h)
theorem gc_J2_remove : gCode yJ2_remove cJ2_remove 5 (some .boolean) 1 := ⟨q1482, q98, ⟨by decide, by decide⟩, rfl⟩
theorem m_J2_remove {l : Launch} (hfl : l.stackTraces = false) {E : gE} {G : gS} {t0 : Nat} {o1 : Option Nat} {X : Nat → gS → Prop} {K : Int32 → gS → Prop} (h : wp_J2_remove (gAd E) G t0 o1 X K) : gMet l yJ2_remove (ws_ yJ2_remove cJ2_remove 5 (some .boolean)) 2 95 [vQ (some t0), vQ o1] E G (gRi K) X :=
  g_met hfl (plainFor_of_name (by decide +kernel)) rfl rfl rfl (gle rfl) (fun p e R s m args below meth c hC => w_J2_remove hC (fun _ _ h => h) (fun _ _ h => h) h)
def wp_X11_contract (ad : Nat → Nat) (G : gS) (t0 : Nat) (X : Nat → gS → Prop) (K : Option Nat → gS → Prop) : Prop :=
  wGetQ G t0 13 0 fun q1 => K q1 G
theorem w_X11_contract {C : gCx} (hC : gOk C "GoblinHousehold$Cancelled" cX11_contract [] (some (Jvm.ClassFile.FieldType.object "GoblinHousehold$Contract")) "contract" 1 0 0) {K : Option Nat → gS → Prop} {X : Nat → gS → Prop} (hK : ∀ r G, K r G → cxK C (some (vQ r)) G) (hX : ∀ q G, X q G → cxX C q G) {G : gS} {t0 : Nat} (h : wp_X11_contract (cxA C) G t0 X K) : gGo C G 0 [(0, vQ (some t0))] [] := by
  unfold wp_X11_contract at h
  refine g_aload_n hC (pc := 0) 0 rfl rfl dX11_contract_0 ?_
  refine g_getQ hC (pc := 1) in_X11 (ci := 13) rfl 0 (by decide) q1444 (Or.inl rfl) h dX11_contract_1 (fun q1 h => ?_)
  exact g_aret hC (pc := 4) (Or.inl ⟨_, rfl⟩) (hK _ _ h) dX11_contract_4
theorem gc_X11_contract : gCode yX11_contract cX11_contract 1 (some (Jvm.ClassFile.FieldType.object "GoblinHousehold$Contract")) 0 := ⟨q1467, q135, ⟨by decide, by decide⟩, rfl⟩
theorem m_X11_contract {l : Launch} (hfl : l.stackTraces = false) {E : gE} {G : gS} {t0 : Nat} {X : Nat → gS → Prop} {K : Option Nat → gS → Prop} (h : wp_X11_contract (gAd E) G t0 X K) : gMet l yX11_contract (ws_ yX11_contract cX11_contract 1 (some (Jvm.ClassFile.FieldType.object "GoblinHousehold$Contract"))) 0 0 [vQ (some t0)] E G (gRq K) X :=
  g_met hfl (plainFor_of_name (by decide +kernel)) rfl rfl rfl (gle rfl) (fun p e R s m args below meth c hC => w_X11_contract hC (fun _ _ h => h) (fun _ _ h => h) h)
def wp_X13_contract (ad : Nat → Nat) (G : gS) (t0 : Nat) (X : Nat → gS → Prop) (K : Option Nat → gS → Prop) : Prop :=
  wGetQ G t0 14 0 fun q1 => K q1 G
theorem w_X13_contract {C : gCx} (hC : gOk C "GoblinHousehold$Broken" cX13_contract [] (some (Jvm.ClassFile.FieldType.object "GoblinHousehold$Contract")) "contract" 1 0 0) {K : Option Nat → gS → Prop} {X : Nat → gS → Prop} (hK : ∀ r G, K r G → cxK C (some (vQ r)) G) (hX : ∀ q G, X q G → cxX C q G) {G : gS} {t0 : Nat} (h : wp_X13_contract (cxA C) G t0 X K) : gGo C G 0 [(0, vQ (some t0))] [] := by
  unfold wp_X13_contract at h
  refine g_aload_n hC (pc := 0) 0 rfl rfl dX13_contract_0 ?_
  refine g_getQ hC (pc := 1) in_X13 (ci := 14) rfl 0 (by decide) q1696 (Or.inl rfl) h dX13_contract_1 (fun q1 h => ?_)
  exact g_aret hC (pc := 4) (Or.inl ⟨_, rfl⟩) (hK _ _ h) dX13_contract_4
theorem gc_X13_contract : gCode yX13_contract cX13_contract 1 (some (Jvm.ClassFile.FieldType.object "GoblinHousehold$Contract")) 0 := ⟨q1461, q137, ⟨by decide, by decide⟩, rfl⟩
theorem m_X13_contract {l : Launch} (hfl : l.stackTraces = false) {E : gE} {G : gS} {t0 : Nat} {X : Nat → gS → Prop} {K : Option Nat → gS → Prop} (h : wp_X13_contract (gAd E) G t0 X K) : gMet l yX13_contract (ws_ yX13_contract cX13_contract 1 (some (Jvm.ClassFile.FieldType.object "GoblinHousehold$Contract"))) 0 0 [vQ (some t0)] E G (gRq K) X :=
  g_met hfl (plainFor_of_name (by decide +kernel)) rfl rfl rfl (gle rfl) (fun p e R s m args below meth c hC => w_X13_contract hC (fun _ _ h => h) (fun _ _ h => h) h)
def wp_X2_end (ad : Nat → Nat) (G : gS) (t0 : Nat) (o1 : Option Nat) (X : Nat → gS → Prop) (K : gS → Prop) : Prop :=
  wGetQ G t0 2 3 fun q1 => wNN o1 fun c2 => ((gIs G c2 12 ∧ wp_X12_contract ad G c2  X (fun q4 G3 => wNN q1 fun c5 => (gIs G3 c5 3 ∧ wp_J2_remove ad G3 c5 q4 X (fun r7 G6 => (gIs G6 c2 12 ∧ (wGetI G6 t0 2 9 fun i8 => wPut G6 t0 2 9 (.int (i8 + (1 : Int32))) fun G9 => K G9)) ∨ (gIs G6 c2 13 ∧ ((gIs G6 c2 13 ∧ (K G6)) ∨ (gIs G6 c2 14 ∧ (wGetI G6 t0 2 10 fun i10 => wPut G6 t0 2 10 (.int (i10 + (1 : Int32))) fun G11 => K G11)))) ∨ (gIs G6 c2 14 ∧ ((gIs G6 c2 13 ∧ (K G6)) ∨ (gIs G6 c2 14 ∧ (wGetI G6 t0 2 10 fun i12 => wPut G6 t0 2 10 (.int (i12 + (1 : Int32))) fun G13 => K G13))))))))) ∨ ((gIs G c2 13 ∧ wp_X11_contract ad G c2  X (fun q15 G14 => wNN q1 fun c16 => (gIs G14 c16 3 ∧ wp_J2_remove ad G14 c16 q15 X (fun r18 G17 => (gIs G17 c2 12 ∧ (wGetI G17 t0 2 9 fun i19 => wPut G17 t0 2 9 (.int (i19 + (1 : Int32))) fun G20 => K G20)) ∨ (gIs G17 c2 13 ∧ ((gIs G17 c2 13 ∧ (K G17)) ∨ (gIs G17 c2 14 ∧ (wGetI G17 t0 2 10 fun i21 => wPut G17 t0 2 10 (.int (i21 + (1 : Int32))) fun G22 => K G22)))) ∨ (gIs G17 c2 14 ∧ ((gIs G17 c2 13 ∧ (K G17)) ∨ (gIs G17 c2 14 ∧ (wGetI G17 t0 2 10 fun i23 => wPut G17 t0 2 10 (.int (i23 + (1 : Int32))) fun G24 => K G24))))))))) ∨ ((gIs G c2 14 ∧ wp_X13_contract ad G c2  X (fun q26 G25 => wNN q1 fun c27 => (gIs G25 c27 3 ∧ wp_J2_remove ad G25 c27 q26 X (fun r29 G28 => (gIs G28 c2 12 ∧ (wGetI G28 t0 2 9 fun i30 => wPut G28 t0 2 9 (.int (i30 + (1 : Int32))) fun G31 => K G31)) ∨ (gIs G28 c2 13 ∧ ((gIs G28 c2 13 ∧ (K G28)) ∨ (gIs G28 c2 14 ∧ (wGetI G28 t0 2 10 fun i32 => wPut G28 t0 2 10 (.int (i32 + (1 : Int32))) fun G33 => K G33)))) ∨ (gIs G28 c2 14 ∧ ((gIs G28 c2 13 ∧ (K G28)) ∨ (gIs G28 c2 14 ∧ (wGetI G28 t0 2 10 fun i34 => wPut G28 t0 2 10 (.int (i34 + (1 : Int32))) fun G35 => K G35)))))))))
theorem w_X2_end {C : gCx} (hC : gOk C "GoblinHousehold$Household" cX2_end [] none "end" 2 3 127) {K : gS → Prop} {X : Nat → gS → Prop} (hK : ∀ G, K G → cxK C none G) (hX : ∀ q G, X q G → cxX C q G) {G : gS} {t0 : Nat} {o1 : Option Nat} (h : wp_X2_end (cxA C) G t0 o1 X K) : gGo C G 0 [(0, vQ (some t0)), (1, vQ o1)] [] := by
  unfold wp_X2_end at h
  refine g_aload_n hC (pc := 0) 0 rfl rfl dX2_end_0 ?_
  refine g_getQ hC (pc := 1) in_X2 (ci := 2) rfl 3 (by decide) q194 (Or.inl rfl) h dX2_end_1 (fun q1 h => ?_)
  refine g_aload_n hC (pc := 4) 1 rfl rfl dX2_end_4 ?_
  rcases o1 with _ | c2
  · exact (gNN0 h).elim
  replace h := gNN1 h
  rcases h with h | h | h
  · obtain ⟨hi, h⟩ := h
    refine g_callF hC (pc := 5) (ci := 12) (As := []) gc_X12_contract (m_X12_contract hC.fl h) rfl hi q1453 (List.mem_of_getElem? (i := 11) rfl) rfl q1469 q1471 (gle rfl) (gle rfl) rfl (gle rfl) rfl dX2_end_5 (gk_q fun q4 G3 h => ?_) (fun _ _ h hio => g_out0 hC (hX _ _ h) hio)
    rcases q1 with _ | c5
    · exact (gNN0 h).elim
    replace h := gNN1 h
    obtain ⟨hi, h⟩ := h
    refine g_callF hC (pc := 10) (ci := 3) (As := [vQ q4]) gc_J2_remove (m_J2_remove hC.fl h) rfl hi q1475 (List.mem_of_getElem? (i := 12) rfl) rfl q1478 q1480 (gle rfl) (gle rfl) rfl (gle rfl) rfl dX2_end_10 (gk_i fun r7 G6 h => ?_) (fun _ _ h hio => g_out0 hC (hX _ _ h) hio)
    refine g_pop hC (pc := 15) rfl dX2_end_15 ?_
    refine g_aload_n hC (pc := 16) 1 rfl rfl dX2_end_16 ?_
    rcases h with h | h | h
    · obtain ⟨hi, h⟩ := h
      refine g_instS hC (pc := 17) (ci := 12) rfl (by decide) q1541 hi dX2_end_17 ?_
      refine g_if_eq hC (pc := 20) 36 (P := False) (Q := True) ⟨fun e => absurd e (by decide), fun _ => trivial⟩ (by decide) dX2_end_20 (fun e => e.elim) (fun _ => ?_)
      refine g_aload_n hC (pc := 23) 0 rfl rfl dX2_end_23 ?_
      refine g_dup hC (pc := 24) rfl dX2_end_24 ?_
      refine g_getI hC (pc := 25) in_X2 (ci := 2) rfl 9 (by decide) q203 (Or.inl rfl) h dX2_end_25 (fun i8 h => ?_)
      refine g_iconst hC (pc := 28) (v := (1 : Int32)) (by decide) dX2_end_28 ?_
      refine g_iadd hC (pc := 29) dX2_end_29 ?_
      refine g_put hC (pc := 30) in_X2 (ci := 2) rfl 9 (by decide) tyX2_ok nmX2 q203 (Or.inl rfl) rfl rfl rfl h dX2_end_30 (fun G9 h => ?_)
      refine g_goto hC (pc := 33) 53 (by decide) dX2_end_33 ?_
      exact g_vret hC (pc := 53) (hK _ h) dX2_end_53
    · obtain ⟨hi, h⟩ := h
      refine g_instNo hC (pc := 17) (ci := 13) rfl (List.mem_of_getElem? (i := 31) rfl) q1541 hi dX2_end_17 ?_
      refine g_if_eq hC (pc := 20) 36 (P := True) (Q := False) ⟨fun _ => trivial, fun e => absurd (by decide) e⟩ (by decide) dX2_end_20 (fun _ => ?_) (fun e => e.elim)
      refine g_aload_n hC (pc := 36) 1 rfl rfl dX2_end_36 ?_
      rcases h with h | h
      · obtain ⟨hi, h⟩ := h
        refine g_instNo hC (pc := 37) (ci := 13) rfl (List.mem_of_getElem? (i := 32) rfl) q1542 hi dX2_end_37 ?_
        refine g_if_eq hC (pc := 40) 53 (P := True) (Q := False) ⟨fun _ => trivial, fun e => absurd (by decide) e⟩ (by decide) dX2_end_40 (fun _ => ?_) (fun e => e.elim)
        exact g_vret hC (pc := 53) (hK _ h) dX2_end_53
      · obtain ⟨hi, h⟩ := h
        refine g_instS hC (pc := 37) (ci := 14) rfl (by decide) q1542 hi dX2_end_37 ?_
        refine g_if_eq hC (pc := 40) 53 (P := False) (Q := True) ⟨fun e => absurd e (by decide), fun _ => trivial⟩ (by decide) dX2_end_40 (fun e => e.elim) (fun _ => ?_)
        refine g_aload_n hC (pc := 43) 0 rfl rfl dX2_end_43 ?_
        refine g_dup hC (pc := 44) rfl dX2_end_44 ?_
        refine g_getI hC (pc := 45) in_X2 (ci := 2) rfl 10 (by decide) q205 (Or.inl rfl) h dX2_end_45 (fun i10 h => ?_)
        refine g_iconst hC (pc := 48) (v := (1 : Int32)) (by decide) dX2_end_48 ?_
        refine g_iadd hC (pc := 49) dX2_end_49 ?_
        refine g_put hC (pc := 50) in_X2 (ci := 2) rfl 10 (by decide) tyX2_ok nmX2 q205 (Or.inl rfl) rfl rfl rfl h dX2_end_50 (fun G11 h => ?_)
        exact g_vret hC (pc := 53) (hK _ h) dX2_end_53
    · obtain ⟨hi, h⟩ := h
      refine g_instNo hC (pc := 17) (ci := 14) rfl (List.mem_of_getElem? (i := 33) rfl) q1541 hi dX2_end_17 ?_
      refine g_if_eq hC (pc := 20) 36 (P := True) (Q := False) ⟨fun _ => trivial, fun e => absurd (by decide) e⟩ (by decide) dX2_end_20 (fun _ => ?_) (fun e => e.elim)
      refine g_aload_n hC (pc := 36) 1 rfl rfl dX2_end_36 ?_
      rcases h with h | h
      · obtain ⟨hi, h⟩ := h
        refine g_instNo hC (pc := 37) (ci := 13) rfl (List.mem_of_getElem? (i := 32) rfl) q1542 hi dX2_end_37 ?_
        refine g_if_eq hC (pc := 40) 53 (P := True) (Q := False) ⟨fun _ => trivial, fun e => absurd (by decide) e⟩ (by decide) dX2_end_40 (fun _ => ?_) (fun e => e.elim)
        exact g_vret hC (pc := 53) (hK _ h) dX2_end_53
      · obtain ⟨hi, h⟩ := h
        refine g_instS hC (pc := 37) (ci := 14) rfl (by decide) q1542 hi dX2_end_37 ?_
        refine g_if_eq hC (pc := 40) 53 (P := False) (Q := True) ⟨fun e => absurd e (by decide), fun _ => trivial⟩ (by decide) dX2_end_40 (fun e => e.elim) (fun _ => ?_)
        refine g_aload_n hC (pc := 43) 0 rfl rfl dX2_end_43 ?_
        refine g_dup hC (pc := 44) rfl dX2_end_44 ?_
        refine g_getI hC (pc := 45) in_X2 (ci := 2) rfl 10 (by decide) q205 (Or.inl rfl) h dX2_end_45 (fun i12 h => ?_)
        refine g_iconst hC (pc := 48) (v := (1 : Int32)) (by decide) dX2_end_48 ?_
        refine g_iadd hC (pc := 49) dX2_end_49 ?_
        refine g_put hC (pc := 50) in_X2 (ci := 2) rfl 10 (by decide) tyX2_ok nmX2 q205 (Or.inl rfl) rfl rfl rfl h dX2_end_50 (fun G13 h => ?_)
        exact g_vret hC (pc := 53) (hK _ h) dX2_end_53
  · obtain ⟨hi, h⟩ := h
    refine g_callF hC (pc := 5) (ci := 13) (As := []) gc_X11_contract (m_X11_contract hC.fl h) rfl hi q1453 (List.mem_of_getElem? (i := 10) rfl) rfl q1463 q1465 (gle rfl) (gle rfl) rfl (gle rfl) rfl dX2_end_5 (gk_q fun q15 G14 h => ?_) (fun _ _ h hio => g_out0 hC (hX _ _ h) hio)
    rcases q1 with _ | c16
    · exact (gNN0 h).elim
    replace h := gNN1 h
    obtain ⟨hi, h⟩ := h
    refine g_callF hC (pc := 10) (ci := 3) (As := [vQ q15]) gc_J2_remove (m_J2_remove hC.fl h) rfl hi q1475 (List.mem_of_getElem? (i := 12) rfl) rfl q1478 q1480 (gle rfl) (gle rfl) rfl (gle rfl) rfl dX2_end_10 (gk_i fun r18 G17 h => ?_) (fun _ _ h hio => g_out0 hC (hX _ _ h) hio)
    refine g_pop hC (pc := 15) rfl dX2_end_15 ?_
    refine g_aload_n hC (pc := 16) 1 rfl rfl dX2_end_16 ?_
    rcases h with h | h | h
    · obtain ⟨hi, h⟩ := h
      refine g_instS hC (pc := 17) (ci := 12) rfl (by decide) q1541 hi dX2_end_17 ?_
      refine g_if_eq hC (pc := 20) 36 (P := False) (Q := True) ⟨fun e => absurd e (by decide), fun _ => trivial⟩ (by decide) dX2_end_20 (fun e => e.elim) (fun _ => ?_)
      refine g_aload_n hC (pc := 23) 0 rfl rfl dX2_end_23 ?_
      refine g_dup hC (pc := 24) rfl dX2_end_24 ?_
      refine g_getI hC (pc := 25) in_X2 (ci := 2) rfl 9 (by decide) q203 (Or.inl rfl) h dX2_end_25 (fun i19 h => ?_)
      refine g_iconst hC (pc := 28) (v := (1 : Int32)) (by decide) dX2_end_28 ?_
      refine g_iadd hC (pc := 29) dX2_end_29 ?_
      refine g_put hC (pc := 30) in_X2 (ci := 2) rfl 9 (by decide) tyX2_ok nmX2 q203 (Or.inl rfl) rfl rfl rfl h dX2_end_30 (fun G20 h => ?_)
      refine g_goto hC (pc := 33) 53 (by decide) dX2_end_33 ?_
      exact g_vret hC (pc := 53) (hK _ h) dX2_end_53
    · obtain ⟨hi, h⟩ := h
      refine g_instNo hC (pc := 17) (ci := 13) rfl (List.mem_of_getElem? (i := 31) rfl) q1541 hi dX2_end_17 ?_
      refine g_if_eq hC (pc := 20) 36 (P := True) (Q := False) ⟨fun _ => trivial, fun e => absurd (by decide) e⟩ (by decide) dX2_end_20 (fun _ => ?_) (fun e => e.elim)
      refine g_aload_n hC (pc := 36) 1 rfl rfl dX2_end_36 ?_
      rcases h with h | h
      · obtain ⟨hi, h⟩ := h
        refine g_instNo hC (pc := 37) (ci := 13) rfl (List.mem_of_getElem? (i := 32) rfl) q1542 hi dX2_end_37 ?_
        refine g_if_eq hC (pc := 40) 53 (P := True) (Q := False) ⟨fun _ => trivial, fun e => absurd (by decide) e⟩ (by decide) dX2_end_40 (fun _ => ?_) (fun e => e.elim)
        exact g_vret hC (pc := 53) (hK _ h) dX2_end_53
      · obtain ⟨hi, h⟩ := h
        refine g_instS hC (pc := 37) (ci := 14) rfl (by decide) q1542 hi dX2_end_37 ?_
        refine g_if_eq hC (pc := 40) 53 (P := False) (Q := True) ⟨fun e => absurd e (by decide), fun _ => trivial⟩ (by decide) dX2_end_40 (fun e => e.elim) (fun _ => ?_)
        refine g_aload_n hC (pc := 43) 0 rfl rfl dX2_end_43 ?_
        refine g_dup hC (pc := 44) rfl dX2_end_44 ?_
        refine g_getI hC (pc := 45) in_X2 (ci := 2) rfl 10 (by decide) q205 (Or.inl rfl) h dX2_end_45 (fun i21 h => ?_)
        refine g_iconst hC (pc := 48) (v := (1 : Int32)) (by decide) dX2_end_48 ?_
        refine g_iadd hC (pc := 49) dX2_end_49 ?_
        refine g_put hC (pc := 50) in_X2 (ci := 2) rfl 10 (by decide) tyX2_ok nmX2 q205 (Or.inl rfl) rfl rfl rfl h dX2_end_50 (fun G22 h => ?_)
        exact g_vret hC (pc := 53) (hK _ h) dX2_end_53
    · obtain ⟨hi, h⟩ := h
      refine g_instNo hC (pc := 17) (ci := 14) rfl (List.mem_of_getElem? (i := 33) rfl) q1541 hi dX2_end_17 ?_
      refine g_if_eq hC (pc := 20) 36 (P := True) (Q := False) ⟨fun _ => trivial, fun e => absurd (by decide) e⟩ (by decide) dX2_end_20 (fun _ => ?_) (fun e => e.elim)
      refine g_aload_n hC (pc := 36) 1 rfl rfl dX2_end_36 ?_
      rcases h with h | h
      · obtain ⟨hi, h⟩ := h
        refine g_instNo hC (pc := 37) (ci := 13) rfl (List.mem_of_getElem? (i := 32) rfl) q1542 hi dX2_end_37 ?_
        refine g_if_eq hC (pc := 40) 53 (P := True) (Q := False) ⟨fun _ => trivial, fun e => absurd (by decide) e⟩ (by decide) dX2_end_40 (fun _ => ?_) (fun e => e.elim)
        exact g_vret hC (pc := 53) (hK _ h) dX2_end_53
      · obtain ⟨hi, h⟩ := h
        refine g_instS hC (pc := 37) (ci := 14) rfl (by decide) q1542 hi dX2_end_37 ?_
        refine g_if_eq hC (pc := 40) 53 (P := False) (Q := True) ⟨fun e => absurd e (by decide), fun _ => trivial⟩ (by decide) dX2_end_40 (fun e => e.elim) (fun _ => ?_)
        refine g_aload_n hC (pc := 43) 0 rfl rfl dX2_end_43 ?_
        refine g_dup hC (pc := 44) rfl dX2_end_44 ?_
        refine g_getI hC (pc := 45) in_X2 (ci := 2) rfl 10 (by decide) q205 (Or.inl rfl) h dX2_end_45 (fun i23 h => ?_)
        refine g_iconst hC (pc := 48) (v := (1 : Int32)) (by decide) dX2_end_48 ?_
        refine g_iadd hC (pc := 49) dX2_end_49 ?_
        refine g_put hC (pc := 50) in_X2 (ci := 2) rfl 10 (by decide) tyX2_ok nmX2 q205 (Or.inl rfl) rfl rfl rfl h dX2_end_50 (fun G24 h => ?_)
        exact g_vret hC (pc := 53) (hK _ h) dX2_end_53
  · obtain ⟨hi, h⟩ := h
    refine g_callF hC (pc := 5) (ci := 14) (As := []) gc_X13_contract (m_X13_contract hC.fl h) rfl hi q1453 (List.mem_of_getElem? (i := 9) rfl) rfl q1457 q1459 (gle rfl) (gle rfl) rfl (gle rfl) rfl dX2_end_5 (gk_q fun q26 G25 h => ?_) (fun _ _ h hio => g_out0 hC (hX _ _ h) hio)
    rcases q1 with _ | c27
    · exact (gNN0 h).elim
    replace h := gNN1 h
    obtain ⟨hi, h⟩ := h
    refine g_callF hC (pc := 10) (ci := 3) (As := [vQ q26]) gc_J2_remove (m_J2_remove hC.fl h) rfl hi q1475 (List.mem_of_getElem? (i := 12) rfl) rfl q1478 q1480 (gle rfl) (gle rfl) rfl (gle rfl) rfl dX2_end_10 (gk_i fun r29 G28 h => ?_) (fun _ _ h hio => g_out0 hC (hX _ _ h) hio)
    refine g_pop hC (pc := 15) rfl dX2_end_15 ?_
    refine g_aload_n hC (pc := 16) 1 rfl rfl dX2_end_16 ?_
    rcases h with h | h | h
    · obtain ⟨hi, h⟩ := h
      refine g_instS hC (pc := 17) (ci := 12) rfl (by decide) q1541 hi dX2_end_17 ?_
      refine g_if_eq hC (pc := 20) 36 (P := False) (Q := True) ⟨fun e => absurd e (by decide), fun _ => trivial⟩ (by decide) dX2_end_20 (fun e => e.elim) (fun _ => ?_)
      refine g_aload_n hC (pc := 23) 0 rfl rfl dX2_end_23 ?_
      refine g_dup hC (pc := 24) rfl dX2_end_24 ?_
      refine g_getI hC (pc := 25) in_X2 (ci := 2) rfl 9 (by decide) q203 (Or.inl rfl) h dX2_end_25 (fun i30 h => ?_)
      refine g_iconst hC (pc := 28) (v := (1 : Int32)) (by decide) dX2_end_28 ?_
      refine g_iadd hC (pc := 29) dX2_end_29 ?_
      refine g_put hC (pc := 30) in_X2 (ci := 2) rfl 9 (by decide) tyX2_ok nmX2 q203 (Or.inl rfl) rfl rfl rfl h dX2_end_30 (fun G31 h => ?_)
      refine g_goto hC (pc := 33) 53 (by decide) dX2_end_33 ?_
      exact g_vret hC (pc := 53) (hK _ h) dX2_end_53
    · obtain ⟨hi, h⟩ := h
      refine g_instNo hC (pc := 17) (ci := 13) rfl (List.mem_of_getElem? (i := 31) rfl) q1541 hi dX2_end_17 ?_
      refine g_if_eq hC (pc := 20) 36 (P := True) (Q := False) ⟨fun _ => trivial, fun e => absurd (by decide) e⟩ (by decide) dX2_end_20 (fun _ => ?_) (fun e => e.elim)
      refine g_aload_n hC (pc := 36) 1 rfl rfl dX2_end_36 ?_
      rcases h with h | h
      · obtain ⟨hi, h⟩ := h
        refine g_instNo hC (pc := 37) (ci := 13) rfl (List.mem_of_getElem? (i := 32) rfl) q1542 hi dX2_end_37 ?_
        refine g_if_eq hC (pc := 40) 53 (P := True) (Q := False) ⟨fun _ => trivial, fun e => absurd (by decide) e⟩ (by decide) dX2_end_40 (fun _ => ?_) (fun e => e.elim)
        exact g_vret hC (pc := 53) (hK _ h) dX2_end_53
      · obtain ⟨hi, h⟩ := h
        refine g_instS hC (pc := 37) (ci := 14) rfl (by decide) q1542 hi dX2_end_37 ?_
        refine g_if_eq hC (pc := 40) 53 (P := False) (Q := True) ⟨fun e => absurd e (by decide), fun _ => trivial⟩ (by decide) dX2_end_40 (fun e => e.elim) (fun _ => ?_)
        refine g_aload_n hC (pc := 43) 0 rfl rfl dX2_end_43 ?_
        refine g_dup hC (pc := 44) rfl dX2_end_44 ?_
        refine g_getI hC (pc := 45) in_X2 (ci := 2) rfl 10 (by decide) q205 (Or.inl rfl) h dX2_end_45 (fun i32 h => ?_)
        refine g_iconst hC (pc := 48) (v := (1 : Int32)) (by decide) dX2_end_48 ?_
        refine g_iadd hC (pc := 49) dX2_end_49 ?_
        refine g_put hC (pc := 50) in_X2 (ci := 2) rfl 10 (by decide) tyX2_ok nmX2 q205 (Or.inl rfl) rfl rfl rfl h dX2_end_50 (fun G33 h => ?_)
        exact g_vret hC (pc := 53) (hK _ h) dX2_end_53
    · obtain ⟨hi, h⟩ := h
      refine g_instNo hC (pc := 17) (ci := 14) rfl (List.mem_of_getElem? (i := 33) rfl) q1541 hi dX2_end_17 ?_
      refine g_if_eq hC (pc := 20) 36 (P := True) (Q := False) ⟨fun _ => trivial, fun e => absurd (by decide) e⟩ (by decide) dX2_end_20 (fun _ => ?_) (fun e => e.elim)
      refine g_aload_n hC (pc := 36) 1 rfl rfl dX2_end_36 ?_
      rcases h with h | h
      · obtain ⟨hi, h⟩ := h
        refine g_instNo hC (pc := 37) (ci := 13) rfl (List.mem_of_getElem? (i := 32) rfl) q1542 hi dX2_end_37 ?_
        refine g_if_eq hC (pc := 40) 53 (P := True) (Q := False) ⟨fun _ => trivial, fun e => absurd (by decide) e⟩ (by decide) dX2_end_40 (fun _ => ?_) (fun e => e.elim)
        exact g_vret hC (pc := 53) (hK _ h) dX2_end_53
      · obtain ⟨hi, h⟩ := h
        refine g_instS hC (pc := 37) (ci := 14) rfl (by decide) q1542 hi dX2_end_37 ?_
        refine g_if_eq hC (pc := 40) 53 (P := False) (Q := True) ⟨fun e => absurd e (by decide), fun _ => trivial⟩ (by decide) dX2_end_40 (fun e => e.elim) (fun _ => ?_)
        refine g_aload_n hC (pc := 43) 0 rfl rfl dX2_end_43 ?_
        refine g_dup hC (pc := 44) rfl dX2_end_44 ?_
        refine g_getI hC (pc := 45) in_X2 (ci := 2) rfl 10 (by decide) q205 (Or.inl rfl) h dX2_end_45 (fun i34 h => ?_)
        refine g_iconst hC (pc := 48) (v := (1 : Int32)) (by decide) dX2_end_48 ?_
        refine g_iadd hC (pc := 49) dX2_end_49 ?_
        refine g_put hC (pc := 50) in_X2 (ci := 2) rfl 10 (by decide) tyX2_ok nmX2 q205 (Or.inl rfl) rfl rfl rfl h dX2_end_50 (fun G35 h => ?_)
        exact g_vret hC (pc := 53) (hK _ h) dX2_end_53
theorem gc_X2_end : gCode yX2_end cX2_end 2 none 1 := ⟨q1451, q95, ⟨by decide, by decide⟩, rfl⟩
theorem m_X2_end {l : Launch} (hfl : l.stackTraces = false) {E : gE} {G : gS} {t0 : Nat} {o1 : Option Nat} {X : Nat → gS → Prop} {K : gS → Prop} (h : wp_X2_end (gAd E) G t0 o1 X K) : gMet l yX2_end (ws_ yX2_end cX2_end 2 none) 3 127 [vQ (some t0), vQ o1] E G (gRv K) X :=
  g_met hfl (plainFor_of_name (by decide +kernel)) rfl rfl rfl (gle rfl) (fun p e R s m args below meth c hC => w_X2_end hC (fun _ h => h) (fun _ _ h => h) h)
def wp_X7_take (ad : Nat → Nat) (G : gS) (t0 : Nat) (x1 : Int32) (X : Nat → gS → Prop) (K : gS → Prop) : Prop :=
  wGetI G t0 9 1 fun i1 => wPut G t0 9 1 (.int (i1 + x1)) fun G2 => K G2
theorem w_X7_take {C : gCx} (hC : gOk C "GoblinHousehold$Debtor" cX7_take [] none "take" 2 0 0) {K : gS → Prop} {X : Nat → gS → Prop} (hK : ∀ G, K G → cxK C none G) (hX : ∀ q G, X q G → cxX C q G) {G : gS} {t0 : Nat} {x1 : Int32} (h : wp_X7_take (cxA C) G t0 x1 X K) : gGo C G 0 [(0, vQ (some t0)), (1, vI x1)] [] := by
  unfold wp_X7_take at h
  refine g_aload_n hC (pc := 0) 0 rfl rfl dX7_take_0 ?_
  refine g_dup hC (pc := 1) rfl dX7_take_1 ?_
  refine g_getI hC (pc := 2) in_X8 (ci := 9) rfl 1 (by decide) q937 (Or.inl rfl) h dX7_take_2 (fun i1 h => ?_)
  refine g_iload_n hC (pc := 5) 1 rfl rfl dX7_take_5 ?_
  refine g_iadd hC (pc := 6) dX7_take_6 ?_
  refine g_put hC (pc := 7) in_X8 (ci := 9) rfl 1 (by decide) tyX8_ok nmX8 q937 (Or.inl rfl) rfl rfl rfl h dX7_take_7 (fun G2 h => ?_)
  exact g_vret hC (pc := 10) (hK _ h) dX7_take_10
theorem gc_X7_take : gCode yX7_take cX7_take 2 none 1 := ⟨q1548, q111, ⟨by decide, by decide⟩, rfl⟩
theorem m_X7_take {l : Launch} (hfl : l.stackTraces = false) {E : gE} {G : gS} {t0 : Nat} {x1 : Int32} {X : Nat → gS → Prop} {K : gS → Prop} (h : wp_X7_take (gAd E) G t0 x1 X K) : gMet l yX7_take (ws_ yX7_take cX7_take 2 none) 0 0 [vQ (some t0), vI x1] E G (gRv K) X :=
  g_met hfl (plainFor_of_name (by decide +kernel)) rfl rfl rfl (gle rfl) (fun p e R s m args below meth c hC => w_X7_take hC (fun _ h => h) (fun _ _ h => h) h)
def wp_X2_cancel_15 (ad : Nat → Nat) (X : Nat → gS → Prop) (K : Int32 → gS → Prop) (G : gS) (t0 : Nat) (o2 : Option Nat) (xs0 : Int32) : Prop :=
  wp_X1_demand ad G xs0 (some (ad 119)) X (fun G1 => wGetI G1 t0 2 5 fun i2 => wNN o2 fun c3 => wGetI G1 c3 10 3 fun i4 => wNew G1 13 1 [.null] fun c6 G5 => wp_X11_init ad G5 c6 (some c3) X (fun G7 => (gIs G7 t0 2 ∧ wp_X2_end ad G7 t0 (some c6) X (fun G8 => wGetI G8 t0 2 5 fun i9 => wPut G8 t0 2 5 (.int (i9 - (if (i4 / (10 : Int32)) < i2 then (i4 / (10 : Int32)) else i2))) fun G10 => wGetQ G10 t0 2 2 fun q11 => wGetI G10 c3 10 1 fun i12 => wNN q11 fun c13 => (gIs G10 c13 3 ∧ wp_J2_get ad G10 c13 i12 X (fun q15 G14 => wCast G14 q15 [9] (wNN q15 fun c16 => (gIs G14 c16 9 ∧ wp_X7_take ad G14 c16 (if (i4 / (10 : Int32)) < i2 then (i4 / (10 : Int32)) else i2) X (fun G17 => K (if (i4 / (10 : Int32)) < i2 then (i4 / (10 : Int32)) else i2) G17)))))))))
theorem w_X2_cancel_15 {C : gCx} (hC : gOk C "GoblinHousehold$Household" cX2_cancel [] (some .int) "cancel" 4 9 247) {K : Int32 → gS → Prop} {X : Nat → gS → Prop} (hK : ∀ r G, K r G → cxK C (some (vI r)) G) (hX : ∀ q G, X q G → cxX C q G) {G : gS} {t0 : Nat} {o2 : Option Nat} {xs0 : Int32} (h : wp_X2_cancel_15 (cxA C) X K G t0 o2 xs0) : gGo C G 15 [(0, vQ (some t0)), (2, vQ o2)] [vI xs0] := by
  unfold wp_X2_cancel_15 at h
  refine g_ldcS hC (pc := 15) (List.mem_of_getElem? (i := 19) rfl) dX2_cancel_15 ?_
  refine g_callSN hC (pc := 17) (b := 0) (As := [vI xs0, vQ (some (cxA C 119))]) gc_X1_demand (m_X1_demand hC.fl h) (List.mem_of_getElem? (i := 3) rfl) q888 (gle rfl) (gle rfl) rfl (gle rfl) rfl dX2_cancel_17 (gk_v fun G1 h => ?_) (fun _ _ h hio => g_out0 hC (hX _ _ h) hio)
  refine g_aload_n hC (pc := 20) 0 rfl rfl dX2_cancel_20 ?_
  refine g_getI hC (pc := 21) in_X2 (ci := 2) rfl 5 (by decide) q197 (Or.inl rfl) h dX2_cancel_21 (fun i2 h => ?_)
  refine g_aload_n hC (pc := 24) 1 rfl rfl dX2_cancel_24 ?_
  rcases o2 with _ | c3
  · exact (gNN0 h).elim
  replace h := gNN1 h
  refine g_getIN hC (pc := 25) in_X10 (ci := 10) rfl 3 (by decide) (List.mem_of_getElem? (i := 25) rfl) (Or.inl rfl) h dX2_cancel_25 (fun i4 h => ?_)
  refine g_bipush hC (pc := 28) (v := (10 : Int32)) (by decide) dX2_cancel_28 ?_
  refine g_idiv hC (pc := 30) (by decide) dX2_cancel_30 ?_
  refine g_min hC (pc := 31) q1434 q489 q114 q490 (gle rfl) (gle rfl) (gle rfl) dX2_cancel_31 ?_
  refine g_istore_n hC (pc := 34) (lv' := [(3, vI (if (i4 / (10 : Int32)) < i2 then (i4 / (10 : Int32)) else i2)), (0, vQ (some t0)), (2, vQ (some c3))]) rfl (by decide) rfl dX2_cancel_34 ?_
  refine g_aload_n hC (pc := 35) 1 rfl rfl dX2_cancel_35 ?_
  refine g_new hC (pc := 36) in_X11 (ci := 13) rfl (by decide) tyX11_ok q1435 q1436 q135 gdf_X11 h dX2_cancel_36 (fun c6 G5 h => ?_)
  refine g_dup hC (pc := 39) rfl dX2_cancel_39 ?_
  refine g_aload_n hC (pc := 40) 2 rfl rfl dX2_cancel_40 ?_
  refine g_callIN hC (pc := 41) (As := [vQ (some c3)]) gc_X11_init (m_X11_init hC.fl h) rfl (List.mem_of_getElem? (i := 5) rfl) q1438 (gle rfl) (gle rfl) rfl (gle rfl) rfl dX2_cancel_41 (gk_v fun G7 h => ?_) (fun _ _ h hio => g_out0 hC (hX _ _ h) hio)
  obtain ⟨hi, h⟩ := h
  refine g_callV hC (pc := 44) (ci := 2) (As := [vQ (some c6)]) gc_X2_end (m_X2_end hC.fl h) rfl hi q1448 q1450 qs16 (gle rfl) (gle rfl) rfl (gle rfl) rfl dX2_cancel_44 (gk_v fun G8 h => ?_) (fun _ _ h hio => g_out0 hC (hX _ _ h) hio)
  refine g_aload_n hC (pc := 47) 1 rfl rfl dX2_cancel_47 ?_
  refine g_dup hC (pc := 48) rfl dX2_cancel_48 ?_
  refine g_getI hC (pc := 49) in_X2 (ci := 2) rfl 5 (by decide) q197 (Or.inl rfl) h dX2_cancel_49 (fun i9 h => ?_)
  refine g_iload_n hC (pc := 52) 0 rfl rfl dX2_cancel_52 ?_
  refine g_isub hC (pc := 53) dX2_cancel_53 ?_
  refine g_put hC (pc := 54) in_X2 (ci := 2) rfl 5 (by decide) tyX2_ok nmX2 q197 (Or.inl rfl) rfl rfl rfl h dX2_cancel_54 (fun G10 h => ?_)
  refine g_aload_n hC (pc := 57) 1 rfl rfl dX2_cancel_57 ?_
  refine g_getQ hC (pc := 58) in_X2 (ci := 2) rfl 2 (by decide) q192 (Or.inl rfl) h dX2_cancel_58 (fun q11 h => ?_)
  refine g_aload_n hC (pc := 61) 2 rfl rfl dX2_cancel_61 ?_
  refine g_getIN hC (pc := 62) in_X10 (ci := 10) rfl 1 (by decide) (List.mem_of_getElem? (i := 20) rfl) (Or.inl rfl) h dX2_cancel_62 (fun i12 h => ?_)
  rcases q11 with _ | c13
  · exact (gNN0 h).elim
  replace h := gNN1 h
  obtain ⟨hi, h⟩ := h
  refine g_callF hC (pc := 65) (ci := 3) (As := [vI i12]) gc_J2_get (m_J2_get hC.fl h) rfl hi q361 (List.mem_of_getElem? (i := 2) rfl) rfl q364 q366 (gle rfl) (gle rfl) rfl (gle rfl) rfl dX2_cancel_65 (gk_q fun q15 G14 h => ?_) (fun _ _ h hio => g_out0 hC (hX _ _ h) hio)
  refine g_cast hC (pc := 70) q706 h (List.forall_mem_cons.mpr ⟨⟨_, rfl, Or.inr ⟨rfl, by decide⟩⟩, fun _ h => nomatch h⟩) dX2_cancel_70 (fun h => ?_)
  refine g_iload_n hC (pc := 73) 0 rfl rfl dX2_cancel_73 ?_
  rcases q15 with _ | c16
  · exact (gNN0 h).elim
  replace h := gNN1 h
  obtain ⟨hi, h⟩ := h
  refine g_callU hC (pc := 74) (ci := 9) (As := [vI (if (i4 / (10 : Int32)) < i2 then (i4 / (10 : Int32)) else i2)]) gc_X7_take (m_X7_take hC.fl h) (x := ⟨"GoblinHousehold$Goblin", "take", "(I)V"⟩) (owner := "GoblinHousehold$Debtor") rfl hi q1543 q1544 q1547 q1548 ⟨by decide, by decide⟩ rfl q1546 q1547 (gle rfl) (gle rfl) rfl (gle rfl) rfl dX2_cancel_74 (gk_v fun G17 h => ?_) (fun _ _ h hio => g_out0 hC (hX _ _ h) hio)
  refine g_iload_n hC (pc := 77) 0 rfl rfl dX2_cancel_77 ?_
  exact g_iret hC (pc := 78) (hK _ _ h) dX2_cancel_78
def wp_X2_cancel (ad : Nat → Nat) (G : gS) (t0 : Nat) (x1 : Int32) (X : Nat → gS → Prop) (K : Int32 → gS → Prop) : Prop :=
  (gIs G t0 2 ∧ wp_X2_find ad G t0 x1 X (fun q2 G1 => (q2 = none → wp_X2_cancel_15 ad X K G1 t0 q2 (0 : Int32)) ∧ (∀ c3, q2 = some c3 → wp_X2_cancel_15 ad X K G1 t0 (some c3) (1 : Int32))))
theorem w_X2_cancel {C : gCx} (hC : gOk C "GoblinHousehold$Household" cX2_cancel [] (some .int) "cancel" 4 9 247) {K : Int32 → gS → Prop} {X : Nat → gS → Prop} (hK : ∀ r G, K r G → cxK C (some (vI r)) G) (hX : ∀ q G, X q G → cxX C q G) {G : gS} {t0 : Nat} {x1 : Int32} (h : wp_X2_cancel (cxA C) G t0 x1 X K) : gGo C G 0 [(0, vQ (some t0)), (1, vI x1)] [] := by
  unfold wp_X2_cancel at h
  refine g_aload_n hC (pc := 0) 0 rfl rfl dX2_cancel_0 ?_
  refine g_iload_n hC (pc := 1) 1 rfl rfl dX2_cancel_1 ?_
  obtain ⟨hi, h⟩ := h
  refine g_callV hC (pc := 2) (ci := 2) (As := [vI x1]) gc_X2_find (m_X2_find hC.fl h) rfl hi q1429 q1430 q1431 (gle rfl) (gle rfl) rfl (gle rfl) rfl dX2_cancel_2 (gk_q fun q2 G1 h => ?_) (fun _ _ h hio => g_out0 hC (hX _ _ h) hio)
  refine g_astore_n hC (pc := 5) (lv' := [(2, vQ q2), (0, vQ (some t0)), (1, vI x1)]) rfl (by decide) rfl dX2_cancel_5 ?_
  refine g_aload_n hC (pc := 6) 0 rfl rfl dX2_cancel_6 ?_
  have hn := h; clear h
  refine g_ifnull hC (pc := 7) 14 (P := _) (Q := ¬ q2 = none) ⟨hn.1, id⟩ (by decide) dX2_cancel_7 (fun h => ?_) (fun e0 => ?_)
  · refine g_iconst hC (pc := 14) (v := (0 : Int32)) (by decide) dX2_cancel_14 ?_
    exact g_sub [1, 0] rfl (w_X2_cancel_15 hC hK hX h)
  · rcases q2 with _ | c3
    · exact absurd rfl e0
    have h := hn.2 _ rfl
    refine g_iconst hC (pc := 10) (v := (1 : Int32)) (by decide) dX2_cancel_10 ?_
    refine g_goto hC (pc := 11) 15 (by decide) dX2_cancel_11 ?_
    exact g_sub [1, 0] rfl (w_X2_cancel_15 hC hK hX h)
theorem gc_X2_cancel : gCode yX2_cancel cX2_cancel 4 (some .int) 1 := ⟨q1428, q95, ⟨by decide, by decide⟩, rfl⟩
theorem m_X2_cancel {l : Launch} (hfl : l.stackTraces = false) {E : gE} {G : gS} {t0 : Nat} {x1 : Int32} {X : Nat → gS → Prop} {K : Int32 → gS → Prop} (h : wp_X2_cancel (gAd E) G t0 x1 X K) : gMet l yX2_cancel (ws_ yX2_cancel cX2_cancel 4 (some .int)) 9 247 [vQ (some t0), vI x1] E G (gRi K) X :=
  g_met hfl (plainFor_of_name (by decide +kernel)) rfl rfl rfl (gle rfl) (fun p e R s m args below meth c hC => w_X2_cancel hC (fun _ _ h => h) (fun _ _ h => h) h)
def wp_X1_lambda_cancelContract_5 (ad : Nat → Nat) (G : gS) (x0 : Int32) (o1 : Option Nat) (X : Nat → gS → Prop) (K : Int32 → gS → Prop) : Prop :=
  wNN o1 fun c1 => (gIs G c1 2 ∧ wp_X2_cancel ad G c1 x0 X (fun r3 G2 => K r3 G2))
theorem w_X1_lambda_cancelContract_5 {C : gCx} (hC : gOk C "GoblinHousehold" cX1_lambda_cancelContract_5 [] (some .int) "lambda$cancelContract$5" 2 10 278) {K : Int32 → gS → Prop} {X : Nat → gS → Prop} (hK : ∀ r G, K r G → cxK C (some (vI r)) G) (hX : ∀ q G, X q G → cxX C q G) {G : gS} {x0 : Int32} {o1 : Option Nat} (h : wp_X1_lambda_cancelContract_5 (cxA C) G x0 o1 X K) : gGo C G 0 [(0, vI x0), (1, vQ o1)] [] := by
  unfold wp_X1_lambda_cancelContract_5 at h
  refine g_aload_n hC (pc := 0) 1 rfl rfl dX1_lambda_cancelContract_5_0 ?_
  refine g_iload_n hC (pc := 1) 0 rfl rfl dX1_lambda_cancelContract_5_1 ?_
  rcases o1 with _ | c1
  · exact (gNN0 h).elim
  replace h := gNN1 h
  obtain ⟨hi, h⟩ := h
  refine g_callV hC (pc := 2) (ci := 2) (As := [vI x0]) gc_X2_cancel (m_X2_cancel hC.fl h) rfl hi q1425 q1426 q1427 (gle rfl) (gle rfl) rfl (gle rfl) rfl dX1_lambda_cancelContract_5_2 (gk_i fun r3 G2 h => ?_) (fun _ _ h hio => g_out0 hC (hX _ _ h) hio)
  exact g_iret hC (pc := 5) (hK _ _ h) dX1_lambda_cancelContract_5_5
theorem gc_X1_lambda_cancelContract_5 : gCode yX1_lambda_cancelContract_5 cX1_lambda_cancelContract_5 2 (some .int) 2 := ⟨q1424, q94, ⟨by decide, by decide⟩, rfl⟩
theorem m_X1_lambda_cancelContract_5 {l : Launch} (hfl : l.stackTraces = false) {E : gE} {G : gS} {x0 : Int32} {o1 : Option Nat} {X : Nat → gS → Prop} {K : Int32 → gS → Prop} (h : wp_X1_lambda_cancelContract_5 (gAd E) G x0 o1 X K) : gMet l yX1_lambda_cancelContract_5 (ws_ yX1_lambda_cancelContract_5 cX1_lambda_cancelContract_5 2 (some .int)) 10 278 [vI x0, vQ o1] E G (gRi K) X :=
  g_met hfl (plainFor_of_name (by decide +kernel)) rfl rfl rfl (gle rfl) (fun p e R s m args below meth c hC => w_X1_lambda_cancelContract_5 hC (fun _ _ h => h) (fun _ _ h => h) h)
def wp_X2_restingCount_42 (ad : Nat → Nat) (X : Nat → gS → Prop) (K : Int32 → gS → Prop) (J4 : gS → Nat → Int32 → Int32 → Prop) (G : gS) (t0 : Nat) (x2 : Int32) (xs0 : Int32) (xs1 : Int32) : Prop :=
  J4 G t0 (xs1 + xs0) (x2 + (1 : Int32))
theorem w_X2_restingCount_42 {C : gCx} (hC : gOk C "GoblinHousehold$Household" cX2_restingCount [] (some .int) "restingCount" 3 3 88) {K : Int32 → gS → Prop} {X : Nat → gS → Prop} (hK : ∀ r G, K r G → cxK C (some (vI r)) G) (hX : ∀ q G, X q G → cxX C q G) {J4 : gS → Nat → Int32 → Int32 → Prop} (hJ4 : ∀ G z0 z1 z2, J4 G z0 z1 z2 → gGo C G 4 [(0, vQ (some z0)), (1, vI z1), (2, vI z2)] []) {G : gS} {t0 : Nat} {x2 : Int32} {xs0 : Int32} {xs1 : Int32} (h : wp_X2_restingCount_42 (cxA C) X K J4 G t0 x2 xs0 xs1) : gGo C G 42 [(0, vQ (some t0)), (2, vI x2)] [vI xs0, vI xs1] := by
  unfold wp_X2_restingCount_42 at h
  refine g_iadd hC (pc := 42) dX2_restingCount_42 ?_
  refine g_istore_n hC (pc := 43) (lv' := [(1, vI (xs1 + xs0)), (0, vQ (some t0)), (2, vI x2)]) rfl (by decide) rfl dX2_restingCount_43 ?_
  refine g_iinc hC (pc := 44) 2 (d := (1 : Int32)) (v := (x2 + (1 : Int32))) (lv' := [(2, vI (x2 + (1 : Int32))), (1, vI (xs1 + xs0)), (0, vQ (some t0))]) rfl (by decide) rfl (by decide) rfl dX2_restingCount_44 ?_
  refine g_goto hC (pc := 47) 4 (by decide) dX2_restingCount_47 ?_
  exact g_sub [2, 1, 0] rfl (hJ4 _ _ _ _ h)
def wp_X2_restingCount_4 (ad : Nat → Nat) (X : Nat → gS → Prop) (K : Int32 → gS → Prop) (J4 : gS → Nat → Int32 → Int32 → Prop) (G : gS) (t0 : Nat) (x1 : Int32) (x2 : Int32) : Prop :=
  wGetQ G t0 2 2 fun q1 => wNN q1 fun c2 => (gIs G c2 3 ∧ wp_J2_size ad G c2  X (fun r4 G3 => (r4 ≤ x2 → K x1 G3) ∧ (¬ r4 ≤ x2 → wGetQ G3 t0 2 2 fun q5 => wNN q5 fun c6 => (gIs G3 c6 3 ∧ wp_J2_get ad G3 c6 x2 X (fun q8 G7 => wCast G7 q8 [9] (wNN q8 fun c9 => wGetI G7 c9 9 4 fun i10 => (i10 = (0 : Int32) → wp_X2_restingCount_42 ad X K J4 G7 t0 x2 (0 : Int32) x1) ∧ (¬ i10 = (0 : Int32) → wp_X2_restingCount_42 ad X K J4 G7 t0 x2 (1 : Int32) x1)))))))
theorem w_X2_restingCount_4 {C : gCx} (hC : gOk C "GoblinHousehold$Household" cX2_restingCount [] (some .int) "restingCount" 3 3 88) {K : Int32 → gS → Prop} {X : Nat → gS → Prop} (hK : ∀ r G, K r G → cxK C (some (vI r)) G) (hX : ∀ q G, X q G → cxX C q G) (n : Nat) : ∀ (G : gS) (t0 : Nat) (x1 : Int32) (x2 : Int32), gLoop (fun _ _ _ _ => False) (wp_X2_restingCount_4 (cxA C) X K) n G t0 x1 x2 → gGo C G 4 [(0, vQ (some t0)), (1, vI x1), (2, vI x2)] [] := by
  induction n with
  | zero => intro G t0 x1 x2 h; exact h.elim
  | succ n ih =>
    intro G t0 x1 x2 h
    have hJ4 := ih
    replace h : wp_X2_restingCount_4 (cxA C) X K _ G t0 x1 x2 := h
    unfold wp_X2_restingCount_4 at h
    refine g_iload_n hC (pc := 4) 2 rfl rfl dX2_restingCount_4 ?_
    refine g_aload_n hC (pc := 5) 0 rfl rfl dX2_restingCount_5 ?_
    refine g_getQ hC (pc := 6) in_X2 (ci := 2) rfl 2 (by decide) q192 (Or.inl rfl) h dX2_restingCount_6 (fun q1 h => ?_)
    rcases q1 with _ | c2
    · exact (gNN0 h).elim
    replace h := gNN1 h
    obtain ⟨hi, h⟩ := h
    refine g_callF hC (pc := 9) (ci := 3) (As := []) gc_J2_size (m_J2_size hC.fl h) rfl hi q359 (List.mem_of_getElem? (i := 0) rfl) rfl q323 q325 (gle rfl) (gle rfl) rfl (gle rfl) rfl dX2_restingCount_9 (gk_i fun r4 G3 h => ?_) (fun _ _ h hio => g_out0 hC (hX _ _ h) hio)
    refine g_icmp_ge hC (pc := 14) 50 h (by decide) dX2_restingCount_14 (fun h => ?_) (fun h => ?_)
    · refine g_iload_n hC (pc := 50) 1 rfl rfl dX2_restingCount_50 ?_
      exact g_iret hC (pc := 51) (hK _ _ h) dX2_restingCount_51
    · refine g_iload_n hC (pc := 17) 1 rfl rfl dX2_restingCount_17 ?_
      refine g_aload_n hC (pc := 18) 0 rfl rfl dX2_restingCount_18 ?_
      refine g_getQ hC (pc := 19) in_X2 (ci := 2) rfl 2 (by decide) q192 (Or.inl rfl) h dX2_restingCount_19 (fun q5 h => ?_)
      refine g_iload_n hC (pc := 22) 2 rfl rfl dX2_restingCount_22 ?_
      rcases q5 with _ | c6
      · exact (gNN0 h).elim
      replace h := gNN1 h
      obtain ⟨hi, h⟩ := h
      refine g_callF hC (pc := 23) (ci := 3) (As := [vI x2]) gc_J2_get (m_J2_get hC.fl h) rfl hi q361 (List.mem_of_getElem? (i := 2) rfl) rfl q364 q366 (gle rfl) (gle rfl) rfl (gle rfl) rfl dX2_restingCount_23 (gk_q fun q8 G7 h => ?_) (fun _ _ h hio => g_out0 hC (hX _ _ h) hio)
      refine g_cast hC (pc := 28) q706 h (List.forall_mem_cons.mpr ⟨⟨_, rfl, Or.inr ⟨rfl, by decide⟩⟩, fun _ h => nomatch h⟩) dX2_restingCount_28 (fun h => ?_)
      rcases q8 with _ | c9
      · exact (gNN0 h).elim
      replace h := gNN1 h
      refine g_getIN hC (pc := 31) in_X8 (ci := 9) rfl 4 (by decide) (List.mem_of_getElem? (i := 12) rfl) (Or.inl rfl) h dX2_restingCount_31 (fun i10 h => ?_)
      refine g_if_eq hC (pc := 34) 41 h (by decide) dX2_restingCount_34 (fun h => ?_) (fun h => ?_)
      · refine g_iconst hC (pc := 41) (v := (0 : Int32)) (by decide) dX2_restingCount_41 ?_
        exact g_sub [0, 2] rfl (w_X2_restingCount_42 hC hK hX hJ4 h)
      · refine g_iconst hC (pc := 37) (v := (1 : Int32)) (by decide) dX2_restingCount_37 ?_
        refine g_goto hC (pc := 38) 42 (by decide) dX2_restingCount_38 ?_
        exact g_sub [0, 2] rfl (w_X2_restingCount_42 hC hK hX hJ4 h)
def wp_X2_restingCount (ad : Nat → Nat) (G : gS) (t0 : Nat) (X : Nat → gS → Prop) (K : Int32 → gS → Prop) : Prop :=
  gLoop (fun _ _ _ _ => False) (wp_X2_restingCount_4 ad X K) gFuel G t0 (0 : Int32) (0 : Int32)
theorem w_X2_restingCount {C : gCx} (hC : gOk C "GoblinHousehold$Household" cX2_restingCount [] (some .int) "restingCount" 3 3 88) {K : Int32 → gS → Prop} {X : Nat → gS → Prop} (hK : ∀ r G, K r G → cxK C (some (vI r)) G) (hX : ∀ q G, X q G → cxX C q G) {G : gS} {t0 : Nat} (h : wp_X2_restingCount (cxA C) G t0 X K) : gGo C G 0 [(0, vQ (some t0))] [] := by
  unfold wp_X2_restingCount at h
  refine g_iconst hC (pc := 0) (v := (0 : Int32)) (by decide) dX2_restingCount_0 ?_
  refine g_istore_n hC (pc := 1) (lv' := [(1, vI (0 : Int32)), (0, vQ (some t0))]) rfl (by decide) rfl dX2_restingCount_1 ?_
  refine g_iconst hC (pc := 2) (v := (0 : Int32)) (by decide) dX2_restingCount_2 ?_
  refine g_istore_n hC (pc := 3) (lv' := [(2, vI (0 : Int32)), (1, vI (0 : Int32)), (0, vQ (some t0))]) rfl (by decide) rfl dX2_restingCount_3 ?_
  exact g_sub [2, 1, 0] rfl (w_X2_restingCount_4 hC hK hX gFuel _ _ _ _ h)
theorem gc_X2_restingCount : gCode yX2_restingCount cX2_restingCount 3 (some .int) 0 := ⟨q1565, q95, ⟨by decide, by decide⟩, rfl⟩
theorem m_X2_restingCount {l : Launch} (hfl : l.stackTraces = false) {E : gE} {G : gS} {t0 : Nat} {X : Nat → gS → Prop} {K : Int32 → gS → Prop} (h : wp_X2_restingCount (gAd E) G t0 X K) : gMet l yX2_restingCount (ws_ yX2_restingCount cX2_restingCount 3 (some .int)) 3 88 [vQ (some t0)] E G (gRi K) X :=
  g_met hfl (plainFor_of_name (by decide +kernel)) rfl rfl rfl (gle rfl) (fun p e R s m args below meth c hC => w_X2_restingCount hC (fun _ _ h => h) (fun _ _ h => h) h)
def wp_X2_setResting_37 (ad : Nat → Nat) (X : Nat → gS → Prop) (K : Int32 → gS → Prop) (G : gS) (t0 : Nat) (x2 : Int32) (t3 : Nat) (xs0 : Int32) : Prop :=
  wp_X1_demand ad G xs0 (some (ad 111)) X (fun G1 => gNF .boolean x2 ∧ (wPut G1 t3 9 4 (.int x2) fun G2 => (x2 = (0 : Int32) → wGetI G2 t3 9 5 fun i3 => K i3 G2) ∧ (¬ x2 = (0 : Int32) → (gIs G2 t0 2 ∧ wp_X2_restingCount ad G2 t0  X (fun r5 G4 => K r5 G4)))))
theorem w_X2_setResting_37 {C : gCx} (hC : gOk C "GoblinHousehold$Household" cX2_setResting [] (some .int) "setResting" 4 9 247) {K : Int32 → gS → Prop} {X : Nat → gS → Prop} (hK : ∀ r G, K r G → cxK C (some (vI r)) G) (hX : ∀ q G, X q G → cxX C q G) {G : gS} {t0 : Nat} {x2 : Int32} {t3 : Nat} {xs0 : Int32} (h : wp_X2_setResting_37 (cxA C) X K G t0 x2 t3 xs0) : gGo C G 37 [(0, vQ (some t0)), (2, vI x2), (3, vQ (some t3))] [vI xs0] := by
  unfold wp_X2_setResting_37 at h
  refine g_ldcS hC (pc := 37) (List.mem_of_getElem? (i := 11) rfl) dX2_setResting_37 ?_
  refine g_callSN hC (pc := 39) (b := 0) (As := [vI xs0, vQ (some (cxA C 111))]) gc_X1_demand (m_X1_demand hC.fl h) (List.mem_of_getElem? (i := 3) rfl) q888 (gle rfl) (gle rfl) rfl (gle rfl) rfl dX2_setResting_39 (gk_v fun G1 h => ?_) (fun _ _ h hio => g_out0 hC (hX _ _ h) hio)
  refine g_aload_n hC (pc := 42) 2 rfl rfl dX2_setResting_42 ?_
  refine g_iload_n hC (pc := 43) 1 rfl rfl dX2_setResting_43 ?_
  obtain ⟨hz, h⟩ := h
  refine g_putN hC (pc := 44) in_X8 (ci := 9) rfl 4 (by decide) tyX8_ok nmX8 (List.mem_of_getElem? (i := 12) rfl) (Or.inl rfl) rfl hz.1 hz.2 h dX2_setResting_44 (fun G2 h => ?_)
  refine g_iload_n hC (pc := 47) 1 rfl rfl dX2_setResting_47 ?_
  refine g_if_eq hC (pc := 48) 58 h (by decide) dX2_setResting_48 (fun h => ?_) (fun h => ?_)
  · refine g_aload_n hC (pc := 58) 2 rfl rfl dX2_setResting_58 ?_
    refine g_getIN hC (pc := 59) in_X8 (ci := 9) rfl 5 (by decide) (List.mem_of_getElem? (i := 14) rfl) (Or.inl rfl) h dX2_setResting_59 (fun i3 h => ?_)
    exact g_iret hC (pc := 62) (hK _ _ h) dX2_setResting_62
  · refine g_aload_n hC (pc := 51) 0 rfl rfl dX2_setResting_51 ?_
    obtain ⟨hi, h⟩ := h
    refine g_callV hC (pc := 52) (ci := 2) (As := []) gc_X2_restingCount (m_X2_restingCount hC.fl h) rfl hi q1562 q1564 qs18 (gle rfl) (gle rfl) rfl (gle rfl) rfl dX2_setResting_52 (gk_i fun r5 G4 h => ?_) (fun _ _ h hio => g_out0 hC (hX _ _ h) hio)
    refine g_goto hC (pc := 55) 62 (by decide) dX2_setResting_55 ?_
    exact g_iret hC (pc := 62) (hK _ _ h) dX2_setResting_62
def wp_X2_setResting (ad : Nat → Nat) (G : gS) (t0 : Nat) (x1 : Int32) (x2 : Int32) (X : Nat → gS → Prop) (K : Int32 → gS → Prop) : Prop :=
  (gIs G t0 2 ∧ wp_X2_isGoblin ad G t0 x1 X (fun r2 G1 => wp_X1_demand ad G1 r2 (some (ad 117)) X (fun G3 => wGetQ G3 t0 2 2 fun q4 => wNN q4 fun c5 => (gIs G3 c5 3 ∧ wp_J2_get ad G3 c5 x1 X (fun q7 G6 => wCast G6 q7 [9] (wNN q7 fun c8 => wGetI G6 c8 9 4 fun i9 => (i9 = x2 → wp_X2_setResting_37 ad X K G6 t0 x2 c8 (0 : Int32)) ∧ (¬ i9 = x2 → wp_X2_setResting_37 ad X K G6 t0 x2 c8 (1 : Int32))))))))
theorem w_X2_setResting {C : gCx} (hC : gOk C "GoblinHousehold$Household" cX2_setResting [] (some .int) "setResting" 4 9 247) {K : Int32 → gS → Prop} {X : Nat → gS → Prop} (hK : ∀ r G, K r G → cxK C (some (vI r)) G) (hX : ∀ q G, X q G → cxX C q G) {G : gS} {t0 : Nat} {x1 : Int32} {x2 : Int32} (h : wp_X2_setResting (cxA C) G t0 x1 x2 X K) : gGo C G 0 [(0, vQ (some t0)), (1, vI x1), (2, vI x2)] [] := by
  unfold wp_X2_setResting at h
  refine g_aload_n hC (pc := 0) 0 rfl rfl dX2_setResting_0 ?_
  refine g_iload_n hC (pc := 1) 1 rfl rfl dX2_setResting_1 ?_
  obtain ⟨hi, h⟩ := h
  refine g_callV hC (pc := 2) (ci := 2) (As := [vI x1]) gc_X2_isGoblin (m_X2_isGoblin hC.fl h) rfl hi q1377 q1378 q1379 (gle rfl) (gle rfl) rfl (gle rfl) rfl dX2_setResting_2 (gk_i fun r2 G1 h => ?_) (fun _ _ h hio => g_out0 hC (hX _ _ h) hio)
  refine g_ldcS hC (pc := 5) (List.mem_of_getElem? (i := 17) rfl) dX2_setResting_5 ?_
  refine g_callSN hC (pc := 7) (b := 0) (As := [vI r2, vQ (some (cxA C 117))]) gc_X1_demand (m_X1_demand hC.fl h) (List.mem_of_getElem? (i := 3) rfl) q888 (gle rfl) (gle rfl) rfl (gle rfl) rfl dX2_setResting_7 (gk_v fun G3 h => ?_) (fun _ _ h hio => g_out0 hC (hX _ _ h) hio)
  refine g_aload_n hC (pc := 10) 0 rfl rfl dX2_setResting_10 ?_
  refine g_getQ hC (pc := 11) in_X2 (ci := 2) rfl 2 (by decide) q192 (Or.inl rfl) h dX2_setResting_11 (fun q4 h => ?_)
  refine g_iload_n hC (pc := 14) 1 rfl rfl dX2_setResting_14 ?_
  rcases q4 with _ | c5
  · exact (gNN0 h).elim
  replace h := gNN1 h
  obtain ⟨hi, h⟩ := h
  refine g_callF hC (pc := 15) (ci := 3) (As := [vI x1]) gc_J2_get (m_J2_get hC.fl h) rfl hi q361 (List.mem_of_getElem? (i := 2) rfl) rfl q364 q366 (gle rfl) (gle rfl) rfl (gle rfl) rfl dX2_setResting_15 (gk_q fun q7 G6 h => ?_) (fun _ _ h hio => g_out0 hC (hX _ _ h) hio)
  refine g_cast hC (pc := 20) q706 h (List.forall_mem_cons.mpr ⟨⟨_, rfl, Or.inr ⟨rfl, by decide⟩⟩, fun _ h => nomatch h⟩) dX2_setResting_20 (fun h => ?_)
  refine g_astore_n hC (pc := 23) (lv' := [(3, vQ q7), (0, vQ (some t0)), (1, vI x1), (2, vI x2)]) rfl (by decide) rfl dX2_setResting_23 ?_
  refine g_aload_n hC (pc := 24) 0 rfl rfl dX2_setResting_24 ?_
  rcases q7 with _ | c8
  · exact (gNN0 h).elim
  replace h := gNN1 h
  refine g_getIN hC (pc := 25) in_X8 (ci := 9) rfl 4 (by decide) (List.mem_of_getElem? (i := 12) rfl) (Or.inl rfl) h dX2_setResting_25 (fun i9 h => ?_)
  refine g_iload_n hC (pc := 28) 3 rfl rfl dX2_setResting_28 ?_
  refine g_icmp_eq hC (pc := 29) 36 h (by decide) dX2_setResting_29 (fun h => ?_) (fun h => ?_)
  · refine g_iconst hC (pc := 36) (v := (0 : Int32)) (by decide) dX2_setResting_36 ?_
    exact g_sub [1, 3, 0] rfl (w_X2_setResting_37 hC hK hX h)
  · refine g_iconst hC (pc := 32) (v := (1 : Int32)) (by decide) dX2_setResting_32 ?_
    refine g_goto hC (pc := 33) 37 (by decide) dX2_setResting_33 ?_
    exact g_sub [1, 3, 0] rfl (w_X2_setResting_37 hC hK hX h)
theorem gc_X2_setResting : gCode yX2_setResting cX2_setResting 4 (some .int) 2 := ⟨q1561, q95, ⟨by decide, by decide⟩, rfl⟩
theorem m_X2_setResting {l : Launch} (hfl : l.stackTraces = false) {E : gE} {G : gS} {t0 : Nat} {x1 : Int32} {x2 : Int32} {X : Nat → gS → Prop} {K : Int32 → gS → Prop} (h : wp_X2_setResting (gAd E) G t0 x1 x2 X K) : gMet l yX2_setResting (ws_ yX2_setResting cX2_setResting 4 (some .int)) 9 247 [vQ (some t0), vI x1, vI x2] E G (gRi K) X :=
  g_met hfl (plainFor_of_name (by decide +kernel)) rfl rfl rfl (gle rfl) (fun p e R s m args below meth c hC => w_X2_setResting hC (fun _ _ h => h) (fun _ _ h => h) h)
def wp_X1_lambda_rest_6 (ad : Nat → Nat) (G : gS) (x0 : Int32) (o1 : Option Nat) (X : Nat → gS → Prop) (K : Int32 → gS → Prop) : Prop :=
  wNN o1 fun c1 => (gIs G c1 2 ∧ wp_X2_setResting ad G c1 x0 (1 : Int32) X (fun r3 G2 => K r3 G2))
theorem w_X1_lambda_rest_6 {C : gCx} (hC : gOk C "GoblinHousehold" cX1_lambda_rest_6 [] (some .int) "lambda$rest$6" 2 10 278) {K : Int32 → gS → Prop} {X : Nat → gS → Prop} (hK : ∀ r G, K r G → cxK C (some (vI r)) G) (hX : ∀ q G, X q G → cxX C q G) {G : gS} {x0 : Int32} {o1 : Option Nat} (h : wp_X1_lambda_rest_6 (cxA C) G x0 o1 X K) : gGo C G 0 [(0, vI x0), (1, vQ o1)] [] := by
  unfold wp_X1_lambda_rest_6 at h
  refine g_aload_n hC (pc := 0) 1 rfl rfl dX1_lambda_rest_6_0 ?_
  refine g_iload_n hC (pc := 1) 0 rfl rfl dX1_lambda_rest_6_1 ?_
  refine g_iconst hC (pc := 2) (v := (1 : Int32)) (by decide) dX1_lambda_rest_6_2 ?_
  rcases o1 with _ | c1
  · exact (gNN0 h).elim
  replace h := gNN1 h
  obtain ⟨hi, h⟩ := h
  refine g_callV hC (pc := 3) (ci := 2) (As := [vI x0, vI (1 : Int32)]) gc_X2_setResting (m_X2_setResting hC.fl h) rfl hi q1558 q1559 q1560 (gle rfl) (gle rfl) rfl (gle rfl) rfl dX1_lambda_rest_6_3 (gk_i fun r3 G2 h => ?_) (fun _ _ h hio => g_out0 hC (hX _ _ h) hio)
  exact g_iret hC (pc := 6) (hK _ _ h) dX1_lambda_rest_6_6
theorem gc_X1_lambda_rest_6 : gCode yX1_lambda_rest_6 cX1_lambda_rest_6 2 (some .int) 2 := ⟨q1557, q94, ⟨by decide, by decide⟩, rfl⟩
theorem m_X1_lambda_rest_6 {l : Launch} (hfl : l.stackTraces = false) {E : gE} {G : gS} {x0 : Int32} {o1 : Option Nat} {X : Nat → gS → Prop} {K : Int32 → gS → Prop} (h : wp_X1_lambda_rest_6 (gAd E) G x0 o1 X K) : gMet l yX1_lambda_rest_6 (ws_ yX1_lambda_rest_6 cX1_lambda_rest_6 2 (some .int)) 10 278 [vI x0, vQ o1] E G (gRi K) X :=
  g_met hfl (plainFor_of_name (by decide +kernel)) rfl rfl rfl (gle rfl) (fun p e R s m args below meth c hC => w_X1_lambda_rest_6 hC (fun _ _ h => h) (fun _ _ h => h) h)
def wp_X1_lambda_wake_7 (ad : Nat → Nat) (G : gS) (x0 : Int32) (o1 : Option Nat) (X : Nat → gS → Prop) (K : Int32 → gS → Prop) : Prop :=
  wNN o1 fun c1 => (gIs G c1 2 ∧ wp_X2_setResting ad G c1 x0 (0 : Int32) X (fun r3 G2 => K r3 G2))
theorem w_X1_lambda_wake_7 {C : gCx} (hC : gOk C "GoblinHousehold" cX1_lambda_wake_7 [] (some .int) "lambda$wake$7" 2 10 278) {K : Int32 → gS → Prop} {X : Nat → gS → Prop} (hK : ∀ r G, K r G → cxK C (some (vI r)) G) (hX : ∀ q G, X q G → cxX C q G) {G : gS} {x0 : Int32} {o1 : Option Nat} (h : wp_X1_lambda_wake_7 (cxA C) G x0 o1 X K) : gGo C G 0 [(0, vI x0), (1, vQ o1)] [] := by
  unfold wp_X1_lambda_wake_7 at h
  refine g_aload_n hC (pc := 0) 1 rfl rfl dX1_lambda_wake_7_0 ?_
  refine g_iload_n hC (pc := 1) 0 rfl rfl dX1_lambda_wake_7_1 ?_
  refine g_iconst hC (pc := 2) (v := (0 : Int32)) (by decide) dX1_lambda_wake_7_2 ?_
  rcases o1 with _ | c1
  · exact (gNN0 h).elim
  replace h := gNN1 h
  obtain ⟨hi, h⟩ := h
  refine g_callV hC (pc := 3) (ci := 2) (As := [vI x0, vI (0 : Int32)]) gc_X2_setResting (m_X2_setResting hC.fl h) rfl hi q1558 q1559 q1560 (gle rfl) (gle rfl) rfl (gle rfl) rfl dX1_lambda_wake_7_3 (gk_i fun r3 G2 h => ?_) (fun _ _ h hio => g_out0 hC (hX _ _ h) hio)
  exact g_iret hC (pc := 6) (hK _ _ h) dX1_lambda_wake_7_6
theorem gc_X1_lambda_wake_7 : gCode yX1_lambda_wake_7 cX1_lambda_wake_7 2 (some .int) 2 := ⟨q1574, q94, ⟨by decide, by decide⟩, rfl⟩
theorem m_X1_lambda_wake_7 {l : Launch} (hfl : l.stackTraces = false) {E : gE} {G : gS} {x0 : Int32} {o1 : Option Nat} {X : Nat → gS → Prop} {K : Int32 → gS → Prop} (h : wp_X1_lambda_wake_7 (gAd E) G x0 o1 X K) : gMet l yX1_lambda_wake_7 (ws_ yX1_lambda_wake_7 cX1_lambda_wake_7 2 (some .int)) 10 278 [vI x0, vQ o1] E G (gRi K) X :=
  g_met hfl (plainFor_of_name (by decide +kernel)) rfl rfl rfl (gle rfl) (fun p e R s m args below meth c hC => w_X1_lambda_wake_7 hC (fun _ _ h => h) (fun _ _ h => h) h)
def wp_X7_debt (ad : Nat → Nat) (G : gS) (t0 : Nat) (X : Nat → gS → Prop) (K : Int32 → gS → Prop) : Prop :=
  wGetI G t0 9 2 fun i1 => K i1 G
theorem w_X7_debt {C : gCx} (hC : gOk C "GoblinHousehold$Debtor" cX7_debt [] (some .int) "debt" 1 0 0) {K : Int32 → gS → Prop} {X : Nat → gS → Prop} (hK : ∀ r G, K r G → cxK C (some (vI r)) G) (hX : ∀ q G, X q G → cxX C q G) {G : gS} {t0 : Nat} (h : wp_X7_debt (cxA C) G t0 X K) : gGo C G 0 [(0, vQ (some t0))] [] := by
  unfold wp_X7_debt at h
  refine g_aload_n hC (pc := 0) 0 rfl rfl dX7_debt_0 ?_
  refine g_getI hC (pc := 1) in_X8 (ci := 9) rfl 2 (by decide) q938 (Or.inl rfl) h dX7_debt_1 (fun i1 h => ?_)
  exact g_iret hC (pc := 4) (hK _ _ h) dX7_debt_4
theorem gc_X7_debt : gCode yX7_debt cX7_debt 1 (some .int) 0 := ⟨q830, q111, ⟨by decide, by decide⟩, rfl⟩
theorem m_X7_debt {l : Launch} (hfl : l.stackTraces = false) {E : gE} {G : gS} {t0 : Nat} {X : Nat → gS → Prop} {K : Int32 → gS → Prop} (h : wp_X7_debt (gAd E) G t0 X K) : gMet l yX7_debt (ws_ yX7_debt cX7_debt 1 (some .int)) 0 0 [vQ (some t0)] E G (gRi K) X :=
  g_met hfl (plainFor_of_name (by decide +kernel)) rfl rfl rfl (gle rfl) (fun p e R s m args below meth c hC => w_X7_debt hC (fun _ _ h => h) (fun _ _ h => h) h)
def wp_X7_borrow (ad : Nat → Nat) (G : gS) (t0 : Nat) (x1 : Int32) (X : Nat → gS → Prop) (K : gS → Prop) : Prop :=
  wGetI G t0 9 1 fun i1 => wPut G t0 9 1 (.int (i1 + x1)) fun G2 => wGetI G2 t0 9 2 fun i3 => wPut G2 t0 9 2 (.int (i3 + x1)) fun G4 => K G4
theorem w_X7_borrow {C : gCx} (hC : gOk C "GoblinHousehold$Debtor" cX7_borrow [] none "borrow" 2 0 0) {K : gS → Prop} {X : Nat → gS → Prop} (hK : ∀ G, K G → cxK C none G) (hX : ∀ q G, X q G → cxX C q G) {G : gS} {t0 : Nat} {x1 : Int32} (h : wp_X7_borrow (cxA C) G t0 x1 X K) : gGo C G 0 [(0, vQ (some t0)), (1, vI x1)] [] := by
  unfold wp_X7_borrow at h
  refine g_aload_n hC (pc := 0) 0 rfl rfl dX7_borrow_0 ?_
  refine g_dup hC (pc := 1) rfl dX7_borrow_1 ?_
  refine g_getI hC (pc := 2) in_X8 (ci := 9) rfl 1 (by decide) q937 (Or.inl rfl) h dX7_borrow_2 (fun i1 h => ?_)
  refine g_iload_n hC (pc := 5) 1 rfl rfl dX7_borrow_5 ?_
  refine g_iadd hC (pc := 6) dX7_borrow_6 ?_
  refine g_put hC (pc := 7) in_X8 (ci := 9) rfl 1 (by decide) tyX8_ok nmX8 q937 (Or.inl rfl) rfl rfl rfl h dX7_borrow_7 (fun G2 h => ?_)
  refine g_aload_n hC (pc := 10) 0 rfl rfl dX7_borrow_10 ?_
  refine g_dup hC (pc := 11) rfl dX7_borrow_11 ?_
  refine g_getI hC (pc := 12) in_X8 (ci := 9) rfl 2 (by decide) q938 (Or.inl rfl) h dX7_borrow_12 (fun i3 h => ?_)
  refine g_iload_n hC (pc := 15) 1 rfl rfl dX7_borrow_15 ?_
  refine g_iadd hC (pc := 16) dX7_borrow_16 ?_
  refine g_put hC (pc := 17) in_X8 (ci := 9) rfl 2 (by decide) tyX8_ok nmX8 q938 (Or.inl rfl) rfl rfl rfl h dX7_borrow_17 (fun G4 h => ?_)
  exact g_vret hC (pc := 20) (hK _ h) dX7_borrow_20
theorem gc_X7_borrow : gCode yX7_borrow cX7_borrow 2 none 1 := ⟨q1593, q111, ⟨by decide, by decide⟩, rfl⟩
theorem m_X7_borrow {l : Launch} (hfl : l.stackTraces = false) {E : gE} {G : gS} {t0 : Nat} {x1 : Int32} {X : Nat → gS → Prop} {K : gS → Prop} (h : wp_X7_borrow (gAd E) G t0 x1 X K) : gMet l yX7_borrow (ws_ yX7_borrow cX7_borrow 2 none) 0 0 [vQ (some t0), vI x1] E G (gRv K) X :=
  g_met hfl (plainFor_of_name (by decide +kernel)) rfl rfl rfl (gle rfl) (fun p e R s m args below meth c hC => w_X7_borrow hC (fun _ h => h) (fun _ _ h => h) h)
def wp_X2_lend_61 (ad : Nat → Nat) (X : Nat → gS → Prop) (K : Int32 → gS → Prop) (G : gS) (t0 : Nat) (x2 : Int32) (o3 : Option Nat) (xs0 : Int32) : Prop :=
  wp_X1_demand ad G xs0 (some (ad 118)) X (fun G1 => wGetI G1 t0 2 5 fun i2 => wPut G1 t0 2 5 (.int (i2 - x2)) fun G3 => wNN o3 fun c4 => (gIs G3 c4 9 ∧ wp_X7_borrow ad G3 c4 x2 X (fun G5 => (gIs G5 c4 9 ∧ wp_X7_debt ad G5 c4  X (fun r7 G6 => K r7 G6)))))
theorem w_X2_lend_61 {C : gCx} (hC : gOk C "GoblinHousehold$Household" cX2_lend [] (some .int) "lend" 4 9 247) {K : Int32 → gS → Prop} {X : Nat → gS → Prop} (hK : ∀ r G, K r G → cxK C (some (vI r)) G) (hX : ∀ q G, X q G → cxX C q G) {G : gS} {t0 : Nat} {x2 : Int32} {o3 : Option Nat} {xs0 : Int32} (h : wp_X2_lend_61 (cxA C) X K G t0 x2 o3 xs0) : gGo C G 61 [(0, vQ (some t0)), (2, vI x2), (3, vQ o3)] [vI xs0] := by
  unfold wp_X2_lend_61 at h
  refine g_ldcS hC (pc := 61) (List.mem_of_getElem? (i := 18) rfl) dX2_lend_61 ?_
  refine g_callSN hC (pc := 63) (b := 0) (As := [vI xs0, vQ (some (cxA C 118))]) gc_X1_demand (m_X1_demand hC.fl h) (List.mem_of_getElem? (i := 3) rfl) q888 (gle rfl) (gle rfl) rfl (gle rfl) rfl dX2_lend_63 (gk_v fun G1 h => ?_) (fun _ _ h hio => g_out0 hC (hX _ _ h) hio)
  refine g_aload_n hC (pc := 66) 0 rfl rfl dX2_lend_66 ?_
  refine g_dup hC (pc := 67) rfl dX2_lend_67 ?_
  refine g_getI hC (pc := 68) in_X2 (ci := 2) rfl 5 (by decide) q197 (Or.inl rfl) h dX2_lend_68 (fun i2 h => ?_)
  refine g_iload_n hC (pc := 71) 1 rfl rfl dX2_lend_71 ?_
  refine g_isub hC (pc := 72) dX2_lend_72 ?_
  refine g_put hC (pc := 73) in_X2 (ci := 2) rfl 5 (by decide) tyX2_ok nmX2 q197 (Or.inl rfl) rfl rfl rfl h dX2_lend_73 (fun G3 h => ?_)
  refine g_aload_n hC (pc := 76) 2 rfl rfl dX2_lend_76 ?_
  refine g_iload_n hC (pc := 77) 1 rfl rfl dX2_lend_77 ?_
  rcases o3 with _ | c4
  · exact (gNN0 h).elim
  replace h := gNN1 h
  obtain ⟨hi, h⟩ := h
  refine g_callU hC (pc := 78) (ci := 9) (As := [vI x2]) gc_X7_borrow (m_X7_borrow hC.fl h) (x := ⟨"GoblinHousehold$Goblin", "borrow", "(I)V"⟩) (owner := "GoblinHousehold$Debtor") rfl hi q1588 q1589 q1592 q1593 ⟨by decide, by decide⟩ rfl q1591 q1592 (gle rfl) (gle rfl) rfl (gle rfl) rfl dX2_lend_78 (gk_v fun G5 h => ?_) (fun _ _ h hio => g_out0 hC (hX _ _ h) hio)
  refine g_aload_n hC (pc := 81) 2 rfl rfl dX2_lend_81 ?_
  obtain ⟨hi, h⟩ := h
  refine g_callU hC (pc := 82) (ci := 9) (As := []) gc_X7_debt (m_X7_debt hC.fl h) (x := ⟨"GoblinHousehold$Goblin", "debt", "()I"⟩) (owner := "GoblinHousehold$Debtor") rfl hi q825 q826 q829 q830 ⟨by decide, by decide⟩ rfl q828 q829 (gle rfl) (gle rfl) rfl (gle rfl) rfl dX2_lend_82 (gk_i fun r7 G6 h => ?_) (fun _ _ h hio => g_out0 hC (hX _ _ h) hio)
  exact g_iret hC (pc := 85) (hK _ _ h) dX2_lend_85
def wp_X2_lend_60 (ad : Nat → Nat) (X : Nat → gS → Prop) (K : Int32 → gS → Prop) (G : gS) (t0 : Nat) (x2 : Int32) (o3 : Option Nat) : Prop :=
  wp_X2_lend_61 ad X K G t0 x2 o3 (0 : Int32)
theorem w_X2_lend_60 {C : gCx} (hC : gOk C "GoblinHousehold$Household" cX2_lend [] (some .int) "lend" 4 9 247) {K : Int32 → gS → Prop} {X : Nat → gS → Prop} (hK : ∀ r G, K r G → cxK C (some (vI r)) G) (hX : ∀ q G, X q G → cxX C q G) {G : gS} {t0 : Nat} {x2 : Int32} {o3 : Option Nat} (h : wp_X2_lend_60 (cxA C) X K G t0 x2 o3) : gGo C G 60 [(0, vQ (some t0)), (2, vI x2), (3, vQ o3)] [] := by
  unfold wp_X2_lend_60 at h
  refine g_iconst hC (pc := 60) (v := (0 : Int32)) (by decide) dX2_lend_60 ?_
  exact g_sub [0, 1, 2] rfl (w_X2_lend_61 hC hK hX h)
def wp_X2_lend (ad : Nat → Nat) (G : gS) (t0 : Nat) (x1 : Int32) (x2 : Int32) (X : Nat → gS → Prop) (K : Int32 → gS → Prop) : Prop :=
  (gIs G t0 2 ∧ wp_X2_isGoblin ad G t0 x1 X (fun r2 G1 => wp_X1_demand ad G1 r2 (some (ad 117)) X (fun G3 => wp_X1_isBetween ad G3 x2 (1 : Int32) (99 : Int32) X (fun r5 G4 => wp_X1_demand ad G4 r5 (some (ad 110)) X (fun G6 => wGetQ G6 t0 2 2 fun q7 => wNN q7 fun c8 => (gIs G6 c8 3 ∧ wp_J2_get ad G6 c8 x1 X (fun q10 G9 => wCast G9 q10 [9] (wGetI G9 t0 2 5 fun i11 => (i11 < x2 → wp_X2_lend_60 ad X K G9 t0 x2 q10) ∧ (¬ i11 < x2 → wNN q10 fun c12 => (gIs G9 c12 9 ∧ wp_X7_debt ad G9 c12  X (fun r14 G13 => ((200 : Int32) < (r14 + x2) → wp_X2_lend_60 ad X K G13 t0 x2 (some c12)) ∧ (¬ (200 : Int32) < (r14 + x2) → wp_X2_lend_61 ad X K G13 t0 x2 (some c12) (1 : Int32)))))))))))))
theorem w_X2_lend {C : gCx} (hC : gOk C "GoblinHousehold$Household" cX2_lend [] (some .int) "lend" 4 9 247) {K : Int32 → gS → Prop} {X : Nat → gS → Prop} (hK : ∀ r G, K r G → cxK C (some (vI r)) G) (hX : ∀ q G, X q G → cxX C q G) {G : gS} {t0 : Nat} {x1 : Int32} {x2 : Int32} (h : wp_X2_lend (cxA C) G t0 x1 x2 X K) : gGo C G 0 [(0, vQ (some t0)), (1, vI x1), (2, vI x2)] [] := by
  unfold wp_X2_lend at h
  refine g_aload_n hC (pc := 0) 0 rfl rfl dX2_lend_0 ?_
  refine g_iload_n hC (pc := 1) 1 rfl rfl dX2_lend_1 ?_
  obtain ⟨hi, h⟩ := h
  refine g_callV hC (pc := 2) (ci := 2) (As := [vI x1]) gc_X2_isGoblin (m_X2_isGoblin hC.fl h) rfl hi q1377 q1378 q1379 (gle rfl) (gle rfl) rfl (gle rfl) rfl dX2_lend_2 (gk_i fun r2 G1 h => ?_) (fun _ _ h hio => g_out0 hC (hX _ _ h) hio)
  refine g_ldcS hC (pc := 5) (List.mem_of_getElem? (i := 17) rfl) dX2_lend_5 ?_
  refine g_callSN hC (pc := 7) (b := 0) (As := [vI r2, vQ (some (cxA C 117))]) gc_X1_demand (m_X1_demand hC.fl h) (List.mem_of_getElem? (i := 3) rfl) q888 (gle rfl) (gle rfl) rfl (gle rfl) rfl dX2_lend_7 (gk_v fun G3 h => ?_) (fun _ _ h hio => g_out0 hC (hX _ _ h) hio)
  refine g_iload_n hC (pc := 10) 2 rfl rfl dX2_lend_10 ?_
  refine g_iconst hC (pc := 11) (v := (1 : Int32)) (by decide) dX2_lend_11 ?_
  refine g_bipush hC (pc := 12) (v := (99 : Int32)) (by decide) dX2_lend_12 ?_
  refine g_callSN hC (pc := 14) (b := 0) (As := [vI x2, vI (1 : Int32), vI (99 : Int32)]) gc_X1_isBetween (m_X1_isBetween hC.fl h) (List.mem_of_getElem? (i := 2) rfl) q884 (gle rfl) (gle rfl) rfl (gle rfl) rfl dX2_lend_14 (gk_i fun r5 G4 h => ?_) (fun _ _ h hio => g_out0 hC (hX _ _ h) hio)
  refine g_ldcS hC (pc := 17) (List.mem_of_getElem? (i := 10) rfl) dX2_lend_17 ?_
  refine g_callSN hC (pc := 19) (b := 0) (As := [vI r5, vQ (some (cxA C 110))]) gc_X1_demand (m_X1_demand hC.fl h) (List.mem_of_getElem? (i := 3) rfl) q888 (gle rfl) (gle rfl) rfl (gle rfl) rfl dX2_lend_19 (gk_v fun G6 h => ?_) (fun _ _ h hio => g_out0 hC (hX _ _ h) hio)
  refine g_aload_n hC (pc := 22) 0 rfl rfl dX2_lend_22 ?_
  refine g_getQ hC (pc := 23) in_X2 (ci := 2) rfl 2 (by decide) q192 (Or.inl rfl) h dX2_lend_23 (fun q7 h => ?_)
  refine g_iload_n hC (pc := 26) 1 rfl rfl dX2_lend_26 ?_
  rcases q7 with _ | c8
  · exact (gNN0 h).elim
  replace h := gNN1 h
  obtain ⟨hi, h⟩ := h
  refine g_callF hC (pc := 27) (ci := 3) (As := [vI x1]) gc_J2_get (m_J2_get hC.fl h) rfl hi q361 (List.mem_of_getElem? (i := 2) rfl) rfl q364 q366 (gle rfl) (gle rfl) rfl (gle rfl) rfl dX2_lend_27 (gk_q fun q10 G9 h => ?_) (fun _ _ h hio => g_out0 hC (hX _ _ h) hio)
  refine g_cast hC (pc := 32) q706 h (List.forall_mem_cons.mpr ⟨⟨_, rfl, Or.inr ⟨rfl, by decide⟩⟩, fun _ h => nomatch h⟩) dX2_lend_32 (fun h => ?_)
  refine g_astore_n hC (pc := 35) (lv' := [(3, vQ q10), (0, vQ (some t0)), (1, vI x1), (2, vI x2)]) rfl (by decide) rfl dX2_lend_35 ?_
  refine g_iload_n hC (pc := 36) 3 rfl rfl dX2_lend_36 ?_
  refine g_aload_n hC (pc := 37) 1 rfl rfl dX2_lend_37 ?_
  refine g_getI hC (pc := 38) in_X2 (ci := 2) rfl 5 (by decide) q197 (Or.inl rfl) h dX2_lend_38 (fun i11 h => ?_)
  refine g_icmp_gt hC (pc := 41) 60 h (by decide) dX2_lend_41 (fun h => ?_) (fun h => ?_)
  · exact g_sub [1, 3, 0] rfl (w_X2_lend_60 hC hK hX h)
  · refine g_aload_n hC (pc := 44) 0 rfl rfl dX2_lend_44 ?_
    rcases q10 with _ | c12
    · exact (gNN0 h).elim
    replace h := gNN1 h
    obtain ⟨hi, h⟩ := h
    refine g_callU hC (pc := 45) (ci := 9) (As := []) gc_X7_debt (m_X7_debt hC.fl h) (x := ⟨"GoblinHousehold$Goblin", "debt", "()I"⟩) (owner := "GoblinHousehold$Debtor") rfl hi q825 q826 q829 q830 ⟨by decide, by decide⟩ rfl q828 q829 (gle rfl) (gle rfl) rfl (gle rfl) rfl dX2_lend_45 (gk_i fun r14 G13 h => ?_) (fun _ _ h hio => g_out0 hC (hX _ _ h) hio)
    refine g_iload_n hC (pc := 48) 3 rfl rfl dX2_lend_48 ?_
    refine g_iadd hC (pc := 49) dX2_lend_49 ?_
    refine g_sipush hC (pc := 50) (v := (200 : Int32)) (by decide) dX2_lend_50 ?_
    refine g_icmp_gt hC (pc := 53) 60 h (by decide) dX2_lend_53 (fun h => ?_) (fun h => ?_)
    · exact g_sub [1, 3, 0] rfl (w_X2_lend_60 hC hK hX h)
    · refine g_iconst hC (pc := 56) (v := (1 : Int32)) (by decide) dX2_lend_56 ?_
      refine g_goto hC (pc := 57) 61 (by decide) dX2_lend_57 ?_
      exact g_sub [1, 3, 0] rfl (w_X2_lend_61 hC hK hX h)
theorem gc_X2_lend : gCode yX2_lend cX2_lend 4 (some .int) 2 := ⟨q1587, q95, ⟨by decide, by decide⟩, rfl⟩
theorem m_X2_lend {l : Launch} (hfl : l.stackTraces = false) {E : gE} {G : gS} {t0 : Nat} {x1 : Int32} {x2 : Int32} {X : Nat → gS → Prop} {K : Int32 → gS → Prop} (h : wp_X2_lend (gAd E) G t0 x1 x2 X K) : gMet l yX2_lend (ws_ yX2_lend cX2_lend 4 (some .int)) 9 247 [vQ (some t0), vI x1, vI x2] E G (gRi K) X :=
  g_met hfl (plainFor_of_name (by decide +kernel)) rfl rfl rfl (gle rfl) (fun p e R s m args below meth c hC => w_X2_lend hC (fun _ _ h => h) (fun _ _ h => h) h)
def wp_X1_lambda_lend_8 (ad : Nat → Nat) (G : gS) (x0 : Int32) (x1 : Int32) (o2 : Option Nat) (X : Nat → gS → Prop) (K : Int32 → gS → Prop) : Prop :=
  wNN o2 fun c1 => (gIs G c1 2 ∧ wp_X2_lend ad G c1 x0 x1 X (fun r3 G2 => K r3 G2))
theorem w_X1_lambda_lend_8 {C : gCx} (hC : gOk C "GoblinHousehold" cX1_lambda_lend_8 [] (some .int) "lambda$lend$8" 3 10 278) {K : Int32 → gS → Prop} {X : Nat → gS → Prop} (hK : ∀ r G, K r G → cxK C (some (vI r)) G) (hX : ∀ q G, X q G → cxX C q G) {G : gS} {x0 : Int32} {x1 : Int32} {o2 : Option Nat} (h : wp_X1_lambda_lend_8 (cxA C) G x0 x1 o2 X K) : gGo C G 0 [(0, vI x0), (1, vI x1), (2, vQ o2)] [] := by
  unfold wp_X1_lambda_lend_8 at h
  refine g_aload_n hC (pc := 0) 2 rfl rfl dX1_lambda_lend_8_0 ?_
  refine g_iload_n hC (pc := 1) 0 rfl rfl dX1_lambda_lend_8_1 ?_
  refine g_iload_n hC (pc := 2) 1 rfl rfl dX1_lambda_lend_8_2 ?_
  rcases o2 with _ | c1
  · exact (gNN0 h).elim
  replace h := gNN1 h
  obtain ⟨hi, h⟩ := h
  refine g_callV hC (pc := 3) (ci := 2) (As := [vI x0, vI x1]) gc_X2_lend (m_X2_lend hC.fl h) rfl hi q1584 q1585 q1586 (gle rfl) (gle rfl) rfl (gle rfl) rfl dX1_lambda_lend_8_3 (gk_i fun r3 G2 h => ?_) (fun _ _ h hio => g_out0 hC (hX _ _ h) hio)
  exact g_iret hC (pc := 6) (hK _ _ h) dX1_lambda_lend_8_6
theorem gc_X1_lambda_lend_8 : gCode yX1_lambda_lend_8 cX1_lambda_lend_8 3 (some .int) 3 := ⟨q1583, q94, ⟨by decide, by decide⟩, rfl⟩
theorem m_X1_lambda_lend_8 {l : Launch} (hfl : l.stackTraces = false) {E : gE} {G : gS} {x0 : Int32} {x1 : Int32} {o2 : Option Nat} {X : Nat → gS → Prop} {K : Int32 → gS → Prop} (h : wp_X1_lambda_lend_8 (gAd E) G x0 x1 o2 X K) : gMet l yX1_lambda_lend_8 (ws_ yX1_lambda_lend_8 cX1_lambda_lend_8 3 (some .int)) 10 278 [vI x0, vI x1, vQ o2] E G (gRi K) X :=
  g_met hfl (plainFor_of_name (by decide +kernel)) rfl rfl rfl (gle rfl) (fun p e R s m args below meth c hC => w_X1_lambda_lend_8 hC (fun _ _ h => h) (fun _ _ h => h) h)
def wp_X2_fund (ad : Nat → Nat) (G : gS) (t0 : Nat) (x1 : Int32) (X : Nat → gS → Prop) (K : Int32 → gS → Prop) : Prop :=
  wp_X1_isBetween ad G x1 (1 : Int32) (999 : Int32) X (fun r2 G1 => wp_X1_demand ad G1 r2 (some (ad 110)) X (fun G3 => wGetI G3 t0 2 5 fun i4 => wPut G3 t0 2 5 (.int (i4 + x1)) fun G5 => wGetI G5 t0 2 7 fun i6 => wPut G5 t0 2 7 (.int (i6 + x1)) fun G7 => wGetI G7 t0 2 5 fun i8 => K i8 G7))
theorem w_X2_fund {C : gCx} (hC : gOk C "GoblinHousehold$Household" cX2_fund [] (some .int) "fund" 2 9 247) {K : Int32 → gS → Prop} {X : Nat → gS → Prop} (hK : ∀ r G, K r G → cxK C (some (vI r)) G) (hX : ∀ q G, X q G → cxX C q G) {G : gS} {t0 : Nat} {x1 : Int32} (h : wp_X2_fund (cxA C) G t0 x1 X K) : gGo C G 0 [(0, vQ (some t0)), (1, vI x1)] [] := by
  unfold wp_X2_fund at h
  refine g_iload_n hC (pc := 0) 1 rfl rfl dX2_fund_0 ?_
  refine g_iconst hC (pc := 1) (v := (1 : Int32)) (by decide) dX2_fund_1 ?_
  refine g_sipush hC (pc := 2) (v := (999 : Int32)) (by decide) dX2_fund_2 ?_
  refine g_callSN hC (pc := 5) (b := 0) (As := [vI x1, vI (1 : Int32), vI (999 : Int32)]) gc_X1_isBetween (m_X1_isBetween hC.fl h) (List.mem_of_getElem? (i := 2) rfl) q884 (gle rfl) (gle rfl) rfl (gle rfl) rfl dX2_fund_5 (gk_i fun r2 G1 h => ?_) (fun _ _ h hio => g_out0 hC (hX _ _ h) hio)
  refine g_ldcS hC (pc := 8) (List.mem_of_getElem? (i := 10) rfl) dX2_fund_8 ?_
  refine g_callSN hC (pc := 10) (b := 0) (As := [vI r2, vQ (some (cxA C 110))]) gc_X1_demand (m_X1_demand hC.fl h) (List.mem_of_getElem? (i := 3) rfl) q888 (gle rfl) (gle rfl) rfl (gle rfl) rfl dX2_fund_10 (gk_v fun G3 h => ?_) (fun _ _ h hio => g_out0 hC (hX _ _ h) hio)
  refine g_aload_n hC (pc := 13) 0 rfl rfl dX2_fund_13 ?_
  refine g_dup hC (pc := 14) rfl dX2_fund_14 ?_
  refine g_getI hC (pc := 15) in_X2 (ci := 2) rfl 5 (by decide) q197 (Or.inl rfl) h dX2_fund_15 (fun i4 h => ?_)
  refine g_iload_n hC (pc := 18) 1 rfl rfl dX2_fund_18 ?_
  refine g_iadd hC (pc := 19) dX2_fund_19 ?_
  refine g_put hC (pc := 20) in_X2 (ci := 2) rfl 5 (by decide) tyX2_ok nmX2 q197 (Or.inl rfl) rfl rfl rfl h dX2_fund_20 (fun G5 h => ?_)
  refine g_aload_n hC (pc := 23) 0 rfl rfl dX2_fund_23 ?_
  refine g_dup hC (pc := 24) rfl dX2_fund_24 ?_
  refine g_getI hC (pc := 25) in_X2 (ci := 2) rfl 7 (by decide) q201 (Or.inl rfl) h dX2_fund_25 (fun i6 h => ?_)
  refine g_iload_n hC (pc := 28) 1 rfl rfl dX2_fund_28 ?_
  refine g_iadd hC (pc := 29) dX2_fund_29 ?_
  refine g_put hC (pc := 30) in_X2 (ci := 2) rfl 7 (by decide) tyX2_ok nmX2 q201 (Or.inl rfl) rfl rfl rfl h dX2_fund_30 (fun G7 h => ?_)
  refine g_aload_n hC (pc := 33) 0 rfl rfl dX2_fund_33 ?_
  refine g_getI hC (pc := 34) in_X2 (ci := 2) rfl 5 (by decide) q197 (Or.inl rfl) h dX2_fund_34 (fun i8 h => ?_)
  exact g_iret hC (pc := 37) (hK _ _ h) dX2_fund_37
theorem gc_X2_fund : gCode yX2_fund cX2_fund 2 (some .int) 1 := ⟨q1606, q95, ⟨by decide, by decide⟩, rfl⟩
theorem m_X2_fund {l : Launch} (hfl : l.stackTraces = false) {E : gE} {G : gS} {t0 : Nat} {x1 : Int32} {X : Nat → gS → Prop} {K : Int32 → gS → Prop} (h : wp_X2_fund (gAd E) G t0 x1 X K) : gMet l yX2_fund (ws_ yX2_fund cX2_fund 2 (some .int)) 9 247 [vQ (some t0), vI x1] E G (gRi K) X :=
  g_met hfl (plainFor_of_name (by decide +kernel)) rfl rfl rfl (gle rfl) (fun p e R s m args below meth c hC => w_X2_fund hC (fun _ _ h => h) (fun _ _ h => h) h)
def wp_X1_lambda_fund_9 (ad : Nat → Nat) (G : gS) (x0 : Int32) (o1 : Option Nat) (X : Nat → gS → Prop) (K : Int32 → gS → Prop) : Prop :=
  wNN o1 fun c1 => (gIs G c1 2 ∧ wp_X2_fund ad G c1 x0 X (fun r3 G2 => K r3 G2))
theorem w_X1_lambda_fund_9 {C : gCx} (hC : gOk C "GoblinHousehold" cX1_lambda_fund_9 [] (some .int) "lambda$fund$9" 2 10 276) {K : Int32 → gS → Prop} {X : Nat → gS → Prop} (hK : ∀ r G, K r G → cxK C (some (vI r)) G) (hX : ∀ q G, X q G → cxX C q G) {G : gS} {x0 : Int32} {o1 : Option Nat} (h : wp_X1_lambda_fund_9 (cxA C) G x0 o1 X K) : gGo C G 0 [(0, vI x0), (1, vQ o1)] [] := by
  unfold wp_X1_lambda_fund_9 at h
  refine g_aload_n hC (pc := 0) 1 rfl rfl dX1_lambda_fund_9_0 ?_
  refine g_iload_n hC (pc := 1) 0 rfl rfl dX1_lambda_fund_9_1 ?_
  rcases o1 with _ | c1
  · exact (gNN0 h).elim
  replace h := gNN1 h
  obtain ⟨hi, h⟩ := h
  refine g_callV hC (pc := 2) (ci := 2) (As := [vI x0]) gc_X2_fund (m_X2_fund hC.fl h) rfl hi q1603 q1604 q1605 (gle rfl) (gle rfl) rfl (gle rfl) rfl dX1_lambda_fund_9_2 (gk_i fun r3 G2 h => ?_) (fun _ _ h hio => g_out0 hC (hX _ _ h) hio)
  exact g_iret hC (pc := 5) (hK _ _ h) dX1_lambda_fund_9_5
theorem gc_X1_lambda_fund_9 : gCode yX1_lambda_fund_9 cX1_lambda_fund_9 2 (some .int) 2 := ⟨q1602, q94, ⟨by decide, by decide⟩, rfl⟩
theorem m_X1_lambda_fund_9 {l : Launch} (hfl : l.stackTraces = false) {E : gE} {G : gS} {x0 : Int32} {o1 : Option Nat} {X : Nat → gS → Prop} {K : Int32 → gS → Prop} (h : wp_X1_lambda_fund_9 (gAd E) G x0 o1 X K) : gMet l yX1_lambda_fund_9 (ws_ yX1_lambda_fund_9 cX1_lambda_fund_9 2 (some .int)) 10 276 [vI x0, vQ o1] E G (gRi K) X :=
  g_met hfl (plainFor_of_name (by decide +kernel)) rfl rfl rfl (gle rfl) (fun p e R s m args below meth c hC => w_X1_lambda_fund_9 hC (fun _ _ h => h) (fun _ _ h => h) h)
def wp_X2_spend_26 (ad : Nat → Nat) (X : Nat → gS → Prop) (K : Int32 → gS → Prop) (G : gS) (t0 : Nat) (x1 : Int32) (xs0 : Int32) : Prop :=
  wp_X1_demand ad G xs0 (some (ad 118)) X (fun G1 => wGetI G1 t0 2 5 fun i2 => wPut G1 t0 2 5 (.int (i2 - x1)) fun G3 => wGetI G3 t0 2 8 fun i4 => wPut G3 t0 2 8 (.int (i4 + x1)) fun G5 => wGetI G5 t0 2 5 fun i6 => K i6 G5)
theorem w_X2_spend_26 {C : gCx} (hC : gOk C "GoblinHousehold$Household" cX2_spend [] (some .int) "spend" 2 9 247) {K : Int32 → gS → Prop} {X : Nat → gS → Prop} (hK : ∀ r G, K r G → cxK C (some (vI r)) G) (hX : ∀ q G, X q G → cxX C q G) {G : gS} {t0 : Nat} {x1 : Int32} {xs0 : Int32} (h : wp_X2_spend_26 (cxA C) X K G t0 x1 xs0) : gGo C G 26 [(0, vQ (some t0)), (1, vI x1)] [vI xs0] := by
  unfold wp_X2_spend_26 at h
  refine g_ldcS hC (pc := 26) (List.mem_of_getElem? (i := 18) rfl) dX2_spend_26 ?_
  refine g_callSN hC (pc := 28) (b := 0) (As := [vI xs0, vQ (some (cxA C 118))]) gc_X1_demand (m_X1_demand hC.fl h) (List.mem_of_getElem? (i := 3) rfl) q888 (gle rfl) (gle rfl) rfl (gle rfl) rfl dX2_spend_28 (gk_v fun G1 h => ?_) (fun _ _ h hio => g_out0 hC (hX _ _ h) hio)
  refine g_aload_n hC (pc := 31) 0 rfl rfl dX2_spend_31 ?_
  refine g_dup hC (pc := 32) rfl dX2_spend_32 ?_
  refine g_getI hC (pc := 33) in_X2 (ci := 2) rfl 5 (by decide) q197 (Or.inl rfl) h dX2_spend_33 (fun i2 h => ?_)
  refine g_iload_n hC (pc := 36) 1 rfl rfl dX2_spend_36 ?_
  refine g_isub hC (pc := 37) dX2_spend_37 ?_
  refine g_put hC (pc := 38) in_X2 (ci := 2) rfl 5 (by decide) tyX2_ok nmX2 q197 (Or.inl rfl) rfl rfl rfl h dX2_spend_38 (fun G3 h => ?_)
  refine g_aload_n hC (pc := 41) 0 rfl rfl dX2_spend_41 ?_
  refine g_dup hC (pc := 42) rfl dX2_spend_42 ?_
  refine g_getI hC (pc := 43) in_X2 (ci := 2) rfl 8 (by decide) q202 (Or.inl rfl) h dX2_spend_43 (fun i4 h => ?_)
  refine g_iload_n hC (pc := 46) 1 rfl rfl dX2_spend_46 ?_
  refine g_iadd hC (pc := 47) dX2_spend_47 ?_
  refine g_put hC (pc := 48) in_X2 (ci := 2) rfl 8 (by decide) tyX2_ok nmX2 q202 (Or.inl rfl) rfl rfl rfl h dX2_spend_48 (fun G5 h => ?_)
  refine g_aload_n hC (pc := 51) 0 rfl rfl dX2_spend_51 ?_
  refine g_getI hC (pc := 52) in_X2 (ci := 2) rfl 5 (by decide) q197 (Or.inl rfl) h dX2_spend_52 (fun i6 h => ?_)
  exact g_iret hC (pc := 55) (hK _ _ h) dX2_spend_55
def wp_X2_spend (ad : Nat → Nat) (G : gS) (t0 : Nat) (x1 : Int32) (X : Nat → gS → Prop) (K : Int32 → gS → Prop) : Prop :=
  wp_X1_isBetween ad G x1 (1 : Int32) (999 : Int32) X (fun r2 G1 => wp_X1_demand ad G1 r2 (some (ad 110)) X (fun G3 => wGetI G3 t0 2 5 fun i4 => (i4 < x1 → wp_X2_spend_26 ad X K G3 t0 x1 (0 : Int32)) ∧ (¬ i4 < x1 → wp_X2_spend_26 ad X K G3 t0 x1 (1 : Int32))))
theorem w_X2_spend {C : gCx} (hC : gOk C "GoblinHousehold$Household" cX2_spend [] (some .int) "spend" 2 9 247) {K : Int32 → gS → Prop} {X : Nat → gS → Prop} (hK : ∀ r G, K r G → cxK C (some (vI r)) G) (hX : ∀ q G, X q G → cxX C q G) {G : gS} {t0 : Nat} {x1 : Int32} (h : wp_X2_spend (cxA C) G t0 x1 X K) : gGo C G 0 [(0, vQ (some t0)), (1, vI x1)] [] := by
  unfold wp_X2_spend at h
  refine g_iload_n hC (pc := 0) 1 rfl rfl dX2_spend_0 ?_
  refine g_iconst hC (pc := 1) (v := (1 : Int32)) (by decide) dX2_spend_1 ?_
  refine g_sipush hC (pc := 2) (v := (999 : Int32)) (by decide) dX2_spend_2 ?_
  refine g_callSN hC (pc := 5) (b := 0) (As := [vI x1, vI (1 : Int32), vI (999 : Int32)]) gc_X1_isBetween (m_X1_isBetween hC.fl h) (List.mem_of_getElem? (i := 2) rfl) q884 (gle rfl) (gle rfl) rfl (gle rfl) rfl dX2_spend_5 (gk_i fun r2 G1 h => ?_) (fun _ _ h hio => g_out0 hC (hX _ _ h) hio)
  refine g_ldcS hC (pc := 8) (List.mem_of_getElem? (i := 10) rfl) dX2_spend_8 ?_
  refine g_callSN hC (pc := 10) (b := 0) (As := [vI r2, vQ (some (cxA C 110))]) gc_X1_demand (m_X1_demand hC.fl h) (List.mem_of_getElem? (i := 3) rfl) q888 (gle rfl) (gle rfl) rfl (gle rfl) rfl dX2_spend_10 (gk_v fun G3 h => ?_) (fun _ _ h hio => g_out0 hC (hX _ _ h) hio)
  refine g_iload_n hC (pc := 13) 1 rfl rfl dX2_spend_13 ?_
  refine g_aload_n hC (pc := 14) 0 rfl rfl dX2_spend_14 ?_
  refine g_getI hC (pc := 15) in_X2 (ci := 2) rfl 5 (by decide) q197 (Or.inl rfl) h dX2_spend_15 (fun i4 h => ?_)
  refine g_icmp_gt hC (pc := 18) 25 h (by decide) dX2_spend_18 (fun h => ?_) (fun h => ?_)
  · refine g_iconst hC (pc := 25) (v := (0 : Int32)) (by decide) dX2_spend_25 ?_
    exact g_sub [0, 1] rfl (w_X2_spend_26 hC hK hX h)
  · refine g_iconst hC (pc := 21) (v := (1 : Int32)) (by decide) dX2_spend_21 ?_
    refine g_goto hC (pc := 22) 26 (by decide) dX2_spend_22 ?_
    exact g_sub [0, 1] rfl (w_X2_spend_26 hC hK hX h)
theorem gc_X2_spend : gCode yX2_spend cX2_spend 2 (some .int) 1 := ⟨q1619, q95, ⟨by decide, by decide⟩, rfl⟩
theorem m_X2_spend {l : Launch} (hfl : l.stackTraces = false) {E : gE} {G : gS} {t0 : Nat} {x1 : Int32} {X : Nat → gS → Prop} {K : Int32 → gS → Prop} (h : wp_X2_spend (gAd E) G t0 x1 X K) : gMet l yX2_spend (ws_ yX2_spend cX2_spend 2 (some .int)) 9 247 [vQ (some t0), vI x1] E G (gRi K) X :=
  g_met hfl (plainFor_of_name (by decide +kernel)) rfl rfl rfl (gle rfl) (fun p e R s m args below meth c hC => w_X2_spend hC (fun _ _ h => h) (fun _ _ h => h) h)
def wp_X1_lambda_spend_10 (ad : Nat → Nat) (G : gS) (x0 : Int32) (o1 : Option Nat) (X : Nat → gS → Prop) (K : Int32 → gS → Prop) : Prop :=
  wNN o1 fun c1 => (gIs G c1 2 ∧ wp_X2_spend ad G c1 x0 X (fun r3 G2 => K r3 G2))
theorem w_X1_lambda_spend_10 {C : gCx} (hC : gOk C "GoblinHousehold" cX1_lambda_spend_10 [] (some .int) "lambda$spend$10" 2 10 276) {K : Int32 → gS → Prop} {X : Nat → gS → Prop} (hK : ∀ r G, K r G → cxK C (some (vI r)) G) (hX : ∀ q G, X q G → cxX C q G) {G : gS} {x0 : Int32} {o1 : Option Nat} (h : wp_X1_lambda_spend_10 (cxA C) G x0 o1 X K) : gGo C G 0 [(0, vI x0), (1, vQ o1)] [] := by
  unfold wp_X1_lambda_spend_10 at h
  refine g_aload_n hC (pc := 0) 1 rfl rfl dX1_lambda_spend_10_0 ?_
  refine g_iload_n hC (pc := 1) 0 rfl rfl dX1_lambda_spend_10_1 ?_
  rcases o1 with _ | c1
  · exact (gNN0 h).elim
  replace h := gNN1 h
  obtain ⟨hi, h⟩ := h
  refine g_callV hC (pc := 2) (ci := 2) (As := [vI x0]) gc_X2_spend (m_X2_spend hC.fl h) rfl hi q1616 q1617 q1618 (gle rfl) (gle rfl) rfl (gle rfl) rfl dX1_lambda_spend_10_2 (gk_i fun r3 G2 h => ?_) (fun _ _ h hio => g_out0 hC (hX _ _ h) hio)
  exact g_iret hC (pc := 5) (hK _ _ h) dX1_lambda_spend_10_5
theorem gc_X1_lambda_spend_10 : gCode yX1_lambda_spend_10 cX1_lambda_spend_10 2 (some .int) 2 := ⟨q1615, q94, ⟨by decide, by decide⟩, rfl⟩
theorem m_X1_lambda_spend_10 {l : Launch} (hfl : l.stackTraces = false) {E : gE} {G : gS} {x0 : Int32} {o1 : Option Nat} {X : Nat → gS → Prop} {K : Int32 → gS → Prop} (h : wp_X1_lambda_spend_10 (gAd E) G x0 o1 X K) : gMet l yX1_lambda_spend_10 (ws_ yX1_lambda_spend_10 cX1_lambda_spend_10 2 (some .int)) 10 276 [vI x0, vQ o1] E G (gRi K) X :=
  g_met hfl (plainFor_of_name (by decide +kernel)) rfl rfl rfl (gle rfl) (fun p e R s m args below meth c hC => w_X1_lambda_spend_10 hC (fun _ _ h => h) (fun _ _ h => h) h)
def wp_X2_energy (ad : Nat → Nat) (G : gS) (t0 : Nat) (o1 : Option Nat) (X : Nat → gS → Prop) (K : Int32 → gS → Prop) : Prop :=
  wNN o1 fun c1 => wGetI G c1 9 3 fun i2 => (gIs G t0 2 ∧ wp_X2_usedBrooms ad G t0  X (fun r4 G3 => K (i2 * (r4 + (1 : Int32))) G3))
theorem w_X2_energy {C : gCx} (hC : gOk C "GoblinHousehold$Household" cX2_energy [] (some .int) "energy" 2 4 118) {K : Int32 → gS → Prop} {X : Nat → gS → Prop} (hK : ∀ r G, K r G → cxK C (some (vI r)) G) (hX : ∀ q G, X q G → cxX C q G) {G : gS} {t0 : Nat} {o1 : Option Nat} (h : wp_X2_energy (cxA C) G t0 o1 X K) : gGo C G 0 [(0, vQ (some t0)), (1, vQ o1)] [] := by
  unfold wp_X2_energy at h
  refine g_aload_n hC (pc := 0) 1 rfl rfl dX2_energy_0 ?_
  rcases o1 with _ | c1
  · exact (gNN0 h).elim
  replace h := gNN1 h
  refine g_getIN hC (pc := 1) in_X8 (ci := 9) rfl 3 (by decide) (List.mem_of_getElem? (i := 10) rfl) (Or.inl rfl) h dX2_energy_1 (fun i2 h => ?_)
  refine g_aload_n hC (pc := 4) 0 rfl rfl dX2_energy_4 ?_
  obtain ⟨hi, h⟩ := h
  refine g_callV hC (pc := 5) (ci := 2) (As := []) gc_X2_usedBrooms (m_X2_usedBrooms hC.fl h) rfl hi q782 q783 q784 (gle rfl) (gle rfl) rfl (gle rfl) rfl dX2_energy_5 (gk_i fun r4 G3 h => ?_) (fun _ _ h hio => g_out0 hC (hX _ _ h) hio)
  refine g_iconst hC (pc := 8) (v := (1 : Int32)) (by decide) dX2_energy_8 ?_
  refine g_iadd hC (pc := 9) dX2_energy_9 ?_
  refine g_imul hC (pc := 10) dX2_energy_10 ?_
  exact g_iret hC (pc := 11) (hK _ _ h) dX2_energy_11
theorem gc_X2_energy : gCode yX2_energy cX2_energy 2 (some .int) 1 := ⟨q781, q95, ⟨by decide, by decide⟩, rfl⟩
theorem m_X2_energy {l : Launch} (hfl : l.stackTraces = false) {E : gE} {G : gS} {t0 : Nat} {o1 : Option Nat} {X : Nat → gS → Prop} {K : Int32 → gS → Prop} (h : wp_X2_energy (gAd E) G t0 o1 X K) : gMet l yX2_energy (ws_ yX2_energy cX2_energy 2 (some .int)) 4 118 [vQ (some t0), vQ o1] E G (gRi K) X :=
  g_met hfl (plainFor_of_name (by decide +kernel)) rfl rfl rfl (gle rfl) (fun p e R s m args below meth c hC => w_X2_energy hC (fun _ _ h => h) (fun _ _ h => h) h)
def wp_X2_firstOf_35 (ad : Nat → Nat) (X : Nat → gS → Prop) (K : Option Nat → gS → Prop) (G : gS) (t0 : Nat) (x2 : Int32) : Prop :=
  wGetQ G t0 2 3 fun q1 => wNN q1 fun c2 => (gIs G c2 3 ∧ wp_J2_get ad G c2 x2 X (fun q4 G3 => wCast G3 q4 [10] (K q4 G3)))
theorem w_X2_firstOf_35 {C : gCx} (hC : gOk C "GoblinHousehold$Household" cX2_firstOf [] (some (Jvm.ClassFile.FieldType.object "GoblinHousehold$Contract")) "firstOf" 3 3 88) {K : Option Nat → gS → Prop} {X : Nat → gS → Prop} (hK : ∀ r G, K r G → cxK C (some (vQ r)) G) (hX : ∀ q G, X q G → cxX C q G) {G : gS} {t0 : Nat} {x2 : Int32} (h : wp_X2_firstOf_35 (cxA C) X K G t0 x2) : gGo C G 35 [(0, vQ (some t0)), (2, vI x2)] [] := by
  unfold wp_X2_firstOf_35 at h
  refine g_aload_n hC (pc := 35) 0 rfl rfl dX2_firstOf_35 ?_
  refine g_getQ hC (pc := 36) in_X2 (ci := 2) rfl 3 (by decide) q194 (Or.inl rfl) h dX2_firstOf_36 (fun q1 h => ?_)
  refine g_iload_n hC (pc := 39) 1 rfl rfl dX2_firstOf_39 ?_
  rcases q1 with _ | c2
  · exact (gNN0 h).elim
  replace h := gNN1 h
  obtain ⟨hi, h⟩ := h
  refine g_callF hC (pc := 40) (ci := 3) (As := [vI x2]) gc_J2_get (m_J2_get hC.fl h) rfl hi q361 (List.mem_of_getElem? (i := 2) rfl) rfl q364 q366 (gle rfl) (gle rfl) rfl (gle rfl) rfl dX2_firstOf_40 (gk_q fun q4 G3 h => ?_) (fun _ _ h hio => g_out0 hC (hX _ _ h) hio)
  refine g_cast hC (pc := 45) q764 h (List.forall_mem_cons.mpr ⟨⟨_, rfl, Or.inr ⟨rfl, by decide⟩⟩, fun _ h => nomatch h⟩) dX2_firstOf_45 (fun h => ?_)
  exact g_aret hC (pc := 48) (Or.inl ⟨_, rfl⟩) (hK _ _ h) dX2_firstOf_48
def wp_X2_firstOf_2 (ad : Nat → Nat) (X : Nat → gS → Prop) (K : Option Nat → gS → Prop) (J2 : gS → Nat → Int32 → Int32 → Prop) (G : gS) (t0 : Nat) (x1 : Int32) (x2 : Int32) : Prop :=
  wGetQ G t0 2 3 fun q1 => wNN q1 fun c2 => (gIs G c2 3 ∧ wp_J2_size ad G c2  X (fun r4 G3 => (r4 ≤ x2 → K none G3) ∧ (¬ r4 ≤ x2 → wGetQ G3 t0 2 3 fun q5 => wNN q5 fun c6 => (gIs G3 c6 3 ∧ wp_J2_get ad G3 c6 x2 X (fun q8 G7 => wCast G7 q8 [10] (wNN q8 fun c9 => wGetI G7 c9 10 1 fun i10 => (¬ i10 = x1 → J2 G7 t0 x1 (x2 + (1 : Int32))) ∧ (i10 = x1 → wp_X2_firstOf_35 ad X K G7 t0 x2)))))))
theorem w_X2_firstOf_2 {C : gCx} (hC : gOk C "GoblinHousehold$Household" cX2_firstOf [] (some (Jvm.ClassFile.FieldType.object "GoblinHousehold$Contract")) "firstOf" 3 3 88) {K : Option Nat → gS → Prop} {X : Nat → gS → Prop} (hK : ∀ r G, K r G → cxK C (some (vQ r)) G) (hX : ∀ q G, X q G → cxX C q G) (n : Nat) : ∀ (G : gS) (t0 : Nat) (x1 : Int32) (x2 : Int32), gLoop (fun _ _ _ _ => False) (wp_X2_firstOf_2 (cxA C) X K) n G t0 x1 x2 → gGo C G 2 [(0, vQ (some t0)), (1, vI x1), (2, vI x2)] [] := by
  induction n with
  | zero => intro G t0 x1 x2 h; exact h.elim
  | succ n ih =>
    intro G t0 x1 x2 h
    have hJ2 := ih
    replace h : wp_X2_firstOf_2 (cxA C) X K _ G t0 x1 x2 := h
    unfold wp_X2_firstOf_2 at h
    refine g_iload_n hC (pc := 2) 2 rfl rfl dX2_firstOf_2 ?_
    refine g_aload_n hC (pc := 3) 0 rfl rfl dX2_firstOf_3 ?_
    refine g_getQ hC (pc := 4) in_X2 (ci := 2) rfl 3 (by decide) q194 (Or.inl rfl) h dX2_firstOf_4 (fun q1 h => ?_)
    rcases q1 with _ | c2
    · exact (gNN0 h).elim
    replace h := gNN1 h
    obtain ⟨hi, h⟩ := h
    refine g_callF hC (pc := 7) (ci := 3) (As := []) gc_J2_size (m_J2_size hC.fl h) rfl hi q359 (List.mem_of_getElem? (i := 0) rfl) rfl q323 q325 (gle rfl) (gle rfl) rfl (gle rfl) rfl dX2_firstOf_7 (gk_i fun r4 G3 h => ?_) (fun _ _ h hio => g_out0 hC (hX _ _ h) hio)
    refine g_icmp_ge hC (pc := 12) 55 h (by decide) dX2_firstOf_12 (fun h => ?_) (fun h => ?_)
    · refine g_null hC (pc := 55) dX2_firstOf_55 ?_
      exact g_aret hC (pc := 56) (Or.inl ⟨_, rfl⟩) (hK _ _ h) dX2_firstOf_56
    · refine g_aload_n hC (pc := 15) 0 rfl rfl dX2_firstOf_15 ?_
      refine g_getQ hC (pc := 16) in_X2 (ci := 2) rfl 3 (by decide) q194 (Or.inl rfl) h dX2_firstOf_16 (fun q5 h => ?_)
      refine g_iload_n hC (pc := 19) 2 rfl rfl dX2_firstOf_19 ?_
      rcases q5 with _ | c6
      · exact (gNN0 h).elim
      replace h := gNN1 h
      obtain ⟨hi, h⟩ := h
      refine g_callF hC (pc := 20) (ci := 3) (As := [vI x2]) gc_J2_get (m_J2_get hC.fl h) rfl hi q361 (List.mem_of_getElem? (i := 2) rfl) rfl q364 q366 (gle rfl) (gle rfl) rfl (gle rfl) rfl dX2_firstOf_20 (gk_q fun q8 G7 h => ?_) (fun _ _ h hio => g_out0 hC (hX _ _ h) hio)
      refine g_cast hC (pc := 25) q764 h (List.forall_mem_cons.mpr ⟨⟨_, rfl, Or.inr ⟨rfl, by decide⟩⟩, fun _ h => nomatch h⟩) dX2_firstOf_25 (fun h => ?_)
      rcases q8 with _ | c9
      · exact (gNN0 h).elim
      replace h := gNN1 h
      refine g_getIN hC (pc := 28) in_X10 (ci := 10) rfl 1 (by decide) (List.mem_of_getElem? (i := 20) rfl) (Or.inl rfl) h dX2_firstOf_28 (fun i10 h => ?_)
      refine g_iload_n hC (pc := 31) 1 rfl rfl dX2_firstOf_31 ?_
      refine g_icmp_ne hC (pc := 32) 49 h (by decide) dX2_firstOf_32 (fun h => ?_) (fun h => ?_)
      · refine g_iinc hC (pc := 49) 2 (d := (1 : Int32)) (v := (x2 + (1 : Int32))) (lv' := [(2, vI (x2 + (1 : Int32))), (0, vQ (some t0)), (1, vI x1)]) rfl (by decide) rfl (by decide) rfl dX2_firstOf_49 ?_
        refine g_goto hC (pc := 52) 2 (by decide) dX2_firstOf_52 ?_
        exact g_sub [1, 2, 0] rfl (hJ2 _ _ _ _ h)
      · exact g_sub [0, 2] rfl (w_X2_firstOf_35 hC hK hX h)
def wp_X2_firstOf (ad : Nat → Nat) (G : gS) (t0 : Nat) (x1 : Int32) (X : Nat → gS → Prop) (K : Option Nat → gS → Prop) : Prop :=
  gLoop (fun _ _ _ _ => False) (wp_X2_firstOf_2 ad X K) gFuel G t0 x1 (0 : Int32)
theorem w_X2_firstOf {C : gCx} (hC : gOk C "GoblinHousehold$Household" cX2_firstOf [] (some (Jvm.ClassFile.FieldType.object "GoblinHousehold$Contract")) "firstOf" 3 3 88) {K : Option Nat → gS → Prop} {X : Nat → gS → Prop} (hK : ∀ r G, K r G → cxK C (some (vQ r)) G) (hX : ∀ q G, X q G → cxX C q G) {G : gS} {t0 : Nat} {x1 : Int32} (h : wp_X2_firstOf (cxA C) G t0 x1 X K) : gGo C G 0 [(0, vQ (some t0)), (1, vI x1)] [] := by
  unfold wp_X2_firstOf at h
  refine g_iconst hC (pc := 0) (v := (0 : Int32)) (by decide) dX2_firstOf_0 ?_
  refine g_istore_n hC (pc := 1) (lv' := [(2, vI (0 : Int32)), (0, vQ (some t0)), (1, vI x1)]) rfl (by decide) rfl dX2_firstOf_1 ?_
  exact g_sub [1, 2, 0] rfl (w_X2_firstOf_2 hC hK hX gFuel _ _ _ _ h)
theorem gc_X2_firstOf : gCode yX2_firstOf cX2_firstOf 3 (some (Jvm.ClassFile.FieldType.object "GoblinHousehold$Contract")) 1 := ⟨q1649, q95, ⟨by decide, by decide⟩, rfl⟩
theorem m_X2_firstOf {l : Launch} (hfl : l.stackTraces = false) {E : gE} {G : gS} {t0 : Nat} {x1 : Int32} {X : Nat → gS → Prop} {K : Option Nat → gS → Prop} (h : wp_X2_firstOf (gAd E) G t0 x1 X K) : gMet l yX2_firstOf (ws_ yX2_firstOf cX2_firstOf 3 (some (Jvm.ClassFile.FieldType.object "GoblinHousehold$Contract"))) 3 88 [vQ (some t0), vI x1] E G (gRq K) X :=
  g_met hfl (plainFor_of_name (by decide +kernel)) rfl rfl rfl (gle rfl) (fun p e R s m args below meth c hC => w_X2_firstOf hC (fun _ _ h => h) (fun _ _ h => h) h)
def wp_X19_usefulPower (ad : Nat → Nat) (G : gS) (t0 : Nat) (x1 : Int32) (X : Nat → gS → Prop) (K : Int32 → gS → Prop) : Prop :=
  K x1 G
theorem w_X19_usefulPower {C : gCx} (hC : gOk C "GoblinHousehold$Standing$1" cX19_usefulPower [] (some .int) "usefulPower" 2 0 0) {K : Int32 → gS → Prop} {X : Nat → gS → Prop} (hK : ∀ r G, K r G → cxK C (some (vI r)) G) (hX : ∀ q G, X q G → cxX C q G) {G : gS} {t0 : Nat} {x1 : Int32} (h : wp_X19_usefulPower (cxA C) G t0 x1 X K) : gGo C G 0 [(0, vQ (some t0)), (1, vI x1)] [] := by
  unfold wp_X19_usefulPower at h
  refine g_iload_n hC (pc := 0) 1 rfl rfl dX19_usefulPower_0 ?_
  exact g_iret hC (pc := 1) (hK _ _ h) dX19_usefulPower_1
theorem b_X19_usefulPower {l : Launch} {E : gE} {G : gS} {t0 : Nat} {x1 : Int32} {X : Nat → gS → Prop} {K : Int32 → gS → Prop} (h : wp_X19_usefulPower (gAd E) G t0 x1 X K) : gBody l yX19_usefulPower cX19_usefulPower 2 (some .int) 0 0 [vQ (some t0), vI x1] E G (gRi K) X :=
  fun p e R s m args below meth c hC => w_X19_usefulPower hC (fun _ _ h => h) (fun _ _ h => h) h
theorem m_X19_usefulPower {l : Launch} (hfl : l.stackTraces = false) {E : gE} {G : gS} {t0 : Nat} {x1 : Int32} {X : Nat → gS → Prop} {K : Int32 → gS → Prop} (h : wp_X19_usefulPower (gAd E) G t0 x1 X K) : gMet l yX19_usefulPower (ws_ yX19_usefulPower cX19_usefulPower 2 (some .int)) 0 0 [vQ (some t0), vI x1] E G (gRi K) X :=
  g_met hfl (plainFor_of_name (by decide +kernel)) rfl rfl rfl (gle rfl) (fun p e R s m args below meth c hC => w_X19_usefulPower hC (fun _ _ h => h) (fun _ _ h => h) h)
def wp_X20_usefulPower (ad : Nat → Nat) (G : gS) (t0 : Nat) (x1 : Int32) (X : Nat → gS → Prop) (K : Int32 → gS → Prop) : Prop :=
  K (0 : Int32) G
theorem w_X20_usefulPower {C : gCx} (hC : gOk C "GoblinHousehold$Standing$2" cX20_usefulPower [] (some .int) "usefulPower" 2 0 0) {K : Int32 → gS → Prop} {X : Nat → gS → Prop} (hK : ∀ r G, K r G → cxK C (some (vI r)) G) (hX : ∀ q G, X q G → cxX C q G) {G : gS} {t0 : Nat} {x1 : Int32} (h : wp_X20_usefulPower (cxA C) G t0 x1 X K) : gGo C G 0 [(0, vQ (some t0)), (1, vI x1)] [] := by
  unfold wp_X20_usefulPower at h
  refine g_iconst hC (pc := 0) (v := (0 : Int32)) (by decide) dX20_usefulPower_0 ?_
  exact g_iret hC (pc := 1) (hK _ _ h) dX20_usefulPower_1
theorem b_X20_usefulPower {l : Launch} {E : gE} {G : gS} {t0 : Nat} {x1 : Int32} {X : Nat → gS → Prop} {K : Int32 → gS → Prop} (h : wp_X20_usefulPower (gAd E) G t0 x1 X K) : gBody l yX20_usefulPower cX20_usefulPower 2 (some .int) 0 0 [vQ (some t0), vI x1] E G (gRi K) X :=
  fun p e R s m args below meth c hC => w_X20_usefulPower hC (fun _ _ h => h) (fun _ _ h => h) h
theorem m_X20_usefulPower {l : Launch} (hfl : l.stackTraces = false) {E : gE} {G : gS} {t0 : Nat} {x1 : Int32} {X : Nat → gS → Prop} {K : Int32 → gS → Prop} (h : wp_X20_usefulPower (gAd E) G t0 x1 X K) : gMet l yX20_usefulPower (ws_ yX20_usefulPower cX20_usefulPower 2 (some .int)) 0 0 [vQ (some t0), vI x1] E G (gRi K) X :=
  g_met hfl (plainFor_of_name (by decide +kernel)) rfl rfl rfl (gle rfl) (fun p e R s m args below meth c hC => w_X20_usefulPower hC (fun _ _ h => h) (fun _ _ h => h) h)
def wp_X9_usefulPower (ad : Nat → Nat) (G : gS) (t0 : Nat) (X : Nat → gS → Prop) (K : Int32 → gS → Prop) : Prop :=
  wGetQ G t0 8 1 fun q1 => wGetI G t0 8 0 fun i2 => wNN q1 fun c3 => ((gIs G c3 26 ∧ wp_X19_usefulPower ad G c3 i2 X (fun r5 G4 => K r5 G4))) ∨ ((gIs G c3 27 ∧ wp_X20_usefulPower ad G c3 i2 X (fun r7 G6 => K r7 G6)))
theorem w_X9_usefulPower {C : gCx} (hC : gOk C "GoblinHousehold$Broom" cX9_usefulPower [] (some .int) "usefulPower" 1 1 29) {K : Int32 → gS → Prop} {X : Nat → gS → Prop} (hK : ∀ r G, K r G → cxK C (some (vI r)) G) (hX : ∀ q G, X q G → cxX C q G) {G : gS} {t0 : Nat} (h : wp_X9_usefulPower (cxA C) G t0 X K) : gGo C G 0 [(0, vQ (some t0))] [] := by
  unfold wp_X9_usefulPower at h
  refine g_aload_n hC (pc := 0) 0 rfl rfl dX9_usefulPower_0 ?_
  refine g_getQ hC (pc := 1) in_X9 (ci := 8) rfl 1 (by decide) q1089 (Or.inl rfl) h dX9_usefulPower_1 (fun q1 h => ?_)
  refine g_aload_n hC (pc := 4) 0 rfl rfl dX9_usefulPower_4 ?_
  refine g_getI hC (pc := 5) in_X9 (ci := 8) rfl 0 (by decide) q1087 (Or.inl rfl) h dX9_usefulPower_5 (fun i2 h => ?_)
  rcases q1 with _ | c3
  · exact (gNN0 h).elim
  replace h := gNN1 h
  rcases h with h | h
  · obtain ⟨hi, h⟩ := h
    refine g_callA0 hC (pc := 8) (ci := 26) (As := [vI i2]) q1663 (plainFor_of_name (by decide +kernel)) rfl (b_X19_usefulPower h) (gle rfl) (x := ⟨"GoblinHousehold$Standing", "usefulPower", "(I)I"⟩) (owner := "GoblinHousehold$Standing") rfl hi q1658 q1660 (List.mem_of_getElem? (i := 25) rfl) ⟨by decide, by decide⟩ rfl q1661 q1662 (gle rfl) (gle rfl) rfl (gle rfl) rfl dX9_usefulPower_8 (gk_i fun r5 G4 h => ?_) (fun _ _ h hio => g_out0 hC (hX _ _ h) hio)
    exact g_iret hC (pc := 11) (hK _ _ h) dX9_usefulPower_11
  · obtain ⟨hi, h⟩ := h
    refine g_callA0 hC (pc := 8) (ci := 27) (As := [vI i2]) q1666 (plainFor_of_name (by decide +kernel)) rfl (b_X20_usefulPower h) (gle rfl) (x := ⟨"GoblinHousehold$Standing", "usefulPower", "(I)I"⟩) (owner := "GoblinHousehold$Standing") rfl hi q1658 q1660 (List.mem_of_getElem? (i := 25) rfl) ⟨by decide, by decide⟩ rfl q1664 q1665 (gle rfl) (gle rfl) rfl (gle rfl) rfl dX9_usefulPower_8 (gk_i fun r7 G6 h => ?_) (fun _ _ h hio => g_out0 hC (hX _ _ h) hio)
    exact g_iret hC (pc := 11) (hK _ _ h) dX9_usefulPower_11
theorem gc_X9_usefulPower : gCode yX9_usefulPower cX9_usefulPower 1 (some .int) 0 := ⟨q1657, q126, ⟨by decide, by decide⟩, rfl⟩
theorem m_X9_usefulPower {l : Launch} (hfl : l.stackTraces = false) {E : gE} {G : gS} {t0 : Nat} {X : Nat → gS → Prop} {K : Int32 → gS → Prop} (h : wp_X9_usefulPower (gAd E) G t0 X K) : gMet l yX9_usefulPower (ws_ yX9_usefulPower cX9_usefulPower 1 (some .int)) 1 29 [vQ (some t0)] E G (gRi K) X :=
  g_met hfl (plainFor_of_name (by decide +kernel)) rfl rfl rfl (gle rfl) (fun p e R s m args below meth c hC => w_X9_usefulPower hC (fun _ _ h => h) (fun _ _ h => h) h)
def wp_X2_sweepingPower_4 (ad : Nat → Nat) (X : Nat → gS → Prop) (K : Int32 → gS → Prop) (J4 : gS → Nat → Int32 → Int32 → Prop) (G : gS) (t0 : Nat) (x1 : Int32) (x2 : Int32) : Prop :=
  wGetQ G t0 2 1 fun q1 => wNN q1 fun c2 => (gIs G c2 3 ∧ wp_J2_size ad G c2  X (fun r4 G3 => (r4 ≤ x2 → K ((10 : Int32) + x1) G3) ∧ (¬ r4 ≤ x2 → wGetQ G3 t0 2 1 fun q5 => wNN q5 fun c6 => (gIs G3 c6 3 ∧ wp_J2_get ad G3 c6 x2 X (fun q8 G7 => wCast G7 q8 [8] (wNN q8 fun c9 => (gIs G7 c9 8 ∧ wp_X9_usefulPower ad G7 c9  X (fun r11 G10 => J4 G10 t0 (if x1 < r11 then r11 else x1) (x2 + (1 : Int32))))))))))
theorem w_X2_sweepingPower_4 {C : gCx} (hC : gOk C "GoblinHousehold$Household" cX2_sweepingPower [] (some .int) "sweepingPower" 3 3 88) {K : Int32 → gS → Prop} {X : Nat → gS → Prop} (hK : ∀ r G, K r G → cxK C (some (vI r)) G) (hX : ∀ q G, X q G → cxX C q G) (n : Nat) : ∀ (G : gS) (t0 : Nat) (x1 : Int32) (x2 : Int32), gLoop (fun _ _ _ _ => False) (wp_X2_sweepingPower_4 (cxA C) X K) n G t0 x1 x2 → gGo C G 4 [(0, vQ (some t0)), (1, vI x1), (2, vI x2)] [] := by
  induction n with
  | zero => intro G t0 x1 x2 h; exact h.elim
  | succ n ih =>
    intro G t0 x1 x2 h
    have hJ4 := ih
    replace h : wp_X2_sweepingPower_4 (cxA C) X K _ G t0 x1 x2 := h
    unfold wp_X2_sweepingPower_4 at h
    refine g_iload_n hC (pc := 4) 2 rfl rfl dX2_sweepingPower_4 ?_
    refine g_aload_n hC (pc := 5) 0 rfl rfl dX2_sweepingPower_5 ?_
    refine g_getQ hC (pc := 6) in_X2 (ci := 2) rfl 1 (by decide) q190 (Or.inl rfl) h dX2_sweepingPower_6 (fun q1 h => ?_)
    rcases q1 with _ | c2
    · exact (gNN0 h).elim
    replace h := gNN1 h
    obtain ⟨hi, h⟩ := h
    refine g_callF hC (pc := 9) (ci := 3) (As := []) gc_J2_size (m_J2_size hC.fl h) rfl hi q359 (List.mem_of_getElem? (i := 0) rfl) rfl q323 q325 (gle rfl) (gle rfl) rfl (gle rfl) rfl dX2_sweepingPower_9 (gk_i fun r4 G3 h => ?_) (fun _ _ h hio => g_out0 hC (hX _ _ h) hio)
    refine g_icmp_ge hC (pc := 14) 44 h (by decide) dX2_sweepingPower_14 (fun h => ?_) (fun h => ?_)
    · refine g_bipush hC (pc := 44) (v := (10 : Int32)) (by decide) dX2_sweepingPower_44 ?_
      refine g_iload_n hC (pc := 46) 1 rfl rfl dX2_sweepingPower_46 ?_
      refine g_iadd hC (pc := 47) dX2_sweepingPower_47 ?_
      exact g_iret hC (pc := 48) (hK _ _ h) dX2_sweepingPower_48
    · refine g_iload_n hC (pc := 17) 1 rfl rfl dX2_sweepingPower_17 ?_
      refine g_aload_n hC (pc := 18) 0 rfl rfl dX2_sweepingPower_18 ?_
      refine g_getQ hC (pc := 19) in_X2 (ci := 2) rfl 1 (by decide) q190 (Or.inl rfl) h dX2_sweepingPower_19 (fun q5 h => ?_)
      refine g_iload_n hC (pc := 22) 2 rfl rfl dX2_sweepingPower_22 ?_
      rcases q5 with _ | c6
      · exact (gNN0 h).elim
      replace h := gNN1 h
      obtain ⟨hi, h⟩ := h
      refine g_callF hC (pc := 23) (ci := 3) (As := [vI x2]) gc_J2_get (m_J2_get hC.fl h) rfl hi q361 (List.mem_of_getElem? (i := 2) rfl) rfl q364 q366 (gle rfl) (gle rfl) rfl (gle rfl) rfl dX2_sweepingPower_23 (gk_q fun q8 G7 h => ?_) (fun _ _ h hio => g_out0 hC (hX _ _ h) hio)
      refine g_cast hC (pc := 28) q786 h (List.forall_mem_cons.mpr ⟨⟨_, rfl, Or.inr ⟨rfl, by decide⟩⟩, fun _ h => nomatch h⟩) dX2_sweepingPower_28 (fun h => ?_)
      rcases q8 with _ | c9
      · exact (gNN0 h).elim
      replace h := gNN1 h
      obtain ⟨hi, h⟩ := h
      refine g_callV hC (pc := 31) (ci := 8) (As := []) gc_X9_usefulPower (m_X9_usefulPower hC.fl h) rfl hi q1654 q1655 q1656 (gle rfl) (gle rfl) rfl (gle rfl) rfl dX2_sweepingPower_31 (gk_i fun r11 G10 h => ?_) (fun _ _ h hio => g_out0 hC (hX _ _ h) hio)
      refine g_max hC (pc := 34) q806 q471 q114 q472 (gle rfl) (gle rfl) (gle rfl) dX2_sweepingPower_34 ?_
      refine g_istore_n hC (pc := 37) (lv' := [(1, vI (if x1 < r11 then r11 else x1)), (0, vQ (some t0)), (2, vI x2)]) rfl (by decide) rfl dX2_sweepingPower_37 ?_
      refine g_iinc hC (pc := 38) 2 (d := (1 : Int32)) (v := (x2 + (1 : Int32))) (lv' := [(2, vI (x2 + (1 : Int32))), (1, vI (if x1 < r11 then r11 else x1)), (0, vQ (some t0))]) rfl (by decide) rfl (by decide) rfl dX2_sweepingPower_38 ?_
      refine g_goto hC (pc := 41) 4 (by decide) dX2_sweepingPower_41 ?_
      exact g_sub [2, 1, 0] rfl (hJ4 _ _ _ _ h)
def wp_X2_sweepingPower (ad : Nat → Nat) (G : gS) (t0 : Nat) (X : Nat → gS → Prop) (K : Int32 → gS → Prop) : Prop :=
  gLoop (fun _ _ _ _ => False) (wp_X2_sweepingPower_4 ad X K) gFuel G t0 (0 : Int32) (0 : Int32)
theorem w_X2_sweepingPower {C : gCx} (hC : gOk C "GoblinHousehold$Household" cX2_sweepingPower [] (some .int) "sweepingPower" 3 3 88) {K : Int32 → gS → Prop} {X : Nat → gS → Prop} (hK : ∀ r G, K r G → cxK C (some (vI r)) G) (hX : ∀ q G, X q G → cxX C q G) {G : gS} {t0 : Nat} (h : wp_X2_sweepingPower (cxA C) G t0 X K) : gGo C G 0 [(0, vQ (some t0))] [] := by
  unfold wp_X2_sweepingPower at h
  refine g_iconst hC (pc := 0) (v := (0 : Int32)) (by decide) dX2_sweepingPower_0 ?_
  refine g_istore_n hC (pc := 1) (lv' := [(1, vI (0 : Int32)), (0, vQ (some t0))]) rfl (by decide) rfl dX2_sweepingPower_1 ?_
  refine g_iconst hC (pc := 2) (v := (0 : Int32)) (by decide) dX2_sweepingPower_2 ?_
  refine g_istore_n hC (pc := 3) (lv' := [(2, vI (0 : Int32)), (1, vI (0 : Int32)), (0, vQ (some t0))]) rfl (by decide) rfl dX2_sweepingPower_3 ?_
  exact g_sub [2, 1, 0] rfl (w_X2_sweepingPower_4 hC hK hX gFuel _ _ _ _ h)
theorem gc_X2_sweepingPower : gCode yX2_sweepingPower cX2_sweepingPower 3 (some .int) 0 := ⟨q1653, q95, ⟨by decide, by decide⟩, rfl⟩
theorem m_X2_sweepingPower {l : Launch} (hfl : l.stackTraces = false) {E : gE} {G : gS} {t0 : Nat} {X : Nat → gS → Prop} {K : Int32 → gS → Prop} (h : wp_X2_sweepingPower (gAd E) G t0 X K) : gMet l yX2_sweepingPower (ws_ yX2_sweepingPower cX2_sweepingPower 3 (some .int)) 3 88 [vQ (some t0)] E G (gRi K) X :=
  g_met hfl (plainFor_of_name (by decide +kernel)) rfl rfl rfl (gle rfl) (fun p e R s m args below meth c hC => w_X2_sweepingPower hC (fun _ _ h => h) (fun _ _ h => h) h)
def wp_X12_init (ad : Nat → Nat) (G : gS) (t0 : Nat) (o1 : Option Nat) (X : Nat → gS → Prop) (K : gS → Prop) : Prop :=
  wp_J27_init ad G t0  X (fun G1 => wPut G1 t0 12 0 (va_rf o1) fun G2 => K G2)
theorem w_X12_init {C : gCx} (hC : gOk C "GoblinHousehold$Done" cX12_init [] none "<init>" 2 2 56) {K : gS → Prop} {X : Nat → gS → Prop} (hK : ∀ G, K G → cxK C none G) (hX : ∀ q G, X q G → cxX C q G) {G : gS} {t0 : Nat} {o1 : Option Nat} (h : wp_X12_init (cxA C) G t0 o1 X K) : gGo C G 0 [(0, vQ (some t0)), (1, vQ o1)] [] := by
  unfold wp_X12_init at h
  refine g_aload_n hC (pc := 0) 0 rfl rfl dX12_init_0 ?_
  refine g_callI hC (pc := 1) (As := []) gc_J27_init (m_J27_init hC.fl h) rfl q1671 q1441 (gle rfl) (gle rfl) rfl (gle rfl) rfl dX12_init_1 (gk_v fun G1 h => ?_) (fun _ _ h hio => g_out0 hC (hX _ _ h) hio)
  refine g_aload_n hC (pc := 4) 0 rfl rfl dX12_init_4 ?_
  refine g_aload_n hC (pc := 5) 1 rfl rfl dX12_init_5 ?_
  refine g_putF hC (pc := 6) in_X12 (ci := 12) rfl 0 (by decide) tyX12_ok nmX12 q1672 (Or.inl rfl) rfl rfl rfl (gnarO _ _) (gfitO _ _) h dX12_init_6 (fun G2 h => ?_)
  exact g_vret hC (pc := 9) (hK _ h) dX12_init_9
theorem gc_X12_init : gCode yX12_init cX12_init 2 none 1 := ⟨q1670, q136, ⟨by decide, by decide⟩, rfl⟩
theorem m_X12_init {l : Launch} (hfl : l.stackTraces = false) {E : gE} {G : gS} {t0 : Nat} {o1 : Option Nat} {X : Nat → gS → Prop} {K : gS → Prop} (h : wp_X12_init (gAd E) G t0 o1 X K) : gMet l yX12_init (ws_ yX12_init cX12_init 2 none) 2 56 [vQ (some t0), vQ o1] E G (gRv K) X :=
  g_met hfl (plainFor_of_name (by decide +kernel)) rfl rfl rfl (gle rfl) (fun p e R s m args below meth c hC => w_X12_init hC (fun _ h => h) (fun _ _ h => h) h)
def wp_X7_earn (ad : Nat → Nat) (G : gS) (t0 : Nat) (x1 : Int32) (X : Nat → gS → Prop) (K : Int32 → gS → Prop) : Prop :=
  wGetI G t0 9 2 fun i1 => wGetI G t0 9 2 fun i2 => wPut G t0 9 2 (.int (i2 - (if x1 < i1 then x1 else i1))) fun G3 => wGetI G3 t0 9 1 fun i4 => wPut G3 t0 9 1 (.int (i4 + (x1 - (if x1 < i1 then x1 else i1)))) fun G5 => K (if x1 < i1 then x1 else i1) G5
theorem w_X7_earn {C : gCx} (hC : gOk C "GoblinHousehold$Debtor" cX7_earn [] (some .int) "earn" 3 1 29) {K : Int32 → gS → Prop} {X : Nat → gS → Prop} (hK : ∀ r G, K r G → cxK C (some (vI r)) G) (hX : ∀ q G, X q G → cxX C q G) {G : gS} {t0 : Nat} {x1 : Int32} (h : wp_X7_earn (cxA C) G t0 x1 X K) : gGo C G 0 [(0, vQ (some t0)), (1, vI x1)] [] := by
  unfold wp_X7_earn at h
  refine g_aload_n hC (pc := 0) 0 rfl rfl dX7_earn_0 ?_
  refine g_getI hC (pc := 1) in_X8 (ci := 9) rfl 2 (by decide) q938 (Or.inl rfl) h dX7_earn_1 (fun i1 h => ?_)
  refine g_iload_n hC (pc := 4) 1 rfl rfl dX7_earn_4 ?_
  refine g_min hC (pc := 5) q1686 q489 q114 q490 (gle rfl) (gle rfl) (gle rfl) dX7_earn_5 ?_
  refine g_istore_n hC (pc := 8) (lv' := [(2, vI (if x1 < i1 then x1 else i1)), (0, vQ (some t0)), (1, vI x1)]) rfl (by decide) rfl dX7_earn_8 ?_
  refine g_aload_n hC (pc := 9) 1 rfl rfl dX7_earn_9 ?_
  refine g_dup hC (pc := 10) rfl dX7_earn_10 ?_
  refine g_getI hC (pc := 11) in_X8 (ci := 9) rfl 2 (by decide) q938 (Or.inl rfl) h dX7_earn_11 (fun i2 h => ?_)
  refine g_iload_n hC (pc := 14) 0 rfl rfl dX7_earn_14 ?_
  refine g_isub hC (pc := 15) dX7_earn_15 ?_
  refine g_put hC (pc := 16) in_X8 (ci := 9) rfl 2 (by decide) tyX8_ok nmX8 q938 (Or.inl rfl) rfl rfl rfl h dX7_earn_16 (fun G3 h => ?_)
  refine g_aload_n hC (pc := 19) 1 rfl rfl dX7_earn_19 ?_
  refine g_dup hC (pc := 20) rfl dX7_earn_20 ?_
  refine g_getI hC (pc := 21) in_X8 (ci := 9) rfl 1 (by decide) q937 (Or.inl rfl) h dX7_earn_21 (fun i4 h => ?_)
  refine g_iload_n hC (pc := 24) 2 rfl rfl dX7_earn_24 ?_
  refine g_iload_n hC (pc := 25) 0 rfl rfl dX7_earn_25 ?_
  refine g_isub hC (pc := 26) dX7_earn_26 ?_
  refine g_iadd hC (pc := 27) dX7_earn_27 ?_
  refine g_put hC (pc := 28) in_X8 (ci := 9) rfl 1 (by decide) tyX8_ok nmX8 q937 (Or.inl rfl) rfl rfl rfl h dX7_earn_28 (fun G5 h => ?_)
  refine g_iload_n hC (pc := 31) 0 rfl rfl dX7_earn_31 ?_
  exact g_iret hC (pc := 32) (hK _ _ h) dX7_earn_32
theorem gc_X7_earn : gCode yX7_earn cX7_earn 3 (some .int) 1 := ⟨q1685, q111, ⟨by decide, by decide⟩, rfl⟩
theorem m_X7_earn {l : Launch} (hfl : l.stackTraces = false) {E : gE} {G : gS} {t0 : Nat} {x1 : Int32} {X : Nat → gS → Prop} {K : Int32 → gS → Prop} (h : wp_X7_earn (gAd E) G t0 x1 X K) : gMet l yX7_earn (ws_ yX7_earn cX7_earn 3 (some .int)) 1 29 [vQ (some t0), vI x1] E G (gRi K) X :=
  g_met hfl (plainFor_of_name (by decide +kernel)) rfl rfl rfl (gle rfl) (fun p e R s m args below meth c hC => w_X7_earn hC (fun _ _ h => h) (fun _ _ h => h) h)
def wp_X2_pay (ad : Nat → Nat) (G : gS) (t0 : Nat) (o1 : Option Nat) (X : Nat → gS → Prop) (K : gS → Prop) : Prop :=
  wGetI G t0 2 5 fun i1 => wNN o1 fun c2 => wGetI G c2 10 3 fun i3 => wGetI G t0 2 11 fun i4 => wGetI G c2 10 3 fun i5 => wPut G t0 2 11 (.int (i4 + (i5 - (if i3 < i1 then i3 else i1)))) fun G6 => wGetI G6 t0 2 5 fun i7 => wPut G6 t0 2 5 (.int (i7 - (if i3 < i1 then i3 else i1))) fun G8 => wGetI G8 t0 2 5 fun i9 => wGetQ G8 t0 2 2 fun q10 => wGetI G8 c2 10 1 fun i11 => wNN q10 fun c12 => (gIs G8 c12 3 ∧ wp_J2_get ad G8 c12 i11 X (fun q14 G13 => wCast G13 q14 [9] (wNN q14 fun c15 => (gIs G13 c15 9 ∧ wp_X7_earn ad G13 c15 (if i3 < i1 then i3 else i1) X (fun r17 G16 => wPut G16 t0 2 5 (.int (i9 + r17)) fun G18 => K G18)))))
theorem w_X2_pay {C : gCx} (hC : gOk C "GoblinHousehold$Household" cX2_pay [] none "pay" 3 3 88) {K : gS → Prop} {X : Nat → gS → Prop} (hK : ∀ G, K G → cxK C none G) (hX : ∀ q G, X q G → cxX C q G) {G : gS} {t0 : Nat} {o1 : Option Nat} (h : wp_X2_pay (cxA C) G t0 o1 X K) : gGo C G 0 [(0, vQ (some t0)), (1, vQ o1)] [] := by
  unfold wp_X2_pay at h
  refine g_aload_n hC (pc := 0) 0 rfl rfl dX2_pay_0 ?_
  refine g_getI hC (pc := 1) in_X2 (ci := 2) rfl 5 (by decide) q197 (Or.inl rfl) h dX2_pay_1 (fun i1 h => ?_)
  refine g_aload_n hC (pc := 4) 1 rfl rfl dX2_pay_4 ?_
  rcases o1 with _ | c2
  · exact (gNN0 h).elim
  replace h := gNN1 h
  refine g_getIN hC (pc := 5) in_X10 (ci := 10) rfl 3 (by decide) (List.mem_of_getElem? (i := 25) rfl) (Or.inl rfl) h dX2_pay_5 (fun i3 h => ?_)
  refine g_min hC (pc := 8) q1434 q489 q114 q490 (gle rfl) (gle rfl) (gle rfl) dX2_pay_8 ?_
  refine g_istore_n hC (pc := 11) (lv' := [(2, vI (if i3 < i1 then i3 else i1)), (0, vQ (some t0)), (1, vQ (some c2))]) rfl (by decide) rfl dX2_pay_11 ?_
  refine g_aload_n hC (pc := 12) 1 rfl rfl dX2_pay_12 ?_
  refine g_dup hC (pc := 13) rfl dX2_pay_13 ?_
  refine g_getI hC (pc := 14) in_X2 (ci := 2) rfl 11 (by decide) q207 (Or.inl rfl) h dX2_pay_14 (fun i4 h => ?_)
  refine g_aload_n hC (pc := 17) 2 rfl rfl dX2_pay_17 ?_
  refine g_getIN hC (pc := 18) in_X10 (ci := 10) rfl 3 (by decide) (List.mem_of_getElem? (i := 25) rfl) (Or.inl rfl) h dX2_pay_18 (fun i5 h => ?_)
  refine g_iload_n hC (pc := 21) 0 rfl rfl dX2_pay_21 ?_
  refine g_isub hC (pc := 22) dX2_pay_22 ?_
  refine g_iadd hC (pc := 23) dX2_pay_23 ?_
  refine g_put hC (pc := 24) in_X2 (ci := 2) rfl 11 (by decide) tyX2_ok nmX2 q207 (Or.inl rfl) rfl rfl rfl h dX2_pay_24 (fun G6 h => ?_)
  refine g_aload_n hC (pc := 27) 1 rfl rfl dX2_pay_27 ?_
  refine g_dup hC (pc := 28) rfl dX2_pay_28 ?_
  refine g_getI hC (pc := 29) in_X2 (ci := 2) rfl 5 (by decide) q197 (Or.inl rfl) h dX2_pay_29 (fun i7 h => ?_)
  refine g_iload_n hC (pc := 32) 0 rfl rfl dX2_pay_32 ?_
  refine g_isub hC (pc := 33) dX2_pay_33 ?_
  refine g_put hC (pc := 34) in_X2 (ci := 2) rfl 5 (by decide) tyX2_ok nmX2 q197 (Or.inl rfl) rfl rfl rfl h dX2_pay_34 (fun G8 h => ?_)
  refine g_aload_n hC (pc := 37) 1 rfl rfl dX2_pay_37 ?_
  refine g_dup hC (pc := 38) rfl dX2_pay_38 ?_
  refine g_getI hC (pc := 39) in_X2 (ci := 2) rfl 5 (by decide) q197 (Or.inl rfl) h dX2_pay_39 (fun i9 h => ?_)
  refine g_aload_n hC (pc := 42) 1 rfl rfl dX2_pay_42 ?_
  refine g_getQ hC (pc := 43) in_X2 (ci := 2) rfl 2 (by decide) q192 (Or.inl rfl) h dX2_pay_43 (fun q10 h => ?_)
  refine g_aload_n hC (pc := 46) 2 rfl rfl dX2_pay_46 ?_
  refine g_getIN hC (pc := 47) in_X10 (ci := 10) rfl 1 (by decide) (List.mem_of_getElem? (i := 20) rfl) (Or.inl rfl) h dX2_pay_47 (fun i11 h => ?_)
  rcases q10 with _ | c12
  · exact (gNN0 h).elim
  replace h := gNN1 h
  obtain ⟨hi, h⟩ := h
  refine g_callF hC (pc := 50) (ci := 3) (As := [vI i11]) gc_J2_get (m_J2_get hC.fl h) rfl hi q361 (List.mem_of_getElem? (i := 2) rfl) rfl q364 q366 (gle rfl) (gle rfl) rfl (gle rfl) rfl dX2_pay_50 (gk_q fun q14 G13 h => ?_) (fun _ _ h hio => g_out0 hC (hX _ _ h) hio)
  refine g_cast hC (pc := 55) q706 h (List.forall_mem_cons.mpr ⟨⟨_, rfl, Or.inr ⟨rfl, by decide⟩⟩, fun _ h => nomatch h⟩) dX2_pay_55 (fun h => ?_)
  refine g_iload_n hC (pc := 58) 0 rfl rfl dX2_pay_58 ?_
  rcases q14 with _ | c15
  · exact (gNN0 h).elim
  replace h := gNN1 h
  obtain ⟨hi, h⟩ := h
  refine g_callU hC (pc := 59) (ci := 9) (As := [vI (if i3 < i1 then i3 else i1)]) gc_X7_earn (m_X7_earn hC.fl h) (x := ⟨"GoblinHousehold$Goblin", "earn", "(I)I"⟩) (owner := "GoblinHousehold$Debtor") rfl hi q1680 q1681 q1684 q1685 ⟨by decide, by decide⟩ rfl q1683 q1684 (gle rfl) (gle rfl) rfl (gle rfl) rfl dX2_pay_59 (gk_i fun r17 G16 h => ?_) (fun _ _ h hio => g_out0 hC (hX _ _ h) hio)
  refine g_iadd hC (pc := 62) dX2_pay_62 ?_
  refine g_put hC (pc := 63) in_X2 (ci := 2) rfl 5 (by decide) tyX2_ok nmX2 q197 (Or.inl rfl) rfl rfl rfl h dX2_pay_63 (fun G18 h => ?_)
  exact g_vret hC (pc := 66) (hK _ h) dX2_pay_66
theorem gc_X2_pay : gCode yX2_pay cX2_pay 3 none 1 := ⟨q1679, q95, ⟨by decide, by decide⟩, rfl⟩
theorem m_X2_pay {l : Launch} (hfl : l.stackTraces = false) {E : gE} {G : gS} {t0 : Nat} {o1 : Option Nat} {X : Nat → gS → Prop} {K : gS → Prop} (h : wp_X2_pay (gAd E) G t0 o1 X K) : gMet l yX2_pay (ws_ yX2_pay cX2_pay 3 none) 3 88 [vQ (some t0), vQ o1] E G (gRv K) X :=
  g_met hfl (plainFor_of_name (by decide +kernel)) rfl rfl rfl (gle rfl) (fun p e R s m args below meth c hC => w_X2_pay hC (fun _ h => h) (fun _ _ h => h) h)
def wp_X2_work_15 (ad : Nat → Nat) (X : Nat → gS → Prop) (K : gS → Prop) (J15 : gS → Nat → Nat → Int32 → Option Nat → Prop) (G : gS) (t0 : Nat) (t1 : Nat) (x2 : Int32) (o3 : Option Nat) : Prop :=
  (o3 = none → K G) ∧ (∀ c1, o3 = some c1 → wGetI G c1 10 4 fun i2 => (x2 < i2 → K G) ∧ (¬ x2 < i2 → wGetI G c1 10 4 fun i3 => wGetQ G t0 2 0 fun q4 => wGetI G c1 10 2 fun i5 => wGetQ G t0 2 0 fun q6 => wGetI G c1 10 2 fun i7 => wNN q6 fun c8 => wAldI G c8 i7 fun i9 => (gIs G t0 2 ∧ wp_X2_sweepingPower ad G t0  X (fun r11 G10 => wNN q4 fun c12 => wAstI G10 c12 i5 (if (0 : Int32) < (i9 - r11) then (i9 - r11) else (0 : Int32)) fun G13 => wNew G13 12 1 [.null] fun c15 G14 => wp_X12_init ad G14 c15 (some c1) X (fun G16 => (gIs G16 t0 2 ∧ wp_X2_end ad G16 t0 (some c15) X (fun G17 => (gIs G17 t0 2 ∧ wp_X2_pay ad G17 t0 (some c1) X (fun G18 => (gIs G18 t1 9 ∧ wp_X6_index ad G18 t1  X (fun r20 G19 => (gIs G19 t0 2 ∧ wp_X2_firstOf ad G19 t0 r20 X (fun q22 G21 => J15 G21 t0 t1 (x2 - i3) q22)))))))))))))
theorem w_X2_work_15 {C : gCx} (hC : gOk C "GoblinHousehold$Household" cX2_work [] none "work" 4 5 156) {K : gS → Prop} {X : Nat → gS → Prop} (hK : ∀ G, K G → cxK C none G) (hX : ∀ q G, X q G → cxX C q G) (n : Nat) : ∀ (G : gS) (t0 : Nat) (t1 : Nat) (x2 : Int32) (o3 : Option Nat), gLoop (fun _ _ _ _ _ => False) (wp_X2_work_15 (cxA C) X K) n G t0 t1 x2 o3 → gGo C G 15 [(0, vQ (some t0)), (1, vQ (some t1)), (2, vI x2), (3, vQ o3)] [] := by
  induction n with
  | zero => intro G t0 t1 x2 o3 h; exact h.elim
  | succ n ih =>
    intro G t0 t1 x2 o3 h
    have hJ15 := ih
    replace h : wp_X2_work_15 (cxA C) X K _ G t0 t1 x2 o3 := h
    unfold wp_X2_work_15 at h
    refine g_aload_n hC (pc := 15) 3 rfl rfl dX2_work_15 ?_
    have hn := h; clear h
    refine g_ifnull hC (pc := 16) 90 (P := _) (Q := ¬ o3 = none) ⟨hn.1, id⟩ (by decide) dX2_work_16 (fun h => ?_) (fun e0 => ?_)
    · exact g_vret hC (pc := 90) (hK _ h) dX2_work_90
    · rcases o3 with _ | c1
      · exact absurd rfl e0
      have h := hn.2 _ rfl
      refine g_aload_n hC (pc := 19) 3 rfl rfl dX2_work_19 ?_
      refine g_getIN hC (pc := 20) in_X10 (ci := 10) rfl 4 (by decide) (List.mem_of_getElem? (i := 28) rfl) (Or.inl rfl) h dX2_work_20 (fun i2 h => ?_)
      refine g_iload_n hC (pc := 23) 2 rfl rfl dX2_work_23 ?_
      refine g_icmp_gt hC (pc := 24) 90 h (by decide) dX2_work_24 (fun h => ?_) (fun h => ?_)
      · exact g_vret hC (pc := 90) (hK _ h) dX2_work_90
      · refine g_iload_n hC (pc := 27) 2 rfl rfl dX2_work_27 ?_
        refine g_aload_n hC (pc := 28) 3 rfl rfl dX2_work_28 ?_
        refine g_getIN hC (pc := 29) in_X10 (ci := 10) rfl 4 (by decide) (List.mem_of_getElem? (i := 28) rfl) (Or.inl rfl) h dX2_work_29 (fun i3 h => ?_)
        refine g_isub hC (pc := 32) dX2_work_32 ?_
        refine g_istore_n hC (pc := 33) (lv' := [(2, vI (x2 - i3)), (0, vQ (some t0)), (1, vQ (some t1)), (3, vQ (some c1))]) rfl (by decide) rfl dX2_work_33 ?_
        refine g_aload_n hC (pc := 34) 1 rfl rfl dX2_work_34 ?_
        refine g_getQ hC (pc := 35) in_X2 (ci := 2) rfl 0 (by decide) q188 (Or.inl rfl) h dX2_work_35 (fun q4 h => ?_)
        refine g_aload_n hC (pc := 38) 3 rfl rfl dX2_work_38 ?_
        refine g_getIN hC (pc := 39) in_X10 (ci := 10) rfl 2 (by decide) (List.mem_of_getElem? (i := 22) rfl) (Or.inl rfl) h dX2_work_39 (fun i5 h => ?_)
        refine g_iconst hC (pc := 42) (v := (0 : Int32)) (by decide) dX2_work_42 ?_
        refine g_aload_n hC (pc := 43) 1 rfl rfl dX2_work_43 ?_
        refine g_getQ hC (pc := 44) in_X2 (ci := 2) rfl 0 (by decide) q188 (Or.inl rfl) h dX2_work_44 (fun q6 h => ?_)
        refine g_aload_n hC (pc := 47) 3 rfl rfl dX2_work_47 ?_
        refine g_getIN hC (pc := 48) in_X10 (ci := 10) rfl 2 (by decide) (List.mem_of_getElem? (i := 22) rfl) (Or.inl rfl) h dX2_work_48 (fun i7 h => ?_)
        rcases q6 with _ | c8
        · exact (gNN0 h).elim
        replace h := gNN1 h
        refine g_aldI hC (pc := 51) h dX2_work_51 (fun i9 h => ?_)
        refine g_aload_n hC (pc := 52) 1 rfl rfl dX2_work_52 ?_
        obtain ⟨hi, h⟩ := h
        refine g_callV hC (pc := 53) (ci := 2) (As := []) gc_X2_sweepingPower (m_X2_sweepingPower hC.fl h) rfl hi q1650 q1652 qs22 (gle rfl) (gle rfl) rfl (gle rfl) rfl dX2_work_53 (gk_i fun r11 G10 h => ?_) (fun _ _ h hio => g_out0 hC (hX _ _ h) hio)
        refine g_isub hC (pc := 56) dX2_work_56 ?_
        refine g_max hC (pc := 57) q806 q471 q114 q472 (gle rfl) (gle rfl) (gle rfl) dX2_work_57 ?_
        rcases q4 with _ | c12
        · exact (gNN0 h).elim
        replace h := gNN1 h
        refine g_astI hC (pc := 60) h dX2_work_60 (fun G13 h => ?_)
        refine g_aload_n hC (pc := 61) 1 rfl rfl dX2_work_61 ?_
        refine g_new hC (pc := 62) in_X12 (ci := 12) rfl (by decide) tyX12_ok q1541 q1667 q136 gdf_X12 h dX2_work_62 (fun c15 G14 h => ?_)
        refine g_dup hC (pc := 65) rfl dX2_work_65 ?_
        refine g_aload_n hC (pc := 66) 3 rfl rfl dX2_work_66 ?_
        refine g_callIN hC (pc := 67) (As := [vQ (some c1)]) gc_X12_init (m_X12_init hC.fl h) rfl (List.mem_of_getElem? (i := 6) rfl) q1669 (gle rfl) (gle rfl) rfl (gle rfl) rfl dX2_work_67 (gk_v fun G16 h => ?_) (fun _ _ h hio => g_out0 hC (hX _ _ h) hio)
        obtain ⟨hi, h⟩ := h
        refine g_callV hC (pc := 70) (ci := 2) (As := [vQ (some c15)]) gc_X2_end (m_X2_end hC.fl h) rfl hi q1448 q1450 qs16 (gle rfl) (gle rfl) rfl (gle rfl) rfl dX2_work_70 (gk_v fun G17 h => ?_) (fun _ _ h hio => g_out0 hC (hX _ _ h) hio)
        refine g_aload_n hC (pc := 73) 1 rfl rfl dX2_work_73 ?_
        refine g_aload_n hC (pc := 74) 3 rfl rfl dX2_work_74 ?_
        obtain ⟨hi, h⟩ := h
        refine g_callV hC (pc := 75) (ci := 2) (As := [vQ (some c1)]) gc_X2_pay (m_X2_pay hC.fl h) rfl hi q1676 q1678 qs23 (gle rfl) (gle rfl) rfl (gle rfl) rfl dX2_work_75 (gk_v fun G18 h => ?_) (fun _ _ h hio => g_out0 hC (hX _ _ h) hio)
        refine g_aload_n hC (pc := 78) 1 rfl rfl dX2_work_78 ?_
        refine g_aload_n hC (pc := 79) 2 rfl rfl dX2_work_79 ?_
        obtain ⟨hi, h⟩ := h
        refine g_callU hC (pc := 80) (ci := 9) (As := []) gc_X6_index (m_X6_index hC.fl h) (x := ⟨"GoblinHousehold$Goblin", "index", "()I"⟩) (owner := "GoblinHousehold$Being") rfl hi q1645 q1108 q1111 q1112 ⟨by decide, by decide⟩ rfl q1110 q1111 (gle rfl) (gle rfl) rfl (gle rfl) rfl dX2_work_80 (gk_i fun r20 G19 h => ?_) (fun _ _ h hio => g_out0 hC (hX _ _ h) hio)
        obtain ⟨hi, h⟩ := h
        refine g_callV hC (pc := 83) (ci := 2) (As := [vI r20]) gc_X2_firstOf (m_X2_firstOf hC.fl h) rfl hi q1646 q1648 qs21 (gle rfl) (gle rfl) rfl (gle rfl) rfl dX2_work_83 (gk_q fun q22 G21 h => ?_) (fun _ _ h hio => g_out0 hC (hX _ _ h) hio)
        refine g_astore_n hC (pc := 86) (lv' := [(3, vQ q22), (2, vI (x2 - i3)), (0, vQ (some t0)), (1, vQ (some t1))]) rfl (by decide) rfl dX2_work_86 ?_
        refine g_goto hC (pc := 87) 15 (by decide) dX2_work_87 ?_
        exact g_sub [2, 3, 1, 0] rfl (hJ15 _ _ _ _ _ h)
def wp_X2_work (ad : Nat → Nat) (G : gS) (t0 : Nat) (o1 : Option Nat) (X : Nat → gS → Prop) (K : gS → Prop) : Prop :=
  (gIs G t0 2 ∧ wp_X2_energy ad G t0 o1 X (fun r2 G1 => wNN o1 fun c3 => (gIs G1 c3 9 ∧ wp_X6_index ad G1 c3  X (fun r5 G4 => (gIs G4 t0 2 ∧ wp_X2_firstOf ad G4 t0 r5 X (fun q7 G6 => gLoop (fun _ _ _ _ _ => False) (wp_X2_work_15 ad X K) gFuel G6 t0 c3 r2 q7))))))
theorem w_X2_work {C : gCx} (hC : gOk C "GoblinHousehold$Household" cX2_work [] none "work" 4 5 156) {K : gS → Prop} {X : Nat → gS → Prop} (hK : ∀ G, K G → cxK C none G) (hX : ∀ q G, X q G → cxX C q G) {G : gS} {t0 : Nat} {o1 : Option Nat} (h : wp_X2_work (cxA C) G t0 o1 X K) : gGo C G 0 [(0, vQ (some t0)), (1, vQ o1)] [] := by
  unfold wp_X2_work at h
  refine g_aload_n hC (pc := 0) 0 rfl rfl dX2_work_0 ?_
  refine g_aload_n hC (pc := 1) 1 rfl rfl dX2_work_1 ?_
  obtain ⟨hi, h⟩ := h
  refine g_callV hC (pc := 2) (ci := 2) (As := [vQ o1]) gc_X2_energy (m_X2_energy hC.fl h) rfl hi q778 q779 q780 (gle rfl) (gle rfl) rfl (gle rfl) rfl dX2_work_2 (gk_i fun r2 G1 h => ?_) (fun _ _ h hio => g_out0 hC (hX _ _ h) hio)
  refine g_istore_n hC (pc := 5) (lv' := [(2, vI r2), (0, vQ (some t0)), (1, vQ o1)]) rfl (by decide) rfl dX2_work_5 ?_
  refine g_aload_n hC (pc := 6) 1 rfl rfl dX2_work_6 ?_
  refine g_aload_n hC (pc := 7) 2 rfl rfl dX2_work_7 ?_
  rcases o1 with _ | c3
  · exact (gNN0 h).elim
  replace h := gNN1 h
  obtain ⟨hi, h⟩ := h
  refine g_callU hC (pc := 8) (ci := 9) (As := []) gc_X6_index (m_X6_index hC.fl h) (x := ⟨"GoblinHousehold$Goblin", "index", "()I"⟩) (owner := "GoblinHousehold$Being") rfl hi q1645 q1108 q1111 q1112 ⟨by decide, by decide⟩ rfl q1110 q1111 (gle rfl) (gle rfl) rfl (gle rfl) rfl dX2_work_8 (gk_i fun r5 G4 h => ?_) (fun _ _ h hio => g_out0 hC (hX _ _ h) hio)
  obtain ⟨hi, h⟩ := h
  refine g_callV hC (pc := 11) (ci := 2) (As := [vI r5]) gc_X2_firstOf (m_X2_firstOf hC.fl h) rfl hi q1646 q1648 qs21 (gle rfl) (gle rfl) rfl (gle rfl) rfl dX2_work_11 (gk_q fun q7 G6 h => ?_) (fun _ _ h hio => g_out0 hC (hX _ _ h) hio)
  refine g_astore_n hC (pc := 14) (lv' := [(3, vQ q7), (2, vI r2), (0, vQ (some t0)), (1, vQ (some c3))]) rfl (by decide) rfl dX2_work_14 ?_
  exact g_sub [2, 3, 1, 0] rfl (w_X2_work_15 hC hK hX gFuel _ _ _ _ _ h)
theorem gc_X2_work : gCode yX2_work cX2_work 4 none 1 := ⟨q1644, q95, ⟨by decide, by decide⟩, rfl⟩
theorem m_X2_work {l : Launch} (hfl : l.stackTraces = false) {E : gE} {G : gS} {t0 : Nat} {o1 : Option Nat} {X : Nat → gS → Prop} {K : gS → Prop} (h : wp_X2_work (gAd E) G t0 o1 X K) : gMet l yX2_work (ws_ yX2_work cX2_work 4 none) 5 156 [vQ (some t0), vQ o1] E G (gRv K) X :=
  g_met hfl (plainFor_of_name (by decide +kernel)) rfl rfl rfl (gle rfl) (fun p e R s m args below meth c hC => w_X2_work hC (fun _ h => h) (fun _ _ h => h) h)
def wp_X13_init (ad : Nat → Nat) (G : gS) (t0 : Nat) (o1 : Option Nat) (X : Nat → gS → Prop) (K : gS → Prop) : Prop :=
  wp_J27_init ad G t0  X (fun G1 => wPut G1 t0 14 0 (va_rf o1) fun G2 => K G2)
theorem w_X13_init {C : gCx} (hC : gOk C "GoblinHousehold$Broken" cX13_init [] none "<init>" 2 2 56) {K : gS → Prop} {X : Nat → gS → Prop} (hK : ∀ G, K G → cxK C none G) (hX : ∀ q G, X q G → cxX C q G) {G : gS} {t0 : Nat} {o1 : Option Nat} (h : wp_X13_init (cxA C) G t0 o1 X K) : gGo C G 0 [(0, vQ (some t0)), (1, vQ o1)] [] := by
  unfold wp_X13_init at h
  refine g_aload_n hC (pc := 0) 0 rfl rfl dX13_init_0 ?_
  refine g_callI hC (pc := 1) (As := []) gc_J27_init (m_J27_init hC.fl h) rfl q1695 q1441 (gle rfl) (gle rfl) rfl (gle rfl) rfl dX13_init_1 (gk_v fun G1 h => ?_) (fun _ _ h hio => g_out0 hC (hX _ _ h) hio)
  refine g_aload_n hC (pc := 4) 0 rfl rfl dX13_init_4 ?_
  refine g_aload_n hC (pc := 5) 1 rfl rfl dX13_init_5 ?_
  refine g_putF hC (pc := 6) in_X13 (ci := 14) rfl 0 (by decide) tyX13_ok nmX13 q1696 (Or.inl rfl) rfl rfl rfl (gnarO _ _) (gfitO _ _) h dX13_init_6 (fun G2 h => ?_)
  exact g_vret hC (pc := 9) (hK _ h) dX13_init_9
theorem gc_X13_init : gCode yX13_init cX13_init 2 none 1 := ⟨q1694, q137, ⟨by decide, by decide⟩, rfl⟩
theorem m_X13_init {l : Launch} (hfl : l.stackTraces = false) {E : gE} {G : gS} {t0 : Nat} {o1 : Option Nat} {X : Nat → gS → Prop} {K : gS → Prop} (h : wp_X13_init (gAd E) G t0 o1 X K) : gMet l yX13_init (ws_ yX13_init cX13_init 2 none) 2 56 [vQ (some t0), vQ o1] E G (gRv K) X :=
  g_met hfl (plainFor_of_name (by decide +kernel)) rfl rfl rfl (gle rfl) (fun p e R s m args below meth c hC => w_X13_init hC (fun _ h => h) (fun _ _ h => h) h)
def wp_X2_breakContracts_9 (ad : Nat → Nat) (X : Nat → gS → Prop) (K : gS → Prop) (J9 : gS → Nat → Nat → Option Nat → Prop) (G : gS) (t0 : Nat) (t1 : Nat) (o2 : Option Nat) : Prop :=
  wGetI G t1 9 5 fun i1 => (i1 < (3 : Int32) → K G) ∧ (¬ i1 < (3 : Int32) → (o2 = none → K G) ∧ (∀ c2, o2 = some c2 → wNew G 14 1 [.null] fun c4 G3 => wp_X13_init ad G3 c4 (some c2) X (fun G5 => (gIs G5 t0 2 ∧ wp_X2_end ad G5 t0 (some c4) X (fun G6 => (gIs G6 t1 9 ∧ wp_X6_index ad G6 t1  X (fun r8 G7 => (gIs G7 t0 2 ∧ wp_X2_firstOf ad G7 t0 r8 X (fun q10 G9 => J9 G9 t0 t1 q10)))))))))
theorem w_X2_breakContracts_9 {C : gCx} (hC : gOk C "GoblinHousehold$Household" cX2_breakContracts [] none "breakContracts" 3 4 156) {K : gS → Prop} {X : Nat → gS → Prop} (hK : ∀ G, K G → cxK C none G) (hX : ∀ q G, X q G → cxX C q G) (n : Nat) : ∀ (G : gS) (t0 : Nat) (t1 : Nat) (o2 : Option Nat), gLoop (fun _ _ _ _ => False) (wp_X2_breakContracts_9 (cxA C) X K) n G t0 t1 o2 → gGo C G 9 [(0, vQ (some t0)), (1, vQ (some t1)), (2, vQ o2)] [] := by
  induction n with
  | zero => intro G t0 t1 o2 h; exact h.elim
  | succ n ih =>
    intro G t0 t1 o2 h
    have hJ9 := ih
    replace h : wp_X2_breakContracts_9 (cxA C) X K _ G t0 t1 o2 := h
    unfold wp_X2_breakContracts_9 at h
    refine g_aload_n hC (pc := 9) 1 rfl rfl dX2_breakContracts_9 ?_
    refine g_getIN hC (pc := 10) in_X8 (ci := 9) rfl 5 (by decide) (List.mem_of_getElem? (i := 14) rfl) (Or.inl rfl) h dX2_breakContracts_10 (fun i1 h => ?_)
    refine g_iconst hC (pc := 13) (v := (3 : Int32)) (by decide) dX2_breakContracts_13 ?_
    refine g_icmp_lt hC (pc := 14) 45 h (by decide) dX2_breakContracts_14 (fun h => ?_) (fun h => ?_)
    · exact g_vret hC (pc := 45) (hK _ h) dX2_breakContracts_45
    · refine g_aload_n hC (pc := 17) 2 rfl rfl dX2_breakContracts_17 ?_
      have hn := h; clear h
      refine g_ifnull hC (pc := 18) 45 (P := _) (Q := ¬ o2 = none) ⟨hn.1, id⟩ (by decide) dX2_breakContracts_18 (fun h => ?_) (fun e0 => ?_)
      · exact g_vret hC (pc := 45) (hK _ h) dX2_breakContracts_45
      · rcases o2 with _ | c2
        · exact absurd rfl e0
        have h := hn.2 _ rfl
        refine g_aload_n hC (pc := 21) 0 rfl rfl dX2_breakContracts_21 ?_
        refine g_new hC (pc := 22) in_X13 (ci := 14) rfl (by decide) tyX13_ok q1542 q1691 q137 gdf_X13 h dX2_breakContracts_22 (fun c4 G3 h => ?_)
        refine g_dup hC (pc := 25) rfl dX2_breakContracts_25 ?_
        refine g_aload_n hC (pc := 26) 2 rfl rfl dX2_breakContracts_26 ?_
        refine g_callIN hC (pc := 27) (As := [vQ (some c2)]) gc_X13_init (m_X13_init hC.fl h) rfl (List.mem_of_getElem? (i := 7) rfl) q1693 (gle rfl) (gle rfl) rfl (gle rfl) rfl dX2_breakContracts_27 (gk_v fun G5 h => ?_) (fun _ _ h hio => g_out0 hC (hX _ _ h) hio)
        obtain ⟨hi, h⟩ := h
        refine g_callV hC (pc := 30) (ci := 2) (As := [vQ (some c4)]) gc_X2_end (m_X2_end hC.fl h) rfl hi q1448 q1450 qs16 (gle rfl) (gle rfl) rfl (gle rfl) rfl dX2_breakContracts_30 (gk_v fun G6 h => ?_) (fun _ _ h hio => g_out0 hC (hX _ _ h) hio)
        refine g_aload_n hC (pc := 33) 0 rfl rfl dX2_breakContracts_33 ?_
        refine g_aload_n hC (pc := 34) 1 rfl rfl dX2_breakContracts_34 ?_
        obtain ⟨hi, h⟩ := h
        refine g_callU hC (pc := 35) (ci := 9) (As := []) gc_X6_index (m_X6_index hC.fl h) (x := ⟨"GoblinHousehold$Goblin", "index", "()I"⟩) (owner := "GoblinHousehold$Being") rfl hi q1645 q1108 q1111 q1112 ⟨by decide, by decide⟩ rfl q1110 q1111 (gle rfl) (gle rfl) rfl (gle rfl) rfl dX2_breakContracts_35 (gk_i fun r8 G7 h => ?_) (fun _ _ h hio => g_out0 hC (hX _ _ h) hio)
        obtain ⟨hi, h⟩ := h
        refine g_callV hC (pc := 38) (ci := 2) (As := [vI r8]) gc_X2_firstOf (m_X2_firstOf hC.fl h) rfl hi q1646 q1648 qs21 (gle rfl) (gle rfl) rfl (gle rfl) rfl dX2_breakContracts_38 (gk_q fun q10 G9 h => ?_) (fun _ _ h hio => g_out0 hC (hX _ _ h) hio)
        refine g_astore_n hC (pc := 41) (lv' := [(2, vQ q10), (0, vQ (some t0)), (1, vQ (some t1))]) rfl (by decide) rfl dX2_breakContracts_41 ?_
        refine g_goto hC (pc := 42) 9 (by decide) dX2_breakContracts_42 ?_
        exact g_sub [1, 2, 0] rfl (hJ9 _ _ _ _ h)
def wp_X2_breakContracts (ad : Nat → Nat) (G : gS) (t0 : Nat) (o1 : Option Nat) (X : Nat → gS → Prop) (K : gS → Prop) : Prop :=
  wNN o1 fun c1 => (gIs G c1 9 ∧ wp_X6_index ad G c1  X (fun r3 G2 => (gIs G2 t0 2 ∧ wp_X2_firstOf ad G2 t0 r3 X (fun q5 G4 => gLoop (fun _ _ _ _ => False) (wp_X2_breakContracts_9 ad X K) gFuel G4 t0 c1 q5))))
theorem w_X2_breakContracts {C : gCx} (hC : gOk C "GoblinHousehold$Household" cX2_breakContracts [] none "breakContracts" 3 4 156) {K : gS → Prop} {X : Nat → gS → Prop} (hK : ∀ G, K G → cxK C none G) (hX : ∀ q G, X q G → cxX C q G) {G : gS} {t0 : Nat} {o1 : Option Nat} (h : wp_X2_breakContracts (cxA C) G t0 o1 X K) : gGo C G 0 [(0, vQ (some t0)), (1, vQ o1)] [] := by
  unfold wp_X2_breakContracts at h
  refine g_aload_n hC (pc := 0) 0 rfl rfl dX2_breakContracts_0 ?_
  refine g_aload_n hC (pc := 1) 1 rfl rfl dX2_breakContracts_1 ?_
  rcases o1 with _ | c1
  · exact (gNN0 h).elim
  replace h := gNN1 h
  obtain ⟨hi, h⟩ := h
  refine g_callU hC (pc := 2) (ci := 9) (As := []) gc_X6_index (m_X6_index hC.fl h) (x := ⟨"GoblinHousehold$Goblin", "index", "()I"⟩) (owner := "GoblinHousehold$Being") rfl hi q1645 q1108 q1111 q1112 ⟨by decide, by decide⟩ rfl q1110 q1111 (gle rfl) (gle rfl) rfl (gle rfl) rfl dX2_breakContracts_2 (gk_i fun r3 G2 h => ?_) (fun _ _ h hio => g_out0 hC (hX _ _ h) hio)
  obtain ⟨hi, h⟩ := h
  refine g_callV hC (pc := 5) (ci := 2) (As := [vI r3]) gc_X2_firstOf (m_X2_firstOf hC.fl h) rfl hi q1646 q1648 qs21 (gle rfl) (gle rfl) rfl (gle rfl) rfl dX2_breakContracts_5 (gk_q fun q5 G4 h => ?_) (fun _ _ h hio => g_out0 hC (hX _ _ h) hio)
  refine g_astore_n hC (pc := 8) (lv' := [(2, vQ q5), (0, vQ (some t0)), (1, vQ (some c1))]) rfl (by decide) rfl dX2_breakContracts_8 ?_
  exact g_sub [1, 2, 0] rfl (w_X2_breakContracts_9 hC hK hX gFuel _ _ _ _ h)
theorem gc_X2_breakContracts : gCode yX2_breakContracts cX2_breakContracts 3 none 1 := ⟨q1690, q95, ⟨by decide, by decide⟩, rfl⟩
theorem m_X2_breakContracts {l : Launch} (hfl : l.stackTraces = false) {E : gE} {G : gS} {t0 : Nat} {o1 : Option Nat} {X : Nat → gS → Prop} {K : gS → Prop} (h : wp_X2_breakContracts (gAd E) G t0 o1 X K) : gMet l yX2_breakContracts (ws_ yX2_breakContracts cX2_breakContracts 3 none) 4 156 [vQ (some t0), vQ o1] E G (gRv K) X :=
  g_met hfl (plainFor_of_name (by decide +kernel)) rfl rfl rfl (gle rfl) (fun p e R s m args below meth c hC => w_X2_breakContracts hC (fun _ h => h) (fun _ _ h => h) h)
def wp_X7_growDebt_31 (ad : Nat → Nat) (X : Nat → gS → Prop) (K : Int32 → gS → Prop) (G : gS) (t0 : Nat) (xs0 : Int32) : Prop :=
  wGetI G t0 9 2 fun i1 => wPut G t0 9 2 (.int xs0) fun G2 => K (xs0 - i1) G2
theorem w_X7_growDebt_31 {C : gCx} (hC : gOk C "GoblinHousehold$Debtor" cX7_growDebt [] (some .int) "growDebt" 3 1 29) {K : Int32 → gS → Prop} {X : Nat → gS → Prop} (hK : ∀ r G, K r G → cxK C (some (vI r)) G) (hX : ∀ q G, X q G → cxX C q G) {G : gS} {t0 : Nat} {xs0 : Int32} (h : wp_X7_growDebt_31 (cxA C) X K G t0 xs0) : gGo C G 31 [(0, vQ (some t0))] [vI xs0] := by
  unfold wp_X7_growDebt_31 at h
  refine g_istore_n hC (pc := 31) (lv' := [(1, vI xs0), (0, vQ (some t0))]) rfl (by decide) rfl dX7_growDebt_31 ?_
  refine g_iload_n hC (pc := 32) 0 rfl rfl dX7_growDebt_32 ?_
  refine g_aload_n hC (pc := 33) 1 rfl rfl dX7_growDebt_33 ?_
  refine g_getI hC (pc := 34) in_X8 (ci := 9) rfl 2 (by decide) q938 (Or.inl rfl) h dX7_growDebt_34 (fun i1 h => ?_)
  refine g_isub hC (pc := 37) dX7_growDebt_37 ?_
  refine g_istore_n hC (pc := 38) (lv' := [(2, vI (xs0 - i1)), (1, vI xs0), (0, vQ (some t0))]) rfl (by decide) rfl dX7_growDebt_38 ?_
  refine g_aload_n hC (pc := 39) 2 rfl rfl dX7_growDebt_39 ?_
  refine g_iload_n hC (pc := 40) 1 rfl rfl dX7_growDebt_40 ?_
  refine g_put hC (pc := 41) in_X8 (ci := 9) rfl 2 (by decide) tyX8_ok nmX8 q938 (Or.inl rfl) rfl rfl rfl h dX7_growDebt_41 (fun G2 h => ?_)
  refine g_iload_n hC (pc := 44) 0 rfl rfl dX7_growDebt_44 ?_
  exact g_iret hC (pc := 45) (hK _ _ h) dX7_growDebt_45
def wp_X7_growDebt (ad : Nat → Nat) (G : gS) (t0 : Nat) (X : Nat → gS → Prop) (K : Int32 → gS → Prop) : Prop :=
  wGetI G t0 9 2 fun i1 => (¬ i1 = (0 : Int32) → wGetI G t0 9 2 fun i2 => wGetI G t0 9 2 fun i3 => wp_X7_growDebt_31 ad X K G t0 (if ((i2 + (i3 / (10 : Int32))) + (1 : Int32)) < (999 : Int32) then ((i2 + (i3 / (10 : Int32))) + (1 : Int32)) else (999 : Int32))) ∧ (i1 = (0 : Int32) → wp_X7_growDebt_31 ad X K G t0 (0 : Int32))
theorem w_X7_growDebt {C : gCx} (hC : gOk C "GoblinHousehold$Debtor" cX7_growDebt [] (some .int) "growDebt" 3 1 29) {K : Int32 → gS → Prop} {X : Nat → gS → Prop} (hK : ∀ r G, K r G → cxK C (some (vI r)) G) (hX : ∀ q G, X q G → cxX C q G) {G : gS} {t0 : Nat} (h : wp_X7_growDebt (cxA C) G t0 X K) : gGo C G 0 [(0, vQ (some t0))] [] := by
  unfold wp_X7_growDebt at h
  refine g_aload_n hC (pc := 0) 0 rfl rfl dX7_growDebt_0 ?_
  refine g_getI hC (pc := 1) in_X8 (ci := 9) rfl 2 (by decide) q938 (Or.inl rfl) h dX7_growDebt_1 (fun i1 h => ?_)
  refine g_if_ne hC (pc := 4) 11 h (by decide) dX7_growDebt_4 (fun h => ?_) (fun h => ?_)
  · refine g_sipush hC (pc := 11) (v := (999 : Int32)) (by decide) dX7_growDebt_11 ?_
    refine g_aload_n hC (pc := 14) 0 rfl rfl dX7_growDebt_14 ?_
    refine g_getI hC (pc := 15) in_X8 (ci := 9) rfl 2 (by decide) q938 (Or.inl rfl) h dX7_growDebt_15 (fun i2 h => ?_)
    refine g_aload_n hC (pc := 18) 0 rfl rfl dX7_growDebt_18 ?_
    refine g_getI hC (pc := 19) in_X8 (ci := 9) rfl 2 (by decide) q938 (Or.inl rfl) h dX7_growDebt_19 (fun i3 h => ?_)
    refine g_bipush hC (pc := 22) (v := (10 : Int32)) (by decide) dX7_growDebt_22 ?_
    refine g_idiv hC (pc := 24) (by decide) dX7_growDebt_24 ?_
    refine g_iadd hC (pc := 25) dX7_growDebt_25 ?_
    refine g_iconst hC (pc := 26) (v := (1 : Int32)) (by decide) dX7_growDebt_26 ?_
    refine g_iadd hC (pc := 27) dX7_growDebt_27 ?_
    refine g_min hC (pc := 28) q1686 q489 q114 q490 (gle rfl) (gle rfl) (gle rfl) dX7_growDebt_28 ?_
    exact g_sub [0] rfl (w_X7_growDebt_31 hC hK hX h)
  · refine g_iconst hC (pc := 7) (v := (0 : Int32)) (by decide) dX7_growDebt_7 ?_
    refine g_goto hC (pc := 8) 31 (by decide) dX7_growDebt_8 ?_
    exact g_sub [0] rfl (w_X7_growDebt_31 hC hK hX h)
theorem gc_X7_growDebt : gCode yX7_growDebt cX7_growDebt 3 (some .int) 0 := ⟨q1705, q111, ⟨by decide, by decide⟩, rfl⟩
theorem m_X7_growDebt {l : Launch} (hfl : l.stackTraces = false) {E : gE} {G : gS} {t0 : Nat} {X : Nat → gS → Prop} {K : Int32 → gS → Prop} (h : wp_X7_growDebt (gAd E) G t0 X K) : gMet l yX7_growDebt (ws_ yX7_growDebt cX7_growDebt 3 (some .int)) 1 29 [vQ (some t0)] E G (gRi K) X :=
  g_met hfl (plainFor_of_name (by decide +kernel)) rfl rfl rfl (gle rfl) (fun p e R s m args below meth c hC => w_X7_growDebt hC (fun _ _ h => h) (fun _ _ h => h) h)
def wp_X2_passNight_105 (ad : Nat → Nat) (X : Nat → gS → Prop) (K : gS → Prop) (J45 : gS → Nat → Int32 → Prop) (G : gS) (t0 : Nat) (x1 : Int32) : Prop :=
  J45 G t0 (x1 + (1 : Int32))
theorem w_X2_passNight_105 {C : gCx} (hC : gOk C "GoblinHousehold$Household" cX2_passNight [] none "passNight" 3 6 187) {K : gS → Prop} {X : Nat → gS → Prop} (hK : ∀ G, K G → cxK C none G) (hX : ∀ q G, X q G → cxX C q G) {J45 : gS → Nat → Int32 → Prop} (hJ45 : ∀ G z0 z1, J45 G z0 z1 → gGo C G 45 [(0, vQ (some z0)), (1, vI z1)] []) {G : gS} {t0 : Nat} {x1 : Int32} (h : wp_X2_passNight_105 (cxA C) X K J45 G t0 x1) : gGo C G 105 [(0, vQ (some t0)), (1, vI x1)] [] := by
  unfold wp_X2_passNight_105 at h
  refine g_iinc hC (pc := 105) 1 (d := (1 : Int32)) (v := (x1 + (1 : Int32))) (lv' := [(1, vI (x1 + (1 : Int32))), (0, vQ (some t0))]) rfl (by decide) rfl (by decide) rfl dX2_passNight_105 ?_
  refine g_goto hC (pc := 108) 45 (by decide) dX2_passNight_108 ?_
  exact g_sub [1, 0] rfl (hJ45 _ _ _ h)
def wp_X2_passNight_90 (ad : Nat → Nat) (X : Nat → gS → Prop) (K : gS → Prop) (J45 : gS → Nat → Int32 → Prop) (G : gS) (t0 : Nat) (x1 : Int32) (t2 : Nat) (xs0 : Int32) (ts1 : Nat) : Prop :=
  wPut G ts1 9 5 (.int xs0) fun G1 => wGetI G1 t2 9 4 fun i2 => (¬ i2 = (0 : Int32) → wp_X2_passNight_105 ad X K J45 G1 t0 x1) ∧ (i2 = (0 : Int32) → (gIs G1 t0 2 ∧ wp_X2_work ad G1 t0 (some t2) X (fun G3 => wp_X2_passNight_105 ad X K J45 G3 t0 x1)))
theorem w_X2_passNight_90 {C : gCx} (hC : gOk C "GoblinHousehold$Household" cX2_passNight [] none "passNight" 3 6 187) {K : gS → Prop} {X : Nat → gS → Prop} (hK : ∀ G, K G → cxK C none G) (hX : ∀ q G, X q G → cxX C q G) {J45 : gS → Nat → Int32 → Prop} (hJ45 : ∀ G z0 z1, J45 G z0 z1 → gGo C G 45 [(0, vQ (some z0)), (1, vI z1)] []) {G : gS} {t0 : Nat} {x1 : Int32} {t2 : Nat} {xs0 : Int32} {ts1 : Nat} (h : wp_X2_passNight_90 (cxA C) X K J45 G t0 x1 t2 xs0 ts1) : gGo C G 90 [(0, vQ (some t0)), (1, vI x1), (2, vQ (some t2))] [vI xs0, vQ (some ts1)] := by
  unfold wp_X2_passNight_90 at h
  refine g_putN hC (pc := 90) in_X8 (ci := 9) rfl 5 (by decide) tyX8_ok nmX8 (List.mem_of_getElem? (i := 14) rfl) (Or.inl rfl) rfl rfl rfl h dX2_passNight_90 (fun G1 h => ?_)
  refine g_aload_n hC (pc := 93) 2 rfl rfl dX2_passNight_93 ?_
  refine g_getIN hC (pc := 94) in_X8 (ci := 9) rfl 4 (by decide) (List.mem_of_getElem? (i := 12) rfl) (Or.inl rfl) h dX2_passNight_94 (fun i2 h => ?_)
  refine g_if_ne hC (pc := 97) 105 h (by decide) dX2_passNight_97 (fun h => ?_) (fun h => ?_)
  · exact g_sub [0, 1] rfl (w_X2_passNight_105 hC hK hX hJ45 h)
  · refine g_aload_n hC (pc := 100) 0 rfl rfl dX2_passNight_100 ?_
    refine g_aload_n hC (pc := 101) 2 rfl rfl dX2_passNight_101 ?_
    obtain ⟨hi, h⟩ := h
    refine g_callV hC (pc := 102) (ci := 2) (As := [vQ (some t2)]) gc_X2_work (m_X2_work hC.fl h) rfl hi q1641 q1643 qs20 (gle rfl) (gle rfl) rfl (gle rfl) rfl dX2_passNight_102 (gk_v fun G3 h => ?_) (fun _ _ h hio => g_out0 hC (hX _ _ h) hio)
    exact g_sub [0, 1] rfl (w_X2_passNight_105 hC hK hX hJ45 h)
def wp_X2_passNight_178 (ad : Nat → Nat) (X : Nat → gS → Prop) (K : gS → Prop) (J113 : gS → Nat → Int32 → Prop) (G : gS) (t0 : Nat) (x1 : Int32) (xs0 : Int32) (xs1 : Int32) (ts2 : Nat) : Prop :=
  wPut G ts2 2 12 (.int (xs1 + xs0)) fun G1 => J113 G1 t0 (x1 + (1 : Int32))
theorem w_X2_passNight_178 {C : gCx} (hC : gOk C "GoblinHousehold$Household" cX2_passNight [] none "passNight" 3 6 187) {K : gS → Prop} {X : Nat → gS → Prop} (hK : ∀ G, K G → cxK C none G) (hX : ∀ q G, X q G → cxX C q G) {J113 : gS → Nat → Int32 → Prop} (hJ113 : ∀ G z0 z1, J113 G z0 z1 → gGo C G 113 [(0, vQ (some z0)), (1, vI z1)] []) {G : gS} {t0 : Nat} {x1 : Int32} {xs0 : Int32} {xs1 : Int32} {ts2 : Nat} (h : wp_X2_passNight_178 (cxA C) X K J113 G t0 x1 xs0 xs1 ts2) : gGo C G 178 [(0, vQ (some t0)), (1, vI x1)] [vI xs0, vI xs1, vQ (some ts2)] := by
  unfold wp_X2_passNight_178 at h
  refine g_iadd hC (pc := 178) dX2_passNight_178 ?_
  refine g_put hC (pc := 179) in_X2 (ci := 2) rfl 12 (by decide) tyX2_ok nmX2 q209 (Or.inl rfl) rfl rfl rfl h dX2_passNight_179 (fun G1 h => ?_)
  refine g_iinc hC (pc := 182) 1 (d := (1 : Int32)) (v := (x1 + (1 : Int32))) (lv' := [(1, vI (x1 + (1 : Int32))), (0, vQ (some t0))]) rfl (by decide) rfl (by decide) rfl dX2_passNight_182 ?_
  refine g_goto hC (pc := 185) 113 (by decide) dX2_passNight_185 ?_
  exact g_sub [1, 0] rfl (hJ113 _ _ _ h)
def wp_X2_passNight_113 (ad : Nat → Nat) (X : Nat → gS → Prop) (K : gS → Prop) (J113 : gS → Nat → Int32 → Prop) (G : gS) (t0 : Nat) (x1 : Int32) : Prop :=
  wGetQ G t0 2 2 fun q1 => wNN q1 fun c2 => (gIs G c2 3 ∧ wp_J2_size ad G c2  X (fun r4 G3 => (r4 ≤ x1 → K G3) ∧ (¬ r4 ≤ x1 → wGetQ G3 t0 2 2 fun q5 => wNN q5 fun c6 => (gIs G3 c6 3 ∧ wp_J2_get ad G3 c6 x1 X (fun q8 G7 => wCast G7 q8 [9] ((gIs G7 t0 2 ∧ wp_X2_breakContracts ad G7 t0 q8 X (fun G9 => wGetI G9 t0 2 12 fun i10 => wGetI G9 t0 2 6 fun i11 => (¬ (i11 - i11 / (7 : Int32) * (7 : Int32)) = (0 : Int32) → wp_X2_passNight_178 ad X K J113 G9 t0 x1 (0 : Int32) i10 t0) ∧ ((i11 - i11 / (7 : Int32) * (7 : Int32)) = (0 : Int32) → wGetQ G9 t0 2 2 fun q12 => wNN q12 fun c13 => (gIs G9 c13 3 ∧ wp_J2_get ad G9 c13 x1 X (fun q15 G14 => wCast G14 q15 [9] (wNN q15 fun c16 => (gIs G14 c16 9 ∧ wp_X7_growDebt ad G14 c16  X (fun r18 G17 => wp_X2_passNight_178 ad X K J113 G17 t0 x1 r18 i10 t0))))))))))))))
theorem w_X2_passNight_113 {C : gCx} (hC : gOk C "GoblinHousehold$Household" cX2_passNight [] none "passNight" 3 6 187) {K : gS → Prop} {X : Nat → gS → Prop} (hK : ∀ G, K G → cxK C none G) (hX : ∀ q G, X q G → cxX C q G) (n : Nat) : ∀ (G : gS) (t0 : Nat) (x1 : Int32), gLoop (fun _ _ _ => False) (wp_X2_passNight_113 (cxA C) X K) n G t0 x1 → gGo C G 113 [(0, vQ (some t0)), (1, vI x1)] [] := by
  induction n with
  | zero => intro G t0 x1 h; exact h.elim
  | succ n ih =>
    intro G t0 x1 h
    have hJ113 := ih
    replace h : wp_X2_passNight_113 (cxA C) X K _ G t0 x1 := h
    unfold wp_X2_passNight_113 at h
    refine g_iload_n hC (pc := 113) 1 rfl rfl dX2_passNight_113 ?_
    refine g_aload_n hC (pc := 114) 0 rfl rfl dX2_passNight_114 ?_
    refine g_getQ hC (pc := 115) in_X2 (ci := 2) rfl 2 (by decide) q192 (Or.inl rfl) h dX2_passNight_115 (fun q1 h => ?_)
    rcases q1 with _ | c2
    · exact (gNN0 h).elim
    replace h := gNN1 h
    obtain ⟨hi, h⟩ := h
    refine g_callF hC (pc := 118) (ci := 3) (As := []) gc_J2_size (m_J2_size hC.fl h) rfl hi q359 (List.mem_of_getElem? (i := 0) rfl) rfl q323 q325 (gle rfl) (gle rfl) rfl (gle rfl) rfl dX2_passNight_118 (gk_i fun r4 G3 h => ?_) (fun _ _ h hio => g_out0 hC (hX _ _ h) hio)
    refine g_icmp_ge hC (pc := 123) 188 h (by decide) dX2_passNight_123 (fun h => ?_) (fun h => ?_)
    · exact g_vret hC (pc := 188) (hK _ h) dX2_passNight_188
    · refine g_aload_n hC (pc := 126) 0 rfl rfl dX2_passNight_126 ?_
      refine g_aload_n hC (pc := 127) 0 rfl rfl dX2_passNight_127 ?_
      refine g_getQ hC (pc := 128) in_X2 (ci := 2) rfl 2 (by decide) q192 (Or.inl rfl) h dX2_passNight_128 (fun q5 h => ?_)
      refine g_iload_n hC (pc := 131) 1 rfl rfl dX2_passNight_131 ?_
      rcases q5 with _ | c6
      · exact (gNN0 h).elim
      replace h := gNN1 h
      obtain ⟨hi, h⟩ := h
      refine g_callF hC (pc := 132) (ci := 3) (As := [vI x1]) gc_J2_get (m_J2_get hC.fl h) rfl hi q361 (List.mem_of_getElem? (i := 2) rfl) rfl q364 q366 (gle rfl) (gle rfl) rfl (gle rfl) rfl dX2_passNight_132 (gk_q fun q8 G7 h => ?_) (fun _ _ h hio => g_out0 hC (hX _ _ h) hio)
      refine g_cast hC (pc := 137) q706 h (List.forall_mem_cons.mpr ⟨⟨_, rfl, Or.inr ⟨rfl, by decide⟩⟩, fun _ h => nomatch h⟩) dX2_passNight_137 (fun h => ?_)
      obtain ⟨hi, h⟩ := h
      refine g_callV hC (pc := 140) (ci := 2) (As := [vQ q8]) gc_X2_breakContracts (m_X2_breakContracts hC.fl h) rfl hi q1687 q1689 qs24 (gle rfl) (gle rfl) rfl (gle rfl) rfl dX2_passNight_140 (gk_v fun G9 h => ?_) (fun _ _ h hio => g_out0 hC (hX _ _ h) hio)
      refine g_aload_n hC (pc := 143) 0 rfl rfl dX2_passNight_143 ?_
      refine g_dup hC (pc := 144) rfl dX2_passNight_144 ?_
      refine g_getI hC (pc := 145) in_X2 (ci := 2) rfl 12 (by decide) q209 (Or.inl rfl) h dX2_passNight_145 (fun i10 h => ?_)
      refine g_aload_n hC (pc := 148) 0 rfl rfl dX2_passNight_148 ?_
      refine g_getI hC (pc := 149) in_X2 (ci := 2) rfl 6 (by decide) q199 (Or.inl rfl) h dX2_passNight_149 (fun i11 h => ?_)
      refine g_bipush hC (pc := 152) (v := (7 : Int32)) (by decide) dX2_passNight_152 ?_
      refine g_irem hC (pc := 154) (by decide) dX2_passNight_154 ?_
      refine g_if_ne hC (pc := 155) 177 h (by decide) dX2_passNight_155 (fun h => ?_) (fun h => ?_)
      · refine g_iconst hC (pc := 177) (v := (0 : Int32)) (by decide) dX2_passNight_177 ?_
        exact g_sub [0, 1] rfl (w_X2_passNight_178 hC hK hX hJ113 h)
      · refine g_aload_n hC (pc := 158) 0 rfl rfl dX2_passNight_158 ?_
        refine g_getQ hC (pc := 159) in_X2 (ci := 2) rfl 2 (by decide) q192 (Or.inl rfl) h dX2_passNight_159 (fun q12 h => ?_)
        refine g_iload_n hC (pc := 162) 1 rfl rfl dX2_passNight_162 ?_
        rcases q12 with _ | c13
        · exact (gNN0 h).elim
        replace h := gNN1 h
        obtain ⟨hi, h⟩ := h
        refine g_callF hC (pc := 163) (ci := 3) (As := [vI x1]) gc_J2_get (m_J2_get hC.fl h) rfl hi q361 (List.mem_of_getElem? (i := 2) rfl) rfl q364 q366 (gle rfl) (gle rfl) rfl (gle rfl) rfl dX2_passNight_163 (gk_q fun q15 G14 h => ?_) (fun _ _ h hio => g_out0 hC (hX _ _ h) hio)
        refine g_cast hC (pc := 168) q706 h (List.forall_mem_cons.mpr ⟨⟨_, rfl, Or.inr ⟨rfl, by decide⟩⟩, fun _ h => nomatch h⟩) dX2_passNight_168 (fun h => ?_)
        rcases q15 with _ | c16
        · exact (gNN0 h).elim
        replace h := gNN1 h
        obtain ⟨hi, h⟩ := h
        refine g_callU hC (pc := 171) (ci := 9) (As := []) gc_X7_growDebt (m_X7_growDebt hC.fl h) (x := ⟨"GoblinHousehold$Goblin", "growDebt", "()I"⟩) (owner := "GoblinHousehold$Debtor") rfl hi q1700 q1701 q1704 q1705 ⟨by decide, by decide⟩ rfl q1703 q1704 (gle rfl) (gle rfl) rfl (gle rfl) rfl dX2_passNight_171 (gk_i fun r18 G17 h => ?_) (fun _ _ h hio => g_out0 hC (hX _ _ h) hio)
        refine g_goto hC (pc := 174) 178 (by decide) dX2_passNight_174 ?_
        exact g_sub [0, 1] rfl (w_X2_passNight_178 hC hK hX hJ113 h)
def wp_X2_passNight_111 (ad : Nat → Nat) (X : Nat → gS → Prop) (K : gS → Prop) (G : gS) (t0 : Nat) : Prop :=
  gLoop (fun _ _ _ => False) (wp_X2_passNight_113 ad X K) gFuel G t0 (0 : Int32)
theorem w_X2_passNight_111 {C : gCx} (hC : gOk C "GoblinHousehold$Household" cX2_passNight [] none "passNight" 3 6 187) {K : gS → Prop} {X : Nat → gS → Prop} (hK : ∀ G, K G → cxK C none G) (hX : ∀ q G, X q G → cxX C q G) {G : gS} {t0 : Nat} (h : wp_X2_passNight_111 (cxA C) X K G t0) : gGo C G 111 [(0, vQ (some t0))] [] := by
  unfold wp_X2_passNight_111 at h
  refine g_iconst hC (pc := 111) (v := (0 : Int32)) (by decide) dX2_passNight_111 ?_
  refine g_istore_n hC (pc := 112) (lv' := [(1, vI (0 : Int32)), (0, vQ (some t0))]) rfl (by decide) rfl dX2_passNight_112 ?_
  exact g_sub [1, 0] rfl (w_X2_passNight_113 hC hK hX gFuel _ _ _ h)
def wp_X2_passNight_45 (ad : Nat → Nat) (X : Nat → gS → Prop) (K : gS → Prop) (J45 : gS → Nat → Int32 → Prop) (G : gS) (t0 : Nat) (x1 : Int32) : Prop :=
  wGetQ G t0 2 2 fun q1 => wNN q1 fun c2 => (gIs G c2 3 ∧ wp_J2_size ad G c2  X (fun r4 G3 => (r4 ≤ x1 → wp_X2_passNight_111 ad X K G3 t0) ∧ (¬ r4 ≤ x1 → wGetQ G3 t0 2 2 fun q5 => wNN q5 fun c6 => (gIs G3 c6 3 ∧ wp_J2_get ad G3 c6 x1 X (fun q8 G7 => wCast G7 q8 [9] (wNN q8 fun c9 => wGetI G7 c9 9 4 fun i10 => (i10 = (0 : Int32) → wp_X2_passNight_90 ad X K J45 G7 t0 x1 c9 (0 : Int32) c9) ∧ (¬ i10 = (0 : Int32) → wGetI G7 c9 9 5 fun i11 => wp_X2_passNight_90 ad X K J45 G7 t0 x1 c9 (i11 + (1 : Int32)) c9)))))))
theorem w_X2_passNight_45 {C : gCx} (hC : gOk C "GoblinHousehold$Household" cX2_passNight [] none "passNight" 3 6 187) {K : gS → Prop} {X : Nat → gS → Prop} (hK : ∀ G, K G → cxK C none G) (hX : ∀ q G, X q G → cxX C q G) (n : Nat) : ∀ (G : gS) (t0 : Nat) (x1 : Int32), gLoop (fun _ _ _ => False) (wp_X2_passNight_45 (cxA C) X K) n G t0 x1 → gGo C G 45 [(0, vQ (some t0)), (1, vI x1)] [] := by
  induction n with
  | zero => intro G t0 x1 h; exact h.elim
  | succ n ih =>
    intro G t0 x1 h
    have hJ45 := ih
    replace h : wp_X2_passNight_45 (cxA C) X K _ G t0 x1 := h
    unfold wp_X2_passNight_45 at h
    refine g_iload_n hC (pc := 45) 1 rfl rfl dX2_passNight_45 ?_
    refine g_aload_n hC (pc := 46) 0 rfl rfl dX2_passNight_46 ?_
    refine g_getQ hC (pc := 47) in_X2 (ci := 2) rfl 2 (by decide) q192 (Or.inl rfl) h dX2_passNight_47 (fun q1 h => ?_)
    rcases q1 with _ | c2
    · exact (gNN0 h).elim
    replace h := gNN1 h
    obtain ⟨hi, h⟩ := h
    refine g_callF hC (pc := 50) (ci := 3) (As := []) gc_J2_size (m_J2_size hC.fl h) rfl hi q359 (List.mem_of_getElem? (i := 0) rfl) rfl q323 q325 (gle rfl) (gle rfl) rfl (gle rfl) rfl dX2_passNight_50 (gk_i fun r4 G3 h => ?_) (fun _ _ h hio => g_out0 hC (hX _ _ h) hio)
    refine g_icmp_ge hC (pc := 55) 111 h (by decide) dX2_passNight_55 (fun h => ?_) (fun h => ?_)
    · exact g_sub [0] rfl (w_X2_passNight_111 hC hK hX h)
    · refine g_aload_n hC (pc := 58) 0 rfl rfl dX2_passNight_58 ?_
      refine g_getQ hC (pc := 59) in_X2 (ci := 2) rfl 2 (by decide) q192 (Or.inl rfl) h dX2_passNight_59 (fun q5 h => ?_)
      refine g_iload_n hC (pc := 62) 1 rfl rfl dX2_passNight_62 ?_
      rcases q5 with _ | c6
      · exact (gNN0 h).elim
      replace h := gNN1 h
      obtain ⟨hi, h⟩ := h
      refine g_callF hC (pc := 63) (ci := 3) (As := [vI x1]) gc_J2_get (m_J2_get hC.fl h) rfl hi q361 (List.mem_of_getElem? (i := 2) rfl) rfl q364 q366 (gle rfl) (gle rfl) rfl (gle rfl) rfl dX2_passNight_63 (gk_q fun q8 G7 h => ?_) (fun _ _ h hio => g_out0 hC (hX _ _ h) hio)
      refine g_cast hC (pc := 68) q706 h (List.forall_mem_cons.mpr ⟨⟨_, rfl, Or.inr ⟨rfl, by decide⟩⟩, fun _ h => nomatch h⟩) dX2_passNight_68 (fun h => ?_)
      refine g_astore_n hC (pc := 71) (lv' := [(2, vQ q8), (0, vQ (some t0)), (1, vI x1)]) rfl (by decide) rfl dX2_passNight_71 ?_
      refine g_aload_n hC (pc := 72) 0 rfl rfl dX2_passNight_72 ?_
      refine g_aload_n hC (pc := 73) 0 rfl rfl dX2_passNight_73 ?_
      rcases q8 with _ | c9
      · exact (gNN0 h).elim
      replace h := gNN1 h
      refine g_getIN hC (pc := 74) in_X8 (ci := 9) rfl 4 (by decide) (List.mem_of_getElem? (i := 12) rfl) (Or.inl rfl) h dX2_passNight_74 (fun i10 h => ?_)
      refine g_if_eq hC (pc := 77) 89 h (by decide) dX2_passNight_77 (fun h => ?_) (fun h => ?_)
      · refine g_iconst hC (pc := 89) (v := (0 : Int32)) (by decide) dX2_passNight_89 ?_
        exact g_sub [1, 2, 0] rfl (w_X2_passNight_90 hC hK hX hJ45 h)
      · refine g_aload_n hC (pc := 80) 0 rfl rfl dX2_passNight_80 ?_
        refine g_getIN hC (pc := 81) in_X8 (ci := 9) rfl 5 (by decide) (List.mem_of_getElem? (i := 14) rfl) (Or.inl rfl) h dX2_passNight_81 (fun i11 h => ?_)
        refine g_iconst hC (pc := 84) (v := (1 : Int32)) (by decide) dX2_passNight_84 ?_
        refine g_iadd hC (pc := 85) dX2_passNight_85 ?_
        refine g_goto hC (pc := 86) 90 (by decide) dX2_passNight_86 ?_
        exact g_sub [1, 2, 0] rfl (w_X2_passNight_90 hC hK hX hJ45 h)
def wp_X2_passNight_43 (ad : Nat → Nat) (X : Nat → gS → Prop) (K : gS → Prop) (G : gS) (t0 : Nat) : Prop :=
  gLoop (fun _ _ _ => False) (wp_X2_passNight_45 ad X K) gFuel G t0 (0 : Int32)
theorem w_X2_passNight_43 {C : gCx} (hC : gOk C "GoblinHousehold$Household" cX2_passNight [] none "passNight" 3 6 187) {K : gS → Prop} {X : Nat → gS → Prop} (hK : ∀ G, K G → cxK C none G) (hX : ∀ q G, X q G → cxX C q G) {G : gS} {t0 : Nat} (h : wp_X2_passNight_43 (cxA C) X K G t0) : gGo C G 43 [(0, vQ (some t0))] [] := by
  unfold wp_X2_passNight_43 at h
  refine g_iconst hC (pc := 43) (v := (0 : Int32)) (by decide) dX2_passNight_43 ?_
  refine g_istore_n hC (pc := 44) (lv' := [(1, vI (0 : Int32)), (0, vQ (some t0))]) rfl (by decide) rfl dX2_passNight_44 ?_
  exact g_sub [1, 0] rfl (w_X2_passNight_45 hC hK hX gFuel _ _ _ h)
def wp_X2_passNight_12 (ad : Nat → Nat) (X : Nat → gS → Prop) (K : gS → Prop) (J12 : gS → Nat → Int32 → Prop) (G : gS) (t0 : Nat) (x1 : Int32) : Prop :=
  ((6 : Int32) ≤ x1 → wp_X2_passNight_43 ad X K G t0) ∧ (¬ (6 : Int32) ≤ x1 → wGetQ G t0 2 0 fun q1 => wGetQ G t0 2 0 fun q2 => wNN q2 fun c3 => wAldI G c3 x1 fun i4 => wNN q1 fun c5 => wAstI G c5 x1 (if (i4 + (3 : Int32)) < (99 : Int32) then (i4 + (3 : Int32)) else (99 : Int32)) fun G6 => J12 G6 t0 (x1 + (1 : Int32)))
theorem w_X2_passNight_12 {C : gCx} (hC : gOk C "GoblinHousehold$Household" cX2_passNight [] none "passNight" 3 6 187) {K : gS → Prop} {X : Nat → gS → Prop} (hK : ∀ G, K G → cxK C none G) (hX : ∀ q G, X q G → cxX C q G) (n : Nat) : ∀ (G : gS) (t0 : Nat) (x1 : Int32), gLoop (fun _ _ _ => False) (wp_X2_passNight_12 (cxA C) X K) n G t0 x1 → gGo C G 12 [(0, vQ (some t0)), (1, vI x1)] [] := by
  induction n with
  | zero => intro G t0 x1 h; exact h.elim
  | succ n ih =>
    intro G t0 x1 h
    have hJ12 := ih
    replace h : wp_X2_passNight_12 (cxA C) X K _ G t0 x1 := h
    unfold wp_X2_passNight_12 at h
    refine g_iload_n hC (pc := 12) 1 rfl rfl dX2_passNight_12 ?_
    refine g_bipush hC (pc := 13) (v := (6 : Int32)) (by decide) dX2_passNight_13 ?_
    refine g_icmp_ge hC (pc := 15) 43 h (by decide) dX2_passNight_15 (fun h => ?_) (fun h => ?_)
    · exact g_sub [0] rfl (w_X2_passNight_43 hC hK hX h)
    · refine g_aload_n hC (pc := 18) 0 rfl rfl dX2_passNight_18 ?_
      refine g_getQ hC (pc := 19) in_X2 (ci := 2) rfl 0 (by decide) q188 (Or.inl rfl) h dX2_passNight_19 (fun q1 h => ?_)
      refine g_iload_n hC (pc := 22) 1 rfl rfl dX2_passNight_22 ?_
      refine g_bipush hC (pc := 23) (v := (99 : Int32)) (by decide) dX2_passNight_23 ?_
      refine g_aload_n hC (pc := 25) 0 rfl rfl dX2_passNight_25 ?_
      refine g_getQ hC (pc := 26) in_X2 (ci := 2) rfl 0 (by decide) q188 (Or.inl rfl) h dX2_passNight_26 (fun q2 h => ?_)
      refine g_iload_n hC (pc := 29) 1 rfl rfl dX2_passNight_29 ?_
      rcases q2 with _ | c3
      · exact (gNN0 h).elim
      replace h := gNN1 h
      refine g_aldI hC (pc := 30) h dX2_passNight_30 (fun i4 h => ?_)
      refine g_iconst hC (pc := 31) (v := (3 : Int32)) (by decide) dX2_passNight_31 ?_
      refine g_iadd hC (pc := 32) dX2_passNight_32 ?_
      refine g_min hC (pc := 33) q1434 q489 q114 q490 (gle rfl) (gle rfl) (gle rfl) dX2_passNight_33 ?_
      rcases q1 with _ | c5
      · exact (gNN0 h).elim
      replace h := gNN1 h
      refine g_astI hC (pc := 36) h dX2_passNight_36 (fun G6 h => ?_)
      refine g_iinc hC (pc := 37) 1 (d := (1 : Int32)) (v := (x1 + (1 : Int32))) (lv' := [(1, vI (x1 + (1 : Int32))), (0, vQ (some t0))]) rfl (by decide) rfl (by decide) rfl dX2_passNight_37 ?_
      refine g_goto hC (pc := 40) 12 (by decide) dX2_passNight_40 ?_
      exact g_sub [1, 0] rfl (hJ12 _ _ _ h)
def wp_X2_passNight (ad : Nat → Nat) (G : gS) (t0 : Nat) (X : Nat → gS → Prop) (K : gS → Prop) : Prop :=
  wGetI G t0 2 6 fun i1 => wPut G t0 2 6 (.int (i1 + (1 : Int32))) fun G2 => gLoop (fun _ _ _ => False) (wp_X2_passNight_12 ad X K) gFuel G2 t0 (0 : Int32)
theorem w_X2_passNight {C : gCx} (hC : gOk C "GoblinHousehold$Household" cX2_passNight [] none "passNight" 3 6 187) {K : gS → Prop} {X : Nat → gS → Prop} (hK : ∀ G, K G → cxK C none G) (hX : ∀ q G, X q G → cxX C q G) {G : gS} {t0 : Nat} (h : wp_X2_passNight (cxA C) G t0 X K) : gGo C G 0 [(0, vQ (some t0))] [] := by
  unfold wp_X2_passNight at h
  refine g_aload_n hC (pc := 0) 0 rfl rfl dX2_passNight_0 ?_
  refine g_dup hC (pc := 1) rfl dX2_passNight_1 ?_
  refine g_getI hC (pc := 2) in_X2 (ci := 2) rfl 6 (by decide) q199 (Or.inl rfl) h dX2_passNight_2 (fun i1 h => ?_)
  refine g_iconst hC (pc := 5) (v := (1 : Int32)) (by decide) dX2_passNight_5 ?_
  refine g_iadd hC (pc := 6) dX2_passNight_6 ?_
  refine g_put hC (pc := 7) in_X2 (ci := 2) rfl 6 (by decide) tyX2_ok nmX2 q199 (Or.inl rfl) rfl rfl rfl h dX2_passNight_7 (fun G2 h => ?_)
  refine g_iconst hC (pc := 10) (v := (0 : Int32)) (by decide) dX2_passNight_10 ?_
  refine g_istore_n hC (pc := 11) (lv' := [(1, vI (0 : Int32)), (0, vQ (some t0))]) rfl (by decide) rfl dX2_passNight_11 ?_
  exact g_sub [1, 0] rfl (w_X2_passNight_12 hC hK hX gFuel _ _ _ h)
theorem gc_X2_passNight : gCode yX2_passNight cX2_passNight 3 none 0 := ⟨q1640, q95, ⟨by decide, by decide⟩, rfl⟩
theorem m_X2_passNight {l : Launch} (hfl : l.stackTraces = false) {E : gE} {G : gS} {t0 : Nat} {X : Nat → gS → Prop} {K : gS → Prop} (h : wp_X2_passNight (gAd E) G t0 X K) : gMet l yX2_passNight (ws_ yX2_passNight cX2_passNight 3 none) 6 187 [vQ (some t0)] E G (gRv K) X :=
  g_met hfl (plainFor_of_name (by decide +kernel)) rfl rfl rfl (gle rfl) (fun p e R s m args below meth c hC => w_X2_passNight hC (fun _ h => h) (fun _ _ h => h) h)
