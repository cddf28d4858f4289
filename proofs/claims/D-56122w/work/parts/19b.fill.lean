/-! Throwable.fillInStackTrace(), of a launch without stack traces -/
set_option maxRecDepth 20000
def wFill (G : gS) (b ci kS kB : Nat) (u : Option Nat) (K : Prop) : Prop := (∃ fs : List Value, G.1 b = some (gO true ci fs) ∧ fs[kS]? = some (va_rf u) ∧ fs[kB]? = some .null) ∧ K
section FILL
variable {C : gCx} {cc : ByteArray} {hh : List (Nat × Nat × Nat × Nat)} {rt : Option FieldType} {nm : String} {nL F L : Nat} {G : gS} {pc : Nat} {lv : List (Nat × gV)} {st : List gV}
theorem g_fill (hC : gOk C "java/lang/Throwable" cc hh rt nm nL F L) {b ci N : Nat} (kS kB : Nat) {R : String} {T0 : u_T} (hc : gCl[ci]? = some (R, T0, N)) (hNS : kS < N) (hNB : kB < N) (hA1 : (T0 kS).1 = "java/lang/Throwable" ∧ (T0 kS).2.1 = "stackTrace" ∧ (T0 kS).2.2.1 = "[Ljava/lang/StackTraceElement;") (hT4 : (T0 kB).1 = "java/lang/Throwable" ∧ (T0 kB).2.1 = "backtrace" ∧ (T0 kB).2.2.1 = "Ljava/lang/Object;")
    (hl1 : Cond.lays R "java/lang/Throwable" "stackTrace" "[Ljava/lang/StackTraceElement;" ∈ lw_all) (hs1 : Cond.selects R Bundle.tFill Bundle.tFill ∈ lw_all) (hs0 : Cond.selects R Bundle.tFill0 Bundle.tFill0 ∈ lw_all)
    (hF : 4 ≤ F) (hL : 100 ≤ L) (hst : st.length ≤ 8) {K : Prop} (h : wFill G b ci kS kB (gOp (cxA C 5)) K) (hd : decode cc pc = .ok (.invokevirtual 27, 3)) (k : K → gGo C G (pc + 3) lv (vQ (some b) :: st)) : gGo C G pc lv (vQ (some b) :: st) := by
  obtain ⟨p, l, e, R0, s, m, args, below, meth, c, E, Kv, X⟩ := C
  obtain ⟨hx, hb, ho, ht, hKn, hlk, hm, hr, hmn, htab, hRF, hRL, hR1, hR2, hbs, hfl⟩ := hC
  obtain ⟨⟨fs, ha, hf1, hf4⟩, hk⟩ := h
  intro H locs ls h1 h2 h3 h4 h5
  obtain ⟨hnew, cell, r, e1, e2, e3, e4, e5, e6, e7⟩ := h1.1 b _ ha
  cases hc.symm.trans e2
  obtain ⟨hvm0, hown0, hcnt0⟩ := e6 rfl
  have hba : gB E ≤ b := hnew rfl
  intro T hT X0
  have hcell : T.heap[b]? = some cell := by rw [hT]; exact e1
  -- the call's step
  have hfillI := ht _ q423
  obtain ⟨mk, methM, hnamed, hmethM, hstM, habM⟩ := Cond.instanceMethod_spec hfillI
  obtain ⟨c2, r2, m2, s1, s2, s3, s4, kP, hkP, hkPi⟩ := Cond.selects_spec (ht _ hs1)
  obtain ⟨hfcR, huKn⟩ := hKn.1 ci _ hc
  obtain ⟨hS, hcA, kC, hkC, hkind⟩ := huKn (by show 0 < N; omega)
  have hfcc : s.vm.findClass R = some cell.cls := by rw [e3]; exact hfcR
  cases hfcc.symm.trans s1
  cases (State.methodFound?_of_named hnamed (by decide)).symm.trans s2
  cases hnamed.symm.trans s3
  have hselP : selectMethod e.platform s.vm cell.cls mk = .method mk := by rw [Launch.admits_selectMethod X0.admits]; exact s4
  obtain ⟨methM', cM, hmethM', hcodeM', -, -, -, -, -, hsigM⟩ := Cond.codeSync_spec hnamed (ht _ q435)
  cases hmethM.symm.trans hmethM'
  have hsum := gvc_sum st
  obtain ⟨vm₁, X₁, hstep₁⟩ := X0.invokevirtual hx ho (ht _ q422) hnamed hmethM hstM hkP hkPi (by decide) (a := b) (cell := cell) hcell
    (fun z h => by rw [hvm0] at h; cases h) hselP hmethM habM hkP hkPi (g := F0 m pc ls ((vQ (some b) :: st).map gv2)) rfl (argsL := []) (rest := st.map gv2) (by
      have h9 : parseMethodDescriptor "()Ljava/lang/Throwable;" = some methM.sig := hsigM
      have h8 : (parseMethodDescriptor "()Ljava/lang/Throwable;").map (fun d => d.parameters.length) = some 0 := by decide +kernel
      rw [h9] at h8
      exact (Option.some.inj h8).symm) rfl (by rw [hb]; exact hd)
  generalize hT1 : T.setVm vm₁ = T1 at X₁ hstep₁
  have hW : s.WarmedH T1.vm := X₁.warmed
  have hK1 : gKn E T1 := hKn.moved hW
  have hwt : ∀ w ∈ lw_all, w.before args T1 = true := fun w hw => word_at hW (good_of_word (List.mem_filter.mp hw).2) (ht w hw)
  have hheap1 : T1.heap = H := by rw [← hT1]; exact hT
  have hold : ∀ a : Nat, a < (gHb E).size → ¬ gB E ≤ a → T1.heap[a]? = (gHb E)[a]? := fun a _ h9 => by rw [hheap1]; exact h1.2.2.1 a (by omega)
  have howns : e.platform.frameOwnsMonitors = true := by rw [X0.admits.platform]
  have hfin : e.platform.finalization = false := by rw [X0.admits.platform]
  have hpl : e.platform.magicAccessors = ({} : Platform).magicAccessors := by rw [X0.admits.platform]
  have htr : e.platform.stackTraces = false := (show e.platform.stackTraces = l.stackTraces by rw [X0.admits.platform]).trans hfl
  have hlaysU := (vx_L.kept (hK1.2.2.2.2.2.2.2.2.2.2.2.2.2.2.2.2 _ (List.mem_of_getElem? (i := 0) rfl)) hold).word (args := args)
  have hlaysS := (vx_L.kept (hK1.2.2.2.2.2.2.2.2.2.2.2.2.2.2.2.2 _ (List.mem_of_getElem? (i := 1) rfl)) hold).word (args := args)
  have hatoms : ∀ w ∈ Bundle.throwableAtoms, w.before args T1 = true := by
    unfold Bundle.throwableAtoms
    refine List.forall_mem_cons.mpr ⟨hwt _ q106, List.forall_mem_cons.mpr ⟨hwt _ q414, List.forall_mem_cons.mpr ⟨hwt _ q423, List.forall_mem_cons.mpr ⟨hwt _ q435, List.forall_mem_cons.mpr ⟨hwt _ q438, List.forall_mem_cons.mpr ⟨hwt _ q440, List.forall_mem_cons.mpr ⟨hwt _ q415, List.forall_mem_cons.mpr ⟨hwt _ q416, List.forall_mem_cons.mpr ⟨hwt _ q151, List.forall_mem_cons.mpr ⟨hwt _ q152, List.forall_mem_cons.mpr ⟨hwt _ q417, List.forall_mem_cons.mpr ⟨hwt _ q422, List.forall_mem_cons.mpr ⟨hwt _ q436, List.forall_mem_cons.mpr ⟨hwt _ q659, List.forall_mem_cons.mpr ⟨hwt _ q404, List.forall_mem_cons.mpr ⟨hwt _ q660, List.forall_mem_cons.mpr ⟨hwt _ q406, List.forall_mem_cons.mpr ⟨hwt _ q661, List.forall_mem_cons.mpr ⟨hwt _ q408, List.forall_mem_cons.mpr ⟨hwt _ q418, List.forall_mem_cons.mpr ⟨hlaysU, List.forall_mem_cons.mpr ⟨hwt _ q420, List.forall_mem_cons.mpr ⟨hlaysS, List.forall_mem_cons.mpr ⟨hwt _ q410, fun _ h => nomatch h⟩⟩⟩⟩⟩⟩⟩⟩⟩⟩⟩⟩⟩⟩⟩⟩⟩⟩⟩⟩⟩⟩⟩⟩
  obtain ⟨TC, Z, LK, LZ, Y⟩ := ThrowableC.of_atoms (args := args) howns hfin hpl hatoms
  have hnamed1 := X₁.named hnamed
  cases hnamed1.symm.trans Y.fill
  -- the slots
  obtain ⟨hS1, -, -⟩ := (hK1.1 ci _ hc).2 (by show 0 < N; omega)
  obtain ⟨cf1, kf1, fi1, fd1, g1, g1s⟩ := hS1 kS hNS
  obtain ⟨cf4, kf4, fi4, fd4, g4, g4s⟩ := hS1 kB hNB
  rw [hA1.1, hA1.2.1, hA1.2.2] at g1
  rw [hT4.1, hT4.2.1, hT4.2.2] at g4
  cases g1.symm.trans Y.stack
  obtain ⟨ci198, i198, fB, hk198, hg198, ha198, hsB, -, hnB, htB, hffB⟩ := Cond.ownField (t := .object "java/lang/Object") Y.found LK.cls (by decide +kernel) (hwt _ q657) (hwt _ q412) e.platform hpl
  cases g4.symm.trans hffB
  have hv1 : cell.slots[TC.fStack.slot]? = some (va_rf (gOp (gAd E 5))) := by
    have h9 := e7 kS hNS
    rw [← g1s] at h9
    rw [h9]
    simp [vp_V, hf1]
  have hv4 : cell.slots[fd4.slot]? = some .null := by
    have h9 := e7 kB hNB
    rw [← g4s] at h9
    rw [h9]
    simp [vp_V, hf4]
  -- the static
  obtain ⟨cfU, kfU, fiU, fU, aU, cellU, u1, u2, u3, u4, u5, u6, u7, u8⟩ := hK1.2.2.2.2.2.2.2.2.2.2.1 _ (List.mem_of_getElem? (i := 0) rfl)
  cases u1.symm.trans Y.unassigned
  cases u4.symm.trans LK.statics
  have hcellS : T1.heap[TC.aS]? = some cellU := by rw [hheap1, h1.2.2.1 TC.aS (Nat.not_le.mp u8)]; exact u5
  have hcls1 : T1.vm.findClass R = some cell.cls := by rw [hW.alike.findClass]; exact hfcc
  have hsel0 : selectMethod e.platform T1.vm cell.cls TC.fill0 = .method TC.fill0 := by
    obtain ⟨c3, r3, m3, v1, v2, v3, v4, -⟩ := Cond.selects_spec (hwt _ hs0)
    cases hcls1.symm.trans v1
    cases (State.methodFound?_of_named Y.fill0 (by decide)).symm.trans v2
    cases v3.symm.trans Y.fill0
    rw [Launch.admits_selectMethod X0.admits]; exact v4
  have hneS : TC.aS ≠ b := fun q => u8 (by rw [q]; exact hba)
  obtain ⟨-, -, kX, hkX0, hordX⟩ := (hK1.1 ci _ hc).2 (by show 0 < N; omega)
  have hkX : T1.vm.classes[cell.cls]? = some kX := by rw [e3]; exact hkX0
  obtain ⟨tyS, -⟩ := Cond.laysAt hcls1 hkX Y.stack (hwt _ hl1)
  have hcell1 : T1.heap[b]? = some cell := by rw [hheap1]; exact e1
  obtain ⟨u0, hu0⟩ : ∃ u0 : RefV, u0.v = va_rf (gOp (gAd E 5)) := ⟨⟨va_rf (gOp (gAd E 5)), by cases gOp (gAd E 5) <;> rfl⟩, rfl⟩
  rw [← hu0] at hv1 u7
  have htS : Takes T1 cell TC.fStack u0.v := by
    refine ⟨(Array.getElem?_eq_some_iff.mp hv1).1, ?_⟩
    have hfits : fits TC.fStack.type u0.v = true := by rw [Y.stackType]; exact fits_refV_array _ u0
    simp [State.fitsSlot, State.slotType?, hkX, hordX, tyS, hfits, hvm0]
  have hskip : SkipFacts TC e.platform T1 (fun u => u) u0 (cell.withEntry T1.cur) := ⟨{ ci198 := ci198, i198 := fi4, fBack := fd4 }, ⟨hk198, hg198, ha198, hsB⟩, hv4, fun _ _ => rfl⟩
  generalize hgg : ({ F0 m pc ls ((vQ (some b) :: st).map gv2) with stack := st.map gv2 } : JFrame) = gg at hstep₁
  have hgm : gg.method = m := by rw [← hgg]
  have hgsz : gg.locals.size = c.maxLocals := by rw [← hgg]; exact h5.1
  have hgst : 2 * gg.monitorRoom + (gg.stack.map fun v => v.category).sum ≤ 16 := by
    rw [← hgg]
    show 2 * 0 + ((st.map gv2).map fun v => v.category).sum ≤ 16
    omega
  have hgpc : decode c.code gg.pc = .ok (.invokevirtual 27, 3) := by rw [← hgg, hb]; exact hd
  have hAt : At T1 gg.method c below := by rw [hgm]; exact X₁.here
  have hroom := X₁.notFull (g := gg) hgsz (vars := 1 + 2) (by rw [hRF]; omega) (by rw [hRL]; omega)
  have hlenF := X₁.framesAbove (n := 3) (by rw [hRF]; omega)
  have hwordsF := X₁.stackAbove (g := gg) hgsz (K := 80) (by rw [hRL]; omega)
  obtain ⟨vm', hW', stp⟩ : ∃ vm', T1.WarmedH vm' ∧ ∀ acts target, Steps p.tables e below (((T1.setVm vm').setCell b (((cell.withEntry T1.cur).setSlot TC.fStack.slot u0.v).left)).setTop { gg with pc := gg.pc + 3, stack := .ref b :: gg.stack }) target → Steps p.tables e below (doInvoke e (T1.setTop gg) acts TC.fill #[.ref b]).1 target := by
    have hgo := fun acts => Steps.fillColdAnyV p (self := b) hAt hx TC LK (State.WarmedH.refl T1) (Nn := fun u => u) heapOnly_id (fun _ _ => rfl) (fun _ => rfl) (fun u x y => setCell_twice _ _ _ _) (cell := cell) (cellS := cellU) (cN := cell.withEntry T1.cur) (u0 := u0) acts
      hcell1 (fun z h => by rw [hvm0] at h; cases h) e5 (Or.inl hown0) hv1 hsel0 hcellS hneS (fun q => by rw [q] at u6; cases u6) u7 (fun _ hu => hu) (fun _ hu => hu) rfl rfl rfl rfl htS hgpc
      (fun hne vm1 hWv hAtF t' hrest => LK.nativeOff p htr hAtF hWv (by
        have hfF : (fillInside (T1.setVm vm1) gg TC.fill b cell).frames = .java (entryFrameSync TC.fill #[.ref b] 1 b) :: .java gg :: T1.frames.tail := frames_entered (g := gg) (s := (T1.setVm vm1).setCell b (cell.withEntry (T1.setVm vm1).cur)) X₁.here.top _
        have htopF : (fillInside (T1.setVm vm1) gg TC.fill b cell).topJava?.isSome := by rw [State.topJava?_of_frames hfF]; rfl
        refine roomAbove (pl := e.platform) (u := (fillInside (T1.setVm vm1) gg TC.fill b cell).setTop (fillJ TC.fill b 16 [])) (vars := nativeFrameWords "java/lang/Throwable" "fillInStackTrace" 2) (pushed := [.java (fillJ TC.fill b 16 [])]) (base := .java gg :: T1.frames.tail) (free := 80) (lim := e.platform.stackLimits T1.me) (State.frames_setTop _ hfF) ?_ ?_ hwordsF ?_
        · rw [State.stackLimits_setTop _ htopF, State.stackLimits_pushFrame, State.stackLimits_setTop]
          · rfl
          · exact X₁.here.top
        · obtain ⟨g₀, hfr0⟩ := X₁.frames_eq
          rw [hfr0] at hlenF ⊢
          simp only [List.length_cons, List.length_nil, List.tail_cons] at hlenF ⊢
          omega
        · rw [stackUse_java]
          simp [operandWords]
          decide) hrest) hroom hskip
    obtain ⟨vm', hW', st0⟩ := hgo []
    exact ⟨vm', hW', fun acts target h => by rw [doInvoke_state]; exact st0 target h⟩
  have hback : ((cell.withEntry T1.cur).setSlot TC.fStack.slot u0.v).left = cell.setSlot TC.fStack.slot u0.v := Cell.left_setSlot_withEntry T1.cur _ _ hown0 hcnt0
  have hsame : cell.setSlot TC.fStack.slot u0.v = cell := Cell.setSlot_same hv1
  have X2 := X₁.noted (State.WarmedH.trans hW hW')
  have X3 := X2.stored (a := b) hcell1 TC.fStack.slot u0.v
  rw [hback] at stp
  rw [hsame] at stp X3
  have hH3 : ((T1.setVm vm').setCell b cell).heap = H := by
    show T1.heap.setIfInBounds b cell = H
    rw [hheap1]
    apply Array.ext_getElem?
    intro i
    rw [Array.getElem?_setIfInBounds]
    split
    · rename_i hi
      subst hi
      split
      · exact e1.symm
      · rename_i hn
        exact absurd (Array.getElem?_eq_some_iff.mp e1).1 hn
    · rfl
  obtain ⟨t, a1, b1⟩ := k hk H (locs ++ [⟨b, TC.fStack.slot⟩]) ls h1 h2 h3 (fun z hz => by
    rcases List.mem_append.mp hz with q | q
    · exact h4 z q
    · rw [List.mem_singleton.mp q]; exact hba) h5 _ hH3 X3
  refine ⟨t, hstep₁ t (fun acts => ?_), b1⟩
  refine stp acts t ?_
  rw [← hgg]
  exact a1
end FILL
