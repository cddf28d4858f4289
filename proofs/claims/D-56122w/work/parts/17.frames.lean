/-! CALLS BY A METHOD'S NUMBER: a frame of its own, walked by rows -/
set_option maxRecDepth 20000
section RUNS
variable {p : Program} {l : Launch} {e : Env} {R : Room} {s : State} {m : MethodId} {args : Array Value} {below : List Frame} {meth : Method} {c : Code} {E : gE}
theorem gx_run {T : State} {locs : List Loc} {cells slots : Nat} (X0 : Stand p l e R s m args below meth c T locs cells slots) {g : JFrame} (hg : g.method = m) (hsize : g.locals.size = c.maxLocals) {ig : Instr} {len : Nat} (hdg : decode c.code g.pc = .ok (ig, len))
    {mk : MethodId} {methk : Method} {ck : Code} {a : Array Value} {F Lr : Nat} (hmk : T.vm.method? mk = some methk) (hck : methk.code = some ck) (hlk : methk.locks = false) (hpk : T.plainMethod mk)
    (hframes : F + 1 ≤ R.frames) (hlocals : 2 * g.monitorRoom + (g.stack.map fun v => v.category).sum + (ck.maxLocals + 11) + Lr ≤ R.locals) (hcells : cells + (gN E - T.heap.size) ≤ R.cells) (hslots : slots + (gM E - gtot (gB E) T.heap) ≤ R.slots)
    {Kv : Option gV → gS → Prop} {X : Nat → gS → Prop}
    (hW : Stand p l e { frames := F, cells := gN E - T.heap.size, slots := gM E - gtot (gB E) T.heap, locals := Lr } (T.calling g mk a) mk a (.java g :: below) methk ck ((T.setTop g).pushFrame (.java (entryFrame mk a ck.maxLocals))) [] 0 0 → W p l e { frames := F, cells := gN E - T.heap.size, slots := gM E - gtot (gB E) T.heap, locals := Lr } (T.calling g mk a) mk a (.java g :: below) methk ck T.heap [] 0 0 (gMQ E Kv X (.java g :: below) a (T.calling g mk a)) (entryFrame mk a ck.maxLocals)) :
    (∃ (v : Option Value) (B : Pt), Stand p l e R s m args below meth c B.U B.locs B.cells B.slots ∧ gPost E Kv ⟨T, locs, cells, slots⟩ a v B ∧ ∀ acts target, Steps p.tables e below (B.U.setTop { g with pc := g.pc + len, stack := v.toList ++ g.stack }) target → Steps p.tables e below (doInvoke e (T.setTop g) acts mk a).1 target) ∨
    (∃ (q : Addr) (B : Pt), Stand p l e R s m args below meth c B.U B.locs B.cells B.slots ∧ gPostX E X ⟨T, locs, cells, slots⟩ a q B ∧ ∀ acts, Steps p.tables e below (doInvoke e (T.setTop g) acts mk a).1 ((B.U.setTop g).pushFrame (.throwing q))) := by
  obtain ⟨Y₀, hin⟩ := X0.into hg hsize hdg a (R' := { frames := F, cells := gN E - T.heap.size, slots := gM E - gtot (gB E) T.heap, locals := Lr }) hmk hck hlk hpk hframes hlocals hcells hslots
  obtain ⟨s₂, hsteps, o, hrun, hend, hq⟩ := hW Y₀ ((T.setTop g).pushFrame (.java (entryFrame mk a ck.maxLocals))) rfl Y₀
  obtain ⟨mid, hmid⟩ : ∃ mid, Frame.java g :: below = mid ++ below := ⟨[.java g], rfl⟩
  have hsteps' : ∀ acts, Steps p.tables e below (doInvoke e (T.setTop g) acts mk a).1 s₂ := fun acts => by
    rw [hin acts]
    exact Steps.weaken (mid := [.java g]) hsteps
  obtain ⟨g₀, hg0⟩ := Option.isSome_iff_exists.mp X0.here.top
  obtain ⟨r, hr⟩ := State.topJava?_eq_some.mp hg0
  rcases hq with ⟨v, G', rfl, hkv, hA', L, hfe, hL⟩ | ⟨q, G', rfl, hxq, hio, hA', hW₂, L, hsm, hL⟩
  · obtain ⟨-, hW₂, hsame⟩ := hfe
    obtain ⟨T', X', hW', hs', ht⟩ := X0.outOf hg hdg hend hW₂ hsame
    have hh : s₂.heap = T'.heap := by rw [ht]; rfl
    refine Or.inl ⟨v.map gv2, ⟨T', locs ++ L, _, _⟩, X', ⟨v, G', rfl, hkv, by rw [← hh]; exact hA', L, rfl, hL⟩, fun acts target h => (hsteps' acts).trans (by rw [ht]; exact h)⟩
  · obtain ⟨e2, q2, q3, q4, q5, q6⟩ := id hsm
    have hfr : (T.setTop g).frames = .java g :: below := by rw [State.frames_setTop' g X0.here.top, X0.tail]
    have hcalling : T.calling g mk a = (T.setTop g).setFrames (.invoking mk a :: .java g :: below) := by
      rw [State.calling_eq X0.here.top, X0.tail, State.setTop_of_frames _ hr, State.setFrames_setFrames]
    have hr' : (({ T with heap := s₂.heap, slotsUsed := s₂.slotsUsed } : State).setVm s₂.vm).frames = .java g₀ :: r := hr
    have e3 : s₂ = ({ (T.calling g mk a).setFrames s₂.frames with heap := s₂.heap, slotsUsed := s₂.slotsUsed } : State).setVm s₂.vm := by
      have : s₂ = ({ s₂ with vm := (T.calling g mk a).vm } : State).setVm s₂.vm := rfl
      rw [e2] at this
      exact this
    have hf₂ : s₂.frames = .throwing q :: .java g :: T.frames.tail := by
      have h9 : s₂.frames = .throwing q :: .java g :: below := hend
      rw [h9, X0.tail]
    have hW' : T.WarmedH s₂.vm := hW₂
    have hs₂ : s₂ = ((({ T with heap := s₂.heap, slotsUsed := s₂.slotsUsed } : State).setVm s₂.vm).setTop g).pushFrame (.throwing q) := by
      refine e3.trans ?_
      rw [hf₂, State.calling_eq X0.here.top, State.setFrames_setFrames, State.pushFrame, State.frames_setTop _ hr', State.setTop_of_frames _ hr', State.setFrames_setFrames, hr]
      rfl
    have hsame : T.sameButNew ({ T with heap := s₂.heap, slotsUsed := s₂.slotsUsed } : State) L (gN E - (T.calling g mk a).heap.size) (gM E - gtot (gB E) (T.calling g mk a).heap) := by
      refine ⟨?_, q2, q3, q4, q5, q6⟩
      obtain ⟨t, ht, -⟩ := State.frames_cons hr
      show ({ T with heap := s₂.heap, slotsUsed := s₂.slotsUsed } : State) = { T.setFrames T.frames with heap := s₂.heap, slotsUsed := s₂.slotsUsed }
      rw [State.setFrames_self ht]
    subst hg
    refine Or.inr ⟨q, ⟨(({ T with heap := s₂.heap, slotsUsed := s₂.slotsUsed } : State).setVm s₂.vm), locs ++ L, cells + _, slots + _⟩,
      ⟨X0.admits, X0.cas, X0.clock, X0.frames, X0.room, X0.hears, X0.method, X0.code, (X0.here.setHeapUsed s₂.heap s₂.slotsUsed).setVm hW'.alike, X0.tail, State.WarmedH.trans X0.warmed hW', X0.limits, X0.bytes, X0.same.trans (hsame.setVm s.vm)⟩,
      ⟨G', hxq, hio, hA', L, rfl, hL⟩, fun acts => ?_⟩
    have h9 := hsteps' acts
    rw [hs₂] at h9
    exact h9
end RUNS
def gBody (l : Launch) (y : MethodName) (b2 : ByteArray) (nL2 : Nat) (rt2 : Option FieldType) (F2 L2 : Nat) (av : List gV) (E : gE) (G : gS) (Kv2 : Option gV → gS → Prop) (X2 : Nat → gS → Prop) : Prop := ∀ p e R s m args below meth c, gOk (p, l, e, R, s, m, args, below, meth, c, E, Kv2, X2) y.cls b2 [] rt2 y.name nL2 F2 L2 → gGo (p, l, e, R, s, m, args, below, meth, c, E, Kv2, X2) G 0 (glv 0 av) []
section LEAF
variable {C : gCx} {own : String} {cc : ByteArray} {hh : List (Nat × Nat × Nat × Nat)} {rt : Option FieldType} {nm : String} {nL F L : Nat} {G : gS} {pc : Nat} {lv : List (Nat × gV)} {st stk : List gV}
variable {y : MethodName} {b2 : ByteArray} {nL2 F2 L2 n index : Nat} {rt2 : Option FieldType} {Kv2 : Option gV → gS → Prop} {X2 : Nat → gS → Prop} {As : List gV}
/-- an abstract method whose body's class is not said to be initialized -/
theorem g_callA0 (hC : gOk C own cc hh rt nm nL F L) {b : Nat} (hcode : Cond.code y b2 nL2 rt2 ∈ lw_all) (hpf : plainFor y = true) (hpl : (parseMethodDescriptor y.desc).map (fun d => d.parameters.length) = some n)
    (hbody : gBody (cxL C) y b2 nL2 rt2 F2 L2 (vQ (some b) :: As) (cxE C) G Kv2 X2) (hsz : glen (vQ (some b) :: As) ≤ nL2)
    {x : MethodName} {owner : String} {r : vw_C} {ci : Nat} (hrr : gCl[ci]? = some r) (his : gIs G b ci) (hlink : Cond.methodLink own index x ∈ lw_all) (hsame : Cond.sameMethod x.cls owner x.name x.desc ∈ lw_all) (hdcl : (⟨owner, x.name, x.desc⟩ : MethodName) ∈ gDcl) (how : owner ≠ "java/lang/invoke/MethodHandle" ∧ owner ≠ "java/lang/invoke/VarHandle") (hxd : x.desc = y.desc) (hsel : Cond.selects r.1 x y ∈ lw_all) (hinst : Cond.instanceMethod y ∈ lw_all) (hF : F2 + 1 ≤ F) (hL : 16 + (nL2 + 11) + L2 ≤ L) (hn : As.length = n) (hst : st.length ≤ 8) (hs : As.reverse ++ vQ (some b) :: st = stk) (hd : decode cc pc = .ok (.invokevirtual index, 3)) (kk : ∀ w G', Kv2 w G' → gGo C G' (pc + 3) lv (w.toList ++ st)) (kx : ∀ q G', X2 q G' → gIsO G' q → gTh C G' pc lv q) : gGo C G pc lv stk := by
  obtain ⟨p, l, e, R, s, m, args, below, meth, c, E, Kv, X⟩ := C
  obtain ⟨hx, hb, ho, ht, hKn, hlk, hm, hr, hmn, htab, hRF, hRL, hR1, hR2, hbs, hfl⟩ := hC
  subst hs
  intro H locs ls h1 h2 h3 h4 h5
  intro T hT X0
  obtain ⟨cellB, c1, c2, c3⟩ := his.cell h1 hrr hKn
  have hA5 := h1.2.2.2.2.1
  have hA6 := h1.2.2.2.2.2
  refine g_after (cells := H.size - s.heap.size) (slots := gtot (gB E) H - gtot (gB E) s.heap) (av := (Value.ref b :: As.map gv2).toArray) (d := 3) (st := st) (lv := lv) (Kv2 := Kv2) (X2 := X2) hbs h4 h5 ?_ rfl kk kx
  obtain ⟨r0, rM, hn0, hrm, hstR, hsigR⟩ := va_Decl.abs (hKn.2.2.2.2.2.2.2.2.1 _ hdcl)
  obtain ⟨cn, ck, r1, hcn, hck, hni, hf, hn1⟩ := Cond.sameMethod_found (ht _ hsame)
  cases hn0.symm.trans hn1
  obtain ⟨mk, methM, hnamed, hmethM, -, habM⟩ := Cond.instanceMethod_spec (ht _ hinst)
  obtain ⟨c2', r2, m2, q1, q2, q3, q4, kP, hkP, hkPi⟩ := Cond.selects_spec (ht _ hsel)
  cases c3.symm.trans q1
  cases hf.symm.trans q2
  cases hnamed.symm.trans q3
  have hselP : selectMethod e.platform s.vm cellB.cls r0 = .method mk := by rw [Launch.admits_selectMethod X0.admits]; exact q4
  obtain ⟨vm₁, X₁, hstep₁⟩ := X0.invokevirtualUp hx ho (ht _ hlink) (ht _ hsame) how hn0 hrm hstR (a := b) (cell := cellB) (by rw [hT]; exact c1)
    (fun z h => by rw [h] at c2; cases c2) hselP hmethM habM hkP hkPi (g := F0 m pc ls ((As.reverse ++ vQ (some b) :: st).map gv2)) rfl (argsL := As.map gv2) (rest := st.map gv2) (by
      have := g_len_of hpl rM.sig (hxd ▸ hsigR)
      rw [List.length_map, hn]; exact this) (by show List.map gv2 (As.reverse ++ vQ (some b) :: st) = _; simp [gv2, va_rf]) (by rw [hb]; exact hd)
  obtain ⟨methM', cM, hmethM', hcodeM, hbytesM, hlocalsM, hretM, hnolock, hexM, hsigM⟩ := Cond.code_spec hnamed (ht _ hcode)
  cases hmethM.symm.trans hmethM'
  have hW₁ := X₁.warmed
  have hmk1 : (T.setVm vm₁).vm.method? mk = some methM := by rw [hW₁.alike.method?]; exact hmethM
  have hnamed1 := X₁.named hnamed
  have hsum := gvc_sum st
  have hh0 : (T.setVm vm₁).heap = H := hT
  have hrun := gx_run (E := E) (F := F2) (Lr := L2) (Kv := Kv2) (X := X2) (a := (Value.ref b :: As.map gv2).toArray) X₁ (g := { F0 m pc ls ((As.reverse ++ vQ (some b) :: st).map gv2) with stack := st.map gv2 }) rfl h5.1 (by rw [hb]; exact hd) hmk1 hcodeM hnolock (State.plainMethod.of_named hpf hnamed1 hmk1) (by rw [hRF]; exact hF) (by show 2 * 0 + ((st.map gv2).map fun v => v.category).sum + (cM.maxLocals + 11) + L2 ≤ R.locals; rw [hRL, hlocalsM]; omega) (by rw [hh0, hR1]; omega) (by rw [hh0, hR2]; omega) (fun Y₀ => by
      have hWc : s.WarmedH ((T.setVm vm₁).calling { F0 m pc ls ((As.reverse ++ vQ (some b) :: st).map gv2) with stack := st.map gv2 } mk (Value.ref b :: As.map gv2).toArray).vm := hW₁
      have hws := pay_in (args := args) (s := s) ht (lw_meth hcode)
      have hhc : ((T.setVm vm₁).calling { F0 m pc ls ((As.reverse ++ vQ (some b) :: st).map gv2) with stack := st.map gv2 } mk (Value.ref b :: As.map gv2).toArray).heap = H := hh0
      generalize hsc : (T.setVm vm₁).calling { F0 m pc ls ((As.reverse ++ vQ (some b) :: st).map gv2) with stack := st.map gv2 } mk (Value.ref b :: As.map gv2).toArray = sc at *
      have hnamedC : sc.methodNamed? y = some mk := by rw [← hsc]; exact hnamed1
      have htabM : cM.exceptionTable.toList = tableOf [] := by rw [Array.isEmpty_iff.mp hexM]; rfl
      rw [hh0]
      have hgo := hbody p e { frames := F2, cells := gN E - H.size, slots := gM E - gtot (gB E) H, locals := L2 } sc mk (Value.ref b :: As.map gv2).toArray (.java { F0 m pc ls ((As.reverse ++ vQ (some b) :: st).map gv2) with stack := st.map gv2 } :: below) methM cM
        ⟨hx, hbytesM, findClass_of_methodNamed hnamedC, fun w h => hws w (List.mem_cons_of_mem _ h) _ _ hWc, hKn.moved hWc, hnolock, hlocalsM, hretM, (name_of_methodNamed hnamed hmethM).1, htabM, rfl, rfl, by rw [hhc], by rw [hhc], by rw [hhc]; exact h1.2.1, hfl⟩
      have hl := lv_entry ((vQ (some b) :: As).map gv2) (n := nL2) (by rw [glen_eq]; exact hsz)
      rw [glv_eq] at hl
      have hw := hgo H [] _ h1 (by rw [hhc]; exact Nat.le_refl _) (by rw [hhc]; exact Nat.le_refl _) (fun z hz => by cases hz) (by unfold gLv; rw [hlocalsM]; exact hl)
      rw [hhc, Nat.sub_self, Nat.sub_self] at hw
      have he : entryFrame mk ((vQ (some b) :: As).map gv2).toArray nL2 = _ := lg_entry_eq mk ((vQ (some b) :: As).map gv2) nL2
      rw [hlocalsM]
      show W _ _ _ _ _ _ _ _ _ _ _ _ _ _ _ (entryFrame mk ((vQ (some b) :: As).map gv2).toArray nL2)
      rw [he]
      exact hw)
  rcases hrun with ⟨v, B, X', hpost, hsteps⟩ | ⟨q, B, X', hpost, hsteps⟩
  · exact Or.inl ⟨v, vm₁, B, hW₁, X', hpost, fun target h => hstep₁ _ fun acts => hsteps acts target h⟩
  · exact Or.inr ⟨q, vm₁, B, hW₁, X', hpost, hstep₁ _ fun acts => hsteps acts⟩
end LEAF
