/-! ENDS AND CALLS over the ghost heap (printed by gen/calls.py) -/
set_option maxRecDepth 20000
def gCode (y : MethodName) (b2 : ByteArray) (nL2 : Nat) (rt2 : Option FieldType) (n : Nat) : Prop := Cond.code y b2 nL2 rt2 ∈ lw_all ∧ Cond.initialized y.cls ∈ lw_all ∧ (y.cls ≠ "java/lang/invoke/MethodHandle" ∧ y.cls ≠ "java/lang/invoke/VarHandle") ∧ (parseMethodDescriptor y.desc).map (fun d => d.parameters.length) = some n
def gCodeW (y : MethodName) (b2 : ByteArray) (nL2 : Nat) (rt2 : Option FieldType) (hh2 : List (Nat × Nat × Nat × Nat)) (n : Nat) : Prop := Cond.codeWith y b2 nL2 rt2 hh2 ∈ lw_all ∧ Cond.initialized y.cls ∈ lw_all ∧ (y.cls ≠ "java/lang/invoke/MethodHandle" ∧ y.cls ≠ "java/lang/invoke/VarHandle") ∧ (parseMethodDescriptor y.desc).map (fun d => d.parameters.length) = some n
theorem g_len_of {y : MethodName} {n : Nat} (h : (parseMethodDescriptor y.desc).map (fun d => d.parameters.length) = some n) : ∀ sig, parseMethodDescriptor y.desc = some sig → n = sig.parameters.length := by
  intro sig hs
  rw [hs] at h
  exact (Option.some.inj h).symm
section ENDS
variable {C : gCx} {own : String} {cc : ByteArray} {hh : List (Nat × Nat × Nat × Nat)} {rt : Option FieldType} {nm : String} {nL F L : Nat} {G : gS} {pc : Nat} {lv : List (Nat × gV)} {st : List gV}
theorem g_iret (hC : gOk C own cc hh (some .int) nm nL F L) {x : Int32} (h : cxK C (some (vI x)) G) (hd : decode cc pc = .ok (.ireturn, 1)) : gGo C G pc lv [vI x] := by
  obtain ⟨p, l, e, R, s, m, args, below, meth, c, E, Kv, X⟩ := C
  obtain ⟨hx, hb, -, -, -, hlk, -, hr, -, -, -, -, hR1, hR2, -⟩ := hC
  intro H locs ls h1 h2 h3 h4 h5
  have hA5 := h1.2.2.2.2.1
  have hA6 := h1.2.2.2.2.2
  refine W.widen (k := gN E - s.heap.size) (n := gM E - gtot (gB E) s.heap) (by omega) (by omega) ?_
  have hw := W.iret (s := s) (p := p) (l := l) (e := e) (R := R) (m := m) (args := args) (below := below) (H := H) (locs := locs) (cells := gN E - s.heap.size) (slots := gM E - gtot (gB E) s.heap) (pc := pc) (ls := ls) (Qc := fun _ _ oc t => ∃ (v : Option gV) (G' : gS), oc = .returned (v.map gv2) ∧ Kv v G' ∧ gAR E G' t.heap) (free := fun q => gB E ≤ q) hx hb hr (fun t ht hW => ⟨some (vI x), G, rfl, h, by rw [ht]; exact h1⟩) h4 hd hlk
  intro T hT X0
  obtain ⟨t, a1, oc, b1, b2, ⟨v, G', c1, c2, c3⟩, L9, d1, d2⟩ := hw T hT X0
  exact ⟨t, a1, oc, b1, b2, Or.inl ⟨v, G', c1, c2, c3, L9, d1, d2⟩⟩
theorem g_zret {ty : FieldType} (hC : gOk C own cc hh (some ty) nm nL F L) {x : Int32} (hn : narrow ty (.int x) = .int x) (h : cxK C (some (vI x)) G) (hd : decode cc pc = .ok (.ireturn, 1)) : gGo C G pc lv [vI x] := by
  obtain ⟨p, l, e, R, s, m, args, below, meth, c, E, Kv, X⟩ := C
  obtain ⟨hx, hb, -, -, -, hlk, -, hr, -, -, -, -, hR1, hR2, -⟩ := hC
  intro H locs ls h1 h2 h3 h4 h5
  have hA5 := h1.2.2.2.2.1
  have hA6 := h1.2.2.2.2.2
  refine W.widen (k := gN E - s.heap.size) (n := gM E - gtot (gB E) s.heap) (by omega) (by omega) ?_
  have hw := W.zret (s := s) (p := p) (l := l) (e := e) (R := R) (m := m) (args := args) (below := below) (H := H) (locs := locs) (cells := gN E - s.heap.size) (slots := gM E - gtot (gB E) s.heap) (pc := pc) (ls := ls) (Qc := fun _ _ oc t => ∃ (v : Option gV) (G' : gS), oc = .returned (v.map gv2) ∧ Kv v G' ∧ gAR E G' t.heap) (free := fun q => gB E ≤ q) hx hb hr hn (fun t ht hW => ⟨some (vI x), G, rfl, h, by rw [ht]; exact h1⟩) h4 hd hlk
  intro T hT X0
  obtain ⟨t, a1, oc, b1, b2, ⟨v, G', c1, c2, c3⟩, L9, d1, d2⟩ := hw T hT X0
  exact ⟨t, a1, oc, b1, b2, Or.inl ⟨v, G', c1, c2, c3, L9, d1, d2⟩⟩
theorem g_vret (hC : gOk C own cc hh (none) nm nL F L)  (h : cxK C (none) G) (hd : decode cc pc = .ok (.return_, 1)) : gGo C G pc lv [] := by
  obtain ⟨p, l, e, R, s, m, args, below, meth, c, E, Kv, X⟩ := C
  obtain ⟨hx, hb, -, -, -, hlk, -, hr, -, -, -, -, hR1, hR2, -⟩ := hC
  intro H locs ls h1 h2 h3 h4 h5
  have hA5 := h1.2.2.2.2.1
  have hA6 := h1.2.2.2.2.2
  refine W.widen (k := gN E - s.heap.size) (n := gM E - gtot (gB E) s.heap) (by omega) (by omega) ?_
  have hw := W.vret (s := s) (p := p) (l := l) (e := e) (R := R) (m := m) (args := args) (below := below) (H := H) (locs := locs) (cells := gN E - s.heap.size) (slots := gM E - gtot (gB E) s.heap) (pc := pc) (ls := ls) (Qc := fun _ _ oc t => ∃ (v : Option gV) (G' : gS), oc = .returned (v.map gv2) ∧ Kv v G' ∧ gAR E G' t.heap) (free := fun q => gB E ≤ q) hx hb hr (fun t ht hW => ⟨none, G, rfl, h, by rw [ht]; exact h1⟩) h4 hd hlk
  intro T hT X0
  obtain ⟨t, a1, oc, b1, b2, ⟨v, G', c1, c2, c3⟩, L9, d1, d2⟩ := hw T hT X0
  exact ⟨t, a1, oc, b1, b2, Or.inl ⟨v, G', c1, c2, c3, L9, d1, d2⟩⟩
theorem g_aret {ty : FieldType} (hC : gOk C own cc hh (some ty) nm nL F L) {x : Option Nat} (hty : (∃ n, ty = .object n) ∨ ∃ t, ty = .array t) (h : cxK C (some (vQ x)) G) (hd : decode cc pc = .ok (.areturn, 1)) : gGo C G pc lv [vQ x] := by
  obtain ⟨p, l, e, R, s, m, args, below, meth, c, E, Kv, X⟩ := C
  obtain ⟨hx, hb, -, -, -, hlk, -, hr, -, -, -, -, hR1, hR2, -⟩ := hC
  intro H locs ls h1 h2 h3 h4 h5
  have hA5 := h1.2.2.2.2.1
  have hA6 := h1.2.2.2.2.2
  refine W.widen (k := gN E - s.heap.size) (n := gM E - gtot (gB E) s.heap) (by omega) (by omega) ?_
  have hw := W.aret (s := s) (p := p) (l := l) (e := e) (R := R) (m := m) (args := args) (below := below) (H := H) (locs := locs) (cells := gN E - s.heap.size) (slots := gM E - gtot (gB E) s.heap) (pc := pc) (ls := ls) (Qc := fun _ _ oc t => ∃ (v : Option gV) (G' : gS), oc = .returned (v.map gv2) ∧ Kv v G' ∧ gAR E G' t.heap) (free := fun q => gB E ≤ q) (v := va_rf x) hx hb hr hty (va_rf_or x) (fun t ht hW => ⟨some (vQ x), G, rfl, h, by rw [ht]; exact h1⟩) h4 hd hlk
  intro T hT X0
  obtain ⟨t, a1, oc, b1, b2, ⟨v, G', c1, c2, c3⟩, L9, d1, d2⟩ := hw T hT X0
  exact ⟨t, a1, oc, b1, b2, Or.inl ⟨v, G', c1, c2, c3, L9, d1, d2⟩⟩
theorem g_fret (hC : gOk C own cc hh (some .float) nm nL F L) {x : UInt32} (h : cxK C (some (vF x)) G) (hd : decode cc pc = .ok (.freturn, 1)) : gGo C G pc lv [vF x] := by
  obtain ⟨p, l, e, R, s, m, args, below, meth, c, E, Kv, X⟩ := C
  obtain ⟨hx, hb, -, -, -, hlk, -, hr, -, -, -, -, hR1, hR2, -⟩ := hC
  intro H locs ls h1 h2 h3 h4 h5
  have hA5 := h1.2.2.2.2.1
  have hA6 := h1.2.2.2.2.2
  refine W.widen (k := gN E - s.heap.size) (n := gM E - gtot (gB E) s.heap) (by omega) (by omega) ?_
  have hw := W.fret (s := s) (p := p) (l := l) (e := e) (R := R) (m := m) (args := args) (below := below) (H := H) (locs := locs) (cells := gN E - s.heap.size) (slots := gM E - gtot (gB E) s.heap) (pc := pc) (ls := ls) (Qc := fun _ _ oc t => ∃ (v : Option gV) (G' : gS), oc = .returned (v.map gv2) ∧ Kv v G' ∧ gAR E G' t.heap) (free := fun q => gB E ≤ q) hx hb hr (fun t ht hW => ⟨some (vF x), G, rfl, h, by rw [ht]; exact h1⟩) h4 hd hlk
  intro T hT X0
  obtain ⟨t, a1, oc, b1, b2, ⟨v, G', c1, c2, c3⟩, L9, d1, d2⟩ := hw T hT X0
  exact ⟨t, a1, oc, b1, b2, Or.inl ⟨v, G', c1, c2, c3, L9, d1, d2⟩⟩
theorem g_dret (hC : gOk C own cc hh (some .double) nm nL F L) {x : UInt64} (h : cxK C (some (vD x)) G) (hd : decode cc pc = .ok (.dreturn, 1)) : gGo C G pc lv [vD x] := by
  obtain ⟨p, l, e, R, s, m, args, below, meth, c, E, Kv, X⟩ := C
  obtain ⟨hx, hb, -, -, -, hlk, -, hr, -, -, -, -, hR1, hR2, -⟩ := hC
  intro H locs ls h1 h2 h3 h4 h5
  have hA5 := h1.2.2.2.2.1
  have hA6 := h1.2.2.2.2.2
  refine W.widen (k := gN E - s.heap.size) (n := gM E - gtot (gB E) s.heap) (by omega) (by omega) ?_
  have hw := W.dret (s := s) (p := p) (l := l) (e := e) (R := R) (m := m) (args := args) (below := below) (H := H) (locs := locs) (cells := gN E - s.heap.size) (slots := gM E - gtot (gB E) s.heap) (pc := pc) (ls := ls) (Qc := fun _ _ oc t => ∃ (v : Option gV) (G' : gS), oc = .returned (v.map gv2) ∧ Kv v G' ∧ gAR E G' t.heap) (free := fun q => gB E ≤ q) hx hb hr (fun t ht hW => ⟨some (vD x), G, rfl, h, by rw [ht]; exact h1⟩) h4 hd hlk
  intro T hT X0
  obtain ⟨t, a1, oc, b1, b2, ⟨v, G', c1, c2, c3⟩, L9, d1, d2⟩ := hw T hT X0
  exact ⟨t, a1, oc, b1, b2, Or.inl ⟨v, G', c1, c2, c3, L9, d1, d2⟩⟩
/-- thrown on to the caller -/
theorem g_out (hC : gOk C own cc hh rt nm nL F L) {q : Nat} (hcov : ∀ x ∈ tableOf hh, covers x pc = false) (h : cxX C q G) (hio : gIsO G q) : gTh C G pc lv q := by
  obtain ⟨p, l, e, R, s, m, args, below, meth, c, E, Kv, X⟩ := C
  obtain ⟨hx, hb, -, -, -, hlk, -, hr, -, htab, -, -, hR1, hR2, -⟩ := hC
  intro H locs ls rest h1 h2 h3 h4 h5
  have hA5 := h1.2.2.2.2.1
  have hA6 := h1.2.2.2.2.2
  intro T hT X0
  obtain ⟨st1, hrun, hend, hW, hsm⟩ := X0.leaveThrown q (g := F0 m pc ls rest) rfl rfl rfl (by rw [htab]; exact hcov) hlk
  exact ⟨_, st1, .threw q, hrun, hend, Or.inr ⟨q, G, rfl, h, hio, by show gAR E G T.heap; rw [hT]; exact h1, hW, locs, hsm.mono (by omega) (by omega), h4⟩⟩
theorem g_out0 {rt : Option FieldType} (hC : gOk C own cc [] rt nm nL F L) {q : Nat} (h : cxX C q G) (hio : gIsO G q) : gTh C G pc lv q := g_out hC (fun x hx => by cases hx) h hio
theorem g_athrow (hC : gOk C own cc hh rt nm nL F L) {q : Nat} (hd : decode cc pc = .ok (.athrow, 1)) (hio : gIsO G q) (k : gTh C G pc lv q) : gGo C G pc lv (vQ (some q) :: st) := by
  obtain ⟨p, l, e, R, s, m, args, below, meth, c, E, Kv, X⟩ := C
  obtain ⟨hx, hb, -⟩ := hC
  intro H locs ls h1 h2 h3 h4 h5
  exact vx_athrow hx hb hd (k H locs ls (st.map gv2) h1 h2 h3 h4 h5)
/-- caught by a handler: the rows of the table ahead of it don't cover, or name classes that the object hasn't -/
theorem g_catch (hC : gOk C own cc hh rt nm nL F L) {q ci : Nat} {r : vw_C} (hr : gCl[ci]? = some r) (hio : gIs G q ci) (hnew : ∃ fs, G.1 q = some (gO true ci fs)) (pre : List ExceptionTableEntry) (x : ExceptionTableEntry) (suf : List ExceptionTableEntry) (hsplit : tableOf hh = pre ++ x :: suf)
    (hpass : ∀ z ∈ pre, covers z pc = false ∨ (z.catchType ≠ 0 ∧ ∃ nm9 : String, Cond.classLink own z.catchType nm9 ∈ lw_all ∧ (r.1, nm9) ∈ gNcL)) (hx9 : covers x pc = true) (h0 : x.catchType ≠ 0) {nmc : String}
    (hlink : Cond.classLink own x.catchType nmc ∈ lw_all) {hp : Nat} (hcast : (r.1, nmc) ∈ gNwC) (hpc : x.handlerPc = hp) (k : gGo C G hp lv [vQ (some q)]) : gTh C G pc lv q := by
  obtain ⟨p, l, e, R, s, m, args, below, meth, c, E, Kv, X⟩ := C
  obtain ⟨hx, hb, ho, ht, hKn, -, -, -, -, htab, -⟩ := hC
  intro H locs ls rest h1 h2 h3 h4 h5
  obtain ⟨fs, hfs⟩ := hnew
  obtain ⟨-, cell, r', e1, e2, e3, e4, e5, e6, -⟩ := h1.1 q _ hfs
  cases hr.symm.trans e2
  subst hpc
  exact vx_catch (E := r.1) (name := nmc) (ce := cell) ho pre x suf (by rw [htab]; exact hsplit) (fun z hz => by
    rcases hpass z hz with h | ⟨g1, nm9, g2, g3⟩
    · exact Or.inl h
    · exact Or.inr ⟨g1, nm9, ht _ g2, hKn.2.2.2.2.2.2.2.1 _ g3⟩) hx9 h0 (ht _ hlink) (va_Nw.use (A := args) rfl (hKn.2.2.2.2.2.1 _ hcast)) e1 (e6 rfl).1 (by rw [e3]; exact (hKn.1 ci r hr).1) (k H locs ls h1 h2 h3 h4 h5)
end ENDS
section AFTER
variable {p : Program} {l : Launch} {e : Env} {R : Room} {s : State} {m : MethodId} {args : Array Value} {below : List Frame} {meth : Method} {c : Code} {E : gE} {Kv : Option gV → gS → Prop} {X : Nat → gS → Prop}
theorem g_after {T : State} {locs : List Loc} {cells slots pc d : Nat} {ls : Array Slot} {stk rest : List Value} {av : Array Value} {st : List gV} {lv : List (Nat × gV)} {Kv2 : Option gV → gS → Prop} {X2 : Nat → gS → Prop} (hb : gB E ≤ s.heap.size) (h4 : ∀ z ∈ locs, gB E ≤ z.base) (h5 : gLv ls c.maxLocals lv)
    (hres : (∃ (v : Option Value) (vm₁ : Vm) (B : Pt), s.WarmedH vm₁ ∧ Stand p l e R s m args below meth c B.U B.locs B.cells B.slots ∧ gPost E Kv2 ⟨T.setVm vm₁, locs, cells, slots⟩ av v B ∧
      ∀ target, Steps p.tables e below (B.U.setTop { F0 m pc ls stk with pc := (F0 m pc ls stk).pc + d, stack := v.toList ++ rest }) target → Steps p.tables e below (T.setTop (F0 m pc ls stk)) target) ∨
    (∃ (q : Addr) (vm₁ : Vm) (B : Pt), s.WarmedH vm₁ ∧ Stand p l e R s m args below meth c B.U B.locs B.cells B.slots ∧ gPostX E X2 ⟨T.setVm vm₁, locs, cells, slots⟩ av q B ∧
      Steps p.tables e below (T.setTop (F0 m pc ls stk)) ((B.U.setTop { F0 m pc ls stk with stack := rest }).pushFrame (.throwing q))))
    (hrest : rest = st.map gv2) (kk : ∀ w G', Kv2 w G' → gGo (p, l, e, R, s, m, args, below, meth, c, E, Kv, X) G' (pc + d) lv (w.toList ++ st)) (kx : ∀ q G', X2 q G' → gIsO G' q → gTh (p, l, e, R, s, m, args, below, meth, c, E, Kv, X) G' pc lv q) :
    ∃ t, Steps p.tables e below (T.setTop (F0 m pc ls stk)) t ∧ gMQ E Kv X below args s t := by
  rcases hres with ⟨v, vm₁, B, -, X0, ⟨w, G', rfl, hk, hA', L9, hl, hL⟩, hst⟩ | ⟨q, vm₁, B, -, X0, ⟨G', hk, hio, hA', L9, hl, hL⟩, hst⟩
  · obtain ⟨t1, t2, X'⟩ := g_tight hb X0
    obtain ⟨t, a1, b1⟩ := kk w G' hk B.U.heap B.locs ls hA' t1 t2 (fun z hz => by
      rw [hl] at hz
      rcases List.mem_append.mp hz with h | h
      · exact h4 z h
      · exact hL z h) h5 B.U rfl X'
    refine ⟨t, hst t ?_, b1⟩
    have : ({ F0 m pc ls stk with pc := (F0 m pc ls stk).pc + d, stack := (w.map gv2).toList ++ rest } : JFrame) = F0 m (pc + d) ls ((w.toList ++ st).map gv2) := by
      rw [hrest]
      cases w <;> rfl
    rw [this]
    exact a1
  · obtain ⟨t1, t2, X'⟩ := g_tight hb X0
    obtain ⟨t, a1, b1⟩ := kx q G' hk hio B.U.heap B.locs ls rest hA' t1 t2 (fun z hz => by
      rw [hl] at hz
      rcases List.mem_append.mp hz with h | h
      · exact h4 z h
      · exact hL z h) h5 B.U rfl X'
    exact ⟨t, hst.trans a1, b1⟩
theorem g_pre {T : State} {H : Heap} {locs : List Loc} {G : gS} {av : List gV} (hT : T.heap = H) (h1 : gAR E G H) (h2 : s.heap.size ≤ H.size) (h3 : gtot (gB E) s.heap ≤ gtot (gB E) H) (hKn : gKn E s) (hR1 : R.cells = gN E - s.heap.size) (hR2 : R.slots = gM E - gtot (gB E) s.heap) (vm₁ : Vm) (hW : s.WarmedH vm₁) :
    gPre s R E G av ⟨T.setVm vm₁, locs, H.size - s.heap.size, gtot (gB E) H - gtot (gB E) s.heap⟩ (av.map gv2).toArray := by
  have hh : (T.setVm vm₁).heap = H := hT
  refine ⟨rfl, ?_, gKn.moved hW hKn, ?_, ?_, ?_, ?_, hR1, hR2⟩
  · show gAR E G (T.setVm vm₁).heap; rw [hh]; exact h1
  · show s.heap.size ≤ (T.setVm vm₁).heap.size; rw [hh]; exact h2
  · show gtot (gB E) s.heap ≤ gtot (gB E) (T.setVm vm₁).heap; rw [hh]; exact h3
  · show _ = (T.setVm vm₁).heap.size - _; rw [hh]
  · show _ = gtot (gB E) (T.setVm vm₁).heap - _; rw [hh]
theorem g_backC {y : MethodName} {b2 : ByteArray} {nL2 F2 L2 n len : Nat} {rt2 : Option FieldType} {av : List gV} {G : gS} {Kv2 : Option gV → gS → Prop} {X2 : Nat → gS → Prop} (ht : ∀ w ∈ lw_all, w.before args s = true) (hc : gCode y b2 nL2 rt2 n) (hM : gMet l y (ws_ y b2 nL2 rt2) F2 L2 av E G Kv2 X2) (hF : F2 + 1 ≤ R.frames) (hL : 16 + (nL2 + 11) + L2 ≤ R.locals) :
    vx_Back l R p e below s args y len 16 (gPre s R E G av) (gPost E Kv2) (gPostX E X2) := by
  obtain ⟨h1, h2, h3, h4⟩ := hc
  have hws := pay_in (args := args) (s := s) ht (lw_meth h1)
  refine g_back hM hF hL hws (fun a' U mk hW hn => ?_) (fun a' U hW => word_at hW (Or.inl (by first | rfl | simp [Cond.onTables, Cond.keeps, Cond.steady])) (ht _ h2))
  obtain ⟨methY, cY, q1, q2, -, q3, -⟩ := Cond.code_spec hn (hws _ List.mem_cons_self a' U hW)
  exact ⟨methY, cY, q1, q2, q3⟩
theorem g_backCW {y : MethodName} {b2 : ByteArray} {nL2 F2 L2 n len : Nat} {rt2 : Option FieldType} {hh2 : List (Nat × Nat × Nat × Nat)} {av : List gV} {G : gS} {Kv2 : Option gV → gS → Prop} {X2 : Nat → gS → Prop} (ht : ∀ w ∈ lw_all, w.before args s = true) (hc : gCodeW y b2 nL2 rt2 hh2 n) (hM : gMet l y (wsW_ y b2 nL2 rt2 hh2) F2 L2 av E G Kv2 X2) (hF : F2 + 1 ≤ R.frames) (hL : 16 + (nL2 + 11) + L2 ≤ R.locals) :
    vx_Back l R p e below s args y len 16 (gPre s R E G av) (gPost E Kv2) (gPostX E X2) := by
  obtain ⟨h1, h2, h3, h4⟩ := hc
  have hws := pay_in (args := args) (s := s) ht (lw_methW h1)
  refine g_back hM hF hL hws (fun a' U mk hW hn => ?_) (fun a' U hW => word_at hW (Or.inl (by first | rfl | simp [Cond.onTables, Cond.keeps, Cond.steady])) (ht _ h2))
  obtain ⟨m9, methY, cY, hn9, q1, q2, -, q3, -⟩ := Cond.codeWith_spec (hws _ List.mem_cons_self a' U hW)
  cases Option.some.inj (hn9.symm.trans hn)
  exact ⟨methY, cY, q1, q2, q3⟩
theorem g_room {m : MethodId} {pc : Nat} {ls : Array Slot} {stk : List Value} {st : List gV} (h : st.length ≤ 8) : 2 * (F0 m pc ls stk).monitorRoom + ((st.map gv2).map fun v => v.category).sum ≤ 16 := by
  have := gvc_sum st
  show 2 * 0 + _ ≤ 16
  omega
end AFTER
section CALLS
variable {C : gCx} {own : String} {cc : ByteArray} {hh : List (Nat × Nat × Nat × Nat)} {rt : Option FieldType} {nm : String} {nL F L : Nat} {G : gS} {pc : Nat} {lv : List (Nat × gV)} {st stk : List gV}
variable {y : MethodName} {b2 : ByteArray} {nL2 F2 L2 n index : Nat} {rt2 : Option FieldType} {hh2 : List (Nat × Nat × Nat × Nat)} {Kv2 : Option gV → gS → Prop} {X2 : Nat → gS → Prop} {av As : List gV}
theorem g_callS (hC : gOk C own cc hh rt nm nL F L) {b : Nat} (hcd : gCode y b2 nL2 rt2 n) (hM : gMet (cxL C) y (ws_ y b2 nL2 rt2) F2 L2 As (cxE C) G Kv2 X2) (hlink : Cond.methodLink own index y ∈ lw_all) (hstat : Cond.static y ∈ lw_all) (hF : F2 + 1 ≤ F) (hL : 16 + (nL2 + 11) + L2 ≤ L) (hn : As.length = n) (hst : st.length ≤ 8) (hs : As.reverse ++ st = stk) (hd : decode cc pc = .ok (.invokestatic index, 3)) (kk : ∀ w G', Kv2 w G' → gGo C G' (pc + 3) lv (w.toList ++ st)) (kx : ∀ q G', X2 q G' → gIsO G' q → gTh C G' pc lv q) : gGo C G pc lv stk := by
  obtain ⟨p, l, e, R, s, m, args, below, meth, c, E, Kv, X⟩ := C
  obtain ⟨hx, hb, ho, ht, hKn, hlk, hm, hr, hmn, htab, hRF, hRL, hR1, hR2, hbs, hfl⟩ := hC
  subst hs
  intro H locs ls h1 h2 h3 h4 h5
  intro T hT X0
  refine g_after (st := st) (lv := lv) hbs h4 h5 (vx_callS X0 hx (bytes := b2) (maxL := nL2) (ret := rt2) ho (ht _ hlink) (ht _ hstat) (ht _ hcd.2.1) (ht _ hcd.1) hcd.2.2.1 (g_backC ht hcd hM (by rw [hRF]; exact hF) (by rw [hRL]; exact hL)) (g := F0 m pc ls _) rfl (by show ls.size = _; exact h5.1) (argsL := As.map gv2) (rest := st.map gv2) (fun sig h => by rw [List.length_map, hn]; exact g_len_of hcd.2.2.2 sig h) (by show List.map gv2 (As.reverse ++ st) = _; simp) (g_room hst) (by rw [hb]; exact hd) (fun vm₁ hW => g_pre (av := As) hT h1 h2 h3 hKn hR1 hR2 vm₁ hW)) rfl kk kx
theorem g_callV (hC : gOk C own cc hh rt nm nL F L) {b : Nat} (hcd : gCode y b2 nL2 rt2 n) (hM : gMet (cxL C) y (ws_ y b2 nL2 rt2) F2 L2 (vQ (some b) :: As) (cxE C) G Kv2 X2) {r : vw_C} {ci : Nat} (hrr : gCl[ci]? = some r) (his : gIs G b ci) (hlink : Cond.methodLink own index y ∈ lw_all) (hinst : Cond.instanceMethod y ∈ lw_all) (hsel : Cond.selects r.1 y y ∈ lw_all) (hF : F2 + 1 ≤ F) (hL : 16 + (nL2 + 11) + L2 ≤ L) (hn : As.length = n) (hst : st.length ≤ 8) (hs : As.reverse ++ vQ (some b) :: st = stk) (hd : decode cc pc = .ok (.invokevirtual index, 3)) (kk : ∀ w G', Kv2 w G' → gGo C G' (pc + 3) lv (w.toList ++ st)) (kx : ∀ q G', X2 q G' → gIsO G' q → gTh C G' pc lv q) : gGo C G pc lv stk := by
  obtain ⟨p, l, e, R, s, m, args, below, meth, c, E, Kv, X⟩ := C
  obtain ⟨hx, hb, ho, ht, hKn, hlk, hm, hr, hmn, htab, hRF, hRL, hR1, hR2, hbs, hfl⟩ := hC
  subst hs
  intro H locs ls h1 h2 h3 h4 h5
  intro T hT X0
  obtain ⟨cellB, c1, c2, c3⟩ := his.cell h1 hrr hKn
  refine g_after (st := st) (lv := lv) hbs h4 h5 (vx_callV X0 hx (C := r.1) (bytes := b2) (maxL := nL2) (ret := rt2) ho (ht _ hlink) (ht _ hinst) (ht _ hsel) (ht _ hcd.1) hcd.2.2.1 (g_backC ht hcd hM (by rw [hRF]; exact hF) (by rw [hRL]; exact hL)) (by rw [hT]; exact c1) c2 c3 (g := F0 m pc ls _) rfl (by show ls.size = _; exact h5.1) (argsL := As.map gv2) (rest := st.map gv2) (fun sig h => by rw [List.length_map, hn]; exact g_len_of hcd.2.2.2 sig h) (by show List.map gv2 (As.reverse ++ vQ (some b) :: st) = _; simp [gv2, va_rf]) (g_room hst) (by rw [hb]; exact hd) (fun vm₁ hW => g_pre (av := vQ (some b) :: As) hT h1 h2 h3 hKn hR1 hR2 vm₁ hW)) rfl kk kx
theorem g_callSW (hC : gOk C own cc hh rt nm nL F L) {b : Nat} (hcd : gCodeW y b2 nL2 rt2 hh2 n) (hM : gMet (cxL C) y (wsW_ y b2 nL2 rt2 hh2) F2 L2 As (cxE C) G Kv2 X2) (hlink : Cond.methodLink own index y ∈ lw_all) (hstat : Cond.static y ∈ lw_all) (hF : F2 + 1 ≤ F) (hL : 16 + (nL2 + 11) + L2 ≤ L) (hn : As.length = n) (hst : st.length ≤ 8) (hs : As.reverse ++ st = stk) (hd : decode cc pc = .ok (.invokestatic index, 3)) (kk : ∀ w G', Kv2 w G' → gGo C G' (pc + 3) lv (w.toList ++ st)) (kx : ∀ q G', X2 q G' → gIsO G' q → gTh C G' pc lv q) : gGo C G pc lv stk := by
  obtain ⟨p, l, e, R, s, m, args, below, meth, c, E, Kv, X⟩ := C
  obtain ⟨hx, hb, ho, ht, hKn, hlk, hm, hr, hmn, htab, hRF, hRL, hR1, hR2, hbs, hfl⟩ := hC
  subst hs
  intro H locs ls h1 h2 h3 h4 h5
  intro T hT X0
  refine g_after (st := st) (lv := lv) hbs h4 h5 (vx_callSX (hh := hh2) X0 hx (bytes := b2) (maxL := nL2) (ret := rt2) ho (ht _ hlink) (ht _ hstat) (ht _ hcd.2.1) (ht _ hcd.1) hcd.2.2.1 (g_backCW ht hcd hM (by rw [hRF]; exact hF) (by rw [hRL]; exact hL)) (g := F0 m pc ls _) rfl (by show ls.size = _; exact h5.1) (argsL := As.map gv2) (rest := st.map gv2) (fun sig h => by rw [List.length_map, hn]; exact g_len_of hcd.2.2.2 sig h) (by show List.map gv2 (As.reverse ++ st) = _; simp) (g_room hst) (by rw [hb]; exact hd) (fun vm₁ hW => g_pre (av := As) hT h1 h2 h3 hKn hR1 hR2 vm₁ hW)) rfl kk kx
theorem g_callVW (hC : gOk C own cc hh rt nm nL F L) {b : Nat} (hcd : gCodeW y b2 nL2 rt2 hh2 n) (hM : gMet (cxL C) y (wsW_ y b2 nL2 rt2 hh2) F2 L2 (vQ (some b) :: As) (cxE C) G Kv2 X2) {r : vw_C} {ci : Nat} (hrr : gCl[ci]? = some r) (his : gIs G b ci) (hlink : Cond.methodLink own index y ∈ lw_all) (hinst : Cond.instanceMethod y ∈ lw_all) (hsel : Cond.selects r.1 y y ∈ lw_all) (hF : F2 + 1 ≤ F) (hL : 16 + (nL2 + 11) + L2 ≤ L) (hn : As.length = n) (hst : st.length ≤ 8) (hs : As.reverse ++ vQ (some b) :: st = stk) (hd : decode cc pc = .ok (.invokevirtual index, 3)) (kk : ∀ w G', Kv2 w G' → gGo C G' (pc + 3) lv (w.toList ++ st)) (kx : ∀ q G', X2 q G' → gIsO G' q → gTh C G' pc lv q) : gGo C G pc lv stk := by
  obtain ⟨p, l, e, R, s, m, args, below, meth, c, E, Kv, X⟩ := C
  obtain ⟨hx, hb, ho, ht, hKn, hlk, hm, hr, hmn, htab, hRF, hRL, hR1, hR2, hbs, hfl⟩ := hC
  subst hs
  intro H locs ls h1 h2 h3 h4 h5
  intro T hT X0
  obtain ⟨cellB, c1, c2, c3⟩ := his.cell h1 hrr hKn
  refine g_after (st := st) (lv := lv) hbs h4 h5 (vx_callVX (hh := hh2) X0 hx (C := r.1) (bytes := b2) (maxL := nL2) (ret := rt2) ho (ht _ hlink) (ht _ hinst) (ht _ hsel) (ht _ hcd.1) hcd.2.2.1 (g_backCW ht hcd hM (by rw [hRF]; exact hF) (by rw [hRL]; exact hL)) (by rw [hT]; exact c1) c2 c3 (g := F0 m pc ls _) rfl (by show ls.size = _; exact h5.1) (argsL := As.map gv2) (rest := st.map gv2) (fun sig h => by rw [List.length_map, hn]; exact g_len_of hcd.2.2.2 sig h) (by show List.map gv2 (As.reverse ++ vQ (some b) :: st) = _; simp [gv2, va_rf]) (g_room hst) (by rw [hb]; exact hd) (fun vm₁ hW => g_pre (av := vQ (some b) :: As) hT h1 h2 h3 hKn hR1 hR2 vm₁ hW)) rfl kk kx
theorem g_callI (hC : gOk C own cc hh rt nm nL F L) {b : Nat} (hcd : gCode y b2 nL2 none n) (hM : gMet (cxL C) y (ws_ y b2 nL2 none) F2 L2 (vQ (some b) :: As) (cxE C) G Kv2 X2) (hy1 : y.name = "<init>") (hlink : Cond.methodLink own index y ∈ lw_all) (hinst : Cond.instanceMethod y ∈ lw_all) (hF : F2 + 1 ≤ F) (hL : 16 + (nL2 + 11) + L2 ≤ L) (hn : As.length = n) (hst : st.length ≤ 8) (hs : As.reverse ++ vQ (some b) :: st = stk) (hd : decode cc pc = .ok (.invokespecial index, 3)) (kk : ∀ w G', Kv2 w G' → gGo C G' (pc + 3) lv (w.toList ++ st)) (kx : ∀ q G', X2 q G' → gIsO G' q → gTh C G' pc lv q) : gGo C G pc lv stk := by
  obtain ⟨p, l, e, R, s, m, args, below, meth, c, E, Kv, X⟩ := C
  obtain ⟨hx, hb, ho, ht, hKn, hlk, hm, hr, hmn, htab, hRF, hRL, hR1, hR2, hbs, hfl⟩ := hC
  subst hs
  intro H locs ls h1 h2 h3 h4 h5
  intro T hT X0
  refine g_after (st := st) (lv := lv) hbs h4 h5 (vx_callI X0 hx (bytes := b2) (maxL := nL2) ho hy1 (ht _ hlink) (ht _ hinst) (ht _ hcd.1) hcd.2.2.1 (g_backC ht hcd hM (by rw [hRF]; exact hF) (by rw [hRL]; exact hL)) (g := F0 m pc ls _) rfl (by show ls.size = _; exact h5.1) (a := b) (argsL := As.map gv2) (rest := st.map gv2) (fun sig h => by rw [List.length_map, hn]; exact g_len_of hcd.2.2.2 sig h) (by show List.map gv2 (As.reverse ++ vQ (some b) :: st) = _; simp [gv2, va_rf]) (g_room hst) (by rw [hb]; exact hd) (fun vm₁ hW => g_pre (av := vQ (some b) :: As) hT h1 h2 h3 hKn hR1 hR2 vm₁ hW)) rfl kk kx
theorem g_callIN (hC : gOk C own cc hh rt nm nL F L) {b : Nat} (hcd : gCode y b2 nL2 none n) (hM : gMet (cxL C) y (ws_ y b2 nL2 none) F2 L2 (vQ (some b) :: As) (cxE C) G Kv2 X2) (hy1 : y.name = "<init>") {host : String} (hlink : (own, index, y, host) ∈ gNwM) (hinst : Cond.instanceMethod y ∈ lw_all) (hF : F2 + 1 ≤ F) (hL : 16 + (nL2 + 11) + L2 ≤ L) (hn : As.length = n) (hst : st.length ≤ 8) (hs : As.reverse ++ vQ (some b) :: st = stk) (hd : decode cc pc = .ok (.invokespecial index, 3)) (kk : ∀ w G', Kv2 w G' → gGo C G' (pc + 3) lv (w.toList ++ st)) (kx : ∀ q G', X2 q G' → gIsO G' q → gTh C G' pc lv q) : gGo C G pc lv stk := by
  obtain ⟨p, l, e, R, s, m, args, below, meth, c, E, Kv, X⟩ := C
  obtain ⟨hx, hb, ho, ht, hKn, hlk, hm, hr, hmn, htab, hRF, hRL, hR1, hR2, hbs, hfl⟩ := hC
  subst hs
  intro H locs ls h1 h2 h3 h4 h5
  intro T hT X0
  refine g_after (st := st) (lv := lv) hbs h4 h5 (vx_callIN X0 hx (bytes := b2) (maxL := nL2) ho hy1 (va_Nw.use (A := args) rfl (hKn.2.2.2.2.1 _ hlink)) (ht _ hinst) (ht _ hcd.1) hcd.2.2.1 (g_backC ht hcd hM (by rw [hRF]; exact hF) (by rw [hRL]; exact hL)) (g := F0 m pc ls _) rfl (by show ls.size = _; exact h5.1) (a := b) (argsL := As.map gv2) (rest := st.map gv2) (fun sig h => by rw [List.length_map, hn]; exact g_len_of hcd.2.2.2 sig h) (by show List.map gv2 (As.reverse ++ vQ (some b) :: st) = _; simp [gv2, va_rf]) (g_room hst) (by rw [hb]; exact hd) (fun vm₁ hW => g_pre (av := vQ (some b) :: As) hT h1 h2 h3 hKn hR1 hR2 vm₁ hW)) rfl kk kx
theorem g_callVN (hC : gOk C own cc hh rt nm nL F L) {b : Nat} (hcd : gCode y b2 nL2 rt2 n) (hM : gMet (cxL C) y (ws_ y b2 nL2 rt2) F2 L2 (vQ (some b) :: As) (cxE C) G Kv2 X2) {r : vw_C} {ci : Nat} (hrr : gCl[ci]? = some r) (his : gIs G b ci) {host : String} (hlink : (own, index, y, host) ∈ gNwM) (hinst : Cond.instanceMethod y ∈ lw_all) (hsel : Cond.selects r.1 y y ∈ lw_all) (hF : F2 + 1 ≤ F) (hL : 16 + (nL2 + 11) + L2 ≤ L) (hn : As.length = n) (hst : st.length ≤ 8) (hs : As.reverse ++ vQ (some b) :: st = stk) (hd : decode cc pc = .ok (.invokevirtual index, 3)) (kk : ∀ w G', Kv2 w G' → gGo C G' (pc + 3) lv (w.toList ++ st)) (kx : ∀ q G', X2 q G' → gIsO G' q → gTh C G' pc lv q) : gGo C G pc lv stk := by
  obtain ⟨p, l, e, R, s, m, args, below, meth, c, E, Kv, X⟩ := C
  obtain ⟨hx, hb, ho, ht, hKn, hlk, hm, hr, hmn, htab, hRF, hRL, hR1, hR2, hbs, hfl⟩ := hC
  subst hs
  intro H locs ls h1 h2 h3 h4 h5
  intro T hT X0
  obtain ⟨cellB, c1, c2, c3⟩ := his.cell h1 hrr hKn
  refine g_after (st := st) (lv := lv) hbs h4 h5 (vx_callVN X0 hx (C := r.1) (bytes := b2) (maxL := nL2) (ret := rt2) ho (va_Nw.use (A := args) rfl (hKn.2.2.2.2.1 _ hlink)) (ht _ hinst) (ht _ hsel) (ht _ hcd.1) hcd.2.2.1 (g_backC ht hcd hM (by rw [hRF]; exact hF) (by rw [hRL]; exact hL)) (by rw [hT]; exact c1) c2 c3 (g := F0 m pc ls _) rfl (by show ls.size = _; exact h5.1) (argsL := As.map gv2) (rest := st.map gv2) (fun sig h => by rw [List.length_map, hn]; exact g_len_of hcd.2.2.2 sig h) (by show List.map gv2 (As.reverse ++ vQ (some b) :: st) = _; simp [gv2, va_rf]) (g_room hst) (by rw [hb]; exact hd) (fun vm₁ hW => g_pre (av := vQ (some b) :: As) hT h1 h2 h3 hKn hR1 hR2 vm₁ hW)) rfl kk kx
theorem g_callSN (hC : gOk C own cc hh rt nm nL F L) {b : Nat} (hcd : gCode y b2 nL2 rt2 n) (hM : gMet (cxL C) y (ws_ y b2 nL2 rt2) F2 L2 As (cxE C) G Kv2 X2) {host : String} (hlink : (own, index, y, host) ∈ gNwM) (hstat : Cond.static y ∈ lw_all) (hF : F2 + 1 ≤ F) (hL : 16 + (nL2 + 11) + L2 ≤ L) (hn : As.length = n) (hst : st.length ≤ 8) (hs : As.reverse ++ st = stk) (hd : decode cc pc = .ok (.invokestatic index, 3)) (kk : ∀ w G', Kv2 w G' → gGo C G' (pc + 3) lv (w.toList ++ st)) (kx : ∀ q G', X2 q G' → gIsO G' q → gTh C G' pc lv q) : gGo C G pc lv stk := by
  obtain ⟨p, l, e, R, s, m, args, below, meth, c, E, Kv, X⟩ := C
  obtain ⟨hx, hb, ho, ht, hKn, hlk, hm, hr, hmn, htab, hRF, hRL, hR1, hR2, hbs, hfl⟩ := hC
  subst hs
  intro H locs ls h1 h2 h3 h4 h5
  intro T hT X0
  refine g_after (st := st) (lv := lv) hbs h4 h5 (vx_callSN X0 hx (bytes := b2) (maxL := nL2) (ret := rt2) ho (va_Nw.use (A := args) rfl (hKn.2.2.2.2.1 _ hlink)) (ht _ hstat) (ht _ hcd.2.1) (ht _ hcd.1) hcd.2.2.1 (g_backC ht hcd hM (by rw [hRF]; exact hF) (by rw [hRL]; exact hL)) (g := F0 m pc ls _) rfl (by show ls.size = _; exact h5.1) (argsL := As.map gv2) (rest := st.map gv2) (fun sig h => by rw [List.length_map, hn]; exact g_len_of hcd.2.2.2 sig h) (by show List.map gv2 (As.reverse ++ st) = _; simp) (g_room hst) (by rw [hb]; exact hd) (fun vm₁ hW => g_pre (av := As) hT h1 h2 h3 hKn hR1 hR2 vm₁ hW)) rfl kk kx
theorem g_callU (hC : gOk C own cc hh rt nm nL F L) {b : Nat} (hcd : gCode y b2 nL2 rt2 n) (hM : gMet (cxL C) y (ws_ y b2 nL2 rt2) F2 L2 (vQ (some b) :: As) (cxE C) G Kv2 X2) {x : MethodName} {owner : String} {r : vw_C} {ci : Nat} (hrr : gCl[ci]? = some r) (his : gIs G b ci) (hlink : Cond.methodLink own index x ∈ lw_all) (hsame : Cond.sameMethod x.cls owner x.name x.desc ∈ lw_all) (hinD : Cond.instanceMethod ⟨owner, x.name, x.desc⟩ ∈ lw_all) {bD : ByteArray} {nD : Nat} {rD : Option FieldType} (hcoD : Cond.code ⟨owner, x.name, x.desc⟩ bD nD rD ∈ lw_all) (how : owner ≠ "java/lang/invoke/MethodHandle" ∧ owner ≠ "java/lang/invoke/VarHandle") (hxd : x.desc = y.desc) (hsel : Cond.selects r.1 x y ∈ lw_all) (hinst : Cond.instanceMethod y ∈ lw_all) (hF : F2 + 1 ≤ F) (hL : 16 + (nL2 + 11) + L2 ≤ L) (hn : As.length = n) (hst : st.length ≤ 8) (hs : As.reverse ++ vQ (some b) :: st = stk) (hd : decode cc pc = .ok (.invokevirtual index, 3)) (kk : ∀ w G', Kv2 w G' → gGo C G' (pc + 3) lv (w.toList ++ st)) (kx : ∀ q G', X2 q G' → gIsO G' q → gTh C G' pc lv q) : gGo C G pc lv stk := by
  obtain ⟨p, l, e, R, s, m, args, below, meth, c, E, Kv, X⟩ := C
  obtain ⟨hx, hb, ho, ht, hKn, hlk, hm, hr, hmn, htab, hRF, hRL, hR1, hR2, hbs, hfl⟩ := hC
  subst hs
  intro H locs ls h1 h2 h3 h4 h5
  intro T hT X0
  obtain ⟨cellB, c1, c2, c3⟩ := his.cell h1 hrr hKn
  refine g_after (st := st) (lv := lv) hbs h4 h5 (vx_callVU X0 hx (C := r.1) (owner := owner) (x := x) (bytes := b2) (maxL := nL2) (ret := rt2) ho (ht _ hlink) (ht _ hsame) (va_Decl.of (ht _ hinD) (ht _ hcoD)) how (ht _ hsel) (ht _ hinst) (ht _ hcd.1) (g_backC ht hcd hM (by rw [hRF]; exact hF) (by rw [hRL]; exact hL)) (by rw [hT]; exact c1) c2 c3 (g := F0 m pc ls _) rfl (by show ls.size = _; exact h5.1) (argsL := As.map gv2) (rest := st.map gv2) (fun sig h => by rw [List.length_map, hn]; exact g_len_of hcd.2.2.2 sig (hxd ▸ h)) (by show List.map gv2 (As.reverse ++ vQ (some b) :: st) = _; simp [gv2, va_rf]) (g_room hst) (by rw [hb]; exact hd) (fun vm₁ hW => g_pre (av := vQ (some b) :: As) hT h1 h2 h3 hKn hR1 hR2 vm₁ hW)) rfl kk kx
theorem g_callA (hC : gOk C own cc hh rt nm nL F L) {b : Nat} (hcd : gCode y b2 nL2 rt2 n) (hM : gMet (cxL C) y (ws_ y b2 nL2 rt2) F2 L2 (vQ (some b) :: As) (cxE C) G Kv2 X2) {x : MethodName} {owner : String} {r : vw_C} {ci : Nat} (hrr : gCl[ci]? = some r) (his : gIs G b ci) (hlink : Cond.methodLink own index x ∈ lw_all) (hsame : Cond.sameMethod x.cls owner x.name x.desc ∈ lw_all) (hdcl : (⟨owner, x.name, x.desc⟩ : MethodName) ∈ gDcl) (how : owner ≠ "java/lang/invoke/MethodHandle" ∧ owner ≠ "java/lang/invoke/VarHandle") (hxd : x.desc = y.desc) (hsel : Cond.selects r.1 x y ∈ lw_all) (hinst : Cond.instanceMethod y ∈ lw_all) (hF : F2 + 1 ≤ F) (hL : 16 + (nL2 + 11) + L2 ≤ L) (hn : As.length = n) (hst : st.length ≤ 8) (hs : As.reverse ++ vQ (some b) :: st = stk) (hd : decode cc pc = .ok (.invokevirtual index, 3)) (kk : ∀ w G', Kv2 w G' → gGo C G' (pc + 3) lv (w.toList ++ st)) (kx : ∀ q G', X2 q G' → gIsO G' q → gTh C G' pc lv q) : gGo C G pc lv stk := by
  obtain ⟨p, l, e, R, s, m, args, below, meth, c, E, Kv, X⟩ := C
  obtain ⟨hx, hb, ho, ht, hKn, hlk, hm, hr, hmn, htab, hRF, hRL, hR1, hR2, hbs, hfl⟩ := hC
  subst hs
  intro H locs ls h1 h2 h3 h4 h5
  intro T hT X0
  obtain ⟨cellB, c1, c2, c3⟩ := his.cell h1 hrr hKn
  refine g_after (st := st) (lv := lv) hbs h4 h5 (vx_callVU X0 hx (C := r.1) (owner := owner) (x := x) (bytes := b2) (maxL := nL2) (ret := rt2) ho (ht _ hlink) (ht _ hsame) (va_Decl.abs (hKn.2.2.2.2.2.2.2.2.1 _ hdcl)) how (ht _ hsel) (ht _ hinst) (ht _ hcd.1) (g_backC ht hcd hM (by rw [hRF]; exact hF) (by rw [hRL]; exact hL)) (by rw [hT]; exact c1) c2 c3 (g := F0 m pc ls _) rfl (by show ls.size = _; exact h5.1) (argsL := As.map gv2) (rest := st.map gv2) (fun sig h => by rw [List.length_map, hn]; exact g_len_of hcd.2.2.2 sig (hxd ▸ h)) (by show List.map gv2 (As.reverse ++ vQ (some b) :: st) = _; simp [gv2, va_rf]) (g_room hst) (by rw [hb]; exact hd) (fun vm₁ hW => g_pre (av := vQ (some b) :: As) hT h1 h2 h3 hKn hR1 hR2 vm₁ hW)) rfl kk kx
theorem g_callSU (hC : gOk C own cc hh rt nm nL F L) {b : Nat} (hcd : gCode y b2 nL2 rt2 n) (hM : gMet (cxL C) y (ws_ y b2 nL2 rt2) F2 L2 (vQ (some b) :: As) (cxE C) G Kv2 X2) {r : vw_C} {ci : Nat} (hrr : gCl[ci]? = some r) (his : gIs G b ci) (hlink : Cond.methodLink own index y ∈ lw_all) (hsame : Cond.sameMethod y.cls y.cls y.name y.desc ∈ lw_all) (hsup : Cond.superclass own y.cls ∈ lw_all) (hinst : Cond.instanceMethod y ∈ lw_all) (hno : y.name ≠ "<init>") (hF : F2 + 1 ≤ F) (hL : 16 + (nL2 + 11) + L2 ≤ L) (hn : As.length = n) (hst : st.length ≤ 8) (hs : As.reverse ++ vQ (some b) :: st = stk) (hd : decode cc pc = .ok (.invokespecial index, 3)) (kk : ∀ w G', Kv2 w G' → gGo C G' (pc + 3) lv (w.toList ++ st)) (kx : ∀ q G', X2 q G' → gIsO G' q → gTh C G' pc lv q) : gGo C G pc lv stk := by
  obtain ⟨p, l, e, R, s, m, args, below, meth, c, E, Kv, X⟩ := C
  obtain ⟨hx, hb, ho, ht, hKn, hlk, hm, hr, hmn, htab, hRF, hRL, hR1, hR2, hbs, hfl⟩ := hC
  subst hs
  intro H locs ls h1 h2 h3 h4 h5
  intro T hT X0
  obtain ⟨cellB, c1, c2, c3⟩ := his.cell h1 hrr hKn
  obtain ⟨kB, hkB, -⟩ := Vm.findClass_spec c3
  refine g_after (st := st) (lv := lv) hbs h4 h5 (vx_callSU X0 hx (bytes := b2) (maxL := nL2) (ret := rt2) ho (ht _ hlink) (ht _ hsame) (ht _ hsup) (ht _ hinst) (ht _ hcd.1) hno (g_backC ht hcd hM (by rw [hRF]; exact hF) (by rw [hRL]; exact hL)) (by rw [hT]; exact c1) c2 hkB (g := F0 m pc ls _) rfl (by show ls.size = _; exact h5.1) (argsL := As.map gv2) (rest := st.map gv2) (fun sig h => by rw [List.length_map, hn]; exact g_len_of hcd.2.2.2 sig h) (by show List.map gv2 (As.reverse ++ vQ (some b) :: st) = _; simp [gv2, va_rf]) (g_room hst) (by rw [hb]; exact hd) (fun vm₁ hW => g_pre (av := vQ (some b) :: As) hT h1 h2 h3 hKn hR1 hR2 vm₁ hW)) rfl kk kx
theorem g_callF (hC : gOk C own cc hh rt nm nL F L) {b : Nat} (hcd : gCode y b2 nL2 rt2 n) (hM : gMet (cxL C) y (ws_ y b2 nL2 rt2) F2 L2 (vQ (some b) :: As) (cxE C) G Kv2 X2) {x : MethodName} {count : Nat} {r : vw_C} {ci : Nat} (hrr : gCl[ci]? = some r) (his : gIs G b ci) (hlink : Cond.methodLink own index x ∈ lw_all) (hfw : (r.1, x, y) ∈ gFwL) (hxd : x.desc = y.desc) (hsel : Cond.selects r.1 x y ∈ lw_all) (hinst : Cond.instanceMethod y ∈ lw_all) (hF : F2 + 1 ≤ F) (hL : 16 + (nL2 + 11) + L2 ≤ L) (hn : As.length = n) (hst : st.length ≤ 8) (hs : As.reverse ++ vQ (some b) :: st = stk) (hd : decode cc pc = .ok (.invokeinterface index count, 5)) (kk : ∀ w G', Kv2 w G' → gGo C G' (pc + 5) lv (w.toList ++ st)) (kx : ∀ q G', X2 q G' → gIsO G' q → gTh C G' pc lv q) : gGo C G pc lv stk := by
  obtain ⟨p, l, e, R, s, m, args, below, meth, c, E, Kv, X⟩ := C
  obtain ⟨hx, hb, ho, ht, hKn, hlk, hm, hr, hmn, htab, hRF, hRL, hR1, hR2, hbs, hfl⟩ := hC
  subst hs
  intro H locs ls h1 h2 h3 h4 h5
  intro T hT X0
  obtain ⟨cellB, c1, c2, c3⟩ := his.cell h1 hrr hKn
  obtain ⟨kB, hkB, -⟩ := Vm.findClass_spec c3
  obtain ⟨f1, f2, f3, f4, f5⟩ := hKn.2.2.2.2.2.2.1 _ hfw
  refine g_after (st := st) (lv := lv) hbs h4 h5 (vx_callIF X0 hx (C := r.1) (x := x) (bytes := b2) (maxL := nL2) (ret := rt2) ho (ht _ hlink) (va_any rfl f1) (va_any rfl f2) (ht _ hsel) (ht _ hinst) (va_any rfl f3) (va_any rfl f4) (va_any rfl f5) (ht _ hcd.1) (gFwL_ok _ hfw) (g_backC ht hcd hM (by rw [hRF]; exact hF) (by rw [hRL]; exact hL)) (by rw [hT]; exact c1) c2 c3 hkB (g := F0 m pc ls _) rfl (by show ls.size = _; exact h5.1) (argsL := As.map gv2) (rest := st.map gv2) (fun sig h => by rw [List.length_map, hn]; exact g_len_of hcd.2.2.2 sig (hxd ▸ h)) (by show List.map gv2 (As.reverse ++ vQ (some b) :: st) = _; simp [gv2, va_rf]) (g_room hst) (by rw [hb]; exact hd) (fun vm₁ hW => g_pre (av := vQ (some b) :: As) hT h1 h2 h3 hKn hR1 hR2 vm₁ hW)) rfl kk kx
theorem g_objInit (hC : gOk C own cc hh rt nm nL F L) {b : Nat} (hlink : Cond.methodLink own index objectInit ∈ lw_all) (hinst : Cond.instanceMethod objectInit ∈ lw_all) (hcode : Cond.code objectInit ⟨#[0xb1]⟩ 1 none ∈ lw_all) (hF : 1 ≤ F) (hL : 28 ≤ L) (hst : st.length ≤ 8) (hd : decode cc pc = .ok (.invokespecial index, 3)) (k : gGo C G (pc + 3) lv st) : gGo C G pc lv (vQ (some b) :: st) := by
  obtain ⟨p, l, e, R, s, m, args, below, meth, c, E, Kv, X⟩ := C
  obtain ⟨hx, hb, ho, ht, hKn, hlk, hm, hr, hmn, htab, hRF, hRL, hR1, hR2, hbs, hfl⟩ := hC
  intro H locs ls h1 h2 h3 h4 h5
  refine W.objInit hx hb ho (ht _ hlink) (ht _ hinst) (ht _ hcode) (g := F0 m pc ls ((vQ (some b) :: st).map gv2)) rfl h5.1 rfl hd (by rw [hRF]; exact hF) (by have := g_room (m := m) (pc := pc) (ls := ls) (stk := (vQ (some b) :: st).map gv2) hst; rw [hRL]; omega) (k H locs ls h1 h2 h3 h4 h5)
theorem g_max (hC : gOk C own cc hh rt nm nL F L) (hlink : Cond.methodLink own index Lib.Math.max.name ∈ lw_all) (hstat : Cond.static Lib.Math.max.name ∈ lw_all) (hini : Cond.initialized "java/lang/Math" ∈ lw_all) (hcode : Cond.code Lib.Math.max.name Lib.Math.max.code 2 (some .int) ∈ lw_all) (hF : 1 ≤ F) (hL : 29 ≤ L) (hst : st.length ≤ 8) {x z : Int32} (hd : decode cc pc = .ok (.invokestatic index, 3)) (k : gGo C G (pc + 3) lv (vI (if x < z then z else x) :: st)) : gGo C G pc lv (vI z :: vI x :: st) := by
  obtain ⟨p, l, e, R, s, m, args, below, meth, c, E, Kv, X⟩ := C
  obtain ⟨hx, hb, ho, ht, hKn, hlk, hm, hr, hmn, htab, hRF, hRL, hR1, hR2, hbs, hfl⟩ := hC
  intro H locs ls h1 h2 h3 h4 h5
  have hA5 := h1.2.2.2.2.1
  have hA6 := h1.2.2.2.2.2
  exact va_mmax hx hb h5.1.symm ho (ht _ hlink) (ht _ hstat) (ht _ hini) (ht _ hcode) (by rw [hRF]; exact hF) (by have := gvc_sum st; rw [hRL]; omega) (by omega) (by omega) hd (k H locs ls h1 h2 h3 h4 h5)
theorem g_min (hC : gOk C own cc hh rt nm nL F L) (hlink : Cond.methodLink own index Lib.Math.min.name ∈ lw_all) (hstat : Cond.static Lib.Math.min.name ∈ lw_all) (hini : Cond.initialized "java/lang/Math" ∈ lw_all) (hcode : Cond.code Lib.Math.min.name Lib.Math.min.code 2 (some .int) ∈ lw_all) (hF : 1 ≤ F) (hL : 29 ≤ L) (hst : st.length ≤ 8) {x z : Int32} (hd : decode cc pc = .ok (.invokestatic index, 3)) (k : gGo C G (pc + 3) lv (vI (if z < x then z else x) :: st)) : gGo C G pc lv (vI z :: vI x :: st) := by
  obtain ⟨p, l, e, R, s, m, args, below, meth, c, E, Kv, X⟩ := C
  obtain ⟨hx, hb, ho, ht, hKn, hlk, hm, hr, hmn, htab, hRF, hRL, hR1, hR2, hbs, hfl⟩ := hC
  intro H locs ls h1 h2 h3 h4 h5
  have hA5 := h1.2.2.2.2.1
  have hA6 := h1.2.2.2.2.2
  exact va_mmin hx hb h5.1.symm ho (ht _ hlink) (ht _ hstat) (ht _ hini) (ht _ hcode) (by rw [hRF]; exact hF) (by have := gvc_sum st; rw [hRL]; omega) (by omega) (by omega) hd (k H locs ls h1 h2 h3 h4 h5)
end CALLS
