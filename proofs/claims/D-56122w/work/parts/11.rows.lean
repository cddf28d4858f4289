/-! ROWS: an instruction each, over the ghost heap (printed by gen/rows.py) -/
set_option maxRecDepth 20000
abbrev gCx : Type := Program × Launch × Env × Room × State × MethodId × Array Value × List Frame × Method × Code × gE × (Option gV → gS → Prop) × (Nat → gS → Prop)
abbrev cxL (C : gCx) : Launch := C.2.1
abbrev cxE (C : gCx) : gE := C.2.2.2.2.2.2.2.2.2.2.1
abbrev cxK (C : gCx) : Option gV → gS → Prop := C.2.2.2.2.2.2.2.2.2.2.2.1
abbrev cxX (C : gCx) : Nat → gS → Prop := C.2.2.2.2.2.2.2.2.2.2.2.2
abbrev cxA (C : gCx) : Nat → Nat := gAd (cxE C)
def gLv (ls : Array Slot) (nL : Nat) (lv : List (Nat × gV)) : Prop := lv_has ls nL (lv.map fun q => (q.1, gv2 q.2))
def gMQ (E : gE) (Kv : Option gV → gS → Prop) (X : Nat → gS → Prop) (below : List Frame) (args : Array Value) (s : State) : State → Prop := fun t =>
  ∃ o, t.status = .running ∧ Ended t below o ∧ gQ E Kv X (gN E - s.heap.size) (gM E - gtot (gB E) s.heap) args s o t
/-- from the frame at pc with these locals and this stack, over this ghost heap, the method comes to its end -/
def gGo (C : gCx) (G : gS) (pc : Nat) (lv : List (Nat × gV)) (st : List gV) : Prop := match C with
  | (p, l, e, R, s, m, args, below, meth, c, E, Kv, X) => ∀ (H : Heap) (locs : List Loc) (ls : Array Slot), gAR E G H → s.heap.size ≤ H.size → gtot (gB E) s.heap ≤ gtot (gB E) H → (∀ z ∈ locs, gB E ≤ z.base) → gLv ls c.maxLocals lv →
    W p l e R s m args below meth c H locs (H.size - s.heap.size) (gtot (gB E) H - gtot (gB E) s.heap) (gMQ E Kv X below args s) (F0 m pc ls (st.map gv2))
/-- .. from the frame at pc with q thrown over it -/
def gTh (C : gCx) (G : gS) (pc : Nat) (lv : List (Nat × gV)) (q : Nat) : Prop := match C with
  | (p, l, e, R, s, m, args, below, meth, c, E, Kv, X) => ∀ (H : Heap) (locs : List Loc) (ls : Array Slot) (rest : List Value), gAR E G H → s.heap.size ≤ H.size → gtot (gB E) s.heap ≤ gtot (gB E) H → (∀ z ∈ locs, gB E ≤ z.base) → gLv ls c.maxLocals lv →
    vx_W p l e R s m args below meth c H locs (H.size - s.heap.size) (gtot (gB E) H - gtot (gB E) s.heap) (gMQ E Kv X below args s) (F0 m pc ls rest) q
def gOk (C : gCx) (own : String) (cc : ByteArray) (hh : List (Nat × Nat × Nat × Nat)) (rt : Option FieldType) (nm : String) (nL F L : Nat) : Prop := match C with
  | (p, l, e, R, s, m, args, below, meth, c, E, Kv, X) => p.tables.exec = Jvm.exec ∧ c.code = cc ∧ s.vm.findClass own = some m.cls ∧ (∀ w ∈ lw_all, w.before args s = true) ∧ gKn E s ∧ meth.locks = false ∧ c.maxLocals = nL ∧ meth.sig.returnType = rt ∧ meth.name = nm ∧ c.exceptionTable.toList = tableOf hh ∧ R.frames = F ∧ R.locals = L ∧ R.cells = gN E - s.heap.size ∧ R.slots = gM E - gtot (gB E) s.heap ∧ gB E ≤ s.heap.size ∧ l.stackTraces = false
theorem gOk.fl {C : gCx} {own : String} {cc : ByteArray} {hh : List (Nat × Nat × Nat × Nat)} {rt : Option FieldType} {nm : String} {nL F L : Nat} (h : gOk C own cc hh rt nm nL F L) : (cxL C).stackTraces = false := by
  obtain ⟨p, l, e, R, s, m, args, below, meth, c, E, Kv, X⟩ := C
  obtain ⟨-, -, -, -, -, -, -, -, -, -, -, -, -, -, -, h⟩ := h
  exact h
theorem gLv.at {ls : Array Slot} {nL : Nat} {lv : List (Nat × gV)} (h : gLv ls nL lv) (k : Nat) {i : Nat} {v : gV} (hk : lv[k]? = some (i, v)) : ls[i]? = some (.val (gv2 v)) :=
  h.2.2 (i, gv2 v) (List.mem_map.mpr ⟨(i, v), List.mem_of_getElem? hk, rfl⟩)
def gsub (lv lv' : List (Nat × gV)) : Prop := ∀ q ∈ lv', q ∈ lv
theorem gLv.sub {ls : Array Slot} {nL : Nat} {lv lv' : List (Nat × gV)} (h : gLv ls nL lv) (ks : List Nat) (hl : ks.filterMap (fun k => lv[k]?) = lv') : gLv ls nL lv' := by
  refine ⟨h.1, h.2.1, fun q hq => ?_⟩
  obtain ⟨z, hz, rfl⟩ := List.mem_map.mp hq
  rw [← hl] at hz
  obtain ⟨k, -, hk⟩ := List.mem_filterMap.mp hz
  exact h.2.2 _ (List.mem_map.mpr ⟨z, List.mem_of_getElem? hk, rfl⟩)
/-- the locals behind a store -/
def gst (i : Nat) (v : gV) (lv : List (Nat × gV)) : List (Nat × gV) := (i, v) :: lv.filter (fun q => !(q.1 == i) && (!(gvc v == 2 && q.1 == i + 1) && !(q.1 + 1 == i && gvc q.2 == 2)))
theorem gst_1 {i : Nat} {v : gV} {lv : List (Nat × gV)} (h : gvc v = 1) : (i, gv2 v) :: (lv.map fun q => (q.1, gv2 q.2)).filter (fun q => !(q.1 == i) && !(q.1 + 1 == i && q.2.category == 2)) = (gst i v lv).map fun q => (q.1, gv2 q.2) := by
  unfold gst
  rw [List.map_cons, List.filter_map]
  simp only [Function.comp_def, h, gvc_eq]
  rfl
theorem gst_2 {i : Nat} {v : gV} {lv : List (Nat × gV)} (h : gvc v = 2) : (i, gv2 v) :: (lv.map fun q => (q.1, gv2 q.2)).filter (fun q => !(q.1 == i) && (!(q.1 == i + 1) && !(q.1 + 1 == i && q.2.category == 2))) = (gst i v lv).map fun q => (q.1, gv2 q.2) := by
  unfold gst
  rw [List.map_cons, List.filter_map]
  simp only [Function.comp_def, h, gvc_eq]
  rfl
section ROWS
variable {C : gCx} {own : String} {cc : ByteArray} {hh : List (Nat × Nat × Nat × Nat)} {rt : Option FieldType} {nm : String} {nL F L : Nat} {G : gS} {pc : Nat} {lv : List (Nat × gV)} {st : List gV}
theorem g_sub (ks : List Nat) {lv' : List (Nat × gV)} (hl : ks.filterMap (fun k => lv[k]?) = lv') (k : gGo C G pc lv' st) : gGo C G pc lv st := by
  obtain ⟨p, l, e, R, s, m, args, below, meth, c, E, Kv, X⟩ := C
  intro H locs ls h1 h2 h3 h4 h5
  exact k H locs ls h1 h2 h3 h4 (h5.sub ks hl)
theorem g_iconst (hC : gOk C own cc hh rt nm nL F L) {n : Int} {v : Int32} (hv : Int32.ofInt n = v) (hd : decode cc pc = .ok (.iconst n, 1)) (k : gGo C G (pc + 1) lv (vI v :: st)) : gGo C G pc lv (st) := by
  obtain ⟨p, l, e, R, s, m, args, below, meth, c, E, Kv, X⟩ := C
  obtain ⟨hx, hb, ho, ht, -⟩ := hC
  intro H locs ls h1 h2 h3 h4 h5
  exact lv_iconst hx hb hd hv (k H locs ls h1 h2 h3 h4 h5)
theorem g_bipush (hC : gOk C own cc hh rt nm nL F L) {n : Int} {v : Int32} (hv : (Int8.ofInt n).toInt32 = v) (hd : decode cc pc = .ok (.bipush n, 2)) (k : gGo C G (pc + 2) lv (vI v :: st)) : gGo C G pc lv (st) := by
  obtain ⟨p, l, e, R, s, m, args, below, meth, c, E, Kv, X⟩ := C
  obtain ⟨hx, hb, ho, ht, -⟩ := hC
  intro H locs ls h1 h2 h3 h4 h5
  exact lv_bipush hx hb hd hv (k H locs ls h1 h2 h3 h4 h5)
theorem g_sipush (hC : gOk C own cc hh rt nm nL F L) {n : Int} {v : Int32} (hv : (Int16.ofInt n).toInt32 = v) (hd : decode cc pc = .ok (.sipush n, 3)) (k : gGo C G (pc + 3) lv (vI v :: st)) : gGo C G pc lv (st) := by
  obtain ⟨p, l, e, R, s, m, args, below, meth, c, E, Kv, X⟩ := C
  obtain ⟨hx, hb, ho, ht, -⟩ := hC
  intro H locs ls h1 h2 h3 h4 h5
  exact lv_sipush hx hb hd hv (k H locs ls h1 h2 h3 h4 h5)
theorem g_lconst (hC : gOk C own cc hh rt nm nL F L) {n : Fin 2} {v : Int64} (hv : Int64.ofNat (n : Nat) = v) (hd : decode cc pc = .ok (.lconst n, 1)) (k : gGo C G (pc + 1) lv (vL v :: st)) : gGo C G pc lv (st) := by
  obtain ⟨p, l, e, R, s, m, args, below, meth, c, E, Kv, X⟩ := C
  obtain ⟨hx, hb, ho, ht, -⟩ := hC
  intro H locs ls h1 h2 h3 h4 h5
  exact lv_lconst hx hb hd hv (k H locs ls h1 h2 h3 h4 h5)
theorem g_fconst0 (hC : gOk C own cc hh rt nm nL F L)  (hd : decode cc pc = .ok (.fconst 0, 1)) (k : gGo C G (pc + 1) lv (vF FP.fconst0 :: st)) : gGo C G pc lv (st) := by
  obtain ⟨p, l, e, R, s, m, args, below, meth, c, E, Kv, X⟩ := C
  obtain ⟨hx, hb, ho, ht, -⟩ := hC
  intro H locs ls h1 h2 h3 h4 h5
  exact lv_fconst0 hx hb hd (k H locs ls h1 h2 h3 h4 h5)
theorem g_null (hC : gOk C own cc hh rt nm nL F L)  (hd : decode cc pc = .ok (.aconst_null, 1)) (k : gGo C G (pc + 1) lv (vQ none :: st)) : gGo C G pc lv (st) := by
  obtain ⟨p, l, e, R, s, m, args, below, meth, c, E, Kv, X⟩ := C
  obtain ⟨hx, hb, ho, ht, -⟩ := hC
  intro H locs ls h1 h2 h3 h4 h5
  exact lv_null hx hb hd (k H locs ls h1 h2 h3 h4 h5)
theorem g_ldcI (hC : gOk C own cc hh rt nm nL F L) {index : Nat} {v : Int32} (hw : Cond.constant own index v ∈ lw_all) (hd : decode cc pc = .ok (.ldc index, 2)) (k : gGo C G (pc + 2) lv (vI v :: st)) : gGo C G pc lv (st) := by
  obtain ⟨p, l, e, R, s, m, args, below, meth, c, E, Kv, X⟩ := C
  obtain ⟨hx, hb, ho, ht, -⟩ := hC
  intro H locs ls h1 h2 h3 h4 h5
  exact lv_ldc hx hb ho (ht _ hw) hd (k H locs ls h1 h2 h3 h4 h5)
theorem g_ldcD (hC : gOk C own cc hh rt nm nL F L) {index : Nat} {v : UInt64} (hw : Cond.constantDouble own index v ∈ lw_all) (hd : decode cc pc = .ok (.ldc2_w index, 3)) (k : gGo C G (pc + 3) lv (vD v :: st)) : gGo C G pc lv (st) := by
  obtain ⟨p, l, e, R, s, m, args, below, meth, c, E, Kv, X⟩ := C
  obtain ⟨hx, hb, ho, ht, -⟩ := hC
  intro H locs ls h1 h2 h3 h4 h5
  exact lv_ldc2d hx hb ho (ht _ hw) hd (k H locs ls h1 h2 h3 h4 h5)
theorem g_iload_n (hC : gOk C own cc hh rt nm nL F L) (j : Nat) {i : Fin 4} {n : Nat} {x : Int32} (hi : (i : Nat) = n) (hl : lv[j]? = some (n, vI x)) (hd : decode cc pc = .ok (.iload_n i, 1)) (k : gGo C G (pc + 1) lv (vI x :: st)) : gGo C G pc lv (st) := by
  obtain ⟨p, l, e, R, s, m, args, below, meth, c, E, Kv, X⟩ := C
  obtain ⟨hx, hb, ho, ht, -⟩ := hC
  intro H locs ls h1 h2 h3 h4 h5
  exact lv_iload_n hx hb hd hi (h5.at j hl) (k H locs ls h1 h2 h3 h4 h5)
theorem g_iload (hC : gOk C own cc hh rt nm nL F L) (j : Nat) {n : Nat} {x : Int32} (hl : lv[j]? = some (n, vI x)) (hd : decode cc pc = .ok (.iload n, 2)) (k : gGo C G (pc + 2) lv (vI x :: st)) : gGo C G pc lv (st) := by
  obtain ⟨p, l, e, R, s, m, args, below, meth, c, E, Kv, X⟩ := C
  obtain ⟨hx, hb, ho, ht, -⟩ := hC
  intro H locs ls h1 h2 h3 h4 h5
  exact lv_iload hx hb hd (h5.at j hl) (k H locs ls h1 h2 h3 h4 h5)
theorem g_lload_n (hC : gOk C own cc hh rt nm nL F L) (j : Nat) {i : Fin 4} {n : Nat} {x : Int64} (hi : (i : Nat) = n) (hl : lv[j]? = some (n, vL x)) (hd : decode cc pc = .ok (.lload_n i, 1)) (k : gGo C G (pc + 1) lv (vL x :: st)) : gGo C G pc lv (st) := by
  obtain ⟨p, l, e, R, s, m, args, below, meth, c, E, Kv, X⟩ := C
  obtain ⟨hx, hb, ho, ht, -⟩ := hC
  intro H locs ls h1 h2 h3 h4 h5
  exact lv_lload_n hx hb hd hi (h5.at j hl) (k H locs ls h1 h2 h3 h4 h5)
theorem g_lload (hC : gOk C own cc hh rt nm nL F L) (j : Nat) {n : Nat} {x : Int64} (hl : lv[j]? = some (n, vL x)) (hd : decode cc pc = .ok (.lload n, 2)) (k : gGo C G (pc + 2) lv (vL x :: st)) : gGo C G pc lv (st) := by
  obtain ⟨p, l, e, R, s, m, args, below, meth, c, E, Kv, X⟩ := C
  obtain ⟨hx, hb, ho, ht, -⟩ := hC
  intro H locs ls h1 h2 h3 h4 h5
  exact lv_lload hx hb hd (h5.at j hl) (k H locs ls h1 h2 h3 h4 h5)
theorem g_fload_n (hC : gOk C own cc hh rt nm nL F L) (j : Nat) {i : Fin 4} {n : Nat} {x : UInt32} (hi : (i : Nat) = n) (hl : lv[j]? = some (n, vF x)) (hd : decode cc pc = .ok (.fload_n i, 1)) (k : gGo C G (pc + 1) lv (vF x :: st)) : gGo C G pc lv (st) := by
  obtain ⟨p, l, e, R, s, m, args, below, meth, c, E, Kv, X⟩ := C
  obtain ⟨hx, hb, ho, ht, -⟩ := hC
  intro H locs ls h1 h2 h3 h4 h5
  exact lv_fload_n hx hb hd hi (h5.at j hl) (k H locs ls h1 h2 h3 h4 h5)
theorem g_fload (hC : gOk C own cc hh rt nm nL F L) (j : Nat) {n : Nat} {x : UInt32} (hl : lv[j]? = some (n, vF x)) (hd : decode cc pc = .ok (.fload n, 2)) (k : gGo C G (pc + 2) lv (vF x :: st)) : gGo C G pc lv (st) := by
  obtain ⟨p, l, e, R, s, m, args, below, meth, c, E, Kv, X⟩ := C
  obtain ⟨hx, hb, ho, ht, -⟩ := hC
  intro H locs ls h1 h2 h3 h4 h5
  exact lv_fload hx hb hd (h5.at j hl) (k H locs ls h1 h2 h3 h4 h5)
theorem g_dload_n (hC : gOk C own cc hh rt nm nL F L) (j : Nat) {i : Fin 4} {n : Nat} {x : UInt64} (hi : (i : Nat) = n) (hl : lv[j]? = some (n, vD x)) (hd : decode cc pc = .ok (.dload_n i, 1)) (k : gGo C G (pc + 1) lv (vD x :: st)) : gGo C G pc lv (st) := by
  obtain ⟨p, l, e, R, s, m, args, below, meth, c, E, Kv, X⟩ := C
  obtain ⟨hx, hb, ho, ht, -⟩ := hC
  intro H locs ls h1 h2 h3 h4 h5
  exact lv_dload_n hx hb hd hi (h5.at j hl) (k H locs ls h1 h2 h3 h4 h5)
theorem g_dload (hC : gOk C own cc hh rt nm nL F L) (j : Nat) {n : Nat} {x : UInt64} (hl : lv[j]? = some (n, vD x)) (hd : decode cc pc = .ok (.dload n, 2)) (k : gGo C G (pc + 2) lv (vD x :: st)) : gGo C G pc lv (st) := by
  obtain ⟨p, l, e, R, s, m, args, below, meth, c, E, Kv, X⟩ := C
  obtain ⟨hx, hb, ho, ht, -⟩ := hC
  intro H locs ls h1 h2 h3 h4 h5
  exact lv_dload hx hb hd (h5.at j hl) (k H locs ls h1 h2 h3 h4 h5)
theorem g_aload_n (hC : gOk C own cc hh rt nm nL F L) (j : Nat) {i : Fin 4} {n : Nat} {x : Option Nat} (hi : (i : Nat) = n) (hl : lv[j]? = some (n, vQ x)) (hd : decode cc pc = .ok (.aload_n i, 1)) (k : gGo C G (pc + 1) lv (vQ x :: st)) : gGo C G pc lv st := by
  obtain ⟨p, l, e, R, s, m, args, below, meth, c, E, Kv, X⟩ := C
  obtain ⟨hx, hb, -⟩ := hC
  intro H locs ls h1 h2 h3 h4 h5
  have hk := k H locs ls h1 h2 h3 h4 h5
  have ha := h5.at j hl
  cases x with
  | none => exact lv_aload_nN hx hb hd hi ha hk
  | some a => exact lv_aload_n hx hb hd hi ha hk
theorem g_aload (hC : gOk C own cc hh rt nm nL F L) (j : Nat) {n : Nat} {x : Option Nat} (hl : lv[j]? = some (n, vQ x)) (hd : decode cc pc = .ok (.aload n, 2)) (k : gGo C G (pc + 2) lv (vQ x :: st)) : gGo C G pc lv st := by
  obtain ⟨p, l, e, R, s, m, args, below, meth, c, E, Kv, X⟩ := C
  obtain ⟨hx, hb, -⟩ := hC
  intro H locs ls h1 h2 h3 h4 h5
  have hk := k H locs ls h1 h2 h3 h4 h5
  have ha := h5.at j hl
  cases x with
  | none => exact lv_aloadN hx hb hd ha hk
  | some a => exact lv_aload hx hb hd ha hk
theorem g_istore_n (hC : gOk C own cc hh rt nm nL F L) {i : Fin 4} {n : Nat} {x : Int32} {lv' : List (Nat × gV)} (hi : (i : Nat) = n) (hn : n < nL) (hl : gst n (vI x) lv = lv') (hd : decode cc pc = .ok (.istore_n i, 1)) (k : gGo C G (pc + 1) lv' st) : gGo C G pc lv (vI x :: st) := by
  obtain ⟨p, l, e, R, s, m, args, below, meth, c, E, Kv, X⟩ := C
  obtain ⟨hx, hb, -, -, -, -, hm, -⟩ := hC
  intro H locs ls h1 h2 h3 h4 h5
  exact lv_istore_n hx hb hd hi h5 (by rw [hm]; exact hn) (gst_1 (v := vI x) rfl) (fun ls' hl' => k H locs ls' h1 h2 h3 h4 (by rw [← hl]; exact hl'))
theorem g_istore (hC : gOk C own cc hh rt nm nL F L) {n : Nat} {x : Int32} {lv' : List (Nat × gV)} (hn : n < nL) (hl : gst n (vI x) lv = lv') (hd : decode cc pc = .ok (.istore n, 2)) (k : gGo C G (pc + 2) lv' st) : gGo C G pc lv (vI x :: st) := by
  obtain ⟨p, l, e, R, s, m, args, below, meth, c, E, Kv, X⟩ := C
  obtain ⟨hx, hb, -, -, -, -, hm, -⟩ := hC
  intro H locs ls h1 h2 h3 h4 h5
  exact lv_istore hx hb hd h5 (by rw [hm]; exact hn) (gst_1 (v := vI x) rfl) (fun ls' hl' => k H locs ls' h1 h2 h3 h4 (by rw [← hl]; exact hl'))
theorem g_fstore (hC : gOk C own cc hh rt nm nL F L) {n : Nat} {x : UInt32} {lv' : List (Nat × gV)} (hn : n < nL) (hl : gst n (vF x) lv = lv') (hd : decode cc pc = .ok (.fstore n, 2)) (k : gGo C G (pc + 2) lv' st) : gGo C G pc lv (vF x :: st) := by
  obtain ⟨p, l, e, R, s, m, args, below, meth, c, E, Kv, X⟩ := C
  obtain ⟨hx, hb, -, -, -, -, hm, -⟩ := hC
  intro H locs ls h1 h2 h3 h4 h5
  exact lv_fstore hx hb hd h5 (by rw [hm]; exact hn) (gst_1 (v := vF x) rfl) (fun ls' hl' => k H locs ls' h1 h2 h3 h4 (by rw [← hl]; exact hl'))
theorem g_dstore_n (hC : gOk C own cc hh rt nm nL F L) {i : Fin 4} {n : Nat} {x : UInt64} {lv' : List (Nat × gV)} (hi : (i : Nat) = n) (hn : n + 1 < nL) (hl : gst n (vD x) lv = lv') (hd : decode cc pc = .ok (.dstore_n i, 1)) (k : gGo C G (pc + 1) lv' st) : gGo C G pc lv (vD x :: st) := by
  obtain ⟨p, l, e, R, s, m, args, below, meth, c, E, Kv, X⟩ := C
  obtain ⟨hx, hb, -, -, -, -, hm, -⟩ := hC
  intro H locs ls h1 h2 h3 h4 h5
  exact lv_dstore_n hx hb hd hi h5 (by rw [hm]; exact hn) (gst_2 (v := vD x) rfl) (fun ls' hl' => k H locs ls' h1 h2 h3 h4 (by rw [← hl]; exact hl'))
theorem g_dstore (hC : gOk C own cc hh rt nm nL F L) {n : Nat} {x : UInt64} {lv' : List (Nat × gV)} (hn : n + 1 < nL) (hl : gst n (vD x) lv = lv') (hd : decode cc pc = .ok (.dstore n, 2)) (k : gGo C G (pc + 2) lv' st) : gGo C G pc lv (vD x :: st) := by
  obtain ⟨p, l, e, R, s, m, args, below, meth, c, E, Kv, X⟩ := C
  obtain ⟨hx, hb, -, -, -, -, hm, -⟩ := hC
  intro H locs ls h1 h2 h3 h4 h5
  exact lv_dstore hx hb hd h5 (by rw [hm]; exact hn) (gst_2 (v := vD x) rfl) (fun ls' hl' => k H locs ls' h1 h2 h3 h4 (by rw [← hl]; exact hl'))
theorem g_astore_n (hC : gOk C own cc hh rt nm nL F L) {i : Fin 4} {n : Nat} {x : Option Nat} {lv' : List (Nat × gV)} (hi : (i : Nat) = n) (hn : n < nL) (hl : gst n (vQ x) lv = lv') (hd : decode cc pc = .ok (.astore_n i, 1)) (k : gGo C G (pc + 1) lv' st) : gGo C G pc lv (vQ x :: st) := by
  obtain ⟨p, l, e, R, s, m, args, below, meth, c, E, Kv, X⟩ := C
  obtain ⟨hx, hb, -, -, -, -, hm, -⟩ := hC
  intro H locs ls h1 h2 h3 h4 h5
  cases x with
  | none => exact lv_astore_nN hx hb hd hi h5 (by rw [hm]; exact hn) (gst_1 (v := vQ none) rfl) (fun ls' hl' => k H locs ls' h1 h2 h3 h4 (by rw [← hl]; exact hl'))
  | some a => exact lv_astore_n hx hb hd hi h5 (by rw [hm]; exact hn) (gst_1 (v := vQ (some a)) rfl) (fun ls' hl' => k H locs ls' h1 h2 h3 h4 (by rw [← hl]; exact hl'))
theorem g_astore (hC : gOk C own cc hh rt nm nL F L) {n : Nat} {x : Option Nat} {lv' : List (Nat × gV)} (hn : n < nL) (hl : gst n (vQ x) lv = lv') (hd : decode cc pc = .ok (.astore n, 2)) (k : gGo C G (pc + 2) lv' st) : gGo C G pc lv (vQ x :: st) := by
  obtain ⟨p, l, e, R, s, m, args, below, meth, c, E, Kv, X⟩ := C
  obtain ⟨hx, hb, -, -, -, -, hm, -⟩ := hC
  intro H locs ls h1 h2 h3 h4 h5
  cases x with
  | none => exact lv_astoreN hx hb hd h5 (by rw [hm]; exact hn) (gst_1 (v := vQ none) rfl) (fun ls' hl' => k H locs ls' h1 h2 h3 h4 (by rw [← hl]; exact hl'))
  | some a => exact lv_astore hx hb hd h5 (by rw [hm]; exact hn) (gst_1 (v := vQ (some a)) rfl) (fun ls' hl' => k H locs ls' h1 h2 h3 h4 (by rw [← hl]; exact hl'))
theorem g_iinc (hC : gOk C own cc hh rt nm nL F L) (j : Nat) {i : Nat} {n : Int} {d x v : Int32} {lv' : List (Nat × gV)} (hj : lv[j]? = some (i, vI x)) (hdv : Int32.ofInt n = d) (hv : x + d = v) (hn : i < nL) (hl : gst i (vI v) lv = lv') (hd : decode cc pc = .ok (.iinc i n, 3)) (k : gGo C G (pc + 3) lv' st) : gGo C G pc lv st := by
  obtain ⟨p, l, e, R, s, m, args, below, meth, c, E, Kv, X⟩ := C
  obtain ⟨hx, hb, -, -, -, -, hm, -⟩ := hC
  intro H locs ls h1 h2 h3 h4 h5
  exact lv_iinc hx hb hd h5 (k := j) (x := x) (v := v) (by rw [List.getElem?_map, hj]; rfl) (by rw [hdv]; exact hv) (by rw [hm]; exact hn) (gst_1 (v := vI v) rfl) (fun ls' hl' => k H locs ls' h1 h2 h3 h4 (by rw [← hl]; exact hl'))
theorem g_iadd (hC : gOk C own cc hh rt nm nL F L) {x y : Int32} (hd : decode cc pc = .ok (.iadd, 1)) (k : gGo C G (pc + 1) lv (vI (x + y) :: st)) : gGo C G pc lv (vI y :: vI x :: st) := by
  obtain ⟨p, l, e, R, s, m, args, below, meth, c, E, Kv, X⟩ := C
  obtain ⟨hx, hb, ho, ht, -⟩ := hC
  intro H locs ls h1 h2 h3 h4 h5
  exact lv_iadd hx hb hd (k H locs ls h1 h2 h3 h4 h5)
theorem g_isub (hC : gOk C own cc hh rt nm nL F L) {x y : Int32} (hd : decode cc pc = .ok (.isub, 1)) (k : gGo C G (pc + 1) lv (vI (x - y) :: st)) : gGo C G pc lv (vI y :: vI x :: st) := by
  obtain ⟨p, l, e, R, s, m, args, below, meth, c, E, Kv, X⟩ := C
  obtain ⟨hx, hb, ho, ht, -⟩ := hC
  intro H locs ls h1 h2 h3 h4 h5
  exact lv_isub hx hb hd (k H locs ls h1 h2 h3 h4 h5)
theorem g_imul (hC : gOk C own cc hh rt nm nL F L) {x y : Int32} (hd : decode cc pc = .ok (.imul, 1)) (k : gGo C G (pc + 1) lv (vI (x * y) :: st)) : gGo C G pc lv (vI y :: vI x :: st) := by
  obtain ⟨p, l, e, R, s, m, args, below, meth, c, E, Kv, X⟩ := C
  obtain ⟨hx, hb, ho, ht, -⟩ := hC
  intro H locs ls h1 h2 h3 h4 h5
  exact lv_imul hx hb hd (k H locs ls h1 h2 h3 h4 h5)
theorem g_iand (hC : gOk C own cc hh rt nm nL F L) {x y : Int32} (hd : decode cc pc = .ok (.iand, 1)) (k : gGo C G (pc + 1) lv (vI (x &&& y) :: st)) : gGo C G pc lv (vI y :: vI x :: st) := by
  obtain ⟨p, l, e, R, s, m, args, below, meth, c, E, Kv, X⟩ := C
  obtain ⟨hx, hb, ho, ht, -⟩ := hC
  intro H locs ls h1 h2 h3 h4 h5
  exact lv_iand hx hb hd (k H locs ls h1 h2 h3 h4 h5)
theorem g_ior (hC : gOk C own cc hh rt nm nL F L) {x y : Int32} (hd : decode cc pc = .ok (.ior, 1)) (k : gGo C G (pc + 1) lv (vI (x ||| y) :: st)) : gGo C G pc lv (vI y :: vI x :: st) := by
  obtain ⟨p, l, e, R, s, m, args, below, meth, c, E, Kv, X⟩ := C
  obtain ⟨hx, hb, ho, ht, -⟩ := hC
  intro H locs ls h1 h2 h3 h4 h5
  exact lv_ior hx hb hd (k H locs ls h1 h2 h3 h4 h5)
theorem g_ishl (hC : gOk C own cc hh rt nm nL F L) {x y : Int32} (hd : decode cc pc = .ok (.ishl, 1)) (k : gGo C G (pc + 1) lv (vI (x <<< (y &&& 31)) :: st)) : gGo C G pc lv (vI y :: vI x :: st) := by
  obtain ⟨p, l, e, R, s, m, args, below, meth, c, E, Kv, X⟩ := C
  obtain ⟨hx, hb, ho, ht, -⟩ := hC
  intro H locs ls h1 h2 h3 h4 h5
  exact lv_ishl hx hb hd (k H locs ls h1 h2 h3 h4 h5)
theorem g_ishr (hC : gOk C own cc hh rt nm nL F L) {x y : Int32} (hd : decode cc pc = .ok (.ishr, 1)) (k : gGo C G (pc + 1) lv (vI (x >>> (y &&& 31)) :: st)) : gGo C G pc lv (vI y :: vI x :: st) := by
  obtain ⟨p, l, e, R, s, m, args, below, meth, c, E, Kv, X⟩ := C
  obtain ⟨hx, hb, ho, ht, -⟩ := hC
  intro H locs ls h1 h2 h3 h4 h5
  exact lv_ishr hx hb hd (k H locs ls h1 h2 h3 h4 h5)
theorem g_iushr (hC : gOk C own cc hh rt nm nL F L) {x y : Int32} (hd : decode cc pc = .ok (.iushr, 1)) (k : gGo C G (pc + 1) lv (vI ((x.toUInt32 >>> (y.toUInt32 &&& Int32.toUInt32 31)).toInt32) :: st)) : gGo C G pc lv (vI y :: vI x :: st) := by
  obtain ⟨p, l, e, R, s, m, args, below, meth, c, E, Kv, X⟩ := C
  obtain ⟨hx, hb, ho, ht, -⟩ := hC
  intro H locs ls h1 h2 h3 h4 h5
  exact lv_iushr hx hb hd rfl (k H locs ls h1 h2 h3 h4 h5)
theorem g_idiv (hC : gOk C own cc hh rt nm nL F L) {x y : Int32} (hne : ¬ y = 0) (hd : decode cc pc = .ok (.idiv, 1)) (k : gGo C G (pc + 1) lv (vI (x / y) :: st)) : gGo C G pc lv (vI y :: vI x :: st) := by
  obtain ⟨p, l, e, R, s, m, args, below, meth, c, E, Kv, X⟩ := C
  obtain ⟨hx, hb, ho, ht, -⟩ := hC
  intro H locs ls h1 h2 h3 h4 h5
  exact lv_idiv hx hb hd hne (k H locs ls h1 h2 h3 h4 h5)
theorem g_irem (hC : gOk C own cc hh rt nm nL F L) {x y : Int32} (hne : ¬ y = 0) (hd : decode cc pc = .ok (.irem, 1)) (k : gGo C G (pc + 1) lv (vI (x - x / y * y) :: st)) : gGo C G pc lv (vI y :: vI x :: st) := by
  obtain ⟨p, l, e, R, s, m, args, below, meth, c, E, Kv, X⟩ := C
  obtain ⟨hx, hb, ho, ht, -⟩ := hC
  intro H locs ls h1 h2 h3 h4 h5
  exact lv_irem hx hb hd hne (k H locs ls h1 h2 h3 h4 h5)
theorem g_ineg (hC : gOk C own cc hh rt nm nL F L) {x : Int32} (hd : decode cc pc = .ok (.ineg, 1)) (k : gGo C G (pc + 1) lv (vI (-x) :: st)) : gGo C G pc lv (vI x :: st) := by
  obtain ⟨p, l, e, R, s, m, args, below, meth, c, E, Kv, X⟩ := C
  obtain ⟨hx, hb, ho, ht, -⟩ := hC
  intro H locs ls h1 h2 h3 h4 h5
  exact lv_ineg hx hb hd (k H locs ls h1 h2 h3 h4 h5)
theorem g_i2l (hC : gOk C own cc hh rt nm nL F L) {x : Int32} (hd : decode cc pc = .ok (.i2l, 1)) (k : gGo C G (pc + 1) lv (vL x.toInt64 :: st)) : gGo C G pc lv (vI x :: st) := by
  obtain ⟨p, l, e, R, s, m, args, below, meth, c, E, Kv, X⟩ := C
  obtain ⟨hx, hb, ho, ht, -⟩ := hC
  intro H locs ls h1 h2 h3 h4 h5
  exact lv_i2l hx hb hd rfl (k H locs ls h1 h2 h3 h4 h5)
theorem g_l2i (hC : gOk C own cc hh rt nm nL F L) {x : Int64} (hd : decode cc pc = .ok (.l2i, 1)) (k : gGo C G (pc + 1) lv (vI x.toInt32 :: st)) : gGo C G pc lv (vL x :: st) := by
  obtain ⟨p, l, e, R, s, m, args, below, meth, c, E, Kv, X⟩ := C
  obtain ⟨hx, hb, ho, ht, -⟩ := hC
  intro H locs ls h1 h2 h3 h4 h5
  exact lv_l2i hx hb hd rfl (k H locs ls h1 h2 h3 h4 h5)
theorem g_i2b (hC : gOk C own cc hh rt nm nL F L) {x : Int32} (hd : decode cc pc = .ok (.i2b, 1)) (k : gGo C G (pc + 1) lv (vI x.toInt8.toInt32 :: st)) : gGo C G pc lv (vI x :: st) := by
  obtain ⟨p, l, e, R, s, m, args, below, meth, c, E, Kv, X⟩ := C
  obtain ⟨hx, hb, ho, ht, -⟩ := hC
  intro H locs ls h1 h2 h3 h4 h5
  exact lv_i2b hx hb hd rfl (k H locs ls h1 h2 h3 h4 h5)
theorem g_i2c (hC : gOk C own cc hh rt nm nL F L) {x : Int32} (hd : decode cc pc = .ok (.i2c, 1)) (k : gGo C G (pc + 1) lv (vI (x.toUInt32 % 65536).toInt32 :: st)) : gGo C G pc lv (vI x :: st) := by
  obtain ⟨p, l, e, R, s, m, args, below, meth, c, E, Kv, X⟩ := C
  obtain ⟨hx, hb, ho, ht, -⟩ := hC
  intro H locs ls h1 h2 h3 h4 h5
  exact lv_i2c hx hb hd rfl (k H locs ls h1 h2 h3 h4 h5)
theorem g_i2d (hC : gOk C own cc hh rt nm nL F L) {x : Int32} (hd : decode cc pc = .ok (.i2d, 1)) (k : gGo C G (pc + 1) lv (vD (FP.i2d x) :: st)) : gGo C G pc lv (vI x :: st) := by
  obtain ⟨p, l, e, R, s, m, args, below, meth, c, E, Kv, X⟩ := C
  obtain ⟨hx, hb, ho, ht, -⟩ := hC
  intro H locs ls h1 h2 h3 h4 h5
  exact lv_i2d hx hb hd (k H locs ls h1 h2 h3 h4 h5)
theorem g_i2f (hC : gOk C own cc hh rt nm nL F L) {x : Int32} (hd : decode cc pc = .ok (.i2f, 1)) (k : gGo C G (pc + 1) lv (vF (FP.i2f x) :: st)) : gGo C G pc lv (vI x :: st) := by
  obtain ⟨p, l, e, R, s, m, args, below, meth, c, E, Kv, X⟩ := C
  obtain ⟨hx, hb, ho, ht, -⟩ := hC
  intro H locs ls h1 h2 h3 h4 h5
  exact lv_i2f hx hb hd (k H locs ls h1 h2 h3 h4 h5)
theorem g_f2d (hC : gOk C own cc hh rt nm nL F L) {x : UInt32} (hne : vf_n64 (FP.f2d x)) (hd : decode cc pc = .ok (.f2d, 1)) (k : gGo C G (pc + 1) lv (vD (FP.f2d x) :: st)) : gGo C G pc lv (vF x :: st) := by
  obtain ⟨p, l, e, R, s, m, args, below, meth, c, E, Kv, X⟩ := C
  obtain ⟨hx, hb, ho, ht, -⟩ := hC
  intro H locs ls h1 h2 h3 h4 h5
  exact lv_f2d hx hb hd hne (k H locs ls h1 h2 h3 h4 h5)
theorem g_ddiv (hC : gOk C own cc hh rt nm nL F L) {x y : UInt64} (hne : vf_n64 (FP.ddiv x y)) (hd : decode cc pc = .ok (.ddiv, 1)) (k : gGo C G (pc + 1) lv (vD (FP.ddiv x y) :: st)) : gGo C G pc lv (vD y :: vD x :: st) := by
  obtain ⟨p, l, e, R, s, m, args, below, meth, c, E, Kv, X⟩ := C
  obtain ⟨hx, hb, ho, ht, -⟩ := hC
  intro H locs ls h1 h2 h3 h4 h5
  exact lv_ddiv hx hb hd hne (k H locs ls h1 h2 h3 h4 h5)
theorem g_fdiv (hC : gOk C own cc hh rt nm nL F L) {x y : UInt32} (hne : vf_n32 (FP.fdiv x y)) (hd : decode cc pc = .ok (.fdiv, 1)) (k : gGo C G (pc + 1) lv (vF (FP.fdiv x y) :: st)) : gGo C G pc lv (vF y :: vF x :: st) := by
  obtain ⟨p, l, e, R, s, m, args, below, meth, c, E, Kv, X⟩ := C
  obtain ⟨hx, hb, ho, ht, -⟩ := hC
  intro H locs ls h1 h2 h3 h4 h5
  exact lv_fdiv hx hb hd hne (k H locs ls h1 h2 h3 h4 h5)
theorem g_dcmp (hC : gOk C own cc hh rt nm nL F L) {x y : UInt64} {op : CmpOp} (hd : decode cc pc = .ok (.dcmp op, 1)) (k : gGo C G (pc + 1) lv (vI (Op.cmpValue (FP.dcmp x y) op) :: st)) : gGo C G pc lv (vD y :: vD x :: st) := by
  obtain ⟨p, l, e, R, s, m, args, below, meth, c, E, Kv, X⟩ := C
  obtain ⟨hx, hb, ho, ht, -⟩ := hC
  intro H locs ls h1 h2 h3 h4 h5
  exact lv_dcmp hx hb hd (k H locs ls h1 h2 h3 h4 h5)
theorem g_fcmp (hC : gOk C own cc hh rt nm nL F L) {x y : UInt32} {op : CmpOp} (hd : decode cc pc = .ok (.fcmp op, 1)) (k : gGo C G (pc + 1) lv (vI (Op.cmpValue (FP.fcmp x y) op) :: st)) : gGo C G pc lv (vF y :: vF x :: st) := by
  obtain ⟨p, l, e, R, s, m, args, below, meth, c, E, Kv, X⟩ := C
  obtain ⟨hx, hb, ho, ht, -⟩ := hC
  intro H locs ls h1 h2 h3 h4 h5
  exact lv_fcmp hx hb hd (k H locs ls h1 h2 h3 h4 h5)
theorem g_lcmp (hC : gOk C own cc hh rt nm nL F L) {x y : Int64} (hd : decode cc pc = .ok (.lcmp, 1)) (k : gGo C G (pc + 1) lv (vI (lg_cmp x y) :: st)) : gGo C G pc lv (vL y :: vL x :: st) := by
  obtain ⟨p, l, e, R, s, m, args, below, meth, c, E, Kv, X⟩ := C
  obtain ⟨hx, hb, ho, ht, -⟩ := hC
  intro H locs ls h1 h2 h3 h4 h5
  exact W.lcmp hx hb hd (k H locs ls h1 h2 h3 h4 h5)
theorem g_dup (hC : gOk C own cc hh rt nm nL F L) {x : gV} (hc : gvc x = 1) (hd : decode cc pc = .ok (.dup, 1)) (k : gGo C G (pc + 1) lv (x :: x :: st)) : gGo C G pc lv (x :: st) := by
  obtain ⟨p, l, e, R, s, m, args, below, meth, c, E, Kv, X⟩ := C
  obtain ⟨hx, hb, ho, ht, -⟩ := hC
  intro H locs ls h1 h2 h3 h4 h5
  exact lv_dup hx hb hd (by rw [gvc_eq]; exact hc) (k H locs ls h1 h2 h3 h4 h5)
theorem g_pop (hC : gOk C own cc hh rt nm nL F L) {x : gV} (hc : gvc x = 1) (hd : decode cc pc = .ok (.pop, 1)) (k : gGo C G (pc + 1) lv (st)) : gGo C G pc lv (x :: st) := by
  obtain ⟨p, l, e, R, s, m, args, below, meth, c, E, Kv, X⟩ := C
  obtain ⟨hx, hb, ho, ht, -⟩ := hC
  intro H locs ls h1 h2 h3 h4 h5
  exact lv_pop hx hb hd (by rw [gvc_eq]; exact hc) (k H locs ls h1 h2 h3 h4 h5)
theorem g_dup_x1 (hC : gOk C own cc hh rt nm nL F L) {x y : gV} (hc : gvc x = 1) (hc2 : gvc y = 1) (hd : decode cc pc = .ok (.dup_x1, 1)) (k : gGo C G (pc + 1) lv (x :: y :: x :: st)) : gGo C G pc lv (x :: y :: st) := by
  obtain ⟨p, l, e, R, s, m, args, below, meth, c, E, Kv, X⟩ := C
  obtain ⟨hx, hb, ho, ht, -⟩ := hC
  intro H locs ls h1 h2 h3 h4 h5
  exact lv_dup_x1 hx hb hd (by rw [gvc_eq]; exact hc) (by rw [gvc_eq]; exact hc2) (k H locs ls h1 h2 h3 h4 h5)
theorem g_dup_x2 (hC : gOk C own cc hh rt nm nL F L) {x y z : gV} (hc : gvc x = 1) (hc2 : gvc y = 1) (hc3 : gvc z = 1) (hd : decode cc pc = .ok (.dup_x2, 1)) (k : gGo C G (pc + 1) lv (x :: y :: z :: x :: st)) : gGo C G pc lv (x :: y :: z :: st) := by
  obtain ⟨p, l, e, R, s, m, args, below, meth, c, E, Kv, X⟩ := C
  obtain ⟨hx, hb, ho, ht, -⟩ := hC
  intro H locs ls h1 h2 h3 h4 h5
  exact lv_dup_x2 hx hb hd (by rw [gvc_eq]; exact hc) (by rw [gvc_eq]; exact hc2) (by rw [gvc_eq]; exact hc3) (k H locs ls h1 h2 h3 h4 h5)
theorem g_dup2 (hC : gOk C own cc hh rt nm nL F L) {x y : gV} (hc : gvc x = 1) (hc2 : gvc y = 1) (hd : decode cc pc = .ok (.dup2, 1)) (k : gGo C G (pc + 1) lv (x :: y :: x :: y :: st)) : gGo C G pc lv (x :: y :: st) := by
  obtain ⟨p, l, e, R, s, m, args, below, meth, c, E, Kv, X⟩ := C
  obtain ⟨hx, hb, ho, ht, -⟩ := hC
  intro H locs ls h1 h2 h3 h4 h5
  exact lv_dup2_11 hx hb hd (by rw [gvc_eq]; exact hc) (by rw [gvc_eq]; exact hc2) (k H locs ls h1 h2 h3 h4 h5)
theorem g_goto (hC : gOk C own cc hh rt nm nL F L) {off : Int} (tgt : Nat) (ht : (pc : Int) + off = (tgt : Int)) (hd : decode cc pc = .ok (.goto off, 3)) (k : gGo C G tgt lv st) : gGo C G pc lv st := by
  obtain ⟨p, l, e, R, s, m, args, below, meth, c, E, Kv, X⟩ := C
  obtain ⟨hx, hb, -⟩ := hC
  intro H locs ls h1 h2 h3 h4 h5
  exact lv_goto hx hb hd ht (k H locs ls h1 h2 h3 h4 h5)
theorem g_icmp_eq (hC : gOk C own cc hh rt nm nL F L) {x y : Int32} {off : Int} (tgt : Nat) {P Q : Prop} (h : (x = y → P) ∧ (¬ x = y → Q)) (ht : (pc : Int) + off = (tgt : Int)) (hd : decode cc pc = .ok (.if_icmp .eq off, 3)) (kt : P → gGo C G tgt lv st) (kf : Q → gGo C G (pc + 3) lv st) : gGo C G pc lv (vI y :: vI x :: st) := by
  obtain ⟨p, l, e, R, s, m, args, below, meth, c, E, Kv, X⟩ := C
  obtain ⟨hx, hb, -⟩ := hC
  intro H locs ls h1 h2 h3 h4 h5
  exact lv_icmp_eq hx hb hd ht (fun z => kt (h.1 z) H locs ls h1 h2 h3 h4 h5) (fun z => kf (h.2 z) H locs ls h1 h2 h3 h4 h5)
theorem g_if_eq (hC : gOk C own cc hh rt nm nL F L) {x : Int32} {off : Int} (tgt : Nat) {P Q : Prop} (h : (x = 0 → P) ∧ (¬ x = 0 → Q)) (ht : (pc : Int) + off = (tgt : Int)) (hd : decode cc pc = .ok (.ifCond .eq off, 3)) (kt : P → gGo C G tgt lv st) (kf : Q → gGo C G (pc + 3) lv st) : gGo C G pc lv (vI x :: st) := by
  obtain ⟨p, l, e, R, s, m, args, below, meth, c, E, Kv, X⟩ := C
  obtain ⟨hx, hb, -⟩ := hC
  intro H locs ls h1 h2 h3 h4 h5
  exact lv_if_eq hx hb hd ht (fun z => kt (h.1 z) H locs ls h1 h2 h3 h4 h5) (fun z => kf (h.2 z) H locs ls h1 h2 h3 h4 h5)
theorem g_icmp_ne (hC : gOk C own cc hh rt nm nL F L) {x y : Int32} {off : Int} (tgt : Nat) {P Q : Prop} (h : (¬ x = y → P) ∧ (x = y → Q)) (ht : (pc : Int) + off = (tgt : Int)) (hd : decode cc pc = .ok (.if_icmp .ne off, 3)) (kt : P → gGo C G tgt lv st) (kf : Q → gGo C G (pc + 3) lv st) : gGo C G pc lv (vI y :: vI x :: st) := by
  obtain ⟨p, l, e, R, s, m, args, below, meth, c, E, Kv, X⟩ := C
  obtain ⟨hx, hb, -⟩ := hC
  intro H locs ls h1 h2 h3 h4 h5
  exact lv_icmp_ne hx hb hd ht (fun z => kt (h.1 z) H locs ls h1 h2 h3 h4 h5) (fun z => kf (h.2 z) H locs ls h1 h2 h3 h4 h5)
theorem g_if_ne (hC : gOk C own cc hh rt nm nL F L) {x : Int32} {off : Int} (tgt : Nat) {P Q : Prop} (h : (¬ x = 0 → P) ∧ (x = 0 → Q)) (ht : (pc : Int) + off = (tgt : Int)) (hd : decode cc pc = .ok (.ifCond .ne off, 3)) (kt : P → gGo C G tgt lv st) (kf : Q → gGo C G (pc + 3) lv st) : gGo C G pc lv (vI x :: st) := by
  obtain ⟨p, l, e, R, s, m, args, below, meth, c, E, Kv, X⟩ := C
  obtain ⟨hx, hb, -⟩ := hC
  intro H locs ls h1 h2 h3 h4 h5
  exact lv_if_ne hx hb hd ht (fun z => kt (h.1 z) H locs ls h1 h2 h3 h4 h5) (fun z => kf (h.2 z) H locs ls h1 h2 h3 h4 h5)
theorem g_icmp_lt (hC : gOk C own cc hh rt nm nL F L) {x y : Int32} {off : Int} (tgt : Nat) {P Q : Prop} (h : (x < y → P) ∧ (¬ x < y → Q)) (ht : (pc : Int) + off = (tgt : Int)) (hd : decode cc pc = .ok (.if_icmp .lt off, 3)) (kt : P → gGo C G tgt lv st) (kf : Q → gGo C G (pc + 3) lv st) : gGo C G pc lv (vI y :: vI x :: st) := by
  obtain ⟨p, l, e, R, s, m, args, below, meth, c, E, Kv, X⟩ := C
  obtain ⟨hx, hb, -⟩ := hC
  intro H locs ls h1 h2 h3 h4 h5
  exact lv_icmp_lt hx hb hd ht (fun z => kt (h.1 z) H locs ls h1 h2 h3 h4 h5) (fun z => kf (h.2 z) H locs ls h1 h2 h3 h4 h5)
theorem g_if_lt (hC : gOk C own cc hh rt nm nL F L) {x : Int32} {off : Int} (tgt : Nat) {P Q : Prop} (h : (x < 0 → P) ∧ (¬ x < 0 → Q)) (ht : (pc : Int) + off = (tgt : Int)) (hd : decode cc pc = .ok (.ifCond .lt off, 3)) (kt : P → gGo C G tgt lv st) (kf : Q → gGo C G (pc + 3) lv st) : gGo C G pc lv (vI x :: st) := by
  obtain ⟨p, l, e, R, s, m, args, below, meth, c, E, Kv, X⟩ := C
  obtain ⟨hx, hb, -⟩ := hC
  intro H locs ls h1 h2 h3 h4 h5
  exact lv_if_lt hx hb hd ht (fun z => kt (h.1 z) H locs ls h1 h2 h3 h4 h5) (fun z => kf (h.2 z) H locs ls h1 h2 h3 h4 h5)
theorem g_icmp_ge (hC : gOk C own cc hh rt nm nL F L) {x y : Int32} {off : Int} (tgt : Nat) {P Q : Prop} (h : (y ≤ x → P) ∧ (¬ y ≤ x → Q)) (ht : (pc : Int) + off = (tgt : Int)) (hd : decode cc pc = .ok (.if_icmp .ge off, 3)) (kt : P → gGo C G tgt lv st) (kf : Q → gGo C G (pc + 3) lv st) : gGo C G pc lv (vI y :: vI x :: st) := by
  obtain ⟨p, l, e, R, s, m, args, below, meth, c, E, Kv, X⟩ := C
  obtain ⟨hx, hb, -⟩ := hC
  intro H locs ls h1 h2 h3 h4 h5
  exact lv_icmp_ge hx hb hd ht (fun z => kt (h.1 z) H locs ls h1 h2 h3 h4 h5) (fun z => kf (h.2 z) H locs ls h1 h2 h3 h4 h5)
theorem g_if_ge (hC : gOk C own cc hh rt nm nL F L) {x : Int32} {off : Int} (tgt : Nat) {P Q : Prop} (h : (0 ≤ x → P) ∧ (¬ 0 ≤ x → Q)) (ht : (pc : Int) + off = (tgt : Int)) (hd : decode cc pc = .ok (.ifCond .ge off, 3)) (kt : P → gGo C G tgt lv st) (kf : Q → gGo C G (pc + 3) lv st) : gGo C G pc lv (vI x :: st) := by
  obtain ⟨p, l, e, R, s, m, args, below, meth, c, E, Kv, X⟩ := C
  obtain ⟨hx, hb, -⟩ := hC
  intro H locs ls h1 h2 h3 h4 h5
  exact lv_if_ge hx hb hd ht (fun z => kt (h.1 z) H locs ls h1 h2 h3 h4 h5) (fun z => kf (h.2 z) H locs ls h1 h2 h3 h4 h5)
theorem g_icmp_gt (hC : gOk C own cc hh rt nm nL F L) {x y : Int32} {off : Int} (tgt : Nat) {P Q : Prop} (h : (y < x → P) ∧ (¬ y < x → Q)) (ht : (pc : Int) + off = (tgt : Int)) (hd : decode cc pc = .ok (.if_icmp .gt off, 3)) (kt : P → gGo C G tgt lv st) (kf : Q → gGo C G (pc + 3) lv st) : gGo C G pc lv (vI y :: vI x :: st) := by
  obtain ⟨p, l, e, R, s, m, args, below, meth, c, E, Kv, X⟩ := C
  obtain ⟨hx, hb, -⟩ := hC
  intro H locs ls h1 h2 h3 h4 h5
  exact lv_icmp_gt hx hb hd ht (fun z => kt (h.1 z) H locs ls h1 h2 h3 h4 h5) (fun z => kf (h.2 z) H locs ls h1 h2 h3 h4 h5)
theorem g_if_gt (hC : gOk C own cc hh rt nm nL F L) {x : Int32} {off : Int} (tgt : Nat) {P Q : Prop} (h : (0 < x → P) ∧ (¬ 0 < x → Q)) (ht : (pc : Int) + off = (tgt : Int)) (hd : decode cc pc = .ok (.ifCond .gt off, 3)) (kt : P → gGo C G tgt lv st) (kf : Q → gGo C G (pc + 3) lv st) : gGo C G pc lv (vI x :: st) := by
  obtain ⟨p, l, e, R, s, m, args, below, meth, c, E, Kv, X⟩ := C
  obtain ⟨hx, hb, -⟩ := hC
  intro H locs ls h1 h2 h3 h4 h5
  exact lv_if_gt hx hb hd ht (fun z => kt (h.1 z) H locs ls h1 h2 h3 h4 h5) (fun z => kf (h.2 z) H locs ls h1 h2 h3 h4 h5)
theorem g_icmp_le (hC : gOk C own cc hh rt nm nL F L) {x y : Int32} {off : Int} (tgt : Nat) {P Q : Prop} (h : (x ≤ y → P) ∧ (¬ x ≤ y → Q)) (ht : (pc : Int) + off = (tgt : Int)) (hd : decode cc pc = .ok (.if_icmp .le off, 3)) (kt : P → gGo C G tgt lv st) (kf : Q → gGo C G (pc + 3) lv st) : gGo C G pc lv (vI y :: vI x :: st) := by
  obtain ⟨p, l, e, R, s, m, args, below, meth, c, E, Kv, X⟩ := C
  obtain ⟨hx, hb, -⟩ := hC
  intro H locs ls h1 h2 h3 h4 h5
  exact lv_icmp_le hx hb hd ht (fun z => kt (h.1 z) H locs ls h1 h2 h3 h4 h5) (fun z => kf (h.2 z) H locs ls h1 h2 h3 h4 h5)
theorem g_if_le (hC : gOk C own cc hh rt nm nL F L) {x : Int32} {off : Int} (tgt : Nat) {P Q : Prop} (h : (x ≤ 0 → P) ∧ (¬ x ≤ 0 → Q)) (ht : (pc : Int) + off = (tgt : Int)) (hd : decode cc pc = .ok (.ifCond .le off, 3)) (kt : P → gGo C G tgt lv st) (kf : Q → gGo C G (pc + 3) lv st) : gGo C G pc lv (vI x :: st) := by
  obtain ⟨p, l, e, R, s, m, args, below, meth, c, E, Kv, X⟩ := C
  obtain ⟨hx, hb, -⟩ := hC
  intro H locs ls h1 h2 h3 h4 h5
  exact lv_if_le hx hb hd ht (fun z => kt (h.1 z) H locs ls h1 h2 h3 h4 h5) (fun z => kf (h.2 z) H locs ls h1 h2 h3 h4 h5)
theorem g_acmp_eq (hC : gOk C own cc hh rt nm nL F L) {x y : Option Nat} {off : Int} (tgt : Nat) {P Q : Prop} (h : (x = y → P) ∧ (¬ x = y → Q)) (ht : (pc : Int) + off = (tgt : Int)) (hd : decode cc pc = .ok (.if_acmp .eq off, 3)) (kt : P → gGo C G tgt lv st) (kf : Q → gGo C G (pc + 3) lv st) : gGo C G pc lv (vQ y :: vQ x :: st) := by
  obtain ⟨p, l, e, R, s, m, args, below, meth, c, E, Kv, X⟩ := C
  obtain ⟨hx, hb, -⟩ := hC
  intro H locs ls h1 h2 h3 h4 h5
  exact lv_acmp_eq hx hb hd ht (fun z => kt (h.1 z) H locs ls h1 h2 h3 h4 h5) (fun z => kf (h.2 z) H locs ls h1 h2 h3 h4 h5)
theorem g_acmp_ne (hC : gOk C own cc hh rt nm nL F L) {x y : Option Nat} {off : Int} (tgt : Nat) {P Q : Prop} (h : (¬ x = y → P) ∧ (x = y → Q)) (ht : (pc : Int) + off = (tgt : Int)) (hd : decode cc pc = .ok (.if_acmp .ne off, 3)) (kt : P → gGo C G tgt lv st) (kf : Q → gGo C G (pc + 3) lv st) : gGo C G pc lv (vQ y :: vQ x :: st) := by
  obtain ⟨p, l, e, R, s, m, args, below, meth, c, E, Kv, X⟩ := C
  obtain ⟨hx, hb, -⟩ := hC
  intro H locs ls h1 h2 h3 h4 h5
  exact lv_acmp_ne hx hb hd ht (fun z => kt (h.1 z) H locs ls h1 h2 h3 h4 h5) (fun z => kf (h.2 z) H locs ls h1 h2 h3 h4 h5)
theorem g_ifnull (hC : gOk C own cc hh rt nm nL F L) {x : Option Nat} {off : Int} (tgt : Nat) {P Q : Prop} (h : (x = none → P) ∧ (¬ x = none → Q)) (ht : (pc : Int) + off = (tgt : Int)) (hd : decode cc pc = .ok (.ifnull off, 3)) (kt : P → gGo C G tgt lv st) (kf : Q → gGo C G (pc + 3) lv st) : gGo C G pc lv (vQ x :: st) := by
  obtain ⟨p, l, e, R, s, m, args, below, meth, c, E, Kv, X⟩ := C
  obtain ⟨hx, hb, -⟩ := hC
  intro H locs ls h1 h2 h3 h4 h5
  cases x with
  | none => exact lv_ifnullN hx hb hd ht (kt (h.1 rfl) H locs ls h1 h2 h3 h4 h5)
  | some a => exact lv_ifnull hx hb hd (kf (h.2 (fun z => by cases z)) H locs ls h1 h2 h3 h4 h5)
theorem g_ifnonnull (hC : gOk C own cc hh rt nm nL F L) {x : Option Nat} {off : Int} (tgt : Nat) {P Q : Prop} (h : (¬ x = none → P) ∧ (x = none → Q)) (ht : (pc : Int) + off = (tgt : Int)) (hd : decode cc pc = .ok (.ifnonnull off, 3)) (kt : P → gGo C G tgt lv st) (kf : Q → gGo C G (pc + 3) lv st) : gGo C G pc lv (vQ x :: st) := by
  obtain ⟨p, l, e, R, s, m, args, below, meth, c, E, Kv, X⟩ := C
  obtain ⟨hx, hb, -⟩ := hC
  intro H locs ls h1 h2 h3 h4 h5
  cases x with
  | none => exact lv_ifnonnullN hx hb hd (kf (h.2 rfl) H locs ls h1 h2 h3 h4 h5)
  | some a => exact lv_ifnonnull hx hb hd ht (kt (h.1 (fun z => by cases z)) H locs ls h1 h2 h3 h4 h5)
theorem g_tableOut (hC : gOk C own cc hh rt nm nL F L) {dflt lo hi : Int} {offs : Array Int} {len : Nat} {x : Int32} (tgt : Nat) (h : x.toInt < lo ∨ hi < x.toInt) (ht : (pc : Int) + dflt = (tgt : Int)) (hd : decode cc pc = .ok (.tableswitch dflt lo hi offs, len)) (k : gGo C G tgt lv st) : gGo C G pc lv (vI x :: st) := by
  obtain ⟨p, l, e, R, s, m, args, below, meth, c, E, Kv, X⟩ := C
  obtain ⟨hx, hb, -⟩ := hC
  intro H locs ls h1 h2 h3 h4 h5
  exact lv_tableOut hx hb hd h ht (k H locs ls h1 h2 h3 h4 h5)
theorem g_tableIn (hC : gOk C own cc hh rt nm nL F L) {dflt lo hi : Int} {offs : Array Int} {len : Nat} {x : Int32} {off : Int} (tgt : Nat) (ha : ¬ x.toInt < lo) (hb0 : ¬ hi < x.toInt) (hf : offs[(x.toInt - lo).toNat]? = some off) (ht : (pc : Int) + off = (tgt : Int)) (hd : decode cc pc = .ok (.tableswitch dflt lo hi offs, len)) (k : gGo C G tgt lv st) : gGo C G pc lv (vI x :: st) := by
  obtain ⟨p, l, e, R, s, m, args, below, meth, c, E, Kv, X⟩ := C
  obtain ⟨hx, hb, -⟩ := hC
  intro H locs ls h1 h2 h3 h4 h5
  exact lv_tableIn hx hb hd ha hb0 hf ht (k H locs ls h1 h2 h3 h4 h5)
theorem g_lookup (hC : gOk C own cc hh rt nm nL F L) {dflt : Int} {ps : Array (Int × Int)} {len : Nat} {x : Int32} {off : Int} (tgt : Nat) (hp : (ps.toList.zip (ps.toList.drop 1)).all (fun (a, next) => a.1 < next.1) = true) (hf : Op.lookupswitch.offset ps.toList dflt x.toInt = off) (ht : (pc : Int) + off = (tgt : Int)) (hd : decode cc pc = .ok (.lookupswitch dflt ps, len)) (k : gGo C G tgt lv st) : gGo C G pc lv (vI x :: st) := by
  obtain ⟨p, l, e, R, s, m, args, below, meth, c, E, Kv, X⟩ := C
  obtain ⟨hx, hb, -⟩ := hC
  intro H locs ls h1 h2 h3 h4 h5
  exact lv_lookup hx hb hd hp hf ht (k H locs ls h1 h2 h3 h4 h5)
end ROWS
