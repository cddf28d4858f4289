/-! LAMBDAS: what the tables say of a made class; its method's walk -/
set_option maxRecDepth 20000
def gStAt (e : Env) (U : State) (cK mi : Nat) (y : MethodName) (n : Nat) : Prop :=
  ∃ t kt metht, plainRef U e cK mi ∧ U.vm.methodReady cK mi t ∧ U.vm.classes[t.cls]? = some kt ∧ U.vm.method? t = some metht ∧ signaturePolymorphic kt metht = false ∧ metht.isStatic = true ∧ kt.init = .initialized ∧
    metht.sig.parameters.length = n ∧ U.methodNamed? y = some t
def gMade (e : Env) (U : State) (cK : ClassId) (n : Nat) (bs : List UInt8) (fx : List Nat) (mi : Nat) (y : MethodName) : Prop :=
  ∃ (k : Class) (methk : Method) (ck : Code), U.vm.classes[cK]? = some k ∧ U.vm.method? ⟨cK, 1⟩ = some methk ∧ methk.code = some ck ∧ ck.code = ⟨bs.toArray⟩ ∧ ck.maxLocals = 2 ∧ methk.locks = false ∧ methk.accessFlags = 0x0001 ∧ methk.sig.returnType = some .int ∧ ck.exceptionTable = #[] ∧
    U.plainMethod ⟨cK, 1⟩ ∧ gStAt e U cK mi y (n + 1) ∧ (∀ j, j < n → ∃ g0 : Field, U.vm.fieldReady cK (fx.getD j 0) cK g0 ∧ g0.isStatic = false ∧ g0.slot = j) ∧ k.instanceTypes = (List.replicate n FieldType.int).toArray ∧ k.kind = .ordinary
theorem gStAt.of_made {e : Env} {U : State} {cK mi ci nt n : Nat} {y : MethodName} {kK tk : Class} {file : ClassFile} {toy : ClassId} {t : MethodId} {bytes : ByteArray} {maxL : Nat} {ret : Option FieldType} {args : Array Value}
    (hkK : U.vm.classes[cK]? = some kK) (hfile : kK.cf = some file) (hM : file.constantPool[mi]? = some (.methodref ci nt)) (hnt : file.constantPool.nameAndType? nt = some (y.name, y.desc))
    (hready : U.vm.methodReady cK mi t) (hclsR : U.vm.classReady cK ci toy) (htoy : U.vm.findClass y.cls = some toy) (htk : U.vm.classes[toy]? = some tk)
    (hlook : ((methodIn toy y.name y.desc tk.isInterface none).ask { classPath := fun _ => none } U.vm).1 = .ok t)
    (hy : y.cls ≠ "java/lang/invoke/MethodHandle" ∧ y.cls ≠ "java/lang/invoke/VarHandle")
    (hcode : (Cond.code y bytes maxL ret).before args U = true) (hst : (Cond.static y).before args U = true) (hini : (Cond.initialized y.cls).before args U = true)
    (hn : (parseMethodDescriptor y.desc).map (fun d => d.parameters.length) = some n) : gStAt e U cK mi y n := by
  cases hnB : U.methodNamed? y with
  | none => simp [Cond.before, Cond.holds, Cond.value, hnB] at hcode
  | some mB =>
  obtain ⟨methB, cB, hmB, -, -, -, -, -, -, hsigB⟩ := Cond.code_spec hnB hcode
  have hstaticB : methB.isStatic = true := Cond.static_spec hnB hmB hst
  have hfT : U.vm.findClass y.cls = some mB.cls := findClass_of_methodNamed hnB
  cases htoy.symm.trans hfT
  have hinitK : tk.init = .initialized := Cond.initialized_spec hfT htk hini
  obtain ⟨kT', hkT', hnameT⟩ := className_of_methodNamed hnB
  cases htk.symm.trans hkT'
  have htB : t = mB := by
    have h1 : U.methodFound? y.cls y.name y.desc = some mB := State.methodFound?_of_named hnB hy
    simp only [State.methodFound?, hfT, htk, Option.bind_eq_bind, Option.bind_some] at h1
    rw [hlook] at h1
    exact Option.some.inj h1
  subst htB
  have hsp : ∀ z : Method, signaturePolymorphic tk z = false := fun z => by simp [signaturePolymorphic, hnameT, hy.1, hy.2]
  obtain ⟨b, hmem⟩ := memberRef_ask' (e := e) (vm := U.vm) (d := cK) (index := mi) hkK hfile (Or.inl hM) hnt
  exact ⟨t, tk, methB, ⟨ci, _, _, b, t.cls, tk, hmem, hclsR, htk, by simp [hsp]⟩, hready, htk, hmB, hsp _, hstaticB, hinitK, (g_len_of hn _ hsigB).symm, hnB⟩
theorem gMade.of {e : Env} {E : gE} {q : gSite} {U : State} {n : Nat} {bs : List UInt8} {fx fn : List Nat} {mi cx cu ntx : Nat} {y : MethodName} {bytes : ByteArray} {maxL : Nat} {ret : Option FieldType} {args : Array Value} (hL : gLm E q U) (hok : gLamOk q.2.2.2.2 q.2.1.cls n bs fx fn mi cx cu ntx y)
    (hO : (Cond.instantiable "java/lang/Object" 0).before args U = true) (hy : y.cls ≠ "java/lang/invoke/MethodHandle" ∧ y.cls ≠ "java/lang/invoke/VarHandle")
    (hcode : (Cond.code y bytes maxL ret).before args U = true) (hst : (Cond.static y).before args U = true) (hini : (Cond.initialized y.cls).before args U = true)
    (hn : (parseMethodDescriptor y.desc).map (fun d => d.parameters.length) = some (n + 1)) : gMade e U (gLc E q.1) n bs fx mi y := by
  obtain ⟨m, kc, cf0, i0, p0, ln, hm, hkc, hcf0, hsh, hfind, hmade, hcall, hl⟩ := hL
  obtain ⟨o1, o2, o3, o4, o5, o6, o7, o8, o9, o10, o11, o12, o13, o14⟩ := hok
  obtain ⟨kN, hkN, hnm⟩ := className_of_methodNamed hm
  obtain ⟨dk', k, ok, tk, file, cf, object, iface, toy, lay, methods, target, found, hd', hk, hfile, hcf, hobj, -, hok', hlay, hms, ht, htk, hg, -, hrec, -, -, -, hitf, hpool, hmeth, hfields, hty, hres, -⟩ := Lambda.isMade_spec hmade
  cases hkN.symm.trans hd'
  have hfi : q.2.2.2.2.file q.2.1.cls = some (gLD q.2.2.2.2 q.2.1.cls) := by
    obtain ⟨x, hx⟩ := Option.isSome_iff_exists.mp o1
    simp [gLD, hx]
  rw [hnm, hfi] at hcf
  cases hcf
  have hsec : methods[1]? = some (gLF (gLD q.2.2.2.2 q.2.1.cls)) := by
    obtain ⟨x, hx⟩ := Option.isSome_iff_exists.mp o2
    have hf : gLF (gLD q.2.2.2.2 q.2.1.cls) = x := by simp [gLF, hx]
    rw [hms] at hx
    rw [hf]
    exact hx
  have hlaid : layoutFields (gLD q.2.2.2.2 q.2.1.cls) 0 = some (gLL (gLD q.2.2.2.2 q.2.1.cls)) := by
    obtain ⟨x, hx⟩ := Option.isSome_iff_exists.mp o3
    simp [gLL, hx]
  have hO0 : ok.instanceTypes.size = 0 := by
    obtain ⟨cO, kO, e1, e2, -, -, -, e3⟩ := Cond.instantiable_spec hO
    cases hobj.symm.trans e1
    cases hok'.symm.trans e2
    exact e3
  have hok0 : ok.instanceTypes = #[] := Array.eq_empty_of_size_eq_zero hO0
  rw [hO0, hlaid] at hlay
  cases hlay
  obtain ⟨b, hb, hsame⟩ := hmeth 1 _ hsec
  obtain ⟨s1, s2, s3, s4, x, z, s5, s6, s7, s8, s9, s10⟩ := Lambda.sameMethod_spec hsame
  rw [s5] at o4
  simp only [Option.map_some, Option.some.injEq, Prod.mk.injEq] at o4 o5
  rw [o11] at ht
  rw [o12, o13] at hg
  refine ⟨k, b, z, hk, by simp [Vm.method?, hk, hb], s6, by rw [s9]; exact ByteArray.ext o4.1, by rw [s8]; exact o4.2, ?_, by rw [s4]; exact o5.1, by rw [s3]; exact o5.2, s10, State.plainMethod.of_name (fun k' hk' => by cases hk.symm.trans hk'; rw [hrec.1, hnm]; exact o10), ?_, ?_, ?_⟩
  · simp [Method.locks, Method.isSynchronized, s4, o5.1, hasFlag, Acc.synchronized]
  · exact gStAt.of_made hk hfile (by rw [hpool.2.1]; exact o6.1) (by rw [hpool.2.1]; exact o6.2.2) ⟨k, hk, hres mi _ (Lambda.resolvedOf_method o6.1 o6.2.1 ht htk o6.2.2 hg)⟩ ⟨k, hk, hres cx _ (Lambda.resolvedOf_class o7.1 o7.2.2 o7.2.1 ht)⟩ ht htk hg hy hcode hst hini hn
  · intro j hj
    obtain ⟨e1, e2, e3, e4⟩ := o8 j hj
    obtain ⟨g0, hg0, hp0⟩ := Option.map_eq_some_iff.mp e4
    simp only [Prod.mk.injEq] at hp0
    exact ⟨g0, ⟨k, j, k, hk, hres _ _ (Lambda.resolvedOf_field e1 e2 e3), hk, hfields j _ hg0⟩, hp0.1, hp0.2⟩
  · refine ⟨?_, hrec.2.1⟩
    rw [hty.1, hok0, o9]
    simp
section MADEWALK
variable {p : Program} {l : Launch} {e : Env} {R : Room} {s : State} {m : MethodId} {args : Array Value} {below : List Frame} {meth : Method} {c : Code} {E : gE} {Kv : Option gV → gS → Prop} {X : Nat → gS → Prop} {G : gS} {pc : Nat} {lv : List (Nat × gV)} {st : List gV} {cc : ByteArray}
theorem gr_aload (hx : p.tables.exec = Jvm.exec) (hb : c.code = cc) (j : Nat) {i : Fin 4} {n : Nat} {x : Option Nat} (hi : (i : Nat) = n) (hl : lv[j]? = some (n, vQ x)) (hd : decode cc pc = .ok (.aload_n i, 1)) (k : gGo (p, l, e, R, s, m, args, below, meth, c, E, Kv, X) G (pc + 1) lv (vQ x :: st)) : gGo (p, l, e, R, s, m, args, below, meth, c, E, Kv, X) G pc lv st := by
  intro H locs ls h1 h2 h3 h4 h5
  have hk := k H locs ls h1 h2 h3 h4 h5
  have ha := h5.at j hl
  cases x with
  | none => exact lv_aload_nN hx hb hd hi ha hk
  | some a => exact lv_aload_n hx hb hd hi ha hk
theorem gr_get (hx : p.tables.exec = Jvm.exec) (hb : c.code = cc) {index b i j : Nat} {vs : List Value} {v : gV} (hf : ∀ U : State, s.WarmedH U.vm → ∃ g0 : Field, U.vm.fieldReady m.cls index m.cls g0 ∧ g0.isStatic = false ∧ g0.slot = j) (hlam : gIsL G b i vs) (hv : vs[j]? = some (gv2 v)) (hd : decode cc pc = .ok (.getfield index, 3)) (k : gGo (p, l, e, R, s, m, args, below, meth, c, E, Kv, X) G (pc + 3) lv (v :: st)) : gGo (p, l, e, R, s, m, args, below, meth, c, E, Kv, X) G pc lv (vQ (some b) :: st) := by
  intro H locs ls h1 h2 h3 h4 h5
  intro T hT X0
  obtain ⟨-, cell, e1, e2, e3, e4⟩ := h1.1 b _ hlam.choose_spec
  obtain ⟨g0, f1, f2, f3⟩ := hf T X0.warmed
  obtain ⟨t, a1, b1⟩ := k H locs ls h1 h2 h3 h4 h5 T hT X0
  refine ⟨t, ?_, b1⟩
  subst hb
  show Steps p.tables e below (T.setTop (F0 m pc ls (Value.ref b :: st.map gv2))) t
  jvm_step X0.here [hx, hd, getfield.wp_ready (e := e) (s := T) (c := m.cls) (field := g0) (a := b) (rest := st.map gv2) (cell := cell) (v := gv2 v) (f := F0 m pc ls (Value.ref b :: st.map gv2)) X0.here.top f1 f2 rfl (by rw [hT]; exact e1) (by rw [e3]; exact fun q => by cases q) (by rw [e4, f3]; simpa using hv)]
  exact a1
theorem gr_call (hx : p.tables.exec = Jvm.exec) (hb : c.code = cc) (ht : ∀ w ∈ lw_all, w.before args s = true) (hKn : gKn E s) (hR1 : R.cells = gN E - s.heap.size) (hR2 : R.slots = gM E - gtot (gB E) s.heap) (hbs : gB E ≤ s.heap.size)
    {y : MethodName} {b2 : ByteArray} {nL2 F2 L2 n index : Nat} {rt2 : Option FieldType} {Kv2 : Option gV → gS → Prop} {X2 : Nat → gS → Prop} {As stk : List gV} (hcd : gCode y b2 nL2 rt2 n) (hM : gMet l y (ws_ y b2 nL2 rt2) F2 L2 As E G Kv2 X2)
    (hst9 : ∀ U : State, s.WarmedH U.vm → gStAt e U m.cls index y n) (hF : F2 + 1 ≤ R.frames) (hL : 16 + (nL2 + 11) + L2 ≤ R.locals) (hn : As.length = n) (hst : st.length ≤ 8) (hs : As.reverse ++ st = stk) (hd : decode cc pc = .ok (.invokestatic index, 3))
    (kk : ∀ w G', Kv2 w G' → gGo (p, l, e, R, s, m, args, below, meth, c, E, Kv, X) G' (pc + 3) lv (w.toList ++ st)) (kx : ∀ q G', X2 q G' → gIsO G' q → gTh (p, l, e, R, s, m, args, below, meth, c, E, Kv, X) G' pc lv q) : gGo (p, l, e, R, s, m, args, below, meth, c, E, Kv, X) G pc lv stk := by
  subst hs
  intro H locs ls h1 h2 h3 h4 h5
  intro T hT X0
  obtain ⟨t, kt, metht, q1, q2, q3, q4, q5, q6, q7, q8, q9⟩ := hst9 T X0.warmed
  refine g_after (cells := H.size - s.heap.size) (slots := gtot (gB E) H - gtot (gB E) s.heap) (av := (As.map gv2).toArray) (d := 3) (st := st) (lv := lv) (Kv2 := Kv2) (X2 := X2) (rest := st.map gv2) hbs h4 h5 ?_ rfl kk kx
  have hpre : gPre s R E G As ⟨T, locs, H.size - s.heap.size, gtot (gB E) H - gtot (gB E) s.heap⟩ (As.map gv2).toArray := g_pre (av := As) hT h1 h2 h3 hKn hR1 hR2 T.vm X0.warmed
  have hstep : ∀ target, (∀ acts, Steps p.tables e below (doInvoke e (T.setTop { F0 m pc ls ((As.reverse ++ st).map gv2) with stack := st.map gv2 }) acts t (As.map gv2).toArray).1 target) → Steps p.tables e below (T.setTop (F0 m pc ls ((As.reverse ++ st).map gv2))) target := by
    intro target h
    subst hb
    have hmr : (As.reverse ++ st).map gv2 = (As.map gv2).reverse ++ st.map gv2 := by simp
    rw [hmr] at h ⊢
    jvm_step X0.here [hx, hd, invokestatic.wp_ready (e := e) (s := T) (m := t) (k := kt) (meth := metht) (args := As.map gv2) (rest := st.map gv2) (f := F0 m pc ls ((As.map gv2).reverse ++ st.map gv2)) X0.here.top q1 q2 q3 q4 q5 q6 q7 (by rw [List.length_map, hn]; exact q8.symm) rfl]
    intro acts
    exact h _
  rcases g_backC ht hcd hM hF hL m meth c ⟨T, locs, H.size - s.heap.size, gtot (gB E) H - gtot (gB E) s.heap⟩ { F0 m pc ls ((As.reverse ++ st).map gv2) with stack := st.map gv2 } (.invokestatic index) t (As.map gv2).toArray X0 rfl h5.1 (by rw [hb]; exact hd) (g_room hst) q9 hpre with ⟨v, B, X', hpost, hsteps⟩ | ⟨q, B, X', hpost, hsteps⟩
  · exact Or.inl ⟨v, T.vm, B, X0.warmed, X', hpost, fun target h => hstep _ fun acts => by rw [doInvoke_state]; exact hsteps.trans h⟩
  · exact Or.inr ⟨q, T.vm, B, X0.warmed, X', hpost, hstep _ fun acts => by rw [doInvoke_state]; exact hsteps⟩
theorem gr_iret (hx : p.tables.exec = Jvm.exec) (hb : c.code = cc) (hlk : meth.locks = false) (hr : meth.sig.returnType = some .int) {x : Int32} (h : Kv (some (vI x)) G) (hd : decode cc pc = .ok (.ireturn, 1)) : gGo (p, l, e, R, s, m, args, below, meth, c, E, Kv, X) G pc lv [vI x] := by
  intro H locs ls h1 h2 h3 h4 h5
  have hA5 := h1.2.2.2.2.1
  have hA6 := h1.2.2.2.2.2
  refine W.widen (k := gN E - s.heap.size) (n := gM E - gtot (gB E) s.heap) (by omega) (by omega) ?_
  have hw := W.iret (s := s) (p := p) (l := l) (e := e) (R := R) (m := m) (args := args) (below := below) (H := H) (locs := locs) (cells := gN E - s.heap.size) (slots := gM E - gtot (gB E) s.heap) (pc := pc) (ls := ls) (Qc := fun _ _ oc t => ∃ (v : Option gV) (G' : gS), oc = .returned (v.map gv2) ∧ Kv v G' ∧ gAR E G' t.heap) (free := fun q => gB E ≤ q) hx hb hr (fun t ht hW => ⟨some (vI x), G, rfl, h, by rw [ht]; exact h1⟩) h4 hd hlk
  intro T hT X0
  obtain ⟨t, a1, oc, b1, b2, ⟨v, G', c1, c2, c3⟩, L9, d1, d2⟩ := hw T hT X0
  exact ⟨t, a1, oc, b1, b2, Or.inl ⟨v, G', c1, c2, c3, L9, d1, d2⟩⟩
theorem gr_out (hlk : meth.locks = false) (hex : c.exceptionTable.toList = []) {q : Nat} (h : X q G) (hio : gIsO G q) : gTh (p, l, e, R, s, m, args, below, meth, c, E, Kv, X) G pc lv q := by
  intro H locs ls rest h1 h2 h3 h4 h5
  have hA5 := h1.2.2.2.2.1
  have hA6 := h1.2.2.2.2.2
  intro T hT X0
  obtain ⟨st1, hrun, hend, hW, hsm⟩ := X0.leaveThrown q (g := F0 m pc ls rest) rfl rfl rfl (by rw [hex]; exact fun x hx => by cases hx) hlk
  exact ⟨_, st1, .threw q, hrun, hend, Or.inr ⟨q, G, rfl, h, hio, by show gAR E G T.heap; rw [hT]; exact h1, hW, locs, hsm.mono (by omega) (by omega), h4⟩⟩
theorem gr_made {n : Nat} {bs : List UInt8} {fx : List Nat} {mi : Nat} {y : MethodName} {b2 : ByteArray} {nL2 F2 L2 i b : Nat} {K : Int32 → gS → Prop} {o : Option Nat} {xs : List Int32} (hx : p.tables.exec = Jvm.exec) (hb : c.code = ⟨bs.toArray⟩) (hlk : meth.locks = false) (hr : meth.sig.returnType = some .int) (hex : c.exceptionTable.toList = []) (ht : ∀ w ∈ lw_all, w.before args s = true) (hKn : gKn E s) (hR1 : R.cells = gN E - s.heap.size) (hR2 : R.slots = gM E - gtot (gB E) s.heap) (hbs : gB E ≤ s.heap.size)
    (hmd : ∀ U : State, s.WarmedH U.vm → gMade e U m.cls n bs fx mi y) (hdec : gLamDec n bs fx mi) (hcd : gCode y b2 nL2 (some .int) (n + 1)) (hM : gMet l y (ws_ y b2 nL2 (some .int)) F2 L2 (xs.map vI ++ [vQ o]) E G (gRi K) X) (hF : F2 + 1 ≤ R.frames) (hL : 16 + (nL2 + 11) + L2 ≤ R.locals) (hxs : xs.length = n) (hlam : gIsL G b i (xs.map Value.int)) :
    gGo (p, l, e, R, s, m, args, below, meth, c, E, gRi K, X) G 0 [(0, vQ (some b)), (1, vQ o)] [] := by
  obtain ⟨d1, d2, d3, d4⟩ := hdec
  have hend : gGo (p, l, e, R, s, m, args, below, meth, c, E, gRi K, X) G (4 * n) [(0, vQ (some b)), (1, vQ o)] (xs.map vI).reverse := by
    refine gr_aload hx hb 1 rfl rfl d2 ?_
    refine gr_call hx hb ht hKn hR1 hR2 hbs hcd hM (fun U hU => by obtain ⟨k, methk, ck, -, -, -, -, -, -, -, -, -, -, h, -⟩ := hmd U hU; exact h) hF hL (by simp [hxs]) (st := []) (by simp) (by simp) d3 (gk_i fun r G' h => ?_) (fun q G' h hio => gr_out hlk hex h hio)
    exact gr_iret hx hb hlk hr h d4
  have key : ∀ k, k ≤ n → gGo (p, l, e, R, s, m, args, below, meth, c, E, gRi K, X) G (4 * (n - k)) [(0, vQ (some b)), (1, vQ o)] ((xs.take (n - k)).map vI).reverse := by
    intro k
    induction k with
    | zero => intro _; rw [Nat.sub_zero, ← hxs, List.take_length]; rw [hxs]; exact hend
    | succ k ih =>
      intro hk
      have ih' := ih (by omega)
      obtain ⟨j, hj, hjn⟩ : ∃ j, n - (k + 1) = j ∧ n - k = j + 1 := ⟨n - (k + 1), rfl, by omega⟩
      rw [hj]
      rw [hjn] at ih'
      have hlt : j < n := by omega
      obtain ⟨e1, e2⟩ := d1 j hlt
      refine gr_aload hx hb 0 rfl rfl e1 ?_
      refine gr_get hx hb (j := j) (v := vI (xs[j]'(by omega))) (fun U hU => by obtain ⟨k, methk, ck, -, -, -, -, -, -, -, -, -, -, -, h, -⟩ := hmd U hU; exact h j hlt) hlam (by rw [List.getElem?_map, List.getElem?_eq_getElem (by omega)]; rfl) e2 ?_
      rw [List.take_succ_eq_append_getElem (by omega), List.map_append, List.reverse_append] at ih'
      exact ih'
  have h0 := key n (Nat.le_refl n)
  rw [Nat.sub_self] at h0
  exact h0
end MADEWALK
section LAMROWS
variable {C : gCx} {own : String} {cc : ByteArray} {hh : List (Nat × Nat × Nat × Nat)} {rt : Option FieldType} {nm : String} {nL F L : Nat} {G : gS} {pc : Nat} {lv : List (Nat × gV)} {st stk : List gV}
/-- a call of a lambda's object, by the interface's method x -/
theorem g_callL (hC : gOk C own cc hh rt nm nL F L) {q : gSite} (hq : q ∈ gSites) {n : Nat} {bs : List UInt8} {fx fn : List Nat} {mi cx cu ntx : Nat} {y x : MethodName} {b2 : ByteArray} {nL2 F2 L2 b index count : Nat} {K : Int32 → gS → Prop} {X2 : Nat → gS → Prop} {o : Option Nat} {xs : List Int32}
    (hok : gLamOk q.2.2.2.2 q.2.1.cls n bs fx fn mi cx cu ntx y) (hdec : gLamDec n bs fx mi) (hxi : q.2.2.2.2.iface = x.cls) (hxn : q.2.2.2.2.name = x.name) (hxd : q.2.2.2.2.sam.toString = x.desc) (hifm : x ∈ gIfM) (hdcl : x ∈ gDcl)
    (hobj : Cond.instantiable "java/lang/Object" 0 ∈ lw_all) (hst9 : Cond.static y ∈ lw_all) (hcd : gCode y b2 nL2 (some .int) (n + 1)) (hM : gMet (cxL C) y (ws_ y b2 nL2 (some .int)) F2 L2 (xs.map vI ++ [vQ o]) (cxE C) G (gRi K) X2) (hxs : xs.length = n) (hlam : gIsL G b q.1 (xs.map Value.int))
    (hlink : Cond.methodLink own index x ∈ lw_all) (hpar : (parseMethodDescriptor x.desc).map (fun d => d.parameters.length) = some 1) (hF : F2 + 2 ≤ F) (hL : 16 + (2 + 11) + (16 + (nL2 + 11) + L2) ≤ L) (hst : st.length ≤ 8) (hd : decode cc pc = .ok (.invokeinterface index count, 5))
    (kk : ∀ w G', gRi K w G' → gGo C G' (pc + 5) lv (w.toList ++ st)) (kx : ∀ q G', X2 q G' → gIsO G' q → gTh C G' pc lv q) : gGo C G pc lv (vQ o :: vQ (some b) :: st) := by
  obtain ⟨p, l, e, R, s, m, args, below, meth, c, E, Kv, X⟩ := C
  obtain ⟨hx, hb, ho, ht, hKn, hlk, hm, hr, hmn, htab, hRF, hRL, hR1, hR2, hbs, hfl⟩ := hC
  intro H locs ls h1 h2 h3 h4 h5
  intro T hT X0
  have hA5 := h1.2.2.2.2.1
  have hA6 := h1.2.2.2.2.2
  obtain ⟨-, cell, e1, e2, e3, e4⟩ := h1.1 b _ hlam.choose_spec
  have hLm := hKn.2.2.2.2.2.2.2.2.2.2.2.2.2.1 q hq
  have hLm' := id hLm
  obtain ⟨m1, kc, cf0, i0, p0, ln, hm1, hkc, hcf0, hsh, hfind, hmade, hcall, hl⟩ := hLm'
  obtain ⟨dk', k, ok, tk, file, cf, object, iface, toy, lay, methods, target, found, hd', hk, hfile, hcf, hobj', hif, hok', hlay, hms, htt, htk, hg, hfo, hrec, -, -, -, hitf, hpool, hmeth, hfields, hty, hres, hselM⟩ := Lambda.isMade_spec hmade
  obtain ⟨i9, hi9, hasg, hway⟩ := State.lambdaCallable_spec hcall
  cases hif.symm.trans hi9
  obtain ⟨r0, r, hn0, hrm, hstR, hsigR⟩ := Cond.declares_spec (hKn.2.2.2.2.2.2.2.2.1 _ hdcl)
  obtain ⟨cL, kL, r1, hcL, hkL, hiL, hfoundL, hn1⟩ := Cond.interfaceMethod_spec (hKn.2.2.2.2.2.2.2.2.2.2.2.2.2.2.2.1 _ hifm)
  cases hn0.symm.trans hn1
  rw [hxi] at hif
  cases hif.symm.trans hcL
  have hr0cls : r0.cls = iface := Option.some.inj ((findClass_of_methodNamed hn0).symm.trans hcL)
  obtain ⟨hnameR, hdescR⟩ := name_of_methodNamed hn0 hrm
  have hfr : found = r0 := by
    have h9 : s.methodFound? x.cls x.name x.desc = some r0 := hfoundL
    simp only [State.methodFound?, hcL, hkL, Option.bind_eq_bind, Option.bind_some, hiL] at h9
    rw [hxn, hxd] at hfo
    rw [hfo] at h9
    exact Option.some.inj h9
  subst hfr
  have hi9x := gIfM_ok _ hifm
  have hL9 : ∀ (U : State), s.WarmedH U.vm → gMade e U (gLc E q.1) n bs fx mi y := fun U hU =>
    gMade.of (args := args) (hLm.moved hU) hok (word_at hU (good_of_word (List.mem_filter.mp hobj).2) (ht _ hobj)) hcd.2.2.1 (word_at hU (good_of_word (List.mem_filter.mp hcd.1).2) (ht _ hcd.1)) (word_at hU (good_of_word (List.mem_filter.mp hst9).2) (ht _ hst9)) (word_at hU (good_of_word (List.mem_filter.mp hcd.2.1).2) (ht _ hcd.2.1)) hcd.2.2.2
  obtain ⟨kM, methk, ck, g1, g2, g3, g4, g5, g6, g7, g8, g9, g10, -⟩ := hL9 s (State.WarmedH.refl s)
  have hselP : selectMethod e.platform s.vm cell.cls found = .method ⟨gLc E q.1, 1⟩ := by rw [Launch.admits_selectMethod X0.admits, e2]; exact hselM
  obtain ⟨vm₁, X₁, hstep₁⟩ := X0.invokeinterface hx ho (ht _ hlink) hn0 hrm hstR (by rw [hr0cls]; exact hkL) hiL hi9x (a := b) (cell := cell) (kcell := kM) (by rw [hT]; exact e1)
    (fun z h => by rw [e3] at h; cases h) (by rw [e2]; exact g1) (by rw [hr0cls, e2]; exact hasg) hselP g2 (by rw [hnameR, hdescR, ← hxn, ← hxd, e2]; exact hway) (by rw [g7]; decide) (by simp [Method.isAbstract, g7, hasFlag, Acc.abstract]) (g := F0 m pc ls ((vQ o :: vQ (some b) :: st).map gv2)) rfl (argsL := [va_rf o]) (rest := st.map gv2) (g_len_of hpar _ hsigR) rfl (by rw [hb]; exact hd)
  refine g_after (cells := H.size - s.heap.size) (slots := gtot (gB E) H - gtot (gB E) s.heap) (av := #[Value.ref b, va_rf o]) (d := 5) (st := st) (lv := lv) (Kv2 := gRi K) (X2 := X2) (rest := st.map gv2) hbs h4 h5 ?_ rfl kk kx
  have hW₁ := X₁.warmed
  have hsum := gvc_sum st
  have hh0 : (T.setVm vm₁).heap = H := hT
  obtain ⟨kM1, methk1, ck1, g1', g2', g3', g4', g5', g6', g7', g8', g9', g10', -⟩ := hL9 (T.setVm vm₁) hW₁
  have hrun := gx_run (E := E) (F := F2 + 1) (Lr := 16 + (nL2 + 11) + L2) (Kv := gRi K) (X := X2) (a := #[Value.ref b, va_rf o]) X₁ (g := { F0 m pc ls ((vQ o :: vQ (some b) :: st).map gv2) with stack := st.map gv2 }) rfl h5.1 (by rw [hb]; exact hd) g2' g3' g6' g10' (by rw [hRF]; omega) (by show 2 * 0 + ((st.map gv2).map fun v => v.category).sum + (ck1.maxLocals + 11) + (16 + (nL2 + 11) + L2) ≤ R.locals; rw [hRL, g5']; omega) (by rw [hh0, hR1]; omega) (by rw [hh0, hR2]; omega) (fun Y₀ => by
      have hWc : s.WarmedH ((T.setVm vm₁).calling { F0 m pc ls ((vQ o :: vQ (some b) :: st).map gv2) with stack := st.map gv2 } ⟨gLc E q.1, 1⟩ #[Value.ref b, va_rf o]).vm := hW₁
      have hhc : ((T.setVm vm₁).calling { F0 m pc ls ((vQ o :: vQ (some b) :: st).map gv2) with stack := st.map gv2 } ⟨gLc E q.1, 1⟩ #[Value.ref b, va_rf o]).heap = H := hh0
      have hws : ∀ w ∈ lw_all, w.before #[Value.ref b, va_rf o] ((T.setVm vm₁).calling { F0 m pc ls ((vQ o :: vQ (some b) :: st).map gv2) with stack := st.map gv2 } ⟨gLc E q.1, 1⟩ #[Value.ref b, va_rf o]) = true := fun w hw => word_at hWc (good_of_word (List.mem_filter.mp hw).2) (ht w hw)
      generalize hsc : (T.setVm vm₁).calling { F0 m pc ls ((vQ o :: vQ (some b) :: st).map gv2) with stack := st.map gv2 } ⟨gLc E q.1, 1⟩ #[Value.ref b, va_rf o] = sc at *
      rw [hh0]
      have hgo := gr_made (p := p) (l := l) (e := e) (R := { frames := F2 + 1, cells := gN E - H.size, slots := gM E - gtot (gB E) H, locals := 16 + (nL2 + 11) + L2 }) (s := sc) (m := ⟨gLc E q.1, 1⟩) (args := #[Value.ref b, va_rf o]) (below := .java { F0 m pc ls ((vQ o :: vQ (some b) :: st).map gv2) with stack := st.map gv2 } :: below) (meth := methk1) (c := ck1) (E := E) (X := X2) (K := K) (o := o) (xs := xs) (b := b) (i := q.1) (G := G) hx g4' g6' g8' (by rw [g9']) hws (hKn.moved hWc) (by rw [hhc]) (by rw [hhc]) (by rw [hhc]; exact h1.2.1) (fun U hU => hL9 U (State.WarmedH.trans hWc hU)) hdec hcd hM (Nat.le_refl _) (Nat.le_refl _) hxs hlam
      have hl := lv_entry ([vQ (some b), vQ o].map gv2) (n := 2) (by rw [glen_eq]; exact Nat.le_refl _)
      rw [glv_eq] at hl
      have hw := hgo H [] _ h1 (by rw [hhc]; exact Nat.le_refl _) (by rw [hhc]; exact Nat.le_refl _) (fun z hz => by cases hz) (by unfold gLv; rw [g5']; exact hl)
      rw [hhc, Nat.sub_self, Nat.sub_self] at hw
      have he : entryFrame ⟨gLc E q.1, 1⟩ ([vQ (some b), vQ o].map gv2).toArray 2 = _ := lg_entry_eq ⟨gLc E q.1, 1⟩ ([vQ (some b), vQ o].map gv2) 2
      rw [g5']
      show W _ _ _ _ _ _ _ _ _ _ _ _ _ _ _ (entryFrame ⟨gLc E q.1, 1⟩ ([vQ (some b), vQ o].map gv2).toArray 2)
      rw [he]
      exact hw)
  rcases hrun with ⟨v, B, X', hpost, hsteps⟩ | ⟨q9, B, X', hpost, hsteps⟩
  · exact Or.inl ⟨v, vm₁, B, hW₁, X', hpost, fun target h => hstep₁ _ fun acts => hsteps acts target h⟩
  · exact Or.inr ⟨q9, vm₁, B, hW₁, X', hpost, hstep₁ _ fun acts => hsteps acts⟩
end LAMROWS
