/-! SPECIAL ROWS: private methods of a superclass, super calls, array copies -/
set_option maxRecDepth 20000
section SPEC0
variable {p : Program} {l : Launch} {e : Env} {R : Room} {s : State} {m : MethodId} {args : Array Value} {below : List Frame} {meth : Method} {c : Code}
theorem gx_callP {T : State} {locs : List Loc} {cells slots : Nat} (X : Stand p l e R s m args below meth c T locs cells slots) (hexec : p.tables.exec = Jvm.exec) {own : String} {index : Nat} {y : MethodName} {bytes : ByteArray} {maxL : Nat} {ret : Option FieldType}
    (hown : s.vm.findClass own = some m.cls) (hlink : (Cond.methodLink own index y).before args s = true) (hsame : (Cond.sameMethod y.cls y.cls y.name y.desc).before args s = true) (hinst : (Cond.instanceMethod y).before args s = true) (hpriv : s.PrivateAt y)
    (hcode : (Cond.code y bytes maxL ret).before args s = true) (hy : y.cls ≠ "java/lang/invoke/MethodHandle" ∧ y.cls ≠ "java/lang/invoke/VarHandle")
    {W9 : Nat} {Pre : Pt → Array Value → Prop} {Post : Pt → Array Value → Option Value → Pt → Prop} {PostX : Pt → Array Value → Addr → Pt → Prop} (hK : vx_Back l R p e below s args y 3 W9 Pre Post PostX)
    {b : Addr} {cellB : Cell} (hcell : T.heap[b]? = some cellB) (hobj : cellB.vm.isStatics = false)
    {g : JFrame} (hg : g.method = m) (hsize : g.locals.size = c.maxLocals) {argsL rest : List Value} (hlen : ∀ sig, parseMethodDescriptor y.desc = some sig → argsL.length = sig.parameters.length)
    (hstack : g.stack = argsL.reverse ++ .ref b :: rest) (hW : 2 * g.monitorRoom + (rest.map fun v => v.category).sum ≤ W9) (hdg : decode c.code g.pc = .ok (.invokevirtual index, 3))
    (hpre : ∀ vm₁, s.WarmedH vm₁ → Pre ⟨T.setVm vm₁, locs, cells, slots⟩ (Value.ref b :: argsL).toArray) :
    (∃ (v : Option Value) (vm₁ : Vm) (B : Pt), s.WarmedH vm₁ ∧ Stand p l e R s m args below meth c B.U B.locs B.cells B.slots ∧ Post ⟨T.setVm vm₁, locs, cells, slots⟩ (Value.ref b :: argsL).toArray v B ∧
      ∀ target, Steps p.tables e below (B.U.setTop { g with pc := g.pc + 3, stack := v.toList ++ rest }) target → Steps p.tables e below (T.setTop g) target) ∨
    (∃ (q : Addr) (vm₁ : Vm) (B : Pt), s.WarmedH vm₁ ∧ Stand p l e R s m args below meth c B.U B.locs B.cells B.slots ∧ PostX ⟨T.setVm vm₁, locs, cells, slots⟩ (Value.ref b :: argsL).toArray q B ∧
      Steps p.tables e below (T.setTop g) ((B.U.setTop { g with stack := rest }).pushFrame (.throwing q))) := by
  obtain ⟨mk, methM, hnamed, hmethM, hstM, habM⟩ := Cond.instanceMethod_spec hinst
  obtain ⟨methM', cM, hmethM', -, -, -, -, -, -, hsigM⟩ := Cond.code_spec hnamed hcode
  cases hmethM.symm.trans hmethM'
  obtain ⟨cn, kP, r1, hcn, hck, hkPi, hf, hn1⟩ := Cond.sameMethod_found hsame
  have hn : s.methodNamed? ⟨y.cls, y.name, y.desc⟩ = some mk := hnamed
  have hcm : cn = mk.cls := Option.some.inj (hcn.symm.trans (findClass_of_methodNamed hnamed))
  have hkP : s.vm.classes[mk.cls]? = some kP := by rw [← hcm]; exact hck
  have hselP : selectMethod e.platform s.vm cellB.cls mk = .method mk := selectMethod_private hmethM (hpriv mk methM hnamed hmethM)
  obtain ⟨vm₁, X₁, hstep₁⟩ := X.invokevirtual hexec hown hlink hnamed hmethM hstM hkP hkPi hy (a := b) (cell := cellB) hcell
    (fun z h => by rw [h] at hobj; cases hobj) hselP hmethM habM hkP hkPi (g := g) hg (argsL := argsL) (rest := rest) (hlen _ hsigM) hstack hdg
  rcases hK m meth c ⟨T.setVm vm₁, locs, cells, slots⟩ { g with stack := rest } (.invokevirtual index) mk (Value.ref b :: argsL).toArray X₁ hg hsize hdg hW (X₁.named hnamed) (hpre vm₁ X₁.warmed) with ⟨v, B, X', hpost, hsteps⟩ | ⟨q, B, X', hpost, hsteps⟩
  · exact Or.inl ⟨v, vm₁, B, X₁.warmed, X', hpost, fun target h => hstep₁ _ fun acts => by rw [doInvoke_state]; exact hsteps.trans h⟩
  · exact Or.inr ⟨q, vm₁, B, X₁.warmed, X', hpost, hstep₁ _ fun acts => by rw [doInvoke_state]; exact hsteps⟩
theorem gsubc {vm : Vm} {ps ob : ClassId} {k : Class} (hk : vm.classes[ps]? = some k) (hs : k.super = some ob) : vm.isSubclass ps ob = true := by
  have hlt : ps < vm.classes.size := (Array.getElem?_eq_some_iff.mp hk).1
  obtain ⟨n, hn⟩ : ∃ n, vm.classes.size = n + 1 := ⟨vm.classes.size - 1, (Nat.sub_add_cancel (Nat.lt_of_le_of_lt (Nat.zero_le _) hlt)).symm⟩
  unfold Vm.isSubclass
  rw [hn]
  simp [Vm.isSubclassAux, hk, hs]
theorem gx_callSU {T : State} {locs : List Loc} {cells slots : Nat} (X : Stand p l e R s m args below meth c T locs cells slots) (hexec : p.tables.exec = Jvm.exec) {own sup : String} {index : Nat} {y : MethodName} {bytes : ByteArray} {maxL : Nat} {ret : Option FieldType}
    (hown : s.vm.findClass own = some m.cls) (hlink : (Cond.methodLink own index ⟨sup, y.name, y.desc⟩).before args s = true) (hsame : (Cond.sameMethod sup y.cls y.name y.desc).before args s = true) (hsup : (Cond.superclass own sup).before args s = true) (hsup2 : (Cond.superclass sup y.cls).before args s = true)
    (hinst : (Cond.instanceMethod y).before args s = true) (hcode : (Cond.code y bytes maxL ret).before args s = true) (hno : y.name ≠ "<init>")
    {W : Nat} {Pre : Pt → Array Value → Prop} {Post : Pt → Array Value → Option Value → Pt → Prop} {PostX : Pt → Array Value → Addr → Pt → Prop} (hK : vx_Back l R p e below s args y 3 W Pre Post PostX)
    {b : Addr} {cellB : Cell} {kB : Class} (hcell : T.heap[b]? = some cellB) (hobj : cellB.vm.isStatics = false) (hkB : s.vm.classes[cellB.cls]? = some kB)
    {g : JFrame} (hg : g.method = m) (hsize : g.locals.size = c.maxLocals) {argsL rest : List Value} (hlen : ∀ sig, parseMethodDescriptor y.desc = some sig → argsL.length = sig.parameters.length)
    (hstack : g.stack = argsL.reverse ++ .ref b :: rest) (hW : 2 * g.monitorRoom + (rest.map fun v => v.category).sum ≤ W) (hdg : decode c.code g.pc = .ok (.invokespecial index, 3))
    (hpre : ∀ vm₁, s.WarmedH vm₁ → Pre ⟨T.setVm vm₁, locs, cells, slots⟩ (Value.ref b :: argsL).toArray) :
    (∃ (v : Option Value) (vm₁ : Vm) (B : Pt), s.WarmedH vm₁ ∧ Stand p l e R s m args below meth c B.U B.locs B.cells B.slots ∧ Post ⟨T.setVm vm₁, locs, cells, slots⟩ (Value.ref b :: argsL).toArray v B ∧
      ∀ target, Steps p.tables e below (B.U.setTop { g with pc := g.pc + 3, stack := v.toList ++ rest }) target → Steps p.tables e below (T.setTop g) target) ∨
    (∃ (q : Addr) (vm₁ : Vm) (B : Pt), s.WarmedH vm₁ ∧ Stand p l e R s m args below meth c B.U B.locs B.cells B.slots ∧ PostX ⟨T.setVm vm₁, locs, cells, slots⟩ (Value.ref b :: argsL).toArray q B ∧
      Steps p.tables e below (T.setTop g) ((B.U.setTop { g with stack := rest }).pushFrame (.throwing q))) := by
  obtain ⟨mk, methM, hnamed, hmethM, hstM, habM⟩ := Cond.instanceMethod_spec hinst
  obtain ⟨methM', cM, hmethM', -, -, -, -, -, -, hsigM⟩ := Cond.code_spec hnamed hcode
  cases hmethM.symm.trans hmethM'
  obtain ⟨ps, dk, kp, hps, hdk, hkp, hsuper, -, -, hnid⟩ := Cond.superclass_spec hown hsup
  obtain ⟨ob, dk2, kp2, hob, hdk2, -, hsuper2, -, -, -⟩ := Cond.superclass_spec hps hsup2
  have hn : s.methodNamed? ⟨y.cls, y.name, y.desc⟩ = some mk := hnamed
  have hpm : ob = mk.cls := Option.some.inj (hob.symm.trans (findClass_of_methodNamed hnamed))
  have hsub : s.vm.isSubclass ps mk.cls = true := by rw [← hpm]; exact gsubc hdk2 hsuper2
  obtain ⟨vm₁, X₁, hstep₁⟩ := X.invokespecialUp hexec hown (x := ⟨sup, y.name, y.desc⟩) (owner := y.cls) hlink hsame hn hmethM hstM habM hno hdk hnid hps hsuper hsub (a := b) (cell := cellB) hcell
    (fun z h => by rw [h] at hobj; cases hobj) hkB (g := g) hg (argsL := argsL) (rest := rest) (hlen _ hsigM) hstack hdg
  rcases hK m meth c ⟨T.setVm vm₁, locs, cells, slots⟩ { g with stack := rest } (.invokespecial index) mk (Value.ref b :: argsL).toArray X₁ hg hsize hdg hW (X₁.named hnamed) (hpre vm₁ X₁.warmed) with ⟨v, B, X', hpost, hsteps⟩ | ⟨q, B, X', hpost, hsteps⟩
  · exact Or.inl ⟨v, vm₁, B, X₁.warmed, X', hpost, fun target h => hstep₁ _ (by rw [doInvoke_state]; exact hsteps.trans h)⟩
  · exact Or.inr ⟨q, vm₁, B, X₁.warmed, X', hpost, hstep₁ _ (by rw [doInvoke_state]; exact hsteps)⟩
end SPEC0
section SPEC1
variable {C : gCx} {own : String} {cc : ByteArray} {hh : List (Nat × Nat × Nat × Nat)} {rt : Option FieldType} {nm : String} {nL F L : Nat} {G : gS} {pc : Nat} {lv : List (Nat × gV)} {st stk : List gV}
variable {y : MethodName} {b2 : ByteArray} {nL2 F2 L2 n index : Nat} {rt2 : Option FieldType} {hh2 : List (Nat × Nat × Nat × Nat)} {Kv2 : Option gV → gS → Prop} {X2 : Nat → gS → Prop} {av As : List gV}
theorem g_ldcSW (hC : gOk C own cc hh rt nm nL F L) {tx : String} {i index : Nat} (hm : (own, index, tx, i) ∈ gStr) (hd : decode cc pc = .ok (.ldc_w index, 3)) (k : gGo C G (pc + 3) lv (vQ (some (cxA C i)) :: st)) : gGo C G pc lv st := by
  obtain ⟨p, l, e, R, s, m, args, below, meth, c, E, Kv, X⟩ := C
  obtain ⟨hx, hb, ho, ht, hKn, -⟩ := hC
  intro H locs ls h1 h2 h3 h4 h5
  have hZ := hKn.2.2.2.2.2.2.2.2.2.2.2.2.1 _ hm
  intro T hT X
  obtain ⟨t, a1, b1⟩ := k H locs ls h1 h2 h3 h4 h5 T hT X
  exact ⟨t, X.ldcStringW hx ho (text := tx) (a := gAd E i) hZ.1 hZ.2 (g := F0 m pc ls (st.map gv2)) rfl (by rw [hb]; exact hd) t a1, b1⟩
theorem g_callP (hC : gOk C own cc hh rt nm nL F L) {b : Nat} (hcd : gCode y b2 nL2 rt2 n) (hM : gMet (cxL C) y (ws_ y b2 nL2 rt2) F2 L2 (vQ (some b) :: As) (cxE C) G Kv2 X2) {r : vw_C} {ci : Nat} (hrr : gCl[ci]? = some r) (his : gIs G b ci) (hlink : Cond.methodLink own index y ∈ lw_all) (hsame : Cond.sameMethod y.cls y.cls y.name y.desc ∈ lw_all) (hpv : y ∈ gPriv) (hinst : Cond.instanceMethod y ∈ lw_all) (hF : F2 + 1 ≤ F) (hL : 16 + (nL2 + 11) + L2 ≤ L) (hn : As.length = n) (hst : st.length ≤ 8) (hs : As.reverse ++ vQ (some b) :: st = stk) (hd : decode cc pc = .ok (.invokevirtual index, 3)) (kk : ∀ w G', Kv2 w G' → gGo C G' (pc + 3) lv (w.toList ++ st)) (kx : ∀ q G', X2 q G' → gIsO G' q → gTh C G' pc lv q) : gGo C G pc lv stk := by
  obtain ⟨p, l, e, R, s, m, args, below, meth, c, E, Kv, X⟩ := C
  obtain ⟨hx, hb, ho, ht, hKn, hlk, hm, hr, hmn, htab, hRF, hRL, hR1, hR2, hbs, hfl⟩ := hC
  subst hs
  intro H locs ls h1 h2 h3 h4 h5
  intro T hT X0
  obtain ⟨cellB, c1, c2, c3⟩ := his.cell h1 hrr hKn
  have hpv' := hKn.2.2.2.2.2.2.2.2.2.2.2.2.2.2.1 _ hpv
  refine g_after (st := st) (lv := lv) hbs h4 h5 (gx_callP X0 hx (bytes := b2) (maxL := nL2) (ret := rt2) ho (ht _ hlink) (ht _ hsame) (ht _ hinst) (Cond.privateMethod_at (va_any (A' := args) rfl hpv')) (ht _ hcd.1) hcd.2.2.1 (g_backC ht hcd hM (by rw [hRF]; exact hF) (by rw [hRL]; exact hL)) (by rw [hT]; exact c1) c2 (g := F0 m pc ls _) rfl (by show ls.size = _; exact h5.1) (argsL := As.map gv2) (rest := st.map gv2) (fun sig h => by rw [List.length_map, hn]; exact g_len_of hcd.2.2.2 sig h) (by show List.map gv2 (As.reverse ++ vQ (some b) :: st) = _; simp [gv2, va_rf]) (g_room hst) (by rw [hb]; exact hd) (fun vm₁ hW => g_pre (av := vQ (some b) :: As) hT h1 h2 h3 hKn hR1 hR2 vm₁ hW)) rfl kk kx
theorem g_callSU2 (hC : gOk C own cc hh rt nm nL F L) {b : Nat} (hcd : gCode y b2 nL2 rt2 n) (hM : gMet (cxL C) y (ws_ y b2 nL2 rt2) F2 L2 (vQ (some b) :: As) (cxE C) G Kv2 X2) {sup : String} {r : vw_C} {ci : Nat} (hrr : gCl[ci]? = some r) (his : gIs G b ci) (hlink : Cond.methodLink own index ⟨sup, y.name, y.desc⟩ ∈ lw_all) (hsame : Cond.sameMethod sup y.cls y.name y.desc ∈ lw_all) (hsup : Cond.superclass own sup ∈ lw_all) (hsup2 : Cond.superclass sup y.cls ∈ lw_all) (hinst : Cond.instanceMethod y ∈ lw_all) (hno : y.name ≠ "<init>") (hF : F2 + 1 ≤ F) (hL : 16 + (nL2 + 11) + L2 ≤ L) (hn : As.length = n) (hst : st.length ≤ 8) (hs : As.reverse ++ vQ (some b) :: st = stk) (hd : decode cc pc = .ok (.invokespecial index, 3)) (kk : ∀ w G', Kv2 w G' → gGo C G' (pc + 3) lv (w.toList ++ st)) (kx : ∀ q G', X2 q G' → gIsO G' q → gTh C G' pc lv q) : gGo C G pc lv stk := by
  obtain ⟨p, l, e, R, s, m, args, below, meth, c, E, Kv, X⟩ := C
  obtain ⟨hx, hb, ho, ht, hKn, hlk, hm, hr, hmn, htab, hRF, hRL, hR1, hR2, hbs, hfl⟩ := hC
  subst hs
  intro H locs ls h1 h2 h3 h4 h5
  intro T hT X0
  obtain ⟨cellB, c1, c2, c3⟩ := his.cell h1 hrr hKn
  obtain ⟨kB, hkB, -⟩ := Vm.findClass_spec c3
  refine g_after (st := st) (lv := lv) hbs h4 h5 (gx_callSU X0 hx (bytes := b2) (maxL := nL2) (ret := rt2) ho (ht _ hlink) (ht _ hsame) (ht _ hsup) (ht _ hsup2) (ht _ hinst) (ht _ hcd.1) hno (g_backC ht hcd hM (by rw [hRF]; exact hF) (by rw [hRL]; exact hL)) (by rw [hT]; exact c1) c2 hkB (g := F0 m pc ls _) rfl (by show ls.size = _; exact h5.1) (argsL := As.map gv2) (rest := st.map gv2) (fun sig h => by rw [List.length_map, hn]; exact g_len_of hcd.2.2.2 sig h) (by show List.map gv2 (As.reverse ++ vQ (some b) :: st) = _; simp [gv2, va_rf]) (g_room hst) (by rw [hb]; exact hd) (fun vm₁ hW => g_pre (av := vQ (some b) :: As) hT h1 h2 h3 hKn hR1 hR2 vm₁ hW)) rfl kk kx
abbrev gcQ (f : Nat → Option Nat) : (Nat → Int32) ⊕ (Nat → Int64) ⊕ (Nat → UInt32) ⊕ (Nat → UInt64) ⊕ (Nat → Option Nat) := .inr (.inr (.inr (.inr f)))
def wCopyI (G : gS) (a0 : Nat) (sp : Int32) (a : Nat) (dp n : Int32) (K : gS → Prop) : Prop := ∃ (w : Bool) (n0 n1 : Nat) (f g : Nat → Int32), G.1 a0 = some (gAi w n0 f) ∧ G.1 a = some (gAi true n1 g) ∧ ¬ sp < 0 ∧ ¬ dp < 0 ∧ ¬ n < 0 ∧ sp.toNatClampNeg + n.toNatClampNeg ≤ n0 ∧ dp.toNatClampNeg + n.toNatClampNeg ≤ n1 ∧ K (gSet G a (gAi true n1 (va_cpy f g sp.toNatClampNeg dp.toNatClampNeg n.toNatClampNeg)))
theorem g_copyI (hC : gOk C own cc hh rt nm nL F L) {index : Nat} (hlink : Cond.methodLink own index arraycopyName ∈ lw_all) (hnat : Cond.native arraycopyName ∈ lw_all) (hstat : Cond.static arraycopyName ∈ lw_all) (hini : Cond.initialized "java/lang/System" ∈ lw_all) (hF : 1 ≤ F) (hL : 16 + (nativeFrameWords "java/lang/System" "arraycopy" 5 + 11) ≤ L) (hst : st.length ≤ 8) {a0 a : Nat} {sp dp n : Int32} {K : gS → Prop} (h : wCopyI G a0 sp a dp n K) (hd : decode cc pc = .ok (.invokestatic index, 3)) (k : ∀ G', K G' → gGo C G' (pc + 3) lv st) : gGo C G pc lv (vI n :: vI dp :: vQ (some a) :: vI sp :: vQ (some a0) :: st) := by
  obtain ⟨p, l, e, R, s, m, args, below, meth, c, E, Kv, X⟩ := C
  obtain ⟨hx, hb, ho, ht, hKn, hlk, hm, hr, hmn, htab, hRF, hRL, hR1, hR2, hbs, hfl⟩ := hC
  obtain ⟨w, n0, n1, f, g, ha0, ha, q1, q2, q3, q4, q5, h⟩ := h
  intro H locs ls h1 h2 h3 h4 h5
  obtain ⟨-, scr, u1, u2, u3, u4, u5, u6, u7, -⟩ := h1.1 a0 _ ha0
  obtain ⟨hw, cell, e1, e2, e3, e4, e5, e6, e7, e8⟩ := h1.1 a _ ha
  obtain ⟨hT, hRA⟩ := hKn.2.1 0 _ rfl
  have hba : gB E ≤ a := hw rfl
  have e8' := e8 rfl
  have e5' : n1 ≤ cell.slots.size := e5
  have u5' : n0 ≤ scr.slots.size := u5
  have u7' : ∀ j, j < n0 → scr.slots[j]? = some (Value.int (f j)) := u7
  have nn : ∀ z : Int32, ¬ z < 0 → z.toInt = (z.toNatClampNeg : Int) := by
    intro z hz
    have hz0 : (0 : Int) ≤ z.toInt := by
      have := Int32.not_lt.mp hz
      simpa using Int32.le_iff_toInt_le.mp this
    show z.toInt = ((z.toInt.toNat : Nat) : Int)
    omega
  intro T hT0 X0
  obtain ⟨k0, hk0, cm0, hkk0⟩ := (gArr_of hT u2 u3).2
  obtain ⟨k1, hk1, cm1, hkk1⟩ := (gArr_of hT e2 e3).2
  have hsum := gvc_sum st
  obtain ⟨vm', X', step⟩ := X0.arraycopy hx ho (ht _ hlink) (ht _ hnat) (ht _ hstat) (ht _ hini) (src := a0) (dst := a) (cs := scr) (cd := cell) (srcPos := sp) (destPos := dp) (n := n) (by rw [hT0]; exact u1) (by rw [hT0]; exact e1)
    u3 e3 u4 e4 hk0 hk1 hkk0 hkk1 (by simp [refKind]) q1 q2 q3
    (by rw [nn sp q1, nn n q3]; omega)
    (by rw [nn dp q2, nn n q3]; omega)
    (fun vm₁ hvm i hi => by
      have e : scr.slots.getD (sp.toNatClampNeg + i) .null = Value.int (f (sp.toNatClampNeg + i)) := by
        rw [Array.getD_eq_getD_getElem?, u7' _ (by omega)]
        rfl
      rw [e]
      exact ⟨rfl, trivial⟩)
    (g := F0 m pc ls ((vI n :: vI dp :: vQ (some a) :: vI sp :: vQ (some a0) :: st).map gv2)) rfl h5.1 (rest := st.map gv2) rfl (by rw [hb]; exact hd) (by rw [hRF]; exact hF) (by show 2 * 0 + _ + _ ≤ _; rw [hRL]; omega)
  have hce : copied scr cell sp dp n = arrV (gT E 0) n1 (gval (n1, .inl (va_cpy f g sp.toNatClampNeg dp.toNatClampNeg n.toNatClampNeg))) := by
    rw [e8']
    exact va_copiedX (fun z => Value.int z) scr (gT E 0) f g u7' q4
  rw [hce] at X' step
  generalize hcn : arrV (gT E 0) n1 (gval (n1, .inl (va_cpy f g sp.toNatClampNeg dp.toNatClampNeg n.toNatClampNeg))) = cn at X' step
  have hl : a < H.size := (Array.getElem?_eq_some_iff.mp e1).1
  have hheap : ((T.setVm vm').setCell a cn).heap = H.setIfInBounds a cn := by rw [← hT0]; rfl
  have z2 : (H.setIfInBounds a cn).size = H.size := by simp
  have z1 : (H.setIfInBounds a cn)[a]? = some cn := by simp [Array.getElem?_setIfInBounds, hl]
  have z3 : ∀ q : Nat, q ≠ a → (H.setIfInBounds a cn)[q]? = H[q]? := fun q hq => by simp [Array.getElem?_setIfInBounds, Ne.symm hq]
  have hat : gat E a (true, .inl (0, (n1, .inl (va_cpy f g sp.toNatClampNeg dp.toNatClampNeg n.toNatClampNeg)))) (H.setIfInBounds a cn) := by
    subst hcn
    refine ⟨fun _ => hba, _, z1, rfl, (fun z q => by cases q), (fun q => by cases q), ?_, ?_, fun j hj => arrV_read _ _ hj, fun _ => rfl⟩
    · rw [arrV_size]; exact Nat.le_refl _
    · rw [arrV_size] <;> rfl
  have hsz : cn.slots.size = cell.slots.size := by rw [← hcn, e8', arrV_size, arrV_size]
  obtain ⟨g1, g2⟩ := gAR_set h1 e1 hba z1 hsz z2 z3 hat
  have hgo := k _ h (H.setIfInBounds a cn) (locs ++ (scr.stretch sp.toNatClampNeg n.toNatClampNeg).zipIdx.map fun q => ⟨a, dp.toNatClampNeg + q.2⟩) ls g1 (by rw [z2]; exact h2) (by rw [g2]; exact h3) (fun z hz => by
    rcases List.mem_append.mp hz with q | q
    · exact h4 z q
    · obtain ⟨y, -, hy⟩ := List.mem_map.mp q
      rw [← hy]; exact hba) h5
  rw [g2, z2] at hgo
  obtain ⟨t, a1, b1⟩ := hgo _ hheap X'
  exact ⟨t, step t a1, b1⟩
def wCopyB (G : gS) (a0 : Nat) (sp : Int32) (a : Nat) (dp n : Int32) (K : gS → Prop) : Prop := ∃ (w : Bool) (n0 n1 : Nat) (f g : Nat → Int32), G.1 a0 = some (gAb w n0 f) ∧ G.1 a = some (gAb true n1 g) ∧ ¬ sp < 0 ∧ ¬ dp < 0 ∧ ¬ n < 0 ∧ sp.toNatClampNeg + n.toNatClampNeg ≤ n0 ∧ dp.toNatClampNeg + n.toNatClampNeg ≤ n1 ∧ (∀ i, i < n.toNatClampNeg → fits .byte (.int (f (sp.toNatClampNeg + i))) = true) ∧ K (gSet G a (gAb true n1 (va_cpy f g sp.toNatClampNeg dp.toNatClampNeg n.toNatClampNeg)))
theorem g_copyB (hC : gOk C own cc hh rt nm nL F L) {index : Nat} (hlink : Cond.methodLink own index arraycopyName ∈ lw_all) (hnat : Cond.native arraycopyName ∈ lw_all) (hstat : Cond.static arraycopyName ∈ lw_all) (hini : Cond.initialized "java/lang/System" ∈ lw_all) (hF : 1 ≤ F) (hL : 16 + (nativeFrameWords "java/lang/System" "arraycopy" 5 + 11) ≤ L) (hst : st.length ≤ 8) {a0 a : Nat} {sp dp n : Int32} {K : gS → Prop} (h : wCopyB G a0 sp a dp n K) (hd : decode cc pc = .ok (.invokestatic index, 3)) (k : ∀ G', K G' → gGo C G' (pc + 3) lv st) : gGo C G pc lv (vI n :: vI dp :: vQ (some a) :: vI sp :: vQ (some a0) :: st) := by
  obtain ⟨p, l, e, R, s, m, args, below, meth, c, E, Kv, X⟩ := C
  obtain ⟨hx, hb, ho, ht, hKn, hlk, hm, hr, hmn, htab, hRF, hRL, hR1, hR2, hbs, hfl⟩ := hC
  obtain ⟨w, n0, n1, f, g, ha0, ha, q1, q2, q3, q4, q5, hq, h⟩ := h
  intro H locs ls h1 h2 h3 h4 h5
  obtain ⟨-, scr, u1, u2, u3, u4, u5, u6, u7, -⟩ := h1.1 a0 _ ha0
  obtain ⟨hw, cell, e1, e2, e3, e4, e5, e6, e7, e8⟩ := h1.1 a _ ha
  obtain ⟨hT, hRA⟩ := hKn.2.1 1 _ rfl
  have hba : gB E ≤ a := hw rfl
  have e8' := e8 rfl
  have e5' : n1 ≤ cell.slots.size := e5
  have u5' : n0 ≤ scr.slots.size := u5
  have u7' : ∀ j, j < n0 → scr.slots[j]? = some (Value.int (f j)) := u7
  have nn : ∀ z : Int32, ¬ z < 0 → z.toInt = (z.toNatClampNeg : Int) := by
    intro z hz
    have hz0 : (0 : Int) ≤ z.toInt := by
      have := Int32.not_lt.mp hz
      simpa using Int32.le_iff_toInt_le.mp this
    show z.toInt = ((z.toInt.toNat : Nat) : Int)
    omega
  intro T hT0 X0
  obtain ⟨k0, hk0, cm0, hkk0⟩ := (gArr_of hT u2 u3).2
  obtain ⟨k1, hk1, cm1, hkk1⟩ := (gArr_of hT e2 e3).2
  have hsum := gvc_sum st
  obtain ⟨vm', X', step⟩ := X0.arraycopy hx ho (ht _ hlink) (ht _ hnat) (ht _ hstat) (ht _ hini) (src := a0) (dst := a) (cs := scr) (cd := cell) (srcPos := sp) (destPos := dp) (n := n) (by rw [hT0]; exact u1) (by rw [hT0]; exact e1)
    u3 e3 u4 e4 hk0 hk1 hkk0 hkk1 (by simp [refKind]) q1 q2 q3
    (by rw [nn sp q1, nn n q3]; omega)
    (by rw [nn dp q2, nn n q3]; omega)
    (fun vm₁ hvm i hi => by
      have e : scr.slots.getD (sp.toNatClampNeg + i) .null = Value.int (f (sp.toNatClampNeg + i)) := by
        rw [Array.getD_eq_getD_getElem?, u7' _ (by omega)]
        rfl
      rw [e]
      exact ⟨hq i hi, trivial⟩)
    (g := F0 m pc ls ((vI n :: vI dp :: vQ (some a) :: vI sp :: vQ (some a0) :: st).map gv2)) rfl h5.1 (rest := st.map gv2) rfl (by rw [hb]; exact hd) (by rw [hRF]; exact hF) (by show 2 * 0 + _ + _ ≤ _; rw [hRL]; omega)
  have hce : copied scr cell sp dp n = arrV (gT E 1) n1 (gval (n1, .inl (va_cpy f g sp.toNatClampNeg dp.toNatClampNeg n.toNatClampNeg))) := by
    rw [e8']
    exact va_copiedX (fun z => Value.int z) scr (gT E 1) f g u7' q4
  rw [hce] at X' step
  generalize hcn : arrV (gT E 1) n1 (gval (n1, .inl (va_cpy f g sp.toNatClampNeg dp.toNatClampNeg n.toNatClampNeg))) = cn at X' step
  have hl : a < H.size := (Array.getElem?_eq_some_iff.mp e1).1
  have hheap : ((T.setVm vm').setCell a cn).heap = H.setIfInBounds a cn := by rw [← hT0]; rfl
  have z2 : (H.setIfInBounds a cn).size = H.size := by simp
  have z1 : (H.setIfInBounds a cn)[a]? = some cn := by simp [Array.getElem?_setIfInBounds, hl]
  have z3 : ∀ q : Nat, q ≠ a → (H.setIfInBounds a cn)[q]? = H[q]? := fun q hq => by simp [Array.getElem?_setIfInBounds, Ne.symm hq]
  have hat : gat E a (true, .inl (1, (n1, .inl (va_cpy f g sp.toNatClampNeg dp.toNatClampNeg n.toNatClampNeg)))) (H.setIfInBounds a cn) := by
    subst hcn
    refine ⟨fun _ => hba, _, z1, rfl, (fun z q => by cases q), (fun q => by cases q), ?_, ?_, fun j hj => arrV_read _ _ hj, fun _ => rfl⟩
    · rw [arrV_size]; exact Nat.le_refl _
    · rw [arrV_size] <;> rfl
  have hsz : cn.slots.size = cell.slots.size := by rw [← hcn, e8', arrV_size, arrV_size]
  obtain ⟨g1, g2⟩ := gAR_set h1 e1 hba z1 hsz z2 z3 hat
  have hgo := k _ h (H.setIfInBounds a cn) (locs ++ (scr.stretch sp.toNatClampNeg n.toNatClampNeg).zipIdx.map fun q => ⟨a, dp.toNatClampNeg + q.2⟩) ls g1 (by rw [z2]; exact h2) (by rw [g2]; exact h3) (fun z hz => by
    rcases List.mem_append.mp hz with q | q
    · exact h4 z q
    · obtain ⟨y, -, hy⟩ := List.mem_map.mp q
      rw [← hy]; exact hba) h5
  rw [g2, z2] at hgo
  obtain ⟨t, a1, b1⟩ := hgo _ hheap X'
  exact ⟨t, step t a1, b1⟩
def wCopyQ (G : gS) (a0 : Nat) (sp : Int32) (a : Nat) (dp n : Int32) (K : gS → Prop) : Prop := ∃ (w : Bool) (n0 n1 : Nat) (f g : Nat → Option Nat), G.1 a0 = some (gAq w n0 f) ∧ G.1 a = some (gAq true n1 g) ∧ ¬ sp < 0 ∧ ¬ dp < 0 ∧ ¬ n < 0 ∧ sp.toNatClampNeg + n.toNatClampNeg ≤ n0 ∧ dp.toNatClampNeg + n.toNatClampNeg ≤ n1 ∧ (∀ i, i < n.toNatClampNeg → gOkQ G (f (sp.toNatClampNeg + i))) ∧ K (gSet G a (gAq true n1 (va_cpy f g sp.toNatClampNeg dp.toNatClampNeg n.toNatClampNeg)))
theorem g_copyQ (hC : gOk C own cc hh rt nm nL F L) {index : Nat} (hlink : Cond.methodLink own index arraycopyName ∈ lw_all) (hnat : Cond.native arraycopyName ∈ lw_all) (hstat : Cond.static arraycopyName ∈ lw_all) (hini : Cond.initialized "java/lang/System" ∈ lw_all) (hF : 1 ≤ F) (hL : 16 + (nativeFrameWords "java/lang/System" "arraycopy" 5 + 11) ≤ L) (hst : st.length ≤ 8) {a0 a : Nat} {sp dp n : Int32} {K : gS → Prop} (h : wCopyQ G a0 sp a dp n K) (hd : decode cc pc = .ok (.invokestatic index, 3)) (k : ∀ G', K G' → gGo C G' (pc + 3) lv st) : gGo C G pc lv (vI n :: vI dp :: vQ (some a) :: vI sp :: vQ (some a0) :: st) := by
  obtain ⟨p, l, e, R, s, m, args, below, meth, c, E, Kv, X⟩ := C
  obtain ⟨hx, hb, ho, ht, hKn, hlk, hm, hr, hmn, htab, hRF, hRL, hR1, hR2, hbs, hfl⟩ := hC
  obtain ⟨w, n0, n1, f, g, ha0, ha, q1, q2, q3, q4, q5, hq, h⟩ := h
  intro H locs ls h1 h2 h3 h4 h5
  obtain ⟨-, scr, u1, u2, u3, u4, u5, u6, u7, -⟩ := h1.1 a0 _ ha0
  obtain ⟨hw, cell, e1, e2, e3, e4, e5, e6, e7, e8⟩ := h1.1 a _ ha
  obtain ⟨hT, hRA⟩ := hKn.2.1 2 _ rfl
  have hba : gB E ≤ a := hw rfl
  have e8' := e8 rfl
  have e5' : n1 ≤ cell.slots.size := e5
  have u5' : n0 ≤ scr.slots.size := u5
  have u7' : ∀ j, j < n0 → scr.slots[j]? = some (va_rf (f j)) := u7
  have nn : ∀ z : Int32, ¬ z < 0 → z.toInt = (z.toNatClampNeg : Int) := by
    intro z hz
    have hz0 : (0 : Int) ≤ z.toInt := by
      have := Int32.not_lt.mp hz
      simpa using Int32.le_iff_toInt_le.mp this
    show z.toInt = ((z.toInt.toNat : Nat) : Int)
    omega
  intro T hT0 X0
  obtain ⟨k0, hk0, cm0, hkk0⟩ := (gArr_of hT u2 u3).2
  obtain ⟨k1, hk1, cm1, hkk1⟩ := (gArr_of hT e2 e3).2
  have hsum := gvc_sum st
  obtain ⟨vm', X', step⟩ := X0.arraycopy hx ho (ht _ hlink) (ht _ hnat) (ht _ hstat) (ht _ hini) (src := a0) (dst := a) (cs := scr) (cd := cell) (srcPos := sp) (destPos := dp) (n := n) (by rw [hT0]; exact u1) (by rw [hT0]; exact e1)
    u3 e3 u4 e4 hk0 hk1 hkk0 hkk1 (by simp [refKind]) q1 q2 q3
    (by rw [nn sp q1, nn n q3]; omega)
    (by rw [nn dp q2, nn n q3]; omega)
    (fun vm₁ hvm i hi => by
      have e : scr.slots.getD (sp.toNatClampNeg + i) .null = va_rf (f (sp.toNatClampNeg + i)) := by
        rw [Array.getD_eq_getD_getElem?, u7' _ (by omega)]
        rfl
      rw [e]
      cases hfi : f (sp.toNatClampNeg + i) with
      | none => exact ⟨rfl, trivial⟩
      | some y =>
        obtain ⟨cellV, ci, r, v1, v2, v3, v4⟩ := (hq i hi y hfi).cell h1
        have hca := hKn.2.2.2.2.2.1 _ (gCl_obj ci r v2)
        have hfc : s.vm.findClass r.1 = some cellV.cls := by rw [v3]; exact (hKn.1 ci r v2).1
        obtain ⟨kC, hkC, -⟩ := Vm.findClass_spec hfc
        obtain ⟨kA, comp, r1, r2, r3, -⟩ := hRA
        rw [← e2] at r1
        cases hk1.symm.trans r1
        cases hkk1.symm.trans r2
        obtain ⟨kE, hkE, -⟩ := Vm.findClass_spec r3
        obtain ⟨kC', hkC', -⟩ := hvm.2.2 _ _ hkC
        obtain ⟨kE', hkE', -⟩ := hvm.2.2 _ _ hkE
        refine ⟨rfl, cellV, (show T.heap[y]? = some cellV by rw [hT0]; exact v1), (fun q h => by rw [h] at v4; cases v4), ⟨kC', hkC'⟩, ?_, ?_⟩
        · exact ⟨kE', hkE'⟩
        · show vm₁.assignable _ _ = true
          rw [hvm.assignable]
          exact vb_asgC hca _ _ r3 hfc)
    (g := F0 m pc ls ((vI n :: vI dp :: vQ (some a) :: vI sp :: vQ (some a0) :: st).map gv2)) rfl h5.1 (rest := st.map gv2) rfl (by rw [hb]; exact hd) (by rw [hRF]; exact hF) (by show 2 * 0 + _ + _ ≤ _; rw [hRL]; omega)
  have hce : copied scr cell sp dp n = arrV (gT E 2) n1 (gval (n1, gcQ (va_cpy f g sp.toNatClampNeg dp.toNatClampNeg n.toNatClampNeg))) := by
    rw [e8']
    exact va_copiedX (fun z => va_rf z) scr (gT E 2) f g u7' q4
  rw [hce] at X' step
  generalize hcn : arrV (gT E 2) n1 (gval (n1, gcQ (va_cpy f g sp.toNatClampNeg dp.toNatClampNeg n.toNatClampNeg))) = cn at X' step
  have hl : a < H.size := (Array.getElem?_eq_some_iff.mp e1).1
  have hheap : ((T.setVm vm').setCell a cn).heap = H.setIfInBounds a cn := by rw [← hT0]; rfl
  have z2 : (H.setIfInBounds a cn).size = H.size := by simp
  have z1 : (H.setIfInBounds a cn)[a]? = some cn := by simp [Array.getElem?_setIfInBounds, hl]
  have z3 : ∀ q : Nat, q ≠ a → (H.setIfInBounds a cn)[q]? = H[q]? := fun q hq => by simp [Array.getElem?_setIfInBounds, Ne.symm hq]
  have hat : gat E a (true, .inl (2, (n1, gcQ (va_cpy f g sp.toNatClampNeg dp.toNatClampNeg n.toNatClampNeg)))) (H.setIfInBounds a cn) := by
    subst hcn
    refine ⟨fun _ => hba, _, z1, rfl, (fun z q => by cases q), (fun q => by cases q), ?_, ?_, fun j hj => arrV_read _ _ hj, fun _ => rfl⟩
    · rw [arrV_size]; exact Nat.le_refl _
    · rw [arrV_size] <;> rfl
  have hsz : cn.slots.size = cell.slots.size := by rw [← hcn, e8', arrV_size, arrV_size]
  obtain ⟨g1, g2⟩ := gAR_set h1 e1 hba z1 hsz z2 z3 hat
  have hgo := k _ h (H.setIfInBounds a cn) (locs ++ (scr.stretch sp.toNatClampNeg n.toNatClampNeg).zipIdx.map fun q => ⟨a, dp.toNatClampNeg + q.2⟩) ls g1 (by rw [z2]; exact h2) (by rw [g2]; exact h3) (fun z hz => by
    rcases List.mem_append.mp hz with q | q
    · exact h4 z q
    · obtain ⟨y, -, hy⟩ := List.mem_map.mp q
      rw [← hy]; exact hba) h5
  rw [g2, z2] at hgo
  obtain ⟨t, a1, b1⟩ := hgo _ hheap X'
  exact ⟨t, step t a1, b1⟩

def wIsB (G : gS) (a : Nat) (K : Prop) : Prop := (∃ (w : Bool) (n : Nat) (f : Nat → Int32), G.1 a = some (gAb w n f)) ∧ K
theorem g_castB (hC : gOk C own cc hh rt nm nL F L) {index : Nat} (hlink : Cond.classLink own index "[B" ∈ lw_all) {a : Nat} {K : Prop} (h : wIsB G a K) (hd : decode cc pc = .ok (.checkcast index, 3)) (k : K → gGo C G (pc + 3) lv (vQ (some a) :: st)) : gGo C G pc lv (vQ (some a) :: st) := by
  obtain ⟨p, l, e, R, s, m, args, below, meth, c, E, Kv, X⟩ := C
  obtain ⟨hx, hb, ho, ht, hKn, -⟩ := hC
  obtain ⟨⟨w, n, f, ha⟩, h⟩ := h
  intro H locs ls h1 h2 h3 h4 h5
  obtain ⟨hw, cell, e1, e2, e3, e4, e5, e6, e7, e8⟩ := h1.1 a _ ha
  obtain ⟨hT, hRA⟩ := hKn.2.1 1 _ rfl
  have hRA' : s.vm.findClass "[B" = some (gT E 1) := hRA
  intro T hT0 X0
  obtain ⟨vm', X', stp⟩ := X0.checkcastYes hx ho (ht _ hlink) (by rw [hT0]; exact e1) (by cases hv : cell.vm with | statics z => exact absurd hv (e3 z) | _ => rfl) hRA' (by rw [e2]; exact va_asg _ _) (g := F0 m pc ls ((vQ (some a) :: st).map gv2)) rfl rfl (by rw [hb]; exact hd)
  obtain ⟨t, a1, b1⟩ := k h H locs ls h1 h2 h3 h4 h5 (T.setVm vm') hT0 X'
  exact ⟨t, stp t a1, b1⟩
def wCloneB (G : gS) (a : Nat) (K : Nat → gS → Prop) : Prop := ∃ (n : Nat) (f : Nat → Int32), G.1 a = some (gAb true n f) ∧ (∀ i, i < n → fits .byte (.int (f i)) = true) ∧ 1 ≤ G.2.1 ∧ n ≤ G.2.2 ∧ ∀ b, G.1 b = none → K b (gNew G b (gAb true n f) n)
theorem g_cloneB (hC : gOk C own cc hh rt nm nL F L) {index : Nat}
    (hlink : Cond.methodLink own index ⟨"[B", "clone", "()Ljava/lang/Object;"⟩ ∈ lw_all) (hsame : Cond.sameMethod "[B" "java/lang/Object" "clone" "()Ljava/lang/Object;" ∈ lw_all)
    (hnat : Cond.native ⟨"java/lang/Object", "clone", "()Ljava/lang/Object;"⟩ ∈ lw_all) (hinst : Cond.instanceMethod ⟨"java/lang/Object", "clone", "()Ljava/lang/Object;"⟩ ∈ lw_all)
    (hsel : Cond.selects "[B" ⟨"[B", "clone", "()Ljava/lang/Object;"⟩ ⟨"java/lang/Object", "clone", "()Ljava/lang/Object;"⟩ ∈ lw_all) (hca : ("[B", "java/lang/Cloneable") ∈ gNwC)
    (hF : 1 ≤ F) (hL : 30 ≤ L) (hst : st.length ≤ 8) {a : Nat} {K : Nat → gS → Prop} (h : wCloneB G a K) (hd : decode cc pc = .ok (.invokevirtual index, 3)) (k : ∀ b G', K b G' → gGo C G' (pc + 3) lv (vQ (some b) :: st)) : gGo C G pc lv (vQ (some a) :: st) := by
  obtain ⟨p, l, e, R, s, m, args, below, meth, c, E, Kv, X⟩ := C
  obtain ⟨hx, hb, ho, ht, hKn, hlk, hm, hr, hmn, htab, hRF, hRL, hR1, hR2, hbs, hfl⟩ := hC
  obtain ⟨n, f, ha, hfit, hc1, hc2, h⟩ := h
  intro H locs ls h1 h2 h3 h4 h5
  have hA5 := h1.2.2.2.2.1
  have hA6 := h1.2.2.2.2.2
  obtain ⟨hw, cell, e1, e2, e3, e4, e5, e6, e7, e8⟩ := h1.1 a _ ha
  have e8' := e8 rfl
  obtain ⟨hT, hRA⟩ := hKn.2.1 1 _ rfl
  have hRA' : s.vm.findClass "[B" = some (gT E 1) := hRA
  have hsz : cell.slots.size = n := by rw [e8', arrV_size]
  have hvm0 : cell.vm = .none := by rw [e8']; rfl
  have hcellE : ({ cls := cell.cls, slots := cell.slots } : Cell) = cell := by rw [e8']; rfl
  obtain ⟨c0, t0', f1, f2, f3⟩ := Cond.castable_spec (va_Nw.use (A := args) rfl (hKn.2.2.2.2.2.1 _ hca))
  cases hRA'.symm.trans f1
  intro T hT0 X0
  have hsum := gvc_sum st
  have hcellT : T.heap[a]? = some cell := by rw [hT0]; exact e1
  obtain ⟨-, kA, hkA, comp, hkind⟩ := State.isArrayOf_alike X0.warmed.alike (hT 0 (fun _ => .null))
  obtain ⟨-, kS, hkS, compS, hkindS⟩ := hT 0 (fun _ => .null)
  obtain ⟨vm', X', stp⟩ := X0.cloneArray hx ho (ht _ hlink) (ht _ hsame) (ht _ hnat) (ht _ hinst) (ht _ hsel) (a := a) (cell := cell) hcellT e3 e4 (by rw [e2]; exact hRA') f2 (by rw [e2]; exact f3)
    (fun i v hv => by
      rw [e2]
      have hk' : T.vm.classes[gT E 1]? = some kA := hkA
      have hi : i < n := by rw [← hsz]; exact (Array.getElem?_eq_some_iff.mp hv).1
      have hv2 : cell.slots[i]? = some (.int (f i)) := e7 i hi
      cases hv.symm.trans hv2
      simpa [State.fitsSlot, State.slotType?, hk', hkind] using hfit i hi)
    (g := F0 m pc ls ((vQ (some a) :: st).map gv2)) rfl h5.1 rfl (by rw [hb]; exact hd) (by rw [hRF]; exact hF) (by show 2 * 0 + _ + 14 ≤ _; rw [hRL]; omega) (by rw [hR1]; omega) (by rw [hsz, hR2]; omega) (hloader := by rw [e2]; exact Vm.clonesLoader_of_array hkS hkindS)
  rw [hcellE, hsz] at X'
  have hat : gat E H.size (gAb true n f) (H.push cell) := by
    refine ⟨fun _ => h1.2.1, cell, Array.getElem?_push_size, e2, e3, e4, e5, e6, e7, fun _ => e8'⟩
  obtain ⟨g0, g1, g2⟩ := gAR_new h1 hsz hc1 hc2 hat
  have hgo := k _ _ (h H.size g0) (H.push cell) locs ls g1 (by rw [Array.size_push]; omega) (by rw [g2]; omega) h4 h5
  rw [g2, Array.size_push] at hgo
  rw [show H.size + 1 - s.heap.size = H.size - s.heap.size + 1 by omega, show gtot (gB E) H + n - gtot (gB E) s.heap = gtot (gB E) H - gtot (gB E) s.heap + n by omega] at hgo
  obtain ⟨t, b1, b2⟩ := hgo ((T.setVm vm').pushCell cell) (by show T.heap.push cell = _; rw [hT0]) X'
  refine ⟨t, stp t ?_, b2⟩
  rw [hcellE, hT0]
  exact b1
end SPEC1
