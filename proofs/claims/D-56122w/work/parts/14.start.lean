/-! A CONTRACT OUT OF A WALK; what comes back from a call, by type -/
set_option maxRecDepth 20000
def gRi (K : Int32 → gS → Prop) : Option gV → gS → Prop := fun v G => match v with | some (.inl r) => K r G | _ => False
def gRf (K : UInt32 → gS → Prop) : Option gV → gS → Prop := fun v G => match v with | some (.inr (.inr (.inl r))) => K r G | _ => False
def gRd (K : UInt64 → gS → Prop) : Option gV → gS → Prop := fun v G => match v with | some (.inr (.inr (.inr (.inl r)))) => K r G | _ => False
def gRq (K : Option Nat → gS → Prop) : Option gV → gS → Prop := fun v G => match v with | some (.inr (.inr (.inr (.inr r)))) => K r G | _ => False
def gRv (K : gS → Prop) : Option gV → gS → Prop := fun v G => match v with | none => K G | _ => False
section GK
variable {C : gCx} {pc : Nat} {lv : List (Nat × gV)} {st : List gV}
theorem gk_i {K : Int32 → gS → Prop} (k : ∀ r G, K r G → gGo C G pc lv (vI r :: st)) : ∀ w G, gRi K w G → gGo C G pc lv (w.toList ++ st) := by
  intro w G h
  match w, h with
  | some (.inl r), h => exact k r G h
theorem gk_f {K : UInt32 → gS → Prop} (k : ∀ r G, K r G → gGo C G pc lv (vF r :: st)) : ∀ w G, gRf K w G → gGo C G pc lv (w.toList ++ st) := by
  intro w G h
  match w, h with
  | some (.inr (.inr (.inl r))), h => exact k r G h
theorem gk_d {K : UInt64 → gS → Prop} (k : ∀ r G, K r G → gGo C G pc lv (vD r :: st)) : ∀ w G, gRd K w G → gGo C G pc lv (w.toList ++ st) := by
  intro w G h
  match w, h with
  | some (.inr (.inr (.inr (.inl r)))), h => exact k r G h
theorem gk_q {K : Option Nat → gS → Prop} (k : ∀ r G, K r G → gGo C G pc lv (vQ r :: st)) : ∀ w G, gRq K w G → gGo C G pc lv (w.toList ++ st) := by
  intro w G h
  match w, h with
  | some (.inr (.inr (.inr (.inr r)))), h => exact k r G h
theorem gk_v {K : gS → Prop} (k : ∀ G, K G → gGo C G pc lv st) : ∀ w G, gRv K w G → gGo C G pc lv (w.toList ++ st) := by
  intro w G h
  match w, h with
  | none, h => exact k G h
end GK
def glv : Nat → List gV → List (Nat × gV)
  | _, [] => []
  | i, v :: vs => (i, v) :: glv (i + gvc v) vs
def glen : List gV → Nat
  | [] => 0
  | v :: vs => gvc v + glen vs
theorem gvc_12 (v : gV) : gvc v = 1 ∨ gvc v = 2 := by
  obtain x | x | x | x | x := v <;> simp [gvc]
theorem glv_eq : ∀ (av : List gV) (i : Nat), lv_args i (av.map gv2) = (glv i av).map fun q => (q.1, gv2 q.2)
  | [], _ => rfl
  | v :: vs, i => by
    simp only [List.map_cons, lv_args, glv, gvc_eq]
    rw [glv_eq vs]
    rcases gvc_12 v with h | h <;> simp [h]
theorem glen_eq : ∀ (av : List gV), (lg_sl (av.map gv2)).length = glen av
  | [] => rfl
  | v :: vs => by
    have ih := glen_eq vs
    simp only [lg_sl] at ih
    simp only [lg_sl, List.map_cons, List.flatMap_cons, List.length_append, glen, ih, gvc_eq]
    rcases gvc_12 v with h | h <;> simp [h]
theorem g_met {l : Launch} {y : MethodName} {cc : ByteArray} {nL F L : Nat} {rt : Option FieldType} {av : List gV} {lv : List (Nat × gV)} {E : gE} {G : gS} {Kv : Option gV → gS → Prop} {X : Nat → gS → Prop} {own nm : String} (hfl : l.stackTraces = false) (hy : plainFor y = true) (hcls : y.cls = own) (hnm : y.name = nm) (hlv : glv 0 av = lv) (hsz : glen av ≤ nL)
    (body : ∀ p e R s m args below meth c, gOk (p, l, e, R, s, m, args, below, meth, c, E, Kv, X) own cc [] rt nm nL F L → gGo (p, l, e, R, s, m, args, below, meth, c, E, Kv, X) G 0 lv []) : gMet l y (ws_ y cc nL rt) F L av E G Kv X := by
  intro sz tt
  refine MetFree.of_bodySF (code := cc) (maxLocals := nL) (ret := rt) hy ?_ ?_
  · intro args s m h hn
    obtain ⟨meth, c, h1, h2, h3, h4, h5, h6, -, -⟩ := Cond.code_spec hn (atoms_spec (ws := ws_ y cc nL rt) h _ List.mem_cons_self)
    exact ⟨meth, c, h1, h2, h3, h4, h5, h6⟩
  · intro p e s m args below meth c s₁ B hml hP _
    have hh0 : s₁.heap = s.heap := by rw [B.state]; rfl
    have htab : c.exceptionTable.toList = tableOf [] := by
      obtain ⟨meth9, c9, h1, h2, -, -, -, -, h7, -⟩ := Cond.code_spec B.named (atoms_spec (ws := ws_ y cc nL rt) B.pre _ List.mem_cons_self)
      cases Option.some.inj (h1.symm.trans B.method)
      cases Option.some.inj (h2.symm.trans (Stand.of_body B).code)
      rw [Array.isEmpty_iff.mp h7]
      rfl
    obtain ⟨hav, hs1, hs2, hA, hKn⟩ := hP
    have hts := atoms_spec (ws := ws_ y cc nL rt) B.pre
    have hgo := body p e (headSpec (ws_ y cc nL rt) { frames := F, cells := gN E - sz, slots := gM E - tt, locals := L }).room s m args below meth c
      ⟨B.exec, B.bytes, by rw [← hcls]; exact findClass_of_methodNamed B.named, fun w h => hts w (List.mem_cons_of_mem _ h), hKn, B.notSynchronized, hml, B.returns, by rw [← hnm]; exact (name_of_methodNamed B.named B.method).1, htab, rfl, rfl, by rw [hs1]; rfl, by rw [hs2]; rfl, hA.2.1, hfl⟩
    have hl := lv_entry (av.map gv2) (n := nL) (by rw [glen_eq]; exact hsz)
    rw [glv_eq, hlv] at hl
    subst hav
    have hw := hgo s.heap [] _ hA (Nat.le_refl _) (Nat.le_refl _) (fun z hz => by cases hz) (by unfold gLv; rw [hml]; exact hl)
    rw [Nat.sub_self, Nat.sub_self] at hw
    have he : entryFrame m (av.map gv2).toArray nL = _ := lg_entry_eq m (av.map gv2) nL
    obtain ⟨t, a1, o, b1, b2, b3⟩ := hw s₁ hh0 (Stand.of_body B)
    refine ⟨t, o, ?_, b1, b2, ?_⟩
    · rw [he]; exact a1
    · rw [← hs1, ← hs2]; exact b3
theorem g_metN {l : Launch} {y : MethodName} {cc : ByteArray} {nL F L : Nat} {rt : Option FieldType} {av : List gV} {lv : List (Nat × gV)} {E : gE} {G : gS} {Kv : Option gV → gS → Prop} {X : Nat → gS → Prop} {own nm : String} (hfl : l.stackTraces = false) (hy : plainFor y = true) (hcls : y.cls = own) (hnm : y.name = nm) (hlv : glv 0 av = lv) (hsz : glen av ≤ nL)
    (body : ∀ p e R s m args below meth c, gOk (p, l, e, R, s, m, args, below, meth, c, E, Kv, X) own cc [] rt nm nL F L → s.methodNamed? y = some m → gGo (p, l, e, R, s, m, args, below, meth, c, E, Kv, X) G 0 lv []) : gMet l y (ws_ y cc nL rt) F L av E G Kv X := by
  intro sz tt
  refine MetFree.of_bodySF (code := cc) (maxLocals := nL) (ret := rt) hy ?_ ?_
  · intro args s m h hn
    obtain ⟨meth, c, h1, h2, h3, h4, h5, h6, -, -⟩ := Cond.code_spec hn (atoms_spec (ws := ws_ y cc nL rt) h _ List.mem_cons_self)
    exact ⟨meth, c, h1, h2, h3, h4, h5, h6⟩
  · intro p e s m args below meth c s₁ B hml hP _
    have hh0 : s₁.heap = s.heap := by rw [B.state]; rfl
    have htab : c.exceptionTable.toList = tableOf [] := by
      obtain ⟨meth9, c9, h1, h2, -, -, -, -, h7, -⟩ := Cond.code_spec B.named (atoms_spec (ws := ws_ y cc nL rt) B.pre _ List.mem_cons_self)
      cases Option.some.inj (h1.symm.trans B.method)
      cases Option.some.inj (h2.symm.trans (Stand.of_body B).code)
      rw [Array.isEmpty_iff.mp h7]
      rfl
    obtain ⟨hav, hs1, hs2, hA, hKn⟩ := hP
    have hts := atoms_spec (ws := ws_ y cc nL rt) B.pre
    have hgo := body p e (headSpec (ws_ y cc nL rt) { frames := F, cells := gN E - sz, slots := gM E - tt, locals := L }).room s m args below meth c
      ⟨B.exec, B.bytes, by rw [← hcls]; exact findClass_of_methodNamed B.named, fun w h => hts w (List.mem_cons_of_mem _ h), hKn, B.notSynchronized, hml, B.returns, by rw [← hnm]; exact (name_of_methodNamed B.named B.method).1, htab, rfl, rfl, by rw [hs1]; rfl, by rw [hs2]; rfl, hA.2.1, hfl⟩ B.named
    have hl := lv_entry (av.map gv2) (n := nL) (by rw [glen_eq]; exact hsz)
    rw [glv_eq, hlv] at hl
    subst hav
    have hw := hgo s.heap [] _ hA (Nat.le_refl _) (Nat.le_refl _) (fun z hz => by cases hz) (by unfold gLv; rw [hml]; exact hl)
    rw [Nat.sub_self, Nat.sub_self] at hw
    have he : entryFrame m (av.map gv2).toArray nL = _ := lg_entry_eq m (av.map gv2) nL
    obtain ⟨t, a1, o, b1, b2, b3⟩ := hw s₁ hh0 (Stand.of_body B)
    refine ⟨t, o, ?_, b1, b2, ?_⟩
    · rw [he]; exact a1
    · rw [← hs1, ← hs2]; exact b3
theorem g_metW {l : Launch} {y : MethodName} {cc : ByteArray} {nL F L : Nat} {rt : Option FieldType} {hh : List (Nat × Nat × Nat × Nat)} {av : List gV} {lv : List (Nat × gV)} {E : gE} {G : gS} {Kv : Option gV → gS → Prop} {X : Nat → gS → Prop} {own nm : String} (hfl : l.stackTraces = false) (hy : plainFor y = true) (hcls : y.cls = own) (hnm : y.name = nm) (hlv : glv 0 av = lv) (hsz : glen av ≤ nL)
    (body : ∀ p e R s m args below meth c, gOk (p, l, e, R, s, m, args, below, meth, c, E, Kv, X) own cc hh rt nm nL F L → gGo (p, l, e, R, s, m, args, below, meth, c, E, Kv, X) G 0 lv []) : gMet l y (wsW_ y cc nL rt hh) F L av E G Kv X := by
  intro sz tt
  refine MetFree.of_bodySF (code := cc) (maxLocals := nL) (ret := rt) hy ?_ ?_
  · intro args s m h hn
    obtain ⟨m9, meth, c, hn9, h1, h2, h3, h4, -, h5, h6, -⟩ := Cond.codeWith_spec (atoms_spec (ws := wsW_ y cc nL rt hh) h _ List.mem_cons_self)
    cases hn.symm.trans hn9
    exact ⟨meth, c, h1, h2, h3, h4, h5, h6⟩
  · intro p e s m args below meth c s₁ B hml hP _
    have hh0 : s₁.heap = s.heap := by rw [B.state]; rfl
    obtain ⟨hav, hs1, hs2, hA, hKn⟩ := hP
    have hts := atoms_spec (ws := wsW_ y cc nL rt hh) B.pre
    have htab : c.exceptionTable.toList = tableOf hh := vx_table (x := y) B (hts _ List.mem_cons_self)
    have hgo := body p e (headSpec (wsW_ y cc nL rt hh) { frames := F, cells := gN E - sz, slots := gM E - tt, locals := L }).room s m args below meth c
      ⟨B.exec, B.bytes, by rw [← hcls]; exact findClass_of_methodNamed B.named, fun w h => hts w (List.mem_cons_of_mem _ h), hKn, B.notSynchronized, hml, B.returns, by rw [← hnm]; exact (name_of_methodNamed B.named B.method).1, htab, rfl, rfl, by rw [hs1]; rfl, by rw [hs2]; rfl, hA.2.1, hfl⟩
    have hl := lv_entry (av.map gv2) (n := nL) (by rw [glen_eq]; exact hsz)
    rw [glv_eq, hlv] at hl
    subst hav
    have hw := hgo s.heap [] _ hA (Nat.le_refl _) (Nat.le_refl _) (fun z hz => by cases hz) (by unfold gLv; rw [hml]; exact hl)
    rw [Nat.sub_self, Nat.sub_self] at hw
    have he : entryFrame m (av.map gv2).toArray nL = _ := lg_entry_eq m (av.map gv2) nL
    obtain ⟨t, a1, o, b1, b2, b3⟩ := hw s₁ hh0 (Stand.of_body B)
    refine ⟨t, o, ?_, b1, b2, ?_⟩
    · rw [he]; exact a1
    · rw [← hs1, ← hs2]; exact b3
