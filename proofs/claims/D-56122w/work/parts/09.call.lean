/-! CONTRACTS OVER THE GHOST HEAP, AND CALLS -/
set_option maxRecDepth 20000
/-- values by their types (references: null or an address) -/
abbrev gV : Type := Int32 ⊕ Int64 ⊕ UInt32 ⊕ UInt64 ⊕ Option Nat
abbrev vI (x : Int32) : gV := .inl x
abbrev vL (x : Int64) : gV := .inr (.inl x)
abbrev vF (x : UInt32) : gV := .inr (.inr (.inl x))
abbrev vD (x : UInt64) : gV := .inr (.inr (.inr (.inl x)))
abbrev vQ (x : Option Nat) : gV := .inr (.inr (.inr (.inr x)))
def gv2 : gV → Value
  | .inl x => .int x
  | .inr (.inl x) => .long x
  | .inr (.inr (.inl x)) => .float x
  | .inr (.inr (.inr (.inl x))) => .double x
  | .inr (.inr (.inr (.inr x))) => va_rf x
def gvc : gV → Nat
  | .inl _ => 1
  | .inr (.inl _) => 2
  | .inr (.inr (.inl _)) => 1
  | .inr (.inr (.inr (.inl _))) => 2
  | .inr (.inr (.inr (.inr _))) => 1
theorem gvc_eq (v : gV) : (gv2 v).category = gvc v := by
  obtain x | x | x | x | x := v <;> first | rfl | (cases x <;> rfl)
theorem gvc_le (v : gV) : gvc v ≤ 2 := by
  obtain x | x | x | x | x := v <;> simp [gvc]
theorem gvc_sum (st : List gV) : ((st.map gv2).map fun v => v.category).sum ≤ 2 * st.length := by
  induction st with
  | nil => simp
  | cons v t ih =>
    simp only [List.map_cons, List.sum_cons, List.length_cons, gvc_eq]
    have := gvc_le v
    omega
def gOp (n : Nat) : Option Nat := if n = 0 then none else some (n - 1)
def gLm (E : gE) (q : gSite) (U : State) : Prop :=
  ∃ (m : MethodId) (k : Class) (cf : ClassFile) (i0 p0 : Nat) (ln : Linked), U.methodNamed? q.2.1 = some m ∧ U.vm.classes[m.cls]? = some k ∧ k.cf = some cf ∧ Lambda.shapeOf? cf q.2.2.2.1 = some q.2.2.2.2 ∧ (k.callSites.find? fun y => y.1 == m.idx && y.2.1 == q.2.2.1) = some (i0, p0, ln) ∧ Lambda.isMade { classPath := fun _ => none } U.vm m.cls q.2.2.2.2 (gLc E q.1) = true ∧ U.lambdaCallable q.2.2.2.2 (gLc E q.1) = true ∧
    ((ln = .constant (gAd E (200 + q.1)) ∧ q.2.2.2.2.captured = []) ∨ (ln = .makes (gLc E q.1) ∧ q.2.2.2.2.captured ≠ []))
def gKn (E : gE) (U : State) : Prop :=
  (∀ (k : Nat) (q : vw_C), gCl[k]? = some q → U.vm.findClass q.1 = some ((gD E).1 k) ∧ (0 < q.2.2 → u_Kn U q.1 q.2.1 q.2.2 ((gD E).1 k) ((gD E).2 k))) ∧
  (∀ (k : Nat) (ty : FieldType), gTy[k]? = some ty → ArrOfT U (gT E k) ty ∧ va_RA U (gT E k) ty) ∧
  va_AO "java/lang/Object" U ∧
  (∀ q ∈ gNwF, va_Nw (.fieldLinkNest q.1 q.2.1 q.2.2.1 q.2.2.2.1 q.2.2.2.2.1 q.2.2.2.2.2) U) ∧
  (∀ q ∈ gNwM, va_Nw (.methodLinkNest q.1 q.2.1 q.2.2.1 q.2.2.2) U) ∧
  (∀ q ∈ gNwC, va_Nw (.castable q.1 q.2) U) ∧
  (∀ q ∈ gFwL, va_Fw q.1 q.2.1 q.2.2 U) ∧
  (∀ q ∈ gNcL, va_Nc q.1 q.2 U) ∧
  (∀ q ∈ gDcl, va_Nw (.declares q) U) ∧
  (∀ q ∈ gStat, va_Z q.1 q.2.1 q.2.2.1 (.ref (gAd E q.2.2.2)) (fun a => gB E ≤ a) U (gHb E)) ∧
  (∀ q ∈ gStatQ, va_Z q.1 q.2.1 q.2.2.1 (va_rf (gOp (gAd E q.2.2.2))) (fun a => gB E ≤ a) U (gHb E)) ∧
  (∀ q ∈ gStatI, va_Z q.1 q.2.1 q.2.2.1 (.int q.2.2.2) (fun a => gB E ≤ a) U (gHb E)) ∧
  (∀ q ∈ gStr, vk_R q.1 q.2.1 q.2.2.1 (gAd E q.2.2.2) U) ∧
  (∀ q ∈ gSites, gLm E q U) ∧
  (∀ q ∈ gPriv, va_Nw (.privateMethod q) U) ∧
  (∀ q ∈ gIfM, va_Nw (.interfaceMethod q.cls q.cls q.name q.desc) U) ∧
  (∀ q ∈ gStatL, vx_L q.1 q.2.1 q.2.2 (fun a => gB E ≤ a) U (gHb E))
theorem gLm.moved {E : gE} {q : gSite} {s U : State} (hW : s.WarmedH U.vm) (h : gLm E q s) : gLm E q U := by
  obtain ⟨m, kc, cf, i0, p0, ln, hm, hk, hcf, hsh, hfind, hmade, hcall, hl⟩ := h
  have hcall' : U.lambdaCallable q.2.2.2.2 (gLc E q.1) = true := by
    have hA := hW.alike
    simp only [State.lambdaCallable, hA.findClass, hA.assignable, hA.superclasses, hA.declaredIn] at hcall ⊢
    exact hcall
  obtain ⟨kc', hk', he⟩ := hW.alike.2.2 _ _ hk
  have hm' : U.methodNamed? q.2.1 = some m := by
    have := State.methodNamed?_setVm (s := s) hW.alike q.2.1
    rw [hm] at this
    exact this
  exact ⟨m, kc', cf, i0, p0, ln, hm', hk', by rw [he]; exact hcf, hsh, by rw [he]; exact hfind, Lambda.isMade_warmer hW hmade, hcall', hl⟩
theorem gFwL_ok : ∀ q ∈ gFwL, q.2.1.cls ≠ "java/lang/invoke/MethodHandle" ∧ q.2.1.cls ≠ "java/lang/invoke/VarHandle" := by
  decide
theorem gIfM_ok : ∀ q ∈ gIfM, q.cls ≠ "java/lang/invoke/MethodHandle" ∧ q.cls ≠ "java/lang/invoke/VarHandle" := by decide
theorem gKn.moved {E : gE} {s U : State} (hW : s.WarmedH U.vm) (h : gKn E s) : gKn E U := by
  obtain ⟨h1, h2, h3, h4, h5, h6, h7, h8, h14, h9, h10, h11, h12, h13, h15, h16, h17⟩ := h
  have hA := hW.alike
  refine ⟨fun k q hq => ⟨by rw [hA.findClass]; exact (h1 k q hq).1, fun hn => u_Kn_moved hA ((h1 k q hq).2 hn)⟩, fun k ty hk => ⟨arrOfT_moved hA (h2 k ty hk).1, (h2 k ty hk).2.moved hA⟩, h3.moved hA, fun q hq => va_Nw.warmF hW (h4 q hq), fun q hq => va_Nw.warmM hW (h5 q hq), fun q hq => va_Nw.warmC hW (h6 q hq), fun q hq => va_Fw.moved (gFwL_ok q hq) hA (h7 q hq), fun q hq => (h8 q hq).moved hA, fun q hq => va_Nw.warmD hW (h14 q hq), fun q hq => va_Z.moved hA (h9 q hq), fun q hq => va_Z.moved hA (h10 q hq), fun q hq => va_Z.moved hA (h11 q hq), fun q hq => vk_R.warm hW (h12 q hq), fun q hq => gLm.moved hW (h13 q hq), fun q hq => va_tabs rfl (rfl : (s.setVm U.vm).vm = U.vm) (by rw [Cond.privateMethod_setVm hW.alike]; exact h15 q hq), fun q hq => va_tabs rfl (rfl : (s.setVm U.vm).vm = U.vm) (by obtain ⟨_, _, r, _, _, _, _, hn⟩ := Cond.interfaceMethod_spec (h16 q hq); rw [Cond.interfaceMethod_setVm hW.alike hn (gIfM_ok q hq)]; exact h16 q hq), fun q hq => vx_L.moved hA (h17 q hq)⟩
theorem gKn.same {E : gE} {s U : State} (hv : U.vm = s.vm) (h : gKn E s) : gKn E U := gKn.moved (by rw [hv]; exact State.WarmedH.refl s) h
/-- q is an object that the ghost heap knows -/
def gIsO (G : gS) (q : Nat) : Prop := ∃ (w : Bool) (ci : Nat) (fs : List Value), G.1 q = some (w, .inr (.inl (ci, fs)))
def gPc (E : gE) (G : gS) (av : List gV) (sz tt : Nat) : Array Value → State → Prop := fun a U => a = (av.map gv2).toArray ∧ U.heap.size = sz ∧ gtot (gB E) U.heap = tt ∧ gAR E G U.heap ∧ gKn E U
def gQ (E : gE) (Kv : Option gV → gS → Prop) (X : Nat → gS → Prop) (mc ms : Nat) : Array Value → State → Outcome → State → Prop := fun _ st o t =>
  (∃ (v : Option gV) (G' : gS), o = .returned (v.map gv2) ∧ Kv v G' ∧ gAR E G' t.heap ∧ ∃ L, FrameEnd st o t L mc ms ∧ ∀ q ∈ L, gB E ≤ q.base) ∨
  (∃ (q : Nat) (G' : gS), o = .threw q ∧ X q G' ∧ gIsO G' q ∧ gAR E G' t.heap ∧ st.WarmedH t.vm ∧ ∃ L, st.sameButNew ({ t with vm := st.vm } : State) L mc ms ∧ ∀ z ∈ L, gB E ≤ z.base)
/-- a method's contract over the ghost heap: F frames, L words of room -/
def gMet (l : Launch) (y : MethodName) (ws : List Cond) (F L : Nat) (av : List gV) (E : gE) (G : gS) (Kv : Option gV → gS → Prop) (X : Nat → gS → Prop) : Prop :=
  ∀ sz tt : Nat, MetFree l y (headSpec ws { frames := F, cells := gN E - sz, slots := gM E - tt, locals := L }) (gPc E G av sz tt) (fun _ _ _ _ _ => True) (gQ E Kv X (gN E - sz) (gM E - tt))
def gPre (s : State) (R : Room) (E : gE) (G : gS) (av : List gV) : Pt → Array Value → Prop := fun A a => a = (av.map gv2).toArray ∧ gAR E G A.U.heap ∧ gKn E A.U ∧ s.heap.size ≤ A.U.heap.size ∧ gtot (gB E) s.heap ≤ gtot (gB E) A.U.heap ∧ A.cells = A.U.heap.size - s.heap.size ∧ A.slots = gtot (gB E) A.U.heap - gtot (gB E) s.heap ∧ R.cells = gN E - s.heap.size ∧ R.slots = gM E - gtot (gB E) s.heap
def gPost (E : gE) (Kv : Option gV → gS → Prop) : Pt → Array Value → Option Value → Pt → Prop := fun A _ v B => ∃ (w : Option gV) (G' : gS), v = w.map gv2 ∧ Kv w G' ∧ gAR E G' B.U.heap ∧ ∃ L, B.locs = A.locs ++ L ∧ ∀ q ∈ L, gB E ≤ q.base
def gPostX (E : gE) (X : Nat → gS → Prop) : Pt → Array Value → Addr → Pt → Prop := fun A _ q B => ∃ G', X q G' ∧ gIsO G' q ∧ gAR E G' B.U.heap ∧ ∃ L, B.locs = A.locs ++ L ∧ ∀ q ∈ L, gB E ≤ q.base
section Payer
variable {l : Launch} {R : Room} {p : Program} {e : Env} {below : List Frame} {s : State} {sargs : Array Value} {y : MethodName} {len W9 : Nat}
/-- (follows vx_back of the kit) -/
theorem g_back {ws : List Cond} {F Lr maxL : Nat} {av : List gV} {E : gE} {G : gS} {Kv : Option gV → gS → Prop} {X : Nat → gS → Prop}
    (hM : gMet l y ws F Lr av E G Kv X) (hframes : F + 1 ≤ R.frames) (hlocals : W9 + (maxL + 11) + Lr ≤ R.locals)
    (hws : ∀ w ∈ ws, ∀ (a' : Array Value) (U : State), s.WarmedH U.vm → w.before a' U = true)
    (hcd : ∀ (a' : Array Value) (U : State) (mk : MethodId), s.WarmedH U.vm → U.methodNamed? y = some mk → ∃ (methY : Method) (cY : Code), U.vm.method? mk = some methY ∧ methY.code = some cY ∧ cY.maxLocals = maxL)
    (hinit : ∀ (a' : Array Value) (U : State), s.WarmedH U.vm → (Cond.initialized y.cls).before a' U = true) :
    vx_Back l R p e below s sargs y len W9 (gPre s R E G av) (gPost E Kv) (gPostX E X) := by
  intro m meth c A g ig mk a X0 hg hsize hdg hW hn hp
  obtain ⟨hav, hAR, hKn, hs1, hs2, hc1, hc2, hR1, hR2⟩ := hp
  have h1 : (headSpec ws { frames := F, cells := gN E - A.U.heap.size, slots := gM E - gtot (gB E) A.U.heap, locals := Lr }).pre.before a A.U = true := atoms_intro fun w hw => hws w hw _ _ X0.warmed
  have h3 : (Cond.initialized y.cls).before a A.U = true := hinit _ _ X0.warmed
  have h4 : A.cells + (gN E - A.U.heap.size) ≤ R.cells := by have := hAR.2.2.2.2.1; omega
  have h5 : A.slots + (gM E - gtot (gB E) A.U.heap) ≤ R.slots := by have := hAR.2.2.2.2.2; omega
  have hcalling : A.U.calling g mk a = A.U.calling g mk a := rfl
  have hheap : (A.U.calling g mk a).heap = A.U.heap := rfl
  have hvm : (A.U.calling g mk a).vm = A.U.vm := rfl
  have hPc : gPc E G av A.U.heap.size (gtot (gB E) A.U.heap) a (A.U.calling g mk a) := ⟨hav, by rw [hheap], by rw [hheap], by rw [hheap]; exact hAR, hKn.same hvm⟩
  have hMM := hM A.U.heap.size (gtot (gB E) A.U.heap)
  generalize hrm : ({ frames := F, cells := gN E - A.U.heap.size, slots := gM E - gtot (gB E) A.U.heap, locals := Lr } : Room) = rm at hMM h1
  have hrf : rm.frames = F := by rw [← hrm]
  have hrl : rm.locals = Lr := by rw [← hrm]
  have hrc : rm.cells = gN E - A.U.heap.size := by rw [← hrm]
  have hrs : rm.slots = gM E - gtot (gB E) A.U.heap := by rw [← hrm]
  obtain ⟨U, Ls, c0, s0⟩ := A
  dsimp only [Pt.U, Pt.locs, Pt.cells, Pt.slots] at *
  obtain ⟨methY, cY, hmY, hcY, hlY⟩ := hcd a U mk X0.warmed hn
  obtain ⟨kY, hkY, -⟩ := className_of_methodNamed hn
  have hinitY : kY.init = .initialized := Cond.initialized_spec (findClass_of_methodNamed hn) hkY h3
  have h : At U g.method c below := by rw [hg]; exact X0.here
  have happ : (headSpec ws rm).appliesLoose y e.platform (U.calling g mk a) = true :=
    Spec.appliesLoose_calling (g := g) h hdg hn hkY hinitY
      (X0.room_calling (g := g) (R' := (headSpec ws rm).room) hsize hmY hcY (by show rm.frames + 1 ≤ _; rw [hrf]; exact hframes) (by show _ + _ + (cY.maxLocals + 11) + rm.locals ≤ _; rw [hlY, hrl]; omega) (by show _ + rm.cells ≤ _; rw [hrc]; exact h4) (by show _ + rm.slots ≤ _; rw [hrs]; exact h5)) h1
  obtain ⟨mid, hmid⟩ := h.above
  have hfr : (U.setTop g).frames = (.java g :: mid) ++ below := by rw [State.frames_setTop' g h.top, hmid]; rfl
  obtain ⟨o, s₂, hsteps, -, hend, hq⟩ := Steps.callFree hMM p X0.admits X0.cas X0.clock (acts := []) hfr happ hPc trivial
  have hq' : gQ E Kv X (gN E - U.heap.size) (gM E - gtot (gB E) U.heap) a (U.calling g mk a) o s₂ := hq
  rw [State.frames_setTop' g h.top] at hend
  obtain ⟨g₀, hg0⟩ := Option.isSome_iff_exists.mp h.top
  obtain ⟨r, hr⟩ := State.topJava?_eq_some.mp hg0
  have hr' : (({ U with heap := s₂.heap, slotsUsed := s₂.slotsUsed } : State).setVm s₂.vm).frames = .java g₀ :: r := hr
  rcases hq' with ⟨v, G', rfl, hkv, hA', L, hfe, hL⟩ | ⟨q, G', rfl, hxq, hio, hA', hW₂, L, hsm, hL⟩
  · obtain ⟨-, hW₂, e2, q2, q3, q4, q5, q6⟩ := id hfe
    have e3 : s₂ = ({ (U.calling g mk a).setFrames s₂.frames with heap := s₂.heap, slotsUsed := s₂.slotsUsed } : State).setVm s₂.vm := by
      have : s₂ = ({ s₂ with vm := (U.calling g mk a).vm } : State).setVm s₂.vm := rfl
      rw [e2] at this
      exact this
    obtain ⟨c₂, i₂, len₂, hc₂, hd₂, hf₂⟩ := hend
    have hW' : U.WarmedH s₂.vm := hW₂
    have hcc : c₂ = c := by
      have h1 : s₂.code? g.method = U.code? g.method := by
        rw [State.code?_eq, State.code?_eq, hW'.alike.method?]
      exact Option.some.inj (hc₂.symm.trans (h1.trans h.code))
    subst hcc
    have hlen : len₂ = len := by rw [hdg] at hd₂; cases hd₂; rfl
    subst hlen
    have hs₂ : s₂ = (({ U with heap := s₂.heap, slotsUsed := s₂.slotsUsed } : State).setVm s₂.vm).setTop { g with pc := g.pc + len₂, stack := (v.map gv2).toList ++ g.stack } := by
      refine e3.trans ?_
      rw [hf₂, State.calling_eq h.top, State.setFrames_setFrames, State.setTop_of_frames _ hr', hr]
      rfl
    have hsame : U.sameButNew ({ U with heap := s₂.heap, slotsUsed := s₂.slotsUsed } : State) L (gN E - U.heap.size) (gM E - gtot (gB E) U.heap) := by
      refine ⟨?_, q2, q3, q4, q5, q6⟩
      obtain ⟨t, ht, -⟩ := State.frames_cons hr
      show ({ U with heap := s₂.heap, slotsUsed := s₂.slotsUsed } : State) = { U.setFrames U.frames with heap := s₂.heap, slotsUsed := s₂.slotsUsed }
      rw [State.setFrames_self ht]
    subst hg
    refine Or.inl ⟨v.map gv2, ⟨(({ U with heap := s₂.heap, slotsUsed := s₂.slotsUsed } : State).setVm s₂.vm), Ls ++ L, c0 + (gN E - U.heap.size), s0 + (gM E - gtot (gB E) U.heap)⟩,
      ⟨X0.admits, X0.cas, X0.clock, X0.frames, X0.room, X0.hears, X0.method, X0.code, (X0.here.setHeapUsed s₂.heap s₂.slotsUsed).setVm hW'.alike, X0.tail, State.WarmedH.trans X0.warmed hW', X0.limits, X0.bytes, X0.same.trans (hsame.setVm s.vm)⟩,
      ⟨v, G', rfl, hkv, hA', L, rfl, hL⟩, ?_⟩
    show Steps p.tables e below _ ((({ U with heap := s₂.heap, slotsUsed := s₂.slotsUsed } : State).setVm s₂.vm).setTop { g with pc := g.pc + len₂, stack := (v.map gv2).toList ++ g.stack })
    rw [← hs₂]
    exact hsteps
  · obtain ⟨e2, q2, q3, q4, q5, q6⟩ := id hsm
    have e3 : s₂ = ({ (U.calling g mk a).setFrames s₂.frames with heap := s₂.heap, slotsUsed := s₂.slotsUsed } : State).setVm s₂.vm := by
      have : s₂ = ({ s₂ with vm := (U.calling g mk a).vm } : State).setVm s₂.vm := rfl
      rw [e2] at this
      exact this
    have hf₂ : s₂.frames = .throwing q :: .java g :: U.frames.tail := hend
    have hW' : U.WarmedH s₂.vm := hW₂
    have hs₂ : s₂ = ((({ U with heap := s₂.heap, slotsUsed := s₂.slotsUsed } : State).setVm s₂.vm).setTop g).pushFrame (.throwing q) := by
      refine e3.trans ?_
      rw [hf₂, State.calling_eq h.top, State.setFrames_setFrames, State.pushFrame, State.frames_setTop _ hr', State.setTop_of_frames _ hr', State.setFrames_setFrames, hr]
      rfl
    have hsame : U.sameButNew ({ U with heap := s₂.heap, slotsUsed := s₂.slotsUsed } : State) L (gN E - U.heap.size) (gM E - gtot (gB E) U.heap) := by
      refine ⟨?_, q2, q3, q4, q5, q6⟩
      obtain ⟨t, ht, -⟩ := State.frames_cons hr
      show ({ U with heap := s₂.heap, slotsUsed := s₂.slotsUsed } : State) = { U.setFrames U.frames with heap := s₂.heap, slotsUsed := s₂.slotsUsed }
      rw [State.setFrames_self ht]
    subst hg
    refine Or.inr ⟨q, ⟨(({ U with heap := s₂.heap, slotsUsed := s₂.slotsUsed } : State).setVm s₂.vm), Ls ++ L, c0 + (gN E - U.heap.size), s0 + (gM E - gtot (gB E) U.heap)⟩,
      ⟨X0.admits, X0.cas, X0.clock, X0.frames, X0.room, X0.hears, X0.method, X0.code, (X0.here.setHeapUsed s₂.heap s₂.slotsUsed).setVm hW'.alike, X0.tail, State.WarmedH.trans X0.warmed hW', X0.limits, X0.bytes, X0.same.trans (hsame.setVm s.vm)⟩,
      ⟨G', hxq, hio, hA', L, rfl, hL⟩, ?_⟩
    show Steps p.tables e below _ (((({ U with heap := s₂.heap, slotsUsed := s₂.slotsUsed } : State).setVm s₂.vm).setTop g).pushFrame (.throwing q))
    rw [← hs₂]
    exact hsteps
end Payer
