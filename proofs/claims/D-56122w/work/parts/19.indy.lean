/-! LAMBDAS: their making -/
set_option maxRecDepth 20000
theorem garr3 {α : Type} {x : Array Nat} {f : Nat → Nat → Nat → Option α} {r : α} (h : Lambda.shapeOf?.match_15 (fun _ => Option α) x f (fun _ => none) = some r) : ∃ a0 a1 a2, f a0 a1 a2 = some r := by
  rcases x with ⟨L⟩
  match L, h with
  | [], h => cases h
  | [_], h => cases h
  | [_, _], h => cases h
  | [a, b, c], h => exact ⟨a, b, c, h⟩
  | _ :: _ :: _ :: _ :: _, h => cases h
theorem gsite {cf : ClassFile} {index : Nat} {σ : Lambda.Shape} (h : Lambda.shapeOf? cf index = some σ) :
    ∃ (b nt : Nat) (desc : String) (site : MethodDescriptor), cf.constantPool[index]? = some (.invokeDynamic b nt) ∧ cf.constantPool.nameAndType? nt = some (σ.name, desc) ∧ parseMethodDescriptor desc = some site ∧ site.parameters = σ.captured := by
  unfold Lambda.shapeOf? at h
  split at h
  · rename_i b nt hc
    obtain ⟨entries, -, h⟩ := Option.bind_eq_some_iff.mp h
    obtain ⟨bm, -, h⟩ := Option.bind_eq_some_iff.mp h
    split at h
    · obtain ⟨_, -, h⟩ := Option.bind_eq_some_iff.mp h
      obtain ⟨a0, a1, a2, h⟩ := garr3 h
      split at h
      · split at h
        · split at h
          · obtain ⟨⟨name, desc⟩, hnt, h⟩ := Option.bind_eq_some_iff.mp h
            obtain ⟨site, hsite, h⟩ := Option.bind_eq_some_iff.mp h
            split at h
            · obtain ⟨⟨implClass, implName, implDesc, implItf⟩, -, h⟩ := Option.bind_eq_some_iff.mp h
              obtain ⟨x1, -, h⟩ := Option.bind_eq_some_iff.mp h
              obtain ⟨x2, -, h⟩ := Option.bind_eq_some_iff.mp h
              obtain ⟨x3, -, h⟩ := Option.bind_eq_some_iff.mp h
              obtain ⟨x4, -, h⟩ := Option.bind_eq_some_iff.mp h
              obtain ⟨x5, -, h⟩ := Option.bind_eq_some_iff.mp h
              cases h
              exact ⟨b, nt, desc, site, hc, hnt, hsite, rfl⟩
            · cases h
          · cases h
        · cases h
      · cases h
    · cases h
  · cases h
def gNm (C : gCx) (y : MethodName) : Prop := match C with
  | (p, l, e, R, s, m, args, below, meth, c, E, Kv, X) => s.methodNamed? y = some m
def wMkL (G : gS) (i : Nat) (xs : List Int32) (K : Nat → gS → Prop) : Prop := 1 ≤ G.2.1 ∧ xs.length ≤ G.2.2 ∧ ∀ a, G.1 a = none → K a (gNew G a (gLb i (xs.map Value.int)) xs.length)
theorem gzip : ∀ (xs : List Int32) (n : Nat), xs.length = n → ((List.replicate n FieldType.int).zip (xs.map Value.int)).map (fun (t, v) => narrow t v) = xs.map Value.int
  | [], n, h => by subst h; rfl
  | x :: xs, n, h => by
    subst h
    have ih := gzip xs xs.length rfl
    simp only [List.length_cons, List.replicate_succ, List.map_cons, List.zip_cons_cons]
    rw [ih]
    rfl
section INDY
variable {C : gCx} {own : String} {cc : ByteArray} {hh : List (Nat × Nat × Nat × Nat)} {rt : Option FieldType} {nm : String} {nL F L : Nat} {G : gS} {pc : Nat} {lv : List (Nat × gV)} {st stk : List gV}
theorem g_indyC (hC : gOk C own cc hh rt nm nL F L) {q : gSite} (hN : gNm C q.2.1) (hq : q ∈ gSites) (hcap : q.2.2.2.2.captured = []) (hpc : q.2.2.1 = pc) {index : Nat} (hL : 16 + 3072 ≤ L) (hst : st.length ≤ 8) (hd : decode cc pc = .ok (.invokedynamic index, 5)) (k : gGo C G (pc + 5) lv (vQ (some (cxA C (200 + q.1))) :: st)) : gGo C G pc lv st := by
  obtain ⟨p, l, e, R, s, m, args, below, meth, c, E, Kv, X⟩ := C
  obtain ⟨hx, hb, ho, ht, hKn, hlk, hm, hr, hmn, htab, hRF, hRL, hR1, hR2, hbs, hfl⟩ := hC
  obtain ⟨m1, kc, cf0, i0, p0, ln, hm1, hkc, hcf0, hsh, hfind, hmade, hcall, hl⟩ := hKn.2.2.2.2.2.2.2.2.2.2.2.2.2.1 q hq
  cases hm1.symm.trans hN
  rcases hl with ⟨rfl, -⟩ | ⟨-, hne⟩
  · intro H locs ls h1 h2 h3 h4 h5
    intro T hT X0
    have hsum := gvc_sum st
    obtain ⟨t, a1, b1⟩ := k H locs ls h1 h2 h3 h4 h5 T hT X0
    refine ⟨t, X0.lambdaConstant hx (g := F0 m pc ls (st.map gv2)) rfl h5.1 (by rw [hb]; exact hd) hkc (by rw [← hpc]; exact hfind) ?_ a1, b1⟩
    rw [X0.admits.platform]
    show 2 * 0 + ((st.map gv2).map fun v => v.category).sum + 3072 ≤ R.locals
    rw [hRL]
    omega
  · exact absurd hcap hne
theorem g_indyM (hC : gOk C own cc hh rt nm nL F L) {q : gSite} (hN : gNm C q.2.1) (hq : q ∈ gSites) {n : Nat} {bs : List UInt8} {fx fn : List Nat} {mi cx cu ntx : Nat} {y : MethodName} {b2 : ByteArray} {nL2 index : Nat} (hcap : q.2.2.2.2.captured = List.replicate n FieldType.int) (hn0 : 0 < n)
    (hok : gLamOk q.2.2.2.2 q.2.1.cls n bs fx fn mi cx cu ntx y) (hobj : Cond.instantiable "java/lang/Object" 0 ∈ lw_all) (hst9 : Cond.static y ∈ lw_all) (hcd : gCode y b2 nL2 (some .int) (n + 1))
    (hpc : q.2.2.1 = pc) (hix : q.2.2.2.1 = index) (hL : 16 + 3072 ≤ L) (hst : stk.length ≤ 8) {xs : List Int32} (hxs : xs.length = n) (hs : (xs.map vI).reverse ++ st = stk) {K : Nat → gS → Prop} (h : wMkL G q.1 xs K) (hd : decode cc pc = .ok (.invokedynamic index, 5)) (k : ∀ a G', K a G' → gGo C G' (pc + 5) lv (vQ (some a) :: st)) : gGo C G pc lv stk := by
  obtain ⟨p, l, e, R, s, m, args, below, meth, c, E, Kv, X⟩ := C
  obtain ⟨hx, hb, ho, ht, hKn, hlk, hm, hr, hmn, htab, hRF, hRL, hR1, hR2, hbs, hfl⟩ := hC
  subst hs
  obtain ⟨hc1, hc2, h⟩ := h
  have hLm := hKn.2.2.2.2.2.2.2.2.2.2.2.2.2.1 q hq
  obtain ⟨m1, kc, cf0, i0, p0, ln, hm1, hkc, hcf0, hsh, hfind, hmade, hcall, hl⟩ := id hLm
  cases hm1.symm.trans hN
  obtain ⟨b9, nt9, desc, site, z1, z2, z3, z4⟩ := gsite hsh
  have hU := State.WarmedH.refl s
  obtain ⟨kM, methk, ck, g1, -, -, -, -, -, -, -, -, -, -, -, g13, g14⟩ := gMade.of (e := e) (args := args) hLm hok (ht _ hobj) hcd.2.2.1 (ht _ hcd.1) (ht _ hst9) (ht _ hcd.2.1) hcd.2.2.2
  rcases hl with ⟨-, hne⟩ | ⟨rfl, -⟩
  · rw [hcap] at hne
    have := congrArg List.length hne
    simp at this
    omega
  intro H locs ls h1 h2 h3 h4 h5
  intro T hT X0
  have hA5 := h1.2.2.2.2.1
  have hA6 := h1.2.2.2.2.2
  have hsum := gvc_sum ((xs.map vI).reverse ++ st)
  have hz : ((kM.instanceTypes.toList.zip (xs.map Value.int)).map fun (t, v) => narrow t v) = xs.map Value.int := by
    rw [g13]
    exact gzip xs n hxs
  have hstk : ((xs.map vI).reverse ++ st).map gv2 = (xs.map Value.int).reverse ++ st.map gv2 := by
    rw [List.map_append, List.map_reverse, List.map_map]
    rfl
  have hmk := X0.lambdaMakes hx (g := F0 m pc ls (((xs.map vI).reverse ++ st).map gv2)) rfl h5.1 (by rw [hb]; exact hd) hkc (by rw [← hpc]; exact hfind) hcf0 (by rw [← hix]; exact z1) z2 (parseLong_of_parse z3) (vals := xs.map Value.int) (rest := st.map gv2) (by rw [z4, hcap, List.length_map, List.length_replicate, hxs]) hstk g1
    (by rw [X0.admits.platform]; show 2 * 0 + ((((xs.map vI).reverse ++ st).map gv2).map fun v => v.category).sum + 3072 ≤ R.locals; rw [hRL]; omega) (by rw [hR1]; omega) (by rw [hz, List.length_map, hR2]; omega)
    (fun i v hv => by
      rw [hz] at hv
      have hv2 : (xs.map Value.int)[i]? = some v := by simpa using hv
      rw [List.getElem?_map] at hv2
      cases hxi : xs[i]? with
      | none => rw [hxi] at hv2; cases hv2
      | some x =>
        rw [hxi] at hv2
        cases hv2
        have hi : i < n := by rw [← hxs]; exact (List.getElem?_eq_some_iff.mp hxi).1
        simp [State.fitsSlot, State.slotType?, g1, g14, g13, hi, fits])
  rw [hz] at hmk
  obtain ⟨X', stp⟩ := hmk
  have hsz : (xs.map Value.int).toArray.size = xs.length := by simp
  rw [hsz] at X'
  generalize hcn : ({ cls := gLc E q.1, slots := (xs.map Value.int).toArray, vm := .none } : Cell) = cn at X' stp
  have hat : gat E H.size (gLb q.1 (xs.map Value.int)) (H.push cn) := by
    subst hcn
    exact ⟨fun _ => h1.2.1, _, Array.getElem?_push_size, rfl, rfl, rfl⟩
  obtain ⟨g0, gg1, gg2⟩ := gAR_new h1 (n := xs.length) (by rw [← hcn]; exact hsz) hc1 hc2 hat
  have hgo := k _ _ (h H.size g0) (H.push cn) locs ls gg1 (by rw [Array.size_push]; omega) (by rw [gg2]; omega) h4 h5
  rw [gg2, Array.size_push] at hgo
  rw [show H.size + 1 - s.heap.size = H.size - s.heap.size + 1 by omega, show gtot (gB E) H + xs.length - gtot (gB E) s.heap = gtot (gB E) H - gtot (gB E) s.heap + xs.length by omega] at hgo
  obtain ⟨t, b1, b2⟩ := hgo (T.pushCell cn) (by show T.heap.push cn = _; rw [hT]) X'
  refine ⟨t, stp t ?_, b2⟩
  rw [hT]
  exact b1
end INDY
