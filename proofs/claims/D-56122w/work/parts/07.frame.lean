/-! THE GHOST HEAP AND THE CONTRACTS OVER IT -/
set_option maxRecDepth 20000
/-- the classes whose objects the ghost heap knows -/
def gCl : List vw_C := [(RX3, TX3, 20), (RX1, TX1, 7), (RX2, TX2, 13), (RJ2, TJ2, 3), (RJ4, TJ4, 4), (RJ14, TJ14, 3), (RJ6, TJ6, 4), (RJ7, TJ7, 4), (RX9, TX9, 2), (RX8, TX8, 6), (RX10, TX10, 5), (RX14, TX14, 2), (RX12, TX12, 1), (RX11, TX11, 1), (RX13, TX13, 1), (RX16, TX16, 1), (RX15, TX15, 2), (RX5, TX5, 7), (RX17, TX17, 7), (RX18, TX18, 7), (RJ18, TJ18, 6), (RJ21, TJ21, 6), (RJ24, TJ24, 6), (RJ23, TJ23, 6), (RJ25, TJ25, 6), (RJ28, TJ28, 6), (RX19, fun _ => ("", "", "", false), 0), (RX20, fun _ => ("", "", "", false), 0)]
def gTy : List FieldType := [.int, .byte, .object "java/lang/Object", .long, .double]
/-- a cell: new (writable) or old; an array (type's number, contents), an object (class's number, fields), a lambda's object (site's number, what it holds) -/
abbrev gC : Type := Bool × ((Nat × vp_A) ⊕ ((Nat × List Value) ⊕ (Nat × List Value)))
abbrev gS : Type := (Nat → Option gC) × Nat × Nat
abbrev gE : Type := va_G × (Nat → ClassId) × (Nat → ClassId) × (Nat × Nat × Nat) × (Nat → Nat) × Heap
abbrev gD (E : gE) : va_G := E.1
abbrev gT (E : gE) : Nat → ClassId := E.2.1
abbrev gLc (E : gE) : Nat → ClassId := E.2.2.1
abbrev gB (E : gE) : Nat := E.2.2.2.1.1
abbrev gN (E : gE) : Nat := E.2.2.2.1.2.1
abbrev gM (E : gE) : Nat := E.2.2.2.1.2.2
abbrev gAd (E : gE) : Nat → Nat := E.2.2.2.2.1
abbrev gHb (E : gE) : Heap := E.2.2.2.2.2
def gval (x : vp_A) (j : Nat) : Value := match x.2 with
  | .inl f => .int (f j)
  | .inr (.inl f) => .long (f j)
  | .inr (.inr (.inl f)) => .float (f j)
  | .inr (.inr (.inr (.inl f))) => .double (f j)
  | .inr (.inr (.inr (.inr f))) => va_rf (f j)
def gat (E : gE) (a : Nat) (c : gC) (H : Heap) : Prop := (c.1 = true → gB E ≤ a) ∧ match c.2 with
  | .inl kx => ∃ cell : Cell, H[a]? = some cell ∧ cell.cls = gT E kx.1 ∧ (∀ z, cell.vm ≠ .statics z) ∧ cell.vm ≠ .unknown ∧ kx.2.1 ≤ cell.slots.size ∧ cell.slots.size.toInt32 = Int32.ofNat kx.2.1 ∧ (∀ j, j < kx.2.1 → cell.slots[j]? = some (gval kx.2 j)) ∧ (c.1 = true → cell = arrV (gT E kx.1) kx.2.1 (gval kx.2))
  | .inr (.inl o) => ∃ (cell : Cell) (r : vw_C), H[a]? = some cell ∧ gCl[o.1]? = some r ∧ cell.cls = (gD E).1 o.1 ∧ cell.vm.isStatics = false ∧ cell.vm ≠ .unknown ∧ (c.1 = true → cell.vm = .none ∧ cell.monitor.owner = none ∧ cell.monitor.count = 0) ∧ ∀ k, k < r.2.2 → cell.slots[(gD E).2 o.1 k]? = some (vp_V o.2 k)
  | .inr (.inr o) => ∃ cell : Cell, H[a]? = some cell ∧ cell.cls = gLc E o.1 ∧ cell.vm = .none ∧ cell.slots = o.2.toArray
/-- slots in use from b on -/
def gtot (b : Nat) (H : Heap) : Nat := ((H.toList.drop b).map (fun c => c.slots.size)).sum
def gAR (E : gE) (G : gS) (H : Heap) : Prop := (∀ (a : Nat) (c : gC), G.1 a = some c → gat E a c H) ∧ gB E ≤ H.size ∧ (∀ q, q < gB E → H[q]? = (gHb E)[q]?) ∧ (gHb E).size = gB E ∧ H.size + G.2.1 ≤ gN E ∧ gtot (gB E) H + G.2.2 ≤ gM E
theorem gat.lt {E : gE} {a : Nat} {c : gC} {H : Heap} (h : gat E a c H) : a < H.size := by
  obtain ⟨w, x | x | x⟩ := c
  · obtain ⟨-, cell, h1, -⟩ := h; exact (Array.getElem?_eq_some_iff.mp h1).1
  · obtain ⟨-, cell, r, h1, -⟩ := h; exact (Array.getElem?_eq_some_iff.mp h1).1
  · obtain ⟨-, cell, h1, -⟩ := h; exact (Array.getElem?_eq_some_iff.mp h1).1
theorem gat.kept {E : gE} {a : Nat} {c : gC} {H H1 : Heap} (h : gat E a c H) (hq : H1[a]? = H[a]?) : gat E a c H1 := by
  obtain ⟨w, x | x | x⟩ := c
  · obtain ⟨h0, cell, h1, h2⟩ := h; exact ⟨h0, cell, by rw [hq]; exact h1, h2⟩
  · obtain ⟨h0, cell, r, h1, h2⟩ := h; exact ⟨h0, cell, r, by rw [hq]; exact h1, h2⟩
  · obtain ⟨h0, cell, h1, h2⟩ := h; exact ⟨h0, cell, by rw [hq]; exact h1, h2⟩
theorem gval_cell (cA : ClassId) (x : vp_A) : vp_cell cA x = arrV cA x.1 (gval x) := by
  obtain ⟨n, f | f | f | f | f⟩ := x <;> rfl
/-! sums -/
theorem gsum_split (l : List Nat) (b n : Nat) (h : b ≤ n) : (l.drop b).sum = ((l.take n).drop b).sum + (l.drop n).sum := by
  rcases Nat.lt_or_ge n l.length with hn | hn
  · conv => lhs; rw [← List.take_append_drop n l]
    rw [List.drop_append_of_le_length (by rw [List.length_take]; omega), List.sum_append]
  · rw [List.take_of_length_le hn, List.drop_eq_nil_of_le hn]
    simp
theorem gtot_eq (b : Nat) (H : Heap) : gtot b H = (((H.toList.map (fun c => c.slots.size)).drop b)).sum := by
  rw [gtot, List.map_drop]
theorem gtot_same {b : Nat} {H H' : Heap} (h : ∀ q : Nat, (H'[q]?).map (fun c => c.slots.size) = (H[q]?).map (fun c => c.slots.size)) : gtot b H' = gtot b H := by
  rw [gtot_eq, gtot_eq]
  congr 2
  apply List.ext_getElem?
  intro i
  rw [List.getElem?_map, List.getElem?_map, Array.getElem?_toList, Array.getElem?_toList]
  exact h i
theorem gtot_push {b : Nat} {H : Heap} (c : Cell) (h : b ≤ H.size) : gtot b (H.push c) = gtot b H + c.slots.size := by
  rw [gtot, gtot, Array.toList_push, List.drop_append_of_le_length (by rw [Array.length_toList]; exact h), List.map_append, List.sum_append]
  simp
/-- what a run's frame says of the slots: those of the old cells are as they were -/
theorem gtot_grow {b : Nat} {H H' : Heap} (hb : b ≤ H.size) (hs : H.size ≤ H'.size) (h : ∀ (a : Nat) (c : Cell), H[a]? = some c → ∃ c', H'[a]? = some c' ∧ c'.slots.size = c.slots.size) : gtot b H' = gtot b H + ((H'.toList.drop H.size).map (fun c => c.slots.size)).sum := by
  rw [gtot_eq, gsum_split _ b H.size hb]
  congr 1
  · rw [gtot_eq]
    congr 2
    apply List.ext_getElem?
    intro i
    rw [List.getElem?_take]
    split
    · rename_i hi
      rw [List.getElem?_map, List.getElem?_map, Array.getElem?_toList, Array.getElem?_toList]
      obtain ⟨c', h1, h2⟩ := h i H[i] (Array.getElem?_eq_getElem hi)
      rw [h1, Array.getElem?_eq_getElem hi]
      simp [h2]
    · rename_i hi
      rw [List.getElem?_map, Array.getElem?_toList, Array.getElem?_eq_none (by omega)]
      rfl
  · rw [List.map_drop]
section GT
variable {p : Program} {l : Launch} {e : Env} {R : Room} {s : State} {m : MethodId} {args : Array Value} {below : List Frame} {meth : Method} {c : Code} {T : State} {locs : List Loc} {cells slots : Nat}
/-- the frame's two figures, made exact -/
theorem g_tight {b : Nat} (hb : b ≤ s.heap.size) (X : Stand p l e R s m args below meth c T locs cells slots) : s.heap.size ≤ T.heap.size ∧ gtot b s.heap ≤ gtot b T.heap ∧ Stand p l e R s m args below meth c T locs (T.heap.size - s.heap.size) (gtot b T.heap - gtot b s.heap) := by
  obtain ⟨h1, h2, h3, h4, h5, h6⟩ := X.same
  have h2' : s.heap.size ≤ T.heap.size := h2
  have hg : gtot b T.heap = gtot b s.heap + ((T.heap.toList.drop s.heap.size).map (fun c => c.slots.size)).sum := gtot_grow hb h2' (fun a c0 hc => by
    obtain ⟨c', e1, -, e3, -⟩ := h6 a c0 hc
    exact ⟨c', e1, e3⟩)
  refine ⟨h2', by omega, { X with same := ⟨h1, h2, ?_, h4, ?_, h6⟩ }⟩
  · show T.heap.size ≤ s.heap.size + (T.heap.size - s.heap.size)
    omega
  · show ((T.heap.toList.drop s.heap.size).map (fun c => c.slots.size)).sum ≤ gtot b T.heap - gtot b s.heap
    omega
end GT
