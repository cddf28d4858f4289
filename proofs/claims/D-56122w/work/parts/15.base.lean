/-! what the printed walks lean on -/
set_option maxRecDepth 20000
theorem gle {a b : Nat} (h : Nat.ble a b = true) : a ≤ b := Nat.le_of_ble_eq_true h
theorem gne {x v : Int32} {n : Int} (hv : v.toInt = n) (h : ¬ x = v) : x.toInt ≠ n := fun e => h (Int32.toInt_inj.mp (e.trans hv.symm))
def gNar (ty : FieldType) (x : Int32) : Prop := narrow ty (.int x) = .int x
def gNF (ty : FieldType) (x : Int32) : Prop := narrow ty (.int x) = .int x ∧ fits ty (.int x) = true
def gHas (G : gS) (q ci : Nat) : Prop := ∃ fs : List Value, G.1 q = some (gO true ci fs)
theorem gcov {hh : List (Nat × Nat × Nat × Nat)} {pc : Nat} (h : (tableOf hh).all (fun x => !covers x pc) = true) : ∀ x ∈ tableOf hh, covers x pc = false := fun x hx => by
  have h9 := List.all_eq_true.mp h x hx
  cases e : covers x pc
  · rfl
  · rw [e] at h9; exact absurd h9 (by decide)
theorem gnarO (n : String) (o : Option Nat) : narrow (.object n) (gv2 (vQ o)) = gv2 (vQ o) := by cases o <;> rfl
theorem gnarA (t : FieldType) (o : Option Nat) : narrow (.array t) (gv2 (vQ o)) = gv2 (vQ o) := by cases o <;> rfl
theorem gfitO (n : String) (o : Option Nat) : fits (.object n) (gv2 (vQ o)) = true := by cases o <;> rfl
theorem gfitA (t : FieldType) (o : Option Nat) : fits (.array t) (gv2 (vQ o)) = true := by cases o <;> rfl
/-- a loop, so many times at most -/
def gLoop {β : Type} (bot : β) (B : β → β) : Nat → β
  | 0 => bot
  | n + 1 => B (gLoop bot B n)
def gFuel : Nat := 100000
theorem gNN0 {K : Nat → Prop} (h : wNN none K) : False := by
  obtain ⟨a, e, -⟩ := h
  cases e
theorem gNN1 {K : Nat → Prop} {a : Nat} (h : wNN (some a) K) : K a := by
  obtain ⟨b, e, h⟩ := h
  cases e
  exact h
theorem gLoop_ind {β : Type} {bot : β} {B : β → β} (P : Nat → β → Prop) (h0 : P 0 bot) (hs : ∀ n f, P n f → P (n + 1) (B f)) : ∀ n, P n (gLoop bot B n)
  | 0 => h0
  | n + 1 => hs n _ (gLoop_ind P h0 hs n)
theorem gdf_X3 : ∀ j, j < 20 → defaultValue (tyX3 j) = vp_V [.null, .null, .null, .null, .null, .int 0, .int 0, .int 0, .int 0, .null, .null, .int 0, .null, .int 0, .int 0, .int 0, .int 0, .int 0, .int 0, .null] j := fun j hj => match j, hj with
  | 0, _ => rfl
  | 1, _ => rfl
  | 2, _ => rfl
  | 3, _ => rfl
  | 4, _ => rfl
  | 5, _ => rfl
  | 6, _ => rfl
  | 7, _ => rfl
  | 8, _ => rfl
  | 9, _ => rfl
  | 10, _ => rfl
  | 11, _ => rfl
  | 12, _ => rfl
  | 13, _ => rfl
  | 14, _ => rfl
  | 15, _ => rfl
  | 16, _ => rfl
  | 17, _ => rfl
  | 18, _ => rfl
  | 19, _ => rfl
  | j + 20, h => absurd h (by omega)
theorem gdf_X1 : ∀ j, j < 7 → defaultValue (tyX1 j) = vp_V [.null, .null, .null, .null, .int 0, .int 0, .null] j := fun j hj => match j, hj with
  | 0, _ => rfl
  | 1, _ => rfl
  | 2, _ => rfl
  | 3, _ => rfl
  | 4, _ => rfl
  | 5, _ => rfl
  | 6, _ => rfl
  | j + 7, h => absurd h (by omega)
theorem gdf_X2 : ∀ j, j < 13 → defaultValue (tyX2 j) = vp_V [.null, .null, .null, .null, .int 0, .int 0, .int 0, .int 0, .int 0, .int 0, .int 0, .int 0, .int 0] j := fun j hj => match j, hj with
  | 0, _ => rfl
  | 1, _ => rfl
  | 2, _ => rfl
  | 3, _ => rfl
  | 4, _ => rfl
  | 5, _ => rfl
  | 6, _ => rfl
  | 7, _ => rfl
  | 8, _ => rfl
  | 9, _ => rfl
  | 10, _ => rfl
  | 11, _ => rfl
  | 12, _ => rfl
  | j + 13, h => absurd h (by omega)
theorem gdf_J2 : ∀ j, j < 3 → defaultValue (tyJ2 j) = vp_V [.int 0, .null, .int 0] j := fun j hj => match j, hj with
  | 0, _ => rfl
  | 1, _ => rfl
  | 2, _ => rfl
  | j + 3, h => absurd h (by omega)
theorem gdf_J4 : ∀ j, j < 4 → defaultValue (tyJ4 j) = vp_V [.int 0, .int 0, .null, .null] j := fun j hj => match j, hj with
  | 0, _ => rfl
  | 1, _ => rfl
  | 2, _ => rfl
  | 3, _ => rfl
  | j + 4, h => absurd h (by omega)
theorem gdf_J14 : ∀ j, j < 3 → defaultValue (tyJ14 j) = vp_V [.null, .null, .null] j := fun j hj => match j, hj with
  | 0, _ => rfl
  | 1, _ => rfl
  | 2, _ => rfl
  | j + 3, h => absurd h (by omega)
theorem gdf_J6 : ∀ j, j < 4 → defaultValue (tyJ6 j) = vp_V [.null, .int 0, .int 0, .int 0] j := fun j hj => match j, hj with
  | 0, _ => rfl
  | 1, _ => rfl
  | 2, _ => rfl
  | 3, _ => rfl
  | j + 4, h => absurd h (by omega)
theorem gdf_J7 : ∀ j, j < 4 → defaultValue (tyJ7 j) = vp_V [.null, .int 0, .int 0, .int 0] j := fun j hj => match j, hj with
  | 0, _ => rfl
  | 1, _ => rfl
  | 2, _ => rfl
  | 3, _ => rfl
  | j + 4, h => absurd h (by omega)
theorem gdf_X9 : ∀ j, j < 2 → defaultValue (tyX9 j) = vp_V [.int 0, .null] j := fun j hj => match j, hj with
  | 0, _ => rfl
  | 1, _ => rfl
  | j + 2, h => absurd h (by omega)
theorem gdf_X8 : ∀ j, j < 6 → defaultValue (tyX8 j) = vp_V [.int 0, .int 0, .int 0, .int 0, .int 0, .int 0] j := fun j hj => match j, hj with
  | 0, _ => rfl
  | 1, _ => rfl
  | 2, _ => rfl
  | 3, _ => rfl
  | 4, _ => rfl
  | 5, _ => rfl
  | j + 6, h => absurd h (by omega)
theorem gdf_X10 : ∀ j, j < 5 → defaultValue (tyX10 j) = vp_V [.int 0, .int 0, .int 0, .int 0, .int 0] j := fun j hj => match j, hj with
  | 0, _ => rfl
  | 1, _ => rfl
  | 2, _ => rfl
  | 3, _ => rfl
  | 4, _ => rfl
  | j + 5, h => absurd h (by omega)
theorem gdf_X14 : ∀ j, j < 2 → defaultValue (tyX14 j) = vp_V [.null, .null] j := fun j hj => match j, hj with
  | 0, _ => rfl
  | 1, _ => rfl
  | j + 2, h => absurd h (by omega)
theorem gdf_X12 : ∀ j, j < 1 → defaultValue (tyX12 j) = vp_V [.null] j := fun j hj => match j, hj with
  | 0, _ => rfl
  | j + 1, h => absurd h (by omega)
theorem gdf_X11 : ∀ j, j < 1 → defaultValue (tyX11 j) = vp_V [.null] j := fun j hj => match j, hj with
  | 0, _ => rfl
  | j + 1, h => absurd h (by omega)
theorem gdf_X13 : ∀ j, j < 1 → defaultValue (tyX13 j) = vp_V [.null] j := fun j hj => match j, hj with
  | 0, _ => rfl
  | j + 1, h => absurd h (by omega)
theorem gdf_X16 : ∀ j, j < 1 → defaultValue (tyX16 j) = vp_V [.null] j := fun j hj => match j, hj with
  | 0, _ => rfl
  | j + 1, h => absurd h (by omega)
theorem gdf_X15 : ∀ j, j < 2 → defaultValue (tyX15 j) = vp_V [.null, .int 0] j := fun j hj => match j, hj with
  | 0, _ => rfl
  | 1, _ => rfl
  | j + 2, h => absurd h (by omega)
theorem gdf_X5 : ∀ j, j < 7 → defaultValue (tyX5 j) = vp_V [.null, .null, .null, .null, .null, .int 0, .null] j := fun j hj => match j, hj with
  | 0, _ => rfl
  | 1, _ => rfl
  | 2, _ => rfl
  | 3, _ => rfl
  | 4, _ => rfl
  | 5, _ => rfl
  | 6, _ => rfl
  | j + 7, h => absurd h (by omega)
theorem gdf_X17 : ∀ j, j < 7 → defaultValue (tyX17 j) = vp_V [.null, .null, .null, .null, .null, .int 0, .int 0] j := fun j hj => match j, hj with
  | 0, _ => rfl
  | 1, _ => rfl
  | 2, _ => rfl
  | 3, _ => rfl
  | 4, _ => rfl
  | 5, _ => rfl
  | 6, _ => rfl
  | j + 7, h => absurd h (by omega)
theorem gdf_X18 : ∀ j, j < 7 → defaultValue (tyX18 j) = vp_V [.null, .null, .null, .null, .null, .int 0, .int 0] j := fun j hj => match j, hj with
  | 0, _ => rfl
  | 1, _ => rfl
  | 2, _ => rfl
  | 3, _ => rfl
  | 4, _ => rfl
  | 5, _ => rfl
  | 6, _ => rfl
  | j + 7, h => absurd h (by omega)
theorem gdf_J18 : ∀ j, j < 6 → defaultValue (tyJ18 j) = vp_V [.null, .null, .null, .null, .null, .int 0] j := fun j hj => match j, hj with
  | 0, _ => rfl
  | 1, _ => rfl
  | 2, _ => rfl
  | 3, _ => rfl
  | 4, _ => rfl
  | 5, _ => rfl
  | j + 6, h => absurd h (by omega)
theorem gdf_J21 : ∀ j, j < 6 → defaultValue (tyJ21 j) = vp_V [.null, .null, .null, .null, .null, .int 0] j := fun j hj => match j, hj with
  | 0, _ => rfl
  | 1, _ => rfl
  | 2, _ => rfl
  | 3, _ => rfl
  | 4, _ => rfl
  | 5, _ => rfl
  | j + 6, h => absurd h (by omega)
theorem gdf_J24 : ∀ j, j < 6 → defaultValue (tyJ24 j) = vp_V [.null, .null, .null, .null, .null, .int 0] j := fun j hj => match j, hj with
  | 0, _ => rfl
  | 1, _ => rfl
  | 2, _ => rfl
  | 3, _ => rfl
  | 4, _ => rfl
  | 5, _ => rfl
  | j + 6, h => absurd h (by omega)
theorem gdf_J23 : ∀ j, j < 6 → defaultValue (tyJ23 j) = vp_V [.null, .null, .null, .null, .null, .int 0] j := fun j hj => match j, hj with
  | 0, _ => rfl
  | 1, _ => rfl
  | 2, _ => rfl
  | 3, _ => rfl
  | 4, _ => rfl
  | 5, _ => rfl
  | j + 6, h => absurd h (by omega)
theorem gdf_J25 : ∀ j, j < 6 → defaultValue (tyJ25 j) = vp_V [.null, .null, .null, .null, .null, .int 0] j := fun j hj => match j, hj with
  | 0, _ => rfl
  | 1, _ => rfl
  | 2, _ => rfl
  | 3, _ => rfl
  | 4, _ => rfl
  | 5, _ => rfl
  | j + 6, h => absurd h (by omega)
theorem gdf_J28 : ∀ j, j < 6 → defaultValue (tyJ28 j) = vp_V [.null, .null, .null, .null, .int 0, .null] j := fun j hj => match j, hj with
  | 0, _ => rfl
  | 1, _ => rfl
  | 2, _ => rfl
  | 3, _ => rfl
  | 4, _ => rfl
  | 5, _ => rfl
  | j + 6, h => absurd h (by omega)
section CATCH
variable {C : gCx} {own : String} {cc : ByteArray} {hh : List (Nat × Nat × Nat × Nat)} {rt : Option FieldType} {nm : String} {nL F L : Nat} {G : gS} {pc : Nat} {lv : List (Nat × gV)} {st : List gV}
theorem g_catchI (hC : gOk C own cc hh rt nm nL F L) {q ci : Nat} {r : vw_C} (hr : gCl[ci]? = some r) (hq : gHas G q ci) (i : Nat) {x : ExceptionTableEntry} (hi : (tableOf hh)[i]? = some x)
    (hpass : ∀ z ∈ (tableOf hh).take i, covers z pc = false ∨ (z.catchType ≠ 0 ∧ ∃ nm9 : String, Cond.classLink own z.catchType nm9 ∈ lw_all ∧ (r.1, nm9) ∈ gNcL)) (hx9 : covers x pc = true) (h0 : x.catchType ≠ 0) {nmc : String}
    (hlink : Cond.classLink own x.catchType nmc ∈ lw_all) (hcast : (r.1, nmc) ∈ gNwC) {hp : Nat} (hpc : x.handlerPc = hp) (k : gGo C G hp lv [vQ (some q)]) : gTh C G pc lv q := by
  obtain ⟨fs, hfs⟩ := hq
  have hlt : i < (tableOf hh).length := (List.getElem?_eq_some_iff.mp hi).1
  have hx : (tableOf hh)[i] = x := (List.getElem?_eq_some_iff.mp hi).2
  refine g_catch hC hr ⟨_, _, hfs⟩ ⟨_, hfs⟩ ((tableOf hh).take i) x ((tableOf hh).drop (i + 1)) ?_ hpass hx9 h0 hlink hcast hpc k
  rw [← hx, List.getElem_cons_drop, List.take_append_drop]
theorem g_catchAny (hC : gOk C own cc hh rt nm nL F L) {q ci : Nat} {r : vw_C} (hr : gCl[ci]? = some r) (hq : gHas G q ci) (i : Nat) {x : ExceptionTableEntry} (hi : (tableOf hh)[i]? = some x)
    (hpass : ∀ z ∈ (tableOf hh).take i, covers z pc = false ∨ (z.catchType ≠ 0 ∧ ∃ nm9 : String, Cond.classLink own z.catchType nm9 ∈ lw_all ∧ (r.1, nm9) ∈ gNcL)) (hx9 : covers x pc = true) (h0 : x.catchType = 0) {hp : Nat} (hpc : x.handlerPc = hp) (k : gGo C G hp lv [vQ (some q)]) : gTh C G pc lv q := by
  obtain ⟨fs, hfs⟩ := hq
  have hlt : i < (tableOf hh).length := (List.getElem?_eq_some_iff.mp hi).1
  have hx : (tableOf hh)[i] = x := (List.getElem?_eq_some_iff.mp hi).2
  have hsplit : tableOf hh = (tableOf hh).take i ++ x :: (tableOf hh).drop (i + 1) := by
    rw [← hx, List.getElem_cons_drop, List.take_append_drop]
  obtain ⟨p, l, e, R, s, m, args, below, meth, c, E, Kv, X⟩ := C
  obtain ⟨hx0, hb, ho, ht, hKn, -, -, -, -, htab, -⟩ := hC
  intro H locs ls rest h1 h2 h3 h4 h5
  obtain ⟨-, cell, r', e1, e2, e3, e4, e5, e6, -⟩ := h1.1 q _ hfs
  cases hr.symm.trans e2
  subst hpc
  intro T hT X1
  have hpl : e.platform.magicAccessors = ({} : Platform).magicAccessors := by rw [X1.admits.platform]
  have hcl : s.vm.findClass r.1 = some cell.cls := by rw [e3]; exact (hKn.1 ci r hr).1
  have hv : cell.vm = .none := (e6 rfl).1
  obtain ⟨vm', X', st⟩ := X1.thenCaughtThrough q (g := F0 m pc ls rest) rfl (Steps.refl _) (by rw [hT]; exact e1) (by rw [hv]; rfl) (by obtain ⟨k9, h9, -⟩ := Vm.findClass_spec hcl; exact ⟨k9, h9⟩) _ x _ (by rw [htab]; exact hsplit)
    (fun z hz => by
      rcases hpass z hz with h | ⟨hz0, nm, hl1, hn1⟩
      · exact Or.inl h
      · have hn2 := hKn.2.2.2.2.2.2.2.1 _ hn1
        obtain ⟨c6, hc6, hcl6⟩ := Cond.classLink_spec ho (ht _ hl1) e.platform hpl
        obtain ⟨a8, b8, h1, h2, h3⟩ := hn2
        cases Option.some.inj (h1.symm.trans hcl)
        cases Option.some.inj (h2.symm.trans hc6)
        exact Or.inr ⟨hz0, _, hcl6, h3⟩) hx9 (Or.inl h0)
  obtain ⟨t, a1, b1⟩ := k H locs ls h1 h2 h3 h4 h5 (T.setVm vm') hT X'
  exact ⟨t, st.trans a1, b1⟩
end CATCH
