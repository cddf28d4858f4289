/-! ROWS that read or write the heap; ends; (printed by gen/heap.py) -/
set_option maxRecDepth 20000
theorem gArr_of {U : State} {cell : Cell} {cA : ClassId} {ty : FieldType} (h : ArrOfT U cA ty) (hc : cell.cls = cA) (hv : ∀ z, cell.vm ≠ .statics z) : U.isArrayOf cell ty :=
  ⟨hv, by obtain ⟨-, k, h1, h2⟩ := h 0 (fun _ => .null); exact ⟨k, by rw [hc]; exact h1, h2⟩⟩
theorem gSet_self {G : gS} {a : Nat} {c : gC} : (gSet G a c).1 a = some c := by simp [gSet]
theorem gSet_ne {G : gS} {a b : Nat} {c : gC} (h : b ≠ a) : (gSet G a c).1 b = G.1 b := by simp [gSet, h]
theorem gNew_self {G : gS} {a n : Nat} {c : gC} : (gNew G a c n).1 a = some c := by simp [gNew]
theorem gNew_ne {G : gS} {a b n : Nat} {c : gC} (h : b ≠ a) : (gNew G a c n).1 b = G.1 b := by simp [gNew, h]
/-- one cell rewritten -/
theorem gAR_set {E : gE} {G : gS} {H H' : Heap} {a : Nat} {c : gC} {cell cell' : Cell} (h : gAR E G H) (hcell : H[a]? = some cell) (hb : gB E ≤ a) (hcell' : H'[a]? = some cell') (hs : cell'.slots.size = cell.slots.size) (hz : H'.size = H.size) (hq : ∀ q : Nat, q ≠ a → H'[q]? = H[q]?) (hat : gat E a c H') : gAR E (gSet G a c) H' ∧ gtot (gB E) H' = gtot (gB E) H := by
  have ht : gtot (gB E) H' = gtot (gB E) H := gtot_same (fun q => by
    by_cases e : q = a
    · subst e; rw [hcell, hcell']; simp [hs]
    · rw [hq q e])
  obtain ⟨h1, h2, h3, h4, h5, h6⟩ := h
  refine ⟨⟨fun b d hd => ?_, by rw [hz]; exact h2, fun q hq' => by rw [hq q (by omega)]; exact h3 q hq', h4, by rw [hz]; exact h5, by rw [ht]; exact h6⟩, ht⟩
  by_cases e : b = a
  · subst e; rw [gSet_self] at hd; cases hd; exact hat
  · rw [gSet_ne e] at hd; exact (h1 b d hd).kept (hq b e)
/-- one cell more -/
theorem gAR_new {E : gE} {G : gS} {H : Heap} {c : gC} {cell : Cell} {n : Nat} (h : gAR E G H) (hn : cell.slots.size = n) (hc : 1 ≤ G.2.1) (hs : n ≤ G.2.2) (hat : gat E H.size c (H.push cell)) : G.1 H.size = none ∧ gAR E (gNew G H.size c n) (H.push cell) ∧ gtot (gB E) (H.push cell) = gtot (gB E) H + n := by
  obtain ⟨h1, h2, h3, h4, h5, h6⟩ := h
  have ht : gtot (gB E) (H.push cell) = gtot (gB E) H + n := by rw [gtot_push cell h2, hn]
  have hz : (H.push cell).size = H.size + 1 := Array.size_push _
  have hq : ∀ q : Nat, q < H.size → (H.push cell)[q]? = H[q]? := fun q hq => by rw [Array.getElem?_push, if_neg (Nat.ne_of_lt hq)]
  refine ⟨?_, ⟨fun b d hd => ?_, by rw [hz]; omega, fun q hq' => by rw [hq q (by omega)]; exact h3 q hq', h4, ?_, ?_⟩, ht⟩
  · cases hd : G.1 H.size with
    | none => rfl
    | some d => exact absurd (h1 _ _ hd).lt (Nat.lt_irrefl _)
  · by_cases e : b = H.size
    · subst e; rw [gNew_self] at hd; cases hd; exact hat
    · rw [gNew_ne e] at hd; exact (h1 b d hd).kept (hq b (h1 b d hd).lt)
  · rw [hz]; show H.size + 1 + (G.2.1 - 1) ≤ _; omega
  · rw [ht]; show gtot (gB E) H + n + (G.2.2 - n) ≤ _; omega
def gSame (ref : String) (d : String × String × String × Bool) : Prop := ref = d.1 ∨ Cond.sameField ref d.1 d.2.1 d.2.2.1 ∈ lw_all
theorem gSame.use {ref : String} {d : String × String × String × Bool} {s : State} {args : Array Value} (h : gSame ref d) (ht : ∀ w ∈ lw_all, w.before args s = true) : ∀ x, s.fieldFound? d.1 d.2.1 d.2.2.1 = some x → s.fieldFound? ref d.2.1 d.2.2.1 = some x := by
  intro x hx
  rcases h with h | h
  · rw [h]; exact hx
  · exact u_same (ht _ h) x hx
section HROWS
variable {C : gCx} {own : String} {cc : ByteArray} {hh : List (Nat × Nat × Nat × Nat)} {rt : Option FieldType} {nm : String} {nL F L : Nat} {G : gS} {pc : Nat} {lv : List (Nat × gV)} {st : List gV}
theorem g_get0 (hC : gOk C own cc hh rt nm nL F L) {R : String} {T : u_T} {N ci : Nat} (hin : ∀ w ∈ u_ws R T N, w ∈ lw_all) (hc : gCl[ci]? = some (R, T, N)) (j : Nat) (hj : j < N) {ref : String} {index : Nat} (hlink : Cond.fieldLink own index ref (T j).2.1 (T j).2.2.1 ∈ lw_all) (hsame : gSame ref (T j)) {a : Nat} {w : Bool} {fs : List Value} {v : gV} (ha : G.1 a = some (gO w ci fs)) (hv : fs[j]? = some (gv2 v)) (hd : decode cc pc = .ok (.getfield index, 3)) (k : gGo C G (pc + 3) lv (v :: st)) : gGo C G pc lv (vQ (some a) :: st) := by
  obtain ⟨p, l, e, R, s, m, args, below, meth, c, E, Kv, X⟩ := C
  obtain ⟨hx, hb, ho, ht, hKn, -⟩ := hC
  intro H locs ls h1 h2 h3 h4 h5
  obtain ⟨-, cell, r, e1, e2, e3, e4, e5, e6, e7⟩ := h1.1 a _ ha
  cases hc.symm.trans e2
  obtain ⟨-, hu⟩ := hKn.1 ci _ hc
  obtain ⟨hS, hfc, kC, hkC, hkind⟩ := hu (by show 0 < N; omega)
  obtain ⟨cf, kf, fi, f, hi, hsl⟩ := hS j hj
  refine W.getf hx hb ho (ht _ hlink) (hsame.use ht _ hi) (u_facts hfc hkC (u_lays ht hin hj) hi).1 e1 e5 (v := gv2 v) ?_ rfl rfl hd (k H locs ls h1 h2 h3 h4 h5)
  rw [hsl, e7 j hj]
  simp [vp_V, hv]
theorem g_getI (hC : gOk C own cc hh rt nm nL F L) {R : String} {T : u_T} {N ci : Nat} (hin : ∀ w ∈ u_ws R T N, w ∈ lw_all) (hc : gCl[ci]? = some (R, T, N)) (j : Nat) (hj : j < N) {ref : String} {index : Nat} (hlink : Cond.fieldLink own index ref (T j).2.1 (T j).2.2.1 ∈ lw_all) (hsame : gSame ref (T j)) {a : Nat} {K : Int32 → Prop} (h : wGetI G a ci j K) (hd : decode cc pc = .ok (.getfield index, 3)) (k : ∀ x, K x → gGo C G (pc + 3) lv (vI x :: st)) : gGo C G pc lv (vQ (some a) :: st) := by
  obtain ⟨w, fs, x, ha, hv, h⟩ := h
  exact g_get0 hC hin hc j hj hlink hsame (v := vI x) ha hv hd (k x h)
theorem g_getQ (hC : gOk C own cc hh rt nm nL F L) {R : String} {T : u_T} {N ci : Nat} (hin : ∀ w ∈ u_ws R T N, w ∈ lw_all) (hc : gCl[ci]? = some (R, T, N)) (j : Nat) (hj : j < N) {ref : String} {index : Nat} (hlink : Cond.fieldLink own index ref (T j).2.1 (T j).2.2.1 ∈ lw_all) (hsame : gSame ref (T j)) {a : Nat} {K : Option Nat → Prop} (h : wGetQ G a ci j K) (hd : decode cc pc = .ok (.getfield index, 3)) (k : ∀ x, K x → gGo C G (pc + 3) lv (vQ x :: st)) : gGo C G pc lv (vQ (some a) :: st) := by
  obtain ⟨w, fs, x, ha, hv, h⟩ := h
  exact g_get0 hC hin hc j hj hlink hsame (v := vQ x) ha hv hd (k x h)
theorem g_put (hC : gOk C own cc hh rt nm nL F L) {R : String} {T : u_T} {N ci : Nat} (hin : ∀ w ∈ u_ws R T N, w ∈ lw_all) (hc : gCl[ci]? = some (R, T, N)) (j : Nat) (hj : j < N) {ref : String} {index : Nat} {ty0 : Nat → FieldType} (hty : ∀ k, k < N → parseFieldDescriptor (T k).2.2.1 = some (ty0 k)) (hnm : ∀ a, a < N → ∀ b, b < N → a ≠ b → (T a).2.1 ≠ (T b).2.1) (hlink : Cond.fieldLink own index ref (T j).2.1 (T j).2.2.1 ∈ lw_all) (hsame : gSame ref (T j)) (hfin : (T j).2.2.2 = false) {a : Nat} {v : gV} (hn : narrow (ty0 j) (gv2 v) = gv2 v) (hfit : fits (ty0 j) (gv2 v) = true) {K : gS → Prop} (h : wPut G a ci j (gv2 v) K) (hd : decode cc pc = .ok (.putfield index, 3)) (k : ∀ G', K G' → gGo C G' (pc + 3) lv st) : gGo C G pc lv (v :: vQ (some a) :: st) := by
  obtain ⟨p, l, e, R, s, m, args, below, meth, c, E, Kv, X⟩ := C
  obtain ⟨hx, hb, ho, ht, hKn, -, -, -, hmn, -⟩ := hC
  obtain ⟨fs, ha, hjl, h⟩ := h
  intro H locs ls h1 h2 h3 h4 h5
  obtain ⟨-, cell, r, e1, e2, e3, e4, e5, e6, e7⟩ := h1.1 a _ ha
  cases hc.symm.trans e2
  obtain ⟨-, hu⟩ := hKn.1 ci _ hc
  obtain ⟨hS, hfc, kC, hkC, hkind⟩ := hu (by show 0 < N; omega)
  obtain ⟨cf, kf, fi, f, hi, hsl⟩ := hS j hj
  have hap : ∀ x y, x < N → y < N → x ≠ y → (gD E).2 ci x ≠ (gD E).2 ci y := by
    intro x y hx9 hy9 hne
    obtain ⟨_, _, _, fa, hia, ea⟩ := hS x hx9
    obtain ⟨_, _, _, fb, hib, eb⟩ := hS y hy9
    rw [← ea, ← eb]
    refine u_apart (u_lays ht hin hx9) (u_lays ht hin hy9) hia hib ?_
    rw [(State.fieldFound?_type hia (hty x hx9)).1, (State.fieldFound?_type hib (hty y hy9)).1]
    exact hnm x hx9 y hy9 hne
  have hlay := ht _ (hin _ (u_in_lay hj))
  unfold u_lay at hlay
  have hst := (u_facts hfc hkC (u_lays ht hin hj) hi).1
  have e6c := e6 rfl
  have e6' := e6c.1
  rw [if_neg (by rw [hfin]; decide)] at hlay
  have h6 := u_store hfc hkC hkind hlay hi (hty j hj) hn hfit
  refine W.putK hx hb (f := f) ⟨ho, (ht _ hlink), ⟨_, _, _, hsame.use ht _ hi⟩, hst⟩ (by rw [e3]; exact h6) e1 e6' (by rw [hsl]; exact k2_hasslot (e7 j hj)) rfl rfl hd fun H' z1 z2 z3 => ?_
  rw [hsl] at z1 ⊢
  have hba : gB E ≤ a := (h1.1 a _ ha).1 rfl
  have hat : gat E a (gO true ci (fs.set j (gv2 v))) H' := by
    refine ⟨fun _ => hba, _, _, z1, hc, e3, e4, e5, fun _ => e6c, fun k9 hk9 => ?_⟩
    have q := t_set e7 hap hj (gv2 v) k9 hk9
    rw [vp_updV_set hjl] at q
    exact q
  obtain ⟨g1, g2⟩ := gAR_set h1 e1 hba z1 (by simp [Cell.setSlot]) z2 z3 hat
  have hgo := k _ h H' (locs ++ [⟨a, (gD E).2 ci j⟩]) ls g1 (by rw [z2]; exact h2) (by rw [g2]; exact h3) (fun z hz => by
    rcases List.mem_append.mp hz with q | q
    · exact h4 z q
    · rw [List.mem_singleton.mp q]; exact hba) h5
  rw [g2, z2] at hgo
  exact hgo
theorem g_putF (hC : gOk C own cc hh rt nm nL F L) {R : String} {T : u_T} {N ci : Nat} (hin : ∀ w ∈ u_ws R T N, w ∈ lw_all) (hc : gCl[ci]? = some (R, T, N)) (j : Nat) (hj : j < N) {ref : String} {index : Nat} {ty0 : Nat → FieldType} (hty : ∀ k, k < N → parseFieldDescriptor (T k).2.2.1 = some (ty0 k)) (hnm : ∀ a, a < N → ∀ b, b < N → a ≠ b → (T a).2.1 ≠ (T b).2.1) (hlink : Cond.fieldLink own index ref (T j).2.1 (T j).2.2.1 ∈ lw_all) (hsame : gSame ref (T j)) (hfin : (T j).2.2.2 = true) (hnm2 : nm = "<init>") (hdecl : (T j).1 = own) {a : Nat} {v : gV} (hn : narrow (ty0 j) (gv2 v) = gv2 v) (hfit : fits (ty0 j) (gv2 v) = true) {K : gS → Prop} (h : wPut G a ci j (gv2 v) K) (hd : decode cc pc = .ok (.putfield index, 3)) (k : ∀ G', K G' → gGo C G' (pc + 3) lv st) : gGo C G pc lv (v :: vQ (some a) :: st) := by
  obtain ⟨p, l, e, R, s, m, args, below, meth, c, E, Kv, X⟩ := C
  obtain ⟨hx, hb, ho, ht, hKn, -, -, -, hmn, -⟩ := hC
  obtain ⟨fs, ha, hjl, h⟩ := h
  intro H locs ls h1 h2 h3 h4 h5
  obtain ⟨-, cell, r, e1, e2, e3, e4, e5, e6, e7⟩ := h1.1 a _ ha
  cases hc.symm.trans e2
  obtain ⟨-, hu⟩ := hKn.1 ci _ hc
  obtain ⟨hS, hfc, kC, hkC, hkind⟩ := hu (by show 0 < N; omega)
  obtain ⟨cf, kf, fi, f, hi, hsl⟩ := hS j hj
  have hap : ∀ x y, x < N → y < N → x ≠ y → (gD E).2 ci x ≠ (gD E).2 ci y := by
    intro x y hx9 hy9 hne
    obtain ⟨_, _, _, fa, hia, ea⟩ := hS x hx9
    obtain ⟨_, _, _, fb, hib, eb⟩ := hS y hy9
    rw [← ea, ← eb]
    refine u_apart (u_lays ht hin hx9) (u_lays ht hin hy9) hia hib ?_
    rw [(State.fieldFound?_type hia (hty x hx9)).1, (State.fieldFound?_type hib (hty y hy9)).1]
    exact hnm x hx9 y hy9 hne
  have hlay := ht _ (hin _ (u_in_lay hj))
  unfold u_lay at hlay
  have hst := (u_facts hfc hkC (u_lays ht hin hj) hi).1
  have e6c := e6 rfl
  have e6' := e6c.1
  rw [if_pos hfin] at hlay
  have hcf : m.cls = cf := by
    obtain ⟨_, _, c', _, _, _, -, -, hf', -, -, -, hown2, -⟩ := Cond.laysFinal_spec hlay
    have e1 : c' = cf := by have := hi.symm.trans hf'; simp at this; exact this.1.symm
    rw [hdecl] at hown2
    rw [← e1]; exact Option.some.inj (ho.symm.trans hown2)
  have h6 := u_fits hfc hkC hkind (Or.inr hlay) hi (hty j hj) hn hfit
  refine W.putFinK hx hb ho (ht _ hlink) (hsame.use ht _ hi) hst hcf (hmn.trans hnm2) (by rw [e3]; exact h6) e1 e6' (by rw [hsl]; exact k2_hasslot (e7 j hj)) rfl rfl hd fun H' z1 z2 z3 => ?_
  rw [hsl] at z1 ⊢
  have hba : gB E ≤ a := (h1.1 a _ ha).1 rfl
  have hat : gat E a (gO true ci (fs.set j (gv2 v))) H' := by
    refine ⟨fun _ => hba, _, _, z1, hc, e3, e4, e5, fun _ => e6c, fun k9 hk9 => ?_⟩
    have q := t_set e7 hap hj (gv2 v) k9 hk9
    rw [vp_updV_set hjl] at q
    exact q
  obtain ⟨g1, g2⟩ := gAR_set h1 e1 hba z1 (by simp [Cell.setSlot]) z2 z3 hat
  have hgo := k _ h H' (locs ++ [⟨a, (gD E).2 ci j⟩]) ls g1 (by rw [z2]; exact h2) (by rw [g2]; exact h3) (fun z hz => by
    rcases List.mem_append.mp hz with q | q
    · exact h4 z q
    · rw [List.mem_singleton.mp q]; exact hba) h5
  rw [g2, z2] at hgo
  exact hgo
theorem g_get0N (hC : gOk C own cc hh rt nm nL F L) {R : String} {T : u_T} {N ci : Nat} (hin : ∀ w ∈ u_ws R T N, w ∈ lw_all) (hc : gCl[ci]? = some (R, T, N)) (j : Nat) (hj : j < N) {ref : String} {index : Nat} {host : String} (hlink : (own, index, ref, (T j).2.1, (T j).2.2.1, host) ∈ gNwF) (hsame : gSame ref (T j)) {a : Nat} {w : Bool} {fs : List Value} {v : gV} (ha : G.1 a = some (gO w ci fs)) (hv : fs[j]? = some (gv2 v)) (hd : decode cc pc = .ok (.getfield index, 3)) (k : gGo C G (pc + 3) lv (v :: st)) : gGo C G pc lv (vQ (some a) :: st) := by
  obtain ⟨p, l, e, R, s, m, args, below, meth, c, E, Kv, X⟩ := C
  obtain ⟨hx, hb, ho, ht, hKn, -⟩ := hC
  intro H locs ls h1 h2 h3 h4 h5
  obtain ⟨-, cell, r, e1, e2, e3, e4, e5, e6, e7⟩ := h1.1 a _ ha
  cases hc.symm.trans e2
  obtain ⟨-, hu⟩ := hKn.1 ci _ hc
  obtain ⟨hS, hfc, kC, hkC, hkind⟩ := hu (by show 0 < N; omega)
  obtain ⟨cf, kf, fi, f, hi, hsl⟩ := hS j hj
  refine va_Wgetf hx hb ho (va_Nw.use (A := args) rfl (hKn.2.2.2.1 _ hlink)) (hsame.use ht _ hi) (u_facts hfc hkC (u_lays ht hin hj) hi).1 e1 e5 (v := gv2 v) ?_ rfl rfl hd (k H locs ls h1 h2 h3 h4 h5)
  rw [hsl, e7 j hj]
  simp [vp_V, hv]
theorem g_getIN (hC : gOk C own cc hh rt nm nL F L) {R : String} {T : u_T} {N ci : Nat} (hin : ∀ w ∈ u_ws R T N, w ∈ lw_all) (hc : gCl[ci]? = some (R, T, N)) (j : Nat) (hj : j < N) {ref : String} {index : Nat} {host : String} (hlink : (own, index, ref, (T j).2.1, (T j).2.2.1, host) ∈ gNwF) (hsame : gSame ref (T j)) {a : Nat} {K : Int32 → Prop} (h : wGetI G a ci j K) (hd : decode cc pc = .ok (.getfield index, 3)) (k : ∀ x, K x → gGo C G (pc + 3) lv (vI x :: st)) : gGo C G pc lv (vQ (some a) :: st) := by
  obtain ⟨w, fs, x, ha, hv, h⟩ := h
  exact g_get0N hC hin hc j hj hlink hsame (v := vI x) ha hv hd (k x h)
theorem g_getQN (hC : gOk C own cc hh rt nm nL F L) {R : String} {T : u_T} {N ci : Nat} (hin : ∀ w ∈ u_ws R T N, w ∈ lw_all) (hc : gCl[ci]? = some (R, T, N)) (j : Nat) (hj : j < N) {ref : String} {index : Nat} {host : String} (hlink : (own, index, ref, (T j).2.1, (T j).2.2.1, host) ∈ gNwF) (hsame : gSame ref (T j)) {a : Nat} {K : Option Nat → Prop} (h : wGetQ G a ci j K) (hd : decode cc pc = .ok (.getfield index, 3)) (k : ∀ x, K x → gGo C G (pc + 3) lv (vQ x :: st)) : gGo C G pc lv (vQ (some a) :: st) := by
  obtain ⟨w, fs, x, ha, hv, h⟩ := h
  exact g_get0N hC hin hc j hj hlink hsame (v := vQ x) ha hv hd (k x h)
theorem g_putN (hC : gOk C own cc hh rt nm nL F L) {R : String} {T : u_T} {N ci : Nat} (hin : ∀ w ∈ u_ws R T N, w ∈ lw_all) (hc : gCl[ci]? = some (R, T, N)) (j : Nat) (hj : j < N) {ref : String} {index : Nat} {ty0 : Nat → FieldType} (hty : ∀ k, k < N → parseFieldDescriptor (T k).2.2.1 = some (ty0 k)) (hnm : ∀ a, a < N → ∀ b, b < N → a ≠ b → (T a).2.1 ≠ (T b).2.1) {host : String} (hlink : (own, index, ref, (T j).2.1, (T j).2.2.1, host) ∈ gNwF) (hsame : gSame ref (T j)) (hfin : (T j).2.2.2 = false) {a : Nat} {v : gV} (hn : narrow (ty0 j) (gv2 v) = gv2 v) (hfit : fits (ty0 j) (gv2 v) = true) {K : gS → Prop} (h : wPut G a ci j (gv2 v) K) (hd : decode cc pc = .ok (.putfield index, 3)) (k : ∀ G', K G' → gGo C G' (pc + 3) lv st) : gGo C G pc lv (v :: vQ (some a) :: st) := by
  obtain ⟨p, l, e, R, s, m, args, below, meth, c, E, Kv, X⟩ := C
  obtain ⟨hx, hb, ho, ht, hKn, -, -, -, hmn, -⟩ := hC
  obtain ⟨fs, ha, hjl, h⟩ := h
  intro H locs ls h1 h2 h3 h4 h5
  obtain ⟨-, cell, r, e1, e2, e3, e4, e5, e6, e7⟩ := h1.1 a _ ha
  cases hc.symm.trans e2
  obtain ⟨-, hu⟩ := hKn.1 ci _ hc
  obtain ⟨hS, hfc, kC, hkC, hkind⟩ := hu (by show 0 < N; omega)
  obtain ⟨cf, kf, fi, f, hi, hsl⟩ := hS j hj
  have hap : ∀ x y, x < N → y < N → x ≠ y → (gD E).2 ci x ≠ (gD E).2 ci y := by
    intro x y hx9 hy9 hne
    obtain ⟨_, _, _, fa, hia, ea⟩ := hS x hx9
    obtain ⟨_, _, _, fb, hib, eb⟩ := hS y hy9
    rw [← ea, ← eb]
    refine u_apart (u_lays ht hin hx9) (u_lays ht hin hy9) hia hib ?_
    rw [(State.fieldFound?_type hia (hty x hx9)).1, (State.fieldFound?_type hib (hty y hy9)).1]
    exact hnm x hx9 y hy9 hne
  have hlay := ht _ (hin _ (u_in_lay hj))
  unfold u_lay at hlay
  have hst := (u_facts hfc hkC (u_lays ht hin hj) hi).1
  have e6c := e6 rfl
  have e6' := e6c.1
  rw [if_neg (by rw [hfin]; decide)] at hlay
  have h6 := u_store hfc hkC hkind hlay hi (hty j hj) hn hfit
  refine va_WputK hx hb ho (va_Nw.use (A := args) rfl (hKn.2.2.2.1 _ hlink)) (hsame.use ht _ hi) hst (by rw [e3]; exact h6) e1 e6' (by rw [hsl]; exact k2_hasslot (e7 j hj)) rfl rfl hd fun H' z1 z2 z3 => ?_
  rw [hsl] at z1 ⊢
  have hba : gB E ≤ a := (h1.1 a _ ha).1 rfl
  have hat : gat E a (gO true ci (fs.set j (gv2 v))) H' := by
    refine ⟨fun _ => hba, _, _, z1, hc, e3, e4, e5, fun _ => e6c, fun k9 hk9 => ?_⟩
    have q := t_set e7 hap hj (gv2 v) k9 hk9
    rw [vp_updV_set hjl] at q
    exact q
  obtain ⟨g1, g2⟩ := gAR_set h1 e1 hba z1 (by simp [Cell.setSlot]) z2 z3 hat
  have hgo := k _ h H' (locs ++ [⟨a, (gD E).2 ci j⟩]) ls g1 (by rw [z2]; exact h2) (by rw [g2]; exact h3) (fun z hz => by
    rcases List.mem_append.mp hz with q | q
    · exact h4 z q
    · rw [List.mem_singleton.mp q]; exact hba) h5
  rw [g2, z2] at hgo
  exact hgo
theorem g_aldI (hC : gOk C own cc hh rt nm nL F L) {a : Nat} {i : Int32} {K : Int32 → Prop} (h : wAldI G a i K) (hd : decode cc pc = .ok (.iaload, 1)) (k : ∀ x, K x → gGo C G (pc + 1) lv (vI x :: st)) : gGo C G pc lv (vI i :: vQ (some a) :: st) := by
  obtain ⟨p, l, e, R, s, m, args, below, meth, c, E, Kv, X⟩ := C
  obtain ⟨hx, hb, ho, ht, hKn, -⟩ := hC
  obtain ⟨w, n, f, ha, hin, h⟩ := h
  intro H locs ls h1 h2 h3 h4 h5
  obtain ⟨-, cell, e1, e2, e3, e4, e5, e6, e7, e8⟩ := h1.1 a _ ha
  obtain ⟨hT, -⟩ := hKn.2.1 0 _ rfl
  have hlt : i.toNatClampNeg < n := Nat.not_le.mp fun q => hin (Or.inr q)
  have e5' : n ≤ cell.slots.size := e5
  exact W.iald hx hb e1 (gArr_of hT e2 e3) e4 (fun q => q.elim (fun z => hin (Or.inl z)) (fun z => by omega)) (e7 _ hlt) rfl rfl hd (k _ h H locs ls h1 h2 h3 h4 h5)
theorem g_aldB (hC : gOk C own cc hh rt nm nL F L) {a : Nat} {i : Int32} {K : Int32 → Prop} (h : wAldB G a i K) (hd : decode cc pc = .ok (.baload, 1)) (k : ∀ x, K x → gGo C G (pc + 1) lv (vI x :: st)) : gGo C G pc lv (vI i :: vQ (some a) :: st) := by
  obtain ⟨p, l, e, R, s, m, args, below, meth, c, E, Kv, X⟩ := C
  obtain ⟨hx, hb, ho, ht, hKn, -⟩ := hC
  obtain ⟨w, n, f, ha, hin, h⟩ := h
  intro H locs ls h1 h2 h3 h4 h5
  obtain ⟨-, cell, e1, e2, e3, e4, e5, e6, e7, e8⟩ := h1.1 a _ ha
  obtain ⟨hT, -⟩ := hKn.2.1 1 _ rfl
  have hlt : i.toNatClampNeg < n := Nat.not_le.mp fun q => hin (Or.inr q)
  have e5' : n ≤ cell.slots.size := e5
  exact W.bald hx hb e1 (gArr_of hT e2 e3) e4 (fun q => q.elim (fun z => hin (Or.inl z)) (fun z => by omega)) (e7 _ hlt) rfl rfl hd (k _ h H locs ls h1 h2 h3 h4 h5)
theorem g_aldL (hC : gOk C own cc hh rt nm nL F L) {a : Nat} {i : Int32} {K : Int64 → Prop} (h : wAldL G a i K) (hd : decode cc pc = .ok (.laload, 1)) (k : ∀ x, K x → gGo C G (pc + 1) lv (vL x :: st)) : gGo C G pc lv (vI i :: vQ (some a) :: st) := by
  obtain ⟨p, l, e, R, s, m, args, below, meth, c, E, Kv, X⟩ := C
  obtain ⟨hx, hb, ho, ht, hKn, -⟩ := hC
  obtain ⟨w, n, f, ha, hin, h⟩ := h
  intro H locs ls h1 h2 h3 h4 h5
  obtain ⟨-, cell, e1, e2, e3, e4, e5, e6, e7, e8⟩ := h1.1 a _ ha
  obtain ⟨hT, -⟩ := hKn.2.1 3 _ rfl
  have hlt : i.toNatClampNeg < n := Nat.not_le.mp fun q => hin (Or.inr q)
  have e5' : n ≤ cell.slots.size := e5
  exact W.lald hx hb e1 (gArr_of hT e2 e3) e4 (fun q => q.elim (fun z => hin (Or.inl z)) (fun z => by omega)) (e7 _ hlt) rfl rfl hd (k _ h H locs ls h1 h2 h3 h4 h5)
theorem g_aldD (hC : gOk C own cc hh rt nm nL F L) {a : Nat} {i : Int32} {K : UInt64 → Prop} (h : wAldD G a i K) (hd : decode cc pc = .ok (.daload, 1)) (k : ∀ x, K x → gGo C G (pc + 1) lv (vD x :: st)) : gGo C G pc lv (vI i :: vQ (some a) :: st) := by
  obtain ⟨p, l, e, R, s, m, args, below, meth, c, E, Kv, X⟩ := C
  obtain ⟨hx, hb, ho, ht, hKn, -⟩ := hC
  obtain ⟨w, n, f, ha, hin, h⟩ := h
  intro H locs ls h1 h2 h3 h4 h5
  obtain ⟨-, cell, e1, e2, e3, e4, e5, e6, e7, e8⟩ := h1.1 a _ ha
  obtain ⟨hT, -⟩ := hKn.2.1 4 _ rfl
  have hlt : i.toNatClampNeg < n := Nat.not_le.mp fun q => hin (Or.inr q)
  have e5' : n ≤ cell.slots.size := e5
  exact W.dald hx hb e1 (gArr_of hT e2 e3) e4 (fun q => q.elim (fun z => hin (Or.inl z)) (fun z => by omega)) (e7 _ hlt) rfl rfl hd (k _ h H locs ls h1 h2 h3 h4 h5)
theorem g_aldQ (hC : gOk C own cc hh rt nm nL F L) {a : Nat} {i : Int32} {K : Option Nat → Prop} (h : wAldQ G a i K) (hd : decode cc pc = .ok (.aaload, 1)) (k : ∀ x, K x → gGo C G (pc + 1) lv (vQ x :: st)) : gGo C G pc lv (vI i :: vQ (some a) :: st) := by
  obtain ⟨p, l, e, R, s, m, args, below, meth, c, E, Kv, X⟩ := C
  obtain ⟨hx, hb, ho, ht, hKn, -⟩ := hC
  obtain ⟨w, n, f, ha, hin, h⟩ := h
  intro H locs ls h1 h2 h3 h4 h5
  obtain ⟨-, cell, e1, e2, e3, e4, e5, e6, e7, e8⟩ := h1.1 a _ ha
  obtain ⟨hT, -⟩ := hKn.2.1 2 _ rfl
  have hlt : i.toNatClampNeg < n := Nat.not_le.mp fun q => hin (Or.inr q)
  have e5' : n ≤ cell.slots.size := e5
  exact W.aald (ty := .object "java/lang/Object") hx hb e1 (gArr_of hT e2 e3) rfl e4 (fun q => q.elim (fun z => hin (Or.inl z)) (fun z => by omega)) (e7 _ hlt) rfl rfl hd (k _ h H locs ls h1 h2 h3 h4 h5)
theorem g_len (hC : gOk C own cc hh rt nm nL F L) {a : Nat} {K : Int32 → Prop} (h : wLen G a K) (hd : decode cc pc = .ok (.arraylength, 1)) (k : ∀ x, K x → gGo C G (pc + 1) lv (vI x :: st)) : gGo C G pc lv (vQ (some a) :: st) := by
  obtain ⟨p, l, e, R, s, m, args, below, meth, c, E, Kv, X⟩ := C
  obtain ⟨hx, hb, ho, ht, hKn, -⟩ := hC
  obtain ⟨w, k0, x, hk5, ha, h⟩ := h
  intro H locs ls h1 h2 h3 h4 h5
  obtain ⟨-, cell, e1, e2, e3, e4, e5, e6, e7, e8⟩ := h1.1 a _ ha
  obtain ⟨ty, hty⟩ : ∃ ty, gTy[k0]? = some ty := by
    have : k0 < gTy.length := hk5
    exact ⟨gTy[k0], List.getElem?_eq_getElem this⟩
  obtain ⟨hT, -⟩ := hKn.2.1 k0 _ hty
  exact W.alen hx hb e1 (gArr_of hT e2 e3) e6 rfl rfl hd (k _ h H locs ls h1 h2 h3 h4 h5)
theorem g_astI (hC : gOk C own cc hh rt nm nL F L) {a : Nat} {i : Int32} {x : Int32} {K : gS → Prop} (h : wAstI G a i x K) (hd : decode cc pc = .ok (.iastore, 1)) (k : ∀ G', K G' → gGo C G' (pc + 1) lv st) : gGo C G pc lv (vI x :: vI i :: vQ (some a) :: st) := by
  obtain ⟨p, l, e, R, s, m, args, below, meth, c, E, Kv, X⟩ := C
  obtain ⟨hx, hb, ho, ht, hKn, -⟩ := hC
  obtain ⟨n, f, ha, hin, h⟩ := h
  intro H locs ls h1 h2 h3 h4 h5
  obtain ⟨hw, cell, e1, e2, e3, e4, e5, e6, e7, e8⟩ := h1.1 a _ ha
  obtain ⟨hT, -⟩ := hKn.2.1 0 _ rfl
  have hba : gB E ≤ a := hw rfl
  have hlt : i.toNatClampNeg < n := Nat.not_le.mp fun q => hin (Or.inr q)
  have e8' := e8 rfl
  have e5' : n ≤ cell.slots.size := e5
  refine W.iast hx hb e1 (gArr_of hT e2 e3) e4 (fun q => q.elim (fun z => hin (Or.inl z)) (fun z => by omega)) rfl rfl hd fun H' z1 z2 z3 => ?_
  have hce : cell.setSlot i.toNatClampNeg (.int x) = arrV (gT E 0) n (gval (n, .inl (upd f i.toNatClampNeg x))) := by
    rw [e8', arrV_store]
    congr 1
    funext q
    by_cases hq : q = i.toNatClampNeg
    · subst hq; simp [updV, gval, upd]
    · simp [updV, gval, upd, hq]
  have z1' : H'[a]? = some (arrV (gT E 0) n (gval (n, .inl (upd f i.toNatClampNeg x)))) := by rw [← hce]; exact z1
  have hsz : (arrV (gT E 0) n (gval (n, .inl (upd f i.toNatClampNeg x)))).slots.size = cell.slots.size := by rw [e8', arrV_size, arrV_size]
  have hat : gat E a (true, .inl (0, (n, .inl (upd f i.toNatClampNeg x)))) H' := by
    refine ⟨fun _ => hba, _, z1', rfl, (fun z q => by cases q), (fun q => by cases q), ?_, ?_, fun j hj => arrV_read _ _ hj, fun _ => rfl⟩
    · rw [arrV_size]; exact Nat.le_refl _
    · rw [arrV_size] <;> rfl
  obtain ⟨g1, g2⟩ := gAR_set h1 e1 hba z1' hsz z2 z3 hat
  have hgo := k _ h H' (locs ++ [⟨a, i.toNatClampNeg⟩]) ls g1 (by rw [z2]; exact h2) (by rw [g2]; exact h3) (fun z hz => by
    rcases List.mem_append.mp hz with q | q
    · exact h4 z q
    · rw [List.mem_singleton.mp q]; exact hba) h5
  rw [g2, z2] at hgo
  exact hgo
theorem g_astB (hC : gOk C own cc hh rt nm nL F L) {a : Nat} {i : Int32} {x : Int32} {K : gS → Prop} (h : wAstB G a i x K) (hd : decode cc pc = .ok (.bastore, 1)) (k : ∀ G', K G' → gGo C G' (pc + 1) lv st) : gGo C G pc lv (vI x :: vI i :: vQ (some a) :: st) := by
  obtain ⟨p, l, e, R, s, m, args, below, meth, c, E, Kv, X⟩ := C
  obtain ⟨hx, hb, ho, ht, hKn, -⟩ := hC
  obtain ⟨n, f, ha, hin, h⟩ := h
  intro H locs ls h1 h2 h3 h4 h5
  obtain ⟨hw, cell, e1, e2, e3, e4, e5, e6, e7, e8⟩ := h1.1 a _ ha
  obtain ⟨hT, -⟩ := hKn.2.1 1 _ rfl
  have hba : gB E ≤ a := hw rfl
  have hlt : i.toNatClampNeg < n := Nat.not_le.mp fun q => hin (Or.inr q)
  have e8' := e8 rfl
  have e5' : n ≤ cell.slots.size := e5
  refine W.bast hx hb e1 (gArr_of hT e2 e3) e4 (fun q => q.elim (fun z => hin (Or.inl z)) (fun z => by omega)) rfl rfl hd fun H' z1 z2 z3 => ?_
  have hce : cell.setSlot i.toNatClampNeg (.int x.toInt8.toInt32) = arrV (gT E 1) n (gval (n, .inl (upd f i.toNatClampNeg x.toInt8.toInt32))) := by
    rw [e8', arrV_store]
    congr 1
    funext q
    by_cases hq : q = i.toNatClampNeg
    · subst hq; simp [updV, gval, upd]
    · simp [updV, gval, upd, hq]
  have z1' : H'[a]? = some (arrV (gT E 1) n (gval (n, .inl (upd f i.toNatClampNeg x.toInt8.toInt32)))) := by rw [← hce]; exact z1
  have hsz : (arrV (gT E 1) n (gval (n, .inl (upd f i.toNatClampNeg x.toInt8.toInt32)))).slots.size = cell.slots.size := by rw [e8', arrV_size, arrV_size]
  have hat : gat E a (true, .inl (1, (n, .inl (upd f i.toNatClampNeg x.toInt8.toInt32)))) H' := by
    refine ⟨fun _ => hba, _, z1', rfl, (fun z q => by cases q), (fun q => by cases q), ?_, ?_, fun j hj => arrV_read _ _ hj, fun _ => rfl⟩
    · rw [arrV_size]; exact Nat.le_refl _
    · rw [arrV_size] <;> rfl
  obtain ⟨g1, g2⟩ := gAR_set h1 e1 hba z1' hsz z2 z3 hat
  have hgo := k _ h H' (locs ++ [⟨a, i.toNatClampNeg⟩]) ls g1 (by rw [z2]; exact h2) (by rw [g2]; exact h3) (fun z hz => by
    rcases List.mem_append.mp hz with q | q
    · exact h4 z q
    · rw [List.mem_singleton.mp q]; exact hba) h5
  rw [g2, z2] at hgo
  exact hgo
theorem g_astL (hC : gOk C own cc hh rt nm nL F L) {a : Nat} {i : Int32} {x : Int64} {K : gS → Prop} (h : wAstL G a i x K) (hd : decode cc pc = .ok (.lastore, 1)) (k : ∀ G', K G' → gGo C G' (pc + 1) lv st) : gGo C G pc lv (vL x :: vI i :: vQ (some a) :: st) := by
  obtain ⟨p, l, e, R, s, m, args, below, meth, c, E, Kv, X⟩ := C
  obtain ⟨hx, hb, ho, ht, hKn, -⟩ := hC
  obtain ⟨n, f, ha, hin, h⟩ := h
  intro H locs ls h1 h2 h3 h4 h5
  obtain ⟨hw, cell, e1, e2, e3, e4, e5, e6, e7, e8⟩ := h1.1 a _ ha
  obtain ⟨hT, -⟩ := hKn.2.1 3 _ rfl
  have hba : gB E ≤ a := hw rfl
  have hlt : i.toNatClampNeg < n := Nat.not_le.mp fun q => hin (Or.inr q)
  have e8' := e8 rfl
  have e5' : n ≤ cell.slots.size := e5
  refine W.last hx hb e1 (gArr_of hT e2 e3) e4 (fun q => q.elim (fun z => hin (Or.inl z)) (fun z => by omega)) rfl rfl hd fun H' z1 z2 z3 => ?_
  have hce : cell.setSlot i.toNatClampNeg (.long x) = arrV (gT E 3) n (gval (n, .inr (.inl (vp_updL f i.toNatClampNeg x)))) := by
    rw [e8', arrV_store]
    congr 1
    funext q
    by_cases hq : q = i.toNatClampNeg
    · subst hq; simp [updV, gval, vp_updL]
    · simp [updV, gval, vp_updL, hq]
  have z1' : H'[a]? = some (arrV (gT E 3) n (gval (n, .inr (.inl (vp_updL f i.toNatClampNeg x))))) := by rw [← hce]; exact z1
  have hsz : (arrV (gT E 3) n (gval (n, .inr (.inl (vp_updL f i.toNatClampNeg x))))).slots.size = cell.slots.size := by rw [e8', arrV_size, arrV_size]
  have hat : gat E a (true, .inl (3, (n, .inr (.inl (vp_updL f i.toNatClampNeg x))))) H' := by
    refine ⟨fun _ => hba, _, z1', rfl, (fun z q => by cases q), (fun q => by cases q), ?_, ?_, fun j hj => arrV_read _ _ hj, fun _ => rfl⟩
    · rw [arrV_size]; exact Nat.le_refl _
    · rw [arrV_size] <;> rfl
  obtain ⟨g1, g2⟩ := gAR_set h1 e1 hba z1' hsz z2 z3 hat
  have hgo := k _ h H' (locs ++ [⟨a, i.toNatClampNeg⟩]) ls g1 (by rw [z2]; exact h2) (by rw [g2]; exact h3) (fun z hz => by
    rcases List.mem_append.mp hz with q | q
    · exact h4 z q
    · rw [List.mem_singleton.mp q]; exact hba) h5
  rw [g2, z2] at hgo
  exact hgo
theorem g_astD (hC : gOk C own cc hh rt nm nL F L) {a : Nat} {i : Int32} {x : UInt64} {K : gS → Prop} (h : wAstD G a i x K) (hd : decode cc pc = .ok (.dastore, 1)) (k : ∀ G', K G' → gGo C G' (pc + 1) lv st) : gGo C G pc lv (vD x :: vI i :: vQ (some a) :: st) := by
  obtain ⟨p, l, e, R, s, m, args, below, meth, c, E, Kv, X⟩ := C
  obtain ⟨hx, hb, ho, ht, hKn, -⟩ := hC
  obtain ⟨n, f, ha, hin, h⟩ := h
  intro H locs ls h1 h2 h3 h4 h5
  obtain ⟨hw, cell, e1, e2, e3, e4, e5, e6, e7, e8⟩ := h1.1 a _ ha
  obtain ⟨hT, -⟩ := hKn.2.1 4 _ rfl
  have hba : gB E ≤ a := hw rfl
  have hlt : i.toNatClampNeg < n := Nat.not_le.mp fun q => hin (Or.inr q)
  have e8' := e8 rfl
  have e5' : n ≤ cell.slots.size := e5
  refine W.dast hx hb e1 (gArr_of hT e2 e3) e4 (fun q => q.elim (fun z => hin (Or.inl z)) (fun z => by omega)) rfl rfl hd fun H' z1 z2 z3 => ?_
  have hce : cell.setSlot i.toNatClampNeg (.double x) = arrV (gT E 4) n (gval (n, .inr (.inr (.inr (.inl (vf_upd f i.toNatClampNeg x)))))) := by
    rw [e8', arrV_store]
    congr 1
    funext q
    by_cases hq : q = i.toNatClampNeg
    · subst hq; simp [updV, gval, vf_upd]
    · simp [updV, gval, vf_upd, hq]
  have z1' : H'[a]? = some (arrV (gT E 4) n (gval (n, .inr (.inr (.inr (.inl (vf_upd f i.toNatClampNeg x))))))) := by rw [← hce]; exact z1
  have hsz : (arrV (gT E 4) n (gval (n, .inr (.inr (.inr (.inl (vf_upd f i.toNatClampNeg x))))))).slots.size = cell.slots.size := by rw [e8', arrV_size, arrV_size]
  have hat : gat E a (true, .inl (4, (n, .inr (.inr (.inr (.inl (vf_upd f i.toNatClampNeg x))))))) H' := by
    refine ⟨fun _ => hba, _, z1', rfl, (fun z q => by cases q), (fun q => by cases q), ?_, ?_, fun j hj => arrV_read _ _ hj, fun _ => rfl⟩
    · rw [arrV_size]; exact Nat.le_refl _
    · rw [arrV_size] <;> rfl
  obtain ⟨g1, g2⟩ := gAR_set h1 e1 hba z1' hsz z2 z3 hat
  have hgo := k _ h H' (locs ++ [⟨a, i.toNatClampNeg⟩]) ls g1 (by rw [z2]; exact h2) (by rw [g2]; exact h3) (fun z hz => by
    rcases List.mem_append.mp hz with q | q
    · exact h4 z q
    · rw [List.mem_singleton.mp q]; exact hba) h5
  rw [g2, z2] at hgo
  exact hgo
theorem gIsO.cell {E : gE} {G : gS} {H : Heap} {a : Nat} (h : gIsO G a) (hA : gAR E G H) : ∃ (cell : Cell) (ci : Nat) (r : vw_C), H[a]? = some cell ∧ gCl[ci]? = some r ∧ cell.cls = (gD E).1 ci ∧ cell.vm.isStatics = false := by
  obtain ⟨w, ci, fs, h⟩ := h
  obtain ⟨-, cell, r, e1, e2, e3, e4, -⟩ := hA.1 a _ h
  exact ⟨cell, ci, r, e1, e2, e3, e4⟩
theorem gCl_obj : ∀ (ci : Nat) (r : vw_C), gCl[ci]? = some r → (r.1, "java/lang/Object") ∈ gNwC := by
  intro ci r h
  have hl : ci < 28 := (List.getElem?_eq_some_iff.mp h).1
  have key : ∀ k, k < 28 → (gCl[k]?).map (fun r => decide ((r.1, "java/lang/Object") ∈ gNwC)) = some true := by decide +kernel
  have := key ci hl
  rw [h] at this
  simpa using this
theorem g_astQ (hC : gOk C own cc hh rt nm nL F L) {a : Nat} {i : Int32} {x : Option Nat} {K : gS → Prop} (h : wAstQ G a i x K) (hd : decode cc pc = .ok (.aastore, 1)) (k : ∀ G', K G' → gGo C G' (pc + 1) lv st) : gGo C G pc lv (vQ x :: vI i :: vQ (some a) :: st) := by
  obtain ⟨p, l, e, R, s, m, args, below, meth, c, E, Kv, X⟩ := C
  obtain ⟨hx, hb, ho, ht, hKn, -⟩ := hC
  obtain ⟨n, f, ha, hin, hok, h⟩ := h
  intro H locs ls h1 h2 h3 h4 h5
  obtain ⟨hw, cell, e1, e2, e3, e4, e5, e6, e7, e8⟩ := h1.1 a _ ha
  obtain ⟨hT, hRA⟩ := hKn.2.1 2 _ rfl
  have hba : gB E ≤ a := hw rfl
  have hlt : i.toNatClampNeg < n := Nat.not_le.mp fun q => hin (Or.inr q)
  have h0 : ¬ i < 0 := fun q => hin (Or.inl q)
  have e8' := e8 rfl
  have e5' : n ≤ cell.slots.size := e5
  have fin : ∀ H' : Heap, H'[a]? = some (cell.setSlot i.toNatClampNeg (va_rf x)) → H'.size = H.size → (∀ q, q ≠ a → H'[q]? = H[q]?) → W p l e R s m args below meth c H' (locs ++ [⟨a, i.toNatClampNeg⟩]) (H.size - s.heap.size) (gtot (gB E) H - gtot (gB E) s.heap) (gMQ E Kv X below args s) (F0 m (pc + 1) ls (st.map gv2)) := by
    intro H' z1 z2 z3
    have hce : cell.setSlot i.toNatClampNeg (va_rf x) = arrV (gT E 2) n (gval (n, .inr (.inr (.inr (.inr (va_up f i.toNatClampNeg x)))))) := by
      rw [e8', arrV_store]
      congr 1
      funext q
      by_cases hq : q = i.toNatClampNeg
      · subst hq; simp [updV, gval, va_up]
      · simp [updV, gval, va_up, hq]
    have z1' : H'[a]? = some (arrV (gT E 2) n (gval (n, .inr (.inr (.inr (.inr (va_up f i.toNatClampNeg x))))))) := by rw [← hce]; exact z1
    have hsz : (arrV (gT E 2) n (gval (n, .inr (.inr (.inr (.inr (va_up f i.toNatClampNeg x))))))).slots.size = cell.slots.size := by rw [e8', arrV_size, arrV_size]
    have hat : gat E a (gAq true n (va_up f i.toNatClampNeg x)) H' := by
      refine ⟨fun _ => hba, _, z1', rfl, (fun z q => by cases q), (fun q => by cases q), ?_, ?_, fun j hj => arrV_read _ _ hj, fun _ => rfl⟩
      · rw [arrV_size]; exact Nat.le_refl _
      · rw [arrV_size] <;> rfl
    obtain ⟨g1, g2⟩ := gAR_set h1 e1 hba z1' hsz z2 z3 hat
    have hgo := k _ h H' (locs ++ [⟨a, i.toNatClampNeg⟩]) ls g1 (by rw [z2]; exact h2) (by rw [g2]; exact h3) (fun z hz => by
      rcases List.mem_append.mp hz with q | q
      · exact h4 z q
      · rw [List.mem_singleton.mp q]; exact hba) h5
    rw [g2, z2] at hgo
    exact hgo
  cases x with
  | none => exact va_WaastN (C := "java/lang/Object") hx hb e1 (gArr_of hT e2 e3) e4 (fun q => q.elim (fun z => hin (Or.inl z)) (fun z => by omega)) rfl rfl hd fin
  | some v =>
    obtain ⟨cellV, ci, r, g1, g2, g3, g4⟩ := (hok v rfl).cell h1
    obtain ⟨kA, comp, k1, k2, k3, -⟩ := hRA
    obtain ⟨c0, t0, f1, f2, f3⟩ := Cond.castable_spec (va_Nw.use (A := args) rfl (hKn.2.2.2.2.2.1 _ (gCl_obj ci r g2)))
    obtain ⟨hfc, -⟩ := hKn.1 ci r g2
    cases hfc.symm.trans f1
    cases k3.symm.trans f2
    obtain ⟨kv, hkv, -⟩ := Vm.findClass_spec hfc
    obtain ⟨kc, hkc, -⟩ := Vm.findClass_spec k3
    exact W.aast hx hb e1 e3 e4 (by rw [e2]; exact k1) k2 rfl hkc ⟨h0, by omega⟩ g1 (fun q z => by rw [z] at g4; cases g4) (by rw [g3]; exact hkv) (by rw [g3]; exact f3) rfl rfl hd fin
theorem g_new (hC : gOk C own cc hh rt nm nL F L) {R : String} {T : u_T} {N ci : Nat} (hin : ∀ w ∈ u_ws R T N, w ∈ lw_all) (hc : gCl[ci]? = some (R, T, N)) (hN : 0 < N) {ty0 : Nat → FieldType} (hty : ∀ k, k < N → parseFieldDescriptor (T k).2.2.1 = some (ty0 k)) {index : Nat} (hcl : Cond.classLink own index R ∈ lw_all) (hins : Cond.instantiable R N ∈ lw_all) (hini : Cond.initialized R ∈ lw_all) {fs : List Value} (hfs : ∀ j, j < N → defaultValue (ty0 j) = vp_V fs j) {K : Nat → gS → Prop} (h : wNew G ci N fs K) (hd : decode cc pc = .ok (.new index, 3)) (k : ∀ a G', K a G' → gGo C G' (pc + 3) lv (vQ (some a) :: st)) : gGo C G pc lv st := by
  obtain ⟨p, l, e, R, s, m, args, below, meth, c, E, Kv, X⟩ := C
  obtain ⟨hx, hb, ho, ht, hKn, -, -, -, -, -, -, -, hR1, hR2, -⟩ := hC
  obtain ⟨hc1, hc2, h⟩ := h
  intro H locs ls h1 h2 h3 h4 h5
  have hA5 := h1.2.2.2.2.1
  have hA6 := h1.2.2.2.2.2
  refine W.newc hx hb ho (ht _ hcl) (ht _ hins) (ht _ hini) rfl hd (by omega) (by omega) fun cC kC f1 f2 f3 f4 => ?_
  obtain ⟨hfc, hu⟩ := hKn.1 ci _ hc
  cases hfc.symm.trans f1
  have hsz : ({ cls := (gD E).1 ci, slots := kC.instanceTypes.map defaultValue, vm := .none } : Cell).slots.size = N := by
    show (kC.instanceTypes.map defaultValue).size = N
    rw [Array.size_map]; exact f4
  have hborn := (u_born ty0 ht hin (hu hN) f2 (o := H.size) (H := H.push (blank ((gD E).1 ci) kC)) (by simp) hty).to hfs
  obtain ⟨cell, b1, b2, b3, b4⟩ := hborn
  have hcb : cell = blank ((gD E).1 ci) kC := Option.some.inj (b1.symm.trans Array.getElem?_push_size)
  have hat : gat E H.size (gO true ci fs) (H.push (blank ((gD E).1 ci) kC)) := ⟨fun _ => h1.2.1, cell, _, b1, hc, b2, by rw [b3]; rfl, by rw [b3]; exact (fun q => by cases q), fun _ => ⟨b3, by rw [hcb]; rfl, by rw [hcb]; rfl⟩, b4⟩
  obtain ⟨g0, g1, g2⟩ := gAR_new (cell := blank ((gD E).1 ci) kC) h1 hsz hc1 hc2 hat
  have hgo := k _ _ (h H.size g0) (H.push (blank ((gD E).1 ci) kC)) locs ls g1 (by rw [Array.size_push]; omega) (by rw [g2]; omega) h4 h5
  rw [g2, Array.size_push] at hgo
  rw [show H.size - s.heap.size + 1 = H.size + 1 - s.heap.size by omega, show gtot (gB E) H - gtot (gB E) s.heap + N = gtot (gB E) H + N - gtot (gB E) s.heap by omega]
  exact hgo
theorem g_newI (hC : gOk C own cc hh rt nm nL F L) (hac : Cond.arrayClass .int ∈ lw_all) {n : Int32} {K : Nat → gS → Prop} (h : wNewI G n K) (hd : decode cc pc = .ok (.newarray .int, 2)) (k : ∀ a G', K a G' → gGo C G' (pc + 2) lv (vQ (some a) :: st)) : gGo C G pc lv (vI n :: st) := by
  obtain ⟨p, l, e, R, s, m, args, below, meth, c, E, Kv, X⟩ := C
  obtain ⟨hx, hb, ho, ht, hKn, -, -, -, -, -, -, -, hR1, hR2, -⟩ := hC
  obtain ⟨hn, hn2, hc1, hc2, h⟩ := h
  intro H locs ls h1 h2 h3 h4 h5
  have hA5 := h1.2.2.2.2.1
  have hA6 := h1.2.2.2.2.2
  have hby : n.toNatClampNeg * componentBytes (newarray.typeOf .int) ≤ 536870912 := by
    have : componentBytes (newarray.typeOf .int) ≤ 8 := by decide
    exact Nat.le_trans (Nat.mul_le_mul hn2 this) (by decide)
  refine W.newa hx hb (atype := .int) (ht _ hac) rfl hd rfl hn hby (by omega) (by omega) fun cA kA comp f1 f2 f3 => ?_
  obtain ⟨hT, hRA⟩ := hKn.2.1 0 _ rfl
  have hRA' : s.vm.findClass ("[" ++ (newarray.typeOf .int).toString) = some (gT E 0) := hRA
  cases hRA'.symm.trans f1
  rw [arrV_new]
  have hsz : (arrV (gT E 0) n.toNatClampNeg (fun _ => defaultValue (newarray.typeOf .int))).slots.size = n.toNatClampNeg := arrV_size _ _ _
  have hat : gat E H.size (true, .inl (0, (n.toNatClampNeg, .inl (fun _ => 0)))) (H.push (arrV (gT E 0) n.toNatClampNeg (fun _ => defaultValue (newarray.typeOf .int)))) := by
    refine ⟨fun _ => h1.2.1, arrV (gT E 0) n.toNatClampNeg (fun _ => defaultValue (newarray.typeOf .int)), by simp, rfl, (fun z q => by cases q), (fun q => by cases q), ?_, ?_, fun j hj => arrV_read _ _ hj, fun _ => rfl⟩
    · rw [arrV_size]; exact Nat.le_refl _
    · rw [arrV_size] <;> rfl
  obtain ⟨g0, g1, g2⟩ := gAR_new h1 hsz hc1 hc2 hat
  have hgo := k _ _ (h H.size g0) _ locs ls g1 (by rw [Array.size_push]; omega) (by rw [g2]; omega) h4 h5
  rw [g2, Array.size_push] at hgo
  rw [show H.size - s.heap.size + 1 = H.size + 1 - s.heap.size by omega, show gtot (gB E) H - gtot (gB E) s.heap + n.toNatClampNeg = gtot (gB E) H + n.toNatClampNeg - gtot (gB E) s.heap by omega]
  exact hgo
theorem g_newB (hC : gOk C own cc hh rt nm nL F L) (hac : Cond.arrayClass .byte ∈ lw_all) {n : Int32} {K : Nat → gS → Prop} (h : wNewB G n K) (hd : decode cc pc = .ok (.newarray .byte, 2)) (k : ∀ a G', K a G' → gGo C G' (pc + 2) lv (vQ (some a) :: st)) : gGo C G pc lv (vI n :: st) := by
  obtain ⟨p, l, e, R, s, m, args, below, meth, c, E, Kv, X⟩ := C
  obtain ⟨hx, hb, ho, ht, hKn, -, -, -, -, -, -, -, hR1, hR2, -⟩ := hC
  obtain ⟨hn, hn2, hc1, hc2, h⟩ := h
  intro H locs ls h1 h2 h3 h4 h5
  have hA5 := h1.2.2.2.2.1
  have hA6 := h1.2.2.2.2.2
  have hby : n.toNatClampNeg * componentBytes (newarray.typeOf .byte) ≤ 536870912 := by
    have : componentBytes (newarray.typeOf .byte) ≤ 8 := by decide
    exact Nat.le_trans (Nat.mul_le_mul hn2 this) (by decide)
  refine W.newa hx hb (atype := .byte) (ht _ hac) rfl hd rfl hn hby (by omega) (by omega) fun cA kA comp f1 f2 f3 => ?_
  obtain ⟨hT, hRA⟩ := hKn.2.1 1 _ rfl
  have hRA' : s.vm.findClass ("[" ++ (newarray.typeOf .byte).toString) = some (gT E 1) := hRA
  cases hRA'.symm.trans f1
  rw [arrV_new]
  have hsz : (arrV (gT E 1) n.toNatClampNeg (fun _ => defaultValue (newarray.typeOf .byte))).slots.size = n.toNatClampNeg := arrV_size _ _ _
  have hat : gat E H.size (true, .inl (1, (n.toNatClampNeg, .inl (fun _ => 0)))) (H.push (arrV (gT E 1) n.toNatClampNeg (fun _ => defaultValue (newarray.typeOf .byte)))) := by
    refine ⟨fun _ => h1.2.1, arrV (gT E 1) n.toNatClampNeg (fun _ => defaultValue (newarray.typeOf .byte)), by simp, rfl, (fun z q => by cases q), (fun q => by cases q), ?_, ?_, fun j hj => arrV_read _ _ hj, fun _ => rfl⟩
    · rw [arrV_size]; exact Nat.le_refl _
    · rw [arrV_size] <;> rfl
  obtain ⟨g0, g1, g2⟩ := gAR_new h1 hsz hc1 hc2 hat
  have hgo := k _ _ (h H.size g0) _ locs ls g1 (by rw [Array.size_push]; omega) (by rw [g2]; omega) h4 h5
  rw [g2, Array.size_push] at hgo
  rw [show H.size - s.heap.size + 1 = H.size + 1 - s.heap.size by omega, show gtot (gB E) H - gtot (gB E) s.heap + n.toNatClampNeg = gtot (gB E) H + n.toNatClampNeg - gtot (gB E) s.heap by omega]
  exact hgo
theorem g_newL (hC : gOk C own cc hh rt nm nL F L) (hac : Cond.arrayClass .long ∈ lw_all) {n : Int32} {K : Nat → gS → Prop} (h : wNewL G n K) (hd : decode cc pc = .ok (.newarray .long, 2)) (k : ∀ a G', K a G' → gGo C G' (pc + 2) lv (vQ (some a) :: st)) : gGo C G pc lv (vI n :: st) := by
  obtain ⟨p, l, e, R, s, m, args, below, meth, c, E, Kv, X⟩ := C
  obtain ⟨hx, hb, ho, ht, hKn, -, -, -, -, -, -, -, hR1, hR2, -⟩ := hC
  obtain ⟨hn, hn2, hc1, hc2, h⟩ := h
  intro H locs ls h1 h2 h3 h4 h5
  have hA5 := h1.2.2.2.2.1
  have hA6 := h1.2.2.2.2.2
  have hby : n.toNatClampNeg * componentBytes (newarray.typeOf .long) ≤ 536870912 := by
    have : componentBytes (newarray.typeOf .long) ≤ 8 := by decide
    exact Nat.le_trans (Nat.mul_le_mul hn2 this) (by decide)
  refine W.newa hx hb (atype := .long) (ht _ hac) rfl hd rfl hn hby (by omega) (by omega) fun cA kA comp f1 f2 f3 => ?_
  obtain ⟨hT, hRA⟩ := hKn.2.1 3 _ rfl
  have hRA' : s.vm.findClass ("[" ++ (newarray.typeOf .long).toString) = some (gT E 3) := hRA
  cases hRA'.symm.trans f1
  rw [arrV_new]
  have hsz : (arrV (gT E 3) n.toNatClampNeg (fun _ => defaultValue (newarray.typeOf .long))).slots.size = n.toNatClampNeg := arrV_size _ _ _
  have hat : gat E H.size (true, .inl (3, (n.toNatClampNeg, .inr (.inl (fun _ => 0))))) (H.push (arrV (gT E 3) n.toNatClampNeg (fun _ => defaultValue (newarray.typeOf .long)))) := by
    refine ⟨fun _ => h1.2.1, arrV (gT E 3) n.toNatClampNeg (fun _ => defaultValue (newarray.typeOf .long)), by simp, rfl, (fun z q => by cases q), (fun q => by cases q), ?_, ?_, fun j hj => arrV_read _ _ hj, fun _ => rfl⟩
    · rw [arrV_size]; exact Nat.le_refl _
    · rw [arrV_size] <;> rfl
  obtain ⟨g0, g1, g2⟩ := gAR_new h1 hsz hc1 hc2 hat
  have hgo := k _ _ (h H.size g0) _ locs ls g1 (by rw [Array.size_push]; omega) (by rw [g2]; omega) h4 h5
  rw [g2, Array.size_push] at hgo
  rw [show H.size - s.heap.size + 1 = H.size + 1 - s.heap.size by omega, show gtot (gB E) H - gtot (gB E) s.heap + n.toNatClampNeg = gtot (gB E) H + n.toNatClampNeg - gtot (gB E) s.heap by omega]
  exact hgo
theorem g_newD (hC : gOk C own cc hh rt nm nL F L) (hac : Cond.arrayClass .double ∈ lw_all) {n : Int32} {K : Nat → gS → Prop} (h : wNewD G n K) (hd : decode cc pc = .ok (.newarray .double, 2)) (k : ∀ a G', K a G' → gGo C G' (pc + 2) lv (vQ (some a) :: st)) : gGo C G pc lv (vI n :: st) := by
  obtain ⟨p, l, e, R, s, m, args, below, meth, c, E, Kv, X⟩ := C
  obtain ⟨hx, hb, ho, ht, hKn, -, -, -, -, -, -, -, hR1, hR2, -⟩ := hC
  obtain ⟨hn, hn2, hc1, hc2, h⟩ := h
  intro H locs ls h1 h2 h3 h4 h5
  have hA5 := h1.2.2.2.2.1
  have hA6 := h1.2.2.2.2.2
  have hby : n.toNatClampNeg * componentBytes (newarray.typeOf .double) ≤ 536870912 := by
    have : componentBytes (newarray.typeOf .double) ≤ 8 := by decide
    exact Nat.le_trans (Nat.mul_le_mul hn2 this) (by decide)
  refine W.newa hx hb (atype := .double) (ht _ hac) rfl hd rfl hn hby (by omega) (by omega) fun cA kA comp f1 f2 f3 => ?_
  obtain ⟨hT, hRA⟩ := hKn.2.1 4 _ rfl
  have hRA' : s.vm.findClass ("[" ++ (newarray.typeOf .double).toString) = some (gT E 4) := hRA
  cases hRA'.symm.trans f1
  rw [arrV_new]
  have hsz : (arrV (gT E 4) n.toNatClampNeg (fun _ => defaultValue (newarray.typeOf .double))).slots.size = n.toNatClampNeg := arrV_size _ _ _
  have hat : gat E H.size (true, .inl (4, (n.toNatClampNeg, .inr (.inr (.inr (.inl (fun _ => 0))))))) (H.push (arrV (gT E 4) n.toNatClampNeg (fun _ => defaultValue (newarray.typeOf .double)))) := by
    refine ⟨fun _ => h1.2.1, arrV (gT E 4) n.toNatClampNeg (fun _ => defaultValue (newarray.typeOf .double)), by simp, rfl, (fun z q => by cases q), (fun q => by cases q), ?_, ?_, fun j hj => arrV_read _ _ hj, fun _ => rfl⟩
    · rw [arrV_size]; exact Nat.le_refl _
    · rw [arrV_size] <;> rfl
  obtain ⟨g0, g1, g2⟩ := gAR_new h1 hsz hc1 hc2 hat
  have hgo := k _ _ (h H.size g0) _ locs ls g1 (by rw [Array.size_push]; omega) (by rw [g2]; omega) h4 h5
  rw [g2, Array.size_push] at hgo
  rw [show H.size - s.heap.size + 1 = H.size + 1 - s.heap.size by omega, show gtot (gB E) H - gtot (gB E) s.heap + n.toNatClampNeg = gtot (gB E) H + n.toNatClampNeg - gtot (gB E) s.heap by omega]
  exact hgo
theorem g_newQ (hC : gOk C own cc hh rt nm nL F L) {index : Nat} (hcl : Cond.classLink own index "java/lang/Object" ∈ lw_all) {n : Int32} {K : Nat → gS → Prop} (h : wNewQ G n K) (hd : decode cc pc = .ok (.anewarray index, 3)) (k : ∀ a G', K a G' → gGo C G' (pc + 3) lv (vQ (some a) :: st)) : gGo C G pc lv (vI n :: st) := by
  obtain ⟨p, l, e, R, s, m, args, below, meth, c, E, Kv, X⟩ := C
  obtain ⟨hx, hb, ho, ht, hKn, -, -, -, -, -, -, -, hR1, hR2, -⟩ := hC
  obtain ⟨hn, hn2, hc1, hc2, h⟩ := h
  intro H locs ls h1 h2 h3 h4 h5
  have hA5 := h1.2.2.2.2.1
  have hA6 := h1.2.2.2.2.2
  refine W.anew hx hb ho (ht _ hcl) (va_AO.use hKn.2.2.1) rfl hd rfl hn (by omega) (by omega) (by omega) fun cA kA comp f1 f2 f3 f4 => ?_
  obtain ⟨hT, hRA⟩ := hKn.2.1 2 _ rfl
  obtain ⟨kA', comp', -, -, -, hRA'⟩ := hRA
  cases hRA'.symm.trans f1
  rw [arrV_new]
  have hsz : (arrV (gT E 2) n.toNatClampNeg (fun _ => .null)).slots.size = n.toNatClampNeg := arrV_size _ _ _
  have hat : gat E H.size (gAq true n.toNatClampNeg (fun _ => none)) (H.push (arrV (gT E 2) n.toNatClampNeg (fun _ => .null))) := by
    refine ⟨fun _ => h1.2.1, arrV (gT E 2) n.toNatClampNeg (fun _ => .null), by simp, rfl, (fun z q => by cases q), (fun q => by cases q), ?_, ?_, fun j hj => arrV_read _ _ hj, fun _ => rfl⟩
    · rw [arrV_size]; exact Nat.le_refl _
    · rw [arrV_size] <;> rfl
  obtain ⟨g0, g1, g2⟩ := gAR_new h1 hsz hc1 hc2 hat
  have hgo := k _ _ (h H.size g0) _ locs ls g1 (by rw [Array.size_push]; omega) (by rw [g2]; omega) h4 h5
  rw [g2, Array.size_push] at hgo
  rw [show H.size - s.heap.size + 1 = H.size + 1 - s.heap.size by omega, show gtot (gB E) H - gtot (gB E) s.heap + n.toNatClampNeg = gtot (gB E) H + n.toNatClampNeg - gtot (gB E) s.heap by omega]
  exact hgo
theorem g_stat (hC : gOk C own cc hh rt nm nL F L) {n d cl ref : String} {i index : Nat} (hm : (cl, n, d, i) ∈ gStat) (hlink : Cond.fieldLink own index ref n d ∈ lw_all) (hsame : ∀ (s : State) x, s.fieldFound? cl n d = some x → s.fieldFound? ref n d = some x) (hd : decode cc pc = .ok (.getstatic index, 3)) (k : gGo C G (pc + 3) lv (vQ (some (cxA C i)) :: st)) : gGo C G pc lv st := by
  obtain ⟨p, l, e, R, s, m, args, below, meth, c, E, Kv, X⟩ := C
  obtain ⟨hx, hb, ho, ht, hKn, -⟩ := hC
  intro H locs ls h1 h2 h3 h4 h5
  obtain ⟨cf, kf, fi, f, a, cell, e1, e2, e3, e4, e5, e6, e7, e8⟩ := hKn.2.2.2.2.2.2.2.2.2.1 _ hm
  exact W.gets hx hb ho (ht _ hlink) (hsame _ _ e1) e2 e3 e4 (by rw [h1.2.2.1 a (by omega)]; exact e5) (fun q => by rw [q] at e6; cases e6) e7 rfl hd (k H locs ls h1 h2 h3 h4 h5)
theorem g_statQ (hC : gOk C own cc hh rt nm nL F L) {n d cl ref : String} {i index : Nat} (hm : (cl, n, d, i) ∈ gStatQ) (hlink : Cond.fieldLink own index ref n d ∈ lw_all) (hsame : ∀ (s : State) x, s.fieldFound? cl n d = some x → s.fieldFound? ref n d = some x) (hd : decode cc pc = .ok (.getstatic index, 3)) (k : gGo C G (pc + 3) lv (vQ (gOp (cxA C i)) :: st)) : gGo C G pc lv st := by
  obtain ⟨p, l, e, R, s, m, args, below, meth, c, E, Kv, X⟩ := C
  obtain ⟨hx, hb, ho, ht, hKn, -⟩ := hC
  intro H locs ls h1 h2 h3 h4 h5
  obtain ⟨cf, kf, fi, f, a, cell, e1, e2, e3, e4, e5, e6, e7, e8⟩ := hKn.2.2.2.2.2.2.2.2.2.2.1 _ hm
  exact W.gets hx hb ho (ht _ hlink) (hsame _ _ e1) e2 e3 e4 (by rw [h1.2.2.1 a (by omega)]; exact e5) (fun q => by rw [q] at e6; cases e6) e7 rfl hd (k H locs ls h1 h2 h3 h4 h5)
theorem g_statI (hC : gOk C own cc hh rt nm nL F L) {n d cl ref : String} {i : Int32} {index : Nat} (hm : (cl, n, d, i) ∈ gStatI) (hlink : Cond.fieldLink own index ref n d ∈ lw_all) (hsame : ∀ (s : State) x, s.fieldFound? cl n d = some x → s.fieldFound? ref n d = some x) (hd : decode cc pc = .ok (.getstatic index, 3)) (k : gGo C G (pc + 3) lv (vI i :: st)) : gGo C G pc lv st := by
  obtain ⟨p, l, e, R, s, m, args, below, meth, c, E, Kv, X⟩ := C
  obtain ⟨hx, hb, ho, ht, hKn, -⟩ := hC
  intro H locs ls h1 h2 h3 h4 h5
  obtain ⟨cf, kf, fi, f, a, cell, e1, e2, e3, e4, e5, e6, e7, e8⟩ := hKn.2.2.2.2.2.2.2.2.2.2.2.1 _ hm
  exact W.gets hx hb ho (ht _ hlink) (hsame _ _ e1) e2 e3 e4 (by rw [h1.2.2.1 a (by omega)]; exact e5) (fun q => by rw [q] at e6; cases e6) e7 rfl hd (k H locs ls h1 h2 h3 h4 h5)
theorem g_ldcS (hC : gOk C own cc hh rt nm nL F L) {tx : String} {i index : Nat} (hm : (own, index, tx, i) ∈ gStr) (hd : decode cc pc = .ok (.ldc index, 2)) (k : gGo C G (pc + 2) lv (vQ (some (cxA C i)) :: st)) : gGo C G pc lv st := by
  obtain ⟨p, l, e, R, s, m, args, below, meth, c, E, Kv, X⟩ := C
  obtain ⟨hx, hb, ho, ht, hKn, -⟩ := hC
  intro H locs ls h1 h2 h3 h4 h5
  exact va_ldcS hx hb ho (hKn.2.2.2.2.2.2.2.2.2.2.2.2.1 _ hm) hd (k H locs ls h1 h2 h3 h4 h5)
theorem gIs.cell {E : gE} {G : gS} {H : Heap} {a ci : Nat} (h : gIs G a ci) (hA : gAR E G H) {r : vw_C} (hc : gCl[ci]? = some r) {s : State} (hKn : gKn E s) : ∃ cell : Cell, H[a]? = some cell ∧ cell.vm.isStatics = false ∧ s.vm.findClass r.1 = some cell.cls := by
  obtain ⟨w, fs, h⟩ := h
  obtain ⟨-, cell, r', e1, e2, e3, e4, -⟩ := hA.1 a _ h
  exact ⟨cell, e1, e4, by rw [e3]; exact (hKn.1 ci r hc).1⟩
/-- checkcast: null, or an object of a class of which the tables say that it's castable, or of the class itself -/
theorem g_cast (hC : gOk C own cc hh rt nm nL F L) {nmc : String} {index : Nat} (hlink : Cond.classLink own index nmc ∈ lw_all) {o : Option Nat} {cs : List Nat} {K : Prop} (h : wCast G o cs K) (hcs : ∀ ci ∈ cs, ∃ r : vw_C, gCl[ci]? = some r ∧ ((r.1, nmc) ∈ gNwC ∨ (r.1 = nmc ∧ 0 < r.2.2))) (hd : decode cc pc = .ok (.checkcast index, 3)) (k : K → gGo C G (pc + 3) lv (vQ o :: st)) : gGo C G pc lv (vQ o :: st) := by
  obtain ⟨p, l, e, R, s, m, args, below, meth, c, E, Kv, X⟩ := C
  obtain ⟨hx, hb, ho, ht, hKn, -⟩ := hC
  obtain ⟨hcs1, h⟩ := h
  intro H locs ls h1 h2 h3 h4 h5
  have hk := k h H locs ls h1 h2 h3 h4 h5
  cases o with
  | none => exact lv_castN hx hb hd hk
  | some a =>
    obtain ⟨ci, hci, his⟩ := hcs1 a rfl
    obtain ⟨r, hr, hor⟩ := hcs ci hci
    have hcell := his.cell h1 hr hKn
    rcases hor with hor | ⟨hor, hpos⟩
    · exact va_castY hx hb ho (ht _ hlink) (hKn.2.2.2.2.2.1 _ hor) hcell hd hk
    · rw [hor] at hcell
      obtain ⟨-, hu⟩ := hKn.1 ci r hr
      exact va_castS hx hb ho (ht _ hlink) (hor ▸ (hu hpos).2) hcell hd hk
/-- instanceof, of an object of a known class -/
theorem g_instS (hC : gOk C own cc hh rt nm nL F L) {index ci : Nat} {r : vw_C} (hr : gCl[ci]? = some r) (hpos : 0 < r.2.2) (hlink : Cond.classLink own index r.1 ∈ lw_all) {a : Nat} (h : gIs G a ci) (hd : decode cc pc = .ok (.instanceof index, 3)) (k : gGo C G (pc + 3) lv (vI 1 :: st)) : gGo C G pc lv (vQ (some a) :: st) := by
  obtain ⟨p, l, e, R, s, m, args, below, meth, c, E, Kv, X⟩ := C
  obtain ⟨hx, hb, ho, ht, hKn, -⟩ := hC
  intro H locs ls h1 h2 h3 h4 h5
  obtain ⟨-, hu⟩ := hKn.1 ci r hr
  exact va_instS hx hb ho (ht _ hlink) (hu hpos).2 (h.cell h1 hr hKn) hd (k H locs ls h1 h2 h3 h4 h5)
theorem g_instY (hC : gOk C own cc hh rt nm nL F L) {nmc : String} {index ci : Nat} {r : vw_C} (hr : gCl[ci]? = some r) (hcs : (r.1, nmc) ∈ gNwC) (hlink : Cond.classLink own index nmc ∈ lw_all) {a : Nat} (h : gIs G a ci) (hd : decode cc pc = .ok (.instanceof index, 3)) (k : gGo C G (pc + 3) lv (vI 1 :: st)) : gGo C G pc lv (vQ (some a) :: st) := by
  obtain ⟨p, l, e, R, s, m, args, below, meth, c, E, Kv, X⟩ := C
  obtain ⟨hx, hb, ho, ht, hKn, -⟩ := hC
  intro H locs ls h1 h2 h3 h4 h5
  exact va_instY hx hb ho (ht _ hlink) (hKn.2.2.2.2.2.1 _ hcs) (h.cell h1 hr hKn) hd (k H locs ls h1 h2 h3 h4 h5)
theorem g_instNo (hC : gOk C own cc hh rt nm nL F L) {nmc : String} {index ci : Nat} {r : vw_C} (hr : gCl[ci]? = some r) (hcs : (r.1, nmc) ∈ gNcL) (hlink : Cond.classLink own index nmc ∈ lw_all) {a : Nat} (h : gIs G a ci) (hd : decode cc pc = .ok (.instanceof index, 3)) (k : gGo C G (pc + 3) lv (vI 0 :: st)) : gGo C G pc lv (vQ (some a) :: st) := by
  obtain ⟨p, l, e, R, s, m, args, below, meth, c, E, Kv, X⟩ := C
  obtain ⟨hx, hb, ho, ht, hKn, -⟩ := hC
  intro H locs ls h1 h2 h3 h4 h5
  exact va_instNo hx hb ho (ht _ hlink) (hKn.2.2.2.2.2.2.2.1 _ hcs) (h.cell h1 hr hKn) hd (k H locs ls h1 h2 h3 h4 h5)
theorem g_instN (hC : gOk C own cc hh rt nm nL F L) {index : Nat} (hd : decode cc pc = .ok (.instanceof index, 3)) (k : gGo C G (pc + 3) lv (vI 0 :: st)) : gGo C G pc lv (vQ none :: st) := by
  obtain ⟨p, l, e, R, s, m, args, below, meth, c, E, Kv, X⟩ := C
  obtain ⟨hx, hb, ho, ht, hKn, -⟩ := hC
  intro H locs ls h1 h2 h3 h4 h5
  exact lv_instN hx hb hd (k H locs ls h1 h2 h3 h4 h5)
end HROWS
