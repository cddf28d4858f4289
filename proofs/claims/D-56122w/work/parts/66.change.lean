/-! PURE: the object's changes (printed by gen/change.py) -/
set_option maxRecDepth 20000
section AP
variable {ad : Nat → Nat} {G G' : gS} {t ci p o t3 : Nat} {P : pA} {X : Nat → gS → Prop} {a b c d : Int32}
theorem kap_in : kap o a = 110 ∨ kap o a = 111 ∨ kap o a = 117 ∨ kap o a = 118 ∨ kap o a = 119 := by
  unfold kap
  repeat' split
  all_goals simp
theorem sp_apply (hb : bs ad G) (hc : CI ad G t ci P) (hci : ci + 1 ≤ 1000) (hR : rm G 60) (hl : lR G p o a b c d) {K : Int32 → gS → Prop} (k0 : (pOp o a b c d (aF P)).1 ≠ 0 → ∀ q G', gTo (tK G) 60 600 G G' → CI ad G' t ci P → gHas G' q (xcl (kap o (pOp o a b c d (aF P)).1)) → X q G') (k1 : (pOp o a b c d (aF P)).1 = 0 → ∀ G', gTo (tK G) 60 600 G G' → CI ad G' t (ci + 1) (aPush P (pOp o a b c d (aF P)).2.2) → K (pOp o a b c d (aF P)).2.1 G') : gIs G t 1 ∧ wp_X1_apply ad G t (some p) X K := by
  refine ⟨hc.is, ?_⟩
  have hc0 := hc
  obtain ⟨h, sn, l, sb, os, h1, ⟨⟨A, h2⟩, h2i⟩, -⟩ := hc
  unfold wp_X1_apply
  refine wGetQ_of h1 (x := some h) rfl (wNN_of ⟨h2.is, sp_X2_copy h2 hb.b4 hR fun G3 h3 A3 hc3 => wNN_of (sp_change hc3 hb.b4 h2i (hR.le (by omega)) (hl.to fun c hc => hc3.old hc) (fun e q G4 ef => ?_) (fun e G4 A4 hc4 => ?_))⟩)
  · obtain ⟨t4, g4, -⟩ := ef
    have hb4 : bs ad G4 := hb.to (t4.kO fun b z => z.elim)
    have r1 := t4.2.2.1
    have r2 := t4.2.2.2
    refine ⟨⟨_, g4⟩, ?_⟩
    unfold wp_X1_apply_21
    refine sp_public hb4 kap_in g4 rfl (by have := hR.1; omega) (by have := hR.2; omega) fun q' G5 fs s5 => wNN_of ⟨gIsO_of s5.2.1, k0 e q' G5 ?_ ?_ ⟨_, s5.2.1⟩⟩
    · exact t4.trans s5.to (T2 := fun _ => False) (fun b z => z.elim) (fun b z => z.elim) (by omega) (by omega)
    · exact (hc0.gto t4 fun b z => z).gto (T := fun _ => False) s5.to fun b z => z
  · have t4 := hc4.2.2
    have hi4 := h2i.op (by omega) o a b c d e
    have r1 := t4.2.2.1
    have r2 := t4.2.2.2
    have hR1 := hR.1
    have hR2 := hR.2
    refine sp_commit (hc0.gto t4 fun b z => z) ⟨⟨A4, hc4.1⟩, hi4⟩ (by omega) hci (by omega) (by omega) fun G5 t5 c5 => k1 e G5 ?_ c5
    refine t4.trans t5 (fun b z => z.elim) (fun b z => ?_) (by omega) (by omega)
    obtain ⟨cc, fs, e, q⟩ := z
    cases hb : G.1 b with
    | none => exact Or.inl rfl
    | some d =>
      have := t4.1 b d hb fun z => z
      rw [this] at e
      cases e
      exact Or.inr ⟨cc, fs, hb, q⟩
/-- what a call may change -/
def tS (G : gS) (b : Nat) : Prop := tK G b ∨ (∃ fs, G.1 b = some (gO true 6 fs)) ∨ ∃ n g, G.1 b = some (gAb true n g)
/-- the object has answered: what it holds now; of what stood there only its own things and tx have changed -/
def XF (ad : Nat → Nat) (G : gS) (t tx ci : Nat) (P : pA) (G' : gS) : Prop := CI ad G' t ci P ∧ (∀ b e, G.1 b = some e → ¬ tS G b → b ≠ tx → G'.1 b = some e) ∧ G.2.1 ≤ G'.2.1 + 22000 ∧ G.2.2 ≤ G'.2.2 + 220000
/-- and its answer in t3 -/
def XR (ad : Nat → Nat) (G : gS) (t t3 ci : Nat) (P : pA) (code v : Int32) (G' : gS) : Prop := XF ad G t t3 ci P G' ∧ ∃ g, G'.1 t3 = some (gAl true 1 g) ∧ (code = 0 → g 0 = v.toInt64)
def xAll (ad : Nat → Nat) (G : gS) (o : Nat) (a b c d : Int32) (t : Nat) (X : Nat → gS → Prop) (K : Int32 → gS → Prop) : Prop := wMkL G (lS1 o) (lAr o a b c d) fun c2 G1 => gIs G1 t 1 ∧ wp_X1_apply ad G1 t (some c2) X (fun r4 G3 => K r4 G3)
theorem lAr_len : (lAr o a b c d).length ≤ 4 := by
  unfold lAr
  split <;> simp
theorem tK.not {q : Nat} {e : gC} (hq : G.1 q = some e) (hne : ∀ cc fs, e ≠ gO true cc fs) : ¬ tK G q := by
  rintro ⟨cc, fs, h, -⟩
  rw [hq] at h
  cases h
  exact hne _ _ rfl
theorem sp_xAll (hb : bs ad G) (hc : CI ad G t ci P) (hci : ci + 1 ≤ 1000) (hR : rm G 70) (ho : o < 12) {g0 : Nat → Int64} (h3 : G.1 t3 = some (gAl true 1 g0)) {K : Int32 → gS → Prop} (k0 : (pOp o a b c d (aF P)).1 ≠ 0 → ∀ q G', XR ad G t t3 (ci + 1) (aDo P (pOp o a b c d (aF P))) (pOp o a b c d (aF P)).1 (pOp o a b c d (aF P)).2.1 G' → gHas G' q (xcl (kap o (pOp o a b c d (aF P)).1)) → X q G') (k1 : (pOp o a b c d (aF P)).1 = 0 → ∀ G', XR ad G t t3 (ci + 1) (aDo P (pOp o a b c d (aF P))) (pOp o a b c d (aF P)).1 (pOp o a b c d (aF P)).2.1 G' → K 0 G') : xAll ad G o a b c d t X (fun r G2 => wNN (some t3) fun c6 => wAstL G2 c6 (0 : Int32) r.toInt64 fun G7 => K 0 G7) := by
  have hR1 := hR.1
  have hR2 := hR.2
  have hlen := lAr_len (o := o) (a := a) (b := b) (c := c) (d := d)
  refine ⟨by omega, by omega, fun q hq => ?_⟩
  have s1 : nC' G q (gLb (lS1 o) ((lAr o a b c d).map Value.int)) (lAr o a b c d).length (gNew G q (gLb (lS1 o) ((lAr o a b c d).map Value.int)) (lAr o a b c d).length) := nC'_new hq (by omega) (by omega)
  generalize gNew G q (gLb (lS1 o) ((lAr o a b c d).map Value.int)) (lAr o a b c d).length = G1 at s1 ⊢
  have t1 : gTo (fun _ => False) 1 (lAr o a b c d).length G G1 := s1.to
  have r1 := t1.2.2.1
  have r2 := t1.2.2.2
  have key : ∀ G', gTo (tK G1) 60 600 G1 G' → gTo (tK G) 61 604 G G' := fun G' tt => by
    refine t1.trans tt (fun b z => z.elim) (fun b z => ?_) (by omega) (by omega)
    obtain ⟨cc, fs, e, q⟩ := z
    cases hb : G.1 b with
    | none => exact Or.inl rfl
    | some d =>
      have := t1.1 b d hb fun z => z
      rw [this] at e
      cases e
      exact Or.inr ⟨cc, fs, hb, q⟩
  refine sp_apply (hb.to (t1.kO fun b z => z.elim)) (hc.gto t1 fun b z => z) hci ⟨by omega, by omega⟩ ⟨ho, Or.inl ⟨true, s1.2.1⟩⟩ (fun e q G' tt cc hh => k0 e q G' ⟨⟨?_, fun b e hb hn _ => (key G' tt).1 b e hb fun z => hn (Or.inl z), ?_, ?_⟩, g0, ?_, fun z => absurd z e⟩ hh) (fun e G' tt cc => wNN_of ?_)
  · rw [aDo, if_neg e]
    exact cc.mono (by omega) hci
  · have := (key G' tt).2.2.1; omega
  · have := (key G' tt).2.2.2; omega
  · exact (key G' tt).1 _ _ h3 (tK.not h3 fun cc fs e => by cases e)
  · have h3' := (key G' tt).1 _ _ h3 (tK.not h3 fun cc fs e => by cases e)
    refine wAstL_of h3' (vp_in_nI (n := 0) (by omega) (by omega)) (k1 e _ ⟨⟨?_, fun b e hb hn hne => ?_, ?_, ?_⟩, _, gSet_self, fun _ => ?_⟩)
    · rw [aDo, if_pos e]
      refine cc.to fun b c hb hc => ?_
      rw [gSet_ne (fun z => ?_)]
      · exact hb
      · subst z
        rw [h3'] at hb
        cases hb
        rcases hc with ⟨_, _, _, e⟩ | ⟨_, _, e⟩ | ⟨_, _, _, e⟩ | ⟨w, ci, fs, e, q⟩ <;> cases e
    · rw [gSet_ne hne]
      exact (key G' tt).1 b e hb fun z => hn (Or.inl z)
    · have := (key G' tt).2.2.1
      show G.2.1 ≤ G'.2.1 + 22000
      omega
    · have := (key G' tt).2.2.2
      show G.2.2 ≤ G'.2.2 + 220000
      omega
    · exact pk_uLs
theorem pH2 {x y : Bool} {r : Int32} (h : r = pHolds x y true true) (h0 : r ≠ 0) : r = 1 ∨ r = 2 := by
  subst h
  revert h0
  cases x <;> cases y <;> decide
theorem pH1 {x : Bool} {r : Int32} (h : r = pHolds x true true true) (h0 : r ≠ 0) : r = 1 := by
  subst h
  revert h0
  cases x <;> decide
theorem pH3 {x y z : Bool} {r : Int32} (h : r = pHolds x y z true) (h0 : r ≠ 0) : r = 1 ∨ r = 2 ∨ r = 3 := by
  subst h
  revert h0
  cases x <;> cases y <;> cases z <;> decide
theorem pH4 {x y z w : Bool} {r : Int32} (h : r = pHolds x y z w) (h0 : r ≠ 0) : r = 1 ∨ r = 2 ∨ r = 3 ∨ r = 4 := by
  subst h
  revert h0
  cases x <;> cases y <;> cases z <;> cases w <;> decide
theorem pHc {id : Int32} {f : pF} (h0 : (oCancel id f).1 ≠ 0) : (oCancel id f).1 = 1 := by
  unfold oCancel at h0 ⊢
  split
  · rfl
  · rename_i e
    rw [e] at h0
    exact absurd rfl h0
theorem sp_X0_addGoblin (hb : bs ad G) (hc : CI ad G t ci P) (hci : ci + 1 ≤ 1000) (hR : rm G 70) {g0 : Nat → Int64} (h3 : G.1 t3 = some (gAl true 1 g0)) {K : Int32 → gS → Prop} (k : ∀ G', XR ad G t t3 (ci + 1) (aDo P (pOp 0 a 0 0 0 (aF P))) (pOp 0 a 0 0 0 (aF P)).1 (pOp 0 a 0 0 0 (aF P)).2.1 G' → K (pOp 0 a 0 0 0 (aF P)).1 G') : wp_X0_addGoblin ad G (some t) a (some t3) X K := by
  unfold wp_X0_addGoblin
  refine wNN_of ⟨hc.is, sp_xAll (o := 0) (a := a) (b := 0) (c := 0) (d := 0) hb hc hci hR (by decide) h3 (fun e q G' x hh => ?_) (fun e G' x => ?_)⟩
  · generalize hr : (pOp 0 a 0 0 0 (aF P)) = r at k e x hh ⊢
    have e1 : r.1 = 1 ∨ r.1 = 2 := pH2 (by rw [← hr]; rfl) e
    rcases e1 with e1 | e1
    · rw [e1] at hh
      have kk := k G' x
      rw [e1] at kk
      exact Or.inl ⟨hh, kk⟩
    · rw [e1] at hh
      have kk := k G' x
      rw [e1] at kk
      exact Or.inr (⟨hh, kk⟩)
  · have kk := k G' x
    rw [e] at kk
    exact kk
theorem sp_X0_addBroom (hb : bs ad G) (hc : CI ad G t ci P) (hci : ci + 1 ≤ 1000) (hR : rm G 70) {g0 : Nat → Int64} (h3 : G.1 t3 = some (gAl true 1 g0)) {K : Int32 → gS → Prop} (k : ∀ G', XR ad G t t3 (ci + 1) (aDo P (pOp 1 a 0 0 0 (aF P))) (pOp 1 a 0 0 0 (aF P)).1 (pOp 1 a 0 0 0 (aF P)).2.1 G' → K (pOp 1 a 0 0 0 (aF P)).1 G') : wp_X0_addBroom ad G (some t) a (some t3) X K := by
  unfold wp_X0_addBroom
  refine wNN_of ⟨hc.is, sp_xAll (o := 1) (a := a) (b := 0) (c := 0) (d := 0) hb hc hci hR (by decide) h3 (fun e q G' x hh => ?_) (fun e G' x => ?_)⟩
  · generalize hr : (pOp 1 a 0 0 0 (aF P)) = r at k e x hh ⊢
    have e1 : r.1 = 1 ∨ r.1 = 2 := pH2 (by rw [← hr]; rfl) e
    rcases e1 with e1 | e1
    · rw [e1] at hh
      have kk := k G' x
      rw [e1] at kk
      exact Or.inl ⟨hh, kk⟩
    · rw [e1] at hh
      have kk := k G' x
      rw [e1] at kk
      exact Or.inr (⟨hh, kk⟩)
  · have kk := k G' x
    rw [e] at kk
    exact kk
theorem sp_X0_banishBroom (hb : bs ad G) (hc : CI ad G t ci P) (hci : ci + 1 ≤ 1000) (hR : rm G 70) {g0 : Nat → Int64} (h3 : G.1 t3 = some (gAl true 1 g0)) {K : Int32 → gS → Prop} (k : ∀ G', XR ad G t t3 (ci + 1) (aDo P (pOp 2 a 0 0 0 (aF P))) (pOp 2 a 0 0 0 (aF P)).1 (pOp 2 a 0 0 0 (aF P)).2.1 G' → K (pOp 2 a 0 0 0 (aF P)).1 G') : wp_X0_banishBroom ad G (some t) a (some t3) X K := by
  unfold wp_X0_banishBroom
  refine wNN_of ⟨hc.is, sp_xAll (o := 2) (a := a) (b := 0) (c := 0) (d := 0) hb hc hci hR (by decide) h3 (fun e q G' x hh => ?_) (fun e G' x => ?_)⟩
  · generalize hr : (pOp 2 a 0 0 0 (aF P)) = r at k e x hh ⊢
    have e1 : r.1 = 1 ∨ r.1 = 2 := pH2 (by rw [← hr]; rfl) e
    rcases e1 with e1 | e1
    · rw [e1] at hh
      have kk := k G' x
      rw [e1] at kk
      exact Or.inl ⟨hh, kk⟩
    · rw [e1] at hh
      have kk := k G' x
      rw [e1] at kk
      exact Or.inr (⟨hh, kk⟩)
  · have kk := k G' x
    rw [e] at kk
    exact kk
theorem sp_X0_recallBroom (hb : bs ad G) (hc : CI ad G t ci P) (hci : ci + 1 ≤ 1000) (hR : rm G 70) {g0 : Nat → Int64} (h3 : G.1 t3 = some (gAl true 1 g0)) {K : Int32 → gS → Prop} (k : ∀ G', XR ad G t t3 (ci + 1) (aDo P (pOp 3 a 0 0 0 (aF P))) (pOp 3 a 0 0 0 (aF P)).1 (pOp 3 a 0 0 0 (aF P)).2.1 G' → K (pOp 3 a 0 0 0 (aF P)).1 G') : wp_X0_recallBroom ad G (some t) a (some t3) X K := by
  unfold wp_X0_recallBroom
  refine wNN_of ⟨hc.is, sp_xAll (o := 3) (a := a) (b := 0) (c := 0) (d := 0) hb hc hci hR (by decide) h3 (fun e q G' x hh => ?_) (fun e G' x => ?_)⟩
  · generalize hr : (pOp 3 a 0 0 0 (aF P)) = r at k e x hh ⊢
    have e1 : r.1 = 1 ∨ r.1 = 2 := pH2 (by rw [← hr]; rfl) e
    rcases e1 with e1 | e1
    · rw [e1] at hh
      have kk := k G' x
      rw [e1] at kk
      exact Or.inl ⟨hh, kk⟩
    · rw [e1] at hh
      have kk := k G' x
      rw [e1] at kk
      exact Or.inr (⟨hh, kk⟩)
  · have kk := k G' x
    rw [e] at kk
    exact kk
theorem sp_X0_hire (hb : bs ad G) (hc : CI ad G t ci P) (hci : ci + 1 ≤ 1000) (hR : rm G 70) {g0 : Nat → Int64} (h3 : G.1 t3 = some (gAl true 1 g0)) {K : Int32 → gS → Prop} (k : ∀ G', XR ad G t t3 (ci + 1) (aDo P (pOp 4 a b c d (aF P))) (pOp 4 a b c d (aF P)).1 (pOp 4 a b c d (aF P)).2.1 G' → K (pOp 4 a b c d (aF P)).1 G') : wp_X0_hire ad G (some t) a b c d (some t3) X K := by
  unfold wp_X0_hire
  refine wNN_of ⟨hc.is, sp_xAll (o := 4) (a := a) (b := b) (c := c) (d := d) hb hc hci hR (by decide) h3 (fun e q G' x hh => ?_) (fun e G' x => ?_)⟩
  · generalize hr : (pOp 4 a b c d (aF P)) = r at k e x hh ⊢
    have e1 : r.1 = 1 ∨ r.1 = 2 ∨ r.1 = 3 ∨ r.1 = 4 := pH4 (by rw [← hr]; rfl) e
    rcases e1 with e1 | e1 | e1 | e1
    · rw [e1] at hh
      have kk := k G' x
      rw [e1] at kk
      exact Or.inl ⟨hh, kk⟩
    · rw [e1] at hh
      have kk := k G' x
      rw [e1] at kk
      exact Or.inr (Or.inl ⟨hh, kk⟩)
    · rw [e1] at hh
      have kk := k G' x
      rw [e1] at kk
      exact Or.inr (Or.inr (Or.inl ⟨hh, kk⟩))
    · rw [e1] at hh
      have kk := k G' x
      rw [e1] at kk
      exact Or.inr (Or.inr (Or.inr (⟨hh, kk⟩)))
  · have kk := k G' x
    rw [e] at kk
    exact kk
theorem sp_X0_cancelContract (hb : bs ad G) (hc : CI ad G t ci P) (hci : ci + 1 ≤ 1000) (hR : rm G 70) {g0 : Nat → Int64} (h3 : G.1 t3 = some (gAl true 1 g0)) {K : Int32 → gS → Prop} (k : ∀ G', XR ad G t t3 (ci + 1) (aDo P (pOp 5 a 0 0 0 (aF P))) (pOp 5 a 0 0 0 (aF P)).1 (pOp 5 a 0 0 0 (aF P)).2.1 G' → K (pOp 5 a 0 0 0 (aF P)).1 G') : wp_X0_cancelContract ad G (some t) a (some t3) X K := by
  unfold wp_X0_cancelContract
  refine wNN_of ⟨hc.is, sp_xAll (o := 5) (a := a) (b := 0) (c := 0) (d := 0) hb hc hci hR (by decide) h3 (fun e q G' x hh => ?_) (fun e G' x => ?_)⟩
  · generalize hr : (pOp 5 a 0 0 0 (aF P)) = r at k e x hh ⊢
    have e1 : r.1 = 1 := by
      rw [← hr] at e ⊢
      exact pHc e
    rw [e1] at hh
    have kk := k G' x
    rw [e1] at kk
    exact ⟨hh, kk⟩
  · have kk := k G' x
    rw [e] at kk
    exact kk
theorem sp_X0_rest (hb : bs ad G) (hc : CI ad G t ci P) (hci : ci + 1 ≤ 1000) (hR : rm G 70) {g0 : Nat → Int64} (h3 : G.1 t3 = some (gAl true 1 g0)) {K : Int32 → gS → Prop} (k : ∀ G', XR ad G t t3 (ci + 1) (aDo P (pOp 6 a 0 0 0 (aF P))) (pOp 6 a 0 0 0 (aF P)).1 (pOp 6 a 0 0 0 (aF P)).2.1 G' → K (pOp 6 a 0 0 0 (aF P)).1 G') : wp_X0_rest ad G (some t) a (some t3) X K := by
  unfold wp_X0_rest
  refine wNN_of ⟨hc.is, sp_xAll (o := 6) (a := a) (b := 0) (c := 0) (d := 0) hb hc hci hR (by decide) h3 (fun e q G' x hh => ?_) (fun e G' x => ?_)⟩
  · generalize hr : (pOp 6 a 0 0 0 (aF P)) = r at k e x hh ⊢
    have e1 : r.1 = 1 ∨ r.1 = 2 := pH2 (by rw [← hr]; rfl) e
    rcases e1 with e1 | e1
    · rw [e1] at hh
      have kk := k G' x
      rw [e1] at kk
      exact Or.inl ⟨hh, kk⟩
    · rw [e1] at hh
      have kk := k G' x
      rw [e1] at kk
      exact Or.inr (⟨hh, kk⟩)
  · have kk := k G' x
    rw [e] at kk
    exact kk
theorem sp_X0_wake (hb : bs ad G) (hc : CI ad G t ci P) (hci : ci + 1 ≤ 1000) (hR : rm G 70) {g0 : Nat → Int64} (h3 : G.1 t3 = some (gAl true 1 g0)) {K : Int32 → gS → Prop} (k : ∀ G', XR ad G t t3 (ci + 1) (aDo P (pOp 7 a 0 0 0 (aF P))) (pOp 7 a 0 0 0 (aF P)).1 (pOp 7 a 0 0 0 (aF P)).2.1 G' → K (pOp 7 a 0 0 0 (aF P)).1 G') : wp_X0_wake ad G (some t) a (some t3) X K := by
  unfold wp_X0_wake
  refine wNN_of ⟨hc.is, sp_xAll (o := 7) (a := a) (b := 0) (c := 0) (d := 0) hb hc hci hR (by decide) h3 (fun e q G' x hh => ?_) (fun e G' x => ?_)⟩
  · generalize hr : (pOp 7 a 0 0 0 (aF P)) = r at k e x hh ⊢
    have e1 : r.1 = 1 ∨ r.1 = 2 := pH2 (by rw [← hr]; rfl) e
    rcases e1 with e1 | e1
    · rw [e1] at hh
      have kk := k G' x
      rw [e1] at kk
      exact Or.inl ⟨hh, kk⟩
    · rw [e1] at hh
      have kk := k G' x
      rw [e1] at kk
      exact Or.inr (⟨hh, kk⟩)
  · have kk := k G' x
    rw [e] at kk
    exact kk
theorem sp_X0_lend (hb : bs ad G) (hc : CI ad G t ci P) (hci : ci + 1 ≤ 1000) (hR : rm G 70) {g0 : Nat → Int64} (h3 : G.1 t3 = some (gAl true 1 g0)) {K : Int32 → gS → Prop} (k : ∀ G', XR ad G t t3 (ci + 1) (aDo P (pOp 8 a b 0 0 (aF P))) (pOp 8 a b 0 0 (aF P)).1 (pOp 8 a b 0 0 (aF P)).2.1 G' → K (pOp 8 a b 0 0 (aF P)).1 G') : wp_X0_lend ad G (some t) a b (some t3) X K := by
  unfold wp_X0_lend
  refine wNN_of ⟨hc.is, sp_xAll (o := 8) (a := a) (b := b) (c := 0) (d := 0) hb hc hci hR (by decide) h3 (fun e q G' x hh => ?_) (fun e G' x => ?_)⟩
  · generalize hr : (pOp 8 a b 0 0 (aF P)) = r at k e x hh ⊢
    have e1 : r.1 = 1 ∨ r.1 = 2 ∨ r.1 = 3 := pH3 (by rw [← hr]; rfl) e
    rcases e1 with e1 | e1 | e1
    · rw [e1] at hh
      have kk := k G' x
      rw [e1] at kk
      exact Or.inl ⟨hh, kk⟩
    · rw [e1] at hh
      have kk := k G' x
      rw [e1] at kk
      exact Or.inr (Or.inl ⟨hh, kk⟩)
    · rw [e1] at hh
      have kk := k G' x
      rw [e1] at kk
      exact Or.inr (Or.inr (⟨hh, kk⟩))
  · have kk := k G' x
    rw [e] at kk
    exact kk
theorem sp_X0_fund (hb : bs ad G) (hc : CI ad G t ci P) (hci : ci + 1 ≤ 1000) (hR : rm G 70) {g0 : Nat → Int64} (h3 : G.1 t3 = some (gAl true 1 g0)) {K : Int32 → gS → Prop} (k : ∀ G', XR ad G t t3 (ci + 1) (aDo P (pOp 9 a 0 0 0 (aF P))) (pOp 9 a 0 0 0 (aF P)).1 (pOp 9 a 0 0 0 (aF P)).2.1 G' → K (pOp 9 a 0 0 0 (aF P)).1 G') : wp_X0_fund ad G (some t) a (some t3) X K := by
  unfold wp_X0_fund
  refine wNN_of ⟨hc.is, sp_xAll (o := 9) (a := a) (b := 0) (c := 0) (d := 0) hb hc hci hR (by decide) h3 (fun e q G' x hh => ?_) (fun e G' x => ?_)⟩
  · generalize hr : (pOp 9 a 0 0 0 (aF P)) = r at k e x hh ⊢
    have e1 : r.1 = 1 := pH1 (by rw [← hr]; rfl) e
    rw [e1] at hh
    have kk := k G' x
    rw [e1] at kk
    exact ⟨hh, kk⟩
  · have kk := k G' x
    rw [e] at kk
    exact kk
theorem sp_X0_spend (hb : bs ad G) (hc : CI ad G t ci P) (hci : ci + 1 ≤ 1000) (hR : rm G 70) {g0 : Nat → Int64} (h3 : G.1 t3 = some (gAl true 1 g0)) {K : Int32 → gS → Prop} (k : ∀ G', XR ad G t t3 (ci + 1) (aDo P (pOp 10 a 0 0 0 (aF P))) (pOp 10 a 0 0 0 (aF P)).1 (pOp 10 a 0 0 0 (aF P)).2.1 G' → K (pOp 10 a 0 0 0 (aF P)).1 G') : wp_X0_spend ad G (some t) a (some t3) X K := by
  unfold wp_X0_spend
  refine wNN_of ⟨hc.is, sp_xAll (o := 10) (a := a) (b := 0) (c := 0) (d := 0) hb hc hci hR (by decide) h3 (fun e q G' x hh => ?_) (fun e G' x => ?_)⟩
  · generalize hr : (pOp 10 a 0 0 0 (aF P)) = r at k e x hh ⊢
    have e1 : r.1 = 1 ∨ r.1 = 2 := pH2 (by rw [← hr]; rfl) e
    rcases e1 with e1 | e1
    · rw [e1] at hh
      have kk := k G' x
      rw [e1] at kk
      exact Or.inl ⟨hh, kk⟩
    · rw [e1] at hh
      have kk := k G' x
      rw [e1] at kk
      exact Or.inr (⟨hh, kk⟩)
  · have kk := k G' x
    rw [e] at kk
    exact kk
theorem sp_X0_passNights (hb : bs ad G) (hc : CI ad G t ci P) (hci : ci + 1 ≤ 1000) (hR : rm G 70) {g0 : Nat → Int64} (h3 : G.1 t3 = some (gAl true 1 g0)) {K : Int32 → gS → Prop} (k : ∀ G', XR ad G t t3 (ci + 1) (aDo P (pOp 11 a 0 0 0 (aF P))) (pOp 11 a 0 0 0 (aF P)).1 (pOp 11 a 0 0 0 (aF P)).2.1 G' → K (pOp 11 a 0 0 0 (aF P)).1 G') : wp_X0_passNights ad G (some t) a (some t3) X K := by
  unfold wp_X0_passNights
  refine wNN_of ⟨hc.is, sp_xAll (o := 11) (a := a) (b := 0) (c := 0) (d := 0) hb hc hci hR (by decide) h3 (fun e q G' x hh => ?_) (fun e G' x => ?_)⟩
  · generalize hr : (pOp 11 a 0 0 0 (aF P)) = r at k e x hh ⊢
    have e1 : r.1 = 1 := pH1 (by rw [← hr]; rfl) e
    rw [e1] at hh
    have kk := k G' x
    rw [e1] at kk
    exact ⟨hh, kk⟩
  · have kk := k G' x
    rw [e] at kk
    exact kk
end AP
