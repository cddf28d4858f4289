/-! PURE: the law: what is written, what is typed (printed by gen/law5.py) -/
set_option maxRecDepth 20000
section LW
variable {ad : Nat → Nat} {G G' : gS} {k c1 t1 t2 t3 t4 n c tx : Nat} {s : Nat → Int32} {P P' : pA} {X : Nat → gS → Prop} {K : Int32 → gS → Prop} {J28 : gS → Option Nat → Nat → Nat → Nat → Nat → Int32 → Prop}
variable {B : Nat → Nat} {I : Nat → Int32} {V : Nat → Nat → Int32} {x y : Int32}
def wO (P : pA) (ol : List Int32) : pA := (aF P, aS P, P.2.2.1, P.2.2.2.1, aT P, ol)
def wT (P : pA) (tl : List Int32) : pA := (aF P, aS P, P.2.2.1, P.2.2.2.1, tl, aO P)
theorem CI.tok (hc : CI ad G t1 c P) : tOk (aT P) (aO P) := by
  obtain ⟨h, sn, l, sb, os, h1, h2, h3, h4, v, cap, ov, a1, a2, a3, a4⟩ := hc
  exact a4
theorem sp_write {G1 : gS} {u w : Nat} (hc : CI ad G t1 c P) (t : gTo (fun _ => False) u w G G1) {s0 sv : Nat} {ol : List Int32} (n1 : G.1 s0 = none) (n2 : G.1 sv = none) (hs : sV G1 s0 ol sv) (ho : aOk ol) {K : Int32 → gS → Prop} (k : ∀ G', gTo (tK G) u w G G' → CI ad G' t1 c (wO P ol) → K (nI ol.length) G') : gIs G1 t1 1 ∧ wp_X1_write ad G1 t1 (some s0) X K := by
  have hc1 := hc.gto t fun b z => z
  refine ⟨hc1.is, ?_⟩
  have hc0 := hc
  obtain ⟨h, sn, l, sb, os, h1, h2, h3', ⟨a, it, h4, h5, h6⟩, ⟨v, cap, ov, a1, a2, a3, a4⟩⟩ := hc
  have old : ∀ b d, G.1 b = some d → G1.1 b = some d := fun b d hb => t.1 b d hb fun z => z
  unfold wp_X1_write
  have hss : s0 ≠ t1 := fun z => by rw [z, h1] at n1; cases n1
  have hvs : sv ≠ t1 := fun z => by rw [z, h1] at n2; cases n2
  refine wPut_sC (old _ _ h1) (ltb rfl) rfl fun G2 t2 => wGetQ_of t2.1 (x := some s0) rfl (wNN_of ?_)
  have hall : ∀ b d, G.1 b = some d → ¬ tK G b → G2.1 b = some d := fun b d hb hd => by
    rw [t2.2.1 b (fun z => by subst z; exact hd ⟨_, _, h1, Or.inl rfl⟩)]
    exact old b d hb
  have hs2 : sV G2 s0 ol sv := hs.to fun x d hx hq => by
    rw [t2.2.1 x (fun z => by
      rcases hq with q | q
      · exact hss (q.symm.trans z)
      · exact hvs (q.symm.trans z))]
    exact hx
  have tt : gTo (tK G) u w G G2 := t.trans (T2 := fun b => b = t1) (t2.to (T := fun b => b = t1) (old _ _ h1) rfl) (fun b z => z.elim) (fun b z => Or.inr (by subst z; exact ⟨_, _, h1, Or.inl rfl⟩)) (by omega) (by omega)
  refine sp_slen hs2.s (k G2 tt ⟨h, sn, l, sb, s0, t2.1, ?_, ?_, ⟨a, it, h4.to fun b d hb hd => ?_, h5, fun i hi => ?_⟩, ⟨v, cap, sv, a1.to fun x d hx hq => ?_, hs2, fun z => ?_, ⟨a4.1, ho⟩⟩⟩)
  · exact h2.to fun b d hb hd => hall b d hb (hCl2.tk hb hd)
  · exact h3'.to fun b d hb hd => hall b d hb (hCl2.tk hb hd)
  · rw [t2.2.1 b (fun z => ?_)]
    · exact old b d hd
    · obtain ⟨ci, fs, e, q⟩ := h4.cell hb
      rw [z, h1] at e
      cases e
      omega
  · exact (h6 i hi).to fun b d hb hd => hall b d hb (hCl2.tk hb hd)
  · refine hall x d hx ?_
    rintro ⟨ci, fs, e, q⟩
    obtain ⟨g, x2, e1, e2, -⟩ := a1
    rcases hq with y | y
    · rw [y, e1] at e
      cases e
      omega
    · rw [y, e2] at e
      cases e
  · obtain ⟨g, x2, e1, e2, -⟩ := a1
    rw [← z, n2] at e2
    cases e2
theorem sp_X0_renderGoblin (hb : bs ad G) (hc : CI ad G t1 c P) (hR : rm G 1000) {g0 : Nat → Int64} (h3 : G.1 t3 = some (gAl true 1 g0)) {K : Int32 → gS → Prop} (k : ∀ G5, XR ad G t1 t3 c (if pIn x 0 (aF P 9 - 1) then wO P ((pGobText (aF P) (pGi (aF P) x)).map nI) else P) (qc (pIn x 0 (aF P 9 - 1))) (nI (pGobText (aF P) (pGi (aF P) x)).length) G5 → K (qc (pIn x 0 (aF P 9 - 1))) G5) : wp_X0_renderGoblin ad G (some t1) x (some t3) X K := by
  unfold wp_X0_renderGoblin wp_X0_renderGoblin_12
  refine wNN_of ⟨hc.is, ?_⟩
  unfold wp_X1_renderGoblin
  have hR1 := hR.1
  have hR2 := hR.2
  refine sp_goblinFor hc (hR.le (by omega)) (fun e q G' s hh => ⟨hh, ?_⟩) (fun e h A g hr hg hp _ => wNN_of ?_)
  · rw [e] at k
    exact xr_no hc h3 s (by decide) k
  · rw [e, hp] at k
    have hi := hc.hi
    have h5 := hr.w.2.1.2
    refine sp_X8_text hb (hr.2.2.2.2.2.1 g hg).1 (by omega) hi hg (by omega) (by omega) fun G1 s0 sv t n1 n2 hs => ?_
    refine sp_write hc t n1 n2 hs aOk_gob fun G2 tt hc2 => ?_
    rw [List.length_map]
    exact xr_st (tt.ts (by omega) (by omega)) h3 hc2 k
theorem mPc.wO {I' : Nat → Int32} {V' : Nat → Nat → Int32} {s : List Nat} (h : mPc I V P) (i7 : I' 7 = I 7) (i8 : I' 8 = I 8) (i11 : I' 11 = I 11) (i13 : I' 13 = nI s.length) (v10 : V' 10 = V 10) (v12 : V' 12 = putL (V 12) 0 s) (hs : s.length ≤ 240) : mPc I' V' (wO P (s.map nI)) := by
  obtain ⟨⟨a1, a2⟩, ⟨b1, b2, b3⟩, -⟩ := h
  refine ⟨⟨by rw [i7]; exact a1, by rw [i8]; exact a2⟩, ⟨by rw [i11]; exact b1, b2, fun j hj => by rw [v10]; exact b3 j hj⟩, ⟨?_, ?_, fun j hj => ?_⟩⟩
  · show I' 13 = nI (s.map nI).length
    rw [i13, List.length_map]
  · show (s.map nI).length ≤ 240
    rw [List.length_map]; exact hs
  · have hj : j < (s.map nI).length := hj
    rw [List.length_map] at hj
    show V' 12 j = (s.map nI).getD j 0
    rw [v12]
    simp only [putL]
    rw [if_pos (by omega), Nat.sub_zero, List.getD_eq_getElem?_getD, List.getD_eq_getElem?_getD, List.getElem?_map]
    rw [List.getElem?_eq_getElem hj]
    rfl
theorem pGobText_len {f : pF} {g c : Nat} (hi : hI f c) (hg : g < nG f) (h5 : nG f ≤ 5) : (pGobText f g).length ≤ 100 := by
  have d1 := sb_dg_in g
  have d2 := sb_dg_in (pN f (26 + 5 * g))
  have d3 := sb_dg_in (pN f (27 + 5 * g))
  have d4 := sb_dg_in (pN f (28 + 5 * g))
  simp only [pGobText, List.length_append, pNum_len, List.length_cons, List.length_nil]
  split <;> split <;> simp only [List.length_append, pNum_len, List.length_cons, List.length_nil] <;> omega
theorem jG.nn4 (hi : hI (aF P) c) : ∀ g, g < nG (aF P) → nn (aF P) (26 + 5 * g) 1000100 ∧ nn (aF P) (27 + 5 * g) 1000100 ∧ nn (aF P) (28 + 5 * g) 1000100 := fun g hg => by
  obtain ⟨⟨e26, h26⟩, ⟨e27, h27⟩, ⟨e28, h28⟩, -⟩ := hi.1.2.2.2.1 g hg
  exact ⟨⟨e26, by omega⟩, ⟨e27, by omega⟩, ⟨e28, by omega⟩⟩
theorem sm3_renderGoblin (hm : MI G t2 P) (hi : hI (aF P) c) {K : Int32 → gS → Prop} (k : ∀ G', MR G t2 (if pIn x 0 (aF P 9 - 1) then wO P ((pGobText (aF P) (pGi (aF P) x)).map nI) else P) (qc (pIn x 0 (aF P 9 - 1))) G' → K (if qc (pIn x 0 (aF P 9 - 1)) = 0 then nI (pGobText (aF P) (pGi (aF P) x)).length else 0) G') : gIs G t2 0 ∧ wp_X3_renderGoblin ad G t2 x X K := by
  obtain ⟨B, I, V, h, hp⟩ := hm.o
  refine ⟨h.is, sm_renderGoblin h hi.1.w (jG.nn4 hi) (fun e G' h' => ?_) (fun e G' h' => ?_)⟩
  · rw [e] at k
    exact k G' (MR.of h h' hp.t14 upd_self)
  · obtain ⟨g, hg, -, hp2⟩ := pGi_t hi.1.w e
    rw [e] at k
    have e12 : mar V 0 (aF P) 12 = V 12 := mar_ne (by decide)
    rw [hp2] at h' k ⊢
    have hl := pGobText_len hi hg hi.1.w.2.1.2
    refine k G' (MR.of h h' ⟨⟨?_, ?_, ?_⟩, ⟨?_, hp.2.1.2.1, ?_⟩, ?_⟩ (by rw [upd_ne (by decide), upd_self]; rfl))
    · rw [mar_self]; rfl
    · rw [upd_ne (by decide), upd_ne (by decide)]; exact hp.1.2.1
    · intro f hf
      have := hp.1.2.2 f hf
      rw [mar_ne (by decide)] at this
      rw [mar_ne (by decide), mar_ne (by decide)]; exact this
    · rw [upd_ne (by decide), upd_ne (by decide)]; exact hp.2.1.1
    · intro i hi' j
      have := hp.2.1.2.2 i hi' j
      rw [mar_ne (by decide)] at this
      rw [mar_ne (by decide), mar_ne (by decide)]; exact this
    · refine hp.2.2.wO (by rw [upd_ne (by decide), upd_ne (by decide)]) (by rw [upd_ne (by decide), upd_ne (by decide)]) (by rw [upd_ne (by decide), upd_ne (by decide)]) upd_self ?_ ?_ (by omega)
      · rw [mar_ne (by decide), mar_ne (by decide), mar_ne (by decide)]
      · rw [mar_ne (by decide), mar_self, e12]
theorem law_47 (h : LI ad G k c1 t1 t2 t3 t4 s n P) (hn : 5 * k + 5 ≤ n) (hn2 : n ≤ 120) (hJ : ∀ G' P', LI ad G' (k + 1) c1 t1 t2 t3 t4 s n P' → J28 G' (some c1) t1 t2 t3 t4 (nI (5 * k) + (5 : Int32))) : wAldI G c1 ((nI (5 * k)) + (1 : Int32)) fun i372 => wp_X0_renderGoblin ad G (some t1) i372 (some t3) X (fun r374 G373 => wAldI G373 c1 ((nI (5 * k)) + (1 : Int32)) fun i375 => (gIs G373 t2 0 ∧ wp_X3_renderGoblin ad G373 t2 i375 X (fun r377 G376 => (gIs G376 t2 0 ∧ wp_X3_thrown ad G376 t2  X (fun r379 G378 => (r379 = r374 → (¬ r374 = (0 : Int32) → wp_L_law_2526 ad X K J28 G378 c1 t1 t2 t3 t4 (nI (5 * k))) ∧ (r374 = (0 : Int32) → wAldL G378 t3 (0 : Int32) fun i380 => ((lg_cmp i380 ((r377).toInt64)) = (0 : Int32) → wp_L_law_2526 ad X K J28 G378 c1 t1 t2 t3 t4 (nI (5 * k))) ∧ (¬ (lg_cmp i380 ((r377).toInt64)) = (0 : Int32) → K (0 : Int32) G378))) ∧ (¬ r379 = r374 → K (0 : Int32) G378)))))) := by
  have hR := h.r hn hn2
  have hN := fun (tx c : Nat) (P' : pA) (G5 G8 : gS) (τ : Int32) => h.next (tx := tx) (c := c) (P' := P') (G5 := G5) (G8 := G8) (τ := τ) hn hn2
  obtain ⟨hk, hb, ⟨c, hc, hct⟩, hm, ⟨g3, h3⟩, h4, hs, -⟩ := h
  have hi := hc.hi
  refine sc1 hs hn hn2 (sp_X0_renderGoblin hb hc (hR.le (by omega)) h3 fun G5 x => ?_)
  have hs5 := x.1.old (Or.inl ⟨_, _, h3⟩) hs
  have hm5 := x.1.mi (Or.inl ⟨_, _, h3⟩) hm
  refine sc1 hs5 hn hn2 (sm3_renderGoblin hm5 hi fun G8 m8 => ?_)
  obtain ⟨xf, g5, h5, e5⟩ := x
  refine sp_tail m8 rfl (m8.1.l h5) (fun e => ?_) ?_
  · rw [e5 e, if_pos e]
  · refine hJ _ _ (hN t3 _ _ _ _ _ xf (Or.inl ⟨_, _, h3⟩) ⟨_, h5⟩ (xf.d h3 h4) m8 ?_)
    split
    · show c + (aT P).length ≤ k + 1
      omega
    · omega
theorem sp_X1_renderContracts (hb : bs ad G) (hc : CI ad G t1 c P) (hR : rm G 2500) {K : Int32 → gS → Prop} (k : ∀ G', gTo (tK G) 250 15000 G G' → CI ad G' t1 c (wO P ((pConsText (aF P) (nC (aF P))).map nI)) → (pConsText (aF P) (nC (aF P))).length ≤ 120 → K (nI (pConsText (aF P) (nC (aF P))).length) G') : gIs G t1 1 ∧ wp_X1_renderContracts ad G t1 X K := by
  refine ⟨hc.is, ?_⟩
  obtain ⟨h, A, hr, hi, q0⟩ := hc.hq
  have hR1 := hR.1
  have hR2 := hR.2
  unfold wp_X1_renderContracts
  refine q0 _ (wNN_of (sp_contractsText hb hr hi (by omega) (by omega) fun G1 s0 sv t n1 n2 hs hl => sp_write hc t n1 n2 hs (aOk_cons _) fun G2 tt hc2 => ?_))
  rw [List.length_map]
  exact k G2 tt hc2 hl
theorem jC.nn4 (hi : hI (aF P) c) : ∀ n, n < nC (aF P) → nn (aF P) (51 + 5 * n) 1000 ∧ nn (aF P) (52 + 5 * n) 4 ∧ nn (aF P) (53 + 5 * n) 5 ∧ nn (aF P) (54 + 5 * n) 50 ∧ nn (aF P) (55 + 5 * n) 20 := fun n hn => by
  obtain ⟨⟨q1, -⟩, ⟨q2, -⟩, q3, q4, q5, -⟩ := hi.1.2.2.2.2.1.1 n hn
  exact ⟨q1, q2, q3, q4, q5⟩
theorem sm3_renderContracts (hm : MI G t2 P) (hi : hI (aF P) c) (hl : (pConsText (aF P) (nC (aF P))).length ≤ 120) {K : Int32 → gS → Prop} (k : ∀ G', MR G t2 (wO P ((pConsText (aF P) (nC (aF P))).map nI)) 0 G' → K (nI (pConsText (aF P) (nC (aF P))).length) G') : gIs G t2 0 ∧ wp_X3_renderContracts ad G t2 X K := by
  obtain ⟨B, I, V, h, hp⟩ := hm.o
  refine ⟨h.is, sm_renderContracts h hi.1.w (jC.nn4 hi) (fun G' h' => ?_)⟩
  have e12 : mar V 0 (aF P) 12 = V 12 := mar_ne (by decide)
  refine k G' (MR.of h h' ⟨⟨?_, ?_, ?_⟩, ⟨?_, hp.2.1.2.1, ?_⟩, ?_⟩ (by rw [upd_ne (by decide), upd_self]))
  · rw [mar_self]; rfl
  · rw [upd_ne (by decide), upd_ne (by decide)]; exact hp.1.2.1
  · intro f hf
    have := hp.1.2.2 f hf
    rw [mar_ne (by decide)] at this
    rw [mar_ne (by decide), mar_ne (by decide)]; exact this
  · rw [upd_ne (by decide), upd_ne (by decide)]; exact hp.2.1.1
  · intro i hi' j
    have := hp.2.1.2.2 i hi' j
    rw [mar_ne (by decide)] at this
    rw [mar_ne (by decide), mar_ne (by decide)]; exact this
  · refine hp.2.2.wO (by rw [upd_ne (by decide), upd_ne (by decide)]) (by rw [upd_ne (by decide), upd_ne (by decide)]) (by rw [upd_ne (by decide), upd_ne (by decide)]) upd_self ?_ ?_ (by omega)
    · rw [mar_ne (by decide), mar_ne (by decide), mar_ne (by decide)]
    · rw [mar_ne (by decide), mar_self, e12]
theorem law_48 (h : LI ad G k c1 t1 t2 t3 t4 s n P) (hn : 5 * k + 5 ≤ n) (hn2 : n ≤ 120) (hJ : ∀ G' P', LI ad G' (k + 1) c1 t1 t2 t3 t4 s n P' → J28 G' (some c1) t1 t2 t3 t4 (nI (5 * k) + (5 : Int32))) : (gIs G t1 1 ∧ wp_X1_renderContracts ad G t1  X (fun r382 G381 => (gIs G381 t2 0 ∧ wp_X3_renderContracts ad G381 t2  X (fun r384 G383 => (r382 = r384 → wp_L_law_2889 ad X K J28 G383 c1 t1 t2 t3 t4 (nI (5 * k))) ∧ (¬ r382 = r384 → K (0 : Int32) G383))))) := by
  have hR := h.r hn hn2
  have hN := fun (tx c : Nat) (P' : pA) (G5 G8 : gS) (τ : Int32) => h.next (tx := tx) (c := c) (P' := P') (G5 := G5) (G8 := G8) (τ := τ) hn hn2
  obtain ⟨hk, hb, ⟨c, hc, hct⟩, hm, ⟨g3, h3⟩, h4, hs, -⟩ := h
  have hi := hc.hi
  refine sp_X1_renderContracts hb hc (hR.le (by omega)) fun G5 s hc5 hl => ?_
  have hx : XF ad G t1 t3 c (wO P ((pConsText (aF P) (nC (aF P))).map nI)) G5 := ⟨hc5, fun b e hb hn _ => s.1 b e hb fun z => hn (Or.inl z), by have := s.2.2.1; omega, by have := s.2.2.2; omega⟩
  refine sm3_renderContracts (hx.mi (Or.inl ⟨_, _, h3⟩) hm) hi hl fun G8 m8 => ⟨fun _ => ?_, fun z => absurd rfl z⟩
  exact hJ _ _ (hN t3 _ _ _ _ _ hx (Or.inl ⟨_, _, h3⟩) ⟨_, s.1 _ _ h3 fun z => tS.n_l h3 (Or.inl z)⟩ (hx.d h3 h4) m8 (by show c + (aT P).length ≤ k + 1; omega))

theorem ch128 : ∀ m, m < 128 → (((nI m &&& (255 : Int32))).toUInt32 % 65536).toInt32 = nI m ∧ ((nI m).toUInt32 % 65536).toInt32 = nI m := by decide
theorem sp_charAt {s : Nat} {l : List Int32} (h : sR G s l) {j m : Nat} (hj : j < l.length) (hm : m < 128) (e : l.getD j 0 = nI m) {x : Int32} (hx : x = nI j) {K : Int32 → gS → Prop} (k : K (nI m) G) : gIs G s 7 ∧ wp_J7_charAt ad G s x X K := by
  subst hx
  have hi := h.is
  refine ⟨hi, ?_⟩
  unfold wp_J7_charAt
  refine sp_slat h (brF (by decide) ?_)
  obtain ⟨w, v, hh, z, w2, g, h1, h2, h3, h4⟩ := h
  unfold wp_J19_charAt wp_J7_checkIndex wp_J16_checkIndex
  refine wGetQ_of h1 (x := some v) rfl (wNN_of (wLen_of h2 (by decide) ⟨fun z => absurd z (nI_pos (by omega)), fun _ => ⟨fun _ => wAldB_of h2 (vp_in_nI hj (by omega)) ?_, fun z => absurd (nI_lt hj (by omega)) z⟩⟩))
  rw [nI_clamp (by omega), h3 j hj, e, (ch128 m hm).1]
  have hn : gNar .char (nI m) := (pk_charN (q := m) (by omega)).1
  exact ⟨hn, hn, k⟩
theorem sp_X0_outputAt (hc : CI ad G t1 c P) (hR : rm G 200) {g0 : Nat → Int64} (h3 : G.1 t3 = some (gAl true 1 g0)) {K : Int32 → gS → Prop} (k : ∀ G5, XR ad G t1 t3 c P (qc (pIn x 0 (nI (aO P).length - 1))) ((aO P).getD x.toNatClampNeg 0) G5 → K (qc (pIn x 0 (nI (aO P).length - 1))) G5) : wp_X0_outputAt ad G (some t1) x (some t3) X K := by
  unfold wp_X0_outputAt wp_X0_outputAt_12
  refine wNN_of ⟨hc.is, ?_⟩
  have hc0 := hc
  have hR1 := hR.1
  have hR2 := hR.2
  obtain ⟨h, sn, l, sb, os, h1, h2, h3', h4, ⟨v, cap, ov, a1, a2, a3, a4⟩⟩ := hc
  have ho := a2.s
  have hl : (aO P).length ≤ 400 := by
    obtain ⟨w, hh, z, w2, g, e1, e2, e3, e4⟩ := a2
    exact e4
  unfold wp_X1_outputAt
  refine wGetQ_of h1 (x := some os) rfl (wNN_of (sp_slen ho (sp_isBetween (sp_checkIndex rfl (by omega) (by omega) (fun e q G' fs s => ⟨⟨_, s.2.1⟩, ?_⟩) fun e => wGetQ_of h1 (x := some os) rfl (wNN_of ?_)))))
  · rw [e] at k
    exact xr_no hc0 h3 (s.f2 (by omega)) (by decide) k
  · obtain ⟨j, hj, hx⟩ := (pIn_nI (by omega)).mp e
    rw [e, hx, nI_clamp (by omega)] at k
    obtain ⟨m, hm, em⟩ := a4.2 _ (gD_mem hj)
    have hn : gNar .char (nI m) := (pk_charN (q := m) (by omega)).1
    refine sp_charAt ho hj hm em hx ⟨hn, ?_⟩
    rw [em] at k
    exact xr_yes hc0 h3 gF2.refl rfl k
theorem sm3_outputAt (hm : MI G t2 P) (ho : aOk (aO P)) {K : Int32 → gS → Prop} (k : ∀ G', MR G t2 P (qc (pIn x 0 (nI (aO P).length - 1))) G' → K (if qc (pIn x 0 (nI (aO P).length - 1)) = 0 then (aO P).getD x.toNatClampNeg 0 else 0) G') : gIs G t2 0 ∧ wp_X3_outputAt ad G t2 x X K := by
  obtain ⟨B, I, V, h, hp⟩ := hm
  have e13 := hp.2.2.2.2.1
  have l13 := hp.2.2.2.2.2.1
  refine ⟨h.is, sm_outputAt h e13 l13 ⟨fun e G' h' => ?_, fun e G' h' => ?_⟩⟩
  · rw [e] at k
    exact k G' (MR.of h h' hp.t14 upd_self)
  · obtain ⟨j, hj, hx⟩ := (pIn_nI (by omega)).mp e
    rw [e, hx, nI_clamp (by omega)] at k
    rw [hx, nI_clamp (by omega), hp.2.2.2.2.2.2 j hj]
    obtain ⟨m, hm, em⟩ := ho _ (gD_mem hj)
    rw [em, (ch128 m hm).2]
    rw [em] at k
    exact k G' (MR.of h h' hp.t14 upd_self)
theorem law_49 (h : LI ad G k c1 t1 t2 t3 t4 s n P) (hn : 5 * k + 5 ≤ n) (hn2 : n ≤ 120) (hJ : ∀ G' P', LI ad G' (k + 1) c1 t1 t2 t3 t4 s n P' → J28 G' (some c1) t1 t2 t3 t4 (nI (5 * k) + (5 : Int32))) : wAldI G c1 ((nI (5 * k)) + (1 : Int32)) fun i385 => wp_X0_outputAt ad G (some t1) i385 (some t3) X (fun r387 G386 => wAldI G386 c1 ((nI (5 * k)) + (1 : Int32)) fun i388 => (gIs G386 t2 0 ∧ wp_X3_outputAt ad G386 t2 i388 X (fun r390 G389 => (gIs G389 t2 0 ∧ wp_X3_thrown ad G389 t2  X (fun r392 G391 => (r392 = r387 → (¬ r387 = (0 : Int32) → wp_L_law_2595 ad X K J28 G391 c1 t1 t2 t3 t4 (nI (5 * k))) ∧ (r387 = (0 : Int32) → wAldL G391 t3 (0 : Int32) fun i393 => ((lg_cmp i393 ((r390).toInt64)) = (0 : Int32) → wp_L_law_2595 ad X K J28 G391 c1 t1 t2 t3 t4 (nI (5 * k))) ∧ (¬ (lg_cmp i393 ((r390).toInt64)) = (0 : Int32) → K (0 : Int32) G391))) ∧ (¬ r392 = r387 → K (0 : Int32) G391)))))) := by
  have hR := h.r hn hn2
  have hN := fun (tx c : Nat) (P' : pA) (G5 G8 : gS) (τ : Int32) => h.next (tx := tx) (c := c) (P' := P') (G5 := G5) (G8 := G8) (τ := τ) hn hn2
  obtain ⟨hk, hb, ⟨c, hc, hct⟩, hm, ⟨g3, h3⟩, h4, hs, -⟩ := h
  have hi := hc.hi
  refine sc1 hs hn hn2 (sp_X0_outputAt hc (hR.le (by omega)) h3 fun G5 x => ?_)
  have hs5 := x.1.old (Or.inl ⟨_, _, h3⟩) hs
  have hm5 := x.1.mi (Or.inl ⟨_, _, h3⟩) hm
  refine sc1 hs5 hn hn2 (sm3_outputAt hm5 hc.tok.2 fun G8 m8 => ?_)
  obtain ⟨xf, g5, h5, e5⟩ := x
  refine sp_tail m8 rfl (m8.1.l h5) (fun e => ?_) ?_
  · rw [e5 e, if_pos e]
  · exact hJ _ _ (hN t3 _ _ _ _ _ xf (Or.inl ⟨_, _, h3⟩) ⟨_, h5⟩ (xf.d h3 h4) m8 (by omega))
abbrev tC (P : pA) (x : Int32) : Int32 := pHolds (pIn x 32 126) (decide ((aT P).length < 60)) true true
theorem tOk_add {tl ol : List Int32} (h : tOk tl ol) {m : Nat} (h1 : 32 ≤ m) (h2 : m ≤ 126) : tOk (tl ++ [nI m]) ol := ⟨fun c hc => by
  rcases List.mem_append.mp hc with q | q
  · exact h.1 c q
  · exact ⟨m, h1, h2, by simpa using q⟩, h.2⟩
theorem sp_X0_type (hc : CI ad G t1 c P) (hR : rm G 200) (hl : (aT P).length ≤ 100) {g0 : Nat → Int64} (h3 : G.1 t3 = some (gAl true 1 g0)) {K : Int32 → gS → Prop} (k : ∀ G5, XR ad G t1 t3 c (if tC P x = 0 then wT P (aT P ++ [x]) else P) (tC P x) (nI ((aT P).length + 1)) G5 → K (tC P x) G5) : wp_X0_type ad G (some t1) x (some t3) X K := by
  unfold wp_X0_type wp_X0_type_12 wp_X0_type_15
  refine wNN_of ⟨hc.is, ?_⟩
  have hc0 := hc
  have hR1 := hR.1
  have hR2 := hR.2
  obtain ⟨h, sn, l, sb, os, h1, h2, h3', h4, ⟨v, cap, ov, a1, a2, a3, a4⟩⟩ := hc
  unfold wp_X1_type wp_X1_type_28
  refine sp_isBetween (sp_checkArgument rfl (by omega) (by omega) (fun e q G' fs s => Or.inl ⟨⟨_, s.2.1⟩, ?_⟩) fun e => wGetQ_of h1 (x := some sb) rfl (wNN_of (sp_sbLen a1 ⟨fun z => ?_, fun z => ?_⟩)))
  · have e1 : tC P x = 1 := by rw [tC, e]; rfl
    rw [e1] at k
    exact xr_no hc0 h3 (s.f2 (by omega)) (by decide) k
  · have z2 : ¬ (aT P).length < 60 := fun y => absurd z (nI_ge (a := (aT P).length) (b := 60) y (by omega))
    have e1 : tC P x = 2 := by rw [tC, e, decide_eq_false z2]; rfl
    rw [e1] at k
    exact sp_checkState (b := false) rfl (by omega) (by omega) (fun _ q G' fs s => Or.inr ⟨⟨_, s.2.1⟩, xr_no hc0 h3 (s.f2 (by omega)) (by decide) k⟩) fun y => absurd y (by decide)
  · have z2 : (aT P).length < 60 := Nat.lt_of_not_le fun y => z (nI_le (a := 60) y (by omega))
    have e1 : tC P x = 0 := by rw [tC, e, decide_eq_true z2]; rfl
    rw [e1, if_pos rfl] at k
    obtain ⟨m, hm1, hm2, hx⟩ := pIn_n (a := 32) (b := 126) rfl rfl (by omega) (by omega) e
    subst hx
    refine sp_checkState (b := true) rfl (by omega) (by omega) (fun y => absurd y (by decide)) fun _ => wGetQ_of h1 (x := some sb) rfl (wNN_of (sp_appendC a1 (by omega) (by omega) (by omega) (by omega) fun G1 v1 cap1 t hv1 s1 => ?_))
    have hcell : ∀ b, bT sb v b → tS G b := fun b z => by
      obtain ⟨g, x2, e1, e2, -⟩ := a1
      rcases z with z | z
      · subst z; exact Or.inr (Or.inl ⟨_, e1⟩)
      · subst z; exact Or.inr (Or.inr ⟨_, _, e2⟩)
    have keep : ∀ b d, G.1 b = some d → (∀ fs, d ≠ gO true 6 fs) → b ≠ v → G1.1 b = some d := fun b d hb hd hv => t.1 b d hb fun z => by
      rcases z with z | z
      · subst z
        obtain ⟨g, x2, e1, e2, -⟩ := a1
        rw [hb] at e1
        cases e1
        exact hd _ rfl
      · exact hv z
    have hv : ∃ cap g, G.1 v = some (gAb true cap g) := by
      obtain ⟨g, x2, e1, e2, -⟩ := a1
      exact ⟨_, _, e2⟩
    have nv : ∀ b d, G.1 b = some d → (∀ w n g, d ≠ gAb w n g) → b ≠ v := fun b d hb hd z => by
      obtain ⟨cap, g, e⟩ := hv
      subst z
      rw [e] at hb
      cases hb
      exact hd _ _ _ rfl
    have hH2 : ∀ b d, G.1 b = some d → hCl2 d → G1.1 b = some d := fun b d hb hd => keep b d hb (fun fs q => by
      subst q
      rcases hd with ⟨_, _, e⟩ | ⟨_, _, _, e⟩ | ⟨_, _, _, e, q2⟩
      · cases e
      · cases e
      · cases e; omega) (nv b d hb fun w n g q => by
      subst q
      rcases hd with ⟨_, _, e⟩ | ⟨_, _, _, e⟩ | ⟨_, _, _, e, q2⟩ <;> cases e)
    have g1 : G1.1 t1 = some (gO true 1 [va_rf (some h), va_rf sn, va_rf (some l), va_rf (some sb), .int (aE P), .int (aX P), va_rf (some os)]) := keep _ _ h1 (fun fs q => by cases q) (nv _ _ h1 fun w n g q => by cases q)
    refine wGetQ_of g1 (x := some sb) rfl (wNN_of (sp_sbLen s1 ?_))
    have tt : gTo (tS G) 21000 210000 G G1 := t.mono (fun b z => Or.inr (hcell b z)) (by omega) (by omega)
    have hlen : nI (aT P ++ [nI m]).length = nI ((aT P).length + 1) := by rw [List.length_append]; rfl
    rw [hlen]
    refine xr_st tt h3 ?_ k
    obtain ⟨la, lit, ll1, ll2, ll3⟩ := h4
    refine ⟨h, sn, l, sb, os, g1, h2.to hH2, h3'.to hH2, ⟨la, lit, ll1.to fun b d hb hd => ?_, ll2, fun i hi => (ll3 i hi).to hH2⟩, ⟨v1, cap1, ov, s1, a2.to fun b d hb hd => ?_, ?_, tOk_add a4 hm1 hm2⟩⟩
    · obtain ⟨ci, fs, e, q⟩ := ll1.cell hb
      rw [e] at hd
      cases hd
      exact keep b _ e (fun fs q => by cases q; omega) (nv b _ e fun w n g q => by cases q)
    · rcases a2.cell hd with ⟨w, fs, e⟩ | ⟨w, n, g, e⟩
      · rw [e] at hb
        cases hb
        exact keep b _ e (fun fs q => by cases q) (nv b _ e fun w n g q => by cases q)
      · rw [e] at hb
        cases hb
        refine keep b _ e (fun fs q => by cases q) fun q => ?_
        rcases hd with y | y
        · obtain ⟨w, hh, z, w2, g, f1, -⟩ := a2
          rw [← y, e] at f1
          cases f1
        · exact a3 (y.symm.trans q)
    · intro z
      rcases hv1 with q | q
      · exact a3 (z.trans q)
      · obtain ⟨w, hh, zz, w2, g, f1, f2, -⟩ := a2
        rw [z, q] at f2
        cases f2
theorem sm3_type (hm : MI G t2 P) {K : Int32 → gS → Prop} (k : ∀ G', MR G t2 (if tC P x = 0 then wT P (aT P ++ [x]) else P) (tC P x) G' → K (if tC P x = 0 then nI ((aT P).length + 1) else 0) G') : gIs G t2 0 ∧ wp_X3_type ad G t2 x X K := by
  obtain ⟨B, I, V, h, hp⟩ := hm
  obtain ⟨pa, pb, ⟨pc1, ⟨p11, pl, pt⟩, pc3⟩⟩ := hp
  have hp : mP I V P := ⟨pa, pb, ⟨pc1, ⟨p11, pl, pt⟩, pc3⟩⟩
  refine ⟨h.is, sm_type h p11 pl (fun e G' h' => ?_) (fun e G' h' => ?_)⟩
  · have e1 : ¬ tC P x = 0 := by
      rw [tC]
      revert e
      cases pIn x 32 126 <;> cases decide ((aT P).length < 60) <;> decide
    have kk := k G' (by rw [if_neg e1]; exact MR.of h h' hp.t14 upd_self)
    rw [if_neg e1] at kk
    exact kk
  · have e1 : tC P x = 0 := by
      rw [tC]
      revert e
      cases pIn x 32 126 <;> cases decide ((aT P).length < 60) <;> decide
    have e2 : (aT P).length < 60 := by
      have := (Bool.and_eq_true _ _).mp e
      exact of_decide_eq_true this.2
    rw [e1, if_pos rfl] at k
    refine k G' (MR.of h h' ⟨⟨?_, ?_, ?_⟩, ⟨?_, pb.2.1, ?_⟩, ⟨⟨?_, ?_⟩, ⟨?_, ?_, fun j hj => ?_⟩, ⟨?_, pc3.2.1, fun j hj => ?_⟩⟩⟩ (by rw [upd_ne (by decide), upd_self]))
    · rw [mar_ne (by decide)]; exact pa.1
    · rw [upd_ne (by decide), upd_ne (by decide)]; exact pa.2.1
    · intro f hf
      rw [mar_ne (by decide)]; exact pa.2.2 f hf
    · rw [upd_ne (by decide), upd_ne (by decide)]; exact pb.1
    · intro i hi j
      rw [mar_ne (by decide)]; exact pb.2.2 i hi j
    · rw [upd_ne (by decide), upd_ne (by decide)]; exact pc1.1
    · rw [upd_ne (by decide), upd_ne (by decide)]; exact pc1.2
    · rw [upd_self]
      show nI ((aT P).length + 1) = nI (aT P ++ [x]).length
      rw [List.length_append]; rfl
    · show (aT P ++ [x]).length ≤ 60
      rw [List.length_append]; exact e2
    · have hj : j < (aT P ++ [x]).length := hj
      rw [List.length_append] at hj
      show mar V 10 (upd (V 10) (aT P).length x) 10 j = (aT P ++ [x]).getD j 0
      rw [mar_self, gD_app]
      by_cases q : j < (aT P).length
      · rw [if_pos q, upd_ne (by omega)]; exact pt j q
      · have q2 : j = (aT P).length := by
          have hj : j < (aT P).length + 1 := hj
          omega
        rw [if_neg q, q2, upd_self, Nat.sub_self]
        rfl
    · rw [upd_ne (by decide), upd_ne (by decide)]; exact pc3.1
    · rw [mar_ne (by decide)]; exact pc3.2.2 j hj
theorem law_50 (h : LI ad G k c1 t1 t2 t3 t4 s n P) (hn : 5 * k + 5 ≤ n) (hn2 : n ≤ 120) (hJ : ∀ G' P', LI ad G' (k + 1) c1 t1 t2 t3 t4 s n P' → J28 G' (some c1) t1 t2 t3 t4 (nI (5 * k) + (5 : Int32))) : wAldI G c1 ((nI (5 * k)) + (1 : Int32)) fun i394 => wp_X0_type ad G (some t1) (((i394).toUInt32 % 65536).toInt32) (some t3) X (fun r396 G395 => wAldI G395 c1 ((nI (5 * k)) + (1 : Int32)) fun i397 => (gIs G395 t2 0 ∧ wp_X3_type ad G395 t2 (((i397).toUInt32 % 65536).toInt32) X (fun r399 G398 => (gIs G398 t2 0 ∧ wp_X3_thrown ad G398 t2  X (fun r401 G400 => (r401 = r396 → (¬ r396 = (0 : Int32) → wp_L_law_2653 ad X K J28 G400 c1 t1 t2 t3 t4 (nI (5 * k))) ∧ (r396 = (0 : Int32) → wAldL G400 t3 (0 : Int32) fun i402 => ((lg_cmp i402 ((r399).toInt64)) = (0 : Int32) → wp_L_law_2653 ad X K J28 G400 c1 t1 t2 t3 t4 (nI (5 * k))) ∧ (¬ (lg_cmp i402 ((r399).toInt64)) = (0 : Int32) → K (0 : Int32) G400))) ∧ (¬ r401 = r396 → K (0 : Int32) G400)))))) := by
  have hR := h.r hn hn2
  have hN := fun (tx c : Nat) (P' : pA) (G5 G8 : gS) (τ : Int32) => h.next (tx := tx) (c := c) (P' := P') (G5 := G5) (G8 := G8) (τ := τ) hn hn2
  obtain ⟨hk, hb, ⟨c, hc, hct⟩, hm, ⟨g3, h3⟩, h4, hs, -⟩ := h
  have hi := hc.hi
  refine sc1 hs hn hn2 (sp_X0_type hc (hR.le (by omega)) (by omega) h3 fun G5 x => ?_)
  have hs5 := x.1.old (Or.inl ⟨_, _, h3⟩) hs
  have hm5 := x.1.mi (Or.inl ⟨_, _, h3⟩) hm
  refine sc1 hs5 hn hn2 (sm3_type hm5 fun G8 m8 => ?_)
  obtain ⟨xf, g5, h5, e5⟩ := x
  refine sp_tail m8 rfl (m8.1.l h5) (fun e => ?_) ?_
  · rw [e5 e, if_pos e]
  · refine hJ _ _ (hN t3 _ _ _ _ _ xf (Or.inl ⟨_, _, h3⟩) ⟨_, h5⟩ (xf.d h3 h4) m8 ?_)
    split
    · show c + (aT P ++ _).length ≤ k + 1
      rw [List.length_append]
      show c + ((aT P).length + 1) ≤ k + 1
      omega
    · omega
end LW
