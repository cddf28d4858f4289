/-! PURE: the law: its state, a step, the changes (printed by gen/law0.py) -/
set_option maxRecDepth 20000
/-- ahead of call k -/
def LI (ad : Nat → Nat) (G : gS) (k c1 t1 t2 t3 t4 : Nat) (s : Nat → Int32) (n : Nat) (P : pA) : Prop := k ≤ 24 ∧ bs ad G ∧ (∃ c, CI ad G t1 c P ∧ c + (aT P).length ≤ k) ∧ MI G t2 P ∧ (∃ g, G.1 t3 = some (gAl true 1 g)) ∧ (∃ g, G.1 t4 = some (gAd' true 1 g)) ∧ G.1 c1 = some (gAi false n s) ∧ rm G (22000 * (24 - k))
section LW
variable {ad : Nat → Nat} {G G' : gS} {k c1 t1 t2 t3 t4 n c tx : Nat} {s : Nat → Int32} {P P' : pA} {X : Nat → gS → Prop} {K : Int32 → gS → Prop} {J28 : gS → Option Nat → Nat → Nat → Nat → Nat → Int32 → Prop}
theorem tS.w {b : Nat} (h : tS G b) : (∃ ci fs, G.1 b = some (gO true ci fs) ∧ ci ≠ 0) ∨ ∃ n g, G.1 b = some (gAb true n g) := by
  rcases h with ⟨ci, fs, h, q⟩ | ⟨fs, h⟩ | h
  · exact Or.inl ⟨ci, fs, h, by omega⟩
  · exact Or.inl ⟨_, fs, h, by omega⟩
  · exact Or.inr h
theorem tS.n_old {b : Nat} {e} (hb : G.1 b = some (false, e)) : ¬ tS G b := fun h => by
  rcases h.w with ⟨ci, fs, h, q⟩ | ⟨m, g, h⟩
  · rw [h] at hb; cases hb
  · rw [h] at hb; cases hb
theorem tS.n_m {b : Nat} {e} (hb : G.1 b = some e) (he : mCl e) : ¬ tS G b := fun h => by
  rcases h.w with ⟨ci, fs, h, q⟩ | ⟨m, g, h⟩
  · rw [h] at hb; cases hb
    rcases he with ⟨fs, e⟩ | ⟨m, g, e, _⟩
    · cases e; exact q rfl
    · cases e
  · rw [h] at hb; cases hb
    rcases he with ⟨fs, e⟩ | ⟨m, g, e, _⟩
    · cases e
    · cases e
theorem tS.n_l {b m : Nat} {g} (hb : G.1 b = some (gAl true m g)) : ¬ tS G b := fun h => by
  rcases h.w with ⟨ci, fs, h, q⟩ | ⟨m, g, h⟩
  · rw [h] at hb; cases hb
  · rw [h] at hb; cases hb
theorem tS.n_d {b m : Nat} {g} (hb : G.1 b = some (gAd' true m g)) : ¬ tS G b := fun h => by
  rcases h.w with ⟨ci, fs, h, q⟩ | ⟨m, g, h⟩
  · rw [h] at hb; cases hb
  · rw [h] at hb; cases hb
/-- an answer's place -/
def tX (G : gS) (tx : Nat) : Prop := (∃ m g, G.1 tx = some (gAl true m g)) ∨ ∃ m g, G.1 tx = some (gAd' true m g)
theorem XF.old (x : XF ad G t1 tx c P G') (hx : tX G tx) {b : Nat} {e} (hb : G.1 b = some (false, e)) : G'.1 b = some (false, e) := x.2.1 b _ hb (tS.n_old hb) fun z => by
  subst z
  rcases hx with ⟨m, g, h⟩ | ⟨m, g, h⟩
  · rw [hb] at h; cases h
  · rw [hb] at h; cases h
theorem XF.mi (x : XF ad G t1 tx c P G') (hx : tX G tx) (h : MI G t2 P') : MI G' t2 P' := h.to fun b e hb he => x.2.1 b _ hb (tS.n_m hb he) fun z => by
  subst z
  rcases hx with ⟨m, g, h⟩ | ⟨m, g, h⟩
  · rw [hb] at h; cases h
    rcases he with ⟨fs, e⟩ | ⟨m, g, e, _⟩ <;> cases e
  · rw [hb] at h; cases h
    rcases he with ⟨fs, e⟩ | ⟨m, g, e, _⟩ <;> cases e
theorem XF.bs (x : XF ad G t1 tx c P G') (hx : tX G tx) (h : bs ad G) : bs ad G' := h.to fun b e hb => x.old hx hb
theorem XF.d (x : XF ad G t1 t3 c P G') {g3 : Nat → Int64} (h3 : G.1 t3 = some (gAl true 1 g3)) (h4 : ∃ g, G.1 t4 = some (gAd' true 1 g)) : ∃ g, G'.1 t4 = some (gAd' true 1 g) := by
  obtain ⟨g, h4⟩ := h4
  exact ⟨g, x.2.1 _ _ h4 (tS.n_d h4) fun z => by subst z; rw [h3] at h4; cases h4⟩
theorem mF.old (x : mF G G') {b : Nat} {e} (hb : G.1 b = some (false, e)) : G'.1 b = some (false, e) := x.1 b _ hb fun z => by
  rcases z with ⟨fs, e⟩ | ⟨m, g, e, _⟩ <;> cases e
theorem mF.l (x : mF G G') {b m : Nat} {g} (hb : G.1 b = some (gAl true m g)) : G'.1 b = some (gAl true m g) := x.1 b _ hb fun z => by
  rcases z with ⟨fs, e⟩ | ⟨m, g, e, _⟩ <;> cases e
theorem mF.d (x : mF G G') {b m : Nat} {g} (hb : G.1 b = some (gAd' true m g)) : G'.1 b = some (gAd' true m g) := x.1 b _ hb fun z => by
  rcases z with ⟨fs, e⟩ | ⟨m, g, e, _⟩ <;> cases e
theorem LI.next (h : LI ad G k c1 t1 t2 t3 t4 s n P) (hn : 5 * k + 5 ≤ n) (hn2 : n ≤ 120) {G5 G8 : gS} {τ : Int32} (xf : XF ad G t1 tx c P' G5) (hx : tX G tx) (h3 : ∃ g, G5.1 t3 = some (gAl true 1 g)) (h4 : ∃ g, G5.1 t4 = some (gAd' true 1 g)) (mr : MR G5 t2 P' τ G8) (hc : c + (aT P').length ≤ k + 1) : LI ad G8 (k + 1) c1 t1 t2 t3 t4 s n P' := by
  obtain ⟨hk, hb, -, -, -, -, hs, hR⟩ := h
  obtain ⟨g3, h3⟩ := h3
  obtain ⟨g4, h4⟩ := h4
  have m1 := mr.1
  refine ⟨by omega, (xf.bs hx hb).to fun b e hb => m1.old hb, ⟨c, xf.1.mf m1, hc⟩, mr.mi, ⟨g3, m1.l h3⟩, ⟨g4, m1.d h4⟩, m1.old (xf.old hx hs), ?_, ?_⟩
  · rw [m1.2]
    have := hR.1
    have := xf.2.2.1
    omega
  · rw [m1.2]
    have := hR.2
    have := xf.2.2.2
    omega
theorem LI.r (h : LI ad G k c1 t1 t2 t3 t4 s n P) (hn : 5 * k + 5 ≤ n) (hn2 : n ≤ 120) : rm G 22000 := by
  obtain ⟨-, -, -, -, -, -, -, hR⟩ := h
  exact hR.le (by omega)
theorem lcmp_self {x : Int64} : lg_cmp x x = 0 := by simp [lg_cmp]
theorem aDo_T {r : pR} : aT (aDo P r) = aT P := by
  unfold aDo
  split <;> rfl

theorem sc1 {K : Int32 → Prop} (hs : G.1 c1 = some (gAi false n s)) (hn : 5 * k + 5 ≤ n) (hn2 : n ≤ 120) (kk : K (s (5 * k + 1))) : wAldI G c1 (nI (5 * k) + (1 : Int32)) K := by
  rw [show nI (5 * k) + (1 : Int32) = nI (5 * k + 1) from nI_add (5 * k) 1]
  refine wAldI_of hs (vp_in_nI (by omega) (by omega)) ?_
  rw [nI_clamp (by omega)]
  exact kk
theorem sc2 {K : Int32 → Prop} (hs : G.1 c1 = some (gAi false n s)) (hn : 5 * k + 5 ≤ n) (hn2 : n ≤ 120) (kk : K (s (5 * k + 2))) : wAldI G c1 (nI (5 * k) + (2 : Int32)) K := by
  rw [show nI (5 * k) + (2 : Int32) = nI (5 * k + 2) from nI_add (5 * k) 2]
  refine wAldI_of hs (vp_in_nI (by omega) (by omega)) ?_
  rw [nI_clamp (by omega)]
  exact kk
theorem sc3 {K : Int32 → Prop} (hs : G.1 c1 = some (gAi false n s)) (hn : 5 * k + 5 ≤ n) (hn2 : n ≤ 120) (kk : K (s (5 * k + 3))) : wAldI G c1 (nI (5 * k) + (3 : Int32)) K := by
  rw [show nI (5 * k) + (3 : Int32) = nI (5 * k + 3) from nI_add (5 * k) 3]
  refine wAldI_of hs (vp_in_nI (by omega) (by omega)) ?_
  rw [nI_clamp (by omega)]
  exact kk
theorem sc4 {K : Int32 → Prop} (hs : G.1 c1 = some (gAi false n s)) (hn : 5 * k + 5 ≤ n) (hn2 : n ≤ 120) (kk : K (s (5 * k + 4))) : wAldI G c1 (nI (5 * k) + (4 : Int32)) K := by
  rw [show nI (5 * k) + (4 : Int32) = nI (5 * k + 4) from nI_add (5 * k) 4]
  refine wAldI_of hs (vp_in_nI (by omega) (by omega)) ?_
  rw [nI_clamp (by omega)]
  exact kk
/-- both have answered -/
theorem sp_tail {G5 G8 : gS} {r6 r9 τ : Int32} {N Z : gS → Prop} (hm : MR G5 t2 P τ G8) (e1 : τ = r6) {g : Nat → Int64} (h3 : G8.1 t3 = some (gAl true 1 g)) (e2 : r6 = 0 → g 0 = r9.toInt64) (kk : N G8) : gIs G8 t2 0 ∧ wp_X3_thrown ad G8 t2 X (fun r11 G10 => (r11 = r6 → (¬ r6 = (0 : Int32) → N G10) ∧ (r6 = (0 : Int32) → wAldL G10 t3 (0 : Int32) fun i12 => ((lg_cmp i12 ((r9).toInt64)) = (0 : Int32) → N G10) ∧ (¬ (lg_cmp i12 ((r9).toInt64)) = (0 : Int32) → Z G10))) ∧ (¬ r11 = r6 → Z G10)) := by
  refine sm_thrown hm ⟨fun _ => ⟨fun _ => kk, fun e => wAldL_of h3 (vp_in_nI (n := 0) (by omega) (by omega)) ?_⟩, fun e => absurd e1 e⟩
  show (lg_cmp (g 0) r9.toInt64 = 0 → N G8) ∧ (¬ lg_cmp (g 0) r9.toInt64 = 0 → Z G8)
  rw [e2 e]
  exact ⟨fun _ => kk, fun z => absurd lcmp_self z⟩
theorem sm3_0 (h : MI G t2 P) (hk : hK (aF P)) {a : Int32} (k : ∀ G', MR G t2 (aDo P (pOp 0 a 0 0 0 (aF P))) (pOp 0 a 0 0 0 (aF P)).1 G' → K (qA (pOp 0 a 0 0 0 (aF P))) G') : gIs G t2 0 ∧ wp_X3_addGoblin ad G t2 a X K :=
  have w : mAll ad G 0 a 0 0 0 t2 X K := sm_all h hk (by decide) k
  ⟨h.is, w⟩
theorem sm3_1 (h : MI G t2 P) (hk : hK (aF P)) {a : Int32} (k : ∀ G', MR G t2 (aDo P (pOp 1 a 0 0 0 (aF P))) (pOp 1 a 0 0 0 (aF P)).1 G' → K (qA (pOp 1 a 0 0 0 (aF P))) G') : gIs G t2 0 ∧ wp_X3_addBroom ad G t2 a X K :=
  have w : mAll ad G 1 a 0 0 0 t2 X K := sm_all h hk (by decide) k
  ⟨h.is, w⟩
theorem sm3_2 (h : MI G t2 P) (hk : hK (aF P)) {a : Int32} (k : ∀ G', MR G t2 (aDo P (pOp 2 a 0 0 0 (aF P))) (pOp 2 a 0 0 0 (aF P)).1 G' → K (qA (pOp 2 a 0 0 0 (aF P))) G') : gIs G t2 0 ∧ wp_X3_banishBroom ad G t2 a X K :=
  have w : mAll ad G 2 a 0 0 0 t2 X K := sm_all h hk (by decide) k
  ⟨h.is, w⟩
theorem sm3_3 (h : MI G t2 P) (hk : hK (aF P)) {a : Int32} (k : ∀ G', MR G t2 (aDo P (pOp 3 a 0 0 0 (aF P))) (pOp 3 a 0 0 0 (aF P)).1 G' → K (qA (pOp 3 a 0 0 0 (aF P))) G') : gIs G t2 0 ∧ wp_X3_recallBroom ad G t2 a X K :=
  have w : mAll ad G 3 a 0 0 0 t2 X K := sm_all h hk (by decide) k
  ⟨h.is, w⟩
theorem sm3_4 (h : MI G t2 P) (hk : hK (aF P)) {a b c d : Int32} (k : ∀ G', MR G t2 (aDo P (pOp 4 a b c d (aF P))) (pOp 4 a b c d (aF P)).1 G' → K (qA (pOp 4 a b c d (aF P))) G') : gIs G t2 0 ∧ wp_X3_hire ad G t2 a b c d X K :=
  have w : mAll ad G 4 a b c d t2 X K := sm_all h hk (by decide) k
  ⟨h.is, w⟩
theorem sm3_5 (h : MI G t2 P) (hk : hK (aF P)) {a : Int32} (k : ∀ G', MR G t2 (aDo P (pOp 5 a 0 0 0 (aF P))) (pOp 5 a 0 0 0 (aF P)).1 G' → K (qA (pOp 5 a 0 0 0 (aF P))) G') : gIs G t2 0 ∧ wp_X3_cancelContract ad G t2 a X K :=
  have w : mAll ad G 5 a 0 0 0 t2 X K := sm_all h hk (by decide) k
  ⟨h.is, w⟩
theorem sm3_6 (h : MI G t2 P) (hk : hK (aF P)) {a : Int32} (k : ∀ G', MR G t2 (aDo P (pOp 6 a 0 0 0 (aF P))) (pOp 6 a 0 0 0 (aF P)).1 G' → K (qA (pOp 6 a 0 0 0 (aF P))) G') : gIs G t2 0 ∧ wp_X3_rest ad G t2 a X K :=
  have w : mAll ad G 6 a 0 0 0 t2 X K := sm_all h hk (by decide) k
  ⟨h.is, w⟩
theorem sm3_7 (h : MI G t2 P) (hk : hK (aF P)) {a : Int32} (k : ∀ G', MR G t2 (aDo P (pOp 7 a 0 0 0 (aF P))) (pOp 7 a 0 0 0 (aF P)).1 G' → K (qA (pOp 7 a 0 0 0 (aF P))) G') : gIs G t2 0 ∧ wp_X3_wake ad G t2 a X K :=
  have w : mAll ad G 7 a 0 0 0 t2 X K := sm_all h hk (by decide) k
  ⟨h.is, w⟩
theorem sm3_8 (h : MI G t2 P) (hk : hK (aF P)) {a b : Int32} (k : ∀ G', MR G t2 (aDo P (pOp 8 a b 0 0 (aF P))) (pOp 8 a b 0 0 (aF P)).1 G' → K (qA (pOp 8 a b 0 0 (aF P))) G') : gIs G t2 0 ∧ wp_X3_lend ad G t2 a b X K :=
  have w : mAll ad G 8 a b 0 0 t2 X K := sm_all h hk (by decide) k
  ⟨h.is, w⟩
theorem sm3_9 (h : MI G t2 P) (hk : hK (aF P)) {a : Int32} (k : ∀ G', MR G t2 (aDo P (pOp 9 a 0 0 0 (aF P))) (pOp 9 a 0 0 0 (aF P)).1 G' → K (qA (pOp 9 a 0 0 0 (aF P))) G') : gIs G t2 0 ∧ wp_X3_fund ad G t2 a X K :=
  have w : mAll ad G 9 a 0 0 0 t2 X K := sm_all h hk (by decide) k
  ⟨h.is, w⟩
theorem sm3_10 (h : MI G t2 P) (hk : hK (aF P)) {a : Int32} (k : ∀ G', MR G t2 (aDo P (pOp 10 a 0 0 0 (aF P))) (pOp 10 a 0 0 0 (aF P)).1 G' → K (qA (pOp 10 a 0 0 0 (aF P))) G') : gIs G t2 0 ∧ wp_X3_spend ad G t2 a X K :=
  have w : mAll ad G 10 a 0 0 0 t2 X K := sm_all h hk (by decide) k
  ⟨h.is, w⟩
theorem sm3_11 (h : MI G t2 P) (hk : hK (aF P)) {a : Int32} (k : ∀ G', MR G t2 (aDo P (pOp 11 a 0 0 0 (aF P))) (pOp 11 a 0 0 0 (aF P)).1 G' → K (qA (pOp 11 a 0 0 0 (aF P))) G') : gIs G t2 0 ∧ wp_X3_passNights ad G t2 a X K :=
  have w : mAll ad G 11 a 0 0 0 t2 X K := sm_all h hk (by decide) k
  ⟨h.is, w⟩
theorem law_0 (h : LI ad G k c1 t1 t2 t3 t4 s n P) (hn : 5 * k + 5 ≤ n) (hn2 : n ≤ 120) (hJ : ∀ G' P', LI ad G' (k + 1) c1 t1 t2 t3 t4 s n P' → J28 G' (some c1) t1 t2 t3 t4 (nI (5 * k) + (5 : Int32))) : wAldI G c1 ((nI (5 * k)) + (1 : Int32)) fun i4 => wp_X0_addGoblin ad G (some t1) i4 (some t3) X (fun r6 G5 => wAldI G5 c1 ((nI (5 * k)) + (1 : Int32)) fun i7 => (gIs G5 t2 0 ∧ wp_X3_addGoblin ad G5 t2 i7 X (fun r9 G8 => (gIs G8 t2 0 ∧ wp_X3_thrown ad G8 t2  X (fun r11 G10 => (r11 = r6 → (¬ r6 = (0 : Int32) → wp_L_law_341 ad X K J28 G10 c1 t1 t2 t3 t4 (nI (5 * k))) ∧ (r6 = (0 : Int32) → wAldL G10 t3 (0 : Int32) fun i12 => ((lg_cmp i12 ((r9).toInt64)) = (0 : Int32) → wp_L_law_341 ad X K J28 G10 c1 t1 t2 t3 t4 (nI (5 * k))) ∧ (¬ (lg_cmp i12 ((r9).toInt64)) = (0 : Int32) → K (0 : Int32) G10))) ∧ (¬ r11 = r6 → K (0 : Int32) G10)))))) := by
  have hR := h.r hn hn2
  have hN := fun (tx c : Nat) (P' : pA) (G5 G8 : gS) (τ : Int32) => h.next (tx := tx) (c := c) (P' := P') (G5 := G5) (G8 := G8) (τ := τ) hn hn2
  obtain ⟨hk, hb, ⟨c, hc, hct⟩, hm, ⟨g3, h3⟩, h4, hs, -⟩ := h
  have hki : hK (aF P) := by
    obtain ⟨_, _, _, _, _, _, ⟨_, hi⟩, _⟩ := hc
    exact hi.1.k
  refine sc1 hs hn hn2 (sp_X0_addGoblin hb hc (by omega) (hR.le (by omega)) h3 fun G5 x => ?_)
  have hs5 := x.1.old (Or.inl ⟨_, _, h3⟩) hs
  have hm5 := x.1.mi (Or.inl ⟨_, _, h3⟩) hm
  refine sc1 hs5 hn hn2 (sm3_0 hm5 hki fun G8 m8 => ?_)
  obtain ⟨xf, g5, h5, e5⟩ := x
  refine sp_tail m8 rfl (m8.1.l h5) (fun e => ?_) ?_
  · rw [e5 e, qA, if_pos e]
  · exact hJ _ _ (hN t3 _ _ _ _ _ xf (Or.inl ⟨_, _, h3⟩) ⟨_, h5⟩ (xf.d h3 h4) m8 (by rw [aDo_T]; omega))
theorem law_1 (h : LI ad G k c1 t1 t2 t3 t4 s n P) (hn : 5 * k + 5 ≤ n) (hn2 : n ≤ 120) (hJ : ∀ G' P', LI ad G' (k + 1) c1 t1 t2 t3 t4 s n P' → J28 G' (some c1) t1 t2 t3 t4 (nI (5 * k) + (5 : Int32))) : wAldI G c1 ((nI (5 * k)) + (1 : Int32)) fun i13 => wp_X0_addBroom ad G (some t1) i13 (some t3) X (fun r15 G14 => wAldI G14 c1 ((nI (5 * k)) + (1 : Int32)) fun i16 => (gIs G14 t2 0 ∧ wp_X3_addBroom ad G14 t2 i16 X (fun r18 G17 => (gIs G17 t2 0 ∧ wp_X3_thrown ad G17 t2  X (fun r20 G19 => (r20 = r15 → (¬ r15 = (0 : Int32) → wp_L_law_397 ad X K J28 G19 c1 t1 t2 t3 t4 (nI (5 * k))) ∧ (r15 = (0 : Int32) → wAldL G19 t3 (0 : Int32) fun i21 => ((lg_cmp i21 ((r18).toInt64)) = (0 : Int32) → wp_L_law_397 ad X K J28 G19 c1 t1 t2 t3 t4 (nI (5 * k))) ∧ (¬ (lg_cmp i21 ((r18).toInt64)) = (0 : Int32) → K (0 : Int32) G19))) ∧ (¬ r20 = r15 → K (0 : Int32) G19)))))) := by
  have hR := h.r hn hn2
  have hN := fun (tx c : Nat) (P' : pA) (G5 G8 : gS) (τ : Int32) => h.next (tx := tx) (c := c) (P' := P') (G5 := G5) (G8 := G8) (τ := τ) hn hn2
  obtain ⟨hk, hb, ⟨c, hc, hct⟩, hm, ⟨g3, h3⟩, h4, hs, -⟩ := h
  have hki : hK (aF P) := by
    obtain ⟨_, _, _, _, _, _, ⟨_, hi⟩, _⟩ := hc
    exact hi.1.k
  refine sc1 hs hn hn2 (sp_X0_addBroom hb hc (by omega) (hR.le (by omega)) h3 fun G5 x => ?_)
  have hs5 := x.1.old (Or.inl ⟨_, _, h3⟩) hs
  have hm5 := x.1.mi (Or.inl ⟨_, _, h3⟩) hm
  refine sc1 hs5 hn hn2 (sm3_1 hm5 hki fun G8 m8 => ?_)
  obtain ⟨xf, g5, h5, e5⟩ := x
  refine sp_tail m8 rfl (m8.1.l h5) (fun e => ?_) ?_
  · rw [e5 e, qA, if_pos e]
  · exact hJ _ _ (hN t3 _ _ _ _ _ xf (Or.inl ⟨_, _, h3⟩) ⟨_, h5⟩ (xf.d h3 h4) m8 (by rw [aDo_T]; omega))
theorem law_2 (h : LI ad G k c1 t1 t2 t3 t4 s n P) (hn : 5 * k + 5 ≤ n) (hn2 : n ≤ 120) (hJ : ∀ G' P', LI ad G' (k + 1) c1 t1 t2 t3 t4 s n P' → J28 G' (some c1) t1 t2 t3 t4 (nI (5 * k) + (5 : Int32))) : wAldI G c1 ((nI (5 * k)) + (1 : Int32)) fun i22 => wp_X0_banishBroom ad G (some t1) i22 (some t3) X (fun r24 G23 => wAldI G23 c1 ((nI (5 * k)) + (1 : Int32)) fun i25 => (gIs G23 t2 0 ∧ wp_X3_banishBroom ad G23 t2 i25 X (fun r27 G26 => (gIs G26 t2 0 ∧ wp_X3_thrown ad G26 t2  X (fun r29 G28 => (r29 = r24 → (¬ r24 = (0 : Int32) → wp_L_law_453 ad X K J28 G28 c1 t1 t2 t3 t4 (nI (5 * k))) ∧ (r24 = (0 : Int32) → wAldL G28 t3 (0 : Int32) fun i30 => ((lg_cmp i30 ((r27).toInt64)) = (0 : Int32) → wp_L_law_453 ad X K J28 G28 c1 t1 t2 t3 t4 (nI (5 * k))) ∧ (¬ (lg_cmp i30 ((r27).toInt64)) = (0 : Int32) → K (0 : Int32) G28))) ∧ (¬ r29 = r24 → K (0 : Int32) G28)))))) := by
  have hR := h.r hn hn2
  have hN := fun (tx c : Nat) (P' : pA) (G5 G8 : gS) (τ : Int32) => h.next (tx := tx) (c := c) (P' := P') (G5 := G5) (G8 := G8) (τ := τ) hn hn2
  obtain ⟨hk, hb, ⟨c, hc, hct⟩, hm, ⟨g3, h3⟩, h4, hs, -⟩ := h
  have hki : hK (aF P) := by
    obtain ⟨_, _, _, _, _, _, ⟨_, hi⟩, _⟩ := hc
    exact hi.1.k
  refine sc1 hs hn hn2 (sp_X0_banishBroom hb hc (by omega) (hR.le (by omega)) h3 fun G5 x => ?_)
  have hs5 := x.1.old (Or.inl ⟨_, _, h3⟩) hs
  have hm5 := x.1.mi (Or.inl ⟨_, _, h3⟩) hm
  refine sc1 hs5 hn hn2 (sm3_2 hm5 hki fun G8 m8 => ?_)
  obtain ⟨xf, g5, h5, e5⟩ := x
  refine sp_tail m8 rfl (m8.1.l h5) (fun e => ?_) ?_
  · rw [e5 e, qA, if_pos e]
  · exact hJ _ _ (hN t3 _ _ _ _ _ xf (Or.inl ⟨_, _, h3⟩) ⟨_, h5⟩ (xf.d h3 h4) m8 (by rw [aDo_T]; omega))
theorem law_3 (h : LI ad G k c1 t1 t2 t3 t4 s n P) (hn : 5 * k + 5 ≤ n) (hn2 : n ≤ 120) (hJ : ∀ G' P', LI ad G' (k + 1) c1 t1 t2 t3 t4 s n P' → J28 G' (some c1) t1 t2 t3 t4 (nI (5 * k) + (5 : Int32))) : wAldI G c1 ((nI (5 * k)) + (1 : Int32)) fun i31 => wp_X0_recallBroom ad G (some t1) i31 (some t3) X (fun r33 G32 => wAldI G32 c1 ((nI (5 * k)) + (1 : Int32)) fun i34 => (gIs G32 t2 0 ∧ wp_X3_recallBroom ad G32 t2 i34 X (fun r36 G35 => (gIs G35 t2 0 ∧ wp_X3_thrown ad G35 t2  X (fun r38 G37 => (r38 = r33 → (¬ r33 = (0 : Int32) → wp_L_law_509 ad X K J28 G37 c1 t1 t2 t3 t4 (nI (5 * k))) ∧ (r33 = (0 : Int32) → wAldL G37 t3 (0 : Int32) fun i39 => ((lg_cmp i39 ((r36).toInt64)) = (0 : Int32) → wp_L_law_509 ad X K J28 G37 c1 t1 t2 t3 t4 (nI (5 * k))) ∧ (¬ (lg_cmp i39 ((r36).toInt64)) = (0 : Int32) → K (0 : Int32) G37))) ∧ (¬ r38 = r33 → K (0 : Int32) G37)))))) := by
  have hR := h.r hn hn2
  have hN := fun (tx c : Nat) (P' : pA) (G5 G8 : gS) (τ : Int32) => h.next (tx := tx) (c := c) (P' := P') (G5 := G5) (G8 := G8) (τ := τ) hn hn2
  obtain ⟨hk, hb, ⟨c, hc, hct⟩, hm, ⟨g3, h3⟩, h4, hs, -⟩ := h
  have hki : hK (aF P) := by
    obtain ⟨_, _, _, _, _, _, ⟨_, hi⟩, _⟩ := hc
    exact hi.1.k
  refine sc1 hs hn hn2 (sp_X0_recallBroom hb hc (by omega) (hR.le (by omega)) h3 fun G5 x => ?_)
  have hs5 := x.1.old (Or.inl ⟨_, _, h3⟩) hs
  have hm5 := x.1.mi (Or.inl ⟨_, _, h3⟩) hm
  refine sc1 hs5 hn hn2 (sm3_3 hm5 hki fun G8 m8 => ?_)
  obtain ⟨xf, g5, h5, e5⟩ := x
  refine sp_tail m8 rfl (m8.1.l h5) (fun e => ?_) ?_
  · rw [e5 e, qA, if_pos e]
  · exact hJ _ _ (hN t3 _ _ _ _ _ xf (Or.inl ⟨_, _, h3⟩) ⟨_, h5⟩ (xf.d h3 h4) m8 (by rw [aDo_T]; omega))
theorem law_4 (h : LI ad G k c1 t1 t2 t3 t4 s n P) (hn : 5 * k + 5 ≤ n) (hn2 : n ≤ 120) (hJ : ∀ G' P', LI ad G' (k + 1) c1 t1 t2 t3 t4 s n P' → J28 G' (some c1) t1 t2 t3 t4 (nI (5 * k) + (5 : Int32))) : wAldI G c1 ((nI (5 * k)) + (1 : Int32)) fun i40 => wAldI G c1 ((nI (5 * k)) + (2 : Int32)) fun i41 => wAldI G c1 ((nI (5 * k)) + (3 : Int32)) fun i42 => wAldI G c1 ((nI (5 * k)) + (4 : Int32)) fun i43 => wp_X0_hire ad G (some t1) i40 i41 i42 i43 (some t3) X (fun r45 G44 => wAldI G44 c1 ((nI (5 * k)) + (1 : Int32)) fun i46 => wAldI G44 c1 ((nI (5 * k)) + (2 : Int32)) fun i47 => wAldI G44 c1 ((nI (5 * k)) + (3 : Int32)) fun i48 => wAldI G44 c1 ((nI (5 * k)) + (4 : Int32)) fun i49 => (gIs G44 t2 0 ∧ wp_X3_hire ad G44 t2 i46 i47 i48 i49 X (fun r51 G50 => (gIs G50 t2 0 ∧ wp_X3_thrown ad G50 t2  X (fun r53 G52 => (r53 = r45 → (¬ r45 = (0 : Int32) → wp_L_law_601 ad X K J28 G52 c1 t1 t2 t3 t4 (nI (5 * k))) ∧ (r45 = (0 : Int32) → wAldL G52 t3 (0 : Int32) fun i54 => ((lg_cmp i54 ((r51).toInt64)) = (0 : Int32) → wp_L_law_601 ad X K J28 G52 c1 t1 t2 t3 t4 (nI (5 * k))) ∧ (¬ (lg_cmp i54 ((r51).toInt64)) = (0 : Int32) → K (0 : Int32) G52))) ∧ (¬ r53 = r45 → K (0 : Int32) G52)))))) := by
  have hR := h.r hn hn2
  have hN := fun (tx c : Nat) (P' : pA) (G5 G8 : gS) (τ : Int32) => h.next (tx := tx) (c := c) (P' := P') (G5 := G5) (G8 := G8) (τ := τ) hn hn2
  obtain ⟨hk, hb, ⟨c, hc, hct⟩, hm, ⟨g3, h3⟩, h4, hs, -⟩ := h
  have hki : hK (aF P) := by
    obtain ⟨_, _, _, _, _, _, ⟨_, hi⟩, _⟩ := hc
    exact hi.1.k
  refine sc1 hs hn hn2 (sc2 hs hn hn2 (sc3 hs hn hn2 (sc4 hs hn hn2 (sp_X0_hire hb hc (by omega) (hR.le (by omega)) h3 fun G5 x => ?_))))
  have hs5 := x.1.old (Or.inl ⟨_, _, h3⟩) hs
  have hm5 := x.1.mi (Or.inl ⟨_, _, h3⟩) hm
  refine sc1 hs5 hn hn2 (sc2 hs5 hn hn2 (sc3 hs5 hn hn2 (sc4 hs5 hn hn2 (sm3_4 hm5 hki fun G8 m8 => ?_))))
  obtain ⟨xf, g5, h5, e5⟩ := x
  refine sp_tail m8 rfl (m8.1.l h5) (fun e => ?_) ?_
  · rw [e5 e, qA, if_pos e]
  · exact hJ _ _ (hN t3 _ _ _ _ _ xf (Or.inl ⟨_, _, h3⟩) ⟨_, h5⟩ (xf.d h3 h4) m8 (by rw [aDo_T]; omega))
theorem law_5 (h : LI ad G k c1 t1 t2 t3 t4 s n P) (hn : 5 * k + 5 ≤ n) (hn2 : n ≤ 120) (hJ : ∀ G' P', LI ad G' (k + 1) c1 t1 t2 t3 t4 s n P' → J28 G' (some c1) t1 t2 t3 t4 (nI (5 * k) + (5 : Int32))) : wAldI G c1 ((nI (5 * k)) + (1 : Int32)) fun i55 => wp_X0_cancelContract ad G (some t1) i55 (some t3) X (fun r57 G56 => wAldI G56 c1 ((nI (5 * k)) + (1 : Int32)) fun i58 => (gIs G56 t2 0 ∧ wp_X3_cancelContract ad G56 t2 i58 X (fun r60 G59 => (gIs G59 t2 0 ∧ wp_X3_thrown ad G59 t2  X (fun r62 G61 => (r62 = r57 → (¬ r57 = (0 : Int32) → wp_L_law_657 ad X K J28 G61 c1 t1 t2 t3 t4 (nI (5 * k))) ∧ (r57 = (0 : Int32) → wAldL G61 t3 (0 : Int32) fun i63 => ((lg_cmp i63 ((r60).toInt64)) = (0 : Int32) → wp_L_law_657 ad X K J28 G61 c1 t1 t2 t3 t4 (nI (5 * k))) ∧ (¬ (lg_cmp i63 ((r60).toInt64)) = (0 : Int32) → K (0 : Int32) G61))) ∧ (¬ r62 = r57 → K (0 : Int32) G61)))))) := by
  have hR := h.r hn hn2
  have hN := fun (tx c : Nat) (P' : pA) (G5 G8 : gS) (τ : Int32) => h.next (tx := tx) (c := c) (P' := P') (G5 := G5) (G8 := G8) (τ := τ) hn hn2
  obtain ⟨hk, hb, ⟨c, hc, hct⟩, hm, ⟨g3, h3⟩, h4, hs, -⟩ := h
  have hki : hK (aF P) := by
    obtain ⟨_, _, _, _, _, _, ⟨_, hi⟩, _⟩ := hc
    exact hi.1.k
  refine sc1 hs hn hn2 (sp_X0_cancelContract hb hc (by omega) (hR.le (by omega)) h3 fun G5 x => ?_)
  have hs5 := x.1.old (Or.inl ⟨_, _, h3⟩) hs
  have hm5 := x.1.mi (Or.inl ⟨_, _, h3⟩) hm
  refine sc1 hs5 hn hn2 (sm3_5 hm5 hki fun G8 m8 => ?_)
  obtain ⟨xf, g5, h5, e5⟩ := x
  refine sp_tail m8 rfl (m8.1.l h5) (fun e => ?_) ?_
  · rw [e5 e, qA, if_pos e]
  · exact hJ _ _ (hN t3 _ _ _ _ _ xf (Or.inl ⟨_, _, h3⟩) ⟨_, h5⟩ (xf.d h3 h4) m8 (by rw [aDo_T]; omega))
theorem law_6 (h : LI ad G k c1 t1 t2 t3 t4 s n P) (hn : 5 * k + 5 ≤ n) (hn2 : n ≤ 120) (hJ : ∀ G' P', LI ad G' (k + 1) c1 t1 t2 t3 t4 s n P' → J28 G' (some c1) t1 t2 t3 t4 (nI (5 * k) + (5 : Int32))) : wAldI G c1 ((nI (5 * k)) + (1 : Int32)) fun i64 => wp_X0_rest ad G (some t1) i64 (some t3) X (fun r66 G65 => wAldI G65 c1 ((nI (5 * k)) + (1 : Int32)) fun i67 => (gIs G65 t2 0 ∧ wp_X3_rest ad G65 t2 i67 X (fun r69 G68 => (gIs G68 t2 0 ∧ wp_X3_thrown ad G68 t2  X (fun r71 G70 => (r71 = r66 → (¬ r66 = (0 : Int32) → wp_L_law_713 ad X K J28 G70 c1 t1 t2 t3 t4 (nI (5 * k))) ∧ (r66 = (0 : Int32) → wAldL G70 t3 (0 : Int32) fun i72 => ((lg_cmp i72 ((r69).toInt64)) = (0 : Int32) → wp_L_law_713 ad X K J28 G70 c1 t1 t2 t3 t4 (nI (5 * k))) ∧ (¬ (lg_cmp i72 ((r69).toInt64)) = (0 : Int32) → K (0 : Int32) G70))) ∧ (¬ r71 = r66 → K (0 : Int32) G70)))))) := by
  have hR := h.r hn hn2
  have hN := fun (tx c : Nat) (P' : pA) (G5 G8 : gS) (τ : Int32) => h.next (tx := tx) (c := c) (P' := P') (G5 := G5) (G8 := G8) (τ := τ) hn hn2
  obtain ⟨hk, hb, ⟨c, hc, hct⟩, hm, ⟨g3, h3⟩, h4, hs, -⟩ := h
  have hki : hK (aF P) := by
    obtain ⟨_, _, _, _, _, _, ⟨_, hi⟩, _⟩ := hc
    exact hi.1.k
  refine sc1 hs hn hn2 (sp_X0_rest hb hc (by omega) (hR.le (by omega)) h3 fun G5 x => ?_)
  have hs5 := x.1.old (Or.inl ⟨_, _, h3⟩) hs
  have hm5 := x.1.mi (Or.inl ⟨_, _, h3⟩) hm
  refine sc1 hs5 hn hn2 (sm3_6 hm5 hki fun G8 m8 => ?_)
  obtain ⟨xf, g5, h5, e5⟩ := x
  refine sp_tail m8 rfl (m8.1.l h5) (fun e => ?_) ?_
  · rw [e5 e, qA, if_pos e]
  · exact hJ _ _ (hN t3 _ _ _ _ _ xf (Or.inl ⟨_, _, h3⟩) ⟨_, h5⟩ (xf.d h3 h4) m8 (by rw [aDo_T]; omega))
theorem law_7 (h : LI ad G k c1 t1 t2 t3 t4 s n P) (hn : 5 * k + 5 ≤ n) (hn2 : n ≤ 120) (hJ : ∀ G' P', LI ad G' (k + 1) c1 t1 t2 t3 t4 s n P' → J28 G' (some c1) t1 t2 t3 t4 (nI (5 * k) + (5 : Int32))) : wAldI G c1 ((nI (5 * k)) + (1 : Int32)) fun i73 => wp_X0_wake ad G (some t1) i73 (some t3) X (fun r75 G74 => wAldI G74 c1 ((nI (5 * k)) + (1 : Int32)) fun i76 => (gIs G74 t2 0 ∧ wp_X3_wake ad G74 t2 i76 X (fun r78 G77 => (gIs G77 t2 0 ∧ wp_X3_thrown ad G77 t2  X (fun r80 G79 => (r80 = r75 → (¬ r75 = (0 : Int32) → wp_L_law_769 ad X K J28 G79 c1 t1 t2 t3 t4 (nI (5 * k))) ∧ (r75 = (0 : Int32) → wAldL G79 t3 (0 : Int32) fun i81 => ((lg_cmp i81 ((r78).toInt64)) = (0 : Int32) → wp_L_law_769 ad X K J28 G79 c1 t1 t2 t3 t4 (nI (5 * k))) ∧ (¬ (lg_cmp i81 ((r78).toInt64)) = (0 : Int32) → K (0 : Int32) G79))) ∧ (¬ r80 = r75 → K (0 : Int32) G79)))))) := by
  have hR := h.r hn hn2
  have hN := fun (tx c : Nat) (P' : pA) (G5 G8 : gS) (τ : Int32) => h.next (tx := tx) (c := c) (P' := P') (G5 := G5) (G8 := G8) (τ := τ) hn hn2
  obtain ⟨hk, hb, ⟨c, hc, hct⟩, hm, ⟨g3, h3⟩, h4, hs, -⟩ := h
  have hki : hK (aF P) := by
    obtain ⟨_, _, _, _, _, _, ⟨_, hi⟩, _⟩ := hc
    exact hi.1.k
  refine sc1 hs hn hn2 (sp_X0_wake hb hc (by omega) (hR.le (by omega)) h3 fun G5 x => ?_)
  have hs5 := x.1.old (Or.inl ⟨_, _, h3⟩) hs
  have hm5 := x.1.mi (Or.inl ⟨_, _, h3⟩) hm
  refine sc1 hs5 hn hn2 (sm3_7 hm5 hki fun G8 m8 => ?_)
  obtain ⟨xf, g5, h5, e5⟩ := x
  refine sp_tail m8 rfl (m8.1.l h5) (fun e => ?_) ?_
  · rw [e5 e, qA, if_pos e]
  · exact hJ _ _ (hN t3 _ _ _ _ _ xf (Or.inl ⟨_, _, h3⟩) ⟨_, h5⟩ (xf.d h3 h4) m8 (by rw [aDo_T]; omega))
theorem law_8 (h : LI ad G k c1 t1 t2 t3 t4 s n P) (hn : 5 * k + 5 ≤ n) (hn2 : n ≤ 120) (hJ : ∀ G' P', LI ad G' (k + 1) c1 t1 t2 t3 t4 s n P' → J28 G' (some c1) t1 t2 t3 t4 (nI (5 * k) + (5 : Int32))) : wAldI G c1 ((nI (5 * k)) + (1 : Int32)) fun i82 => wAldI G c1 ((nI (5 * k)) + (2 : Int32)) fun i83 => wp_X0_lend ad G (some t1) i82 i83 (some t3) X (fun r85 G84 => wAldI G84 c1 ((nI (5 * k)) + (1 : Int32)) fun i86 => wAldI G84 c1 ((nI (5 * k)) + (2 : Int32)) fun i87 => (gIs G84 t2 0 ∧ wp_X3_lend ad G84 t2 i86 i87 X (fun r89 G88 => (gIs G88 t2 0 ∧ wp_X3_thrown ad G88 t2  X (fun r91 G90 => (r91 = r85 → (¬ r85 = (0 : Int32) → wp_L_law_837 ad X K J28 G90 c1 t1 t2 t3 t4 (nI (5 * k))) ∧ (r85 = (0 : Int32) → wAldL G90 t3 (0 : Int32) fun i92 => ((lg_cmp i92 ((r89).toInt64)) = (0 : Int32) → wp_L_law_837 ad X K J28 G90 c1 t1 t2 t3 t4 (nI (5 * k))) ∧ (¬ (lg_cmp i92 ((r89).toInt64)) = (0 : Int32) → K (0 : Int32) G90))) ∧ (¬ r91 = r85 → K (0 : Int32) G90)))))) := by
  have hR := h.r hn hn2
  have hN := fun (tx c : Nat) (P' : pA) (G5 G8 : gS) (τ : Int32) => h.next (tx := tx) (c := c) (P' := P') (G5 := G5) (G8 := G8) (τ := τ) hn hn2
  obtain ⟨hk, hb, ⟨c, hc, hct⟩, hm, ⟨g3, h3⟩, h4, hs, -⟩ := h
  have hki : hK (aF P) := by
    obtain ⟨_, _, _, _, _, _, ⟨_, hi⟩, _⟩ := hc
    exact hi.1.k
  refine sc1 hs hn hn2 (sc2 hs hn hn2 (sp_X0_lend hb hc (by omega) (hR.le (by omega)) h3 fun G5 x => ?_))
  have hs5 := x.1.old (Or.inl ⟨_, _, h3⟩) hs
  have hm5 := x.1.mi (Or.inl ⟨_, _, h3⟩) hm
  refine sc1 hs5 hn hn2 (sc2 hs5 hn hn2 (sm3_8 hm5 hki fun G8 m8 => ?_))
  obtain ⟨xf, g5, h5, e5⟩ := x
  refine sp_tail m8 rfl (m8.1.l h5) (fun e => ?_) ?_
  · rw [e5 e, qA, if_pos e]
  · exact hJ _ _ (hN t3 _ _ _ _ _ xf (Or.inl ⟨_, _, h3⟩) ⟨_, h5⟩ (xf.d h3 h4) m8 (by rw [aDo_T]; omega))
theorem law_9 (h : LI ad G k c1 t1 t2 t3 t4 s n P) (hn : 5 * k + 5 ≤ n) (hn2 : n ≤ 120) (hJ : ∀ G' P', LI ad G' (k + 1) c1 t1 t2 t3 t4 s n P' → J28 G' (some c1) t1 t2 t3 t4 (nI (5 * k) + (5 : Int32))) : wAldI G c1 ((nI (5 * k)) + (1 : Int32)) fun i93 => wp_X0_fund ad G (some t1) i93 (some t3) X (fun r95 G94 => wAldI G94 c1 ((nI (5 * k)) + (1 : Int32)) fun i96 => (gIs G94 t2 0 ∧ wp_X3_fund ad G94 t2 i96 X (fun r98 G97 => (gIs G97 t2 0 ∧ wp_X3_thrown ad G97 t2  X (fun r100 G99 => (r100 = r95 → (¬ r95 = (0 : Int32) → wp_L_law_893 ad X K J28 G99 c1 t1 t2 t3 t4 (nI (5 * k))) ∧ (r95 = (0 : Int32) → wAldL G99 t3 (0 : Int32) fun i101 => ((lg_cmp i101 ((r98).toInt64)) = (0 : Int32) → wp_L_law_893 ad X K J28 G99 c1 t1 t2 t3 t4 (nI (5 * k))) ∧ (¬ (lg_cmp i101 ((r98).toInt64)) = (0 : Int32) → K (0 : Int32) G99))) ∧ (¬ r100 = r95 → K (0 : Int32) G99)))))) := by
  have hR := h.r hn hn2
  have hN := fun (tx c : Nat) (P' : pA) (G5 G8 : gS) (τ : Int32) => h.next (tx := tx) (c := c) (P' := P') (G5 := G5) (G8 := G8) (τ := τ) hn hn2
  obtain ⟨hk, hb, ⟨c, hc, hct⟩, hm, ⟨g3, h3⟩, h4, hs, -⟩ := h
  have hki : hK (aF P) := by
    obtain ⟨_, _, _, _, _, _, ⟨_, hi⟩, _⟩ := hc
    exact hi.1.k
  refine sc1 hs hn hn2 (sp_X0_fund hb hc (by omega) (hR.le (by omega)) h3 fun G5 x => ?_)
  have hs5 := x.1.old (Or.inl ⟨_, _, h3⟩) hs
  have hm5 := x.1.mi (Or.inl ⟨_, _, h3⟩) hm
  refine sc1 hs5 hn hn2 (sm3_9 hm5 hki fun G8 m8 => ?_)
  obtain ⟨xf, g5, h5, e5⟩ := x
  refine sp_tail m8 rfl (m8.1.l h5) (fun e => ?_) ?_
  · rw [e5 e, qA, if_pos e]
  · exact hJ _ _ (hN t3 _ _ _ _ _ xf (Or.inl ⟨_, _, h3⟩) ⟨_, h5⟩ (xf.d h3 h4) m8 (by rw [aDo_T]; omega))
theorem law_10 (h : LI ad G k c1 t1 t2 t3 t4 s n P) (hn : 5 * k + 5 ≤ n) (hn2 : n ≤ 120) (hJ : ∀ G' P', LI ad G' (k + 1) c1 t1 t2 t3 t4 s n P' → J28 G' (some c1) t1 t2 t3 t4 (nI (5 * k) + (5 : Int32))) : wAldI G c1 ((nI (5 * k)) + (1 : Int32)) fun i102 => wp_X0_spend ad G (some t1) i102 (some t3) X (fun r104 G103 => wAldI G103 c1 ((nI (5 * k)) + (1 : Int32)) fun i105 => (gIs G103 t2 0 ∧ wp_X3_spend ad G103 t2 i105 X (fun r107 G106 => (gIs G106 t2 0 ∧ wp_X3_thrown ad G106 t2  X (fun r109 G108 => (r109 = r104 → (¬ r104 = (0 : Int32) → wp_L_law_949 ad X K J28 G108 c1 t1 t2 t3 t4 (nI (5 * k))) ∧ (r104 = (0 : Int32) → wAldL G108 t3 (0 : Int32) fun i110 => ((lg_cmp i110 ((r107).toInt64)) = (0 : Int32) → wp_L_law_949 ad X K J28 G108 c1 t1 t2 t3 t4 (nI (5 * k))) ∧ (¬ (lg_cmp i110 ((r107).toInt64)) = (0 : Int32) → K (0 : Int32) G108))) ∧ (¬ r109 = r104 → K (0 : Int32) G108)))))) := by
  have hR := h.r hn hn2
  have hN := fun (tx c : Nat) (P' : pA) (G5 G8 : gS) (τ : Int32) => h.next (tx := tx) (c := c) (P' := P') (G5 := G5) (G8 := G8) (τ := τ) hn hn2
  obtain ⟨hk, hb, ⟨c, hc, hct⟩, hm, ⟨g3, h3⟩, h4, hs, -⟩ := h
  have hki : hK (aF P) := by
    obtain ⟨_, _, _, _, _, _, ⟨_, hi⟩, _⟩ := hc
    exact hi.1.k
  refine sc1 hs hn hn2 (sp_X0_spend hb hc (by omega) (hR.le (by omega)) h3 fun G5 x => ?_)
  have hs5 := x.1.old (Or.inl ⟨_, _, h3⟩) hs
  have hm5 := x.1.mi (Or.inl ⟨_, _, h3⟩) hm
  refine sc1 hs5 hn hn2 (sm3_10 hm5 hki fun G8 m8 => ?_)
  obtain ⟨xf, g5, h5, e5⟩ := x
  refine sp_tail m8 rfl (m8.1.l h5) (fun e => ?_) ?_
  · rw [e5 e, qA, if_pos e]
  · exact hJ _ _ (hN t3 _ _ _ _ _ xf (Or.inl ⟨_, _, h3⟩) ⟨_, h5⟩ (xf.d h3 h4) m8 (by rw [aDo_T]; omega))
theorem law_11 (h : LI ad G k c1 t1 t2 t3 t4 s n P) (hn : 5 * k + 5 ≤ n) (hn2 : n ≤ 120) (hJ : ∀ G' P', LI ad G' (k + 1) c1 t1 t2 t3 t4 s n P' → J28 G' (some c1) t1 t2 t3 t4 (nI (5 * k) + (5 : Int32))) : wAldI G c1 ((nI (5 * k)) + (1 : Int32)) fun i111 => wp_X0_passNights ad G (some t1) i111 (some t3) X (fun r113 G112 => wAldI G112 c1 ((nI (5 * k)) + (1 : Int32)) fun i114 => (gIs G112 t2 0 ∧ wp_X3_passNights ad G112 t2 i114 X (fun r116 G115 => (gIs G115 t2 0 ∧ wp_X3_thrown ad G115 t2  X (fun r118 G117 => (r118 = r113 → (¬ r113 = (0 : Int32) → wp_L_law_1005 ad X K J28 G117 c1 t1 t2 t3 t4 (nI (5 * k))) ∧ (r113 = (0 : Int32) → wAldL G117 t3 (0 : Int32) fun i119 => ((lg_cmp i119 ((r116).toInt64)) = (0 : Int32) → wp_L_law_1005 ad X K J28 G117 c1 t1 t2 t3 t4 (nI (5 * k))) ∧ (¬ (lg_cmp i119 ((r116).toInt64)) = (0 : Int32) → K (0 : Int32) G117))) ∧ (¬ r118 = r113 → K (0 : Int32) G117)))))) := by
  have hR := h.r hn hn2
  have hN := fun (tx c : Nat) (P' : pA) (G5 G8 : gS) (τ : Int32) => h.next (tx := tx) (c := c) (P' := P') (G5 := G5) (G8 := G8) (τ := τ) hn hn2
  obtain ⟨hk, hb, ⟨c, hc, hct⟩, hm, ⟨g3, h3⟩, h4, hs, -⟩ := h
  have hki : hK (aF P) := by
    obtain ⟨_, _, _, _, _, _, ⟨_, hi⟩, _⟩ := hc
    exact hi.1.k
  refine sc1 hs hn hn2 (sp_X0_passNights hb hc (by omega) (hR.le (by omega)) h3 fun G5 x => ?_)
  have hs5 := x.1.old (Or.inl ⟨_, _, h3⟩) hs
  have hm5 := x.1.mi (Or.inl ⟨_, _, h3⟩) hm
  refine sc1 hs5 hn hn2 (sm3_11 hm5 hki fun G8 m8 => ?_)
  obtain ⟨xf, g5, h5, e5⟩ := x
  refine sp_tail m8 rfl (m8.1.l h5) (fun e => ?_) ?_
  · rw [e5 e, qA, if_pos e]
  · exact hJ _ _ (hN t3 _ _ _ _ _ xf (Or.inl ⟨_, _, h3⟩) ⟨_, h5⟩ (xf.d h3 h4) m8 (by rw [aDo_T]; omega))
end LW
