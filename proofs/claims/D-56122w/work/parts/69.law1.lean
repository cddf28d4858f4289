/-! PURE: the law: questions (printed by gen/law1.py) -/
set_option maxRecDepth 20000
section LW
variable {ad : Nat → Nat} {G G' : gS} {k c1 t1 t2 t3 t4 n c tx : Nat} {s : Nat → Int32} {P P' : pA} {X : Nat → gS → Prop} {K : Int32 → gS → Prop} {J28 : gS → Option Nat → Nat → Nat → Nat → Nat → Int32 → Prop}
variable {B : Nat → Nat} {I : Nat → Int32} {V : Nat → Nat → Int32} {x y : Int32}
theorem mP.t14 {τ : Int32} (h : mP I V P) : mP (upd I 14 τ) V P := by
  obtain ⟨⟨a1, a2, a3⟩, ⟨b1, b2, b3⟩, hc⟩ := h
  refine ⟨⟨a1, ?_, a3⟩, ⟨?_, b2, b3⟩, hc.to (upd_ne (by decide)) (upd_ne (by decide)) (upd_ne (by decide)) (upd_ne (by decide)) rfl rfl rfl⟩
  · rw [upd_ne (by decide)]; exact a2
  · rw [upd_ne (by decide)]; exact b1
theorem mP.eq {V' : Nat → Nat → Int32} (h : mP I V P) (e : mEq V V') : mP I V' P := by
  obtain ⟨⟨a1, a2, a3⟩, ⟨b1, b2, b3⟩, hc⟩ := h
  refine ⟨⟨?_, a2, fun f hf => ?_⟩, ⟨b1, b2, fun i hi j => ?_⟩, hc.to rfl rfl rfl rfl (e _ (by decide) (by decide)) (e _ (by decide) (by decide)) rfl⟩
  · rw [e _ (by decide) (by decide)]; exact a1
  · rw [e _ (by decide) (by decide)]; exact a3 f hf
  · rw [e _ (by decide) (by decide)]; exact b3 i hi j
theorem MI.o (h : MI G t2 P) : ∃ B I V, mSt G t2 B G I (mar V 0 (aF P)) ∧ mP I (mar V 0 (aF P)) P := by
  obtain ⟨B, I, V, h, hp⟩ := h
  have e := hp.1.1
  refine ⟨B, I, V, ?_, ?_⟩ <;> rw [mar_eq e]
  · exact h
  · exact hp
theorem mq (h : mSt G t2 B G I V) (hp : mP I V P) {a : Bool} {v : Int32} {K : Int32 → gS → Prop} (k : ∀ G', MR G t2 P (qc a) G' → K (if a then v else 0) G') : mAns ad G t2 B I V a v K :=
  ⟨fun e G' h' => by subst e; exact k G' (MR.of h h' hp.t14 upd_self), fun e G' h' => by subst e; exact k G' (MR.of h h' hp.t14 upd_self)⟩
theorem xq0 (hc : CI ad G t1 c P) {g0 : Nat → Int64} (h3 : G.1 t3 = some (gAl true 1 g0)) (s : gF2 G G') {a : Bool} {v : Int32} (e : a = false) {R : Int32 → gS → Prop} (k : ∀ G5, XR ad G t1 t3 c P (qc a) v G5 → R (qc a) G5) : R 1 G' := by
  subst e
  exact xr_no hc h3 s (by decide) k
theorem xq1 (hc : CI ad G t1 c P) {g0 : Nat → Int64} (h3 : G.1 t3 = some (gAl true 1 g0)) (s : gF2 G G') {a : Bool} {v : Int32} {w : Int64} (hw : w = v.toInt64) (e : a = true) {R : Int32 → gS → Prop} (k : ∀ G5, XR ad G t1 t3 c P (qc a) v G5 → R (qc a) G5) : wNN (some t3) fun c6 => wAstL G' c6 (0 : Int32) w fun G7 => R 0 G7 := by
  subst e
  exact xr_yes hc h3 s hw k
theorem CI.hi (hc : CI ad G t1 c P) : hI (aF P) c := by
  obtain ⟨_, _, _, h, _⟩ := hc.hq
  exact h
theorem jC.e {f : pF} {c d : Nat} (h : hJ f c d) : ∀ k, k < nC f → nn f (55 + 5 * k) 20 ∧ 1 ≤ pN f (55 + 5 * k) := fun k hk => ⟨(h.2.2.2.2.1.1 k hk).2.2.2.2.1, (h.2.2.2.2.1.1 k hk).2.2.2.2.2⟩
theorem sp_X0_dust (hc : CI ad G t1 c P) (hR : rm G 200) {g0 : Nat → Int64} (h3 : G.1 t3 = some (gAl true 1 g0)) {K : Int32 → gS → Prop} (k : ∀ G5, XR ad G t1 t3 c P (qc (pIn x 0 5)) (aF P (12 + x.toNatClampNeg)) G5 → K (qc (pIn x 0 5)) G5) : wp_X0_dust ad G (some t1) x (some t3) X K := by
  unfold wp_X0_dust wp_X0_dust_12
  exact wNN_of ⟨hc.is, sp_X1_dust hc hR (fun e q G' s hh => ⟨hh, xq0 hc h3 s e k⟩) (fun e G' s => xq1 hc h3 s rfl e k)⟩
theorem sm3_dust (hm : MI G t2 P) (hi : hI (aF P) c) {K : Int32 → gS → Prop} (k : ∀ G', MR G t2 P (qc (pIn x 0 5)) G' → K (if (pIn x 0 5) then (aF P (12 + x.toNatClampNeg)) else 0) G') : gIs G t2 0 ∧ wp_X3_dust ad G t2 x X K := by
  obtain ⟨B, I, V, h, hp⟩ := hm.o
  refine ⟨h.is, ?_⟩
  skip
  exact sm_dust h (mq h hp k)
theorem law_12 (h : LI ad G k c1 t1 t2 t3 t4 s n P) (hn : 5 * k + 5 ≤ n) (hn2 : n ≤ 120) (hJ : ∀ G' P', LI ad G' (k + 1) c1 t1 t2 t3 t4 s n P' → J28 G' (some c1) t1 t2 t3 t4 (nI (5 * k) + (5 : Int32))) : wAldI G c1 ((nI (5 * k)) + (1 : Int32)) fun i120 => wp_X0_dust ad G (some t1) i120 (some t3) X (fun r122 G121 => wAldI G121 c1 ((nI (5 * k)) + (1 : Int32)) fun i123 => (gIs G121 t2 0 ∧ wp_X3_dust ad G121 t2 i123 X (fun r125 G124 => (gIs G124 t2 0 ∧ wp_X3_thrown ad G124 t2  X (fun r127 G126 => (r127 = r122 → (¬ r122 = (0 : Int32) → wp_L_law_1061 ad X K J28 G126 c1 t1 t2 t3 t4 (nI (5 * k))) ∧ (r122 = (0 : Int32) → wAldL G126 t3 (0 : Int32) fun i128 => ((lg_cmp i128 ((r125).toInt64)) = (0 : Int32) → wp_L_law_1061 ad X K J28 G126 c1 t1 t2 t3 t4 (nI (5 * k))) ∧ (¬ (lg_cmp i128 ((r125).toInt64)) = (0 : Int32) → K (0 : Int32) G126))) ∧ (¬ r127 = r122 → K (0 : Int32) G126)))))) := by
  have hR := h.r hn hn2
  have hN := fun (tx c : Nat) (P' : pA) (G5 G8 : gS) (τ : Int32) => h.next (tx := tx) (c := c) (P' := P') (G5 := G5) (G8 := G8) (τ := τ) hn hn2
  obtain ⟨hk, hb, ⟨c, hc, hct⟩, hm, ⟨g3, h3⟩, h4, hs, -⟩ := h
  have hi := hc.hi
  refine sc1 hs hn hn2 (sp_X0_dust hc (hR.le (by omega)) h3 fun G5 x => ?_)
  have hs5 := x.1.old (Or.inl ⟨_, _, h3⟩) hs
  have hm5 := x.1.mi (Or.inl ⟨_, _, h3⟩) hm
  refine sc1 hs5 hn hn2 (sm3_dust hm5 hi fun G8 m8 => ?_)
  obtain ⟨xf, g5, h5, e5⟩ := x
  refine sp_tail m8 rfl (m8.1.l h5) (fun e => ?_) ?_
  · rw [e5 e]
    have ea : (pIn (s (5 * k + 1)) 0 5) = true := by
      cases q : (pIn (s (5 * k + 1)) 0 5) with
      | true => rfl
      | false => rw [q] at e; exact absurd e (by decide)
    rw [if_pos ea]
  · exact hJ _ _ (hN t3 _ _ _ _ _ xf (Or.inl ⟨_, _, h3⟩) ⟨_, h5⟩ (xf.d h3 h4) m8 (by omega))
theorem sp_X0_roomByDust (hc : CI ad G t1 c P) (hR : rm G 200) {g0 : Nat → Int64} (h3 : G.1 t3 = some (gAl true 1 g0)) {K : Int32 → gS → Prop} (k : ∀ G5, XR ad G t1 t3 c P (qc (decide (pRoomRank (aF P) x ≠ none))) (oI (pRoomRank (aF P) x)) G5 → K (qc (decide (pRoomRank (aF P) x ≠ none))) G5) : wp_X0_roomByDust ad G (some t1) x (some t3) X K := by
  unfold wp_X0_roomByDust wp_X0_roomByDust_12
  exact wNN_of ⟨hc.is, sp_X1_roomByDust hc hR (fun e q G' s hh => ⟨hh, xq0 hc h3 s e k⟩) (fun e G' s => xq1 hc h3 s rfl e k)⟩
theorem sm3_roomByDust (hm : MI G t2 P) (hi : hI (aF P) c) {K : Int32 → gS → Prop} (k : ∀ G', MR G t2 P (qc (decide (pRoomRank (aF P) x ≠ none))) G' → K (if (decide (pRoomRank (aF P) x ≠ none)) then (oI (pRoomRank (aF P) x)) else 0) G') : gIs G t2 0 ∧ wp_X3_roomByDust ad G t2 x X K := by
  obtain ⟨B, I, V, h, hp⟩ := hm.o
  refine ⟨h.is, ?_⟩
  skip
  exact sm_roomByDust h hi.1.2.1 (mq h hp k)
theorem law_13 (h : LI ad G k c1 t1 t2 t3 t4 s n P) (hn : 5 * k + 5 ≤ n) (hn2 : n ≤ 120) (hJ : ∀ G' P', LI ad G' (k + 1) c1 t1 t2 t3 t4 s n P' → J28 G' (some c1) t1 t2 t3 t4 (nI (5 * k) + (5 : Int32))) : wAldI G c1 ((nI (5 * k)) + (1 : Int32)) fun i129 => wp_X0_roomByDust ad G (some t1) i129 (some t3) X (fun r131 G130 => wAldI G130 c1 ((nI (5 * k)) + (1 : Int32)) fun i132 => (gIs G130 t2 0 ∧ wp_X3_roomByDust ad G130 t2 i132 X (fun r134 G133 => (gIs G133 t2 0 ∧ wp_X3_thrown ad G133 t2  X (fun r136 G135 => (r136 = r131 → (¬ r131 = (0 : Int32) → wp_L_law_1117 ad X K J28 G135 c1 t1 t2 t3 t4 (nI (5 * k))) ∧ (r131 = (0 : Int32) → wAldL G135 t3 (0 : Int32) fun i137 => ((lg_cmp i137 ((r134).toInt64)) = (0 : Int32) → wp_L_law_1117 ad X K J28 G135 c1 t1 t2 t3 t4 (nI (5 * k))) ∧ (¬ (lg_cmp i137 ((r134).toInt64)) = (0 : Int32) → K (0 : Int32) G135))) ∧ (¬ r136 = r131 → K (0 : Int32) G135)))))) := by
  have hR := h.r hn hn2
  have hN := fun (tx c : Nat) (P' : pA) (G5 G8 : gS) (τ : Int32) => h.next (tx := tx) (c := c) (P' := P') (G5 := G5) (G8 := G8) (τ := τ) hn hn2
  obtain ⟨hk, hb, ⟨c, hc, hct⟩, hm, ⟨g3, h3⟩, h4, hs, -⟩ := h
  have hi := hc.hi
  refine sc1 hs hn hn2 (sp_X0_roomByDust hc (hR.le (by omega)) h3 fun G5 x => ?_)
  have hs5 := x.1.old (Or.inl ⟨_, _, h3⟩) hs
  have hm5 := x.1.mi (Or.inl ⟨_, _, h3⟩) hm
  refine sc1 hs5 hn hn2 (sm3_roomByDust hm5 hi fun G8 m8 => ?_)
  obtain ⟨xf, g5, h5, e5⟩ := x
  refine sp_tail m8 rfl (m8.1.l h5) (fun e => ?_) ?_
  · rw [e5 e]
    have ea : (decide (pRoomRank (aF P) (s (5 * k + 1)) ≠ none)) = true := by
      cases q : (decide (pRoomRank (aF P) (s (5 * k + 1)) ≠ none)) with
      | true => rfl
      | false => rw [q] at e; exact absurd e (by decide)
    rw [if_pos ea]
  · exact hJ _ _ (hN t3 _ _ _ _ _ xf (Or.inl ⟨_, _, h3⟩) ⟨_, h5⟩ (xf.d h3 h4) m8 (by omega))
theorem sp_X0_power (hc : CI ad G t1 c P) (hR : rm G 200) {g0 : Nat → Int64} (h3 : G.1 t3 = some (gAl true 1 g0)) {K : Int32 → gS → Prop} (k : ∀ G5, XR ad G t1 t3 c P (qc (pIn x 0 (aF P 8 - 1))) (aF P (18 + 2 * pBi (aF P) x)) G5 → K (qc (pIn x 0 (aF P 8 - 1))) G5) : wp_X0_power ad G (some t1) x (some t3) X K := by
  unfold wp_X0_power wp_X0_power_12
  exact wNN_of ⟨hc.is, sp_X1_power hc hR (fun e q G' s hh => ⟨hh, xq0 hc h3 s e k⟩) (fun e G' s => xq1 hc h3 s rfl e k)⟩
theorem sm3_power (hm : MI G t2 P) (hi : hI (aF P) c) {K : Int32 → gS → Prop} (k : ∀ G', MR G t2 P (qc (pIn x 0 (aF P 8 - 1))) G' → K (if (pIn x 0 (aF P 8 - 1)) then (aF P (18 + 2 * pBi (aF P) x)) else 0) G') : gIs G t2 0 ∧ wp_X3_power ad G t2 x X K := by
  obtain ⟨B, I, V, h, hp⟩ := hm.o
  refine ⟨h.is, ?_⟩
  skip
  exact sm_power h hi.1.w (mq h hp k)
theorem law_15 (h : LI ad G k c1 t1 t2 t3 t4 s n P) (hn : 5 * k + 5 ≤ n) (hn2 : n ≤ 120) (hJ : ∀ G' P', LI ad G' (k + 1) c1 t1 t2 t3 t4 s n P' → J28 G' (some c1) t1 t2 t3 t4 (nI (5 * k) + (5 : Int32))) : wAldI G c1 ((nI (5 * k)) + (1 : Int32)) fun i142 => wp_X0_power ad G (some t1) i142 (some t3) X (fun r144 G143 => wAldI G143 c1 ((nI (5 * k)) + (1 : Int32)) fun i145 => (gIs G143 t2 0 ∧ wp_X3_power ad G143 t2 i145 X (fun r147 G146 => (gIs G146 t2 0 ∧ wp_X3_thrown ad G146 t2  X (fun r149 G148 => (r149 = r144 → (¬ r144 = (0 : Int32) → wp_L_law_1186 ad X K J28 G148 c1 t1 t2 t3 t4 (nI (5 * k))) ∧ (r144 = (0 : Int32) → wAldL G148 t3 (0 : Int32) fun i150 => ((lg_cmp i150 ((r147).toInt64)) = (0 : Int32) → wp_L_law_1186 ad X K J28 G148 c1 t1 t2 t3 t4 (nI (5 * k))) ∧ (¬ (lg_cmp i150 ((r147).toInt64)) = (0 : Int32) → K (0 : Int32) G148))) ∧ (¬ r149 = r144 → K (0 : Int32) G148)))))) := by
  have hR := h.r hn hn2
  have hN := fun (tx c : Nat) (P' : pA) (G5 G8 : gS) (τ : Int32) => h.next (tx := tx) (c := c) (P' := P') (G5 := G5) (G8 := G8) (τ := τ) hn hn2
  obtain ⟨hk, hb, ⟨c, hc, hct⟩, hm, ⟨g3, h3⟩, h4, hs, -⟩ := h
  have hi := hc.hi
  refine sc1 hs hn hn2 (sp_X0_power hc (hR.le (by omega)) h3 fun G5 x => ?_)
  have hs5 := x.1.old (Or.inl ⟨_, _, h3⟩) hs
  have hm5 := x.1.mi (Or.inl ⟨_, _, h3⟩) hm
  refine sc1 hs5 hn hn2 (sm3_power hm5 hi fun G8 m8 => ?_)
  obtain ⟨xf, g5, h5, e5⟩ := x
  refine sp_tail m8 rfl (m8.1.l h5) (fun e => ?_) ?_
  · rw [e5 e]
    have ea : (pIn (s (5 * k + 1)) 0 (aF P 8 - 1)) = true := by
      cases q : (pIn (s (5 * k + 1)) 0 (aF P 8 - 1)) with
      | true => rfl
      | false => rw [q] at e; exact absurd e (by decide)
    rw [if_pos ea]
  · exact hJ _ _ (hN t3 _ _ _ _ _ xf (Or.inl ⟨_, _, h3⟩) ⟨_, h5⟩ (xf.d h3 h4) m8 (by omega))
theorem sp_X0_isBanished (hb : bs ad G) (hc : CI ad G t1 c P) (hR : rm G 200) {g0 : Nat → Int64} (h3 : G.1 t3 = some (gAl true 1 g0)) {K : Int32 → gS → Prop} (k : ∀ G5, XR ad G t1 t3 c P (qc (pIn x 0 (aF P 8 - 1))) (bI (decide (aF P (19 + 2 * pBi (aF P) x) = 1))) G5 → K (qc (pIn x 0 (aF P 8 - 1))) G5) : wp_X0_isBanished ad G (some t1) x (some t3) X K := by
  unfold wp_X0_isBanished wp_X0_isBanished_19
  refine wNN_of ⟨hc.is, sp_X1_isBanished hb hc hR (fun e q G' s hh => ⟨hh, xq0 hc h3 s e k⟩) (fun e G' s => ?_)⟩
  unfold wp_X0_isBanished_15
  cases q : decide (aF P (19 + 2 * pBi (aF P) x) = 1) with
  | false => exact brT (by decide) (xq1 hc h3 s (v := bI (decide (aF P (19 + 2 * pBi (aF P) x) = 1))) (by rw [q]; rfl) e k)
  | true => exact brF (by decide) (xq1 hc h3 s (v := bI (decide (aF P (19 + 2 * pBi (aF P) x) = 1))) (by rw [q]; rfl) e k)
theorem sm3_isBanished (hm : MI G t2 P) (hi : hI (aF P) c) {K : Int32 → gS → Prop} (k : ∀ G', MR G t2 P (qc (pIn x 0 (aF P 8 - 1))) G' → K (if (pIn x 0 (aF P 8 - 1)) then (bI (decide (aF P (19 + 2 * pBi (aF P) x) = 1))) else 0) G') : gIs G t2 0 ∧ wp_X3_isBanished ad G t2 x X K := by
  obtain ⟨B, I, V, h, hp⟩ := hm.o
  refine ⟨h.is, ?_⟩
  skip
  exact sm_isBanished h hi.1.w (mq h hp k)
theorem law_16 (h : LI ad G k c1 t1 t2 t3 t4 s n P) (hn : 5 * k + 5 ≤ n) (hn2 : n ≤ 120) (hJ : ∀ G' P', LI ad G' (k + 1) c1 t1 t2 t3 t4 s n P' → J28 G' (some c1) t1 t2 t3 t4 (nI (5 * k) + (5 : Int32))) : wAldI G c1 ((nI (5 * k)) + (1 : Int32)) fun i151 => wp_X0_isBanished ad G (some t1) i151 (some t3) X (fun r153 G152 => wAldI G152 c1 ((nI (5 * k)) + (1 : Int32)) fun i154 => (gIs G152 t2 0 ∧ wp_X3_isBanished ad G152 t2 i154 X (fun r156 G155 => (gIs G155 t2 0 ∧ wp_X3_thrown ad G155 t2  X (fun r158 G157 => (r158 = r153 → (¬ r153 = (0 : Int32) → wp_L_law_1249 ad X K J28 G157 c1 t1 t2 t3 t4 (nI (5 * k))) ∧ (r153 = (0 : Int32) → wAldL G157 t3 (0 : Int32) fun i159 => (r156 = (0 : Int32) → wp_L_law_1243 ad X K J28 G157 c1 t1 t2 t3 t4 (nI (5 * k)) (0 : Int64) i159) ∧ (¬ r156 = (0 : Int32) → wp_L_law_1243 ad X K J28 G157 c1 t1 t2 t3 t4 (nI (5 * k)) (1 : Int64) i159))) ∧ (¬ r158 = r153 → K (0 : Int32) G157)))))) := by
  have hR := h.r hn hn2
  have hN := fun (tx c : Nat) (P' : pA) (G5 G8 : gS) (τ : Int32) => h.next (tx := tx) (c := c) (P' := P') (G5 := G5) (G8 := G8) (τ := τ) hn hn2
  obtain ⟨hk, hb, ⟨c, hc, hct⟩, hm, ⟨g3, h3⟩, h4, hs, -⟩ := h
  have hi := hc.hi
  refine sc1 hs hn hn2 (sp_X0_isBanished hb hc (hR.le (by omega)) h3 fun G5 x => ?_)
  have hs5 := x.1.old (Or.inl ⟨_, _, h3⟩) hs
  have hm5 := x.1.mi (Or.inl ⟨_, _, h3⟩) hm
  refine sc1 hs5 hn hn2 (sm3_isBanished hm5 hi fun G8 m8 => ?_)
  obtain ⟨xf, g5, h5, e5⟩ := x
  refine sm_thrown m8 ⟨fun _ => ⟨fun _ => ?_, fun e => wAldL_of (m8.1.l h5) (vp_in_nI (n := 0) (by omega) (by omega)) ?_⟩, fun z => absurd rfl z⟩
  · exact hJ _ _ (hN t3 _ _ _ _ _ xf (Or.inl ⟨_, _, h3⟩) ⟨_, h5⟩ (xf.d h3 h4) m8 (by omega))
  · have e9 := e5 e
    have hj := hJ _ _ (hN t3 _ _ _ _ _ xf (Or.inl ⟨_, _, h3⟩) ⟨_, h5⟩ (xf.d h3 h4) m8 (by omega))
    show (_ → wp_L_law_1243 ad X K J28 G8 c1 t1 t2 t3 t4 (nI (5 * k)) (0 : Int64) (g5 0)) ∧ (_ → wp_L_law_1243 ad X K J28 G8 c1 t1 t2 t3 t4 (nI (5 * k)) (1 : Int64) (g5 0))
    rw [e9]
    have ea : (pIn (s (5 * k + 1)) 0 (aF P 8 - 1)) = true := by
      cases q : (pIn (s (5 * k + 1)) 0 (aF P 8 - 1)) with
      | true => rfl
      | false => rw [q] at e; exact absurd e (by decide)
    rw [ea]
    cases q : decide (aF P (19 + 2 * pBi (aF P) (s (5 * k + 1))) = 1) with
    | false => exact brT rfl ⟨fun _ => hj, fun z => absurd rfl z⟩
    | true => exact brF (by decide) ⟨fun _ => hj, fun z => absurd rfl z⟩
theorem sp_X0_strength (hc : CI ad G t1 c P) (hR : rm G 200) {g0 : Nat → Int64} (h3 : G.1 t3 = some (gAl true 1 g0)) {K : Int32 → gS → Prop} (k : ∀ G5, XR ad G t1 t3 c P (qc (pIn x 0 (aF P 9 - 1))) (aF P (26 + 0 + 5 * pGi (aF P) x)) G5 → K (qc (pIn x 0 (aF P 9 - 1))) G5) : wp_X0_strength ad G (some t1) x (some t3) X K := by
  unfold wp_X0_strength wp_X0_strength_12
  exact wNN_of ⟨hc.is, sp_X1_strength hc hR (fun e q G' s hh => ⟨hh, xq0 hc h3 s e k⟩) (fun e G' s => xq1 hc h3 s rfl e k)⟩
theorem sm3_strength (hm : MI G t2 P) (hi : hI (aF P) c) {K : Int32 → gS → Prop} (k : ∀ G', MR G t2 P (qc (pIn x 0 (aF P 9 - 1))) G' → K (if (pIn x 0 (aF P 9 - 1)) then (aF P (26 + 0 + 5 * pGi (aF P) x)) else 0) G') : gIs G t2 0 ∧ wp_X3_strength ad G t2 x X K := by
  obtain ⟨B, I, V, h, hp⟩ := hm.o
  refine ⟨h.is, ?_⟩
  unfold wp_X3_strength
  exact ⟨h.is, sm_asks h hi.1.w (j := 0) rfl (by decide) (mq h hp k)⟩
theorem law_18 (h : LI ad G k c1 t1 t2 t3 t4 s n P) (hn : 5 * k + 5 ≤ n) (hn2 : n ≤ 120) (hJ : ∀ G' P', LI ad G' (k + 1) c1 t1 t2 t3 t4 s n P' → J28 G' (some c1) t1 t2 t3 t4 (nI (5 * k) + (5 : Int32))) : wAldI G c1 ((nI (5 * k)) + (1 : Int32)) fun i164 => wp_X0_strength ad G (some t1) i164 (some t3) X (fun r166 G165 => wAldI G165 c1 ((nI (5 * k)) + (1 : Int32)) fun i167 => (gIs G165 t2 0 ∧ wp_X3_strength ad G165 t2 i167 X (fun r169 G168 => (gIs G168 t2 0 ∧ wp_X3_thrown ad G168 t2  X (fun r171 G170 => (r171 = r166 → (¬ r166 = (0 : Int32) → wp_L_law_1318 ad X K J28 G170 c1 t1 t2 t3 t4 (nI (5 * k))) ∧ (r166 = (0 : Int32) → wAldL G170 t3 (0 : Int32) fun i172 => ((lg_cmp i172 ((r169).toInt64)) = (0 : Int32) → wp_L_law_1318 ad X K J28 G170 c1 t1 t2 t3 t4 (nI (5 * k))) ∧ (¬ (lg_cmp i172 ((r169).toInt64)) = (0 : Int32) → K (0 : Int32) G170))) ∧ (¬ r171 = r166 → K (0 : Int32) G170)))))) := by
  have hR := h.r hn hn2
  have hN := fun (tx c : Nat) (P' : pA) (G5 G8 : gS) (τ : Int32) => h.next (tx := tx) (c := c) (P' := P') (G5 := G5) (G8 := G8) (τ := τ) hn hn2
  obtain ⟨hk, hb, ⟨c, hc, hct⟩, hm, ⟨g3, h3⟩, h4, hs, -⟩ := h
  have hi := hc.hi
  refine sc1 hs hn hn2 (sp_X0_strength hc (hR.le (by omega)) h3 fun G5 x => ?_)
  have hs5 := x.1.old (Or.inl ⟨_, _, h3⟩) hs
  have hm5 := x.1.mi (Or.inl ⟨_, _, h3⟩) hm
  refine sc1 hs5 hn hn2 (sm3_strength hm5 hi fun G8 m8 => ?_)
  obtain ⟨xf, g5, h5, e5⟩ := x
  refine sp_tail m8 rfl (m8.1.l h5) (fun e => ?_) ?_
  · rw [e5 e]
    have ea : (pIn (s (5 * k + 1)) 0 (aF P 9 - 1)) = true := by
      cases q : (pIn (s (5 * k + 1)) 0 (aF P 9 - 1)) with
      | true => rfl
      | false => rw [q] at e; exact absurd e (by decide)
    rw [if_pos ea]
  · exact hJ _ _ (hN t3 _ _ _ _ _ xf (Or.inl ⟨_, _, h3⟩) ⟨_, h5⟩ (xf.d h3 h4) m8 (by omega))
theorem sp_X0_purse (hc : CI ad G t1 c P) (hR : rm G 200) {g0 : Nat → Int64} (h3 : G.1 t3 = some (gAl true 1 g0)) {K : Int32 → gS → Prop} (k : ∀ G5, XR ad G t1 t3 c P (qc (pIn x 0 (aF P 9 - 1))) (aF P (26 + 1 + 5 * pGi (aF P) x)) G5 → K (qc (pIn x 0 (aF P 9 - 1))) G5) : wp_X0_purse ad G (some t1) x (some t3) X K := by
  unfold wp_X0_purse wp_X0_purse_12
  exact wNN_of ⟨hc.is, sp_X1_purse hc hR (fun e q G' s hh => ⟨hh, xq0 hc h3 s e k⟩) (fun e G' s => xq1 hc h3 s rfl e k)⟩
theorem sm3_purse (hm : MI G t2 P) (hi : hI (aF P) c) {K : Int32 → gS → Prop} (k : ∀ G', MR G t2 P (qc (pIn x 0 (aF P 9 - 1))) G' → K (if (pIn x 0 (aF P 9 - 1)) then (aF P (26 + 1 + 5 * pGi (aF P) x)) else 0) G') : gIs G t2 0 ∧ wp_X3_purse ad G t2 x X K := by
  obtain ⟨B, I, V, h, hp⟩ := hm.o
  refine ⟨h.is, ?_⟩
  unfold wp_X3_purse
  exact ⟨h.is, sm_asks h hi.1.w (j := 1) rfl (by decide) (mq h hp k)⟩
theorem law_19 (h : LI ad G k c1 t1 t2 t3 t4 s n P) (hn : 5 * k + 5 ≤ n) (hn2 : n ≤ 120) (hJ : ∀ G' P', LI ad G' (k + 1) c1 t1 t2 t3 t4 s n P' → J28 G' (some c1) t1 t2 t3 t4 (nI (5 * k) + (5 : Int32))) : wAldI G c1 ((nI (5 * k)) + (1 : Int32)) fun i173 => wp_X0_purse ad G (some t1) i173 (some t3) X (fun r175 G174 => wAldI G174 c1 ((nI (5 * k)) + (1 : Int32)) fun i176 => (gIs G174 t2 0 ∧ wp_X3_purse ad G174 t2 i176 X (fun r178 G177 => (gIs G177 t2 0 ∧ wp_X3_thrown ad G177 t2  X (fun r180 G179 => (r180 = r175 → (¬ r175 = (0 : Int32) → wp_L_law_1374 ad X K J28 G179 c1 t1 t2 t3 t4 (nI (5 * k))) ∧ (r175 = (0 : Int32) → wAldL G179 t3 (0 : Int32) fun i181 => ((lg_cmp i181 ((r178).toInt64)) = (0 : Int32) → wp_L_law_1374 ad X K J28 G179 c1 t1 t2 t3 t4 (nI (5 * k))) ∧ (¬ (lg_cmp i181 ((r178).toInt64)) = (0 : Int32) → K (0 : Int32) G179))) ∧ (¬ r180 = r175 → K (0 : Int32) G179)))))) := by
  have hR := h.r hn hn2
  have hN := fun (tx c : Nat) (P' : pA) (G5 G8 : gS) (τ : Int32) => h.next (tx := tx) (c := c) (P' := P') (G5 := G5) (G8 := G8) (τ := τ) hn hn2
  obtain ⟨hk, hb, ⟨c, hc, hct⟩, hm, ⟨g3, h3⟩, h4, hs, -⟩ := h
  have hi := hc.hi
  refine sc1 hs hn hn2 (sp_X0_purse hc (hR.le (by omega)) h3 fun G5 x => ?_)
  have hs5 := x.1.old (Or.inl ⟨_, _, h3⟩) hs
  have hm5 := x.1.mi (Or.inl ⟨_, _, h3⟩) hm
  refine sc1 hs5 hn hn2 (sm3_purse hm5 hi fun G8 m8 => ?_)
  obtain ⟨xf, g5, h5, e5⟩ := x
  refine sp_tail m8 rfl (m8.1.l h5) (fun e => ?_) ?_
  · rw [e5 e]
    have ea : (pIn (s (5 * k + 1)) 0 (aF P 9 - 1)) = true := by
      cases q : (pIn (s (5 * k + 1)) 0 (aF P 9 - 1)) with
      | true => rfl
      | false => rw [q] at e; exact absurd e (by decide)
    rw [if_pos ea]
  · exact hJ _ _ (hN t3 _ _ _ _ _ xf (Or.inl ⟨_, _, h3⟩) ⟨_, h5⟩ (xf.d h3 h4) m8 (by omega))
theorem sp_X0_debt (hc : CI ad G t1 c P) (hR : rm G 200) {g0 : Nat → Int64} (h3 : G.1 t3 = some (gAl true 1 g0)) {K : Int32 → gS → Prop} (k : ∀ G5, XR ad G t1 t3 c P (qc (pIn x 0 (aF P 9 - 1))) (aF P (26 + 2 + 5 * pGi (aF P) x)) G5 → K (qc (pIn x 0 (aF P 9 - 1))) G5) : wp_X0_debt ad G (some t1) x (some t3) X K := by
  unfold wp_X0_debt wp_X0_debt_12
  exact wNN_of ⟨hc.is, sp_X1_debt hc hR (fun e q G' s hh => ⟨hh, xq0 hc h3 s e k⟩) (fun e G' s => xq1 hc h3 s rfl e k)⟩
theorem sm3_debt (hm : MI G t2 P) (hi : hI (aF P) c) {K : Int32 → gS → Prop} (k : ∀ G', MR G t2 P (qc (pIn x 0 (aF P 9 - 1))) G' → K (if (pIn x 0 (aF P 9 - 1)) then (aF P (26 + 2 + 5 * pGi (aF P) x)) else 0) G') : gIs G t2 0 ∧ wp_X3_debt ad G t2 x X K := by
  obtain ⟨B, I, V, h, hp⟩ := hm.o
  refine ⟨h.is, ?_⟩
  unfold wp_X3_debt
  exact ⟨h.is, sm_asks h hi.1.w (j := 2) rfl (by decide) (mq h hp k)⟩
theorem law_20 (h : LI ad G k c1 t1 t2 t3 t4 s n P) (hn : 5 * k + 5 ≤ n) (hn2 : n ≤ 120) (hJ : ∀ G' P', LI ad G' (k + 1) c1 t1 t2 t3 t4 s n P' → J28 G' (some c1) t1 t2 t3 t4 (nI (5 * k) + (5 : Int32))) : wAldI G c1 ((nI (5 * k)) + (1 : Int32)) fun i182 => wp_X0_debt ad G (some t1) i182 (some t3) X (fun r184 G183 => wAldI G183 c1 ((nI (5 * k)) + (1 : Int32)) fun i185 => (gIs G183 t2 0 ∧ wp_X3_debt ad G183 t2 i185 X (fun r187 G186 => (gIs G186 t2 0 ∧ wp_X3_thrown ad G186 t2  X (fun r189 G188 => (r189 = r184 → (¬ r184 = (0 : Int32) → wp_L_law_1430 ad X K J28 G188 c1 t1 t2 t3 t4 (nI (5 * k))) ∧ (r184 = (0 : Int32) → wAldL G188 t3 (0 : Int32) fun i190 => ((lg_cmp i190 ((r187).toInt64)) = (0 : Int32) → wp_L_law_1430 ad X K J28 G188 c1 t1 t2 t3 t4 (nI (5 * k))) ∧ (¬ (lg_cmp i190 ((r187).toInt64)) = (0 : Int32) → K (0 : Int32) G188))) ∧ (¬ r189 = r184 → K (0 : Int32) G188)))))) := by
  have hR := h.r hn hn2
  have hN := fun (tx c : Nat) (P' : pA) (G5 G8 : gS) (τ : Int32) => h.next (tx := tx) (c := c) (P' := P') (G5 := G5) (G8 := G8) (τ := τ) hn hn2
  obtain ⟨hk, hb, ⟨c, hc, hct⟩, hm, ⟨g3, h3⟩, h4, hs, -⟩ := h
  have hi := hc.hi
  refine sc1 hs hn hn2 (sp_X0_debt hc (hR.le (by omega)) h3 fun G5 x => ?_)
  have hs5 := x.1.old (Or.inl ⟨_, _, h3⟩) hs
  have hm5 := x.1.mi (Or.inl ⟨_, _, h3⟩) hm
  refine sc1 hs5 hn hn2 (sm3_debt hm5 hi fun G8 m8 => ?_)
  obtain ⟨xf, g5, h5, e5⟩ := x
  refine sp_tail m8 rfl (m8.1.l h5) (fun e => ?_) ?_
  · rw [e5 e]
    have ea : (pIn (s (5 * k + 1)) 0 (aF P 9 - 1)) = true := by
      cases q : (pIn (s (5 * k + 1)) 0 (aF P 9 - 1)) with
      | true => rfl
      | false => rw [q] at e; exact absurd e (by decide)
    rw [if_pos ea]
  · exact hJ _ _ (hN t3 _ _ _ _ _ xf (Or.inl ⟨_, _, h3⟩) ⟨_, h5⟩ (xf.d h3 h4) m8 (by omega))
theorem sp_X0_skippedNights (hc : CI ad G t1 c P) (hR : rm G 200) {g0 : Nat → Int64} (h3 : G.1 t3 = some (gAl true 1 g0)) {K : Int32 → gS → Prop} (k : ∀ G5, XR ad G t1 t3 c P (qc (pIn x 0 (aF P 9 - 1))) (aF P (26 + 3 + 5 * pGi (aF P) x)) G5 → K (qc (pIn x 0 (aF P 9 - 1))) G5) : wp_X0_skippedNights ad G (some t1) x (some t3) X K := by
  unfold wp_X0_skippedNights wp_X0_skippedNights_12
  exact wNN_of ⟨hc.is, sp_X1_skippedNights hc hR (fun e q G' s hh => ⟨hh, xq0 hc h3 s e k⟩) (fun e G' s => xq1 hc h3 s rfl e k)⟩
theorem sm3_skippedNights (hm : MI G t2 P) (hi : hI (aF P) c) {K : Int32 → gS → Prop} (k : ∀ G', MR G t2 P (qc (pIn x 0 (aF P 9 - 1))) G' → K (if (pIn x 0 (aF P 9 - 1)) then (aF P (26 + 3 + 5 * pGi (aF P) x)) else 0) G') : gIs G t2 0 ∧ wp_X3_skippedNights ad G t2 x X K := by
  obtain ⟨B, I, V, h, hp⟩ := hm.o
  refine ⟨h.is, ?_⟩
  unfold wp_X3_skippedNights
  exact ⟨h.is, sm_asks h hi.1.w (j := 3) rfl (by decide) (mq h hp k)⟩
theorem law_21 (h : LI ad G k c1 t1 t2 t3 t4 s n P) (hn : 5 * k + 5 ≤ n) (hn2 : n ≤ 120) (hJ : ∀ G' P', LI ad G' (k + 1) c1 t1 t2 t3 t4 s n P' → J28 G' (some c1) t1 t2 t3 t4 (nI (5 * k) + (5 : Int32))) : wAldI G c1 ((nI (5 * k)) + (1 : Int32)) fun i191 => wp_X0_skippedNights ad G (some t1) i191 (some t3) X (fun r193 G192 => wAldI G192 c1 ((nI (5 * k)) + (1 : Int32)) fun i194 => (gIs G192 t2 0 ∧ wp_X3_skippedNights ad G192 t2 i194 X (fun r196 G195 => (gIs G195 t2 0 ∧ wp_X3_thrown ad G195 t2  X (fun r198 G197 => (r198 = r193 → (¬ r193 = (0 : Int32) → wp_L_law_1486 ad X K J28 G197 c1 t1 t2 t3 t4 (nI (5 * k))) ∧ (r193 = (0 : Int32) → wAldL G197 t3 (0 : Int32) fun i199 => ((lg_cmp i199 ((r196).toInt64)) = (0 : Int32) → wp_L_law_1486 ad X K J28 G197 c1 t1 t2 t3 t4 (nI (5 * k))) ∧ (¬ (lg_cmp i199 ((r196).toInt64)) = (0 : Int32) → K (0 : Int32) G197))) ∧ (¬ r198 = r193 → K (0 : Int32) G197)))))) := by
  have hR := h.r hn hn2
  have hN := fun (tx c : Nat) (P' : pA) (G5 G8 : gS) (τ : Int32) => h.next (tx := tx) (c := c) (P' := P') (G5 := G5) (G8 := G8) (τ := τ) hn hn2
  obtain ⟨hk, hb, ⟨c, hc, hct⟩, hm, ⟨g3, h3⟩, h4, hs, -⟩ := h
  have hi := hc.hi
  refine sc1 hs hn hn2 (sp_X0_skippedNights hc (hR.le (by omega)) h3 fun G5 x => ?_)
  have hs5 := x.1.old (Or.inl ⟨_, _, h3⟩) hs
  have hm5 := x.1.mi (Or.inl ⟨_, _, h3⟩) hm
  refine sc1 hs5 hn hn2 (sm3_skippedNights hm5 hi fun G8 m8 => ?_)
  obtain ⟨xf, g5, h5, e5⟩ := x
  refine sp_tail m8 rfl (m8.1.l h5) (fun e => ?_) ?_
  · rw [e5 e]
    have ea : (pIn (s (5 * k + 1)) 0 (aF P 9 - 1)) = true := by
      cases q : (pIn (s (5 * k + 1)) 0 (aF P 9 - 1)) with
      | true => rfl
      | false => rw [q] at e; exact absurd e (by decide)
    rw [if_pos ea]
  · exact hJ _ _ (hN t3 _ _ _ _ _ xf (Or.inl ⟨_, _, h3⟩) ⟨_, h5⟩ (xf.d h3 h4) m8 (by omega))
theorem sp_X0_isResting (hc : CI ad G t1 c P) (hR : rm G 200) {g0 : Nat → Int64} (h3 : G.1 t3 = some (gAl true 1 g0)) {K : Int32 → gS → Prop} (k : ∀ G5, XR ad G t1 t3 c P (qc (pIn x 0 (aF P 9 - 1))) (bI (decide (aF P (30 + 5 * pGi (aF P) x) = 1))) G5 → K (qc (pIn x 0 (aF P 9 - 1))) G5) : wp_X0_isResting ad G (some t1) x (some t3) X K := by
  unfold wp_X0_isResting wp_X0_isResting_19
  refine wNN_of ⟨hc.is, sp_X1_isResting hc hR (fun e q G' s hh => ⟨hh, xq0 hc h3 s e k⟩) (fun e G' s => ?_)⟩
  unfold wp_X0_isResting_15
  cases q : decide (aF P (30 + 5 * pGi (aF P) x) = 1) with
  | false => exact brT (by decide) (xq1 hc h3 s (v := bI (decide (aF P (30 + 5 * pGi (aF P) x) = 1))) (by rw [q]; rfl) e k)
  | true => exact brF (by decide) (xq1 hc h3 s (v := bI (decide (aF P (30 + 5 * pGi (aF P) x) = 1))) (by rw [q]; rfl) e k)
theorem sm3_isResting (hm : MI G t2 P) (hi : hI (aF P) c) {K : Int32 → gS → Prop} (k : ∀ G', MR G t2 P (qc (pIn x 0 (aF P 9 - 1))) G' → K (if (pIn x 0 (aF P 9 - 1)) then (bI (decide (aF P (30 + 5 * pGi (aF P) x) = 1))) else 0) G') : gIs G t2 0 ∧ wp_X3_isResting ad G t2 x X K := by
  obtain ⟨B, I, V, h, hp⟩ := hm.o
  refine ⟨h.is, ?_⟩
  skip
  exact sm_isResting h hi.1.w (mq h hp k)
theorem law_22 (h : LI ad G k c1 t1 t2 t3 t4 s n P) (hn : 5 * k + 5 ≤ n) (hn2 : n ≤ 120) (hJ : ∀ G' P', LI ad G' (k + 1) c1 t1 t2 t3 t4 s n P' → J28 G' (some c1) t1 t2 t3 t4 (nI (5 * k) + (5 : Int32))) : wAldI G c1 ((nI (5 * k)) + (1 : Int32)) fun i200 => wp_X0_isResting ad G (some t1) i200 (some t3) X (fun r202 G201 => wAldI G201 c1 ((nI (5 * k)) + (1 : Int32)) fun i203 => (gIs G201 t2 0 ∧ wp_X3_isResting ad G201 t2 i203 X (fun r205 G204 => (gIs G204 t2 0 ∧ wp_X3_thrown ad G204 t2  X (fun r207 G206 => (r207 = r202 → (¬ r202 = (0 : Int32) → wp_L_law_1549 ad X K J28 G206 c1 t1 t2 t3 t4 (nI (5 * k))) ∧ (r202 = (0 : Int32) → wAldL G206 t3 (0 : Int32) fun i208 => (r205 = (0 : Int32) → wp_L_law_1543 ad X K J28 G206 c1 t1 t2 t3 t4 (nI (5 * k)) (0 : Int64) i208) ∧ (¬ r205 = (0 : Int32) → wp_L_law_1543 ad X K J28 G206 c1 t1 t2 t3 t4 (nI (5 * k)) (1 : Int64) i208))) ∧ (¬ r207 = r202 → K (0 : Int32) G206)))))) := by
  have hR := h.r hn hn2
  have hN := fun (tx c : Nat) (P' : pA) (G5 G8 : gS) (τ : Int32) => h.next (tx := tx) (c := c) (P' := P') (G5 := G5) (G8 := G8) (τ := τ) hn hn2
  obtain ⟨hk, hb, ⟨c, hc, hct⟩, hm, ⟨g3, h3⟩, h4, hs, -⟩ := h
  have hi := hc.hi
  refine sc1 hs hn hn2 (sp_X0_isResting hc (hR.le (by omega)) h3 fun G5 x => ?_)
  have hs5 := x.1.old (Or.inl ⟨_, _, h3⟩) hs
  have hm5 := x.1.mi (Or.inl ⟨_, _, h3⟩) hm
  refine sc1 hs5 hn hn2 (sm3_isResting hm5 hi fun G8 m8 => ?_)
  obtain ⟨xf, g5, h5, e5⟩ := x
  refine sm_thrown m8 ⟨fun _ => ⟨fun _ => ?_, fun e => wAldL_of (m8.1.l h5) (vp_in_nI (n := 0) (by omega) (by omega)) ?_⟩, fun z => absurd rfl z⟩
  · exact hJ _ _ (hN t3 _ _ _ _ _ xf (Or.inl ⟨_, _, h3⟩) ⟨_, h5⟩ (xf.d h3 h4) m8 (by omega))
  · have e9 := e5 e
    have hj := hJ _ _ (hN t3 _ _ _ _ _ xf (Or.inl ⟨_, _, h3⟩) ⟨_, h5⟩ (xf.d h3 h4) m8 (by omega))
    show (_ → wp_L_law_1543 ad X K J28 G8 c1 t1 t2 t3 t4 (nI (5 * k)) (0 : Int64) (g5 0)) ∧ (_ → wp_L_law_1543 ad X K J28 G8 c1 t1 t2 t3 t4 (nI (5 * k)) (1 : Int64) (g5 0))
    rw [e9]
    have ea : (pIn (s (5 * k + 1)) 0 (aF P 9 - 1)) = true := by
      cases q : (pIn (s (5 * k + 1)) 0 (aF P 9 - 1)) with
      | true => rfl
      | false => rw [q] at e; exact absurd e (by decide)
    rw [ea]
    cases q : decide (aF P (30 + 5 * pGi (aF P) (s (5 * k + 1))) = 1) with
    | false => exact brT rfl ⟨fun _ => hj, fun z => absurd rfl z⟩
    | true => exact brF (by decide) ⟨fun _ => hj, fun z => absurd rfl z⟩
theorem sp_X0_energy (hb : bs ad G) (hc : CI ad G t1 c P) (hR : rm G 200) {g0 : Nat → Int64} (h3 : G.1 t3 = some (gAl true 1 g0)) {K : Int32 → gS → Prop} (k : ∀ G5, XR ad G t1 t3 c P (qc (pIn x 0 (aF P 9 - 1))) (pEnergy (aF P) (pGi (aF P) x)) G5 → K (qc (pIn x 0 (aF P 9 - 1))) G5) : wp_X0_energy ad G (some t1) x (some t3) X K := by
  unfold wp_X0_energy wp_X0_energy_12
  exact wNN_of ⟨hc.is, sp_X1_energy hb hc hR (fun e q G' s hh => ⟨hh, xq0 hc h3 s e k⟩) (fun e G' s => xq1 hc h3 s rfl e k)⟩
theorem sm3_energy (hm : MI G t2 P) (hi : hI (aF P) c) {K : Int32 → gS → Prop} (k : ∀ G', MR G t2 P (qc (pIn x 0 (aF P 9 - 1))) G' → K (if (pIn x 0 (aF P 9 - 1)) then (pEnergy (aF P) (pGi (aF P) x)) else 0) G') : gIs G t2 0 ∧ wp_X3_energy ad G t2 x X K := by
  obtain ⟨B, I, V, h, hp⟩ := hm.o
  refine ⟨h.is, ?_⟩
  skip
  exact sm_energy h hi.1.w (mq h hp k)
theorem law_23 (h : LI ad G k c1 t1 t2 t3 t4 s n P) (hn : 5 * k + 5 ≤ n) (hn2 : n ≤ 120) (hJ : ∀ G' P', LI ad G' (k + 1) c1 t1 t2 t3 t4 s n P' → J28 G' (some c1) t1 t2 t3 t4 (nI (5 * k) + (5 : Int32))) : wAldI G c1 ((nI (5 * k)) + (1 : Int32)) fun i209 => wp_X0_energy ad G (some t1) i209 (some t3) X (fun r211 G210 => wAldI G210 c1 ((nI (5 * k)) + (1 : Int32)) fun i212 => (gIs G210 t2 0 ∧ wp_X3_energy ad G210 t2 i212 X (fun r214 G213 => (gIs G213 t2 0 ∧ wp_X3_thrown ad G213 t2  X (fun r216 G215 => (r216 = r211 → (¬ r211 = (0 : Int32) → wp_L_law_1605 ad X K J28 G215 c1 t1 t2 t3 t4 (nI (5 * k))) ∧ (r211 = (0 : Int32) → wAldL G215 t3 (0 : Int32) fun i217 => ((lg_cmp i217 ((r214).toInt64)) = (0 : Int32) → wp_L_law_1605 ad X K J28 G215 c1 t1 t2 t3 t4 (nI (5 * k))) ∧ (¬ (lg_cmp i217 ((r214).toInt64)) = (0 : Int32) → K (0 : Int32) G215))) ∧ (¬ r216 = r211 → K (0 : Int32) G215)))))) := by
  have hR := h.r hn hn2
  have hN := fun (tx c : Nat) (P' : pA) (G5 G8 : gS) (τ : Int32) => h.next (tx := tx) (c := c) (P' := P') (G5 := G5) (G8 := G8) (τ := τ) hn hn2
  obtain ⟨hk, hb, ⟨c, hc, hct⟩, hm, ⟨g3, h3⟩, h4, hs, -⟩ := h
  have hi := hc.hi
  refine sc1 hs hn hn2 (sp_X0_energy hb hc (hR.le (by omega)) h3 fun G5 x => ?_)
  have hs5 := x.1.old (Or.inl ⟨_, _, h3⟩) hs
  have hm5 := x.1.mi (Or.inl ⟨_, _, h3⟩) hm
  refine sc1 hs5 hn hn2 (sm3_energy hm5 hi fun G8 m8 => ?_)
  obtain ⟨xf, g5, h5, e5⟩ := x
  refine sp_tail m8 rfl (m8.1.l h5) (fun e => ?_) ?_
  · rw [e5 e]
    have ea : (pIn (s (5 * k + 1)) 0 (aF P 9 - 1)) = true := by
      cases q : (pIn (s (5 * k + 1)) 0 (aF P 9 - 1)) with
      | true => rfl
      | false => rw [q] at e; exact absurd e (by decide)
    rw [if_pos ea]
  · exact hJ _ _ (hN t3 _ _ _ _ _ xf (Or.inl ⟨_, _, h3⟩) ⟨_, h5⟩ (xf.d h3 h4) m8 (by omega))
theorem sp_X0_goblinByWealth (hc : CI ad G t1 c P) (hR : rm G 200) {g0 : Nat → Int64} (h3 : G.1 t3 = some (gAl true 1 g0)) {K : Int32 → gS → Prop} (k : ∀ G5, XR ad G t1 t3 c P (qc (decide (pGobRank (aF P) x ≠ none))) (oI (pGobRank (aF P) x)) G5 → K (qc (decide (pGobRank (aF P) x ≠ none))) G5) : wp_X0_goblinByWealth ad G (some t1) x (some t3) X K := by
  unfold wp_X0_goblinByWealth wp_X0_goblinByWealth_12
  exact wNN_of ⟨hc.is, sp_X1_goblinByWealth hc hR (fun e q G' s hh => ⟨hh, xq0 hc h3 s e k⟩) (fun e G' s => xq1 hc h3 s rfl e k)⟩
theorem sm3_goblinByWealth (hm : MI G t2 P) (hi : hI (aF P) c) {K : Int32 → gS → Prop} (k : ∀ G', MR G t2 P (qc (decide (pGobRank (aF P) x ≠ none))) G' → K (if (decide (pGobRank (aF P) x ≠ none)) then (oI (pGobRank (aF P) x)) else 0) G') : gIs G t2 0 ∧ wp_X3_goblinByWealth ad G t2 x X K := by
  obtain ⟨B, I, V, h, hp⟩ := hm.o
  refine ⟨h.is, ?_⟩
  skip
  exact sm_goblinByWealth h hi.1.w (mq h hp k)
theorem law_24 (h : LI ad G k c1 t1 t2 t3 t4 s n P) (hn : 5 * k + 5 ≤ n) (hn2 : n ≤ 120) (hJ : ∀ G' P', LI ad G' (k + 1) c1 t1 t2 t3 t4 s n P' → J28 G' (some c1) t1 t2 t3 t4 (nI (5 * k) + (5 : Int32))) : wAldI G c1 ((nI (5 * k)) + (1 : Int32)) fun i218 => wp_X0_goblinByWealth ad G (some t1) i218 (some t3) X (fun r220 G219 => wAldI G219 c1 ((nI (5 * k)) + (1 : Int32)) fun i221 => (gIs G219 t2 0 ∧ wp_X3_goblinByWealth ad G219 t2 i221 X (fun r223 G222 => (gIs G222 t2 0 ∧ wp_X3_thrown ad G222 t2  X (fun r225 G224 => (r225 = r220 → (¬ r220 = (0 : Int32) → wp_L_law_1661 ad X K J28 G224 c1 t1 t2 t3 t4 (nI (5 * k))) ∧ (r220 = (0 : Int32) → wAldL G224 t3 (0 : Int32) fun i226 => ((lg_cmp i226 ((r223).toInt64)) = (0 : Int32) → wp_L_law_1661 ad X K J28 G224 c1 t1 t2 t3 t4 (nI (5 * k))) ∧ (¬ (lg_cmp i226 ((r223).toInt64)) = (0 : Int32) → K (0 : Int32) G224))) ∧ (¬ r225 = r220 → K (0 : Int32) G224)))))) := by
  have hR := h.r hn hn2
  have hN := fun (tx c : Nat) (P' : pA) (G5 G8 : gS) (τ : Int32) => h.next (tx := tx) (c := c) (P' := P') (G5 := G5) (G8 := G8) (τ := τ) hn hn2
  obtain ⟨hk, hb, ⟨c, hc, hct⟩, hm, ⟨g3, h3⟩, h4, hs, -⟩ := h
  have hi := hc.hi
  refine sc1 hs hn hn2 (sp_X0_goblinByWealth hc (hR.le (by omega)) h3 fun G5 x => ?_)
  have hs5 := x.1.old (Or.inl ⟨_, _, h3⟩) hs
  have hm5 := x.1.mi (Or.inl ⟨_, _, h3⟩) hm
  refine sc1 hs5 hn hn2 (sm3_goblinByWealth hm5 hi fun G8 m8 => ?_)
  obtain ⟨xf, g5, h5, e5⟩ := x
  refine sp_tail m8 rfl (m8.1.l h5) (fun e => ?_) ?_
  · rw [e5 e]
    have ea : (decide (pGobRank (aF P) (s (5 * k + 1)) ≠ none)) = true := by
      cases q : (decide (pGobRank (aF P) (s (5 * k + 1)) ≠ none)) with
      | true => rfl
      | false => rw [q] at e; exact absurd e (by decide)
    rw [if_pos ea]
  · exact hJ _ _ (hN t3 _ _ _ _ _ xf (Or.inl ⟨_, _, h3⟩) ⟨_, h5⟩ (xf.d h3 h4) m8 (by omega))
theorem sp_X0_contractAt (hc : CI ad G t1 c P) (hR : rm G 200) {g0 : Nat → Int64} (h3 : G.1 t3 = some (gAl true 1 g0)) {K : Int32 → gS → Prop} (k : ∀ G5, XR ad G t1 t3 c P (qc (pIn x 0 (aF P 11 - 1))) (aF P (51 + 5 * x.toNatClampNeg)) G5 → K (qc (pIn x 0 (aF P 11 - 1))) G5) : wp_X0_contractAt ad G (some t1) x (some t3) X K := by
  unfold wp_X0_contractAt wp_X0_contractAt_12
  exact wNN_of ⟨hc.is, sp_X1_contractAt hc hR (fun e q G' s hh => ⟨hh, xq0 hc h3 s e k⟩) (fun e G' s => xq1 hc h3 s rfl e k)⟩
theorem sm3_contractAt (hm : MI G t2 P) (hi : hI (aF P) c) {K : Int32 → gS → Prop} (k : ∀ G', MR G t2 P (qc (pIn x 0 (aF P 11 - 1))) G' → K (if (pIn x 0 (aF P 11 - 1)) then (aF P (51 + 5 * x.toNatClampNeg)) else 0) G') : gIs G t2 0 ∧ wp_X3_contractAt ad G t2 x X K := by
  obtain ⟨B, I, V, h, hp⟩ := hm.o
  refine ⟨h.is, ?_⟩
  skip
  exact sm_contractAt h hi.1.w (mq h hp k)
theorem law_28 (h : LI ad G k c1 t1 t2 t3 t4 s n P) (hn : 5 * k + 5 ≤ n) (hn2 : n ≤ 120) (hJ : ∀ G' P', LI ad G' (k + 1) c1 t1 t2 t3 t4 s n P' → J28 G' (some c1) t1 t2 t3 t4 (nI (5 * k) + (5 : Int32))) : wAldI G c1 ((nI (5 * k)) + (1 : Int32)) fun i249 => wp_X0_contractAt ad G (some t1) i249 (some t3) X (fun r251 G250 => wAldI G250 c1 ((nI (5 * k)) + (1 : Int32)) fun i252 => (gIs G250 t2 0 ∧ wp_X3_contractAt ad G250 t2 i252 X (fun r254 G253 => (gIs G253 t2 0 ∧ wp_X3_thrown ad G253 t2  X (fun r256 G255 => (r256 = r251 → (¬ r251 = (0 : Int32) → wp_L_law_1842 ad X K J28 G255 c1 t1 t2 t3 t4 (nI (5 * k))) ∧ (r251 = (0 : Int32) → wAldL G255 t3 (0 : Int32) fun i257 => ((lg_cmp i257 ((r254).toInt64)) = (0 : Int32) → wp_L_law_1842 ad X K J28 G255 c1 t1 t2 t3 t4 (nI (5 * k))) ∧ (¬ (lg_cmp i257 ((r254).toInt64)) = (0 : Int32) → K (0 : Int32) G255))) ∧ (¬ r256 = r251 → K (0 : Int32) G255)))))) := by
  have hR := h.r hn hn2
  have hN := fun (tx c : Nat) (P' : pA) (G5 G8 : gS) (τ : Int32) => h.next (tx := tx) (c := c) (P' := P') (G5 := G5) (G8 := G8) (τ := τ) hn hn2
  obtain ⟨hk, hb, ⟨c, hc, hct⟩, hm, ⟨g3, h3⟩, h4, hs, -⟩ := h
  have hi := hc.hi
  refine sc1 hs hn hn2 (sp_X0_contractAt hc (hR.le (by omega)) h3 fun G5 x => ?_)
  have hs5 := x.1.old (Or.inl ⟨_, _, h3⟩) hs
  have hm5 := x.1.mi (Or.inl ⟨_, _, h3⟩) hm
  refine sc1 hs5 hn hn2 (sm3_contractAt hm5 hi fun G8 m8 => ?_)
  obtain ⟨xf, g5, h5, e5⟩ := x
  refine sp_tail m8 rfl (m8.1.l h5) (fun e => ?_) ?_
  · rw [e5 e]
    have ea : (pIn (s (5 * k + 1)) 0 (aF P 11 - 1)) = true := by
      cases q : (pIn (s (5 * k + 1)) 0 (aF P 11 - 1)) with
      | true => rfl
      | false => rw [q] at e; exact absurd e (by decide)
    rw [if_pos ea]
  · exact hJ _ _ (hN t3 _ _ _ _ _ xf (Or.inl ⟨_, _, h3⟩) ⟨_, h5⟩ (xf.d h3 h4) m8 (by omega))
theorem sm3_broomCount (hm : MI G t2 P) (hi : hI (aF P) c) {K : Int32 → gS → Prop} (k : ∀ G', MR G t2 P 0 G' → K (aF P 8) G') : gIs G t2 0 ∧ wp_X3_broomCount ad G t2 X K := by
  obtain ⟨B, I, V, h, hp⟩ := hm.o
  refine ⟨h.is, ?_⟩
  unfold wp_X3_broomCount
  exact sm_count h (i := 8) (j := 8) rfl (by decide) (fun G' h' => k G' (MR.of h h' hp.t14 upd_self))
theorem law_14 (h : LI ad G k c1 t1 t2 t3 t4 s n P) (hn : 5 * k + 5 ≤ n) (hn2 : n ≤ 120) (hJ : ∀ G' P', LI ad G' (k + 1) c1 t1 t2 t3 t4 s n P' → J28 G' (some c1) t1 t2 t3 t4 (nI (5 * k) + (5 : Int32))) : (gIs G t1 1 ∧ wp_X1_broomCount ad G t1  X (fun r139 G138 => (gIs G138 t2 0 ∧ wp_X3_broomCount ad G138 t2  X (fun r141 G140 => (r139 = r141 → wp_L_law_2889 ad X K J28 G140 c1 t1 t2 t3 t4 (nI (5 * k))) ∧ (¬ r139 = r141 → K (0 : Int32) G140))))) := by
  have hN := fun (tx c : Nat) (P' : pA) (G5 G8 : gS) (τ : Int32) => h.next (tx := tx) (c := c) (P' := P') (G5 := G5) (G8 := G8) (τ := τ) hn hn2
  obtain ⟨hk, hb, ⟨c, hc, hct⟩, hm, ⟨g3, h3⟩, h4, hs, -⟩ := h
  refine sp_X1_broomCount hc (sm3_broomCount hm hc.hi fun G8 m8 => ⟨fun _ => ?_, fun z => absurd rfl z⟩)
  exact hJ _ _ (hN t3 _ _ _ _ _ (XF.of2 hc gF2.refl) (Or.inl ⟨_, _, h3⟩) ⟨_, h3⟩ h4 m8 (by omega))
theorem sm3_goblinCount (hm : MI G t2 P) (hi : hI (aF P) c) {K : Int32 → gS → Prop} (k : ∀ G', MR G t2 P 0 G' → K (aF P 9) G') : gIs G t2 0 ∧ wp_X3_goblinCount ad G t2 X K := by
  obtain ⟨B, I, V, h, hp⟩ := hm.o
  refine ⟨h.is, ?_⟩
  unfold wp_X3_goblinCount
  exact sm_count h (i := 9) (j := 9) rfl (by decide) (fun G' h' => k G' (MR.of h h' hp.t14 upd_self))
theorem law_17 (h : LI ad G k c1 t1 t2 t3 t4 s n P) (hn : 5 * k + 5 ≤ n) (hn2 : n ≤ 120) (hJ : ∀ G' P', LI ad G' (k + 1) c1 t1 t2 t3 t4 s n P' → J28 G' (some c1) t1 t2 t3 t4 (nI (5 * k) + (5 : Int32))) : (gIs G t1 1 ∧ wp_X1_goblinCount ad G t1  X (fun r161 G160 => (gIs G160 t2 0 ∧ wp_X3_goblinCount ad G160 t2  X (fun r163 G162 => (r161 = r163 → wp_L_law_2889 ad X K J28 G162 c1 t1 t2 t3 t4 (nI (5 * k))) ∧ (¬ r161 = r163 → K (0 : Int32) G162))))) := by
  have hN := fun (tx c : Nat) (P' : pA) (G5 G8 : gS) (τ : Int32) => h.next (tx := tx) (c := c) (P' := P') (G5 := G5) (G8 := G8) (τ := τ) hn hn2
  obtain ⟨hk, hb, ⟨c, hc, hct⟩, hm, ⟨g3, h3⟩, h4, hs, -⟩ := h
  refine sp_X1_goblinCount hc (sm3_goblinCount hm hc.hi fun G8 m8 => ⟨fun _ => ?_, fun z => absurd rfl z⟩)
  exact hJ _ _ (hN t3 _ _ _ _ _ (XF.of2 hc gF2.refl) (Or.inl ⟨_, _, h3⟩) ⟨_, h3⟩ h4 m8 (by omega))
theorem sm3_openContracts (hm : MI G t2 P) (hi : hI (aF P) c) {K : Int32 → gS → Prop} (k : ∀ G', MR G t2 P 0 G' → K (aF P 11) G') : gIs G t2 0 ∧ wp_X3_openContracts ad G t2 X K := by
  obtain ⟨B, I, V, h, hp⟩ := hm.o
  refine ⟨h.is, ?_⟩
  unfold wp_X3_openContracts
  exact sm_count h (i := 11) (j := 11) rfl (by decide) (fun G' h' => k G' (MR.of h h' hp.t14 upd_self))
theorem law_27 (h : LI ad G k c1 t1 t2 t3 t4 s n P) (hn : 5 * k + 5 ≤ n) (hn2 : n ≤ 120) (hJ : ∀ G' P', LI ad G' (k + 1) c1 t1 t2 t3 t4 s n P' → J28 G' (some c1) t1 t2 t3 t4 (nI (5 * k) + (5 : Int32))) : (gIs G t1 1 ∧ wp_X1_openContracts ad G t1  X (fun r246 G245 => (gIs G245 t2 0 ∧ wp_X3_openContracts ad G245 t2  X (fun r248 G247 => (r246 = r248 → wp_L_law_2889 ad X K J28 G247 c1 t1 t2 t3 t4 (nI (5 * k))) ∧ (¬ r246 = r248 → K (0 : Int32) G247))))) := by
  have hN := fun (tx c : Nat) (P' : pA) (G5 G8 : gS) (τ : Int32) => h.next (tx := tx) (c := c) (P' := P') (G5 := G5) (G8 := G8) (τ := τ) hn hn2
  obtain ⟨hk, hb, ⟨c, hc, hct⟩, hm, ⟨g3, h3⟩, h4, hs, -⟩ := h
  refine sp_X1_openContracts hc (sm3_openContracts hm hc.hi fun G8 m8 => ⟨fun _ => ?_, fun z => absurd rfl z⟩)
  exact hJ _ _ (hN t3 _ _ _ _ _ (XF.of2 hc gF2.refl) (Or.inl ⟨_, _, h3⟩) ⟨_, h3⟩ h4 m8 (by omega))
theorem sm3_night (hm : MI G t2 P) (hi : hI (aF P) c) {K : Int32 → gS → Prop} (k : ∀ G', MR G t2 P 0 G' → K (aF P 0) G') : gIs G t2 0 ∧ wp_X3_night ad G t2 X K := by
  obtain ⟨B, I, V, h, hp⟩ := hm.o
  refine ⟨h.is, ?_⟩
  unfold wp_X3_night
  exact ⟨h.is, sm_total h (i := 0) (j := 0) rfl (by decide) (fun G' h' => k G' (MR.of h h' hp.t14 upd_self))⟩
theorem law_36 (h : LI ad G k c1 t1 t2 t3 t4 s n P) (hn : 5 * k + 5 ≤ n) (hn2 : n ≤ 120) (hJ : ∀ G' P', LI ad G' (k + 1) c1 t1 t2 t3 t4 s n P' → J28 G' (some c1) t1 t2 t3 t4 (nI (5 * k) + (5 : Int32))) : (gIs G t1 1 ∧ wp_X1_night ad G t1  X (fun r324 G323 => (gIs G323 t2 0 ∧ wp_X3_night ad G323 t2  X (fun r326 G325 => (r324 = r326 → wp_L_law_2889 ad X K J28 G325 c1 t1 t2 t3 t4 (nI (5 * k))) ∧ (¬ r324 = r326 → K (0 : Int32) G325))))) := by
  have hN := fun (tx c : Nat) (P' : pA) (G5 G8 : gS) (τ : Int32) => h.next (tx := tx) (c := c) (P' := P') (G5 := G5) (G8 := G8) (τ := τ) hn hn2
  obtain ⟨hk, hb, ⟨c, hc, hct⟩, hm, ⟨g3, h3⟩, h4, hs, -⟩ := h
  refine sp_X1_night hc (sm3_night hm hc.hi fun G8 m8 => ⟨fun _ => ?_, fun z => absurd rfl z⟩)
  exact hJ _ _ (hN t3 _ _ _ _ _ (XF.of2 hc gF2.refl) (Or.inl ⟨_, _, h3⟩) ⟨_, h3⟩ h4 m8 (by omega))
theorem sm3_chest (hm : MI G t2 P) (hi : hI (aF P) c) {K : Int32 → gS → Prop} (k : ∀ G', MR G t2 P 0 G' → K (aF P 1) G') : gIs G t2 0 ∧ wp_X3_chest ad G t2 X K := by
  obtain ⟨B, I, V, h, hp⟩ := hm.o
  refine ⟨h.is, ?_⟩
  unfold wp_X3_chest
  exact ⟨h.is, sm_total h (i := 1) (j := 1) rfl (by decide) (fun G' h' => k G' (MR.of h h' hp.t14 upd_self))⟩
theorem law_37 (h : LI ad G k c1 t1 t2 t3 t4 s n P) (hn : 5 * k + 5 ≤ n) (hn2 : n ≤ 120) (hJ : ∀ G' P', LI ad G' (k + 1) c1 t1 t2 t3 t4 s n P' → J28 G' (some c1) t1 t2 t3 t4 (nI (5 * k) + (5 : Int32))) : (gIs G t1 1 ∧ wp_X1_chest ad G t1  X (fun r328 G327 => (gIs G327 t2 0 ∧ wp_X3_chest ad G327 t2  X (fun r330 G329 => (r328 = r330 → wp_L_law_2889 ad X K J28 G329 c1 t1 t2 t3 t4 (nI (5 * k))) ∧ (¬ r328 = r330 → K (0 : Int32) G329))))) := by
  have hN := fun (tx c : Nat) (P' : pA) (G5 G8 : gS) (τ : Int32) => h.next (tx := tx) (c := c) (P' := P') (G5 := G5) (G8 := G8) (τ := τ) hn hn2
  obtain ⟨hk, hb, ⟨c, hc, hct⟩, hm, ⟨g3, h3⟩, h4, hs, -⟩ := h
  refine sp_X1_chest hc (sm3_chest hm hc.hi fun G8 m8 => ⟨fun _ => ?_, fun z => absurd rfl z⟩)
  exact hJ _ _ (hN t3 _ _ _ _ _ (XF.of2 hc gF2.refl) (Or.inl ⟨_, _, h3⟩) ⟨_, h3⟩ h4 m8 (by omega))
theorem sm3_allCrumbs (hm : MI G t2 P) (hi : hI (aF P) c) {K : Int32 → gS → Prop} (k : ∀ G', MR G t2 P 0 G' → K (pPurses (aF P) (nG (aF P))) G') : gIs G t2 0 ∧ wp_X3_allCrumbs ad G t2 X K := by
  obtain ⟨B, I, V, h, hp⟩ := hm.o
  refine ⟨h.is, ?_⟩
  skip
  exact sm_allCrumbs h hi.1.w (fun G' h' => k G' (MR.of h h' hp.t14 upd_self))
theorem law_38 (h : LI ad G k c1 t1 t2 t3 t4 s n P) (hn : 5 * k + 5 ≤ n) (hn2 : n ≤ 120) (hJ : ∀ G' P', LI ad G' (k + 1) c1 t1 t2 t3 t4 s n P' → J28 G' (some c1) t1 t2 t3 t4 (nI (5 * k) + (5 : Int32))) : (gIs G t1 1 ∧ wp_X1_allCrumbs ad G t1  X (fun r332 G331 => (gIs G331 t2 0 ∧ wp_X3_allCrumbs ad G331 t2  X (fun r334 G333 => (r332 = r334 → wp_L_law_2889 ad X K J28 G333 c1 t1 t2 t3 t4 (nI (5 * k))) ∧ (¬ r332 = r334 → K (0 : Int32) G333))))) := by
  have hN := fun (tx c : Nat) (P' : pA) (G5 G8 : gS) (τ : Int32) => h.next (tx := tx) (c := c) (P' := P') (G5 := G5) (G8 := G8) (τ := τ) hn hn2
  obtain ⟨hk, hb, ⟨c, hc, hct⟩, hm, ⟨g3, h3⟩, h4, hs, -⟩ := h
  refine sp_X1_allCrumbs hc (sm3_allCrumbs hm hc.hi fun G8 m8 => ⟨fun _ => ?_, fun z => absurd rfl z⟩)
  exact hJ _ _ (hN t3 _ _ _ _ _ (XF.of2 hc gF2.refl) (Or.inl ⟨_, _, h3⟩) ⟨_, h3⟩ h4 m8 (by omega))
theorem sm3_allCrumbsByAccounts (hm : MI G t2 P) (hi : hI (aF P) c) {K : Int32 → gS → Prop} (k : ∀ G', MR G t2 P 0 G' → K (100 + aF P 2 - aF P 3) G') : gIs G t2 0 ∧ wp_X3_allCrumbsByAccounts ad G t2 X K := by
  obtain ⟨B, I, V, h, hp⟩ := hm.o
  refine ⟨h.is, ?_⟩
  skip
  exact sm_byAccounts h (fun G' h' => k G' (MR.of h h' hp.t14 upd_self))
theorem law_39 (h : LI ad G k c1 t1 t2 t3 t4 s n P) (hn : 5 * k + 5 ≤ n) (hn2 : n ≤ 120) (hJ : ∀ G' P', LI ad G' (k + 1) c1 t1 t2 t3 t4 s n P' → J28 G' (some c1) t1 t2 t3 t4 (nI (5 * k) + (5 : Int32))) : (gIs G t1 1 ∧ wp_X1_allCrumbsByAccounts ad G t1  X (fun r336 G335 => (gIs G335 t2 0 ∧ wp_X3_allCrumbsByAccounts ad G335 t2  X (fun r338 G337 => (r336 = r338 → wp_L_law_2889 ad X K J28 G337 c1 t1 t2 t3 t4 (nI (5 * k))) ∧ (¬ r336 = r338 → K (0 : Int32) G337))))) := by
  have hN := fun (tx c : Nat) (P' : pA) (G5 G8 : gS) (τ : Int32) => h.next (tx := tx) (c := c) (P' := P') (G5 := G5) (G8 := G8) (τ := τ) hn hn2
  obtain ⟨hk, hb, ⟨c, hc, hct⟩, hm, ⟨g3, h3⟩, h4, hs, -⟩ := h
  refine sp_X1_allCrumbsByAccounts hc (sm3_allCrumbsByAccounts hm hc.hi fun G8 m8 => ⟨fun _ => ?_, fun z => absurd rfl z⟩)
  exact hJ _ _ (hN t3 _ _ _ _ _ (XF.of2 hc gF2.refl) (Or.inl ⟨_, _, h3⟩) ⟨_, h3⟩ h4 m8 (by omega))
theorem sm3_doneTotal (hm : MI G t2 P) (hi : hI (aF P) c) {K : Int32 → gS → Prop} (k : ∀ G', MR G t2 P 0 G' → K (aF P 4) G') : gIs G t2 0 ∧ wp_X3_doneTotal ad G t2 X K := by
  obtain ⟨B, I, V, h, hp⟩ := hm.o
  refine ⟨h.is, ?_⟩
  unfold wp_X3_doneTotal
  exact ⟨h.is, sm_total h (i := 4) (j := 4) rfl (by decide) (fun G' h' => k G' (MR.of h h' hp.t14 upd_self))⟩
theorem law_40 (h : LI ad G k c1 t1 t2 t3 t4 s n P) (hn : 5 * k + 5 ≤ n) (hn2 : n ≤ 120) (hJ : ∀ G' P', LI ad G' (k + 1) c1 t1 t2 t3 t4 s n P' → J28 G' (some c1) t1 t2 t3 t4 (nI (5 * k) + (5 : Int32))) : (gIs G t1 1 ∧ wp_X1_doneTotal ad G t1  X (fun r340 G339 => (gIs G339 t2 0 ∧ wp_X3_doneTotal ad G339 t2  X (fun r342 G341 => (r340 = r342 → wp_L_law_2889 ad X K J28 G341 c1 t1 t2 t3 t4 (nI (5 * k))) ∧ (¬ r340 = r342 → K (0 : Int32) G341))))) := by
  have hN := fun (tx c : Nat) (P' : pA) (G5 G8 : gS) (τ : Int32) => h.next (tx := tx) (c := c) (P' := P') (G5 := G5) (G8 := G8) (τ := τ) hn hn2
  obtain ⟨hk, hb, ⟨c, hc, hct⟩, hm, ⟨g3, h3⟩, h4, hs, -⟩ := h
  refine sp_X1_doneTotal hc (sm3_doneTotal hm hc.hi fun G8 m8 => ⟨fun _ => ?_, fun z => absurd rfl z⟩)
  exact hJ _ _ (hN t3 _ _ _ _ _ (XF.of2 hc gF2.refl) (Or.inl ⟨_, _, h3⟩) ⟨_, h3⟩ h4 m8 (by omega))
theorem sm3_brokenTotal (hm : MI G t2 P) (hi : hI (aF P) c) {K : Int32 → gS → Prop} (k : ∀ G', MR G t2 P 0 G' → K (aF P 5) G') : gIs G t2 0 ∧ wp_X3_brokenTotal ad G t2 X K := by
  obtain ⟨B, I, V, h, hp⟩ := hm.o
  refine ⟨h.is, ?_⟩
  unfold wp_X3_brokenTotal
  exact ⟨h.is, sm_total h (i := 5) (j := 5) rfl (by decide) (fun G' h' => k G' (MR.of h h' hp.t14 upd_self))⟩
theorem law_41 (h : LI ad G k c1 t1 t2 t3 t4 s n P) (hn : 5 * k + 5 ≤ n) (hn2 : n ≤ 120) (hJ : ∀ G' P', LI ad G' (k + 1) c1 t1 t2 t3 t4 s n P' → J28 G' (some c1) t1 t2 t3 t4 (nI (5 * k) + (5 : Int32))) : (gIs G t1 1 ∧ wp_X1_brokenTotal ad G t1  X (fun r344 G343 => (gIs G343 t2 0 ∧ wp_X3_brokenTotal ad G343 t2  X (fun r346 G345 => (r344 = r346 → wp_L_law_2889 ad X K J28 G345 c1 t1 t2 t3 t4 (nI (5 * k))) ∧ (¬ r344 = r346 → K (0 : Int32) G345))))) := by
  have hN := fun (tx c : Nat) (P' : pA) (G5 G8 : gS) (τ : Int32) => h.next (tx := tx) (c := c) (P' := P') (G5 := G5) (G8 := G8) (τ := τ) hn hn2
  obtain ⟨hk, hb, ⟨c, hc, hct⟩, hm, ⟨g3, h3⟩, h4, hs, -⟩ := h
  refine sp_X1_brokenTotal hc (sm3_brokenTotal hm hc.hi fun G8 m8 => ⟨fun _ => ?_, fun z => absurd rfl z⟩)
  exact hJ _ _ (hN t3 _ _ _ _ _ (XF.of2 hc gF2.refl) (Or.inl ⟨_, _, h3⟩) ⟨_, h3⟩ h4 m8 (by omega))
theorem sm3_unpaidTotal (hm : MI G t2 P) (hi : hI (aF P) c) {K : Int32 → gS → Prop} (k : ∀ G', MR G t2 P 0 G' → K (aF P 6) G') : gIs G t2 0 ∧ wp_X3_unpaidTotal ad G t2 X K := by
  obtain ⟨B, I, V, h, hp⟩ := hm.o
  refine ⟨h.is, ?_⟩
  unfold wp_X3_unpaidTotal
  exact ⟨h.is, sm_total h (i := 6) (j := 6) rfl (by decide) (fun G' h' => k G' (MR.of h h' hp.t14 upd_self))⟩
theorem law_42 (h : LI ad G k c1 t1 t2 t3 t4 s n P) (hn : 5 * k + 5 ≤ n) (hn2 : n ≤ 120) (hJ : ∀ G' P', LI ad G' (k + 1) c1 t1 t2 t3 t4 s n P' → J28 G' (some c1) t1 t2 t3 t4 (nI (5 * k) + (5 : Int32))) : (gIs G t1 1 ∧ wp_X1_unpaidTotal ad G t1  X (fun r348 G347 => (gIs G347 t2 0 ∧ wp_X3_unpaidTotal ad G347 t2  X (fun r350 G349 => (r348 = r350 → wp_L_law_2889 ad X K J28 G349 c1 t1 t2 t3 t4 (nI (5 * k))) ∧ (¬ r348 = r350 → K (0 : Int32) G349))))) := by
  have hN := fun (tx c : Nat) (P' : pA) (G5 G8 : gS) (τ : Int32) => h.next (tx := tx) (c := c) (P' := P') (G5 := G5) (G8 := G8) (τ := τ) hn hn2
  obtain ⟨hk, hb, ⟨c, hc, hct⟩, hm, ⟨g3, h3⟩, h4, hs, -⟩ := h
  refine sp_X1_unpaidTotal hc (sm3_unpaidTotal hm hc.hi fun G8 m8 => ⟨fun _ => ?_, fun z => absurd rfl z⟩)
  exact hJ _ _ (hN t3 _ _ _ _ _ (XF.of2 hc gF2.refl) (Or.inl ⟨_, _, h3⟩) ⟨_, h3⟩ h4 m8 (by omega))
theorem sm3_interestTotal (hm : MI G t2 P) (hi : hI (aF P) c) {K : Int32 → gS → Prop} (k : ∀ G', MR G t2 P 0 G' → K (aF P 7) G') : gIs G t2 0 ∧ wp_X3_interestTotal ad G t2 X K := by
  obtain ⟨B, I, V, h, hp⟩ := hm.o
  refine ⟨h.is, ?_⟩
  unfold wp_X3_interestTotal
  exact ⟨h.is, sm_total h (i := 7) (j := 7) rfl (by decide) (fun G' h' => k G' (MR.of h h' hp.t14 upd_self))⟩
theorem law_43 (h : LI ad G k c1 t1 t2 t3 t4 s n P) (hn : 5 * k + 5 ≤ n) (hn2 : n ≤ 120) (hJ : ∀ G' P', LI ad G' (k + 1) c1 t1 t2 t3 t4 s n P' → J28 G' (some c1) t1 t2 t3 t4 (nI (5 * k) + (5 : Int32))) : (gIs G t1 1 ∧ wp_X1_interestTotal ad G t1  X (fun r352 G351 => (gIs G351 t2 0 ∧ wp_X3_interestTotal ad G351 t2  X (fun r354 G353 => (r352 = r354 → wp_L_law_2889 ad X K J28 G353 c1 t1 t2 t3 t4 (nI (5 * k))) ∧ (¬ r352 = r354 → K (0 : Int32) G353))))) := by
  have hN := fun (tx c : Nat) (P' : pA) (G5 G8 : gS) (τ : Int32) => h.next (tx := tx) (c := c) (P' := P') (G5 := G5) (G8 := G8) (τ := τ) hn hn2
  obtain ⟨hk, hb, ⟨c, hc, hct⟩, hm, ⟨g3, h3⟩, h4, hs, -⟩ := h
  refine sp_X1_interestTotal hc (sm3_interestTotal hm hc.hi fun G8 m8 => ⟨fun _ => ?_, fun z => absurd rfl z⟩)
  exact hJ _ _ (hN t3 _ _ _ _ _ (XF.of2 hc gF2.refl) (Or.inl ⟨_, _, h3⟩) ⟨_, h3⟩ h4 m8 (by omega))
end LW
