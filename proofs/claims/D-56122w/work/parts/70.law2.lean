/-! PURE: the law: more questions (printed by gen/law2.py) -/
set_option maxRecDepth 20000
section LW
variable {ad : Nat → Nat} {G G' : gS} {k c1 t1 t2 t3 t4 n c tx : Nat} {s : Nat → Int32} {P P' : pA} {X : Nat → gS → Prop} {K : Int32 → gS → Prop} {J28 : gS → Option Nat → Nat → Nat → Nat → Nat → Int32 → Prop}
variable {B : Nat → Nat} {I : Nat → Int32} {V : Nat → Nat → Int32} {x y : Int32}
theorem fl_d : ∀ s : Fin 595, vf_n64 (FP.ddiv (FP.i2d (nI s.val)) (4618441417868443648 : UInt64)) := by
  unfold vf_n64
  decide +kernel
theorem fl_f : ∀ d : Fin 25, ∀ e : Fin 25, 0 < e.val → vf_n32 (FP.fdiv (FP.i2f (nI d.val)) (FP.i2f (nI e.val))) ∧ vf_n64 (FP.f2d (FP.fdiv (FP.i2f (nI d.val)) (FP.i2f (nI e.val)))) ∧ (Op.cmpValue (FP.dcmp (FP.f2d (FP.fdiv (FP.i2f (nI d.val)) (FP.i2f (nI e.val)))) (FP.f2d (FP.fdiv (FP.i2f (nI d.val)) (FP.i2f (nI e.val))))) .l) = (0 : Int32) := by
  unfold vf_n64 vf_n32
  decide +kernel
theorem pDustSum_n {f : pF} (hd : jD f) : ∀ n, n ≤ 6 → ∃ s, s ≤ 99 * n ∧ pDustSum f n = nI s
  | 0, _ => ⟨0, by omega, rfl⟩
  | n + 1, h => by
    obtain ⟨s, h1, h2⟩ := pDustSum_n hd n (by omega)
    obtain ⟨e1, e2⟩ := hd n (by omega)
    refine ⟨s + pN f (12 + n), by omega, ?_⟩
    rw [pDustSum, h2, e1, nI_add]
theorem fl_dust {f : pF} (hd : jD f) : vf_n64 (FP.ddiv (FP.i2d (pDustSum f 6)) (4618441417868443648 : UInt64)) := by
  obtain ⟨s, h1, h2⟩ := pDustSum_n hd 6 (by omega)
  rw [h2]
  exact fl_d ⟨s, by omega⟩
theorem hI.db {f : pF} (h : hI f c) (hc : c ≤ 24) : ∃ d b, d + b ≤ 24 ∧ f 4 = nI d ∧ f 5 = nI b := by
  obtain ⟨⟨⟨-, -, -, ⟨e10, h10⟩, -⟩, -, -, -, -, -, ⟨⟨e5, -⟩, h5⟩⟩, h4⟩ := h
  exact ⟨_, _, by omega, h4, e5⟩
theorem fl_rel {f : pF} (h : hI f c) (hc : c ≤ 24) (h0 : ¬ f 4 + f 5 = 0) : vf_n32 (FP.fdiv (FP.i2f (f 4)) (FP.i2f (f 4 + f 5))) ∧ vf_n64 (FP.f2d (FP.fdiv (FP.i2f (f 4)) (FP.i2f (f 4 + f 5)))) ∧ (Op.cmpValue (FP.dcmp (FP.f2d (FP.fdiv (FP.i2f (f 4)) (FP.i2f (f 4 + f 5)))) (FP.f2d (FP.fdiv (FP.i2f (f 4)) (FP.i2f (f 4 + f 5))))) .l) = (0 : Int32) := by
  obtain ⟨d, b, hdb, e1, e2⟩ := h.db hc
  rw [e1, e2, nI_add] at h0 ⊢
  have : 0 < d + b := Nat.pos_of_ne_zero fun z => h0 (by rw [z]; rfl)
  exact fl_f ⟨d, by omega⟩ ⟨d + b, by omega⟩ this
theorem rel_pos {f : pF} (h : hI f c) (hc : c ≤ 24) : (0 < f 4 + f 5) = ¬ (f 4 + f 5 = 0) := by
  obtain ⟨d, b, hdb, e1, e2⟩ := h.db hc
  rw [e1, e2, nI_add]
  apply propext
  constructor
  · intro q z
    rw [z] at q
    exact absurd q (by decide)
  · intro q
    exact nI_lt (a := 0) (Nat.pos_of_ne_zero fun z => q (by rw [z]; rfl)) (by omega)
theorem sp_X0_bestWages (hb : bs ad G) (hc : CI ad G t1 c P) (hR : rm G 200) {g0 : Nat → Int64} (h3 : G.1 t3 = some (gAl true 1 g0)) {K : Int32 → gS → Prop} (k : ∀ G5, XR ad G t1 t3 c P (qc (pIn x 0 (aF P 9 - 1))) (pBest (aF P) x (nC (aF P)) (pEnergy (aF P) (pGi (aF P) x)).toNatClampNeg) G5 → K (qc (pIn x 0 (aF P 9 - 1))) G5) : wp_X0_bestWages ad G (some t1) x (some t3) X K := by
  unfold wp_X0_bestWages wp_X0_bestWages_12
  exact wNN_of ⟨hc.is, sp_X1_bestWages hb hc hR (fun e q G' s hh => ⟨hh, xq0 hc h3 s e k⟩) (fun e G' s => xq1 hc h3 s rfl e k)⟩
theorem sm3_bestWages (hm : MI G t2 P) (hi : hI (aF P) c) {K : Int32 → gS → Prop} (k : ∀ G', MR G t2 P (qc (pIn x 0 (aF P 9 - 1))) G' → K (if qc (pIn x 0 (aF P 9 - 1)) = 0 then (pBest (aF P) x (nC (aF P)) (pEnergy (aF P) (pGi (aF P) x)).toNatClampNeg) else 0) G') : gIs G t2 0 ∧ wp_X3_bestWages ad G t2 x X K := by
  obtain ⟨B, I, V, h, hp⟩ := hm.o
  refine ⟨h.is, ?_⟩
  unfold wp_X3_bestWages
  refine ⟨h.is, sm_bestOf h hi.1.w (jC.e hi.1) (fun g hg => pEnergy_nI hi.1 hg) (fun e G' h' => ?_) (fun e G' V' he h' => ?_)⟩
  · rw [e] at k
    exact k G' (MR.of h h' hp.t14 upd_self)
  · rw [e] at k
    exact k G' (MR.of h h' (hp.eq he).t14 upd_self)
theorem law_25 (h : LI ad G k c1 t1 t2 t3 t4 s n P) (hn : 5 * k + 5 ≤ n) (hn2 : n ≤ 120) (hJ : ∀ G' P', LI ad G' (k + 1) c1 t1 t2 t3 t4 s n P' → J28 G' (some c1) t1 t2 t3 t4 (nI (5 * k) + (5 : Int32))) : wAldI G c1 ((nI (5 * k)) + (1 : Int32)) fun i227 => wp_X0_bestWages ad G (some t1) i227 (some t3) X (fun r229 G228 => wAldI G228 c1 ((nI (5 * k)) + (1 : Int32)) fun i230 => (gIs G228 t2 0 ∧ wp_X3_bestWages ad G228 t2 i230 X (fun r232 G231 => (gIs G231 t2 0 ∧ wp_X3_thrown ad G231 t2  X (fun r234 G233 => (r234 = r229 → (¬ r229 = (0 : Int32) → wp_L_law_1717 ad X K J28 G233 c1 t1 t2 t3 t4 (nI (5 * k))) ∧ (r229 = (0 : Int32) → wAldL G233 t3 (0 : Int32) fun i235 => ((lg_cmp i235 ((r232).toInt64)) = (0 : Int32) → wp_L_law_1717 ad X K J28 G233 c1 t1 t2 t3 t4 (nI (5 * k))) ∧ (¬ (lg_cmp i235 ((r232).toInt64)) = (0 : Int32) → K (0 : Int32) G233))) ∧ (¬ r234 = r229 → K (0 : Int32) G233)))))) := by
  have hR := h.r hn hn2
  have hN := fun (tx c : Nat) (P' : pA) (G5 G8 : gS) (τ : Int32) => h.next (tx := tx) (c := c) (P' := P') (G5 := G5) (G8 := G8) (τ := τ) hn hn2
  obtain ⟨hk, hb, ⟨c, hc, hct⟩, hm, ⟨g3, h3⟩, h4, hs, -⟩ := h
  have hi := hc.hi
  refine sc1 hs hn hn2 (sp_X0_bestWages hb hc (hR.le (by omega)) h3 fun G5 x => ?_)
  have hs5 := x.1.old (Or.inl ⟨_, _, h3⟩) hs
  have hm5 := x.1.mi (Or.inl ⟨_, _, h3⟩) hm
  refine sc1 hs5 hn hn2 (sm3_bestWages hm5 hi fun G8 m8 => ?_)
  obtain ⟨xf, g5, h5, e5⟩ := x
  refine sp_tail m8 rfl (m8.1.l h5) (fun e => ?_) ?_
  · rw [e5 e, if_pos e]
  · exact hJ _ _ (hN t3 _ _ _ _ _ xf (Or.inl ⟨_, _, h3⟩) ⟨_, h5⟩ (xf.d h3 h4) m8 (by omega))
theorem sp_X0_bestWagesByTable (hb : bs ad G) (hc : CI ad G t1 c P) (hR : rm G 200) {g0 : Nat → Int64} (h3 : G.1 t3 = some (gAl true 1 g0)) {K : Int32 → gS → Prop} (k : ∀ G5, XR ad G t1 t3 c P (qc (pIn x 0 (aF P 9 - 1))) (pBest (aF P) x (nC (aF P)) (pEnergy (aF P) (pGi (aF P) x)).toNatClampNeg) G5 → K (qc (pIn x 0 (aF P 9 - 1))) G5) : wp_X0_bestWagesByTable ad G (some t1) x (some t3) X K := by
  unfold wp_X0_bestWagesByTable wp_X0_bestWagesByTable_12
  exact wNN_of ⟨hc.is, sp_X1_bestWagesByTable hb hc hR (fun e q G' s hh => ⟨hh, xq0 hc h3 s e k⟩) (fun e G' s => xq1 hc h3 s rfl e k)⟩
theorem sm3_bestWagesByTable (hm : MI G t2 P) (hi : hI (aF P) c) {K : Int32 → gS → Prop} (k : ∀ G', MR G t2 P (qc (pIn x 0 (aF P 9 - 1))) G' → K (if qc (pIn x 0 (aF P 9 - 1)) = 0 then (pBest (aF P) x (nC (aF P)) (pEnergy (aF P) (pGi (aF P) x)).toNatClampNeg) else 0) G') : gIs G t2 0 ∧ wp_X3_bestWagesByTable ad G t2 x X K := by
  obtain ⟨B, I, V, h, hp⟩ := hm.o
  refine ⟨h.is, ?_⟩
  unfold wp_X3_bestWagesByTable
  refine ⟨h.is, sm_bestOf h hi.1.w (jC.e hi.1) (fun g hg => pEnergy_nI hi.1 hg) (fun e G' h' => ?_) (fun e G' V' he h' => ?_)⟩
  · rw [e] at k
    exact k G' (MR.of h h' hp.t14 upd_self)
  · rw [e] at k
    exact k G' (MR.of h h' (hp.eq he).t14 upd_self)
theorem law_26 (h : LI ad G k c1 t1 t2 t3 t4 s n P) (hn : 5 * k + 5 ≤ n) (hn2 : n ≤ 120) (hJ : ∀ G' P', LI ad G' (k + 1) c1 t1 t2 t3 t4 s n P' → J28 G' (some c1) t1 t2 t3 t4 (nI (5 * k) + (5 : Int32))) : wAldI G c1 ((nI (5 * k)) + (1 : Int32)) fun i236 => wp_X0_bestWagesByTable ad G (some t1) i236 (some t3) X (fun r238 G237 => wAldI G237 c1 ((nI (5 * k)) + (1 : Int32)) fun i239 => (gIs G237 t2 0 ∧ wp_X3_bestWagesByTable ad G237 t2 i239 X (fun r241 G240 => (gIs G240 t2 0 ∧ wp_X3_thrown ad G240 t2  X (fun r243 G242 => (r243 = r238 → (¬ r238 = (0 : Int32) → wp_L_law_1773 ad X K J28 G242 c1 t1 t2 t3 t4 (nI (5 * k))) ∧ (r238 = (0 : Int32) → wAldL G242 t3 (0 : Int32) fun i244 => ((lg_cmp i244 ((r241).toInt64)) = (0 : Int32) → wp_L_law_1773 ad X K J28 G242 c1 t1 t2 t3 t4 (nI (5 * k))) ∧ (¬ (lg_cmp i244 ((r241).toInt64)) = (0 : Int32) → K (0 : Int32) G242))) ∧ (¬ r243 = r238 → K (0 : Int32) G242)))))) := by
  have hR := h.r hn hn2
  have hN := fun (tx c : Nat) (P' : pA) (G5 G8 : gS) (τ : Int32) => h.next (tx := tx) (c := c) (P' := P') (G5 := G5) (G8 := G8) (τ := τ) hn hn2
  obtain ⟨hk, hb, ⟨c, hc, hct⟩, hm, ⟨g3, h3⟩, h4, hs, -⟩ := h
  have hi := hc.hi
  refine sc1 hs hn hn2 (sp_X0_bestWagesByTable hb hc (hR.le (by omega)) h3 fun G5 x => ?_)
  have hs5 := x.1.old (Or.inl ⟨_, _, h3⟩) hs
  have hm5 := x.1.mi (Or.inl ⟨_, _, h3⟩) hm
  refine sc1 hs5 hn hn2 (sm3_bestWagesByTable hm5 hi fun G8 m8 => ?_)
  obtain ⟨xf, g5, h5, e5⟩ := x
  refine sp_tail m8 rfl (m8.1.l h5) (fun e => ?_) ?_
  · rw [e5 e, if_pos e]
  · exact hJ _ _ (hN t3 _ _ _ _ _ xf (Or.inl ⟨_, _, h3⟩) ⟨_, h5⟩ (xf.d h3 h4) m8 (by omega))
theorem sp_X0_goblinOf (hb : bs ad G) (hc : CI ad G t1 c P) (hR : rm G 200) {g0 : Nat → Int64} (h3 : G.1 t3 = some (gAl true 1 g0)) {K : Int32 → gS → Prop} (k : ∀ G5, XR ad G t1 t3 c P (qc ((pFind (aF P) x (nC (aF P))).isSome)) (aF P (51 + 1 + 5 * (pFind (aF P) x (nC (aF P))).getD 0)) G5 → K (qc ((pFind (aF P) x (nC (aF P))).isSome)) G5) : wp_X0_goblinOf ad G (some t1) x (some t3) X K := by
  unfold wp_X0_goblinOf wp_X0_goblinOf_12
  exact wNN_of ⟨hc.is, sp_X1_goblinOf hb hc hR (fun e q G' s hh => ⟨hh, xq0 hc h3 s (by rw [e]; rfl) k⟩) (fun w e G' s => xq1 hc h3 s (by rw [e]; rfl) (by rw [e]; rfl) k)⟩
theorem sm3_goblinOf (hm : MI G t2 P) (hi : hI (aF P) c) {K : Int32 → gS → Prop} (k : ∀ G', MR G t2 P (qc ((pFind (aF P) x (nC (aF P))).isSome)) G' → K (if qc ((pFind (aF P) x (nC (aF P))).isSome) = 0 then (aF P (51 + 1 + 5 * (pFind (aF P) x (nC (aF P))).getD 0)) else 0) G') : gIs G t2 0 ∧ wp_X3_goblinOf ad G t2 x X K := by
  obtain ⟨B, I, V, h, hp⟩ := hm.o
  refine ⟨h.is, ?_⟩
  unfold wp_X3_goblinOf
  refine ⟨h.is, sm_asksContract h hi.1.w (j := 1) rfl (by decide) (fun e G' h' => ?_) (fun w e G' h' => ?_)⟩
  · rw [e] at k
    exact k G' (MR.of h h' hp.t14 upd_self)
  · rw [e] at k
    exact k G' (MR.of h h' hp.t14 upd_self)
theorem law_29 (h : LI ad G k c1 t1 t2 t3 t4 s n P) (hn : 5 * k + 5 ≤ n) (hn2 : n ≤ 120) (hJ : ∀ G' P', LI ad G' (k + 1) c1 t1 t2 t3 t4 s n P' → J28 G' (some c1) t1 t2 t3 t4 (nI (5 * k) + (5 : Int32))) : wAldI G c1 ((nI (5 * k)) + (1 : Int32)) fun i258 => wp_X0_goblinOf ad G (some t1) i258 (some t3) X (fun r260 G259 => wAldI G259 c1 ((nI (5 * k)) + (1 : Int32)) fun i261 => (gIs G259 t2 0 ∧ wp_X3_goblinOf ad G259 t2 i261 X (fun r263 G262 => (gIs G262 t2 0 ∧ wp_X3_thrown ad G262 t2  X (fun r265 G264 => (r265 = r260 → (¬ r260 = (0 : Int32) → wp_L_law_1898 ad X K J28 G264 c1 t1 t2 t3 t4 (nI (5 * k))) ∧ (r260 = (0 : Int32) → wAldL G264 t3 (0 : Int32) fun i266 => ((lg_cmp i266 ((r263).toInt64)) = (0 : Int32) → wp_L_law_1898 ad X K J28 G264 c1 t1 t2 t3 t4 (nI (5 * k))) ∧ (¬ (lg_cmp i266 ((r263).toInt64)) = (0 : Int32) → K (0 : Int32) G264))) ∧ (¬ r265 = r260 → K (0 : Int32) G264)))))) := by
  have hR := h.r hn hn2
  have hN := fun (tx c : Nat) (P' : pA) (G5 G8 : gS) (τ : Int32) => h.next (tx := tx) (c := c) (P' := P') (G5 := G5) (G8 := G8) (τ := τ) hn hn2
  obtain ⟨hk, hb, ⟨c, hc, hct⟩, hm, ⟨g3, h3⟩, h4, hs, -⟩ := h
  have hi := hc.hi
  refine sc1 hs hn hn2 (sp_X0_goblinOf hb hc (hR.le (by omega)) h3 fun G5 x => ?_)
  have hs5 := x.1.old (Or.inl ⟨_, _, h3⟩) hs
  have hm5 := x.1.mi (Or.inl ⟨_, _, h3⟩) hm
  refine sc1 hs5 hn hn2 (sm3_goblinOf hm5 hi fun G8 m8 => ?_)
  obtain ⟨xf, g5, h5, e5⟩ := x
  refine sp_tail m8 rfl (m8.1.l h5) (fun e => ?_) ?_
  · rw [e5 e, if_pos e]
  · exact hJ _ _ (hN t3 _ _ _ _ _ xf (Or.inl ⟨_, _, h3⟩) ⟨_, h5⟩ (xf.d h3 h4) m8 (by omega))
theorem sp_X0_roomOf (hb : bs ad G) (hc : CI ad G t1 c P) (hR : rm G 200) {g0 : Nat → Int64} (h3 : G.1 t3 = some (gAl true 1 g0)) {K : Int32 → gS → Prop} (k : ∀ G5, XR ad G t1 t3 c P (qc ((pFind (aF P) x (nC (aF P))).isSome)) (aF P (51 + 2 + 5 * (pFind (aF P) x (nC (aF P))).getD 0)) G5 → K (qc ((pFind (aF P) x (nC (aF P))).isSome)) G5) : wp_X0_roomOf ad G (some t1) x (some t3) X K := by
  unfold wp_X0_roomOf wp_X0_roomOf_12
  exact wNN_of ⟨hc.is, sp_X1_roomOf hb hc hR (fun e q G' s hh => ⟨hh, xq0 hc h3 s (by rw [e]; rfl) k⟩) (fun w e G' s => xq1 hc h3 s (by rw [e]; rfl) (by rw [e]; rfl) k)⟩
theorem sm3_roomOf (hm : MI G t2 P) (hi : hI (aF P) c) {K : Int32 → gS → Prop} (k : ∀ G', MR G t2 P (qc ((pFind (aF P) x (nC (aF P))).isSome)) G' → K (if qc ((pFind (aF P) x (nC (aF P))).isSome) = 0 then (aF P (51 + 2 + 5 * (pFind (aF P) x (nC (aF P))).getD 0)) else 0) G') : gIs G t2 0 ∧ wp_X3_roomOf ad G t2 x X K := by
  obtain ⟨B, I, V, h, hp⟩ := hm.o
  refine ⟨h.is, ?_⟩
  unfold wp_X3_roomOf
  refine ⟨h.is, sm_asksContract h hi.1.w (j := 2) rfl (by decide) (fun e G' h' => ?_) (fun w e G' h' => ?_)⟩
  · rw [e] at k
    exact k G' (MR.of h h' hp.t14 upd_self)
  · rw [e] at k
    exact k G' (MR.of h h' hp.t14 upd_self)
theorem law_30 (h : LI ad G k c1 t1 t2 t3 t4 s n P) (hn : 5 * k + 5 ≤ n) (hn2 : n ≤ 120) (hJ : ∀ G' P', LI ad G' (k + 1) c1 t1 t2 t3 t4 s n P' → J28 G' (some c1) t1 t2 t3 t4 (nI (5 * k) + (5 : Int32))) : wAldI G c1 ((nI (5 * k)) + (1 : Int32)) fun i267 => wp_X0_roomOf ad G (some t1) i267 (some t3) X (fun r269 G268 => wAldI G268 c1 ((nI (5 * k)) + (1 : Int32)) fun i270 => (gIs G268 t2 0 ∧ wp_X3_roomOf ad G268 t2 i270 X (fun r272 G271 => (gIs G271 t2 0 ∧ wp_X3_thrown ad G271 t2  X (fun r274 G273 => (r274 = r269 → (¬ r269 = (0 : Int32) → wp_L_law_1954 ad X K J28 G273 c1 t1 t2 t3 t4 (nI (5 * k))) ∧ (r269 = (0 : Int32) → wAldL G273 t3 (0 : Int32) fun i275 => ((lg_cmp i275 ((r272).toInt64)) = (0 : Int32) → wp_L_law_1954 ad X K J28 G273 c1 t1 t2 t3 t4 (nI (5 * k))) ∧ (¬ (lg_cmp i275 ((r272).toInt64)) = (0 : Int32) → K (0 : Int32) G273))) ∧ (¬ r274 = r269 → K (0 : Int32) G273)))))) := by
  have hR := h.r hn hn2
  have hN := fun (tx c : Nat) (P' : pA) (G5 G8 : gS) (τ : Int32) => h.next (tx := tx) (c := c) (P' := P') (G5 := G5) (G8 := G8) (τ := τ) hn hn2
  obtain ⟨hk, hb, ⟨c, hc, hct⟩, hm, ⟨g3, h3⟩, h4, hs, -⟩ := h
  have hi := hc.hi
  refine sc1 hs hn hn2 (sp_X0_roomOf hb hc (hR.le (by omega)) h3 fun G5 x => ?_)
  have hs5 := x.1.old (Or.inl ⟨_, _, h3⟩) hs
  have hm5 := x.1.mi (Or.inl ⟨_, _, h3⟩) hm
  refine sc1 hs5 hn hn2 (sm3_roomOf hm5 hi fun G8 m8 => ?_)
  obtain ⟨xf, g5, h5, e5⟩ := x
  refine sp_tail m8 rfl (m8.1.l h5) (fun e => ?_) ?_
  · rw [e5 e, if_pos e]
  · exact hJ _ _ (hN t3 _ _ _ _ _ xf (Or.inl ⟨_, _, h3⟩) ⟨_, h5⟩ (xf.d h3 h4) m8 (by omega))
theorem sp_X0_wage (hb : bs ad G) (hc : CI ad G t1 c P) (hR : rm G 200) {g0 : Nat → Int64} (h3 : G.1 t3 = some (gAl true 1 g0)) {K : Int32 → gS → Prop} (k : ∀ G5, XR ad G t1 t3 c P (qc ((pFind (aF P) x (nC (aF P))).isSome)) (aF P (51 + 3 + 5 * (pFind (aF P) x (nC (aF P))).getD 0)) G5 → K (qc ((pFind (aF P) x (nC (aF P))).isSome)) G5) : wp_X0_wage ad G (some t1) x (some t3) X K := by
  unfold wp_X0_wage wp_X0_wage_12
  exact wNN_of ⟨hc.is, sp_X1_wage hb hc hR (fun e q G' s hh => ⟨hh, xq0 hc h3 s (by rw [e]; rfl) k⟩) (fun w e G' s => xq1 hc h3 s (by rw [e]; rfl) (by rw [e]; rfl) k)⟩
theorem sm3_wage (hm : MI G t2 P) (hi : hI (aF P) c) {K : Int32 → gS → Prop} (k : ∀ G', MR G t2 P (qc ((pFind (aF P) x (nC (aF P))).isSome)) G' → K (if qc ((pFind (aF P) x (nC (aF P))).isSome) = 0 then (aF P (51 + 3 + 5 * (pFind (aF P) x (nC (aF P))).getD 0)) else 0) G') : gIs G t2 0 ∧ wp_X3_wage ad G t2 x X K := by
  obtain ⟨B, I, V, h, hp⟩ := hm.o
  refine ⟨h.is, ?_⟩
  unfold wp_X3_wage
  refine ⟨h.is, sm_asksContract h hi.1.w (j := 3) rfl (by decide) (fun e G' h' => ?_) (fun w e G' h' => ?_)⟩
  · rw [e] at k
    exact k G' (MR.of h h' hp.t14 upd_self)
  · rw [e] at k
    exact k G' (MR.of h h' hp.t14 upd_self)
theorem law_31 (h : LI ad G k c1 t1 t2 t3 t4 s n P) (hn : 5 * k + 5 ≤ n) (hn2 : n ≤ 120) (hJ : ∀ G' P', LI ad G' (k + 1) c1 t1 t2 t3 t4 s n P' → J28 G' (some c1) t1 t2 t3 t4 (nI (5 * k) + (5 : Int32))) : wAldI G c1 ((nI (5 * k)) + (1 : Int32)) fun i276 => wp_X0_wage ad G (some t1) i276 (some t3) X (fun r278 G277 => wAldI G277 c1 ((nI (5 * k)) + (1 : Int32)) fun i279 => (gIs G277 t2 0 ∧ wp_X3_wage ad G277 t2 i279 X (fun r281 G280 => (gIs G280 t2 0 ∧ wp_X3_thrown ad G280 t2  X (fun r283 G282 => (r283 = r278 → (¬ r278 = (0 : Int32) → wp_L_law_2010 ad X K J28 G282 c1 t1 t2 t3 t4 (nI (5 * k))) ∧ (r278 = (0 : Int32) → wAldL G282 t3 (0 : Int32) fun i284 => ((lg_cmp i284 ((r281).toInt64)) = (0 : Int32) → wp_L_law_2010 ad X K J28 G282 c1 t1 t2 t3 t4 (nI (5 * k))) ∧ (¬ (lg_cmp i284 ((r281).toInt64)) = (0 : Int32) → K (0 : Int32) G282))) ∧ (¬ r283 = r278 → K (0 : Int32) G282)))))) := by
  have hR := h.r hn hn2
  have hN := fun (tx c : Nat) (P' : pA) (G5 G8 : gS) (τ : Int32) => h.next (tx := tx) (c := c) (P' := P') (G5 := G5) (G8 := G8) (τ := τ) hn hn2
  obtain ⟨hk, hb, ⟨c, hc, hct⟩, hm, ⟨g3, h3⟩, h4, hs, -⟩ := h
  have hi := hc.hi
  refine sc1 hs hn hn2 (sp_X0_wage hb hc (hR.le (by omega)) h3 fun G5 x => ?_)
  have hs5 := x.1.old (Or.inl ⟨_, _, h3⟩) hs
  have hm5 := x.1.mi (Or.inl ⟨_, _, h3⟩) hm
  refine sc1 hs5 hn hn2 (sm3_wage hm5 hi fun G8 m8 => ?_)
  obtain ⟨xf, g5, h5, e5⟩ := x
  refine sp_tail m8 rfl (m8.1.l h5) (fun e => ?_) ?_
  · rw [e5 e, if_pos e]
  · exact hJ _ _ (hN t3 _ _ _ _ _ xf (Or.inl ⟨_, _, h3⟩) ⟨_, h5⟩ (xf.d h3 h4) m8 (by omega))
theorem sp_X0_effort (hb : bs ad G) (hc : CI ad G t1 c P) (hR : rm G 200) {g0 : Nat → Int64} (h3 : G.1 t3 = some (gAl true 1 g0)) {K : Int32 → gS → Prop} (k : ∀ G5, XR ad G t1 t3 c P (qc ((pFind (aF P) x (nC (aF P))).isSome)) (aF P (51 + 4 + 5 * (pFind (aF P) x (nC (aF P))).getD 0)) G5 → K (qc ((pFind (aF P) x (nC (aF P))).isSome)) G5) : wp_X0_effort ad G (some t1) x (some t3) X K := by
  unfold wp_X0_effort wp_X0_effort_12
  exact wNN_of ⟨hc.is, sp_X1_effort hb hc hR (fun e q G' s hh => ⟨hh, xq0 hc h3 s (by rw [e]; rfl) k⟩) (fun w e G' s => xq1 hc h3 s (by rw [e]; rfl) (by rw [e]; rfl) k)⟩
theorem sm3_effort (hm : MI G t2 P) (hi : hI (aF P) c) {K : Int32 → gS → Prop} (k : ∀ G', MR G t2 P (qc ((pFind (aF P) x (nC (aF P))).isSome)) G' → K (if qc ((pFind (aF P) x (nC (aF P))).isSome) = 0 then (aF P (51 + 4 + 5 * (pFind (aF P) x (nC (aF P))).getD 0)) else 0) G') : gIs G t2 0 ∧ wp_X3_effort ad G t2 x X K := by
  obtain ⟨B, I, V, h, hp⟩ := hm.o
  refine ⟨h.is, ?_⟩
  unfold wp_X3_effort
  refine ⟨h.is, sm_asksContract h hi.1.w (j := 4) rfl (by decide) (fun e G' h' => ?_) (fun w e G' h' => ?_)⟩
  · rw [e] at k
    exact k G' (MR.of h h' hp.t14 upd_self)
  · rw [e] at k
    exact k G' (MR.of h h' hp.t14 upd_self)
theorem law_32 (h : LI ad G k c1 t1 t2 t3 t4 s n P) (hn : 5 * k + 5 ≤ n) (hn2 : n ≤ 120) (hJ : ∀ G' P', LI ad G' (k + 1) c1 t1 t2 t3 t4 s n P' → J28 G' (some c1) t1 t2 t3 t4 (nI (5 * k) + (5 : Int32))) : wAldI G c1 ((nI (5 * k)) + (1 : Int32)) fun i285 => wp_X0_effort ad G (some t1) i285 (some t3) X (fun r287 G286 => wAldI G286 c1 ((nI (5 * k)) + (1 : Int32)) fun i288 => (gIs G286 t2 0 ∧ wp_X3_effort ad G286 t2 i288 X (fun r290 G289 => (gIs G289 t2 0 ∧ wp_X3_thrown ad G289 t2  X (fun r292 G291 => (r292 = r287 → (¬ r287 = (0 : Int32) → wp_L_law_2066 ad X K J28 G291 c1 t1 t2 t3 t4 (nI (5 * k))) ∧ (r287 = (0 : Int32) → wAldL G291 t3 (0 : Int32) fun i293 => ((lg_cmp i293 ((r290).toInt64)) = (0 : Int32) → wp_L_law_2066 ad X K J28 G291 c1 t1 t2 t3 t4 (nI (5 * k))) ∧ (¬ (lg_cmp i293 ((r290).toInt64)) = (0 : Int32) → K (0 : Int32) G291))) ∧ (¬ r292 = r287 → K (0 : Int32) G291)))))) := by
  have hR := h.r hn hn2
  have hN := fun (tx c : Nat) (P' : pA) (G5 G8 : gS) (τ : Int32) => h.next (tx := tx) (c := c) (P' := P') (G5 := G5) (G8 := G8) (τ := τ) hn hn2
  obtain ⟨hk, hb, ⟨c, hc, hct⟩, hm, ⟨g3, h3⟩, h4, hs, -⟩ := h
  have hi := hc.hi
  refine sc1 hs hn hn2 (sp_X0_effort hb hc (hR.le (by omega)) h3 fun G5 x => ?_)
  have hs5 := x.1.old (Or.inl ⟨_, _, h3⟩) hs
  have hm5 := x.1.mi (Or.inl ⟨_, _, h3⟩) hm
  refine sc1 hs5 hn hn2 (sm3_effort hm5 hi fun G8 m8 => ?_)
  obtain ⟨xf, g5, h5, e5⟩ := x
  refine sp_tail m8 rfl (m8.1.l h5) (fun e => ?_) ?_
  · rw [e5 e, if_pos e]
  · exact hJ _ _ (hN t3 _ _ _ _ _ xf (Or.inl ⟨_, _, h3⟩) ⟨_, h5⟩ (xf.d h3 h4) m8 (by omega))
def nCode (f : pF) (x : Int32) : Int32 := if pFind f x (nC f) = none then 1 else if pUntil f x 60 1 f = -1 then 2 else 0
theorem sp_X0_nightsUntilDone (hb : bs ad G) (hc : CI ad G t1 c P) (hR : rm G 200) {g0 : Nat → Int64} (h3 : G.1 t3 = some (gAl true 1 g0)) {K : Int32 → gS → Prop} (k : ∀ G5, XR ad G t1 t3 c P (nCode (aF P) x) (pUntil (aF P) x 60 1 (aF P)) G5 → K (nCode (aF P) x) G5) : wp_X0_nightsUntilDone ad G (some t1) x (some t3) X K := by
  unfold wp_X0_nightsUntilDone wp_X0_nightsUntilDone_12 wp_X0_nightsUntilDone_15
  refine wNN_of ⟨hc.is, sp_X1_nightsUntilDone hb hc hR (fun e q G' s hh => Or.inl ⟨hh, ?_⟩) (fun w e e2 q G' s hh => Or.inr ⟨hh, ?_⟩) (fun w e e2 G' s => ?_)⟩
  · have e1 : nCode (aF P) x = 1 := by rw [nCode, if_pos e]
    rw [e1] at k
    exact xr_no hc h3 s (by decide) k
  · have e1 : nCode (aF P) x = 2 := by rw [nCode, if_neg (by rw [e]; intro z; cases z), if_pos e2]
    rw [e1] at k
    exact xr_no hc h3 s (by decide) k
  · have e1 : nCode (aF P) x = 0 := by rw [nCode, if_neg (by rw [e]; intro z; cases z), if_neg e2]
    rw [e1] at k
    exact xr_yes hc h3 s rfl k
theorem sm3_nightsUntilDone (hm : MI G t2 P) (hi : hI (aF P) c) {K : Int32 → gS → Prop} (k : ∀ G', MR G t2 P (nCode (aF P) x) G' → K (if nCode (aF P) x = 0 then pUntil (aF P) x 60 1 (aF P) else 0) G') : gIs G t2 0 ∧ wp_X3_nightsUntilDone ad G t2 x X K := by
  obtain ⟨B, I, V, h, hp⟩ := hm.o
  refine ⟨h.is, sm_nightsUntilDone h hi.1.k (fun e G' V' he h' => ?_) (fun w e G' V' he h' => ?_)⟩
  · have e1 : nCode (aF P) x = 1 := by rw [nCode, if_pos e]
    rw [e1] at k
    exact k G' (MR.of h h' (hp.eq he).t14 upd_self)
  · by_cases e2 : pUntil (aF P) x 60 1 (aF P) = -1
    · have e1 : nCode (aF P) x = 2 := by rw [nCode, if_neg (by rw [e]; intro z; cases z), if_pos e2]
      rw [e1] at k
      rw [if_pos e2] at h' ⊢
      exact k G' (MR.of h h' (hp.eq he).t14 upd_self)
    · have e1 : nCode (aF P) x = 0 := by rw [nCode, if_neg (by rw [e]; intro z; cases z), if_neg e2]
      rw [e1] at k
      rw [if_neg e2] at h' ⊢
      exact k G' (MR.of h h' (hp.eq he).t14 upd_self)
theorem law_33 (h : LI ad G k c1 t1 t2 t3 t4 s n P) (hn : 5 * k + 5 ≤ n) (hn2 : n ≤ 120) (hJ : ∀ G' P', LI ad G' (k + 1) c1 t1 t2 t3 t4 s n P' → J28 G' (some c1) t1 t2 t3 t4 (nI (5 * k) + (5 : Int32))) : wAldI G c1 ((nI (5 * k)) + (1 : Int32)) fun i294 => wp_X0_nightsUntilDone ad G (some t1) i294 (some t3) X (fun r296 G295 => wAldI G295 c1 ((nI (5 * k)) + (1 : Int32)) fun i297 => (gIs G295 t2 0 ∧ wp_X3_nightsUntilDone ad G295 t2 i297 X (fun r299 G298 => (gIs G298 t2 0 ∧ wp_X3_thrown ad G298 t2  X (fun r301 G300 => (r301 = r296 → (¬ r296 = (0 : Int32) → wp_L_law_2122 ad X K J28 G300 c1 t1 t2 t3 t4 (nI (5 * k))) ∧ (r296 = (0 : Int32) → wAldL G300 t3 (0 : Int32) fun i302 => ((lg_cmp i302 ((r299).toInt64)) = (0 : Int32) → wp_L_law_2122 ad X K J28 G300 c1 t1 t2 t3 t4 (nI (5 * k))) ∧ (¬ (lg_cmp i302 ((r299).toInt64)) = (0 : Int32) → K (0 : Int32) G300))) ∧ (¬ r301 = r296 → K (0 : Int32) G300)))))) := by
  have hR := h.r hn hn2
  have hN := fun (tx c : Nat) (P' : pA) (G5 G8 : gS) (τ : Int32) => h.next (tx := tx) (c := c) (P' := P') (G5 := G5) (G8 := G8) (τ := τ) hn hn2
  obtain ⟨hk, hb, ⟨c, hc, hct⟩, hm, ⟨g3, h3⟩, h4, hs, -⟩ := h
  have hi := hc.hi
  refine sc1 hs hn hn2 (sp_X0_nightsUntilDone hb hc (hR.le (by omega)) h3 fun G5 x => ?_)
  have hs5 := x.1.old (Or.inl ⟨_, _, h3⟩) hs
  have hm5 := x.1.mi (Or.inl ⟨_, _, h3⟩) hm
  refine sc1 hs5 hn hn2 (sm3_nightsUntilDone hm5 hi fun G8 m8 => ?_)
  obtain ⟨xf, g5, h5, e5⟩ := x
  refine sp_tail m8 rfl (m8.1.l h5) (fun e => ?_) ?_
  · rw [e5 e, if_pos e]
  · exact hJ _ _ (hN t3 _ _ _ _ _ xf (Or.inl ⟨_, _, h3⟩) ⟨_, h5⟩ (xf.d h3 h4) m8 (by omega))
theorem sp_X0_chestAfter (hb : bs ad G) (hc : CI ad G t1 c P) (hR : rm G 200) {g0 : Nat → Int64} (h3 : G.1 t3 = some (gAl true 1 g0)) {K : Int32 → gS → Prop} (k : ∀ G5, XR ad G t1 t3 c P (qc (pIn x 0 60)) (pNights x.toNatClampNeg (aF P) 1) G5 → K (qc (pIn x 0 60)) G5) : wp_X0_chestAfter ad G (some t1) x (some t3) X K := by
  unfold wp_X0_chestAfter wp_X0_chestAfter_12
  exact wNN_of ⟨hc.is, sp_X1_chestAfter hb hc hR (fun e q G' s hh => ⟨hh, xq0 hc h3 s e k⟩) (fun e G' s => xq1 hc h3 s rfl e k)⟩
theorem sm3_chestAfter (hm : MI G t2 P) (hi : hI (aF P) c) {K : Int32 → gS → Prop} (k : ∀ G', MR G t2 P (qc (pIn x 0 60)) G' → K (if qc (pIn x 0 60) = 0 then pNights x.toNatClampNeg (aF P) 1 else 0) G') : gIs G t2 0 ∧ wp_X3_chestAfter ad G t2 x X K := by
  obtain ⟨B, I, V, h, hp⟩ := hm.o
  refine ⟨h.is, sm_chestAfter h hi.1.k (fun e G' h' => ?_) (fun e G' V' he h' => ?_)⟩
  · rw [e] at k
    exact k G' (MR.of h h' hp.t14 upd_self)
  · rw [e] at k
    exact k G' (MR.of h h' (hp.eq he).t14 upd_self)
theorem law_34 (h : LI ad G k c1 t1 t2 t3 t4 s n P) (hn : 5 * k + 5 ≤ n) (hn2 : n ≤ 120) (hJ : ∀ G' P', LI ad G' (k + 1) c1 t1 t2 t3 t4 s n P' → J28 G' (some c1) t1 t2 t3 t4 (nI (5 * k) + (5 : Int32))) : wAldI G c1 ((nI (5 * k)) + (1 : Int32)) fun i303 => wp_X0_chestAfter ad G (some t1) i303 (some t3) X (fun r305 G304 => wAldI G304 c1 ((nI (5 * k)) + (1 : Int32)) fun i306 => (gIs G304 t2 0 ∧ wp_X3_chestAfter ad G304 t2 i306 X (fun r308 G307 => (gIs G307 t2 0 ∧ wp_X3_thrown ad G307 t2  X (fun r310 G309 => (r310 = r305 → (¬ r305 = (0 : Int32) → wp_L_law_2178 ad X K J28 G309 c1 t1 t2 t3 t4 (nI (5 * k))) ∧ (r305 = (0 : Int32) → wAldL G309 t3 (0 : Int32) fun i311 => ((lg_cmp i311 ((r308).toInt64)) = (0 : Int32) → wp_L_law_2178 ad X K J28 G309 c1 t1 t2 t3 t4 (nI (5 * k))) ∧ (¬ (lg_cmp i311 ((r308).toInt64)) = (0 : Int32) → K (0 : Int32) G309))) ∧ (¬ r310 = r305 → K (0 : Int32) G309)))))) := by
  have hR := h.r hn hn2
  have hN := fun (tx c : Nat) (P' : pA) (G5 G8 : gS) (τ : Int32) => h.next (tx := tx) (c := c) (P' := P') (G5 := G5) (G8 := G8) (τ := τ) hn hn2
  obtain ⟨hk, hb, ⟨c, hc, hct⟩, hm, ⟨g3, h3⟩, h4, hs, -⟩ := h
  have hi := hc.hi
  refine sc1 hs hn hn2 (sp_X0_chestAfter hb hc (hR.le (by omega)) h3 fun G5 x => ?_)
  have hs5 := x.1.old (Or.inl ⟨_, _, h3⟩) hs
  have hm5 := x.1.mi (Or.inl ⟨_, _, h3⟩) hm
  refine sc1 hs5 hn hn2 (sm3_chestAfter hm5 hi fun G8 m8 => ?_)
  obtain ⟨xf, g5, h5, e5⟩ := x
  refine sp_tail m8 rfl (m8.1.l h5) (fun e => ?_) ?_
  · rw [e5 e, if_pos e]
  · exact hJ _ _ (hN t3 _ _ _ _ _ xf (Or.inl ⟨_, _, h3⟩) ⟨_, h5⟩ (xf.d h3 h4) m8 (by omega))
abbrev dCode (f : pF) (x y : Int32) : Int32 := pHolds (pIn x 0 (f 9 - 1)) (pIn y 0 60) true true
theorem sp_X0_debtAfter (hb : bs ad G) (hc : CI ad G t1 c P) (hR : rm G 200) {g0 : Nat → Int64} (h3 : G.1 t3 = some (gAl true 1 g0)) {K : Int32 → gS → Prop} (k : ∀ G5, XR ad G t1 t3 c P (dCode (aF P) x y) (pNights y.toNatClampNeg (aF P) (28 + 5 * pGi (aF P) x)) G5 → K (dCode (aF P) x y) G5) : wp_X0_debtAfter ad G (some t1) x y (some t3) X K := by
  unfold wp_X0_debtAfter wp_X0_debtAfter_13 wp_X0_debtAfter_17
  refine wNN_of ⟨hc.is, sp_X1_debtAfter hb hc hR (fun e q G' s hh => Or.inl ⟨hh, ?_⟩) (fun e e2 q G' s hh => Or.inr ⟨hh, ?_⟩) (fun e e2 G' s => ?_)⟩
  · have e1 : dCode (aF P) x y = 1 := by rw [dCode, e]; rfl
    rw [e1] at k
    exact xr_no hc h3 s (by decide) k
  · have e1 : dCode (aF P) x y = 2 := by rw [dCode, e, e2]; rfl
    rw [e1] at k
    exact xr_no hc h3 s (by decide) k
  · have e1 : dCode (aF P) x y = 0 := by rw [dCode, e, e2]; rfl
    rw [e1] at k
    exact xr_yes hc h3 s rfl k
theorem sm3_debtAfter (hm : MI G t2 P) (hi : hI (aF P) c) {K : Int32 → gS → Prop} (k : ∀ G', MR G t2 P (dCode (aF P) x y) G' → K (if dCode (aF P) x y = 0 then pNights y.toNatClampNeg (aF P) (28 + 5 * pGi (aF P) x) else 0) G') : gIs G t2 0 ∧ wp_X3_debtAfter ad G t2 x y X K := by
  obtain ⟨B, I, V, h, hp⟩ := hm.o
  refine ⟨h.is, sm_debtAfter h hi.1.k (fun e G' h' => ?_) (fun e G' V' he h' => ?_)⟩
  · have := k G' (MR.of h h' hp.t14 upd_self)
    have e1 : ¬ dCode (aF P) x y = 0 := by
      rw [dCode]
      revert e
      cases pIn x 0 (aF P 9 - 1) <;> cases pIn y 0 60 <;> decide
    rw [if_neg e1] at this
    exact this
  · have e1 : dCode (aF P) x y = 0 := by
      rw [dCode]
      revert e
      cases pIn x 0 (aF P 9 - 1) <;> cases pIn y 0 60 <;> decide
    rw [e1] at k
    exact k G' (MR.of h h' (hp.eq he).t14 upd_self)
theorem law_35 (h : LI ad G k c1 t1 t2 t3 t4 s n P) (hn : 5 * k + 5 ≤ n) (hn2 : n ≤ 120) (hJ : ∀ G' P', LI ad G' (k + 1) c1 t1 t2 t3 t4 s n P' → J28 G' (some c1) t1 t2 t3 t4 (nI (5 * k) + (5 : Int32))) : wAldI G c1 ((nI (5 * k)) + (1 : Int32)) fun i312 => wAldI G c1 ((nI (5 * k)) + (2 : Int32)) fun i313 => wp_X0_debtAfter ad G (some t1) i312 i313 (some t3) X (fun r315 G314 => wAldI G314 c1 ((nI (5 * k)) + (1 : Int32)) fun i316 => wAldI G314 c1 ((nI (5 * k)) + (2 : Int32)) fun i317 => (gIs G314 t2 0 ∧ wp_X3_debtAfter ad G314 t2 i316 i317 X (fun r319 G318 => (gIs G318 t2 0 ∧ wp_X3_thrown ad G318 t2  X (fun r321 G320 => (r321 = r315 → (¬ r315 = (0 : Int32) → wp_L_law_2246 ad X K J28 G320 c1 t1 t2 t3 t4 (nI (5 * k))) ∧ (r315 = (0 : Int32) → wAldL G320 t3 (0 : Int32) fun i322 => ((lg_cmp i322 ((r319).toInt64)) = (0 : Int32) → wp_L_law_2246 ad X K J28 G320 c1 t1 t2 t3 t4 (nI (5 * k))) ∧ (¬ (lg_cmp i322 ((r319).toInt64)) = (0 : Int32) → K (0 : Int32) G320))) ∧ (¬ r321 = r315 → K (0 : Int32) G320)))))) := by
  have hR := h.r hn hn2
  have hN := fun (tx c : Nat) (P' : pA) (G5 G8 : gS) (τ : Int32) => h.next (tx := tx) (c := c) (P' := P') (G5 := G5) (G8 := G8) (τ := τ) hn hn2
  obtain ⟨hk, hb, ⟨c, hc, hct⟩, hm, ⟨g3, h3⟩, h4, hs, -⟩ := h
  have hi := hc.hi
  refine sc1 hs hn hn2 (sc2 hs hn hn2 (sp_X0_debtAfter hb hc (hR.le (by omega)) h3 fun G5 x => ?_))
  have hs5 := x.1.old (Or.inl ⟨_, _, h3⟩) hs
  have hm5 := x.1.mi (Or.inl ⟨_, _, h3⟩) hm
  refine sc1 hs5 hn hn2 (sc2 hs5 hn hn2 (sm3_debtAfter hm5 hi fun G8 m8 => ?_))
  obtain ⟨xf, g5, h5, e5⟩ := x
  refine sp_tail m8 rfl (m8.1.l h5) (fun e => ?_) ?_
  · rw [e5 e, if_pos e]
  · exact hJ _ _ (hN t3 _ _ _ _ _ xf (Or.inl ⟨_, _, h3⟩) ⟨_, h5⟩ (xf.d h3 h4) m8 (by omega))
theorem sm3_meanDust (hm : MI G t2 P) (hi : hI (aF P) c) {K : UInt64 → gS → Prop} (k : ∀ G', MR G t2 P 0 G' → K (FP.ddiv (FP.i2d (pDustSum (aF P) 6)) (4618441417868443648 : UInt64)) G') : gIs G t2 0 ∧ wp_X3_meanDust ad G t2 X K := by
  obtain ⟨B, I, V, h, hp⟩ := hm.o
  exact ⟨h.is, sm_meanDust h (fl_dust hi.1.2.1) fun G' h' => k G' (MR.of h h' hp.t14 upd_self)⟩
theorem law_44 (h : LI ad G k c1 t1 t2 t3 t4 s n P) (hn : 5 * k + 5 ≤ n) (hn2 : n ≤ 120) (hJ : ∀ G' P', LI ad G' (k + 1) c1 t1 t2 t3 t4 s n P' → J28 G' (some c1) t1 t2 t3 t4 (nI (5 * k) + (5 : Int32))) : (gIs G t1 1 ∧ wp_X1_meanDust ad G t1  X (fun r356 G355 => (gIs G355 t2 0 ∧ wp_X3_meanDust ad G355 t2  X (fun r358 G357 => ((Op.cmpValue (FP.dcmp r356 r358) .l) = (0 : Int32) → wp_L_law_2391 ad X K J28 G357 c1 t1 t2 t3 t4 (nI (5 * k))) ∧ (¬ (Op.cmpValue (FP.dcmp r356 r358) .l) = (0 : Int32) → ((Op.cmpValue (FP.dcmp r356 r356) .l) = (0 : Int32) → K (0 : Int32) G357) ∧ (¬ (Op.cmpValue (FP.dcmp r356 r356) .l) = (0 : Int32) → (¬ (Op.cmpValue (FP.dcmp r358 r358) .l) = (0 : Int32) → wp_L_law_2391 ad X K J28 G357 c1 t1 t2 t3 t4 (nI (5 * k))) ∧ ((Op.cmpValue (FP.dcmp r358 r358) .l) = (0 : Int32) → K (0 : Int32) G357))))))) := by
  have hN := fun (tx c : Nat) (P' : pA) (G5 G8 : gS) (τ : Int32) => h.next (tx := tx) (c := c) (P' := P') (G5 := G5) (G8 := G8) (τ := τ) hn hn2
  obtain ⟨hk, hb, ⟨c, hc, hct⟩, hm, ⟨g3, h3⟩, h4, hs, -⟩ := h
  refine sp_X1_meanDust hc (fl_dust hc.hi.1.2.1) (sm3_meanDust hm hc.hi fun G8 m8 => ?_)
  have hj := hJ _ _ (hN t3 _ _ _ _ _ (XF.of2 hc gF2.refl) (Or.inl ⟨_, _, h3⟩) ⟨_, h3⟩ h4 m8 (by omega))
  generalize FP.ddiv (FP.i2d (pDustSum (aF P) 6)) (4618441417868443648 : UInt64) = v
  by_cases q : (Op.cmpValue (FP.dcmp v v) .l) = (0 : Int32)
  · exact ⟨fun _ => hj, fun z => absurd q z⟩
  · exact ⟨fun z => absurd z q, fun _ => ⟨fun z => absurd z q, fun _ => ⟨fun _ => hj, fun z => absurd z q⟩⟩⟩
theorem sm3_isConsistent (hm : MI G t2 P) {K : Int32 → gS → Prop} (k : ∀ G', MR G t2 P 0 G' → K 1 G') : gIs G t2 0 ∧ wp_X3_isConsistent ad G t2 X K := by
  obtain ⟨B, I, V, h, hp⟩ := hm
  refine ⟨h.is, ?_⟩
  unfold wp_X3_isConsistent
  exact mPut h (by decide) fun G' h' => k G' (MR.of h h' hp.t14 upd_self)
theorem law_46 (h : LI ad G k c1 t1 t2 t3 t4 s n P) (hn : 5 * k + 5 ≤ n) (hn2 : n ≤ 120) (hJ : ∀ G' P', LI ad G' (k + 1) c1 t1 t2 t3 t4 s n P' → J28 G' (some c1) t1 t2 t3 t4 (nI (5 * k) + (5 : Int32))) : (gIs G t1 1 ∧ wp_X1_isConsistent ad G t1  X (fun r369 G368 => (gIs G368 t2 0 ∧ wp_X3_isConsistent ad G368 t2  X (fun r371 G370 => (r369 = r371 → wp_L_law_2889 ad X K J28 G370 c1 t1 t2 t3 t4 (nI (5 * k))) ∧ (¬ r369 = r371 → K (0 : Int32) G370))))) := by
  have hR := h.r hn hn2
  have hN := fun (tx c : Nat) (P' : pA) (G5 G8 : gS) (τ : Int32) => h.next (tx := tx) (c := c) (P' := P') (G5 := G5) (G8 := G8) (τ := τ) hn hn2
  obtain ⟨hk, hb, ⟨c, hc, hct⟩, hm, ⟨g3, h3⟩, h4, hs, -⟩ := h
  refine sp_X1_isConsistent hb hc (hR.le (by omega)) fun G5 s => sm3_isConsistent ((XF.of2 (tx := t3) hc s).mi (Or.inl ⟨_, _, h3⟩) hm) fun G8 m8 => ⟨fun _ => ?_, fun z => absurd rfl z⟩
  exact hJ _ _ (hN t3 _ _ _ _ _ (XF.of2 hc s) (Or.inl ⟨_, _, h3⟩) ⟨_, s.1 _ _ h3 fun z => z⟩ ((XF.of2 hc s).d h3 h4) m8 (by omega))
theorem sm3_reliability (hm : MI G t2 P) (hi : hI (aF P) c) (hc : c ≤ 24) {K : UInt32 → gS → Prop} (k0 : aF P 4 + aF P 5 = 0 → ∀ G', MR G t2 P 1 G' → K FP.fconst0 G') (k : ¬ aF P 4 + aF P 5 = 0 → ∀ G', MR G t2 P 0 G' → K (FP.fdiv (FP.i2f (aF P 4)) (FP.i2f (aF P 4 + aF P 5))) G') : gIs G t2 0 ∧ wp_X3_reliability ad G t2 X K := by
  obtain ⟨B, I, V, h, hp⟩ := hm.o
  have e := rel_pos hi hc
  refine ⟨h.is, sm_reliability h (fun q => (fl_rel hi hc (by rw [e] at q; exact q)).1) (fun q G' h' => k0 ?_ G' (MR.of h h' hp.t14 upd_self)) (fun q G' h' => k (by rw [e] at q; exact q) G' (MR.of h h' hp.t14 upd_self))⟩
  have q2 : ¬ (0 < aF P 4 + aF P 5) := Int32.not_lt.mpr q
  rw [e] at q2
  exact Decidable.of_not_not q2
theorem sp_X1_reliability (hc : CI ad G t1 c P) (hc24 : c ≤ 24) (hR : rm G 200) {K : UInt32 → gS → Prop} (k0 : aF P 4 + aF P 5 = 0 → ∀ q G', gF2 G G' → gHas G' q 25 → X q G') (k : ¬ aF P 4 + aF P 5 = 0 → K (FP.fdiv (FP.i2f (aF P 4)) (FP.i2f (aF P 4 + aF P 5))) G) : wp_X1_reliability ad G t1 X K := by
  obtain ⟨h, A, hr, hi, q0⟩ := hc.hq
  have hR1 := hR.1
  have hR2 := hR.2
  unfold wp_X1_reliability
  refine q0 _ (wNN_of (wGetI_of hr.1 rfl (q0 _ (wNN_of (wGetI_of hr.1 rfl ⟨fun q => q0 _ (wNN_of (wGetI_of hr.1 rfl ⟨(fl_rel hi hc24 q).1, k q⟩)), fun q => wNew_nC (by omega) (by omega) fun a G1 s1 => ?_⟩)))))
  unfold wp_J28_init_2 wp_J17_init_2_at25 wp_J10_init_3_at25 wp_J9_init_at25
  refine wPut_sC s1.2.1 (ltb rfl) rfl fun G2 t2 => wPut_sC t2.1 (ltb rfl) rfl fun G3 t3 => wPut_sC t3.1 (ltb rfl) rfl fun G4 t4 => ⟨⟨_, t4.1, rfl, rfl⟩, gIsO_of t4.1, k0 q a G4 ((((s1.set t2).set t3).set t4).f2 (by omega)) ⟨_, t4.1⟩⟩
theorem law_45 (h : LI ad G k c1 t1 t2 t3 t4 s n P) (hn : 5 * k + 5 ≤ n) (hn2 : n ≤ 120) (hJ : ∀ G' P', LI ad G' (k + 1) c1 t1 t2 t3 t4 s n P' → J28 G' (some c1) t1 t2 t3 t4 (nI (5 * k) + (5 : Int32))) : wp_X0_reliability ad G (some t1) (some t4) X (fun r360 G359 => (gIs G359 t2 0 ∧ wp_X3_reliability ad G359 t2  X (fun r362 G361 => (gIs G361 t2 0 ∧ wp_X3_thrown ad G361 t2  X (fun r364 G363 => (r364 = r360 → (¬ r360 = (0 : Int32) → wp_L_law_2457 ad X K J28 G363 c1 t1 t2 t3 t4 (nI (5 * k))) ∧ (r360 = (0 : Int32) → wAldD G363 t4 (0 : Int32) fun i365 => vf_n64 (FP.f2d r362) ∧ (((Op.cmpValue (FP.dcmp i365 (FP.f2d r362)) .l) = (0 : Int32) → wp_L_law_2457 ad X K J28 G363 c1 t1 t2 t3 t4 (nI (5 * k))) ∧ (¬ (Op.cmpValue (FP.dcmp i365 (FP.f2d r362)) .l) = (0 : Int32) → wAldD G363 t4 (0 : Int32) fun i366 => wAldD G363 t4 (0 : Int32) fun i367 => ((Op.cmpValue (FP.dcmp i366 i367) .l) = (0 : Int32) → K (0 : Int32) G363) ∧ (¬ (Op.cmpValue (FP.dcmp i366 i367) .l) = (0 : Int32) → (¬ (Op.cmpValue (FP.fcmp r362 r362) .l) = (0 : Int32) → wp_L_law_2457 ad X K J28 G363 c1 t1 t2 t3 t4 (nI (5 * k))) ∧ ((Op.cmpValue (FP.fcmp r362 r362) .l) = (0 : Int32) → K (0 : Int32) G363)))))) ∧ (¬ r364 = r360 → K (0 : Int32) G363)))))) := by
  have hR := h.r hn hn2
  have hN := fun (tx c : Nat) (P' : pA) (G5 G8 : gS) (τ : Int32) => h.next (tx := tx) (c := c) (P' := P') (G5 := G5) (G8 := G8) (τ := τ) hn hn2
  obtain ⟨hk, hb, ⟨c, hc, hct⟩, hm, ⟨g3, h3⟩, ⟨g4, h4⟩, hs, -⟩ := h
  unfold wp_X0_reliability wp_X0_reliability_11
  have hi := hc.hi
  refine wNN_of ⟨hc.is, sp_X1_reliability hc (by omega) (hR.le (by omega)) (fun e q G' s hh => ⟨hh, ?_⟩) (fun e => ⟨(fl_rel hi (by omega) e).2.1, wNN_of ?_⟩)⟩
  · refine sm3_reliability ((XF.of2 (tx := t3) hc s).mi (Or.inl ⟨_, _, h3⟩) hm) hi (by omega) (fun _ G8 m8 => ?_) (fun z => absurd e z)
    refine sm_thrown m8 ⟨fun _ => ⟨fun _ => ?_, fun z => absurd z (by decide)⟩, fun z => absurd rfl z⟩
    exact hJ _ _ (hN t3 _ _ _ _ _ (XF.of2 hc s) (Or.inl ⟨_, _, h3⟩) ⟨_, s.1 _ _ h3 fun z => z⟩ ((XF.of2 hc s).d h3 ⟨g4, h4⟩) m8 (by omega))
  · refine ⟨1, g4, h4, vp_in_nI (n := 0) (by omega) (by omega), ?_⟩
    have hs5 : sC G t4 (gAd' true 1 (vf_upd g4 (0 : Int32).toNatClampNeg (FP.f2d (FP.fdiv (FP.i2f (aF P 4)) (FP.i2f (aF P 4 + aF P 5)))))) (gSet G t4 (gAd' true 1 (vf_upd g4 (0 : Int32).toNatClampNeg (FP.f2d (FP.fdiv (FP.i2f (aF P 4)) (FP.i2f (aF P 4 + aF P 5))))))) := ⟨gSet_self, fun b hb => gSet_ne hb, rfl⟩
    generalize gSet G t4 (gAd' true 1 (vf_upd g4 (0 : Int32).toNatClampNeg (FP.f2d (FP.fdiv (FP.i2f (aF P 4)) (FP.i2f (aF P 4 + aF P 5)))))) = G5 at hs5 ⊢
    have hx : XF ad G t1 t4 c P G5 := by
      refine ⟨hc.to fun b e hb hb2 => ?_, fun b e hb _ hne => by rw [hs5.2.1 b hne]; exact hb, by rw [hs5.2.2]; omega, by rw [hs5.2.2]; omega⟩
      rw [hs5.2.1 b (fun z => ?_)]
      · exact hb
      · subst z
        rw [h4] at hb
        cases hb
        rcases hb2 with ⟨_, _, _, e⟩ | ⟨_, _, e⟩ | ⟨_, _, _, e⟩ | ⟨w, ci, fs, e, q⟩ <;> cases e
    have h35 : G5.1 t3 = some (gAl true 1 g3) := by
      rw [hs5.2.1 t3 (fun z => by subst z; rw [h3] at h4; cases h4)]; exact h3
    refine sm3_reliability (hx.mi (Or.inr ⟨_, _, h4⟩) hm) hi (by omega) (fun z => absurd z e) (fun _ G8 m8 => ?_)
    have hj := hJ _ _ (hN t4 _ _ _ _ _ hx (Or.inr ⟨_, _, h4⟩) ⟨_, h35⟩ ⟨_, hs5.1⟩ m8 (by omega))
    have h48 := m8.1.d hs5.1
    refine sm_thrown m8 ⟨fun _ => ⟨fun z => absurd rfl z, fun _ => wAldD_of h48 (vp_in_nI (n := 0) (by omega) (by omega)) ⟨(fl_rel hi (by omega) e).2.1, ?_⟩⟩, fun z => absurd rfl z⟩
    have e7 : vf_upd g4 (0 : Int32).toNatClampNeg (FP.f2d (FP.fdiv (FP.i2f (aF P 4)) (FP.i2f (aF P 4 + aF P 5)))) (0 : Int32).toNatClampNeg = FP.f2d (FP.fdiv (FP.i2f (aF P 4)) (FP.i2f (aF P 4 + aF P 5))) := by simp [vf_upd]
    have e6 := (fl_rel hi (by omega) e).2.2
    rw [← e7] at e6
    refine ⟨fun _ => hj, fun z => absurd ?_ z⟩
    rw [e7] at e6 ⊢
    exact e6
end LW
