/-! PURE: best wages, and that all is well -/
set_option maxRecDepth 20000
section CH
variable {ad : Nat → Nat} {G0 G : gS} {u h : Nat} {A : hA} {f : Nat → Int32} {X : Nat → gS → Prop}
/-- a chain of the contracts of g among the first k, the last one first -/
def chR (G : gS) (A : hA) (f : pF) (g : Int32) : Nat → Option Nat → Prop
  | 0, q => q = none
  | k + 1, q => if f (52 + 5 * k) = g then ∃ (c : Nat) (r : Option Nat), q = some c ∧ G.1 c = some (gO true 11 [va_rf (some (hCa A k)), va_rf r]) ∧ chR G A f g k r else chR G A f g k q
theorem chR.to {G' : gS} {g : Int32} (t : ∀ b c, G.1 b = some c → G'.1 b = some c) : ∀ k q, chR G A f g k q → chR G' A f g k q
  | 0, _, h => h
  | k + 1, q, h => by
    rw [chR] at h ⊢
    split
    · rename_i e
      rw [if_pos e] at h
      obtain ⟨c, r, h1, h2, h3⟩ := h
      exact ⟨c, r, h1, t _ _ h2, chR.to t k r h3⟩
    · rename_i e
      rw [if_neg e] at h
      exact chR.to t k q h
/-- nothing old has changed -/
abbrev gF (u : Nat) (G G' : gS) : Prop := gTo (fun _ => False) u (10 * u) G G'
theorem gF.rep {u : Nat} {G' : gS} (t : gF u G G') (hr : hRep ad G h A f) : hRep ad G' h A f := hr.to fun b c hb _ => t.1 b c hb (fun z => z)
theorem gF.trans {u v w : Nat} {G' G'' : gS} (t : gF u G G') (t' : gF v G' G'') (h : u + v ≤ w) : gF w G G'' := gTo.trans t t' (fun b q => Or.inr q) (fun b q => Or.inr q) h (by omega)
theorem gF.new {u w a n : Nat} {c : gC} {G' G'' : gS} (t : gF u G G') (s : nC' G' a c n G'') (hn : n ≤ 10) (h : u + 1 ≤ w) : gF w G G'' := gTo.trans t (s.to (T := fun _ => False)) (fun b q => Or.inr q) (fun b q => Or.inr q) h (by omega)
theorem gF.rm {u v : Nat} {G' : gS} (t : gF u G G') (h : rm G (u + v)) : v ≤ G'.2.1 ∧ 10 * v ≤ G'.2.2 := by
  have := t.2.2
  have h1 := h.1
  have h2 := h.2
  omega
theorem gF.old {u b : Nat} {c : gC} {G' : gS} (t : gF u G G') (h : G.1 b = some c) : G'.1 b = some c := t.1 b c h (fun z => z)
theorem gF.b4 {u : Nat} {G' : gS} (t : gF u G G') (hb : gB4 ad G) : gB4 ad G' := hb.to t (fun b z => z.elim)
theorem gF.refl {G : gS} : gF 0 G G := gTo.refl
theorem gF.mono {u w : Nat} {G' : gS} (t : gF u G G') (h : u ≤ w) : gF w G G' := gTo.mono t (fun b q => Or.inr q) h (by omega)
theorem sp_chainOf (hr : hRep ad G h A f) (hR : rm G 10) {g : Int32} {K : Option Nat → gS → Prop} (k : ∀ G' q, gF 8 G G' → chR G' A f g (nC f) q → K q G') : wp_X2_chainOf ad G h g X K := by
  have h8 := hr.w.2.2.2
  unfold wp_X2_chainOf
  refine gLoop_up (nC f) (fun n (ff : gS → Nat → Int32 → Option Nat → Int32 → Prop) => ∀ G' q, gF n G G' → chR G' A f g n q → ff G' h g q (nI n)) ?_ gFuel 0 (by omega) (gFuel_lt (by omega)) G none gF.refl rfl
  intro n ff hn hs G' q t hq
  have hrG := t.rep hr
  unfold wp_X2_chainOf_4
  refine hSizeC hrG ?_
  by_cases e : n = nC f
  · subst e
    exact brT (Int32.le_refl _) (k G' q (t.mono h8) hq)
  · have hs := hs (by omega)
    refine brF (nI_ge (by omega) (by omega)) (hElC hrG rfl (k := n) (by omega) (wNN_of (cI hrG (by omega) rfl ⟨fun q1 => ?_, fun q1 => ?_⟩)))
    · unfold wp_X2_chainOf_62
      rw [← nI_succ]
      refine hs G' q (t.mono (by omega)) ?_
      rw [chR, if_neg q1]
      exact hq
    · have hro := t.rm (v := 1) (hR.le (by omega))
      refine wNew_nC (by omega) (by omega) fun c12 G1 s1 => ?_
      have t1 := t.new s1 (by omega) (Nat.le_refl _)
      refine hElC (t1.rep hr) rfl (k := n) (by omega) ?_
      unfold wp_X14_init
      refine wPut_sC s1.2.1 (ltb rfl) rfl fun G2 t2 => wPut_sC t2.1 (ltb rfl) rfl fun G3 t3 => ?_
      have s3 := (s1.set t2).set t3
      unfold wp_X2_chainOf_62
      rw [← nI_succ]
      refine hs G3 (some c12) (t.new s3 (by omega) (Nat.le_refl _)) ?_
      rw [chR, if_pos q1]
      exact ⟨c12, q, rfl, s3.2.1, hq.to (fun b c hb => s3.old hb) _ _⟩
theorem sp_rec (hr : hRep ad G h A f) (he : ∀ k, k < nC f → nn f (55 + 5 * k) 20 ∧ 1 ≤ pN f (55 + 5 * k)) {g : Int32} : ∀ (n k : Nat) (q : Option Nat) (e : Nat) (K : Int32 → gS → Prop), k ≤ nC f → k < n → e < 100 → chR G A f g k q → K (pBest f g k e) G → wp_X14_rec ad n G q (nI e) X K
  | 0, _, _, _, _, _, h, _, _, _ => absurd h (by omega)
  | n + 1, 0, q, e, K, _, _, _, hq, kk => by
    have hq : q = none := hq
    subst hq
    exact oN kk
  | n + 1, k + 1, q, e, K, hk, hn, he2, hq, kk => by
    rw [chR] at hq
    by_cases q1 : f (52 + 5 * k) = g
    · rw [if_pos q1] at hq
      obtain ⟨c, r, rfl, hc, hrest⟩ := hq
      obtain ⟨⟨f1, f2⟩, f3⟩ := he k (by omega)
      have cell := hr.2.2.2.2.2.2.1 k (by omega)
      rw [pBest_S] at kk
      refine oS ⟨gIs_of hc, ?_⟩
      unfold wp_X14_best_2 wp_X14_best_2_25
      refine wGetQ_of hc (x := r) rfl (sp_rec hr he n k r e _ (by omega) (by omega) he2 hrest (wGetQ_of hc (x := some (hCa A k)) rfl (wNN_of (wGetI_of cell (x := f (55 + 5 * k)) rfl ?_))))
      rw [f1]
      refine ⟨fun q2 => ⟨fun _ => ?_, fun z => absurd rfl z⟩, fun q2 => ⟨fun z => absurd z (by decide), fun _ => ?_⟩⟩
      · have q2 : e < pN f (55 + 5 * k) := (nI_ltI (by omega) (by omega)).mp q2
        rw [if_neg (by omega)] at kk
        exact kk
      · have q2 : pN f (55 + 5 * k) ≤ e := Nat.le_of_not_lt fun z => q2 (nI_lt z (by omega))
        rw [if_pos ⟨q1, q2⟩] at kk
        refine wGetQ_of hc (x := some (hCa A k)) rfl (wNN_of (wGetI_of cell (x := f (54 + 5 * k)) rfl (wGetQ_of hc (x := r) rfl (wGetQ_of hc (x := some (hCa A k)) rfl (wNN_of (wGetI_of cell (x := f (55 + 5 * k)) rfl ?_))))))
        rw [f1, nI_sub q2]
        exact sp_rec hr he n k r (e - pN f (55 + 5 * k)) _ (by omega) (by omega) (by omega) hrest kk
    · rw [if_neg q1] at hq
      rw [pBest_S, if_neg (fun z => q1 z.1)] at kk
      exact sp_rec hr he (n + 1) k q e K (by omega) (by omega) he2 hq kk
theorem sp_bestWages (hr : hRep ad G h A f) (hb : ad 0 ≠ ad 1) {c d : Nat} (hj : hJ f c d) (hR : rm G 10) {g : Nat} (hg : g < nG f) {K : Int32 → gS → Prop} (k : ∀ G', gF 8 G G' → K (pBest f (nI g) (nC f) (pEnergy f g).toNatClampNeg) G') : wp_X2_bestWages ad G h (nI g) X K := by
  have h8 := hr.w.2.2.2
  obtain ⟨E, hE, eE⟩ := pEnergy_nI hj hg
  unfold wp_X2_bestWages
  refine ⟨hr.is, sp_chainOf hr hR fun G1 q t1 hq => hElG (t1.rep hr) rfl hg ⟨hr.is |> fun _ => (t1.rep hr).is, sp_energy (t1.rep hr) hb hg ?_⟩⟩
  unfold wp_X14_best
  have k := k G1 t1
  rw [eE, nI_clamp (by omega)] at k
  rw [eE]
  exact sp_rec (t1.rep hr) (fun k hk => ⟨(hj.2.2.2.2.1.1 k hk).2.2.2.2.1, (hj.2.2.2.2.1.1 k hk).2.2.2.2.2⟩) 9 (nC f) q E _ (Nat.le_refl _) (by omega) (by omega) hq k
theorem sp_bestTable (hr : hRep ad G h A f) (hb : ad 0 ≠ ad 1) {c d : Nat} (hj : hJ f c d) (hR : rm G 10) {g : Nat} (hg : g < nG f) {K : Int32 → gS → Prop} (k : ∀ G', gF 6 G G' → K (pBest f (nI g) (nC f) (pEnergy f g).toNatClampNeg) G') : wp_X2_bestWagesByTable ad G h (nI g) X K := by
  have h8 := hr.w.2.2.2
  obtain ⟨E, hE, eE⟩ := pEnergy_nI hj hg
  have hRR : 10 ≤ G.2.1 ∧ 100 ≤ G.2.2 := hR
  unfold wp_X2_bestWagesByTable
  rw [eE, nI_clamp (by omega)] at k
  refine hElG hr rfl hg ⟨hr.is, sp_energy hr hb hg ?_⟩
  rw [eE]
  refine wNewI_nC (k := E + 1) (by rw [nI_succ]) (by omega) (by omega) (by omega) fun c8 G1 s1 => ?_
  have t1 : gF 6 G G1 := (s1.to (T := fun _ => False)).mono (fun b q => Or.inr q) (by omega) (by omega)
  -- the table at c8 changes, nothing old does
  refine gLoop_up (nC f) (fun n (ff : gS → Nat → Int32 → Nat → Int32 → Prop) => ∀ G' b, gF 6 G G' → G'.1 c8 = some (gAi true (E + 1) b) → (∀ e, e ≤ E → b e = pBest f (nI g) n e) → ff G' h (nI g) c8 (nI n)) ?_ gFuel 0 (by omega) (gFuel_lt (by omega)) G1 _ t1 s1.2.1 (fun e he => rfl)
  intro n ff hn hs G' b t hc8 hbv
  unfold wp_X2_bestWagesByTable_24
  refine hSizeC (t.rep hr) ?_
  by_cases en : n = nC f
  · subst en
    refine brT (Int32.le_refl _) ?_
    unfold wp_X2_bestWagesByTable_116
    refine wLen_of hc8 (by decide) (wAldI_of hc8 ?_ ?_)
    · rw [nI_pred]; exact vp_in_nI (by omega) (by omega)
    · rw [nI_pred, nI_clamp (by omega), hbv E (Nat.le_refl _)]
      exact k G' t
  · have hs := hs (by omega)
    obtain ⟨⟨he1, he2⟩, he3⟩ : nn f (55 + 5 * n) 20 ∧ 1 ≤ pN f (55 + 5 * n) := ⟨(hj.2.2.2.2.1.1 n (by omega)).2.2.2.2.1, (hj.2.2.2.2.1.1 n (by omega)).2.2.2.2.2⟩
    generalize hef : pN f (55 + 5 * n) = ef at *
    refine brF (nI_ge (by omega) (by omega)) (hElC (t.rep hr) rfl (k := n) (by omega) (wLen_of hc8 (by decide) ?_))
    rw [nI_pred]
    refine gLoop_ms (fun mu (fg : gS → Nat → Int32 → Nat → Int32 → Option Nat → Int32 → Prop) => ∀ G' b, gF 6 G G' → G'.1 c8 = some (gAi true (E + 1) b) → mu ≤ E → (∀ e, e ≤ mu → b e = pBest f (nI g) n e) → (∀ e, mu < e → e ≤ E → b e = pBest f (nI g) (n + 1) e) → fg G' h (nI g) c8 (nI n) (some (hCa A n)) (nI mu)) ?_ gFuel E (gFuel_lt (by omega)) G' b t hc8 (Nat.le_refl _) hbv (fun e h1 h2 => absurd h1 (by omega))
    intro mu fg hs2 G' b t hc8 hmu hb1 hb2
    unfold wp_X2_bestWagesByTable_58 wp_X2_bestWagesByTable_110
    refine wNN_of (cI (t.rep hr) (k := n) (j := 4) (by omega) (x := nI ef) (by rw [← he1]; rfl) ?_)
    by_cases q1 : mu < ef
    · refine brT (nI_lt q1 (by omega)) ?_
      rw [← nI_succ]
      refine hs G' b t hc8 fun e h1 => ?_
      by_cases q2 : e ≤ mu
      · rw [hb1 e q2, pBest_S, if_neg (fun z => by rw [hef] at z; omega)]
      · exact hb2 e (by omega) h1
    · refine brF (nI_nlt (by omega) (by omega)) (cI (t.rep hr) (k := n) (by omega) rfl ⟨fun q => ?_, fun q => ?_⟩)
      · rw [← nI_succ]
        refine hs G' b t hc8 fun e h1 => ?_
        by_cases q2 : e ≤ mu
        · rw [hb1 e q2, pBest_S, if_neg (fun z => q z.1)]
        · exact hb2 e (by omega) h1
      · refine wAldI_of hc8 (vp_in_nI (by omega) (by omega)) (cI (t.rep hr) (k := n) (by omega) rfl (cI (t.rep hr) (k := n) (j := 4) (by omega) (x := nI ef) (by rw [← he1]; rfl) (wAldI_of hc8 (by rw [nI_sub (by omega)]; exact vp_in_nI (by omega) (by omega)) (wAstI_of hc8 (vp_in_nI (by omega) (by omega)) ?_))))
        rw [nI_sub (by omega), nI_clamp (by omega), nI_clamp (by omega)]
        obtain ⟨mu', rfl⟩ : ∃ mu', mu = mu' + 1 := ⟨mu - 1, by omega⟩
        rw [nI_dec]
        refine hs2 mu' (by omega) _ _ ?_ gSet_self (by omega) (fun e h1 => ?_) (fun e h1 h3 => ?_)
        · exact gTo.trans t (gTo_set (T := fun b => b = c8) hc8 rfl) (fun b q => Or.inr q) (fun b q => Or.inl (by rw [q]; exact s1.1)) (Nat.le_refl _) (Nat.le_refl _)
        · rw [upd_ne (by omega)]; exact hb1 e (by omega)
        · by_cases q3 : e = mu' + 1
          · subst q3
            rw [upd_self, hb1 _ (Nat.le_refl _), hb1 _ (by omega), pBest_S, hef]
            exact (if_pos ⟨q, by omega⟩).symm
          · rw [upd_ne q3]; exact hb2 e (by omega) h3
/-- how many contracts of a goblin in a room -/
def pSumQ (f : pF) (g r : Int32) : Nat → Int32
  | 0 => 0
  | n + 1 => pSumQ f g r n + (if f (52 + 5 * n) = g ∧ f (53 + 5 * n) = r then 1 else 0)
theorem pSumQ_has (hc : ∀ j k, j < k → k < nC f → ¬ (f (52 + 5 * j) = f (52 + 5 * k) ∧ f (53 + 5 * j) = f (53 + 5 * k))) {g r : Int32} : ∀ n, n ≤ nC f → pSumQ f g r n = bI (pHas f g r n)
  | 0, _ => rfl
  | n + 1, hn => by
    have ih := pSumQ_has hc (g := g) (r := r) n (by omega)
    rw [pSumQ, pHas, ih]
    by_cases q : f (52 + 5 * n) = g ∧ f (53 + 5 * n) = r
    · have hno : pHas f g r n = false := by
        cases z : pHas f g r n with
        | false => rfl
        | true =>
          exfalso
          have key : ∀ m, m ≤ n → pHas f g r m = false := by
            intro m
            induction m with
            | zero => intro _; rfl
            | succ m ihm =>
              intro hm
              rw [pHas, ihm (by omega), Bool.false_or]
              have := hc m n (by omega) (by omega)
              rw [q.1, q.2] at this
              by_cases a : f (52 + 5 * m) = g
              · rw [decide_eq_false (fun b => this ⟨a, b⟩), Bool.and_false]
              · rw [decide_eq_false a, Bool.false_and]
          rw [key n (Nat.le_refl _)] at z
          cases z
      rw [if_pos q, hno, decide_eq_true q.1, decide_eq_true q.2]
      rfl
    · rw [if_neg q, Int32.add_zero]
      have : (decide (f (52 + 5 * n) = g) && decide (f (53 + 5 * n) = r)) = false := by
        by_cases a : f (52 + 5 * n) = g
        · rw [decide_eq_false (fun b => q ⟨a, b⟩), Bool.and_false]
        · rw [decide_eq_false a, Bool.false_and]
      rw [this, Bool.or_false]
theorem sp_sum (hr : hRep ad G h A f) {l : Nat} {g r : Int32} (hl : gIsL G l 0 [.int g, .int r]) {K : Int32 → gS → Prop} (k : K (pSumQ f g r (nC f)) G) : wp_X2_sum ad G h (some l) X K := by
  have h8 := hr.w.2.2.2
  unfold wp_X2_sum
  refine gLoop_up (nC f) (fun n (ff : gS → Nat → Option Nat → Int32 → Int32 → Prop) => ff G h (some l) (pSumQ f g r n) (nI n)) ?_ gFuel 0 (by omega) (gFuel_lt (by omega))
  intro n ff hn hs
  unfold wp_X2_sum_4
  refine hSizeC hr ?_
  by_cases e : n = nC f
  · subst e
    exact brT (Int32.le_refl _) k
  · have hs := hs (by omega)
    rw [pSumQ, nI_succ] at hs
    refine brF (nI_ge (by omega) (by omega)) (hElC hr rfl (k := n) (by omega) (wNN_of (Or.inl ⟨g, r, hl, ?_⟩)))
    unfold wp_X2_lambda_areContractsApart_0
    refine wNN_of (cI hr (by omega) rfl ⟨fun q => ?_, fun q => cI hr (by omega) rfl ⟨fun q2 => ?_, fun q2 => ?_⟩⟩)
    · rw [if_neg (fun z => q z.1)] at hs; exact hs
    · rw [if_neg (fun z => q2 z.2)] at hs; exact hs
    · rw [if_pos ⟨q, q2⟩] at hs; exact hs
theorem sp_apart (hr : hRep ad G h A f) (hj : jC f) (hR : rm G 10) {g : Int32} {K : Int32 → gS → Prop} (k : ∀ G', gF 6 G G' → K 1 G') : wp_X2_areContractsApart ad G h g X K := by
  unfold wp_X2_areContractsApart
  refine gLoop_up 6 (fun n (ff : gS → Nat → Int32 → Int32 → Int32 → Int32 → Prop) => ∀ G' s, gF n G G' → ff G' h g s s (nI n)) ?_ gFuel 0 (by omega) (gFuel_lt (by omega)) G 0 gF.refl
  intro n ff hn hs G' s t
  unfold wp_X2_areContractsApart_7
  by_cases e : n = 6
  · subst e
    refine brT (by decide) ?_
    unfold wp_X2_areContractsApart_57
    exact brT' rfl (k G' t)
  · have hs := hs (by omega)
    have hro := t.rm (v := 1) (hR.le (by omega))
    refine brF (nI_ge (b := 6) (by omega) (by omega)) ⟨by omega, by show 2 ≤ _; omega, fun a ha => ?_⟩
    have s1 : nC' G' a (gLb 0 ([g, nI n].map Value.int)) 2 (gNew G' a (gLb 0 ([g, nI n].map Value.int)) 2) := nC'_new ha (by omega) (by omega)
    show _ ∧ wp_X2_sum ad (gNew G' a (gLb 0 ([g, nI n].map Value.int)) 2) h (some a) X _
    generalize gNew G' a (gLb 0 ([g, nI n].map Value.int)) 2 = G1 at *
    have t1 : gF (n + 1) G G1 := t.new s1 (by omega) (Nat.le_refl _)
    have hr1 := t1.rep hr
    refine ⟨hr1.is, sp_sum hr1 ⟨true, s1.2.1⟩ ⟨hr1.is, sp_hasContract hr1 ?_⟩⟩
    rw [pSumQ_has hj.2.2 _ (Nat.le_refl _)]
    unfold wp_X2_areContractsApart_49
    cases pHas f g (nI n) (nC f) with
    | false =>
      refine brT rfl ?_
      rw [← nI_succ]
      exact hs G1 _ t1
    | true =>
      refine brF (by decide) ?_
      rw [← nI_succ]
      exact hs G1 _ t1
theorem pPurses_nI {c0 : Nat} (h : hI f c0) : ∀ n, n ≤ nG f → pPurses f n = nI (pN f 1 + pPu f n)
  | 0, _ => by rw [pPurses, pPu, Nat.add_zero]; exact h.1.2.2.2.2.2.1.1.1
  | n + 1, hn => by
    rw [pPurses, pPurses_nI h n (by omega), (h.1.2.2.2.1 n (by omega)).2.1.1, nI_add, pPu]
    congr 1
    omega
theorem sp_isConsistent (hr : hRep ad G h A f) (hb : ad 0 ≠ ad 1) {c : Nat} (hi : hI f c) (hR : rm G 150) {K : Int32 → gS → Prop} (k : ∀ G', gF 100 G G' → K 1 G') : wp_X2_isConsistent ad G h X K := by
  have h5 := hr.w.2.1.2
  obtain ⟨⟨s1, s1'⟩, ⟨s2, s2'⟩, ⟨s3, s3'⟩, s4⟩ := hi.1.2.2.2.2.2.1
  have eacc : pPurses f (nG f) = 100 + f 2 - f 3 := by
    rw [pPurses_nI hi _ (Nat.le_refl _), s2, s3, show (100 : Int32) = nI 100 from rfl, nI_add, nI_sub (by omega)]
    congr 1
    omega
  unfold wp_X2_isConsistent
  refine ⟨hr.is, sp_allCrumbs hr ⟨hr.is, sp_byAccounts hr (brT' eacc (hGetI hr (by decide) (brF ?_ ?_)))⟩⟩
  · show ¬ f 1 < 0
    rw [s1]; exact nI_pos (by omega)
  · unfold wp_X2_isConsistent_23
    refine gLoop_up (nG f) (fun n (ff : gS → Nat → Int32 → Int32 → Prop) => ∀ G', gF (20 * n) G G' → ff G' h 1 (nI n)) ?_ gFuel 0 (by omega) (gFuel_lt (by omega)) G gF.refl
    intro n ff hn hs G' t
    have hr' := t.rep hr
    unfold wp_X2_isConsistent_26
    refine hSizeG hr' ?_
    by_cases e : n = nG f
    · subst e
      exact brT (Int32.le_refl _) ⟨rfl, k G' (t.mono (by omega))⟩
    · have hs := hs (by omega)
      obtain ⟨-, ⟨p1, p2⟩, ⟨d1, d2⟩, -⟩ := hi.1.2.2.2.1 n (by omega)
      have rmG : ∀ {v : Nat} {G2 : gS}, gF v G G2 → v + 10 ≤ 150 → rm G2 10 := fun {v G2} t2 hv => by
        have := t2.rm (v := 10) (hR.le hv)
        exact ⟨by omega, by omega⟩
      refine brF (nI_ge (by omega) (by omega)) (hElG hr' rfl (k := n) (by omega) (brF (by decide) ⟨hr'.is, sp_bestWages hr' hb hi.1 (rmG t (by omega)) (by omega) fun G1 t1 => ?_⟩))
      have t01 := t.trans t1 (w := 20 * n + 8) (by omega)
      have hr1 := t01.rep hr
      refine ⟨hr1.is, sp_bestTable hr1 hb hi.1 (rmG t01 (by omega)) (by omega) fun G2 t2 => ?_⟩
      have t02 := t01.trans t2 (w := 20 * n + 14) (by omega)
      have hr2 := t02.rep hr
      refine brT' rfl ⟨hr2.is, sp_apart hr2 hi.1.2.2.2.2.1 (rmG t02 (by omega)) fun G3 t3 => ?_⟩
      have t03 := t02.trans t3 (w := 20 * (n + 1)) (by omega)
      have hr3 := t03.rep hr
      refine brF (by decide) (wNN_of ⟨gIsG hr3 (by omega), ?_⟩)
      unfold wp_X7_purse wp_X7_debt wp_X2_isConsistent_97
      refine gI hr3 (k := n) (by omega) rfl (brF ?_ ⟨gIsG hr3 (by omega), gI hr3 (k := n) (by omega) rfl (brF ?_ ?_)⟩)
      · rw [p1]; exact nI_pos (by omega)
      · rw [d1]; exact nI_pos (by omega)
      · rw [← nI_succ]
        exact hs G3 t03
end CH
