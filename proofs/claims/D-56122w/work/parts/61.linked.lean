/-! PURE: the linked list -/
set_option maxRecDepth 20000
def LL (G : gS) (l n : Nat) (a it : Nat → Nat) : Prop := (∃ mc : Int32, G.1 l = some (gO true 4 [.int mc, .int (nI n), va_rf (if n = 0 then none else some (a 0)), va_rf (if n = 0 then none else some (a (n - 1)))])) ∧ (∀ i, i < n → G.1 (a i) = some (gO true 5 [va_rf (some (it i)), va_rf (if i + 1 < n then some (a (i + 1)) else none), va_rf (if i = 0 then none else some (a (i - 1)))])) ∧ (∀ i j, i < n → j < n → a i = a j → i = j)
def LT (l n : Nat) (a : Nat → Nat) (b : Nat) : Prop := b = l ∨ ∃ i, i < n ∧ b = a i
section LK
variable {ad : Nat → Nat} {G : gS} {l n : Nat} {a it : Nat → Nat} {X : Nat → gS → Prop}
theorem LL.is (h : LL G l n a it) : gIs G l 4 := by
  obtain ⟨⟨mc, h1⟩, -⟩ := h
  exact gIs_of h1
theorem LL.ne (h : LL G l n a it) {i : Nat} (hi : i < n) : a i ≠ l := fun e => by
  obtain ⟨⟨mc, h1⟩, h2, -⟩ := h
  have := h2 i hi
  rw [e, h1] at this; cases this
theorem LL.to {G' : gS} (h : LL G l n a it) (t : ∀ b c, LT l n a b → G.1 b = some c → G'.1 b = some c) : LL G' l n a it := by
  obtain ⟨⟨mc, h1⟩, h2, h3⟩ := h
  exact ⟨⟨mc, t _ _ (Or.inl rfl) h1⟩, fun i hi => t _ _ (Or.inr ⟨i, hi, rfl⟩) (h2 i hi), h3⟩
theorem sp_lsize (h : LL G l n a it) {K : Int32 → gS → Prop} (k : K (nI n) G) : gIs G l 4 ∧ wp_J4_size ad G l X K := by
  obtain ⟨⟨mc, h1⟩, -⟩ := h
  exact ⟨gIs_of h1, wGetI_of h1 rfl k⟩
theorem sp_lempty (h : LL G l n a it) (hn : n < 100) {K : Int32 → gS → Prop} (k : K (bI (decide (n = 0))) G) : gIs G l 4 ∧ wp_J0_isEmpty ad G l X K := by
  refine ⟨h.is, ?_⟩
  unfold wp_J0_isEmpty
  obtain ⟨q1, q2⟩ := sp_lsize (ad := ad) (X := X) h (K := fun r2 G1 => (¬ r2 = (0 : Int32) → K (0 : Int32) G1) ∧ (r2 = (0 : Int32) → K (1 : Int32) G1)) ⟨fun q => bI_get0 (P := fun x => K x G) k (decide_eq_false fun z => q (by rw [z]; rfl)), fun q => bI_get (P := fun x => K x G) k (decide_eq_true ((nI_eq (b := 0) (by omega) (by omega)).mp q))⟩
  exact ⟨q1, q2⟩
theorem sp_laddLast (h : LL G l n a it) (hn : n < 100) (h1r : 1 ≤ G.2.1) (h2r : 3 ≤ G.2.2) {x : Nat} {K : gS → Prop} (k : ∀ G' q, G.1 q = none → gTo (LT l n a) 1 3 G G' → LL G' l (n + 1) (fun i => if i = n then q else a i) (fun i => if i = n then x else it i) → K G') : gIs G l 4 ∧ wp_J4_addLast ad G l (some x) X K := by
  have hne := fun i hi => h.ne (i := i) hi
  obtain ⟨⟨mc, hl⟩, hc, hinj⟩ := h
  refine ⟨gIs_of hl, ?_⟩
  unfold wp_J4_addLast
  refine ⟨gIs_of hl, ?_⟩
  unfold wp_J4_linkLast wp_J14_init
  refine wGetQ_of hl (x := if n = 0 then none else some (a (n - 1))) rfl (wNew_nC h1r h2r fun q G1 s1 => wPut_sC s1.2.1 (ltb rfl) rfl fun G2 t2 => wPut_sC t2.1 (ltb rfl) rfl fun G3 t3 => wPut_sC t3.1 (ltb rfl) rfl fun G4 t4 => ?_)
  have s4 := ((s1.set t2).set t3).set t4
  have hql : l ≠ q := s4.ne hl
  refine wPut_sC (s4.old hl) (ltb rfl) rfl fun G5 t5 => ?_
  have cq5 : G5.1 q = some (gO true 5 [va_rf (some x), va_rf none, va_rf (if n = 0 then none else some (a (n - 1)))]) := by
    rw [t5.2.1 _ (Ne.symm hql)]; exact s4.2.1
  have c5 : ∀ i, i < n → G5.1 (a i) = some (gO true 5 [va_rf (some (it i)), va_rf (if i + 1 < n then some (a (i + 1)) else none), va_rf (if i = 0 then none else some (a (i - 1)))]) := fun i hi => by
    rw [t5.2.1 _ (hne i hi)]; exact s4.old (hc i hi)
  have to5 : gTo (LT l n a) 1 3 G G5 := s4.to.trans (T1 := fun _ => False) (t5.to (T := fun b => b = l) (s4.old hl) rfl) (fun b z => z.elim) (fun b z => Or.inr (Or.inl z)) (Nat.le_refl _) (Nat.le_refl _)
  -- the numbers at the end
  have fin : ∀ (G6 : gS) (f2 : Option Nat), gTo (LT l n a) 1 3 G G6 → G6.1 l = some (gO true 4 [.int mc, .int (nI n), va_rf f2, va_rf (some q)]) → f2 = some (if 0 = n then q else a 0) → (∀ i, i < n + 1 → G6.1 (if i = n then q else a i) = some (gO true 5 [va_rf (some (if i = n then x else it i)), va_rf (if i + 1 < n + 1 then some (if i + 1 = n then q else a (i + 1)) else none), va_rf (if i = 0 then none else some (if i - 1 = n then q else a (i - 1)))])) → wp_J4_linkLast_38 ad X K G6 l := by
    intro G6 f2 t6 l6 hf2 c6
    unfold wp_J4_linkLast_38
    refine wGetI_of l6 rfl (wPut_sC l6 (ltb rfl) rfl fun G7 t7 => wGetI_of t7.1 rfl (wPut_sC t7.1 (ltb rfl) rfl fun G8 t8 => k G8 q s4.1 ?_ ⟨⟨mc + 1, ?_⟩, fun i hi => ?_, fun i j hi hj e => ?_⟩))
    · exact (t6.trans (T := LT l n a) (t7.to (T := fun b => b = l) l6 rfl) (fun b z => Or.inr z) (fun b z => Or.inr (Or.inl z)) (Nat.le_refl _) (Nat.le_refl _)).trans (t8.to (T := fun b => b = l) t7.1 rfl) (fun b z => Or.inr z) (fun b z => Or.inr (Or.inl z)) (Nat.le_refl _) (Nat.le_refl _)
    · have z : (if n + 1 = 0 then none else some ((fun i => if i = n then q else a i) (n + 1 - 1))) = some q := by
        rw [if_neg (Nat.succ_ne_zero n)]
        exact congrArg some (if_pos rfl)
      rw [z, if_neg (Nat.succ_ne_zero n), t8.1, hf2, nI_succ]
      rfl
    · show G8.1 (if i = n then q else a i) = _
      have hnl : (if i = n then q else a i) ≠ l := by
        split
        · exact Ne.symm hql
        · exact hne i (by omega)
      rw [t8.2.1 _ hnl, t7.2.1 _ hnl]
      exact c6 i hi
    · have e : (if i = n then q else a i) = (if j = n then q else a j) := e
      have hnq : ∀ i, i < n → a i ≠ q := fun i hi => s4.ne (hc i hi)
      by_cases p1 : i = n <;> by_cases p2 : j = n
      · omega
      · rw [if_pos p1, if_neg p2] at e; exact absurd e.symm (hnq j (by omega))
      · rw [if_neg p1, if_pos p2] at e; exact absurd e (hnq i (by omega))
      · rw [if_neg p1, if_neg p2] at e; exact hinj i j (by omega) (by omega) e
  by_cases e : n = 0
  · subst e
    refine oN (wPut_sC t5.1 (ltb rfl) rfl fun G6 t6 => fin G6 (some q) ?_ t6.1 rfl fun i hi => ?_)
    · exact to5.trans (T := LT l 0 a) (t6.to (T := fun b => b = l) t5.1 rfl) (fun b z => Or.inr z) (fun b z => Or.inr (Or.inl z)) (Nat.le_refl _) (Nat.le_refl _)
    · have : i = 0 := by omega
      subst this
      rw [if_pos rfl, t6.2.1 _ (Ne.symm hql)]
      exact cq5
  · have hn1 : n - 1 < n := by omega
    rw [if_neg e] at cq5 ⊢
    refine oS (wPut_sC (c5 (n - 1) hn1) (ltb rfl) rfl fun G6 t6 => fin G6 (some (a 0)) ?_ ?_ (by rw [if_neg (by omega)]) fun i hi => ?_)
    · exact to5.trans (T := LT l n a) (t6.to (T := fun b => b = a (n - 1)) (c5 (n - 1) hn1) rfl) (fun b z => Or.inr z) (fun b z => Or.inr (Or.inr ⟨n - 1, hn1, z⟩)) (Nat.le_refl _) (Nat.le_refl _)
    · rw [t6.2.1 _ (Ne.symm (hne _ hn1)), t5.1, if_neg e]; rfl
    · have hnq : ∀ i, i < n → a i ≠ q := fun i hi => s4.ne (hc i hi)
      by_cases p : i = n
      · subst p
        rw [if_pos rfl, if_pos rfl, if_neg (by omega), if_neg (by omega), if_neg (by omega), t6.2.1 _ (Ne.symm (hnq _ hn1))]
        exact cq5
      · rw [if_neg p, if_neg p, if_pos (by omega)]
        by_cases p2 : i = n - 1
        · subst p2
          rw [if_pos (by omega), t6.1]
          by_cases p3 : n - 1 = 0
          · rw [if_pos p3, if_pos p3]; rfl
          · rw [if_neg p3, if_neg p3, if_neg (show ¬ n - 1 - 1 = n by omega)]; rfl
        · rw [t6.2.1 _ (fun z => p2 (hinj i (n - 1) (by omega) hn1 z)), c5 i (by omega), if_pos (show i + 1 < n by omega), if_neg (show ¬ i + 1 = n by omega)]
          by_cases p3 : i = 0
          · rw [if_pos p3, if_pos p3]
          · rw [if_neg p3, if_neg p3, if_neg (show ¬ i - 1 = n by omega)]
theorem sp_lremoveFirst (h : LL G l (n + 1) a it) (hn : n < 100) {K : Option Nat → gS → Prop} (k : ∀ G', gTo (LT l (n + 1) a) 0 0 G G' → LL G' l n (fun i => a (i + 1)) (fun i => it (i + 1)) → K (some (it 0)) G') : gIs G l 4 ∧ wp_J4_removeFirst ad G l X K := by
  have hne := fun i hi => h.ne (i := i) hi
  obtain ⟨⟨mc, hl⟩, hc, hinj⟩ := h
  rw [if_neg (by omega), if_neg (by omega), Nat.add_sub_cancel] at hl
  refine ⟨gIs_of hl, ?_⟩
  unfold wp_J4_removeFirst
  refine wGetQ_of hl (x := some (a 0)) rfl (oS ⟨gIs_of hl, ?_⟩)
  unfold wp_J4_unlinkFirst
  have c0 := hc 0 (by omega)
  refine wNN_of (wGetQ_of c0 (x := some (it 0)) rfl (wGetQ_of c0 (x := if 0 + 1 < n + 1 then some (a (0 + 1)) else none) rfl (wPut_sC c0 (ltb rfl) rfl fun G4 t4 => wPut_sC t4.1 (ltb rfl) rfl fun G5 t5 => ?_)))
  have t05 := t4.trans t5
  have l5 : G5.1 l = some (gO true 4 [.int mc, .int (nI (n + 1)), va_rf (some (a 0)), va_rf (some (a n))]) := by
    rw [t05.2.1 _ (Ne.symm (hne 0 (by omega)))]; exact hl
  refine wPut_sC l5 (ltb rfl) rfl fun G6 t6 => ?_
  have to6 : gTo (LT l (n + 1) a) 0 0 G G6 := (t05.to (T := fun b => b = a 0) c0 rfl).trans (T := LT l (n + 1) a) (t6.to (T := fun b => b = l) l5 rfl) (fun b z => Or.inr (Or.inr ⟨0, by omega, z⟩)) (fun b z => Or.inr (Or.inl z)) (Nat.le_refl _) (Nat.le_refl _)
  have c6 : ∀ i, i < n → G6.1 (a (i + 1)) = some (gO true 5 [va_rf (some (it (i + 1))), va_rf (if i + 1 + 1 < n + 1 then some (a (i + 1 + 1)) else none), va_rf (some (a i))]) := fun i hi => by
    rw [t6.2.1 _ (hne _ (by omega)), t05.2.1 _ (fun z => by have := hinj _ _ (by omega) (by omega) z; omega), hc (i + 1) (by omega), if_neg (by omega : ¬ i + 1 = 0), Nat.add_sub_cancel]
  have fin : ∀ (G7 : gS) (f2 f3 : Option Nat), gTo (LT l (n + 1) a) 0 0 G G7 → G7.1 l = some (gO true 4 [.int mc, .int (nI (n + 1)), va_rf f2, va_rf f3]) → f2 = (if n = 0 then none else some (a 1)) → f3 = (if n = 0 then none else some (a n)) → (∀ i, i < n → G7.1 (a (i + 1)) = some (gO true 5 [va_rf (some (it (i + 1))), va_rf (if i + 1 + 1 < n + 1 then some (a (i + 1 + 1)) else none), va_rf (if i = 0 then none else some (a i))])) → wp_J4_unlinkFirst_42 ad X (fun q7 G6 => K q7 G6) G7 l (some (it 0)) := by
    intro G7 f2 f3 t7 l7 e2 e3 c7
    unfold wp_J4_unlinkFirst_42
    refine wGetI_of l7 rfl (wPut_sC l7 (ltb rfl) rfl fun G8 t8 => wGetI_of t8.1 rfl (wPut_sC t8.1 (ltb rfl) rfl fun G9 t9 => k G9 ?_ ⟨⟨mc + 1, ?_⟩, fun i hi => ?_, fun i j hi hj e => ?_⟩))
    · exact (t7.trans (T := LT l (n + 1) a) (t8.to (T := fun b => b = l) l7 rfl) (fun b z => Or.inr z) (fun b z => Or.inr (Or.inl z)) (Nat.le_refl _) (Nat.le_refl _)).trans (t9.to (T := fun b => b = l) t8.1 rfl) (fun b z => Or.inr z) (fun b z => Or.inr (Or.inl z)) (Nat.le_refl _) (Nat.le_refl _)
    · rw [t9.1, nI_pred, e2, e3]
      by_cases p : n = 0
      · simp only [if_pos p]; rfl
      · simp only [if_neg p, Nat.sub_add_cancel (Nat.pos_of_ne_zero p)]; rfl
    · rw [t9.2.1 _ (hne _ (by omega)), t8.2.1 _ (hne _ (by omega)), c7 i hi]
      by_cases p : i + 1 < n
      · rw [if_pos p, if_pos (by omega)]
        by_cases p2 : i = 0
        · rw [if_pos p2, if_pos p2]
        · rw [if_neg p2, if_neg p2]; dsimp only; rw [show i - 1 + 1 = i by omega]
      · rw [if_neg p, if_neg (by omega)]
        by_cases p2 : i = 0
        · rw [if_pos p2, if_pos p2]
        · rw [if_neg p2, if_neg p2]; dsimp only; rw [show i - 1 + 1 = i by omega]
    · have := hinj _ _ (by omega) (by omega) e
      omega
  by_cases e : n = 0
  · subst e
    rw [if_neg (by omega)]
    refine oN (wPut_sC t6.1 (ltb rfl) rfl fun G7 t7 => fin G7 none none ?_ t7.1 rfl rfl fun i hi => absurd hi (by omega))
    exact to6.trans (T := LT l (0 + 1) a) (t7.to (T := fun b => b = l) t6.1 rfl) (fun b z => Or.inr z) (fun b z => Or.inr (Or.inl z)) (Nat.le_refl _) (Nat.le_refl _)
  · have l6 := t6.1
    rw [if_pos (by omega)] at l6 ⊢
    refine oS (wPut_sC (c6 0 (by omega)) (ltb rfl) rfl fun G7 t7 => fin G7 (some (a 1)) (some (a n)) ?_ ?_ (by rw [if_neg e]) (by rw [if_neg e]) fun i hi => ?_)
    · exact to6.trans (T := LT l (n + 1) a) (t7.to (T := fun b => b = a (0 + 1)) (c6 0 (by omega)) rfl) (fun b z => Or.inr z) (fun b z => Or.inr (Or.inr ⟨0 + 1, by omega, z⟩)) (Nat.le_refl _) (Nat.le_refl _)
    · rw [t7.2.1 _ (Ne.symm (hne _ (by omega)))]; exact l6
    · by_cases p : i = 0
      · subst p
        rw [t7.1, if_pos rfl]; rfl
      · rw [t7.2.1 _ (fun z => p (by have := hinj _ _ (by omega) (by omega) z; omega)), c6 i hi, if_neg p]
theorem sp_lremoveLast (h : LL G l (n + 1) a it) (hn : n < 100) {K : Option Nat → gS → Prop} (k : ∀ G', gTo (LT l (n + 1) a) 0 0 G G' → LL G' l n a it → K (some (it n)) G') : gIs G l 4 ∧ wp_J4_removeLast ad G l X K := by
  have hne := fun i hi => h.ne (i := i) hi
  obtain ⟨⟨mc, hl⟩, hc, hinj⟩ := h
  rw [if_neg (by omega), if_neg (by omega), Nat.add_sub_cancel] at hl
  refine ⟨gIs_of hl, ?_⟩
  unfold wp_J4_removeLast
  refine wGetQ_of hl (x := some (a n)) rfl (oS ⟨gIs_of hl, ?_⟩)
  unfold wp_J4_unlinkLast
  have c0 := hc n (by omega)
  rw [if_neg (by omega : ¬ n + 1 < n + 1)] at c0
  refine wNN_of (wGetQ_of c0 (x := some (it n)) rfl (wGetQ_of c0 (x := if n = 0 then none else some (a (n - 1))) rfl (wPut_sC c0 (ltb rfl) rfl fun G4 t4 => wPut_sC t4.1 (ltb rfl) rfl fun G5 t5 => ?_)))
  have t05 := t4.trans t5
  have l5 : G5.1 l = some (gO true 4 [.int mc, .int (nI (n + 1)), va_rf (some (a 0)), va_rf (some (a n))]) := by
    rw [t05.2.1 _ (Ne.symm (hne n (by omega)))]; exact hl
  refine wPut_sC l5 (ltb rfl) rfl fun G6 t6 => ?_
  have to6 : gTo (LT l (n + 1) a) 0 0 G G6 := (t05.to (T := fun b => b = a n) c0 rfl).trans (T := LT l (n + 1) a) (t6.to (T := fun b => b = l) l5 rfl) (fun b z => Or.inr (Or.inr ⟨n, by omega, z⟩)) (fun b z => Or.inr (Or.inl z)) (Nat.le_refl _) (Nat.le_refl _)
  have c6 : ∀ i, i < n → G6.1 (a i) = some (gO true 5 [va_rf (some (it i)), va_rf (some (a (i + 1))), va_rf (if i = 0 then none else some (a (i - 1)))]) := fun i hi => by
    rw [t6.2.1 _ (hne _ (by omega)), t05.2.1 _ (fun z => by have := hinj _ _ (by omega) (by omega) z; omega), hc i (by omega), if_pos (by omega : i + 1 < n + 1)]
  have fin : ∀ (G7 : gS) (f2 f3 : Option Nat), gTo (LT l (n + 1) a) 0 0 G G7 → G7.1 l = some (gO true 4 [.int mc, .int (nI (n + 1)), va_rf f2, va_rf f3]) → f2 = (if n = 0 then none else some (a 0)) → f3 = (if n = 0 then none else some (a (n - 1))) → (∀ i, i < n → G7.1 (a i) = some (gO true 5 [va_rf (some (it i)), va_rf (if i + 1 < n then some (a (i + 1)) else none), va_rf (if i = 0 then none else some (a (i - 1)))])) → wp_J4_unlinkLast_42 ad X (fun q7 G6 => K q7 G6) G7 l (some (it n)) := by
    intro G7 f2 f3 t7 l7 e2 e3 c7
    unfold wp_J4_unlinkLast_42
    refine wGetI_of l7 rfl (wPut_sC l7 (ltb rfl) rfl fun G8 t8 => wGetI_of t8.1 rfl (wPut_sC t8.1 (ltb rfl) rfl fun G9 t9 => k G9 ?_ ⟨⟨mc + 1, ?_⟩, fun i hi => ?_, fun i j hi hj e => hinj i j (by omega) (by omega) e⟩))
    · exact (t7.trans (T := LT l (n + 1) a) (t8.to (T := fun b => b = l) l7 rfl) (fun b z => Or.inr z) (fun b z => Or.inr (Or.inl z)) (Nat.le_refl _) (Nat.le_refl _)).trans (t9.to (T := fun b => b = l) t8.1 rfl) (fun b z => Or.inr z) (fun b z => Or.inr (Or.inl z)) (Nat.le_refl _) (Nat.le_refl _)
    · rw [t9.1, nI_pred, e2, e3]; rfl
    · rw [t9.2.1 _ (hne _ (by omega)), t8.2.1 _ (hne _ (by omega)), c7 i hi]
  by_cases e : n = 0
  · subst e
    rw [if_pos rfl]
    refine oN (wPut_sC t6.1 (ltb rfl) rfl fun G7 t7 => fin G7 none none ?_ t7.1 rfl rfl fun i hi => absurd hi (by omega))
    exact to6.trans (T := LT l (0 + 1) a) (t7.to (T := fun b => b = l) t6.1 rfl) (fun b z => Or.inr z) (fun b z => Or.inr (Or.inl z)) (Nat.le_refl _) (Nat.le_refl _)
  · have l6 := t6.1
    rw [if_neg e] at l6 ⊢
    refine oS (wPut_sC (c6 (n - 1) (by omega)) (ltb rfl) rfl fun G7 t7 => fin G7 (some (a 0)) (some (a (n - 1))) ?_ ?_ (by rw [if_neg e]) (by rw [if_neg e]) fun i hi => ?_)
    · exact to6.trans (T := LT l (n + 1) a) (t7.to (T := fun b => b = a (n - 1)) (c6 (n - 1) (by omega)) rfl) (fun b z => Or.inr z) (fun b z => Or.inr (Or.inr ⟨n - 1, by omega, z⟩)) (Nat.le_refl _) (Nat.le_refl _)
    · rw [t7.2.1 _ (Ne.symm (hne _ (by omega)))]; exact l6
    · by_cases p : i = n - 1
      · subst p
        rw [t7.1, if_neg (show ¬ n - 1 + 1 < n by omega)]; rfl
      · rw [t7.2.1 _ (fun z => p (hinj i (n - 1) (by omega) (by omega) z)), c6 i hi, if_pos (show i + 1 < n by omega)]
theorem sp_lclear (h : LL G l n a it) (hn : n < 100) {K : gS → Prop} (k : ∀ G', gTo (LT l n a) 0 0 G G' → LL G' l 0 a it → K G') : gIs G l 4 ∧ wp_J4_clear ad G l X K := by
  have hne := fun i hi => h.ne (i := i) hi
  obtain ⟨⟨mc, hl⟩, hc, hinj⟩ := h
  refine ⟨gIs_of hl, ?_⟩
  unfold wp_J4_clear
  refine wGetQ_of hl (x := if n = 0 then none else some (a 0)) rfl ?_
  have key := gLoop_up (bot := fun _ _ _ => False) (B := wp_J4_clear_5 ad X K) n (fun i (ff : gS → Nat → Option Nat → Prop) => ∀ G', gTo (LT l n a) 0 0 G G' → G'.1 l = G.1 l → (∀ j, i ≤ j → j < n → G'.1 (a j) = G.1 (a j)) → ff G' l (if i < n then some (a i) else none)) ?_ gFuel 0 (by omega) (gFuel_lt (by omega)) G gTo.refl rfl (fun j _ _ => rfl)
  · have e : (if 0 < n then some (a 0) else none) = (if n = 0 then none else some (a 0)) := by
      by_cases p : n = 0
      · rw [if_pos p, if_neg (by omega)]
      · rw [if_neg p, if_pos (by omega)]
    rw [← e]
    exact key
  · intro i ff hi hs G' t hl' hc'
    unfold wp_J4_clear_5
    by_cases e : i < n
    · rw [if_pos e]
      have ci : G'.1 (a i) = _ := (hc' i (Nat.le_refl _) e).trans (hc i e)
      refine oS (wGetQ_of ci (x := if i + 1 < n then some (a (i + 1)) else none) rfl (wPut_sC ci (ltb rfl) rfl fun G3 t3 => wPut_sC t3.1 (ltb rfl) rfl fun G4 t4 => wPut_sC t4.1 (ltb rfl) rfl fun G5 t5 => ?_))
      have t35 := (t3.trans t4).trans t5
      refine hs e G5 ?_ ?_ fun j hj hjn => ?_
      · exact t.trans (T := LT l n a) (t35.to (T := fun b => b = a i) ci rfl) (fun b z => Or.inr z) (fun b z => Or.inr (Or.inr ⟨i, e, z⟩)) (Nat.le_refl _) (Nat.le_refl _)
      · rw [t35.2.1 _ (Ne.symm (hne i e))]; exact hl'
      · rw [t35.2.1 _ (fun z => by have := hinj _ _ hjn e z; omega)]; exact hc' j (by omega) hjn
    · rw [if_neg e]
      have l0 : G'.1 l = _ := hl'.trans hl
      refine oN ?_
      unfold wp_J4_clear_34
      refine wPut_sC l0 (ltb rfl) rfl fun G1 t1 => wPut_sC t1.1 (ltb rfl) rfl fun G2 t2 => wPut_sC t2.1 (ltb rfl) rfl fun G3 t3 => wGetI_of t3.1 rfl (wPut_sC t3.1 (ltb rfl) rfl fun G4 t4 => k G4 ?_ ⟨⟨mc + 1, ?_⟩, fun i hi => absurd hi (by omega), fun i j hi => absurd hi (by omega)⟩)
      · exact t.trans (T := LT l n a) ((((t1.trans t2).trans t3).trans t4).to (T := fun b => b = l) l0 rfl) (fun b z => Or.inr z) (fun b z => Or.inr (Or.inl z)) (Nat.le_refl _) (Nat.le_refl _)
      · rw [t4.1]; rfl
end LK
