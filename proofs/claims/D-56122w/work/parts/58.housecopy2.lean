/-! PURE: a household is copied -/
set_option maxRecDepth 20000
section CQ
variable {ad : Nat → Nat} {G0 G : gS} {u h : Nat} {A As : hA} {f : Nat → Int32} {X : Nat → gS → Prop}
/-- the copy while it grows: so many brooms, goblins, contracts are there -/
def pFI (f : pF) (b g c : Nat) : pF := fun j => if j < 8 ∨ j = 10 then pInit j else if j = 8 then nI b else if j = 9 then nI g else if j = 11 then nI c else f j
theorem pFI_8 {b g c : Nat} : pFI f b g c 8 = nI b := rfl
theorem pFI_9 {b g c : Nat} : pFI f b g c 9 = nI g := rfl
theorem pFI_11 {b g c : Nat} : pFI f b g c 11 = nI c := rfl
theorem pFI_hi {b g c j : Nat} (h : 12 ≤ j) : pFI f b g c j = f j := by
  simp only [pFI]
  rw [if_neg (by omega), if_neg (by omega), if_neg (by omega), if_neg (by omega)]
theorem pFI_lo {b g c j : Nat} (h : j < 8 ∨ j = 10) : pFI f b g c j = pInit j := by
  simp only [pFI]
  rw [if_pos h]
theorem pFI_n {b g c : Nat} (hb : b ≤ 4) (hg : g ≤ 5) (hc : c ≤ 8) : nB (pFI f b g c) = b ∧ nG (pFI f b g c) = g ∧ nC (pFI f b g c) = c := ⟨pN_nI pFI_8 (by omega), pN_nI pFI_9 (by omega), pN_nI pFI_11 (by omega)⟩
/-- the source stays -/
theorem HC.src (hc : HC ad G0 u G h A f) {t : Nat} {f' : Nat → Int32} (hs : hRep ad G0 t As f') : hRep ad G t As f' := hs.to fun b c hb _ => hc.old hb
theorem sp_copyB {lb : Nat} {F : pF} (hs : hRep ad G0 lb As f) {l : Nat} (hl : l = hLb As) (hc : HC ad G0 u G h A (pFI f 0 0 0)) (hR : rm G0 (u + 20)) {K : gS → Prop} (k : ∀ G' A', HC ad G0 (u + 8) G' h A' (pFI f (nB f) 0 0) → K G') : wp_X1_copyAll ad G (some l) (some (hLb A)) X K := by
  subst hl
  have hw := hs.w
  have hb4 := hw.1.2
  unfold wp_X1_copyAll
  refine gLoop_up (nB f) (fun n (ff : gS → Option Nat → Option Nat → Int32 → Prop) => ∀ G A' u', HC ad G0 u' G h A' (pFI f n 0 0) → u' ≤ u + 2 * n → hLb A' = hLb A → ff G (some (hLb As)) (some (hLb A)) (nI n)) ?_ gFuel 0 (by omega) (gFuel_lt (by omega)) G A u hc (by omega) rfl
  intro n ff hn hloop G A' u' hc hu hA
  have hsG := hc.src hs
  obtain ⟨n8, n9, n11⟩ := pFI_n (f := f) (b := n) (g := 0) (c := 0) (by omega) (by omega) (by omega)
  unfold wp_X1_copyAll_2
  refine wNN_of (hsG.2.2.2.1.1.size ?_)
  by_cases e : n = nB f
  · subst e
    exact brT (Int32.le_refl _) (k G A' (hc.mono (by omega)))
  · have hloop := hloop (by omega)
    obtain ⟨cell, hst⟩ := hsG.2.2.2.2.1 n (by omega)
    refine brF (nI_ge (by omega) (by omega)) (hsG.2.2.2.1.1.get rfl (j := n) (by omega) (wCast_of (gIs_of cell) (by decide) (wNN_of (Or.inl ⟨gIs_of cell, ?_⟩))))
    unfold wp_X9_copy wp_X9_copy_2 wp_X9_init
    have hro := hc.rm' (v := 3) (hR.le (by omega))
    refine ⟨gIs_of cell, wNew_nC (by omega) (by omega) fun c4 G1 s1 => wGetI_of (s1.old cell) rfl (wPut_sC s1.2.1 (ltb rfl) rfl fun G2 t2 => wPut_sC t2.1 (ltb rfl) rfl fun G3 t3 => ?_)⟩
    have cell3 : G3.1 (hBa As n) = some (gO true 8 (hBf ad f n)) := by
      rw [t3.2.1 _ (s1.ne cell), t2.2.1 _ (s1.ne cell)]; exact s1.old cell
    refine wGetQ_of cell3 (x := some (if f (19 + 2 * n) = 1 then ad 1 else ad 0)) rfl (wPut_sC t3.1 (ltb rfl) rfl fun G9 t9 => wNN_of ?_)
    have s9 := ((s1.set t2).set t3).set t9
    obtain ⟨hc9, q0⟩ := hc.new s9 (by omega)
    have hro9 := hc9.rm' (v := 3) (hR.le (by omega))
    rw [← hA]
    have hel := hc9.1.2.2.2.1.1
    rw [n8] at hel
    refine hel.add (q := c4) (by omega) (fun k hk ee => ?_) (gIsO_of s9.2.1) (by omega) (by omega) fun G11 e' C' t el hC he => ?_
    · have := (hc.1.2.2.2.2.1 k (by rw [n8]; exact hk)).1
      rw [ee, s9.1] at this; cases this
    · obtain ⟨hc11, hN⟩ := hAddB (f' := pFI f (n + 1) 0 0) hc9 q0 (by
        rw [s9.2.1, n8]
        have e0 : hBf ad (pFI f (n + 1) 0 0) n = hBf ad f n := by rw [hBf, hBf, pFI_hi (by omega), pFI_hi (by omega)]
        rw [e0]; rfl) (by rw [n8]; omega) (fun j hj => by
          by_cases q : j < 8 ∨ j = 10
          · rw [pFI_lo q, pFI_lo q]
          · simp only [pFI]
            rw [if_neg q, if_neg q, if_neg hj.1, if_neg hj.1]) (by rw [pFI_8, pFI_8, nI_succ]) (by rw [n8, pFI_hi (by omega)]; exact hst) t (by rw [n8]; exact el) hC he
      rw [hA, ← nI_succ]
      exact hloop G11 _ _ hc11 (by omega) hA
theorem sp_copyG {lb : Nat} (hs : hRep ad G0 lb As f) {l : Nat} (hl : l = hLg As) (hc : HC ad G0 u G h A (pFI f (nB f) 0 0)) (hR : rm G0 (u + 20)) {K : gS → Prop} (k : ∀ G' A', HC ad G0 (u + 10) G' h A' (pFI f (nB f) (nG f) 0) → K G') : wp_X1_copyAll ad G (some l) (some (hLg A)) X K := by
  subst hl
  have hw := hs.w
  have hb4 := hw.1.2
  have hg5 := hw.2.1.2
  unfold wp_X1_copyAll
  refine gLoop_up (nG f) (fun n (ff : gS → Option Nat → Option Nat → Int32 → Prop) => ∀ G A' u', HC ad G0 u' G h A' (pFI f (nB f) n 0) → u' ≤ u + 2 * n → hLg A' = hLg A → ff G (some (hLg As)) (some (hLg A)) (nI n)) ?_ gFuel 0 (by omega) (gFuel_lt (by omega)) G A u hc (by omega) rfl
  intro n ff hn hloop G A' u' hc hu hA
  have hsG := hc.src hs
  obtain ⟨n8, n9, n11⟩ := pFI_n (f := f) (b := nB f) (g := n) (c := 0) (by omega) (by omega) (by omega)
  unfold wp_X1_copyAll_2
  refine wNN_of (hsG.2.2.2.1.2.1.size ?_)
  by_cases e : n = nG f
  · subst e
    exact brT (Int32.le_refl _) (k G A' (hc.mono (by omega)))
  · have hloop := hloop (by omega)
    obtain ⟨cell, hst⟩ := hsG.2.2.2.2.2.1 n (by omega)
    refine brF (nI_ge (by omega) (by omega)) (hsG.2.2.2.1.2.1.get rfl (j := n) (by omega) (wCast_of (gIs_of cell) (by decide) (wNN_of (Or.inr ⟨gIs_of cell, ?_⟩))))
    unfold wp_X8_copy wp_X8_copy_2 wp_X6_index wp_X8_init wp_X7_init wp_X6_init wp_X7_takeOver
    have hro := hc.rm' (v := 3) (hR.le (by omega))
    have hns : f (30 + 5 * n) = 0 ∨ f (30 + 5 * n) = 1 := hst
    refine ⟨gIs_of cell, wNew_nC (by omega) (by omega) fun c4 G1 s1 => ⟨gIs_of (s1.old cell), wGetI_of (s1.old cell) rfl (wGetI_of (s1.old cell) rfl (wPut_sC s1.2.1 (ltb rfl) rfl fun G2 t2 => wPut_sC t2.1 (ltb rfl) rfl fun G3 t3 => ⟨gIs_of t3.1, wNN_of ?_⟩))⟩⟩
    have cell3 : G3.1 (hGa As n) = some (gO true 9 (hGf f n)) := by
      rw [t3.2.1 _ (s1.ne cell), t2.2.1 _ (s1.ne cell)]; exact s1.old cell
    refine wGetI_of cell3 rfl (wPut_sC t3.1 (ltb rfl) rfl fun G4 t4 => ?_)
    have cell4 : G4.1 (hGa As n) = some (gO true 9 (hGf f n)) := by rw [t4.2.1 _ (s1.ne cell)]; exact cell3
    refine wGetI_of cell4 rfl (wPut_sC t4.1 (ltb rfl) rfl fun G5 t5 => ?_)
    have cell5 : G5.1 (hGa As n) = some (gO true 9 (hGf f n)) := by rw [t5.2.1 _ (s1.ne cell)]; exact cell4
    refine wGetI_of cell5 (x := f (30 + 5 * n)) rfl ⟨by rcases hns with z | z <;> rw [z] <;> exact ⟨rfl, rfl⟩, wPut_sC t5.1 (ltb rfl) rfl fun G6 t6 => ?_⟩
    have cell6 : G6.1 (hGa As n) = some (gO true 9 (hGf f n)) := by rw [t6.2.1 _ (s1.ne cell)]; exact cell5
    refine wGetI_of cell6 rfl (wPut_sC t6.1 (ltb rfl) rfl fun G9 t9 => wNN_of ?_)
    have s9 := (((((s1.set t2).set t3).set t4).set t5).set t6).set t9
    obtain ⟨hc9, q0⟩ := hc.new s9 (by omega)
    have hro9 := hc9.rm' (v := 3) (hR.le (by omega))
    rw [← hA]
    have hel := hc9.1.2.2.2.1.2.1
    rw [n9] at hel
    refine hel.add (q := c4) (by omega) (fun k hk ee => ?_) (gIsO_of s9.2.1) (by omega) (by omega) fun G11 e' C' t el hC he => ?_
    · have := (hc.1.2.2.2.2.2.1 k (by rw [n9]; exact hk)).1
      rw [ee, s9.1] at this; cases this
    · obtain ⟨hc11, hN⟩ := hAddG (f' := pFI f (nB f) (n + 1) 0) hc9 q0 (by
        rw [s9.2.1, n9]
        have e0 : hGf (pFI f (nB f) (n + 1) 0) n = hGf f n := by rw [hGf, hGf, pFI_hi (by omega), pFI_hi (by omega), pFI_hi (by omega), pFI_hi (by omega), pFI_hi (by omega)]
        rw [e0]; rfl) (by rw [n9]; omega) (fun j hj => by
          by_cases q : j < 8 ∨ j = 10
          · rw [pFI_lo q, pFI_lo q]
          · simp only [pFI]
            rw [if_neg q, if_neg q, if_neg hj.1, if_neg hj.1]) (by rw [pFI_9, pFI_9, nI_succ]) (by rw [n9, pFI_hi (by omega)]; exact hst) t (by rw [n9]; exact el) hC he
      rw [hA, ← nI_succ]
      exact hloop G11 _ _ hc11 (by omega) hA
theorem sp_X2_copy {t0 : Nat} (hs : hRep ad G t0 As f) (hb2 : gB4 ad G) (hR : rm G 60) {K : Option Nat → gS → Prop} (k : ∀ G' h A, HC ad G 40 G' h A f → K (some h) G') : wp_X2_copy ad G t0 X K := by
  have hw := hs.w
  have hb4 := hw.1.2
  have hg5 := hw.2.1.2
  have hc8 := hw.2.2.2
  have hR' : 60 ≤ G.2.1 ∧ 600 ≤ G.2.2 := hR
  unfold wp_X2_copy
  refine wNew_nC (by omega) (by omega) fun h G1 s1 => ?_
  obtain ⟨-, -, wz, gz, h2⟩ := hb2
  have e1 : G1.2.1 = G.2.1 - 1 := by rw [s1.2.2.2.2.2]
  have e2 : G1.2.2 = G.2.2 - 13 := by rw [s1.2.2.2.2.2]
  refine sp_X2_init s1.2.1 (s1.old h2) (by omega) (by omega) fun G3 A hr3 ho3 t3 => ?_
  have t13 : gTo (fun _ => False) 5 50 G G3 := s1.to.trans (T := fun _ => False) (T1 := fun _ => False) t3 (fun b q => Or.inr q) (fun b q => Or.inl (by rw [q]; exact s1.1)) (by omega) (by omega)
  have hc3 : HC ad G 5 G3 h A pInit := by
    refine ⟨hr3, fun b hb => ?_, t13⟩
    rcases ho3 b hb with z | z
    · rw [z]; exact s1.1
    · by_cases q : b = h
      · rw [q]; exact s1.1
      · rw [← s1.2.2.1 b q]; exact z
  have hsG3 := hc3.src hs
  obtain ⟨g, hd1, hd2⟩ := hsG3.2.1
  obtain ⟨gn, hn1, hn2⟩ := hc3.1.2.1
  refine hGetD hsG3 (hGetD hc3.1 (wNN_of (wNN_of ⟨true, 6, 6, g, gn, hd1, hn1, by decide, by decide, by decide, by decide, by decide, ?_⟩)))
  have hc8' : HC ad G 5 (gSet G3 (hD A) (gAi true 6 (va_cpy g gn (0 : Int32).toNatClampNeg (0 : Int32).toNatClampNeg (6 : Int32).toNatClampNeg))) h A (pFI f 0 0 0) := by
    have a := hc3.dustAll (f' := fun j => if 12 ≤ j ∧ j < 18 then f j else pInit j) sC_set (fun j hj => by
      show va_cpy g gn 0 0 6 j = _
      simp only [va_cpy]
      rw [if_pos (by omega), if_pos (by omega), ← hd2 j hj]
      congr 1
      omega) (fun i hi => by rw [if_neg (by omega)])
    obtain ⟨n8, n9, n11⟩ := pFI_n (f := f) (b := 0) (g := 0) (c := 0) (by omega) (by omega) (by omega)
    refine a.congr rfl rfl rfl (a.1.congr rfl rfl rfl (fun j hj => ?_) (fun j h1 h2 => ?_) (fun j h1 h2 => ?_) (fun j h1 h2 => ?_))
    · by_cases q : 12 ≤ j
      · rw [pFI_hi q, if_pos (by omega)]
      · rw [if_neg (by omega)]
        by_cases q2 : j < 8 ∨ j = 10
        · rw [pFI_lo q2]
        · simp only [pFI]
          rw [if_neg q2]
          have : j = 8 ∨ j = 9 ∨ j = 11 := by omega
          rcases this with rfl | rfl | rfl <;> rfl
    · have z : nB (fun j => if 12 ≤ j ∧ j < 18 then f j else pInit j) = 0 := rfl
      omega
    · have z : nG (fun j => if 12 ≤ j ∧ j < 18 then f j else pInit j) = 0 := rfl
      omega
    · have z : nC (fun j => if 12 ≤ j ∧ j < 18 then f j else pInit j) = 0 := rfl
      omega
  generalize gSet G3 (hD A) (gAi true 6 (va_cpy g gn (0 : Int32).toNatClampNeg (0 : Int32).toNatClampNeg (6 : Int32).toNatClampNeg)) = G8 at *
  refine hGetB (hc8'.src hs) (hGetB hc8'.1 (sp_copyB (F := f) hs rfl hc8' (hR.le (by omega)) fun G11 A11 hc11 => hGetG (hc11.src hs) (hGetG hc11.1 (sp_copyG hs rfl hc11 (hR.le (by omega)) fun G14 A14 hc14 => ?_))))
  -- contracts
  refine gLoop_up (nC f) (fun n (ff : gS → Nat → Nat → Int32 → Prop) => ∀ G' A' u', HC ad G u' G' h A' (pFI f (nB f) (nG f) n) → u' ≤ 23 + 2 * n → (∀ k, k < n → hCa A' k = hCa As k) → ff G' t0 h (nI n)) ?_ gFuel 0 (by omega) (gFuel_lt (by omega)) G14 A14 23 hc14 (by omega) (fun k hk => absurd hk (by omega))
  intro n ff hn hloop G' A' u' hc hu hcs
  have hsG := hc.src hs
  obtain ⟨n8, n9, n11⟩ := pFI_n (f := f) (b := nB f) (g := nG f) (c := n) (by omega) (by omega) (by omega)
  unfold wp_X2_copy_47
  refine hSizeC hsG ?_
  by_cases e : n = nC f
  · subst e
    refine brT (Int32.le_refl _) ?_
    unfold wp_X2_copy_89
    -- the numbers one by one
    have go : ∀ (k : Nat) (hk : k ∈ hIn) (F : pF) (G1 : gS) (K1 : gS → Prop), HC ad G u' G1 h A' F → (∀ G2, HC ad G u' G2 h A' (upd F (hMap k) (f (hMap k))) → K1 G2) → wGetI G1 t0 2 k fun i => wPut G1 h 2 k (.int i) K1 := fun k hk F G1 K1 hc1 kk => hGetI (hc1.src hs) hk (hPut hc1 hk kk)
    refine go 4 (by decide) _ _ _ hc fun G1 hc => go 5 (by decide) _ _ _ hc fun G1 hc => go 6 (by decide) _ _ _ hc fun G1 hc => go 7 (by decide) _ _ _ hc fun G1 hc => go 8 (by decide) _ _ _ hc fun G1 hc => go 9 (by decide) _ _ _ hc fun G1 hc => go 10 (by decide) _ _ _ hc fun G1 hc => go 11 (by decide) _ _ _ hc fun G1 hc => go 12 (by decide) _ _ _ hc fun G1 hc => ?_
    have e : upd (upd (upd (upd (upd (upd (upd (upd (upd (pFI f (nB f) (nG f) (nC f)) (hMap 4) (f (hMap 4))) (hMap 5) (f (hMap 5))) (hMap 6) (f (hMap 6))) (hMap 7) (f (hMap 7))) (hMap 8) (f (hMap 8))) (hMap 9) (f (hMap 9))) (hMap 10) (f (hMap 10))) (hMap 11) (f (hMap 11))) (hMap 12) (f (hMap 12)) = f := by
      show upd (upd (upd (upd (upd (upd (upd (upd (upd (pFI f (nB f) (nG f) (nC f)) 10 (f 10)) 1 (f 1)) 0 (f 0)) 2 (f 2)) 3 (f 3)) 4 (f 4)) 5 (f 5)) 6 (f 6)) 7 (f 7) = f
      funext j
      simp only [upd]
      by_cases q : 12 ≤ j
      · rw [if_neg (by omega), if_neg (by omega), if_neg (by omega), if_neg (by omega), if_neg (by omega), if_neg (by omega), if_neg (by omega), if_neg (by omega), if_neg (by omega), pFI_hi q]
      · match j, q with
        | 0, _ => rfl
        | 1, _ => rfl
        | 2, _ => rfl
        | 3, _ => rfl
        | 4, _ => rfl
        | 5, _ => rfl
        | 6, _ => rfl
        | 7, _ => rfl
        | 8, _ => exact hw.1.1.symm
        | 9, _ => exact hw.2.1.1.symm
        | 10, _ => rfl
        | 11, _ => exact hw.2.2.1.symm
        | j + 12, q => omega
    rw [e] at hc
    exact k G1 h A' (hc.mono (by omega))
  · have hloop := hloop (by omega)
    have cell := hsG.2.2.2.2.2.2.1 n (by omega)
    have hro := hc.rm' (v := 3) (hR.le (by omega))
    have hel := hc.1.2.2.2.1.2.2
    rw [n11] at hel
    refine brF (nI_ge (by omega) (by omega)) (hGetC hc.1 (hGetC hsG (wNN_of (hsG.2.2.2.1.2.2.get rfl (j := n) (by omega) (wCast_of (gIs_of cell) (by decide) (wNN_of ?_))))))
    refine hel.add (q := hCa As n) (by omega) (fun k hk ee => ?_) (gIsO_of cell) (by omega) (by omega) fun G11 e' C' t el hC he => ?_
    · rw [hcs k hk] at ee
      have := hsG.2.2.2.1.2.2.2.2 k n (by omega) (by omega) ee
      omega
    · obtain ⟨hc11, hN⟩ := hAddC (f' := pFI f (nB f) (nG f) (n + 1)) hc (by
        rw [n11]
        have e0 : hCf (pFI f (nB f) (nG f) (n + 1)) n = hCf f n := by rw [hCf, hCf, pFI_hi (by omega), pFI_hi (by omega), pFI_hi (by omega), pFI_hi (by omega), pFI_hi (by omega)]
        rw [e0]; exact cell) (by rw [n11]; omega) (fun j hj => by
          by_cases q : j < 8 ∨ j = 10
          · rw [pFI_lo q, pFI_lo q]
          · simp only [pFI]
            rw [if_neg q, if_neg q, if_neg hj.1, if_neg hj.1]) (by rw [pFI_11, pFI_11, nI_succ]) t (by rw [n11]; exact el) hC he
      rw [← nI_succ]
      refine hloop G11 _ _ hc11 (by omega) fun k hk => ?_
      show (if k = nC (pFI f (nB f) (nG f) n) then hCa As n else hCa A' k) = hCa As k
      rw [n11]
      by_cases q : k = n
      · rw [if_pos q, q]
      · rw [if_neg q]; exact hcs k (by omega)
end CQ
