/-! PURE: the object itself (printed by gen/api.py) -/
set_option maxRecDepth 20000
def hCl2 (c : gC) : Prop := (∃ w f, c = gAi w 6 f) ∨ (∃ w n f, c = gAq w n f) ∨ (∃ w ci fs, c = gO w ci fs ∧ (ci = 2 ∨ ci = 3 ∨ ci = 8 ∨ ci = 9 ∨ ci = 10))
theorem hRep.to2 {ad : Nat → Nat} {G G' : gS} {h : Nat} {A : hA} {f : Nat → Int32} (hr : hRep ad G h A f) (hf : ∀ b c, G.1 b = some c → hCl2 c → G'.1 b = some c) : hRep ad G' h A f := by
  obtain ⟨h1, ⟨g, h2, h2'⟩, h3, ⟨h4, h5, h6⟩, h7, h8, h9, h10, h11⟩ := hr
  have el : ∀ {l e n K : Nat} {a : Nat → Nat}, EL ad G l e n K a → EL ad G' l e n K a := fun hh => by
    obtain ⟨⟨fs, e1⟩, wa, n, f, e2⟩ := hh.cells
    exact hh.to (by rw [e1]; exact hf _ _ e1 (Or.inr (Or.inr ⟨_, _, _, rfl, by omega⟩))) (by rw [e2]; exact hf _ _ e2 (Or.inr (Or.inl ⟨_, _, _, rfl⟩)))
  exact ⟨hf _ _ h1 (Or.inr (Or.inr ⟨_, _, _, rfl, by omega⟩)), ⟨g, hf _ _ h2 (Or.inl ⟨_, _, rfl⟩), h2'⟩, h3, ⟨el h4, el h5, el h6⟩, fun k hk => ⟨hf _ _ (h7 k hk).1 (Or.inr (Or.inr ⟨_, _, _, rfl, by omega⟩)), (h7 k hk).2⟩, fun k hk => ⟨hf _ _ (h8 k hk).1 (Or.inr (Or.inr ⟨_, _, _, rfl, by omega⟩)), (h8 k hk).2⟩, fun k hk => hf _ _ (h9 k hk) (Or.inr (Or.inr ⟨_, _, _, rfl, by omega⟩)), h10, h11⟩
/-- what the component is made of -/
def cCl (c : gC) : Prop := (∃ w n f, c = gAq w n f) ∨ (∃ w g, c = gAi w 6 g) ∨ (∃ w n g, c = gAb w n g) ∨ (∃ w ci fs, c = gO w ci fs ∧ ci ≠ 0)
theorem hCl2.c {c : gC} (h : hCl2 c) : cCl c := by
  rcases h with ⟨w, f, e⟩ | ⟨w, n, f, e⟩ | ⟨w, ci, fs, e, q⟩
  · exact Or.inr (Or.inl ⟨w, f, e⟩)
  · exact Or.inl ⟨w, n, f, e⟩
  · exact Or.inr (Or.inr (Or.inr ⟨w, ci, fs, e, by omega⟩))
def sV (G : gS) (s : Nat) (l : List Int32) (v : Nat) : Prop := ∃ (w : Bool) (hh z : Value) (w2 : Bool) (g : Nat → Int32), G.1 s = some (gO w 7 [va_rf (some v), .int 0, hh, z]) ∧ G.1 v = some (gAb w2 l.length g) ∧ (∀ j, j < l.length → g j = l.getD j 0) ∧ l.length ≤ 400
theorem sR.v {G : gS} {s : Nat} {l : List Int32} (h : sR G s l) : ∃ v, sV G s l v := by
  obtain ⟨w, v, hh, z, w2, g, h1, h2, h3, h4⟩ := h
  exact ⟨v, w, hh, z, w2, g, h1, h2, h3, h4⟩
theorem sV.s {G : gS} {s v : Nat} {l : List Int32} (h : sV G s l v) : sR G s l := by
  obtain ⟨w, hh, z, w2, g, h1, h2, h3, h4⟩ := h
  exact ⟨w, v, hh, z, w2, g, h1, h2, h3, h4⟩
def hH (ad : Nat → Nat) (G : gS) (h : Nat) (f : pF) (c : Nat) : Prop := (∃ A, hRep ad G h A f) ∧ hI f c
def cS (ad : Nat → Nat) (G : gS) (c : Nat) (o : Option pF) (sn : Option Nat) : Prop := (o = none → sn = none) ∧ ∀ f, o = some f → ∃ s, sn = some s ∧ hH ad G s f c
def cL (ad : Nat → Nat) (G : gS) (c : Nat) (P : pA) (l : Nat) : Prop := ∃ a it, LL G l (aN P) a it ∧ aN P ≤ 8 ∧ ∀ i, i < aN P → hH ad G (it i) (aH P i) c
/-- a builder at b of signs l, its array v of cap places -/
def sbV (G : gS) (b : Nat) (l : List Int32) (v cap : Nat) : Prop := ∃ (g : Nat → Int32) (x2 : Int32), G.1 b = some (gO true 6 [va_rf (some v), .int 0, .int x2, .int (nI l.length)]) ∧ G.1 v = some (gAb true cap g) ∧ (l.length ≤ cap ∧ cap ≤ 1000) ∧ (∀ j, j < l.length → g j = l.getD j 0) ∧ ∀ j, j < cap → ∃ m, m < 128 ∧ g j = nI m
def tOk (tl ol : List Int32) : Prop := (∀ c, c ∈ tl → ∃ m, 32 ≤ m ∧ m ≤ 126 ∧ c = nI m) ∧ ∀ c, c ∈ ol → ∃ m, m < 128 ∧ c = nI m
def cB (G : gS) (tl ol : List Int32) (sb os : Nat) : Prop := ∃ (v cap ov : Nat), sbV G sb tl v cap ∧ sV G os ol ov ∧ ov ≠ v ∧ tOk tl ol
/-- the object t stands for P -/
def CI (ad : Nat → Nat) (G : gS) (t c : Nat) (P : pA) : Prop := ∃ (h : Nat) (sn : Option Nat) (l sb os : Nat), G.1 t = some (gO true 1 [va_rf (some h), va_rf sn, va_rf (some l), va_rf (some sb), .int (aE P), .int (aX P), va_rf (some os)]) ∧ hH ad G h (aF P) c ∧ cS ad G c (aS P) sn ∧ cL ad G c P l ∧ cB G (aT P) (aO P) sb os
/-- what a change may change -/
def tK (G : gS) (b : Nat) : Prop := ∃ ci fs, G.1 b = some (gO true ci fs) ∧ (ci = 1 ∨ ci = 4 ∨ ci = 5)
section CO
variable {ad : Nat → Nat} {G G' : gS} {t c h s l sb os n : Nat} {P : pA} {f : pF} {a it : Nat → Nat} {tl ol : List Int32}
theorem hH.to (hh : hH ad G h f c) (t : ∀ b c, G.1 b = some c → hCl2 c → G'.1 b = some c) : hH ad G' h f c := by
  obtain ⟨⟨A, h1⟩, h2⟩ := hh
  exact ⟨⟨A, h1.to2 t⟩, h2⟩
theorem hH.mono (hh : hH ad G h f c) {c' : Nat} (hc : c ≤ c') (h1 : c' ≤ 1000) : hH ad G h f c' := ⟨hh.1, hh.2.mono hc h1⟩
theorem hH.is (hh : hH ad G h f c) : gIs G h 2 := by
  obtain ⟨⟨A, h1⟩, h2⟩ := hh
  exact h1.is
theorem cS.to {o : Option pF} {sn : Option Nat} (hh : cS ad G c o sn) (t : ∀ b c, G.1 b = some c → hCl2 c → G'.1 b = some c) : cS ad G' c o sn := ⟨hh.1, fun f hf => by
  obtain ⟨s, h1, h2⟩ := hh.2 f hf
  exact ⟨s, h1, h2.to t⟩⟩
theorem cS.mono {o : Option pF} {sn : Option Nat} (hh : cS ad G c o sn) {c' : Nat} (hc : c ≤ c') (h1 : c' ≤ 1000) : cS ad G c' o sn := ⟨hh.1, fun f hf => by
  obtain ⟨s, h3, h2⟩ := hh.2 f hf
  exact ⟨s, h3, h2.mono hc h1⟩⟩
theorem LL.cell (h : LL G l n a it) {b : Nat} (hb : LT l n a b) : ∃ ci fs, G.1 b = some (gO true ci fs) ∧ (ci = 4 ∨ ci = 5) := by
  obtain ⟨⟨mc, h1⟩, h2, h3⟩ := h
  rcases hb with rfl | ⟨i, hi, rfl⟩
  · exact ⟨_, _, h1, Or.inl rfl⟩
  · exact ⟨_, _, h2 i hi, Or.inr rfl⟩
theorem cL.to (hh : cL ad G c P l) (t : ∀ b c, G.1 b = some c → cCl c → G'.1 b = some c) : cL ad G' c P l := by
  obtain ⟨a, it, h1, h2, h3⟩ := hh
  refine ⟨a, it, h1.to fun b c hb hc => ?_, h2, fun i hi => (h3 i hi).to fun b c hb hc => t b c hb hc.c⟩
  obtain ⟨ci, fs, e, q⟩ := h1.cell hb
  rw [e] at hc
  cases hc
  exact t b _ e (Or.inr (Or.inr (Or.inr ⟨_, _, _, rfl, by omega⟩)))
theorem cL.mono (hh : cL ad G c P l) {c' : Nat} (hc : c ≤ c') (h1 : c' ≤ 1000) : cL ad G c' P l := by
  obtain ⟨a, it, h1', h2, h3⟩ := hh
  exact ⟨a, it, h1', h2, fun i hi => (h3 i hi).mono hc h1⟩
theorem sV.to {v : Nat} (h : sV G s ol v) (t : ∀ b c, G.1 b = some c → b = s ∨ b = v → G'.1 b = some c) : sV G' s ol v := by
  obtain ⟨w, hh, z, w2, g, h1, h2, h3, h4⟩ := h
  exact ⟨w, hh, z, w2, g, t _ _ h1 (Or.inl rfl), t _ _ h2 (Or.inr rfl), h3, h4⟩
theorem sV.cell {v b : Nat} (h : sV G s ol v) (hb : b = s ∨ b = v) : (∃ w fs, G.1 b = some (gO w 7 fs)) ∨ ∃ w n g, G.1 b = some (gAb w n g) := by
  obtain ⟨w, hh, z, w2, g, h1, h2, h3, h4⟩ := h
  rcases hb with rfl | rfl
  · exact Or.inl ⟨_, _, h1⟩
  · exact Or.inr ⟨_, _, _, h2⟩
theorem sbV.to {b v cap : Nat} {l : List Int32} (h : sbV G b l v cap) (t : ∀ x c, G.1 x = some c → x = b ∨ x = v → G'.1 x = some c) : sbV G' b l v cap := by
  obtain ⟨g, x2, h1, h2, h3⟩ := h
  exact ⟨g, x2, t _ _ h1 (Or.inl rfl), t _ _ h2 (Or.inr rfl), h3⟩
theorem cB.to (hh : cB G tl ol sb os) (t : ∀ b c, G.1 b = some c → ((∃ w n g, c = gAb w n g) ∨ ∃ w ci fs, c = gO w ci fs ∧ (ci = 6 ∨ ci = 7)) → G'.1 b = some c) : cB G' tl ol sb os := by
  obtain ⟨v, cap, ov, h1, h6, h7⟩ := hh
  refine ⟨v, cap, ov, h1.to fun b c hb hq => ?_, h6.to fun b c hb hq => ?_, h7⟩
  · obtain ⟨g, x2, e1, e2, -⟩ := h1
    rcases hq with q | q
    · subst q
      rw [e1] at hb
      cases hb
      exact t _ _ e1 (Or.inr ⟨_, _, _, rfl, Or.inl rfl⟩)
    · subst q
      rw [e2] at hb
      cases hb
      exact t _ _ e2 (Or.inl ⟨_, _, _, rfl⟩)
  · rcases h6.cell hq with ⟨w, fs, e⟩ | ⟨w, n, g, e⟩
    · rw [e] at hb
      cases hb
      exact t _ _ e (Or.inr ⟨_, _, _, rfl, Or.inr rfl⟩)
    · rw [e] at hb
      cases hb
      exact t _ _ e (Or.inl ⟨_, _, _, rfl⟩)
theorem CI.to (hh : CI ad G t c P) (k : ∀ b c, G.1 b = some c → cCl c → G'.1 b = some c) : CI ad G' t c P := by
  obtain ⟨h, sn, l, sb, os, h1, h2, h3, h4, h5⟩ := hh
  refine ⟨h, sn, l, sb, os, k _ _ h1 (Or.inr (Or.inr (Or.inr ⟨_, _, _, rfl, by omega⟩))), h2.to fun b c hb hc => k b c hb hc.c, h3.to fun b c hb hc => k b c hb hc.c, h4.to k, h5.to fun b c hb hc => k b c hb ?_⟩
  rcases hc with ⟨w, n, g, e⟩ | ⟨w, ci, fs, e, q⟩
  · exact Or.inr (Or.inr (Or.inl ⟨w, n, g, e⟩))
  · exact Or.inr (Or.inr (Or.inr ⟨w, ci, fs, e, by omega⟩))
theorem CI.mono (hh : CI ad G t c P) {c' : Nat} (hc : c ≤ c') (h1 : c' ≤ 1000) : CI ad G t c' P := by
  obtain ⟨h, sn, l, sb, os, h1', h2, h3, h4, h5⟩ := hh
  exact ⟨h, sn, l, sb, os, h1', h2.mono hc h1, h3.mono hc h1, h4.mono hc h1, h5⟩
theorem CI.is (hh : CI ad G t c P) : gIs G t 1 := by
  obtain ⟨h, sn, l, sb, os, h1', -⟩ := hh
  exact gIs_of h1'
theorem CI.gto (hh : CI ad G t c P) {n m : Nat} {T : Nat → Prop} (k : gTo T n m G G') (hT : ∀ b, T b → False) : CI ad G' t c P := hh.to fun b c hb _ => k.1 b c hb fun q => hT b q
theorem CI.mf (hh : CI ad G t c P) (k : mF G G') : CI ad G' t c P := hh.to fun b c hb hc => k.1 b c hb fun q => by
  rcases q with ⟨fs, e⟩ | ⟨n, g, e, hn⟩
  · subst e
    rcases hc with ⟨_, _, _, e⟩ | ⟨_, _, e⟩ | ⟨_, _, _, e⟩ | ⟨w, ci, fs, e, q⟩
    · cases e
    · cases e
    · cases e
    · cases e; exact q rfl
  · subst e
    rcases hc with ⟨_, _, _, e⟩ | ⟨_, _, e⟩ | ⟨_, _, _, e⟩ | ⟨w, ci, fs, e, q⟩
    · cases e
    · injection e with _ e
      injection e with e
      injection e with _ e
      injection e with e
      omega
    · cases e
    · cases e
end CO
section CM
variable {ad : Nat → Nat} {G G' : gS} {t c h s l sb os n : Nat} {P : pA} {f : pF} {a it : Nat → Nat} {X : Nat → gS → Prop}
theorem sp_commit20 {x : Int32} {o1 : Option Nat} {v1 v3 v4 v5 v6 : Value} (h1 : G.1 t = some (gO true 1 [va_rf (some h), v1, va_rf (some l), v3, v4, v5, v6])) (hl : LL G l n a it) (hn : n < 100) (b1 : 1 ≤ G.2.1) (b2 : 3 ≤ G.2.2) {K : Int32 → gS → Prop} (k : ∀ G' q, G.1 q = none → gTo (tK G) 1 3 G G' → G'.1 t = some (gO true 1 [va_rf o1, v1, va_rf (some l), v3, v4, v5, v6]) → LL G' l (n + 1) (fun i => if i = n then q else a i) (fun i => if i = n then h else it i) → K x G') : wp_X1_commit_20 ad X K G t o1 x := by
  unfold wp_X1_commit_20
  have htl : ¬ LT l n a t := fun q => by
    obtain ⟨ci, fs, e, q⟩ := hl.cell q
    rw [h1] at e
    cases e
    omega
  refine wGetQ_of h1 (x := some l) rfl (wGetQ_of h1 (x := some h) rfl (wNN_of (sp_laddLast hl hn b1 b2 fun G4 q hq t4 l4 => ?_)))
  have h4 := t4.1 _ _ h1 htl
  refine wPut_sC h4 (ltb rfl) rfl fun G5 t5 => k G5 q hq ?_ t5.1 (l4.to fun b c hb hc => ?_)
  · refine t4.trans (T := tK G) (t5.to (T := fun b => b = t) h4 rfl) (fun b z => Or.inr ?_) (fun b z => Or.inr ?_) (Nat.le_refl _) (Nat.le_refl _)
    · obtain ⟨ci, fs, e, q⟩ := hl.cell z
      exact ⟨ci, fs, e, by omega⟩
    · subst z
      exact ⟨_, _, h1, Or.inl rfl⟩
  · rw [t5.2.1 b (fun e => ?_)]
    · exact hc
    · subst e
      obtain ⟨ci, fs, e, q⟩ := l4.cell hb
      rw [h4] at e
      cases e
      omega
theorem hCl2.tk {b : Nat} {d : gC} (hb : G.1 b = some d) (hd : hCl2 d) : ¬ tK G b := by
  rintro ⟨ci, fs, e, q⟩
  rw [hb] at e
  cases e
  rcases hd with ⟨_, _, e⟩ | ⟨_, _, _, e⟩ | ⟨_, _, _, e, q2⟩
  · cases e
  · cases e
  · cases e; omega
theorem sp_commit (hc : CI ad G t c P) {h' : Nat} {f' : pF} {c' : Nat} (hn : hH ad G h' f' c') (hcc : c ≤ c') (hc1 : c' ≤ 1000) (b1 : 1 ≤ G.2.1) (b2 : 3 ≤ G.2.2) {x : Int32} {K : Int32 → gS → Prop} (k : ∀ G', gTo (tK G) 1 3 G G' → CI ad G' t c' (aPush P f') → K x G') : gIs G t 1 ∧ wp_X1_commit ad G t (some h') x X K := by
  refine ⟨hc.is, ?_⟩
  obtain ⟨h, sn, l, sb, os, h1, h2, h3, ⟨a, it, h4, h5, h6⟩, h7⟩ := hc
  unfold wp_X1_commit
  refine wGetQ_of h1 (x := some l) rfl (wNN_of (sp_lsize h4 ⟨fun e => ?_, fun e => ?_⟩))
  · have e1 : aN P ≠ 8 := fun z => e (by rw [z]; rfl)
    refine sp_commit20 h1 h4 (by omega) b1 b2 fun G' q hq tt g1 g2 => k G' tt ⟨h', sn, l, sb, os, g1, ?_, ?_, ⟨fun i => if i = aN P then q else a i, fun i => if i = aN P then h else it i, ?_, ?_, fun i hi => ?_⟩, ?_⟩
    · exact hn.to fun b d hb hd => tt.1 b d hb (hCl2.tk hb hd)
    · exact (h3.mono hcc hc1).to fun b d hb hd => tt.1 b d hb (hCl2.tk hb hd)
    · show LL G' l (if aN P = 8 then 8 else aN P + 1) _ _
      rw [if_neg e1]; exact g2
    · show (if aN P = 8 then 8 else aN P + 1) ≤ 8
      rw [if_neg e1]; omega
    · have hi : i < (if aN P = 8 then 8 else aN P + 1) := hi
      rw [if_neg e1] at hi
      show hH ad G' (if i = aN P then h else it i) (if aN P = 8 then _ else (if i = aN P then aF P else aH P i)) c'
      rw [if_neg e1]
      by_cases q : i = aN P
      · rw [if_pos q, if_pos q]
        exact (h2.mono hcc hc1).to fun b d hb hd => tt.1 b d hb (hCl2.tk hb hd)
      · rw [if_neg q, if_neg q]
        exact ((h6 i (by omega)).mono hcc hc1).to fun b d hb hd => tt.1 b d hb (hCl2.tk hb hd)
    · refine h7.to fun b d hb hd => tt.1 b d hb ?_
      rintro ⟨ci, fs, e, q⟩
      rw [hb] at e
      cases e
      rcases hd with ⟨_, _, _, e⟩ | ⟨_, _, _, e, q2⟩
      · cases e
      · cases e; omega
  · have e1 : aN P = 8 := (nI_eq (by omega) (by omega)).mp (show nI (aN P) = nI 8 from e)
    have h4' : LL G l (7 + 1) a it := by rw [e1] at h4; exact h4
    refine wGetQ_of h1 (x := some l) rfl (wNN_of (sp_lremoveFirst h4' (by omega) fun G1 t1 l1 => ?_))
    have htl : ∀ b d, G.1 b = some d → ¬ tK G b → G1.1 b = some d := fun b d hb hd => t1.1 b d hb fun z => hd (by
      obtain ⟨ci, fs, e, q⟩ := h4'.cell z
      exact ⟨ci, fs, e, by omega⟩)
    have g1 : G1.1 t = some (gO true 1 [va_rf (some h), va_rf sn, va_rf (some l), va_rf (some sb), .int (aE P), .int (aX P), va_rf (some os)]) := t1.1 _ _ h1 fun z => by
      obtain ⟨ci, fs, e, q⟩ := h4'.cell z
      rw [h1] at e
      cases e
      omega
    have bb1 := t1.2.2.1
    have bb2 := t1.2.2.2
    refine sp_commit20 g1 l1 (by omega) (by omega) (by omega) fun G' q hq tt g1' g2 => ?_
    have T2 : gTo (tK G) 1 3 G G' := by
      refine t1.trans (T := tK G) tt (fun b z => Or.inr ?_) (fun b z => ?_) (by omega) (by omega)
      · obtain ⟨ci, fs, e, q⟩ := h4'.cell z
        exact ⟨ci, fs, e, by omega⟩
      · obtain ⟨ci, fs, e, q⟩ := z
        cases hb : G.1 b with
        | none => exact Or.inl rfl
        | some d =>
          by_cases q2 : tK G b
          · exact Or.inr q2
          · rw [htl b d hb q2] at e
            cases e
            exact absurd ⟨ci, fs, hb, q⟩ q2
    refine k G' T2 ⟨h', sn, l, sb, os, g1', ?_, ?_, ⟨fun i => if i = 7 then q else a (i + 1), fun i => if i = 7 then h else it (i + 1), ?_, ?_, fun i hi => ?_⟩, ?_⟩
    · exact hn.to fun b d hb hd => T2.1 b d hb (hCl2.tk hb hd)
    · exact (h3.mono hcc hc1).to fun b d hb hd => T2.1 b d hb (hCl2.tk hb hd)
    · show LL G' l (if aN P = 8 then 8 else aN P + 1) _ _
      rw [if_pos e1]; exact g2
    · show (if aN P = 8 then 8 else aN P + 1) ≤ 8
      rw [if_pos e1]; omega
    · have hi : i < (if aN P = 8 then 8 else aN P + 1) := hi
      rw [if_pos e1] at hi
      show hH ad G' (if i = 7 then h else it (i + 1)) (if aN P = 8 then (if i = 7 then aF P else aH P (i + 1)) else _) c'
      rw [if_pos e1]
      by_cases q : i = 7
      · rw [if_pos q, if_pos q]
        exact (h2.mono hcc hc1).to fun b d hb hd => T2.1 b d hb (hCl2.tk hb hd)
      · rw [if_neg q, if_neg q]
        exact ((h6 (i + 1) (by omega)).mono hcc hc1).to fun b d hb hd => T2.1 b d hb (hCl2.tk hb hd)
    · refine h7.to fun b d hb hd => T2.1 b d hb ?_
      rintro ⟨ci, fs, e, q⟩
      rw [hb] at e
      cases e
      rcases hd with ⟨_, _, _, e⟩ | ⟨_, _, _, e, q2⟩
      · cases e
      · cases e; omega
end CM
