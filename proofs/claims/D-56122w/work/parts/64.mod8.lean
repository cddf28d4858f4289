/-! PURE: what the model remembers, whole; its changes (printed by gen/mod8.py) -/
set_option maxRecDepth 20000
/-- now; saved; how many of the past, the past; where an error was, what failed; typed; written -/
abbrev pA : Type := pF × Option pF × (Nat × (Nat → pF)) × (Int32 × Int32) × List Int32 × List Int32
abbrev aF (P : pA) : pF := P.1
abbrev aS (P : pA) : Option pF := P.2.1
abbrev aN (P : pA) : Nat := P.2.2.1.1
abbrev aH (P : pA) : Nat → pF := P.2.2.1.2
abbrev aE (P : pA) : Int32 := P.2.2.2.1.1
abbrev aX (P : pA) : Int32 := P.2.2.2.1.2
abbrev aT (P : pA) : List Int32 := P.2.2.2.2.1
abbrev aO (P : pA) : List Int32 := P.2.2.2.2.2
def mPa (I : Nat → Int32) (V : Nat → Nat → Int32) (P : pA) : Prop := V 0 = aF P ∧ (I 5 = bI (aS P).isSome ∧ ∀ f, aS P = some f → V 3 = f)
def mPb (I : Nat → Int32) (V : Nat → Nat → Int32) (P : pA) : Prop := I 6 = nI (aN P) ∧ aN P ≤ 8 ∧ ∀ i, i < aN P → ∀ j, aH P i j = if j < 91 then V 4 (91 * i + j) else 0
def mPc (I : Nat → Int32) (V : Nat → Nat → Int32) (P : pA) : Prop := (I 7 = aE P ∧ I 8 = aX P) ∧ (I 11 = nI (aT P).length ∧ (aT P).length ≤ 60 ∧ ∀ j, j < (aT P).length → V 10 j = (aT P).getD j 0) ∧ (I 13 = nI (aO P).length ∧ (aO P).length ≤ 240 ∧ ∀ j, j < (aO P).length → V 12 j = (aO P).getD j 0)
/-- what the model's object holds -/
def mP (I : Nat → Int32) (V : Nat → Nat → Int32) (P : pA) : Prop := mPa I V P ∧ mPb I V P ∧ mPc I V P
def MI (G : gS) (m : Nat) (P : pA) : Prop := ∃ B I V, mSt G m B G I V ∧ mP I V P
def mCl (c : gC) : Prop := (∃ fs, c = gO true 0 fs) ∨ ∃ n g, c = gAi true n g ∧ 60 ≤ n
/-- the model alone has changed -/
def mF (G G' : gS) : Prop := (∀ b c, G.1 b = some c → ¬ mCl c → G'.1 b = some c) ∧ G'.2 = G.2
/-- the model has made a step: what it holds now, what it threw -/
def MR (G : gS) (m : Nat) (P : pA) (τ : Int32) (G' : gS) : Prop := mF G G' ∧ ∃ B I V, mSt G' m B G' I V ∧ mP I V P ∧ I 14 = τ
theorem mLn_ge {a : Nat} (ha : a ∈ mAr) : 60 ≤ mLn a := by
  simp only [mAr, List.mem_cons, List.not_mem_nil, or_false] at ha
  rcases ha with rfl | rfl | rfl | rfl | rfl | rfl | rfl | rfl | rfl <;> decide
theorem mF.refl {G : gS} : mF G G := ⟨fun _ _ h _ => h, rfl⟩
theorem mSt.fr {G G' : gS} {m : Nat} {B : Nat → Nat} {I0 I : Nat → Int32} {V0 V : Nat → Nat → Int32} (h0 : mSt G m B G I0 V0) (h : mSt G m B G' I V) : mF G G' := by
  refine ⟨fun b c hb hn => ?_, h.2.2.2.2.2⟩
  rw [h.2.2.2.2.1 b (fun e => ?_) (fun a ha e => ?_)]
  · exact hb
  · subst e
    rw [h0.1] at hb
    exact hn (by cases hb; exact Or.inl ⟨_, rfl⟩)
  · subst e
    rw [h0.2.1 a ha] at hb
    exact hn (by cases hb; exact Or.inr ⟨_, _, rfl, mLn_ge ha⟩)
theorem mSt.self {G G' : gS} {m : Nat} {B : Nat → Nat} {I : Nat → Int32} {V : Nat → Nat → Int32} (h : mSt G m B G' I V) : mSt G' m B G' I V := ⟨h.1, h.2.1, h.2.2.1, h.2.2.2.1, fun _ _ _ => rfl, rfl⟩
theorem MR.of {G G' : gS} {m : Nat} {B : Nat → Nat} {I0 I : Nat → Int32} {V0 V : Nat → Nat → Int32} {P : pA} {τ : Int32} (h0 : mSt G m B G I0 V0) (h : mSt G m B G' I V) (hp : mP I V P) (ht : I 14 = τ) : MR G m P τ G' := ⟨h0.fr h, B, I, V, h.self, hp, ht⟩
theorem MR.mi {G G' : gS} {m : Nat} {P : pA} {τ : Int32} (h : MR G m P τ G') : MI G' m P := by
  obtain ⟨-, B, I, V, h1, h2, -⟩ := h
  exact ⟨B, I, V, h1, h2⟩
theorem MI.is {G : gS} {m : Nat} {P : pA} (h : MI G m P) : gIs G m 0 := by
  obtain ⟨B, I, V, h1, -⟩ := h
  exact h1.is
theorem sm_thrown {ad : Nat → Nat} {X : Nat → gS → Prop} {G G' : gS} {m : Nat} {P : pA} {τ : Int32} (h : MR G m P τ G') {K : Int32 → gS → Prop} (k : K τ G') : gIs G' m 0 ∧ wp_X3_thrown ad G' m X K := by
  obtain ⟨-, B, I, V, h1, h2, h3⟩ := h
  refine ⟨h1.is, ?_⟩
  unfold wp_X3_thrown
  exact mI h1 (by decide) (by rw [h3]; exact k)
/-- the model is untouched by what changes neither its object nor rows of its -/
theorem MI.to {G G' : gS} {m : Nat} {P : pA} (h : MI G m P) (t : ∀ b c, G.1 b = some c → mCl c → G'.1 b = some c) : MI G' m P := by
  obtain ⟨B, I, V, h1, h2⟩ := h
  exact ⟨B, I, V, ⟨t _ _ h1.1 (Or.inl ⟨_, rfl⟩), fun a ha => t _ _ (h1.2.1 a ha) (Or.inr ⟨_, _, rfl, mLn_ge ha⟩), h1.2.2.1, h1.2.2.2.1, fun _ _ _ => rfl, rfl⟩, h2⟩
/-- a change is remembered -/
def aPush (P : pA) (f : pF) : pA := (f, aS P, (if aN P = 8 then 8 else aN P + 1, fun i => if aN P = 8 then (if i = 7 then aF P else aH P (i + 1)) else (if i = aN P then aF P else aH P i)), P.2.2.2)
theorem aH_push {P : pA} {f : pF} {v : Nat → Int32} (h8 : aN P ≤ 8) (hf : ∀ j, 91 ≤ j → aF P j = 0) (hh : ∀ i, i < aN P → ∀ j, aH P i j = if j < 91 then v (91 * i + j) else 0) : ∀ i, i < aN (aPush P f) → ∀ j, aH (aPush P f) i j = if j < 91 then va_cpy (aF P) (if aN P = 8 then pShift v 637 else v) 0 (91 * (if aN P = 8 then 7 else aN P)) 91 (91 * i + j) else 0 := by
  intro i hi j
  have hi : i < (if aN P = 8 then 8 else aN P + 1) := hi
  show (if aN P = 8 then (if i = 7 then aF P else aH P (i + 1)) else (if i = aN P then aF P else aH P i)) j = _
  simp only [va_cpy, pShift]
  by_cases e : aN P = 8
  · simp only [if_pos e] at hi ⊢
    by_cases q : i = 7
    · subst q
      rw [if_pos rfl]
      by_cases hj : j < 91
      · rw [if_pos hj, if_pos (by omega)]; congr 1; omega
      · rw [if_neg hj, hf j (by omega)]
    · rw [if_neg q, hh (i + 1) (by omega)]
      by_cases hj : j < 91
      · rw [if_pos hj, if_pos hj, if_neg (by omega), pShift, if_pos (by omega)]; congr 1; omega
      · rw [if_neg hj, if_neg hj]
  · simp only [if_neg e] at hi ⊢
    by_cases q : i = aN P
    · subst q
      rw [if_pos rfl]
      by_cases hj : j < 91
      · rw [if_pos hj, if_pos (by omega)]; congr 1; omega
      · rw [if_neg hj, hf j (by omega)]
    · rw [if_neg q, hh i (by omega)]
      by_cases hj : j < 91
      · rw [if_pos hj, if_pos hj, if_neg (by omega)]
      · rw [if_neg hj, if_neg hj]
/-- what stays of the rest, if what is written elsewhere -/
theorem mPc.to {I I' : Nat → Int32} {V V' : Nat → Nat → Int32} {P P' : pA} (h : mPc I V P) (i7 : I' 7 = I 7) (i8 : I' 8 = I 8) (i11 : I' 11 = I 11) (i13 : I' 13 = I 13) (v10 : V' 10 = V 10) (v12 : V' 12 = V 12) (hp : P'.2.2.2 = P.2.2.2) : mPc I' V' P' := by
  obtain ⟨f, s, hh, r⟩ := P
  obtain ⟨f', s', hh', r'⟩ := P'
  have hp : r' = r := hp
  subst hp
  unfold mPc at h ⊢
  rw [i7, i8, i11, i13, v10, v12]
  exact h
section MOP
variable {ad : Nat → Nat} {G0 G : gS} {m : Nat} {B : Nat → Nat} {I : Nat → Int32} {V : Nat → Nat → Int32} {X : Nat → gS → Prop} {f : pF} {P : pA}
def mOp (ad : Nat → Nat) (G : gS) (o : Nat) (a b c d : Int32) (m : Nat) (X : Nat → gS → Prop) (K : Int32 → gS → Prop) : Prop := match o with
  | 0 => wp_X3_addsGoblin ad G m a X K
  | 1 => wp_X3_addsBroom ad G m a X K
  | 2 => wp_X3_banishes ad G m a (1 : Int32) X K
  | 3 => wp_X3_banishes ad G m a (0 : Int32) X K
  | 4 => wp_X3_hires ad G m a b c d X K
  | 5 => wp_X3_cancels ad G m a X K
  | 6 => wp_X3_rests ad G m a (1 : Int32) X K
  | 7 => wp_X3_rests ad G m a (0 : Int32) X K
  | 8 => wp_X3_lends ad G m a b X K
  | 9 => wp_X3_funds ad G m a X K
  | 10 => wp_X3_spends ad G m a X K
  | _ => wp_X3_waits ad G m a X K
theorem sm_op (h : mSt G0 m B G I (mar V 0 f)) (hk : hK f) {o : Nat} (ho : o < 12) {a b c d : Int32} {K : Int32 → gS → Prop} (k : ∀ G', mSt G0 m B G' (upd I 14 (pOp o a b c d f).1) (mar V 0 (qV (pOp o a b c d f) f)) → K (qA (pOp o a b c d f)) G') : mOp ad G o a b c d m X K := by
  match o, ho, k with
  | 0, _, k => exact sm_addsGoblin h hk.1 k
  | 1, _, k => exact sm_addsBroom h hk.1 k
  | 2, _, k => exact sm_banishes h hk.1 k
  | 3, _, k => exact sm_banishes h hk.1 k
  | 4, _, k => exact sm_hires h hk.1 k
  | 5, _, k => exact sm_cancels h hk.1 (fun w hw => (hk.2 w hw).1) k
  | 6, _, k => exact sm_rests h hk.1 k
  | 7, _, k => exact sm_rests h hk.1 k
  | 8, _, k => exact sm_lends h hk.1 k
  | 9, _, k => exact sm_funds h k
  | 10, _, k => exact sm_spends h k
  | 11, _, k => exact sm_waits h hk k
/-- a change, asked of the model -/
def aDo (P : pA) (r : pR) : pA := if r.1 = 0 then aPush P r.2.2 else P
def mAll (ad : Nat → Nat) (G : gS) (o : Nat) (a b c d : Int32) (m : Nat) (X : Nat → gS → Prop) (K : Int32 → gS → Prop) : Prop := gIs G m 0 ∧ wp_X3_begins ad G m X (fun G1 => gIs G1 m 0 ∧ mOp ad G1 o a b c d m X (fun r3 G2 => gIs G2 m 0 ∧ wp_X3_ends ad G2 m r3 X (fun r5 G4 => K r5 G4)))
theorem sm_all (h : MI G m P) (hk : hK (aF P)) {o : Nat} (ho : o < 12) {a b c d : Int32} {K : Int32 → gS → Prop} (k : ∀ G', MR G m (aDo P (pOp o a b c d (aF P))) (pOp o a b c d (aF P)).1 G' → K (qA (pOp o a b c d (aF P))) G') : mAll ad G o a b c d m X K := by
  obtain ⟨B, I, V, h, ⟨⟨p0, p5, p3⟩, ⟨p6, p8, p4⟩, pc⟩⟩ := h
  have hz : ∀ j, 91 ≤ j → aF P j = 0 := fun j hj => by rw [← p0]; exact h.2.2.2.1 0 m0 j hj
  refine ⟨h.is, sm_begins h fun G1 h1 => ⟨h1.is, ?_⟩⟩
  rw [p0] at h1
  have h1' : mSt G m B G1 I (mar (mar V 1 (aF P)) 0 (aF P)) := by
    rw [mar_eq (V := mar V 1 (aF P)) (a := 0) (g := aF P) (by rw [mar_ne (by decide)]; exact p0)]; exact h1
  refine sm_op h1' hk ho fun G2 h2 => ⟨h2.is, ?_⟩
  generalize pOp o a b c d (aF P) = r at h2 k ⊢
  refine sm_ends h2 (r := aN P) (by rw [upd_ne (by decide)]; exact p6) p8 (fun e G3 h3 => ?_) (fun e G3 h3 => ?_)
  · rw [upd_self] at e
    have : qA r = 0 := if_neg e
    rw [← this]
    refine k G3 (MR.of h h3 ⟨⟨?_, ?_, ?_⟩, ⟨?_, ?_, ?_⟩, ?_⟩ upd_self) <;> rw [aDo, if_neg e]
    · rw [mar_self, mar_ne (by decide), mar_self]
    · rw [upd_ne (by decide)]; exact p5
    · intro f hf
      rw [mar_ne (by decide), mar_ne (by decide), mar_ne (by decide)]; exact p3 f hf
    · rw [upd_ne (by decide)]; exact p6
    · exact p8
    · intro i hi j
      rw [mar_ne (by decide), mar_ne (by decide), mar_ne (by decide)]; exact p4 i hi j
    · exact pc.to (upd_ne (by decide)) (upd_ne (by decide)) (upd_ne (by decide)) (upd_ne (by decide)) (by rw [mar_ne (by decide), mar_ne (by decide), mar_ne (by decide)]) (by rw [mar_ne (by decide), mar_ne (by decide), mar_ne (by decide)]) rfl
  · rw [upd_self] at e
    have e9 : qA r = r.2.1 := if_pos e
    have e8 : qV r (aF P) = r.2.2 := if_pos e
    rw [mar_ne (by decide : (1 : Nat) ≠ 0), mar_self, mar_ne (by decide : (4 : Nat) ≠ 0), mar_ne (by decide : (4 : Nat) ≠ 1)] at h3
    refine k G3 (MR.of h h3 ⟨⟨?_, ?_, ?_⟩, ⟨?_, ?_, ?_⟩, ?_⟩ (by rw [upd_ne (by decide), upd_self])) <;> rw [aDo, if_pos e]
    · rw [mar_ne (by decide), mar_self, e8]; rfl
    · rw [upd_ne (by decide), upd_ne (by decide)]; exact p5
    · intro f hf
      rw [mar_ne (by decide), mar_ne (by decide), mar_ne (by decide)]; exact p3 f hf
    · rw [upd_self]; rfl
    · show (if aN P = 8 then 8 else aN P + 1) ≤ 8
      split <;> omega
    · rw [mar_self]
      exact aH_push p8 hz p4
    · refine pc.to ?_ ?_ ?_ ?_ ?_ ?_ rfl
      · rw [upd_ne (by decide), upd_ne (by decide)]
      · rw [upd_ne (by decide), upd_ne (by decide)]
      · rw [upd_ne (by decide), upd_ne (by decide)]
      · rw [upd_ne (by decide), upd_ne (by decide)]
      · rw [mar_ne (by decide), mar_ne (by decide), mar_ne (by decide)]
      · rw [mar_ne (by decide), mar_ne (by decide), mar_ne (by decide)]
end MOP
