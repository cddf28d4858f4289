/-! PURE: the model's texts -/
set_option maxRecDepth 20000
def pNum (v : Nat) : List Nat := (List.range (sb_dg v)).map (sb_dec v)
theorem pNum_len (v : Nat) : (pNum v).length = sb_dg v := by simp [pNum]
theorem pNum_take {v i : Nat} (h : i < sb_dg v) : (pNum v).take (i + 1) = (pNum v).take i ++ [sb_dec v i] := by
  rw [List.take_add_one]
  congr 1
  rw [pNum, List.getElem?_map, List.getElem?_range h]
  rfl
def putL (b : Nat → Int32) (to : Nat) (s : List Nat) : Nat → Int32 := fun j => if to ≤ j ∧ j < to + s.length then nI (s.getD (j - to) 0) else b j
theorem putL_nil {b : Nat → Int32} {to : Nat} : putL b to [] = b := by
  funext j
  simp only [putL, List.length_nil]
  rw [if_neg (by omega)]
theorem getD_app (s t : List Nat) (k : Nat) : (s ++ t).getD k 0 = if k < s.length then s.getD k 0 else t.getD (k - s.length) 0 := by
  rw [List.getD_eq_getElem?_getD, List.getElem?_append]
  split
  · rw [List.getD_eq_getElem?_getD]
  · rw [List.getD_eq_getElem?_getD]
theorem putL_app {b : Nat → Int32} {to to' : Nat} {s t : List Nat} (h : to' = to + s.length) : putL (putL b to s) to' t = putL b to (s ++ t) := by
  subst h
  funext j
  simp only [putL, List.length_append]
  rw [getD_app]
  by_cases h1 : to + s.length ≤ j ∧ j < to + s.length + t.length
  · rw [if_pos h1, if_pos (by omega), if_neg (by omega), show j - to - s.length = j - (to + s.length) by omega]
  · rw [if_neg h1]
    by_cases h2 : to ≤ j ∧ j < to + s.length
    · rw [if_pos h2, if_pos (by omega), if_pos (by omega)]
    · rw [if_neg h2, if_neg (by omega)]
theorem putL_one {b : Nat → Int32} {to c : Nat} : upd b to (nI c) = putL b to [c] := by
  funext j
  simp only [upd, putL, List.length_cons, List.length_nil]
  by_cases h : j = to
  · subst h; rw [if_pos rfl, if_pos (by omega), Nat.sub_self]; rfl
  · rw [if_neg h, if_neg (by omega)]
theorem pow10_lt {k : Nat} (h : k ≤ 9) : 0 < 10 ^ k ∧ 10 ^ k < 2 ^ 31 :=
  ⟨Nat.pow_pos (by omega), Nat.lt_of_le_of_lt (Nat.pow_le_pow_right (by omega) h) (by decide)⟩
theorem sb_dg_of {v k : Nat} (hv : v < 10 ^ 9) (h : v / 10 ^ k ≤ 9) (h2 : ∀ i, i < k → 9 < v / 10 ^ i) : sb_dg v = k + 1 := by
  have hk : k ≤ 8 := by
    rcases Nat.lt_or_ge 8 k with q | q
    · have := h2 8 q
      omega
    · exact q
  have h0 : k = 0 ∨ (0 < k ∧ 9 < v / 10 ^ (k - 1)) := by
    rcases Nat.eq_zero_or_pos k with q | q
    · exact Or.inl q
    · exact Or.inr ⟨q, h2 _ (by omega)⟩
  rw [sb_dg]
  match k, hk with
  | 0, _ => rw [if_pos (by omega)]
  | 1, _ => rw [if_neg (by omega), if_pos (by omega)]
  | 2, _ => rw [if_neg (by omega), if_neg (by omega), if_pos (by omega)]
  | 3, _ => rw [if_neg (by omega), if_neg (by omega), if_neg (by omega), if_pos (by omega)]
  | 4, _ => rw [if_neg (by omega), if_neg (by omega), if_neg (by omega), if_neg (by omega), if_pos (by omega)]
  | 5, _ => rw [if_neg (by omega), if_neg (by omega), if_neg (by omega), if_neg (by omega), if_neg (by omega), if_pos (by omega)]
  | 6, _ => rw [if_neg (by omega), if_neg (by omega), if_neg (by omega), if_neg (by omega), if_neg (by omega), if_neg (by omega), if_pos (by omega)]
  | 7, _ => rw [if_neg (by omega), if_neg (by omega), if_neg (by omega), if_neg (by omega), if_neg (by omega), if_neg (by omega), if_neg (by omega), if_pos (by omega)]
  | 8, _ => rw [if_neg (by omega), if_neg (by omega), if_neg (by omega), if_neg (by omega), if_neg (by omega), if_neg (by omega), if_neg (by omega), if_neg (by omega), if_pos (by omega)]
theorem sb_dg_le {v k : Nat} (h : v < 10 ^ k) (hk : k ≤ 9) (h0 : 0 < k) : sb_dg v ≤ k := by
  rw [sb_dg]
  match k, hk, h0 with
  | 1, _, _ => rw [if_pos (by omega)]; omega
  | 2, _, _ => repeat' split
               all_goals omega
  | 3, _, _ => repeat' split
               all_goals omega
  | 4, _, _ => repeat' split
               all_goals omega
  | 5, _, _ => repeat' split
               all_goals omega
  | 6, _, _ => repeat' split
               all_goals omega
  | 7, _, _ => repeat' split
               all_goals omega
  | 8, _, _ => repeat' split
               all_goals omega
  | 9, _, _ => repeat' split
               all_goals omega
/-- the texts -/
def pGobText (f : pF) (g : Nat) : List Nat := pNum g ++ [115] ++ pNum (pN f (26 + 5 * g)) ++ [112] ++ pNum (pN f (27 + 5 * g)) ++ (if f (28 + 5 * g) = 0 then [] else [100] ++ pNum (pN f (28 + 5 * g))) ++ (if f (30 + 5 * g) = 1 then [122] else [])
def pConText (f : pF) (k : Nat) : List Nat := pNum (pN f (51 + 5 * k)) ++ [58] ++ pNum (pN f (52 + 5 * k)) ++ [62] ++ pNum (pN f (53 + 5 * k)) ++ [64] ++ pNum (pN f (54 + 5 * k)) ++ [47] ++ pNum (pN f (55 + 5 * k))
def pConsText (f : pF) : Nat → List Nat
  | 0 => []
  | k + 1 => (if k = 0 then [] else pConsText f k ++ [32]) ++ pConText f k
section MOD
variable {ad : Nat → Nat} {G0 G : gS} {m : Nat} {B : Nat → Nat} {I : Nat → Int32} {V : Nat → Nat → Int32} {X : Nat → gS → Prop} {f L : Nat → Int32}
theorem sm_put (h : mSt G0 m B G I (mar (mar V 12 L) 0 f)) {to c : Nat} {x1 x2 : Int32} (h1 : x1 = nI to) (h2 : x2 = nI c) (ht : to < 240) {K : Int32 → gS → Prop} (k : ∀ G', mSt G0 m B G' I (mar (mar V 12 (putL L to [c])) 0 f) → K (nI (to + 1)) G') : wp_X3_put ad G m x1 x2 X K := by
  subst h1 h2
  unfold wp_X3_put
  refine mQ h m12 (wNN_of (mSa h m12 rfl ht fun G' h' => ?_))
  rw [← nI_succ]
  refine k G' ?_
  rw [mar_ne (by decide), mar_self, mar_comm (by decide), mar_mar, putL_one] at h'
  exact h'
theorem sm_writesNumber (h : mSt G0 m B G I (mar (mar V 12 L) 0 f)) {to v : Nat} {x1 x2 : Int32} (h1 : x1 = nI to) (h2 : x2 = nI v) (hv : v < 10 ^ 9) (ht : to + sb_dg v ≤ 240) {K : Int32 → gS → Prop} (k : ∀ G', mSt G0 m B G' I (mar (mar V 12 (putL L to (pNum v))) 0 f) → K (nI (to + sb_dg v)) G') : wp_X3_writesNumber ad G m x1 x2 X K := by
  subst h1 h2
  have k24 : ∀ n, n ≤ 9 → sb_dg v = n + 1 → wp_X3_writesNumber_24 ad X K G m (nI v) (nI to) (nI (10 ^ n)) := by
    intro n hn hd
    unfold wp_X3_writesNumber_24
    refine gLoop_up (n + 1) (fun i (ff : gS → Nat → Int32 → Int32 → Int32 → Prop) => ∀ G, mSt G0 m B G I (mar (mar V 12 (putL L to ((pNum v).take i))) 0 f) → ff G m (nI v) (nI (to + i)) (nI (10 ^ n / 10 ^ i))) ?_ gFuel 0 (by omega) (gFuel_lt (by omega)) G (by rw [List.take_zero, putL_nil]; exact h) |> fun z => by rw [Nat.pow_zero, Nat.div_one] at z; exact z
    intro i ff hi hs G h
    unfold wp_X3_writesNumber_28
    by_cases ei : i = n + 1
    · subst ei
      have e0 : 10 ^ n / 10 ^ (n + 1) = 0 := Nat.div_eq_of_lt (Nat.pow_lt_pow_right (by omega) (by omega))
      rw [e0]
      refine brT (Int32.le_refl _) ?_
      rw [← hd]
      refine k G ?_
      rw [← pNum_len] at hd
      rw [← hd, List.take_length] at h
      exact h
    · have hs := hs (by omega)
      obtain ⟨p1, p2⟩ := pow10_lt (k := n - i) (by omega)
      have e0 : 10 ^ n / 10 ^ i = 10 ^ (n - i) := Nat.pow_div (by omega) (by omega)
      have e1 : 10 ^ (n - i) / 10 = 10 ^ n / 10 ^ (i + 1) := by rw [← e0, Nat.div_div_eq_div_mul, Nat.pow_succ]
      rw [e0]
      refine brF (nI_ge (b := 10 ^ (n - i)) p1 p2) ⟨nI_ne0 p1 p2, h.is, ?_⟩
      have hdec : sb_dec v i = 48 + v / 10 ^ (n - i) % 10 := by
        rw [sb_dec, hd]
        rw [show n + 1 - 1 - i = n - i by omega]
      refine sm_put h (c := sb_dec v i) rfl ?_ (by omega) fun G2 h2 => ?_
      · rw [pk_div (by omega) p1 p2, show (10 : Int32) = nI 10 from rfl, pk_rem (by have := Nat.div_le_self v (10 ^ (n - i)); omega) (by omega) (by omega), show (48 : Int32) = nI 48 from rfl, nI_add, hdec]
      · rw [show (10 : Int32) = nI 10 from rfl, pk_div p2 (by omega) (by omega), e1]
        refine hs G2 ?_
        rw [pNum_take (by omega)]
        rw [putL_app (by rw [List.length_take, pNum_len]; omega)] at h2
        exact h2
  unfold wp_X3_writesNumber
  refine gLoop_up 9 (fun i (ff : gS → Nat → Int32 → Int32 → Int32 → Prop) => (∀ j, j < i → 9 < v / 10 ^ j) → ff G m (nI v) (nI to) (nI (10 ^ i))) ?_ gFuel 0 (by omega) (gFuel_lt (by omega)) (fun j hj => absurd hj (by omega))
  intro i ff hi hs hj
  obtain ⟨p1, p2⟩ := pow10_lt (k := i) hi
  unfold wp_X3_writesNumber_5
  refine ⟨nI_ne0 p1 p2, ?_⟩
  rw [pk_div (by omega) p1 p2]
  by_cases q : v / 10 ^ i ≤ 9
  · exact brT (nI_le (b := 9) q (by omega)) (k24 i hi (sb_dg_of hv q hj))
  · have hi2 : i < 9 := by
      rcases Nat.lt_or_ge i 9 with z | z
      · exact z
      · have : i = 9 := by omega
        subst this
        omega
    refine brF (nI_ge (a := 9) (by omega) (by have := Nat.div_le_self v (10 ^ i); omega)) ?_
    have := hs hi2 (fun j hj2 => by
      by_cases q2 : j = i
      · rw [q2]; omega
      · exact hj j (by omega))
    rw [Nat.pow_succ, ← nI_mul] at this
    exact this
theorem sm_putS {s : List Nat} (h : mSt G0 m B G I (mar (mar V 12 (putL L 0 s)) 0 f)) {c : Nat} {x1 x2 : Int32} (h1 : x1 = nI s.length) (h2 : x2 = nI c) (ht : s.length < 240) {K : Int32 → gS → Prop} (k : ∀ G', mSt G0 m B G' I (mar (mar V 12 (putL L 0 (s ++ [c]))) 0 f) → K (nI (s ++ [c]).length) G') : wp_X3_put ad G m x1 x2 X K := by
  refine sm_put h h1 h2 ht fun G' h' => ?_
  rw [putL_app (by omega)] at h'
  have := k G' h'
  rw [List.length_append] at this
  exact this
theorem sm_numS {s : List Nat} (h : mSt G0 m B G I (mar (mar V 12 (putL L 0 s)) 0 f)) {v : Nat} {x1 x2 : Int32} (h1 : x1 = nI s.length) (h2 : x2 = nI v) (hv : v < 10 ^ 9) (ht : s.length + sb_dg v ≤ 240) {K : Int32 → gS → Prop} (k : ∀ G', mSt G0 m B G' I (mar (mar V 12 (putL L 0 (s ++ pNum v))) 0 f) → K (nI (s ++ pNum v).length) G') : wp_X3_writesNumber ad G m x1 x2 X K := by
  refine sm_writesNumber h h1 h2 hv ht fun G' h' => ?_
  rw [putL_app (by omega)] at h'
  have := k G' h'
  rw [List.length_append, pNum_len] at this
  exact this
theorem mar_12 : mar V 0 f = mar (mar V 12 (V 12)) 0 f := by rw [mar_eq (V := V) rfl]
theorem sm_renderGoblin (h : mSt G0 m B G I (mar V 0 f)) (hw : hW f) (hg : ∀ g, g < nG f → nn f (26 + 5 * g) 1000100 ∧ nn f (27 + 5 * g) 1000100 ∧ nn f (28 + 5 * g) 1000100) {x : Int32} {K : Int32 → gS → Prop} (k0 : pIn x 0 (f 9 - 1) = false → ∀ G', mSt G0 m B G' (upd I 14 1) (mar V 0 f) → K 0 G') (k : pIn x 0 (f 9 - 1) = true → ∀ G', mSt G0 m B G' (upd (upd I 14 0) 13 (nI (pGobText f (pGi f x)).length)) (mar (mar V 12 (putL (V 12) 0 (pGobText f (pGi f x)))) 0 f) → K (nI (pGobText f (pGi f x)).length) G') : wp_X3_renderGoblin ad G m x X K := by
  unfold wp_X3_renderGoblin
  refine ⟨h.is, sm_isGoblin h ⟨h.is, sm_goes3' h rfl k0 fun q G h => ⟨h.is, ?_⟩⟩⟩
  have k := k q
  have h5 := hw.2.1.2
  obtain ⟨g, hgl, rfl, eg⟩ := pGi_t hw q
  rw [eg] at k
  obtain ⟨⟨s1, s2⟩, ⟨p1, p2⟩, d1, d2⟩ := hg g hgl
  have kk := k
  rw [mar_12] at h
  generalize hL0 : V 12 = L0 at *
  have dg : ∀ v, v ≤ 1000100 → sb_dg v ≤ 7 := fun v hv => sb_dg_le (Nat.lt_of_le_of_lt hv (by decide)) (by omega) (by omega)
  have dgg := dg g (by omega)
  have dgs := dg _ s2
  have dgp := dg _ p2
  have dgd := dg _ d2
  generalize hI0 : upd I 14 0 = I0 at *
  -- the end
  have k85 : ∀ (G : gS) (s : List Nat), mSt G0 m B G I0 (mar (mar V 12 (putL L0 0 s)) 0 f) → s.length ≤ 200 → s ++ (if f (30 + 5 * g) = 1 then [122] else []) = pGobText f g → wp_X3_renderGoblin_85 ad X K G m (nI g) (nI s.length) := by
    intro G s h hs he
    have k108 : ∀ (G : gS), mSt G0 m B G I0 (mar (mar V 12 (putL L0 0 (pGobText f g))) 0 f) → ∀ x, x = nI (pGobText f g).length → wp_X3_renderGoblin_108 ad X K G m x m := by
      rintro G h x rfl
      unfold wp_X3_renderGoblin_108
      refine mPut h (by decide) fun G' h' => mI h' (by decide) ?_
      rw [upd_self]
      exact k G' h'
    unfold wp_X3_renderGoblin_85
    refine ⟨h.is, sm_ofK0 h hw hgl (j := 4) rfl (by omega) (t := 30 + 5 * g) (by omega) ⟨fun q => ?_, fun q => ⟨h.is, ?_⟩⟩⟩
    · rw [if_neg q, List.append_nil] at he
      rw [← he] at k108
      exact k108 G h _ rfl
    · rw [if_pos q] at he
      refine sm_put h (c := 122) rfl rfl (by omega) fun G2 h2 => ?_
      rw [putL_app (by omega), he] at h2
      refine k108 G2 h2 _ ?_
      rw [← he, List.length_append]; rfl
  have L0' : putL L0 0 [] = L0 := putL_nil
  rw [← L0'] at h
  have ll : ∀ (s : List Nat) (c : Nat), (s ++ [c]).length = s.length + 1 := fun s c => by rw [List.length_append]; rfl
  have ln : ∀ (s : List Nat) (v : Nat), (s ++ pNum v).length = s.length + sb_dg v := fun s v => by rw [List.length_append, pNum_len]
  refine sm_numS h (s := []) rfl rfl (by omega) (by rw [List.length_nil]; omega) fun G2 h2 => ⟨h2.is, ?_⟩
  rw [List.nil_append] at h2 ⊢
  have l2 : (pNum g).length ≤ 7 := by rw [pNum_len]; exact dgg
  refine sm_putS h2 (c := 115) rfl rfl (by omega) fun G3 h3 => ⟨h3.is, sm_ofK0 h3 hw hgl (j := 0) rfl (by omega) (t := 26 + 5 * g) (by omega) ⟨h3.is, sm_numS h3 rfl s1 (by omega) (by rw [ll]; omega) fun G4 h4 => ⟨h4.is, sm_putS h4 (c := 112) rfl rfl (by rw [ln, ll]; omega) fun G5 h5 => ⟨h5.is, sm_ofK0 h5 hw hgl (j := 1) rfl (by omega) (t := 27 + 5 * g) (by omega) ⟨h5.is, sm_numS h5 rfl p1 (by omega) (by rw [ll, ln, ll]; omega) fun G6 h6 => ⟨h6.is, ?_⟩⟩⟩⟩⟩⟩
  have b6 : (pNum g ++ [115] ++ pNum (pN f (26 + 5 * g)) ++ [112] ++ pNum (pN f (27 + 5 * g))).length ≤ 30 := by rw [ln, ll, ln, ll]; omega
  generalize hs6 : pNum g ++ [115] ++ pNum (pN f (26 + 5 * g)) ++ [112] ++ pNum (pN f (27 + 5 * g)) = s6 at *
  have hfin : s6 ++ (if f (28 + 5 * g) = 0 then [] else [100] ++ pNum (pN f (28 + 5 * g))) ++ (if f (30 + 5 * g) = 1 then [122] else []) = pGobText f g := by
    rw [pGobText, hs6]
  refine sm_ofK0 h6 hw hgl (j := 2) rfl (by omega) (t := 28 + 5 * g) (by omega) ⟨fun q => ⟨h6.is, ?_⟩, fun q => ?_⟩
  · rw [if_neg q, ← List.append_assoc] at hfin
    refine sm_putS h6 (c := 100) rfl rfl (by omega) fun G7 h7 => ⟨h7.is, sm_ofK0 h7 hw hgl (j := 2) rfl (by omega) (t := 28 + 5 * g) (by omega) ⟨h7.is, sm_numS h7 rfl d1 (by omega) (by rw [ll]; omega) fun G8 h8 => ?_⟩⟩
    exact k85 G8 _ h8 (by rw [ln, ll]; omega) hfin
  · rw [if_pos q, List.append_nil] at hfin
    exact k85 G6 _ h6 (by omega) hfin
theorem sm_writesContract {s : List Nat} (h : mSt G0 m B G I (mar (mar V 12 (putL L 0 s)) 0 f)) {n : Nat} (hn : n < 8) (hc : nn f (51 + 5 * n) 1000 ∧ nn f (52 + 5 * n) 4 ∧ nn f (53 + 5 * n) 5 ∧ nn f (54 + 5 * n) 50 ∧ nn f (55 + 5 * n) 20) (hs : s.length ≤ 220) {K : Int32 → gS → Prop} (k : ∀ G', mSt G0 m B G' I (mar (mar V 12 (putL L 0 (s ++ pConText f n))) 0 f) → K (nI (s ++ pConText f n).length) G') : wp_X3_writesContract ad G m (nI s.length) (nI n) X K := by
  obtain ⟨⟨a1, a2⟩, ⟨b1, b2⟩, ⟨c1, c2⟩, ⟨d1, d2⟩, e1, e2⟩ := hc
  have da : sb_dg (pN f (51 + 5 * n)) ≤ 4 := sb_dg_le (by omega) (by omega) (by omega)
  have db : sb_dg (pN f (52 + 5 * n)) ≤ 1 := sb_dg_le (by omega) (by omega) (by omega)
  have dc : sb_dg (pN f (53 + 5 * n)) ≤ 1 := sb_dg_le (by omega) (by omega) (by omega)
  have dd : sb_dg (pN f (54 + 5 * n)) ≤ 2 := sb_dg_le (by omega) (by omega) (by omega)
  have de : sb_dg (pN f (55 + 5 * n)) ≤ 2 := sb_dg_le (by omega) (by omega) (by omega)
  have ll : ∀ (s : List Nat) (c : Nat), (s ++ [c]).length = s.length + 1 := fun s c => by rw [List.length_append]; rfl
  have ln : ∀ (s : List Nat) (v : Nat), (s ++ pNum v).length = s.length + sb_dg v := fun s v => by rw [List.length_append, pNum_len]
  unfold wp_X3_writesContract
  refine ⟨h.is, sm_ofC0 h hn (j := 0) rfl (by omega) (t := 51 + 5 * n) (by omega) ⟨h.is, sm_numS h rfl a1 (by omega) (by omega) fun G1 h1 => ⟨h1.is, sm_putS h1 (c := 58) rfl rfl (by simp only [ln, ll]; omega) fun G2 h2 => ⟨h2.is, sm_ofC0 h2 hn (j := 1) rfl (by omega) (t := 52 + 5 * n) (by omega) ⟨h2.is, sm_numS h2 rfl b1 (by omega) (by simp only [ln, ll]; omega) fun G3 h3 => ⟨h3.is, sm_putS h3 (c := 62) rfl rfl (by simp only [ln, ll]; omega) fun G4 h4 => ⟨h4.is, sm_ofC0 h4 hn (j := 2) rfl (by omega) (t := 53 + 5 * n) (by omega) ⟨h4.is, sm_numS h4 rfl c1 (by omega) (by simp only [ln, ll]; omega) fun G5 h5 => ⟨h5.is, sm_putS h5 (c := 64) rfl rfl (by simp only [ln, ll]; omega) fun G6 h6 => ⟨h6.is, sm_ofC0 h6 hn (j := 3) rfl (by omega) (t := 54 + 5 * n) (by omega) ⟨h6.is, sm_numS h6 rfl d1 (by omega) (by simp only [ln, ll]; omega) fun G7 h7 => ⟨h7.is, sm_putS h7 (c := 47) rfl rfl (by simp only [ln, ll]; omega) fun G8 h8 => ⟨h8.is, sm_ofC0 h8 hn (j := 4) rfl (by omega) (t := 55 + 5 * n) (by omega) ⟨h8.is, sm_numS h8 rfl e1 (by omega) (by simp only [ln, ll]; omega) fun G9 h9 => ?_⟩⟩⟩⟩⟩⟩⟩⟩⟩⟩⟩⟩⟩⟩
  have e : s ++ pNum (pN f (51 + 5 * n)) ++ [58] ++ pNum (pN f (52 + 5 * n)) ++ [62] ++ pNum (pN f (53 + 5 * n)) ++ [64] ++ pNum (pN f (54 + 5 * n)) ++ [47] ++ pNum (pN f (55 + 5 * n)) = s ++ pConText f n := by
    simp only [pConText, List.append_assoc]
  rw [e] at h9 ⊢
  exact k G9 h9
theorem pConsText_len (hc : ∀ n, n < nC f → nn f (51 + 5 * n) 1000 ∧ nn f (52 + 5 * n) 4 ∧ nn f (53 + 5 * n) 5 ∧ nn f (54 + 5 * n) 50 ∧ nn f (55 + 5 * n) 20) : ∀ n, n ≤ nC f → (pConsText f n).length ≤ 15 * n
  | 0, _ => Nat.le_refl _
  | n + 1, hn => by
    have ih := pConsText_len hc n (by omega)
    obtain ⟨⟨a1, a2⟩, ⟨b1, b2⟩, ⟨c1, c2⟩, ⟨d1, d2⟩, e1, e2⟩ := hc n (by omega)
    have da : sb_dg (pN f (51 + 5 * n)) ≤ 4 := sb_dg_le (by omega) (by omega) (by omega)
    have db : sb_dg (pN f (52 + 5 * n)) ≤ 1 := sb_dg_le (by omega) (by omega) (by omega)
    have dc : sb_dg (pN f (53 + 5 * n)) ≤ 1 := sb_dg_le (by omega) (by omega) (by omega)
    have dd : sb_dg (pN f (54 + 5 * n)) ≤ 2 := sb_dg_le (by omega) (by omega) (by omega)
    have de : sb_dg (pN f (55 + 5 * n)) ≤ 2 := sb_dg_le (by omega) (by omega) (by omega)
    have hl : (pConText f n).length ≤ 14 := by simp only [pConText, List.length_append, pNum_len, List.length_cons, List.length_nil]; omega
    rw [pConsText, List.length_append]
    split
    · rw [List.length_nil]; omega
    · rw [List.length_append, List.length_cons, List.length_nil]; omega
theorem sm_renderContracts (h : mSt G0 m B G I (mar V 0 f)) (hw : hW f) (hc : ∀ n, n < nC f → nn f (51 + 5 * n) 1000 ∧ nn f (52 + 5 * n) 4 ∧ nn f (53 + 5 * n) 5 ∧ nn f (54 + 5 * n) 50 ∧ nn f (55 + 5 * n) 20) {K : Int32 → gS → Prop} (k : ∀ G', mSt G0 m B G' (upd (upd I 14 0) 13 (nI (pConsText f (nC f)).length)) (mar (mar V 12 (putL (V 12) 0 (pConsText f (nC f)))) 0 f) → K (nI (pConsText f (nC f)).length) G') : wp_X3_renderContracts ad G m X K := by
  unfold wp_X3_renderContracts
  refine mPut h (by decide) fun G h => ?_
  rw [mar_12] at h
  generalize hL0 : V 12 = L0 at *
  generalize hI0 : upd I 14 0 = I0 at *
  have h8 := hw.2.2.2
  refine gLoop_up (nC f) (fun n (ff : gS → Nat → Int32 → Int32 → Prop) => ∀ G, mSt G0 m B G I0 (mar (mar V 12 (putL L0 0 (pConsText f n))) 0 f) → ff G m (nI (pConsText f n).length) (nI n)) ?_ gFuel 0 (by omega) (gFuel_lt (by omega)) G (by rw [show pConsText f 0 = [] from rfl, putL_nil]; exact h)
  intro n ff hn hs G h
  have hlen := pConsText_len hc n hn
  unfold wp_X3_renderContracts_9
  refine mRd0 h (i := 11) (j := 11) rfl (by decide) ?_
  rw [hw.2.2.1]
  by_cases e : n = nC f
  · subst e
    refine brT (Int32.le_refl _) ?_
    unfold wp_X3_renderContracts_47
    exact mPut h (by decide) fun G' h' => k G' h'
  · have hs := hs (by omega)
    have go : ∀ (G : gS) (s : List Nat), mSt G0 m B G I0 (mar (mar V 12 (putL L0 0 s)) 0 f) → s.length ≤ 200 → s ++ pConText f n = pConsText f (n + 1) → wp_X3_renderContracts_36 ad X K ff G m (nI n) (nI s.length) m := by
      intro G s h hl he
      unfold wp_X3_renderContracts_36
      refine ⟨h.is, sm_writesContract h (by omega) (hc n (by omega)) (by omega) fun G2 h2 => ?_⟩
      rw [he] at h2 ⊢
      rw [← nI_succ]
      exact hs G2 h2
    refine brF (nI_ge (by omega) (by omega)) ⟨fun q => ⟨h.is, sm_put h (c := 32) rfl rfl (by omega) fun G2 h2 => ?_⟩, fun q => ?_⟩
    · have hn0 : n ≠ 0 := fun z => q (by rw [z]; rfl)
      rw [putL_app (by omega)] at h2
      have := go G2 (pConsText f n ++ [32]) h2 (by rw [List.length_append, List.length_cons, List.length_nil]; omega) (by rw [pConsText, if_neg hn0])
      rw [List.length_append] at this
      exact this
    · have hn0 : n = 0 := (nI_eq (b := 0) (by omega) (by omega)).mp q
      subst hn0
      exact go G _ h (by omega) rfl
theorem sm_outputAt (h : mSt G0 m B G I V) {n : Nat} (hn : I 13 = nI n) (hn2 : n ≤ 240) {x : Int32} {K : Int32 → gS → Prop} (k : mAns ad G0 m B I V (pIn x 0 (nI n - 1)) (((V 12 x.toNatClampNeg).toUInt32 % 65536).toInt32) K) : wp_X3_outputAt ad G m x X K := by
  unfold wp_X3_outputAt
  refine mI h (by decide) (sm_isIn ⟨h.is, ?_⟩)
  rw [hn]
  refine sm_goes3 h rfl k.1 fun q G' h' => ?_
  have k2 := k.2 q G' h'
  obtain ⟨j, hj, rfl⟩ := (pIn_nI (by omega)).mp q
  rw [nI_clamp (by omega)] at k2
  exact mQ h' m12 (wNN_of (mLd h' m12 rfl (by show _ < 240; omega) ⟨pk_nc _, k2⟩))
theorem sm_type (h : mSt G0 m B G I V) {n : Nat} (hn : I 11 = nI n) (hn2 : n ≤ 60) {x : Int32} {K : Int32 → gS → Prop} (k0 : (pIn x 32 126 && decide (n < 60)) = false → ∀ G', mSt G0 m B G' (upd I 14 (pHolds (pIn x 32 126) (decide (n < 60)) true true)) V → K 0 G') (k : (pIn x 32 126 && decide (n < 60)) = true → ∀ G', mSt G0 m B G' (upd (upd I 14 0) 11 (nI (n + 1))) (mar V 10 (upd (V 10) n x)) → K (nI (n + 1)) G') : wp_X3_type ad G m x X K := by
  have key : ∀ y, y = bI (decide (n < 60)) → wp_X3_type_23 ad X K G m x y (bI (pIn x 32 126)) m := by
    intro y hy
    unfold wp_X3_type_23
    refine ⟨h.is, sm_holds h rfl hy (c := true) rfl (d := true) rfl fun G h => ?_⟩
    rw [Bool.and_true, Bool.and_true]
    refine bI_br' (fun q => ?_) (fun q => k0 q G h)
    have k := k q
    rw [Bool.and_eq_true] at q
    rw [q.1, q.2] at h
    have hlt := of_decide_eq_true q.2
    have h : mSt G0 m B G (upd I 14 0) V := h
    refine mQ h m10 (mI h (by decide) (wNN_of (mSa h m10 (j := n) (by rw [upd_ne (by omega), hn]) hlt fun G2 h2 => mI h2 (by decide) (mPut h2 (by decide) fun G3 h3 => mI h3 (by decide) ?_))))
    rw [upd_self]
    rw [upd_ne (by omega : 11 ≠ 14), hn, ← nI_succ] at h3 ⊢
    exact k G3 h3
  unfold wp_X3_type
  refine sm_isIn (mI h (by decide) ?_)
  rw [hn]
  refine ⟨fun q => key _ ?_, fun q => key _ ?_⟩
  · rw [decide_eq_false (fun z => absurd ((nI_leI (a := 60) (by omega) (by omega)).mp q) (by omega))]; rfl
  · rw [decide_eq_true (Nat.lt_of_not_le fun z => q (nI_le z (by omega)))]; rfl
end MOD
