/-! PURE: builders of text -/
set_option maxRecDepth 20000
abbrev bT (b v : Nat) : Nat → Prop := fun x => x = b ∨ x = v
theorem gD_app (s t : List Int32) (k : Nat) : (s ++ t).getD k 0 = if k < s.length then s.getD k 0 else t.getD (k - s.length) 0 := by
  rw [List.getD_eq_getElem?_getD, List.getElem?_append]
  split
  · rw [List.getD_eq_getElem?_getD]
  · rw [List.getD_eq_getElem?_getD]
theorem gD_mem {l : List Int32} {j : Nat} (h : j < l.length) : l.getD j 0 ∈ l := by
  rw [List.getD_eq_getElem?_getD, List.getElem?_eq_getElem h]
  exact List.getElem_mem h
theorem nI_subN {a b : Nat} (h : a ≤ b) : nI a - nI b = -nI (b - a) := by
  have e : nI b = nI (b - a) + nI a := by rw [nI_add, Nat.sub_add_cancel h]
  rw [e, Int32.sub_eq_add_neg, Int32.neg_add, Int32.sub_eq_add_neg, Int32.add_comm (-nI (b - a)), ← Int32.add_assoc, ← Int32.sub_eq_add_neg (nI a), Int32.sub_self, Int32.zero_add]
theorem sub_le0 {a b : Nat} (ha : a < 2 ^ 31) (hb : b < 2 ^ 31) : nI a - nI b ≤ 0 ↔ a ≤ b := by
  rcases Nat.lt_or_ge b a with h | h
  · rw [nI_sub (Nat.le_of_lt h)]
    constructor
    · intro q
      exact absurd q (nI_nle (by omega) (by omega))
    · intro q
      omega
  · rw [nI_subN h, show (0 : Int32) = -nI 0 from rfl, sb_nle (by omega) (by omega)]
    omega
theorem wNewB_nC {G : gS} {m : Nat} {K : Nat → gS → Prop} {x : Int32} (hx : x = nI m) (hm : m ≤ 65536) (h1 : 1 ≤ G.2.1) (h2 : m ≤ G.2.2) (k : ∀ a G', nC' G a (gAb true m (fun _ => 0)) m G' → K a G') : wNewB G x K := by
  subst hx
  have e : (nI m).toNatClampNeg = m := nI_clamp (by omega)
  refine ⟨nI_pos (by omega), by rw [e]; exact hm, h1, by rw [e]; exact h2, fun a ha => ?_⟩
  rw [e]
  exact k a _ (nC'_new ha h1 h2)
theorem fit128 : ∀ m, m < 128 → (nI m).toInt8.toInt32 = nI m := by decide
theorem fitB {m : Nat} (h : m < 128) : fits .byte (.int (nI m)) = true := by
  rw [← fit128 m h]
  exact pk_fb _
theorem wCopyB_sC {G : gS} {a0 a : Nat} {sp dp n : Int32} {p q r : Nat} (e1 : sp = nI p) (e2 : dp = nI q) (e3 : n = nI r) {w : Bool} {n0 n1 : Nat} {f g : Nat → Int32} {K : gS → Prop} (h0 : G.1 a0 = some (gAb w n0 f)) (h1 : G.1 a = some (gAb true n1 g)) (hp : p + r ≤ n0) (hq : q + r ≤ n1) (hn : n0 < 2 ^ 31) (hn1 : n1 < 2 ^ 31) (hf : ∀ i, i < r → ∃ m, m < 128 ∧ f (p + i) = nI m) (k : ∀ G', sC G a (gAb true n1 (va_cpy f g p q r)) G' → K G') : wCopyB G a0 sp a dp n K := by
  subst e1 e2 e3
  have c1 : (nI p).toNatClampNeg = p := nI_clamp (by omega)
  have c2 : (nI q).toNatClampNeg = q := nI_clamp (by omega)
  have c3 : (nI r).toNatClampNeg = r := nI_clamp (by omega)
  refine ⟨w, n0, n1, f, g, h0, h1, nI_pos (by omega), nI_pos (by omega), nI_pos (by omega), by rw [c1, c3]; exact hp, by rw [c2, c3]; exact hq, ?_, ?_⟩
  · rw [c3, c1]
    intro i hi
    obtain ⟨m, hm, e⟩ := hf i hi
    rw [e]
    exact fitB hm
  · rw [c1, c2, c3]
    exact k _ ⟨gSet_self, fun b hb => gSet_ne hb, rfl⟩
theorem wAstB_sC {G : gS} {a n p : Nat} {f : Nat → Int32} {i x : Int32} {K : gS → Prop} (hi : i = nI p) (h : G.1 a = some (gAb true n f)) (hp : p < n) (hn : n < 2 ^ 31) (k : ∀ G', sC G a (gAb true n (upd f p x.toInt8.toInt32)) G' → K G') : wAstB G a i x K := by
  subst hi
  refine wAstB_of h (vp_in_nI hp hn) ?_
  rw [nI_clamp (by omega)]
  exact k _ ⟨gSet_self, fun b hb => gSet_ne hb, rfl⟩
section SB
variable {ad : Nat → Nat} {G : gS} {b v cap n : Nat} {l : List Int32} {X : Nat → gS → Prop}
theorem sbV.is (h : sbV G b l v cap) : gIs G b 6 := by
  obtain ⟨g, x2, h1, -⟩ := h
  exact gIs_of h1
theorem sbV.ne (h : sbV G b l v cap) : v ≠ b := fun e => by
  obtain ⟨g, x2, h1, h2, -⟩ := h
  rw [e, h1] at h2
  cases h2
theorem sp_sbLen (h : sbV G b l v cap) {K : Int32 → gS → Prop} (k : K (nI l.length) G) : gIs G b 6 ∧ wp_J6_length ad G b X K := by
  refine ⟨h.is, ?_⟩
  have hi := h.is
  obtain ⟨g, x2, h1, -⟩ := h
  unfold wp_J6_length wp_J5_length
  exact ⟨hi, wGetI_of h1 rfl k⟩
theorem sp_ensure (h : sbV G b l v cap) (hn : n ≤ 450) (r1 : 1 ≤ G.2.1) (r2 : 1000 ≤ G.2.2) {x : Int32} (hx : x = nI n) {K : gS → Prop} (k : ∀ G' v' cap', n ≤ cap' → gTo (bT b v) 1 (2 * n) G G' → (v' = v ∨ G.1 v' = none) → sbV G' b l v' cap' → K G') : gIs G b 6 ∧ wp_J5_ensureCapacityInternal ad G b x X K := by
  subst hx
  have hi := h.is
  refine ⟨hi, ?_⟩
  have h0 := h
  obtain ⟨g, x2, h1, h2, ⟨h3, h3'⟩, h4, h5⟩ := h
  unfold wp_J5_ensureCapacityInternal
  refine wGetQ_of h1 (x := some v) rfl (wNN_of (wLen_of h2 (by decide) (wGetI_of h1 rfl ⟨fun e => ?_, fun e => ?_⟩)))
  · have e : nI n - (nI cap >>> ((0 : Int32) &&& 31)) ≤ 0 := e
    rw [sb_shr0, sub_le0 (by omega) (by omega)] at e
    exact k G v cap e (gTo.refl.mono (fun _ z => Or.inr z) (by omega) (by omega)) (Or.inl rfl) h0
  · have e : ¬ nI n - (nI cap >>> ((0 : Int32) &&& 31)) ≤ 0 := e
    rw [sb_shr0, sub_le0 (by omega) (by omega)] at e
    refine wGetQ_of h1 (x := some v) rfl ⟨hi, ?_⟩
    unfold wp_J5_newCapacity wp_J11_newLength
    refine wGetQ_of h1 (x := some v) rfl (wNN_of (wLen_of h2 (by decide) (wGetI_of h1 rfl (wGetI_of h1 rfl ?_))))
    show (nI cap + (if (nI n <<< ((0 : Int32) &&& 31)) - nI cap < nI cap + ((2 : Int32) <<< ((0 : Int32) &&& 31)) then nI cap + ((2 : Int32) <<< ((0 : Int32) &&& 31)) else (nI n <<< ((0 : Int32) &&& 31)) - nI cap) ≤ 0 → _) ∧ (¬ _ → (_ → _) ∧ (¬ _ → _))
    obtain ⟨m, hm1, hm2, em⟩ : ∃ m, n ≤ cap + m ∧ cap + m ≤ 2 * n ∧ (if (nI n <<< ((0 : Int32) &&& 31)) - nI cap < nI cap + ((2 : Int32) <<< ((0 : Int32) &&& 31)) then nI cap + ((2 : Int32) <<< ((0 : Int32) &&& 31)) else (nI n <<< ((0 : Int32) &&& 31)) - nI cap) = nI m := by
      rw [sb_shl0, sb_shl0, nI_sub (by omega), show (2 : Int32) = nI 2 from rfl, nI_add]
      by_cases q : n - cap < cap + 2
      · rw [if_pos (nI_lt q (by omega))]
        exact ⟨cap + 2, by omega, by omega, rfl⟩
      · rw [if_neg (nI_nlt (by omega) (by omega))]
        exact ⟨n - cap, by omega, by omega, rfl⟩
    rw [em, nI_add]
    have hc1 : cap < cap + m := by omega
    refine ⟨fun z => absurd z (nI_nle (by omega) (by omega)), fun _ => ⟨fun z => absurd z ?_, fun _ => ⟨fun _ => wGetI_of h1 rfl (wGetI_of h1 rfl ?_), fun z => absurd z ?_⟩⟩⟩
    · rw [show (2147483639 : Int32) = nI 2147483639 from rfl]
      exact nI_nlt (by omega) (by omega)
    · unfold wp_J13_copyOf
      rw [sb_shr0, sb_shl0]
      refine wNN_of (wLen_of h2 (by decide) ⟨fun _ => wNewB_nC rfl (by omega) r1 (by omega) fun a G3 s3 => wLen_of (s3.old h2) (by decide) (wCopyB_sC (p := 0) (q := 0) (r := cap) rfl rfl ?_ (s3.old h2) s3.2.1 (by omega) (by omega) (by omega) (by omega) (fun i hi => by rw [Nat.zero_add]; exact h5 i hi) fun G6 t6 => ?_), fun z => ?_⟩)
      · show (if nI (cap + m) < nI cap then nI (cap + m) else nI cap) = nI cap
        rw [if_neg (nI_nlt (by omega) (by omega))]
      · have hab : a ≠ b := Ne.symm (s3.ne h1)
        have s6 := s3.set t6
        refine wPut_sC (s6.old h1) (ltb rfl) rfl fun G7 t7 => k G7 a (cap + m) hm1 ?_ (Or.inr s3.1) ⟨va_cpy g (fun _ => 0) 0 0 cap, x2, t7.1, ?_, ⟨by omega, by omega⟩, fun j hj => ?_, fun j hj => ?_⟩
        · exact s6.to.trans (T1 := fun _ => False) (t7.to (T := fun x => x = b) (s6.old h1) rfl) (fun x z => z.elim) (fun x z => Or.inr (Or.inl z)) (by omega) (by omega)
        · rw [t7.2.1 a hab]; exact s6.2.1
        · rw [sb_cpy0 (by omega)]; exact h4 j hj
        · by_cases q : j < cap
          · rw [sb_cpy0 q]; exact h5 j q
          · refine ⟨0, by omega, ?_⟩
            simp only [va_cpy]
            rw [if_neg (by omega)]
            rfl
      · have z : nI (cap + m) = nI cap := z
        rw [nI_eq (by omega) (by omega)] at z
        omega
    · rw [show (2147483647 : Int32) = nI 2147483647 from rfl, nI_eq (by omega) (by omega)]
      omega
/-- signs put behind -/
theorem sbV.put (h : sbV G b l v cap) {s : List Int32} {a' : Nat → Int32} {G1 G2 : gS} {g : Nat → Int32} (hv : G.1 v = some (gAb true cap g)) (t1 : sC G v (gAb true cap a') G1) {x2 : Int32} (t2 : sC G1 b (gO true 6 [va_rf (some v), .int 0, .int x2, .int (nI (l.length + s.length))]) G2) (hl : l.length + s.length ≤ cap) (h1 : ∀ j, j < l.length → a' j = g j) (h2 : ∀ j, j < s.length → a' (l.length + j) = s.getD j 0) (h3 : ∀ j, l.length + s.length ≤ j → j < cap → a' j = g j) (hs : ∀ c, c ∈ s → ∃ m, m < 128 ∧ c = nI m) : sbV G2 b (l ++ s) v cap ∧ gTo (bT b v) 0 0 G G2 := by
  have hne := h.ne
  obtain ⟨g0, x0, e1, e2, ⟨h3', h3''⟩, h4, h5⟩ := h
  have hg : g0 = g := by
    rw [hv] at e2
    injection e2 with e2
    injection e2 with _ e2
    injection e2 with e2
    injection e2 with _ e2
    injection e2 with _ e2
    injection e2 with e2
    exact e2.symm
  subst hg
  refine ⟨⟨a', x2, ?_, ?_, ⟨by rw [List.length_append]; exact hl, h3''⟩, fun j hj => ?_, fun j hj => ?_⟩, ?_⟩
  · rw [t2.1, List.length_append]
  · rw [t2.2.1 v hne]; exact t1.1
  · rw [List.length_append] at hj
    rw [gD_app]
    by_cases q : j < l.length
    · rw [if_pos q, h1 j q]; exact h4 j q
    · rw [if_neg q, ← h2 (j - l.length) (by omega), show l.length + (j - l.length) = j by omega]
  · by_cases q : j < l.length
    · rw [h1 j q]; exact h5 j hj
    · by_cases q2 : j < l.length + s.length
      · have e := h2 (j - l.length) (by omega)
        rw [show l.length + (j - l.length) = j by omega] at e
        rw [e]
        exact hs _ (gD_mem (by omega))
      · rw [h3 j (by omega) hj]; exact h5 j hj
  · have e1' : ∃ c, G1.1 b = some c := ⟨_, (t1.2.1 b (Ne.symm hne)).trans e1⟩
    obtain ⟨c, e1'⟩ := e1'
    exact (t1.to (T := bT b v) hv (Or.inr rfl)).trans (T := bT b v) (t2.to (T := bT b v) e1' (Or.inl rfl)) (fun b z => Or.inr z) (fun b z => Or.inr z) (Nat.le_refl _) (Nat.le_refl _)
theorem bT_mono {v' : Nat} {G' : gS} (hv : v' = v ∨ G.1 v' = none) : ∀ x, bT b v' x → G.1 x = none ∨ bT b v x := fun x z => by
  rcases z with z | z
  · exact Or.inr (Or.inl z)
  · subst z
    rcases hv with q | q
    · exact Or.inr (Or.inr q)
    · exact Or.inl q
theorem sp_appendC (h : sbV G b l v cap) (hl : l.length ≤ 400) (r1 : 1 ≤ G.2.1) (r2 : 1000 ≤ G.2.2) {m : Nat} (hm : m < 128) {K : Option Nat → gS → Prop} (k : ∀ G' v' cap', gTo (bT b v) 1 (2 * (l.length + 1)) G G' → (v' = v ∨ G.1 v' = none) → sbV G' b (l ++ [nI m]) v' cap' → K (some b) G') : gIs G b 6 ∧ wp_J6_append_3 ad G b (nI m) X K := by
  have hi := h.is
  refine ⟨hi, ?_⟩
  have hh := h
  obtain ⟨g, x2, h1, h2, h3, h4, h5⟩ := h
  unfold wp_J6_append_3 wp_J5_append_3
  refine ⟨hi, wGetI_of h1 rfl (sp_ensure hh (n := l.length + 1) (by omega) r1 r2 (nI_1 _) fun G1 v1 cap1 hc1 t1 hv1 s1 => ⟨s1.is, ?_⟩)⟩
  have hs1 := s1
  obtain ⟨g1, y2, a1, a2, a3, a4, a5⟩ := s1
  unfold wp_J5_isLatin1 wp_J19_canEncode
  refine wGetI_of a1 rfl (brT' rfl (brF (by decide) ⟨fun z => absurd z ?_, fun _ => brF (by decide) (wGetQ_of a1 (x := some v1) rfl (wGetI_of a1 rfl (wPut_sC a1 (ltb rfl) rfl fun G2 t2 => wNN_of (wAstB_sC rfl ((t2.2.1 v1 hs1.ne).trans a2) (by omega) (by omega) fun G3 t3 => ?_))))⟩))
  · rw [show (255 : Int32) = nI 255 from rfl]
    exact nI_nlt (by omega) (by omega)
  · -- the two writes, told in the other order
    have hne := hs1.ne
    have tb : sC G1 v1 (gAb true cap1 (upd g1 l.length (nI m).toInt8.toInt32)) (gSet G1 v1 (gAb true cap1 (upd g1 l.length (nI m).toInt8.toInt32))) := ⟨gSet_self, fun b hb => gSet_ne hb, rfl⟩
    have tc : sC (gSet G1 v1 (gAb true cap1 (upd g1 l.length (nI m).toInt8.toInt32))) b (gO true 6 [va_rf (some v1), .int 0, .int y2, .int (nI (l.length + [nI m].length))]) G3 := by
      refine ⟨?_, fun x hx => ?_, by rw [t3.2.2, t2.2.2]; rfl⟩
      · rw [t3.2.1 b (Ne.symm hne), t2.1, show nI (l.length + [nI m].length) = nI l.length + 1 from nI_succ _]
        rfl
      · by_cases q : x = v1
        · subst q
          rw [t3.1, gSet_self, fit128 m hm, fit128 m hm]
        · rw [t3.2.1 x q, t2.2.1 x hx, gSet_ne q]
    have f2 : ∀ j, j < [nI m].length → upd g1 l.length (nI m).toInt8.toInt32 (l.length + j) = [nI m].getD j 0 := fun j hj => by
      have : j = 0 := Nat.lt_one_iff.mp hj
      subst this
      rw [Nat.add_zero, upd_self, fit128 m hm]
      rfl
    obtain ⟨q1, q2⟩ := hs1.put (s := [nI m]) a2 tb tc (by show l.length + 1 ≤ cap1; exact hc1) (fun j hj => upd_ne (by omega)) f2 (fun j hj _ => upd_ne (by have hj : l.length + 1 ≤ j := hj; omega)) (fun c hc => ⟨m, hm, by simpa using hc⟩)
    exact k G3 v1 cap1 (t1.trans (T := bT b v) q2 (fun x z => Or.inr z) (bT_mono (G' := G1) hv1) (by omega) (by omega)) hv1 q1
theorem sp_appendS (h : sbV G b l v cap) (hl : l.length ≤ 200) (r1 : 1 ≤ G.2.1) (r2 : 1000 ≤ G.2.2) {s sv : Nat} {sl : List Int32} (hs : sV G s sl sv) (hne : sv ≠ v) (hsb : s ≠ b) (hsl : sl.length ≤ 200) (hsc : ∀ c, c ∈ sl → ∃ m, m < 128 ∧ c = nI m) {K : Option Nat → gS → Prop} (k : ∀ G' v' cap', gTo (bT b v) 1 (2 * (l.length + sl.length)) G G' → (v' = v ∨ G.1 v' = none) → sbV G' b (l ++ sl) v' cap' → K (some b) G') : gIs G b 6 ∧ wp_J6_append ad G b (some s) X K := by
  have hi := h.is
  refine ⟨hi, ?_⟩
  have hh := h
  obtain ⟨g, x2, h1, h2, h3, h4, h5⟩ := h
  unfold wp_J6_append wp_J5_append
  refine ⟨hi, oS (sp_slen hs.s (wGetI_of h1 rfl (sp_ensure hh (n := l.length + sl.length) (by omega) r1 r2 (nI_add _ _) fun G1 v1 cap1 hc1 t1 hv1 s1 => ?_)))⟩
  have hs1 := s1
  obtain ⟨g1, y2, a1, a2, a3, a4, a5⟩ := s1
  have hsv : ∀ x c, G.1 x = some c → x = s ∨ x = sv → G1.1 x = some c := fun x c hx hq => t1.1 x c hx fun z => by
    rcases hq with q | q
    · subst q
      rcases z with z | z
      · exact hsb z
      · obtain ⟨w, hh, z2, w2, g9, e1, -⟩ := hs
        rw [z, h2] at e1
        cases e1
    · subst q
      rcases z with z | z
      · obtain ⟨w, hh, z2, w2, g9, e1, e2, -⟩ := hs
        rw [z, h1] at e2
        cases e2
      · exact hne z
  have hS := hs.to hsv
  have hne1 : sv ≠ v1 := fun z => by
    rcases hv1 with q | q
    · exact hne (z.trans q)
    · obtain ⟨w, hh, z2, w2, g9, e1, e2, -⟩ := hs
      rw [z, q] at e2
      cases e2
  have hS0 := hS
  obtain ⟨w, hhv, zv, w2, g9, e1, e2, e3, e4⟩ := hS
  refine wGetI_of a1 rfl ⟨hs1.is, ?_⟩
  unfold wp_J5_putStringAt wp_J5_inflateIfNeededFor wp_J7_getBytes wp_J7_coder
  refine ⟨hs1.is, wGetI_of a1 rfl (wNN_of ⟨gIs_of e1, wGetI_of e1 rfl ⟨rfl, brT rfl (wGetQ_of a1 (x := some v1) rfl (wGetI_of a1 rfl (wNN_of ⟨gIs_of e1, gIs_of e1, wGetI_of e1 rfl ⟨rfl, brT' rfl (wGetQ_of e1 (x := some sv) rfl (wGetQ_of e1 (x := some sv) rfl (wNN_of (wLen_of e2 (by decide) (wNN_of (wNN_of (wCopyB_sC (p := 0) (q := l.length) (r := sl.length) rfl ?_ rfl e2 a2 (by omega) hc1 (by omega) (by omega) (fun i hi => ?_) fun G2 t2 => ?_)))))))⟩⟩)))⟩⟩)⟩
  · exact sb_shl0 _
  · rw [Nat.zero_add, e3 i hi]
    exact hsc _ (gD_mem hi)
  · have hb2 : G2.1 b = some (gO true 6 [va_rf (some v1), .int 0, .int y2, .int (nI l.length)]) := (t2.2.1 b (Ne.symm hs1.ne)).trans a1
    refine wGetI_of hb2 rfl (wPut_sC hb2 (ltb rfl) rfl fun G3 t3 => ?_)
    have t3' : sC G2 b (gO true 6 [va_rf (some v1), .int 0, .int y2, .int (nI (l.length + sl.length))]) G3 := by
      rw [← nI_add]
      exact t3
    have f1 : ∀ j, j < l.length → va_cpy g9 g1 0 l.length sl.length j = g1 j := fun j hj => by
      simp only [va_cpy]
      rw [if_neg (by omega)]
    have f2 : ∀ j, j < sl.length → va_cpy g9 g1 0 l.length sl.length (l.length + j) = sl.getD j 0 := fun j hj => by
      simp only [va_cpy]
      rw [if_pos (by omega), show 0 + (l.length + j - l.length) = j by omega]
      exact e3 j hj
    have f3 : ∀ j, l.length + sl.length ≤ j → j < cap1 → va_cpy g9 g1 0 l.length sl.length j = g1 j := fun j hj _ => by
      simp only [va_cpy]
      rw [if_neg (by omega)]
    obtain ⟨q1, q2⟩ := hs1.put (s := sl) a2 t2 t3' hc1 f1 f2 f3 hsc
    exact k G3 v1 cap1 (t1.trans (T := bT b v) q2 (fun x z => Or.inr z) (bT_mono (G' := G1) hv1) (by omega) (by omega)) hv1 q1
end SB
