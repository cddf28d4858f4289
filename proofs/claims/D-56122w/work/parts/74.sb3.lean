/-! PURE: a number put behind a text; a builder's string; a new builder -/
set_option maxRecDepth 20000
section S3
variable {ad : Nat → Nat} {G : gS} {b v cap n : Nat} {l : List Int32} {X : Nat → gS → Prop}
theorem bs.gto {G' : gS} (hb : bs ad G) {n m : Nat} {T : Nat → Prop} (t : gTo T n m G G') (hT : ∀ b, T b → ∃ c, G.1 b = some (true, c)) : bs ad G' := hb.to (t.kO fun b z c h => by
  obtain ⟨d, e⟩ := hT b z
  rw [e] at h
  cases h)
theorem sbV.tr (h : sbV G b l v cap) : ∀ x, bT b v x → ∃ c, G.1 x = some (true, c) := by
  obtain ⟨g, x2, h1, h2, -⟩ := h
  rintro x (z | z)
  · subst z; exact ⟨_, h1⟩
  · subst z; exact ⟨_, h2⟩
theorem pNum_b {u : Nat} : ∀ c, c ∈ (pNum u).map nI → ∃ m, m < 128 ∧ c = nI m := by
  intro c hc
  obtain ⟨m, hm, rfl⟩ := List.mem_map.mp hc
  obtain ⟨i, -, rfl⟩ := List.mem_map.mp hm
  refine ⟨_, ?_, rfl⟩
  rw [sb_dec]
  have : u / 10 ^ (sb_dg u - 1 - i) % 10 < 10 := Nat.mod_lt _ (by omega)
  omega
theorem sp_appendI (hb : bs ad G) (h : sbV G b l v cap) (hl : l.length ≤ 200) (r1 : 1 ≤ G.2.1) (r2 : 1000 ≤ G.2.2) {u : Nat} (hu : u < 10 ^ 9) {K : Option Nat → gS → Prop} (k : ∀ G' v' cap', gTo (bT b v) 1 (2 * (l.length + 10)) G G' → (v' = v ∨ G.1 v' = none) → sbV G' b (l ++ (pNum u).map nI) v' cap' → K (some b) G') : gIs G b 6 ∧ wp_J6_append_2 ad G b (nI u) X K := by
  have hi := h.is
  refine ⟨hi, ?_⟩
  have hh := h
  obtain ⟨g, x2, h1, h2, h3, h4, h5⟩ := h
  have d1 := sb_dg_in u
  unfold wp_J6_append_2 wp_J5_append_2
  refine ⟨hi, wGetI_of h1 rfl (sp_stringSize hu (sp_ensure hh (n := l.length + sb_dg u) (by omega) r1 r2 (nI_add _ _) fun G1 v1 cap1 hc1 t1 hv1 s1 => ⟨s1.is, ?_⟩))⟩
  have hb1 := hb.gto t1 hh.tr
  have hs1 := s1
  obtain ⟨g1, y2, a1, a2, ⟨a3, a3'⟩, a4, a5⟩ := s1
  unfold wp_J5_isLatin1
  refine wGetI_of a1 rfl (brT' rfl (brF (by decide) (wGetQ_of a1 (x := some v1) rfl ?_)))
  rw [nI_add]
  refine sp_getChars hb1 hu a2 hc1 a3' fun r G3 g' s3 e1 e2 e3 => ?_
  unfold wp_J5_append_2_48
  refine wPut_sC ((s3.2.1 b (Ne.symm hs1.ne)).trans a1) (ltb rfl) rfl fun G4 t4 => ?_
  have len : ((pNum u).map nI).length = sb_dg u := by rw [List.length_map, pNum_len]
  have gd : ∀ j, j < sb_dg u → ((pNum u).map nI).getD j 0 = nI (sb_dec u j) := fun j hj => by
    rw [List.getD_eq_getElem?_getD, List.getElem?_map, pNum, List.getElem?_map, List.getElem?_range hj]
    rfl
  have t4' : sC G3 b (gO true 6 [va_rf (some v1), .int 0, .int y2, .int (nI (l.length + ((pNum u).map nI).length))]) G4 := by
    rw [len]
    exact t4
  obtain ⟨q1, q2⟩ := hs1.put (s := (pNum u).map nI) a2 s3 t4' (by rw [len]; exact hc1) e2 (fun j hj => by rw [len] at hj; rw [e1 j hj, gd j hj]) (fun j hj _ => e3 j (by rw [len] at hj; exact hj)) pNum_b
  exact k G4 v1 cap1 (t1.trans (T := bT b v) q2 (fun x z => Or.inr z) (bT_mono (G' := G1) hv1) (by omega) (by omega)) hv1 q1
theorem wCloneB_nC {a : Nat} {m : Nat} {f : Nat → Int32} {K : Nat → gS → Prop} (h : G.1 a = some (gAb true m f)) (hf : ∀ i, i < m → ∃ x, x < 128 ∧ f i = nI x) (h1 : 1 ≤ G.2.1) (h2 : m ≤ G.2.2) (k : ∀ q G', nC' G q (gAb true m f) m G' → K q G') : wCloneB G a K :=
  ⟨m, f, h, fun i hi => by
    obtain ⟨x, hx, e⟩ := hf i hi
    rw [e]
    exact fitB hx, h1, h2, fun q hq => k q _ (nC'_new hq h1 h2)⟩
/-- a copy of the first signs -/
theorem sp_copyR {g : Nat → Int32} {u : Nat} (hv : G.1 v = some (gAb true cap g)) (hu : u ≤ cap) (hcap : cap ≤ 1000) (hg : ∀ j, j < cap → ∃ m, m < 128 ∧ g j = nI m) (r1 : 1 ≤ G.2.1) (r2 : 1000 ≤ G.2.2) {K : Option Nat → gS → Prop} (k : ∀ G' q g', nC' G q (gAb true u g') u G' → (∀ j, j < u → g' j = g j) → K (some q) G') : wp_J13_copyOfRange ad G (some v) (0 : Int32) (nI u) X K := by
  unfold wp_J13_copyOfRange wp_J13_copyOfRange_10 wp_J13_copyOfRangeByte wp_J13_checkLength
  refine brT' rfl (wNN_of (wLen_of hv (by decide) ⟨fun z => ?_, fun _ => brT (nI_pos' (by omega)) ?_⟩))
  · have z : nI u = nI cap := z
    rw [nI_eq (by omega) (by omega)] at z
    subst z
    exact wCloneB_nC hv hg r1 (by omega) fun q G' s => ⟨⟨_, _, _, s.2.1⟩, k G' q g s fun _ _ => rfl⟩
  · have e0 : nI u - (0 : Int32) = nI u := by rw [show (0 : Int32) = nI 0 from rfl, nI_sub (by omega), Nat.sub_zero]
    refine wNewB_nC e0 (by omega) r1 (by omega) fun q G2 s => wNN_of (wLen_of (s.old hv) (by decide) ?_)
    refine wCopyB_sC (p := 0) (q := 0) (r := u) rfl rfl ?_ (s.old hv) s.2.1 (by omega) (by omega) (by omega) (by omega) (fun i hi => by rw [Nat.zero_add]; exact hg i (by omega)) fun G3 t3 => k G3 q _ (s.set t3) fun j hj => sb_cpy0 hj
    show (if nI u - 0 < nI cap - 0 then nI u - 0 else nI cap - 0) = nI u
    have e1 : nI cap - (0 : Int32) = nI cap := by rw [show (0 : Int32) = nI 0 from rfl, nI_sub (by omega), Nat.sub_zero]
    rw [e0, e1]
    by_cases q2 : u < cap
    · rw [if_pos (nI_lt q2 (by omega))]
    · rw [if_neg (nI_nlt (by omega) (by omega)), show cap = u by omega]
theorem sp_toString (h : sbV G b l v cap) (hl : l.length ≤ 400) (r1 : 2 ≤ G.2.1) (r2 : 1010 ≤ G.2.2) {K : Option Nat → gS → Prop} (k : ∀ G' s sv, gTo (fun _ => False) 2 (4 + l.length) G G' → G.1 s = none → G.1 sv = none → sV G' s l sv → K (some s) G') : gIs G b 6 ∧ wp_J6_toString ad G b X K := by
  refine ⟨h.is, ?_⟩
  have hi := h.is
  obtain ⟨g, x2, h1, h2, ⟨h3, h3'⟩, h4, h5⟩ := h
  unfold wp_J6_toString wp_J7_init wp_J7_init_2 wp_J5_getValue wp_J6_length wp_J5_length wp_J5_isLatin1
  refine wNew_nC (by omega) (by omega) fun a G1 s1 => ?_
  have g1 := s1.old h1
  have i1 := gIs_of g1
  refine wNN_of ⟨i1, wGetQ_of g1 (x := some v) rfl ⟨i1, i1, wGetI_of g1 rfl ⟨i1, wGetI_of g1 rfl (brT' rfl (brF (by decide) (wPut_sC s1.2.1 (ltb rfl) rfl fun G2 t2 => ?_)))⟩⟩⟩
  have s2 := s1.set t2
  have rr := s2.2.2.2.2.2
  have q1 : 1 ≤ G2.2.1 := by rw [rr]; show 1 ≤ G.2.1 - 1; omega
  have q2 : 1000 ≤ G2.2.2 := by rw [rr]; show 1000 ≤ G.2.2 - 4; omega
  refine sp_copyR (s2.old h2) h3 h3' h5 q1 q2 fun G3 q g' s3 e3 => ?_
  have ha3 := s3.old s2.2.1
  have haq : a ≠ q := s3.ne s2.2.1
  refine wPut_sC ha3 (ltb rfl) rfl fun G4 t4 => k G4 a q ?_ s1.1 ?_ ⟨true, _, _, true, g', t4.1, ?_, fun j hj => ?_, hl⟩
  · exact (s2.to (T := fun _ => False)).trans (T2 := fun x => x = a) (s3.to.trans (T1 := fun _ => False) (T := fun x => x = a) (t4.to (T := fun x => x = a) ha3 rfl) (fun x z => z.elim) (fun x z => Or.inr z) (Nat.le_refl _) (Nat.le_refl _)) (fun x z => z.elim) (fun x z => Or.inl (by rw [z]; exact s1.1)) (by omega) (by omega)
  · cases e : G.1 q with
    | none => rfl
    | some c =>
      have := s2.old e
      rw [s3.1] at this
      cases this
  · rw [t4.2.1 q (Ne.symm haq)]; exact s3.2.1
  · rw [e3 j hj]; exact h4 j hj
theorem sp_setLen0 (h : sbV G b l v cap) (r1 : 1 ≤ G.2.1) (r2 : 1000 ≤ G.2.2) {K : gS → Prop} (k : ∀ G', gTo (bT b v) 0 0 G G' → sbV G' b [] v cap → K G') : gIs G b 6 ∧ wp_J6_setLength ad G b (0 : Int32) X K := by
  have hi := h.is
  refine ⟨hi, ?_⟩
  have hne := h.ne
  obtain ⟨g, x2, h1, h2, ⟨h3, h3'⟩, h4, h5⟩ := h
  unfold wp_J6_setLength wp_J5_setLength wp_J5_setLength_76 wp_J5_ensureCapacityInternal
  refine ⟨hi, brT (by decide) ⟨hi, wGetQ_of h1 (x := some v) rfl (wNN_of (wLen_of h2 (by decide) (wGetI_of h1 rfl (brT ?_ (wGetI_of h1 rfl (brT (nI_pos' (by omega)) (wGetI_of h1 rfl ⟨fun z => ?_, fun z => ?_⟩)))))))⟩⟩
  · show (0 : Int32) - (nI cap >>> ((0 : Int32) &&& 31)) ≤ 0
    rw [sb_shr0, show (0 : Int32) = nI 0 from rfl]
    exact (sub_le0 (by omega) (by omega)).mpr (Nat.zero_le _)
  · refine wPut_sC h1 (ltb rfl) rfl fun G2 t2 => k G2 ((t2.to (T := bT b v) h1 (Or.inl rfl))) ⟨g, x2, t2.1, by rw [t2.2.1 v hne]; exact h2, ⟨Nat.zero_le _, h3'⟩, fun j hj => absurd hj (Nat.not_lt_zero j), h5⟩
  · refine wPut_sC h1 (ltb rfl) rfl fun G1 t1 => wPut_sC t1.1 (ltb rfl) rfl fun G2 t2 => k G2 (((t1.trans t2).to (T := bT b v) h1 (Or.inl rfl))) ⟨g, 1, t2.1, by rw [(t1.trans t2).2.1 v hne]; exact h2, ⟨Nat.zero_le _, h3'⟩, fun j hj => absurd hj (Nat.not_lt_zero j), h5⟩
theorem sp_sbNew (r1 : 2 ≤ G.2.1) (r2 : 20 ≤ G.2.2) {K : Nat → gS → Prop} (k : ∀ G' b v, gTo (fun _ => False) 2 20 G G' → G.1 b = none → G.1 v = none → sbV G' b [] v 16 → K b G') : wNew G 6 4 [.null, .int 0, .int 0, .int 0] fun c2 G1 => wp_J6_init ad G1 c2 X (fun G2 => K c2 G2) := by
  refine wNew_nC (by omega) (by omega) fun a G1 s1 => ?_
  unfold wp_J6_init wp_J5_init
  have rr := s1.2.2.2.2.2
  refine wNewB_nC (m := 16) rfl (by omega) (by rw [rr]; show 1 ≤ G.2.1 - 1; omega) (by rw [rr]; show 16 ≤ G.2.2 - 4; omega) fun q G2 s2 => ?_
  have ha := s2.old s1.2.1
  have haq : a ≠ q := s2.ne s1.2.1
  refine wPut_sC ha (ltb rfl) rfl fun G3 t3 => wPut_sC t3.1 (ltb rfl) rfl fun G4 t4 => ?_
  have t34 := t3.trans t4
  refine k G4 a q ?_ s1.1 ?_ ⟨fun _ => 0, 0, t4.1, ?_, ⟨Nat.zero_le _, by omega⟩, fun j hj => absurd hj (Nat.not_lt_zero j), fun j hj => ⟨0, by omega, rfl⟩⟩
  · exact (s1.to (T := fun _ => False)).trans (T2 := fun x => x = a) (s2.to.trans (T1 := fun _ => False) (T := fun x => x = a) (t34.to (T := fun x => x = a) ha rfl) (fun x z => z.elim) (fun x z => Or.inr z) (Nat.le_refl _) (Nat.le_refl _)) (fun x z => z.elim) (fun x z => Or.inl (by rw [z]; exact s1.1)) (by omega) (by omega)
  · cases e : G.1 q with
    | none => rfl
    | some c =>
      have := s1.old e
      rw [s2.1] at this
      cases this
  · rw [t34.2.1 q (Ne.symm haq)]; exact s2.2.1
end S3
