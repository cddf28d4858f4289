/-! PURE: what stands in the heap from the start; strings; exceptions (printed by gen/base.py) -/
set_option maxRecDepth 20000
def bST : List (Nat × List Int32 × Int32) := [(100, [], 0), (104, [32], 32), (105, [], 0), (106, [58], 58), (107, [62], 62), (108, [64], 64), (109, [47], 47), (110, [97, 114, 103, 117, 109, 101, 110, 116], -1589682499), (111, [115, 116, 97, 116, 101], 109757585), (113, [105, 110, 100, 101, 120], 100346066), (114, [97, 114, 103, 117, 109, 101, 110, 116], -1589682499), (115, [115, 116, 97, 116, 101], 109757585), (116, [101, 108, 101, 109, 101, 110, 116], -1662836996), (117, [105, 110, 100, 101, 120], 100346066), (118, [114, 117, 108, 101], 3512060), (119, [101, 108, 101, 109, 101, 110, 116], -1662836996), (120, [], 0), (121, [115], 115), (122, [112], 112), (123, [], 0), (124, [100], 100), (125, [122], 122), (126, [32, 103, 111, 98, 108, 105, 110, 32, 98, 114, 111, 111, 109, 32, 98, 97, 110, 105, 115, 104, 32, 114, 101, 99, 97, 108, 108, 32, 104, 105, 114, 101, 32, 99, 97, 110, 99, 101, 108, 32, 114, 101, 115, 116, 32, 119, 97, 107, 101, 32, 108, 101, 110, 100, 32, 102, 117, 110, 100, 32, 115, 112, 101, 110, 100, 32, 110, 105, 103, 104, 116, 32], -1901760024), (127, [32], 32), (130, [104, 105, 114, 101], 3202804), (131, [108, 101, 110, 100], 3317999), (132, [110, 105, 103, 104, 116], 104817688), (133, [32, 98, 114, 111, 111, 109, 32, 99, 97, 110, 99, 101, 108, 32, 102, 117, 110, 100, 32, 115, 112, 101, 110, 100, 32], -990766982), (134, [103, 111, 98, 108, 105, 110], -1240627241), (135, [98, 114, 111, 111, 109], 94011453), (136, [98, 97, 110, 105, 115, 104], -1396347377), (137, [114, 101, 99, 97, 108, 108], -934922479), (138, [99, 97, 110, 99, 101, 108], -1367724422), (139, [114, 101, 115, 116], 3496916), (140, [119, 97, 107, 101], 3641764), (141, [102, 117, 110, 100], 3154629), (147, [103, 111, 98, 108, 105, 110, 32, 98, 114, 111, 111, 109, 32, 98, 97, 110, 105, 115, 104, 32, 114, 101, 99, 97, 108, 108, 32, 104, 105, 114, 101, 32, 99, 97, 110, 99, 101, 108, 32, 114, 101, 115, 116, 32, 119, 97, 107, 101, 32, 108, 101, 110, 100, 32, 102, 117, 110, 100, 32, 115, 112, 101, 110, 100, 32, 110, 105, 103, 104, 116], 1007340824)]
/-- an old string at s, of signs l, whose hash is known -/
def bS (G : gS) (s : Nat) (l : List Int32) (hh : Int32) : Prop := ∃ (v : Nat) (z : Value) (g : Nat → Int32), G.1 s = some (gO false 7 [va_rf (some v), .int 0, .int hh, z]) ∧ G.1 v = some (gAb false l.length g) ∧ ∀ j, j < l.length → g j = l.getD j 0
/-- a string at s of signs l -/
def sR (G : gS) (s : Nat) (l : List Int32) : Prop := ∃ (w : Bool) (v : Nat) (hh z : Value) (w2 : Bool) (g : Nat → Int32), G.1 s = some (gO w 7 [va_rf (some v), .int 0, hh, z]) ∧ G.1 v = some (gAb w2 l.length g) ∧ (∀ j, j < l.length → g j = l.getD j 0) ∧ l.length ≤ 400
/-- the heap's old cells are there still -/
def kO (G G' : gS) : Prop := ∀ b c, G.1 b = some (false, c) → G'.1 b = some (false, c)
def bs (ad : Nat → Nat) (G : gS) : Prop := (∃ fs, G.1 (ad 0) = some (gO false 26 fs)) ∧ (∃ fs, G.1 (ad 1) = some (gO false 27 fs)) ∧ (∃ g, G.1 (ad 2) = some (gAq false 0 g)) ∧ (∃ g : Nat → Int32, G.1 (ad 3) = some (gAb false 100 g) ∧ ∀ j, j < 100 → g j = nI (48 + j % 10)) ∧ (∃ g : Nat → Int32, G.1 (ad 4) = some (gAb false 100 g) ∧ ∀ j, j < 100 → g j = nI (48 + j / 10)) ∧ (∀ q ∈ bST, bS G (ad q.1) q.2.1 q.2.2) ∧ ∀ i, i ∈ [13, 14, 15, 16] → G.1 (ad (200 + i)) = some (false, .inr (.inr (i, [])))
theorem kO.trans {G G1 G2 : gS} (h1 : kO G G1) (h2 : kO G1 G2) : kO G G2 := fun b c h => h2 b c (h1 b c h)
theorem kO.refl {G : gS} : kO G G := fun _ _ h => h
theorem gTo.kO {T : Nat → Prop} {n m : Nat} {G G' : gS} (t : gTo T n m G G') (hT : ∀ b, T b → ∀ c, G.1 b ≠ some (false, c)) : kO G G' := fun b c h => t.1 b _ h fun q => hT b q c h
theorem bS.to {G G' : gS} {s : Nat} {l : List Int32} {hh : Int32} (h : bS G s l hh) (t : kO G G') : bS G' s l hh := by
  obtain ⟨v, z, g, h1, h2, h3⟩ := h
  exact ⟨v, z, g, t _ _ h1, t _ _ h2, h3⟩
theorem bs.to {ad : Nat → Nat} {G G' : gS} (h : bs ad G) (t : kO G G') : bs ad G' := by
  obtain ⟨⟨f1, h1⟩, ⟨f2, h2⟩, ⟨f3, h3⟩, ⟨g4, h4, e4⟩, ⟨g5, h5, e5⟩, h6, h7⟩ := h
  exact ⟨⟨f1, t _ _ h1⟩, ⟨f2, t _ _ h2⟩, ⟨f3, t _ _ h3⟩, ⟨g4, t _ _ h4, e4⟩, ⟨g5, t _ _ h5, e5⟩, fun q hq => (h6 q hq).to t, fun i hi => t _ _ (h7 i hi)⟩
theorem bs.b4 {ad : Nat → Nat} {G : gS} (h : bs ad G) : gB4 ad G := by
  obtain ⟨⟨f1, h1⟩, ⟨f2, h2⟩, ⟨f3, h3⟩, -⟩ := h
  exact ⟨⟨_, _, h1⟩, ⟨_, _, h2⟩, ⟨_, _, h3⟩⟩
theorem bs.lam {ad : Nat → Nat} {G : gS} (h : bs ad G) {i : Nat} (hi : i ∈ [13, 14, 15, 16]) : gIsL G (ad (200 + i)) i [] := ⟨false, h.2.2.2.2.2.2 i hi⟩
theorem bS.s {G : gS} {s : Nat} {l : List Int32} {hh : Int32} (h : bS G s l hh) (hl : l.length ≤ 400) : sR G s l := by
  obtain ⟨v, z, g, h1, h2, h3⟩ := h
  exact ⟨_, v, _, z, _, g, h1, h2, h3, hl⟩
theorem bS.is {G : gS} {s : Nat} {l : List Int32} {hh : Int32} (h : bS G s l hh) : gIs G s 7 := by
  obtain ⟨v, z, g, h1, -⟩ := h
  exact gIs_of h1
theorem sR.is {G : gS} {s : Nat} {l : List Int32} (h : sR G s l) : gIs G s 7 := by
  obtain ⟨w, v, hh, z, w2, g, h1, -⟩ := h
  exact gIs_of h1
theorem bs.s100 {ad : Nat → Nat} {G : gS} (h : bs ad G) : bS G (ad 100) [] (0 : Int32) := h.2.2.2.2.2.1 (100, [], (0 : Int32)) (List.mem_of_getElem? (i := 0) rfl)
theorem bs.s104 {ad : Nat → Nat} {G : gS} (h : bs ad G) : bS G (ad 104) [32] (32 : Int32) := h.2.2.2.2.2.1 (104, [32], (32 : Int32)) (List.mem_of_getElem? (i := 1) rfl)
theorem bs.s105 {ad : Nat → Nat} {G : gS} (h : bs ad G) : bS G (ad 105) [] (0 : Int32) := h.2.2.2.2.2.1 (105, [], (0 : Int32)) (List.mem_of_getElem? (i := 2) rfl)
theorem bs.s106 {ad : Nat → Nat} {G : gS} (h : bs ad G) : bS G (ad 106) [58] (58 : Int32) := h.2.2.2.2.2.1 (106, [58], (58 : Int32)) (List.mem_of_getElem? (i := 3) rfl)
theorem bs.s107 {ad : Nat → Nat} {G : gS} (h : bs ad G) : bS G (ad 107) [62] (62 : Int32) := h.2.2.2.2.2.1 (107, [62], (62 : Int32)) (List.mem_of_getElem? (i := 4) rfl)
theorem bs.s108 {ad : Nat → Nat} {G : gS} (h : bs ad G) : bS G (ad 108) [64] (64 : Int32) := h.2.2.2.2.2.1 (108, [64], (64 : Int32)) (List.mem_of_getElem? (i := 5) rfl)
theorem bs.s109 {ad : Nat → Nat} {G : gS} (h : bs ad G) : bS G (ad 109) [47] (47 : Int32) := h.2.2.2.2.2.1 (109, [47], (47 : Int32)) (List.mem_of_getElem? (i := 6) rfl)
theorem bs.s110 {ad : Nat → Nat} {G : gS} (h : bs ad G) : bS G (ad 110) [97, 114, 103, 117, 109, 101, 110, 116] (-1589682499 : Int32) := h.2.2.2.2.2.1 (110, [97, 114, 103, 117, 109, 101, 110, 116], (-1589682499 : Int32)) (List.mem_of_getElem? (i := 7) rfl)
theorem bs.s111 {ad : Nat → Nat} {G : gS} (h : bs ad G) : bS G (ad 111) [115, 116, 97, 116, 101] (109757585 : Int32) := h.2.2.2.2.2.1 (111, [115, 116, 97, 116, 101], (109757585 : Int32)) (List.mem_of_getElem? (i := 8) rfl)
theorem bs.s113 {ad : Nat → Nat} {G : gS} (h : bs ad G) : bS G (ad 113) [105, 110, 100, 101, 120] (100346066 : Int32) := h.2.2.2.2.2.1 (113, [105, 110, 100, 101, 120], (100346066 : Int32)) (List.mem_of_getElem? (i := 9) rfl)
theorem bs.s114 {ad : Nat → Nat} {G : gS} (h : bs ad G) : bS G (ad 114) [97, 114, 103, 117, 109, 101, 110, 116] (-1589682499 : Int32) := h.2.2.2.2.2.1 (114, [97, 114, 103, 117, 109, 101, 110, 116], (-1589682499 : Int32)) (List.mem_of_getElem? (i := 10) rfl)
theorem bs.s115 {ad : Nat → Nat} {G : gS} (h : bs ad G) : bS G (ad 115) [115, 116, 97, 116, 101] (109757585 : Int32) := h.2.2.2.2.2.1 (115, [115, 116, 97, 116, 101], (109757585 : Int32)) (List.mem_of_getElem? (i := 11) rfl)
theorem bs.s116 {ad : Nat → Nat} {G : gS} (h : bs ad G) : bS G (ad 116) [101, 108, 101, 109, 101, 110, 116] (-1662836996 : Int32) := h.2.2.2.2.2.1 (116, [101, 108, 101, 109, 101, 110, 116], (-1662836996 : Int32)) (List.mem_of_getElem? (i := 12) rfl)
theorem bs.s117 {ad : Nat → Nat} {G : gS} (h : bs ad G) : bS G (ad 117) [105, 110, 100, 101, 120] (100346066 : Int32) := h.2.2.2.2.2.1 (117, [105, 110, 100, 101, 120], (100346066 : Int32)) (List.mem_of_getElem? (i := 13) rfl)
theorem bs.s118 {ad : Nat → Nat} {G : gS} (h : bs ad G) : bS G (ad 118) [114, 117, 108, 101] (3512060 : Int32) := h.2.2.2.2.2.1 (118, [114, 117, 108, 101], (3512060 : Int32)) (List.mem_of_getElem? (i := 14) rfl)
theorem bs.s119 {ad : Nat → Nat} {G : gS} (h : bs ad G) : bS G (ad 119) [101, 108, 101, 109, 101, 110, 116] (-1662836996 : Int32) := h.2.2.2.2.2.1 (119, [101, 108, 101, 109, 101, 110, 116], (-1662836996 : Int32)) (List.mem_of_getElem? (i := 15) rfl)
theorem bs.s120 {ad : Nat → Nat} {G : gS} (h : bs ad G) : bS G (ad 120) [] (0 : Int32) := h.2.2.2.2.2.1 (120, [], (0 : Int32)) (List.mem_of_getElem? (i := 16) rfl)
theorem bs.s121 {ad : Nat → Nat} {G : gS} (h : bs ad G) : bS G (ad 121) [115] (115 : Int32) := h.2.2.2.2.2.1 (121, [115], (115 : Int32)) (List.mem_of_getElem? (i := 17) rfl)
theorem bs.s122 {ad : Nat → Nat} {G : gS} (h : bs ad G) : bS G (ad 122) [112] (112 : Int32) := h.2.2.2.2.2.1 (122, [112], (112 : Int32)) (List.mem_of_getElem? (i := 18) rfl)
theorem bs.s123 {ad : Nat → Nat} {G : gS} (h : bs ad G) : bS G (ad 123) [] (0 : Int32) := h.2.2.2.2.2.1 (123, [], (0 : Int32)) (List.mem_of_getElem? (i := 19) rfl)
theorem bs.s124 {ad : Nat → Nat} {G : gS} (h : bs ad G) : bS G (ad 124) [100] (100 : Int32) := h.2.2.2.2.2.1 (124, [100], (100 : Int32)) (List.mem_of_getElem? (i := 20) rfl)
theorem bs.s125 {ad : Nat → Nat} {G : gS} (h : bs ad G) : bS G (ad 125) [122] (122 : Int32) := h.2.2.2.2.2.1 (125, [122], (122 : Int32)) (List.mem_of_getElem? (i := 21) rfl)
theorem bs.s126 {ad : Nat → Nat} {G : gS} (h : bs ad G) : bS G (ad 126) [32, 103, 111, 98, 108, 105, 110, 32, 98, 114, 111, 111, 109, 32, 98, 97, 110, 105, 115, 104, 32, 114, 101, 99, 97, 108, 108, 32, 104, 105, 114, 101, 32, 99, 97, 110, 99, 101, 108, 32, 114, 101, 115, 116, 32, 119, 97, 107, 101, 32, 108, 101, 110, 100, 32, 102, 117, 110, 100, 32, 115, 112, 101, 110, 100, 32, 110, 105, 103, 104, 116, 32] (-1901760024 : Int32) := h.2.2.2.2.2.1 (126, [32, 103, 111, 98, 108, 105, 110, 32, 98, 114, 111, 111, 109, 32, 98, 97, 110, 105, 115, 104, 32, 114, 101, 99, 97, 108, 108, 32, 104, 105, 114, 101, 32, 99, 97, 110, 99, 101, 108, 32, 114, 101, 115, 116, 32, 119, 97, 107, 101, 32, 108, 101, 110, 100, 32, 102, 117, 110, 100, 32, 115, 112, 101, 110, 100, 32, 110, 105, 103, 104, 116, 32], (-1901760024 : Int32)) (List.mem_of_getElem? (i := 22) rfl)
theorem bs.s127 {ad : Nat → Nat} {G : gS} (h : bs ad G) : bS G (ad 127) [32] (32 : Int32) := h.2.2.2.2.2.1 (127, [32], (32 : Int32)) (List.mem_of_getElem? (i := 23) rfl)
theorem bs.s130 {ad : Nat → Nat} {G : gS} (h : bs ad G) : bS G (ad 130) [104, 105, 114, 101] (3202804 : Int32) := h.2.2.2.2.2.1 (130, [104, 105, 114, 101], (3202804 : Int32)) (List.mem_of_getElem? (i := 24) rfl)
theorem bs.s131 {ad : Nat → Nat} {G : gS} (h : bs ad G) : bS G (ad 131) [108, 101, 110, 100] (3317999 : Int32) := h.2.2.2.2.2.1 (131, [108, 101, 110, 100], (3317999 : Int32)) (List.mem_of_getElem? (i := 25) rfl)
theorem bs.s132 {ad : Nat → Nat} {G : gS} (h : bs ad G) : bS G (ad 132) [110, 105, 103, 104, 116] (104817688 : Int32) := h.2.2.2.2.2.1 (132, [110, 105, 103, 104, 116], (104817688 : Int32)) (List.mem_of_getElem? (i := 26) rfl)
theorem bs.s133 {ad : Nat → Nat} {G : gS} (h : bs ad G) : bS G (ad 133) [32, 98, 114, 111, 111, 109, 32, 99, 97, 110, 99, 101, 108, 32, 102, 117, 110, 100, 32, 115, 112, 101, 110, 100, 32] (-990766982 : Int32) := h.2.2.2.2.2.1 (133, [32, 98, 114, 111, 111, 109, 32, 99, 97, 110, 99, 101, 108, 32, 102, 117, 110, 100, 32, 115, 112, 101, 110, 100, 32], (-990766982 : Int32)) (List.mem_of_getElem? (i := 27) rfl)
theorem bs.s134 {ad : Nat → Nat} {G : gS} (h : bs ad G) : bS G (ad 134) [103, 111, 98, 108, 105, 110] (-1240627241 : Int32) := h.2.2.2.2.2.1 (134, [103, 111, 98, 108, 105, 110], (-1240627241 : Int32)) (List.mem_of_getElem? (i := 28) rfl)
theorem bs.s135 {ad : Nat → Nat} {G : gS} (h : bs ad G) : bS G (ad 135) [98, 114, 111, 111, 109] (94011453 : Int32) := h.2.2.2.2.2.1 (135, [98, 114, 111, 111, 109], (94011453 : Int32)) (List.mem_of_getElem? (i := 29) rfl)
theorem bs.s136 {ad : Nat → Nat} {G : gS} (h : bs ad G) : bS G (ad 136) [98, 97, 110, 105, 115, 104] (-1396347377 : Int32) := h.2.2.2.2.2.1 (136, [98, 97, 110, 105, 115, 104], (-1396347377 : Int32)) (List.mem_of_getElem? (i := 30) rfl)
theorem bs.s137 {ad : Nat → Nat} {G : gS} (h : bs ad G) : bS G (ad 137) [114, 101, 99, 97, 108, 108] (-934922479 : Int32) := h.2.2.2.2.2.1 (137, [114, 101, 99, 97, 108, 108], (-934922479 : Int32)) (List.mem_of_getElem? (i := 31) rfl)
theorem bs.s138 {ad : Nat → Nat} {G : gS} (h : bs ad G) : bS G (ad 138) [99, 97, 110, 99, 101, 108] (-1367724422 : Int32) := h.2.2.2.2.2.1 (138, [99, 97, 110, 99, 101, 108], (-1367724422 : Int32)) (List.mem_of_getElem? (i := 32) rfl)
theorem bs.s139 {ad : Nat → Nat} {G : gS} (h : bs ad G) : bS G (ad 139) [114, 101, 115, 116] (3496916 : Int32) := h.2.2.2.2.2.1 (139, [114, 101, 115, 116], (3496916 : Int32)) (List.mem_of_getElem? (i := 33) rfl)
theorem bs.s140 {ad : Nat → Nat} {G : gS} (h : bs ad G) : bS G (ad 140) [119, 97, 107, 101] (3641764 : Int32) := h.2.2.2.2.2.1 (140, [119, 97, 107, 101], (3641764 : Int32)) (List.mem_of_getElem? (i := 34) rfl)
theorem bs.s141 {ad : Nat → Nat} {G : gS} (h : bs ad G) : bS G (ad 141) [102, 117, 110, 100] (3154629 : Int32) := h.2.2.2.2.2.1 (141, [102, 117, 110, 100], (3154629 : Int32)) (List.mem_of_getElem? (i := 35) rfl)
theorem bs.s147 {ad : Nat → Nat} {G : gS} (h : bs ad G) : bS G (ad 147) [103, 111, 98, 108, 105, 110, 32, 98, 114, 111, 111, 109, 32, 98, 97, 110, 105, 115, 104, 32, 114, 101, 99, 97, 108, 108, 32, 104, 105, 114, 101, 32, 99, 97, 110, 99, 101, 108, 32, 114, 101, 115, 116, 32, 119, 97, 107, 101, 32, 108, 101, 110, 100, 32, 102, 117, 110, 100, 32, 115, 112, 101, 110, 100, 32, 110, 105, 103, 104, 116] (1007340824 : Int32) := h.2.2.2.2.2.1 (147, [103, 111, 98, 108, 105, 110, 32, 98, 114, 111, 111, 109, 32, 98, 97, 110, 105, 115, 104, 32, 114, 101, 99, 97, 108, 108, 32, 104, 105, 114, 101, 32, 99, 97, 110, 99, 101, 108, 32, 114, 101, 115, 116, 32, 119, 97, 107, 101, 32, 108, 101, 110, 100, 32, 102, 117, 110, 100, 32, 115, 112, 101, 110, 100, 32, 110, 105, 103, 104, 116], (1007340824 : Int32)) (List.mem_of_getElem? (i := 36) rfl)
theorem l_ext {l l' : List Int32} (h : l.length = l'.length) (e : ∀ j, j < l.length → l.getD j 0 = l'.getD j 0) : l = l' := by
  refine List.ext_getElem h fun j h1 h2 => ?_
  have := e j h1
  rw [List.getD_eq_getElem?_getD, List.getD_eq_getElem?_getD, List.getElem?_eq_getElem h1, List.getElem?_eq_getElem h2] at this
  exact this
section BS
variable {ad : Nat → Nat} {G : gS} {s s' : Nat} {l l' : List Int32} {X : Nat → gS → Prop}
theorem sp_slen (h : sR G s l) {K : Int32 → gS → Prop} (k : K (nI l.length) G) : gIs G s 7 ∧ wp_J7_length ad G s X K := by
  refine ⟨h.is, ?_⟩
  obtain ⟨w, v, hh, z, w2, g, h1, h2, h3, h4⟩ := h
  unfold wp_J7_length wp_J7_coder
  refine wGetQ_of h1 (x := some v) rfl (wNN_of (wLen_of h2 (by decide) ⟨gIs_of h1, wGetI_of h1 rfl ⟨?_, ?_⟩⟩))
  · exact rfl
  · have e : nI l.length >>> ((0 : Int32) &&& 31) = nI l.length := by rw [show ((0 : Int32) &&& 31) = 0 from rfl, Int32.shiftRight_zero]
    show K (nI l.length >>> ((0 : Int32) &&& 31)) G
    rw [e]; exact k
theorem sp_slat (h : sR G s l) {K : Int32 → gS → Prop} (k : K 1 G) : gIs G s 7 ∧ wp_J7_isLatin1 ad G s X K := by
  refine ⟨h.is, ?_⟩
  obtain ⟨w, v, hh, z, w2, g, h1, h2, h3, h4⟩ := h
  exact wGetI_of h1 rfl (brT' rfl k)
theorem sp_shash {hh : Int32} (h : bS G s l hh) (h0 : hh ≠ 0) {K : Int32 → gS → Prop} (k : K hh G) : gIs G s 7 ∧ wp_J7_hashCode ad G s X K := by
  refine ⟨h.is, ?_⟩
  obtain ⟨v, z, g, h1, -⟩ := h
  exact wGetI_of h1 rfl ⟨fun _ => k, fun e => absurd e h0⟩
theorem sp_equals (h : sR G s l) (h' : sR G s' l') {K : Int32 → gS → Prop} (k : K (bI (decide (l = l'))) G) : gIs G s 7 ∧ wp_J7_equals ad G s (some s') X K := by
  refine ⟨h.is, ?_⟩
  have his := h'.is
  obtain ⟨w, v, hh, z, w2, g, h1, h2, h3, h4⟩ := h
  obtain ⟨w', v', hh', z', w2', g', h1', h2', h3', h4'⟩ := h'
  unfold wp_J7_equals
  by_cases e : s = s'
  · subst e
    refine brT' rfl ?_
    have e1 : va_rf (some v) = va_rf (some v') ∧ hh = hh' := by
      have := h1.symm.trans h1'
      injection this with this
      injection this with _ this
      injection this with this
      injection this with this
      injection this with _ this
      injection this with q1 q2
      injection q2 with _ q2
      injection q2 with q2
      exact ⟨q1, q2⟩
    have e2 : v = v' := by
      have := e1.1
      injection this
    subst e2
    have e3 : l.length = l'.length ∧ g = g' := by
      have := h2.symm.trans h2'
      injection this with this
      injection this with _ this
      injection this with this
      injection this with _ this
      injection this with q1 q2
      injection q2 with q2
      exact ⟨q1, q2⟩
    have : l = l' := l_ext e3.1 fun j hj => by
      rw [← h3 j hj, e3.2, h3' j (by omega)]
    exact bI_get (P := fun x => K x G) k (decide_eq_true this)
  · refine brF' (fun q => e (by injection q)) (wNN_of ⟨his, wCast_of his List.mem_cons_self (wGetI_of h1 rfl (wGetI_of h1' rfl (brT' rfl ?_)))⟩)
    unfold wp_J7_equals_36 wp_J19_equals
    refine wGetQ_of h1 (x := some v) rfl (wGetQ_of h1' (x := some v') rfl (wNN_of (wLen_of h2 (by decide) (wNN_of (wLen_of h2' (by decide) ⟨fun q => ?_, fun q => ?_⟩)))))
    · have q' : ¬ nI l.length = nI l'.length := q
      exact ⟨fun _ => bI_get0 (P := fun x => K x G) k (decide_eq_false fun z => q' (by rw [z])), fun z => absurd rfl z⟩
    · have q' : nI l.length = nI l'.length := q
      have ql := (nI_eq (by omega) (by omega)).mp q'
      refine gLoop_up (B := wp_J19_equals_9 ad X fun r4 G3 => (r4 = (0 : Int32) → K (0 : Int32) G3) ∧ (¬ r4 = (0 : Int32) → K (1 : Int32) G3)) l.length (fun j (ff : gS → Nat → Nat → Int32 → Prop) => (∀ i, i < j → l.getD i 0 = l'.getD i 0) → ff G v v' (nI j)) ?_ gFuel 0 (by omega) (gFuel_lt (by omega)) (fun i hi => absurd hi (by omega))
      intro j ff hj hs hq
      unfold wp_J19_equals_9
      refine wLen_of h2 (by decide) ⟨fun q2 => ?_, fun q2 => ?_⟩
      · have q3 : nI l.length ≤ nI j := q2
        have q4 : l.length ≤ j := Nat.le_of_not_lt fun z => absurd q3 (Int32.not_le.mpr (nI_lt z (by omega)))
        exact ⟨fun z => absurd z (by decide), fun _ => bI_get (P := fun x => K x G) k (decide_eq_true (l_ext ql fun i hi => hq i (by omega)))⟩
      · have q3 : ¬ nI l.length ≤ nI j := q2
        have q4 : j < l.length := Nat.lt_of_not_le fun z => q3 (nI_le z (by omega))
        refine wAldB_of h2 (vp_in_nI q4 (by omega)) (wAldB_of h2' (vp_in_nI (by omega) (by omega)) ?_)
        rw [nI_clamp (by omega), h3 j q4, h3' j (by omega)]
        refine ⟨fun z => ?_, fun z => ⟨fun _ => bI_get0 (P := fun x => K x G) k (decide_eq_false fun y => z (by rw [y])), fun z => absurd rfl z⟩⟩
        rw [show nI j + (1 : Int32) = nI (j + 1) from (nI_succ j).symm]
        exact hs q4 fun i hi => by
          by_cases p : i = j
          · rw [p]; exact z
          · exact hq i (by omega)
theorem sp_new20 (hb1 : 1 ≤ G.2.1) (hb2 : 6 ≤ G.2.2) {K : Nat → gS → Prop} (k : ∀ a G' fs, nC' G a (gO true 20 fs) 6 G' → K a G') : wNew G 20 6 [.null, .null, .null, .null, .null, .int 0] fun c2 G1 => wp_J18_init_2 ad G1 c2 X (fun G3 => K c2 G3) := by
  refine wNew_nC hb1 hb2 fun a G1 s1 => ?_
  unfold wp_J18_init_2 wp_J17_init_2_at20 wp_J10_init_3_at20 wp_J9_init_at20
  refine wPut_sC s1.2.1 (ltb rfl) rfl fun G2 t2 => wPut_sC t2.1 (ltb rfl) rfl fun G3 t3 => wPut_sC t3.1 (ltb rfl) rfl fun G4 t4 => ⟨⟨_, t4.1, rfl, rfl⟩, k a G4 _ (((s1.set t2).set t3).set t4)⟩
theorem sp_new21 (hb1 : 1 ≤ G.2.1) (hb2 : 6 ≤ G.2.2) {K : Nat → gS → Prop} (k : ∀ a G' fs, nC' G a (gO true 21 fs) 6 G' → K a G') : wNew G 21 6 [.null, .null, .null, .null, .null, .int 0] fun c2 G1 => wp_J21_init_2 ad G1 c2 X (fun G3 => K c2 G3) := by
  refine wNew_nC hb1 hb2 fun a G1 s1 => ?_
  unfold wp_J21_init_2 wp_J17_init_2_at21 wp_J10_init_3_at21 wp_J9_init_at21
  refine wPut_sC s1.2.1 (ltb rfl) rfl fun G2 t2 => wPut_sC t2.1 (ltb rfl) rfl fun G3 t3 => wPut_sC t3.1 (ltb rfl) rfl fun G4 t4 => ⟨⟨_, t4.1, rfl, rfl⟩, k a G4 _ (((s1.set t2).set t3).set t4)⟩
theorem sp_new22 (hb1 : 1 ≤ G.2.1) (hb2 : 6 ≤ G.2.2) {K : Nat → gS → Prop} (k : ∀ a G' fs, nC' G a (gO true 22 fs) 6 G' → K a G') : wNew G 22 6 [.null, .null, .null, .null, .null, .int 0] fun c2 G1 => wp_J24_init ad G1 c2 X (fun G3 => K c2 G3) := by
  refine wNew_nC hb1 hb2 fun a G1 s1 => ?_
  unfold wp_J24_init wp_J17_init_2_at22 wp_J10_init_3_at22 wp_J9_init_at22
  refine wPut_sC s1.2.1 (ltb rfl) rfl fun G2 t2 => wPut_sC t2.1 (ltb rfl) rfl fun G3 t3 => wPut_sC t3.1 (ltb rfl) rfl fun G4 t4 => ⟨⟨_, t4.1, rfl, rfl⟩, k a G4 _ (((s1.set t2).set t3).set t4)⟩
theorem sp_new23 (hb1 : 1 ≤ G.2.1) (hb2 : 6 ≤ G.2.2) {K : Nat → gS → Prop} (k : ∀ a G' fs, nC' G a (gO true 23 fs) 6 G' → K a G') : wNew G 23 6 [.null, .null, .null, .null, .null, .int 0] fun c2 G1 => wp_J23_init ad G1 c2 X (fun G3 => K c2 G3) := by
  refine wNew_nC hb1 hb2 fun a G1 s1 => ?_
  unfold wp_J23_init wp_J17_init_2_at23 wp_J10_init_3_at23 wp_J9_init_at23
  refine wPut_sC s1.2.1 (ltb rfl) rfl fun G2 t2 => wPut_sC t2.1 (ltb rfl) rfl fun G3 t3 => wPut_sC t3.1 (ltb rfl) rfl fun G4 t4 => ⟨⟨_, t4.1, rfl, rfl⟩, k a G4 _ (((s1.set t2).set t3).set t4)⟩
theorem sp_new24 (hb1 : 1 ≤ G.2.1) (hb2 : 6 ≤ G.2.2) {K : Nat → gS → Prop} (k : ∀ a G' fs, nC' G a (gO true 24 fs) 6 G' → K a G') : wNew G 24 6 [.null, .null, .null, .null, .null, .int 0] fun c2 G1 => wp_J25_init ad G1 c2 X (fun G3 => K c2 G3) := by
  refine wNew_nC hb1 hb2 fun a G1 s1 => ?_
  unfold wp_J25_init wp_J17_init_2_at24 wp_J10_init_3_at24 wp_J9_init_at24
  refine wPut_sC s1.2.1 (ltb rfl) rfl fun G2 t2 => wPut_sC t2.1 (ltb rfl) rfl fun G3 t3 => wPut_sC t3.1 (ltb rfl) rfl fun G4 t4 => ⟨⟨_, t4.1, rfl, rfl⟩, k a G4 _ (((s1.set t2).set t3).set t4)⟩
theorem sp_checkIndex {b : Bool} {x : Int32} (hx : x = bI b) (hb1 : 1 ≤ G.2.1) (hb2 : 6 ≤ G.2.2) {K : gS → Prop} (k0 : b = false → ∀ q G' fs, nC' G q (gO true 20 fs) 6 G' → X q G') (k1 : b = true → K G) : wp_X1_checkIndex ad G x X K := by
  subst hx
  unfold wp_X1_checkIndex
  exact bI_br' k1 fun q => sp_new20 hb1 hb2 fun a G' fs s => ⟨gIsO_of s.2.1, k0 q a G' fs s⟩
theorem sp_checkArgument {b : Bool} {x : Int32} (hx : x = bI b) (hb1 : 1 ≤ G.2.1) (hb2 : 6 ≤ G.2.2) {K : gS → Prop} (k0 : b = false → ∀ q G' fs, nC' G q (gO true 21 fs) 6 G' → X q G') (k1 : b = true → K G) : wp_X1_checkArgument ad G x X K := by
  subst hx
  unfold wp_X1_checkArgument
  exact bI_br' k1 fun q => sp_new21 hb1 hb2 fun a G' fs s => ⟨gIsO_of s.2.1, k0 q a G' fs s⟩
theorem sp_checkState {b : Bool} {x : Int32} (hx : x = bI b) (hb1 : 1 ≤ G.2.1) (hb2 : 6 ≤ G.2.2) {K : gS → Prop} (k0 : b = false → ∀ q G' fs, nC' G q (gO true 22 fs) 6 G' → X q G') (k1 : b = true → K G) : wp_X1_checkState ad G x X K := by
  subst hx
  unfold wp_X1_checkState
  exact bI_br' k1 fun q => sp_new22 hb1 hb2 fun a G' fs s => ⟨gIsO_of s.2.1, k0 q a G' fs s⟩
theorem sp_checkElement {b : Bool} {x : Int32} (hx : x = bI b) (hb1 : 1 ≤ G.2.1) (hb2 : 6 ≤ G.2.2) {K : gS → Prop} (k0 : b = false → ∀ q G' fs, nC' G q (gO true 23 fs) 6 G' → X q G') (k1 : b = true → K G) : wp_X1_checkElement ad G x X K := by
  subst hx
  unfold wp_X1_checkElement
  exact bI_br' k1 fun q => sp_new23 hb1 hb2 fun a G' fs s => ⟨gIsO_of s.2.1, k0 q a G' fs s⟩
/-- which exception a kind becomes -/
def xcl (k : Nat) : Nat := match k with
  | 110 => 21
  | 111 => 22
  | 117 => 20
  | 118 => 24
  | _ => 23
theorem sp_public (hb : bs ad G) {q : Nat} {fs : List Value} {k : Nat} (hk : k = 110 ∨ k = 111 ∨ k = 117 ∨ k = 118 ∨ k = 119) (hq : G.1 q = some (gO true 17 fs)) (h6 : fs[6]? = some (va_rf (some (ad k)))) (hb1 : 1 ≤ G.2.1) (hb2 : 6 ≤ G.2.2) {K : Option Nat → gS → Prop} (kk : ∀ a G' fs, nC' G a (gO true (xcl k) fs) 6 G' → K (some a) G') : gIs G q 17 ∧ wp_X5_asPublicException ad G q X K := by
  refine ⟨gIs_of hq, ?_⟩
  unfold wp_X5_asPublicException
  refine wGetQ_of hq (x := some (ad k)) h6 (wNN_of ?_)
  rcases hk with rfl | rfl | rfl | rfl | rfl
  · refine sp_shash hb.s110 (by decide) ?_
    refine ⟨fun z => absurd z (by decide), fun _ => sp_equals (hb.s110.s (ltb rfl)) (hb.s114.s (ltb rfl)) (K := fun r G => (r = (0 : Int32) → wp_X5_asPublicException_105 ad X K G (-1 : Int32)) ∧ (¬ r = (0 : Int32) → wp_X5_asPublicException_105 ad X K G (1 : Int32))) (brF (by decide) ?_), fun z => absurd z (by decide), fun z => absurd z (by decide), fun _ z1 _ _ => absurd rfl z1⟩
    unfold wp_X5_asPublicException_105
    exact ⟨fun z => absurd z (by decide), fun _ => sp_new21 hb1 hb2 kk, fun z => absurd z (by decide), fun z => absurd z (by decide), fun _ z1 _ _ => absurd rfl z1⟩
  · refine sp_shash hb.s111 (by decide) ?_
    refine ⟨fun z => absurd z (by decide), fun z => absurd z (by decide), fun z => absurd z (by decide), fun _ => sp_equals (hb.s111.s (ltb rfl)) (hb.s115.s (ltb rfl)) (K := fun r G => (r = (0 : Int32) → wp_X5_asPublicException_105 ad X K G (-1 : Int32)) ∧ (¬ r = (0 : Int32) → wp_X5_asPublicException_105 ad X K G (2 : Int32))) (brF (by decide) ?_), fun _ _ _ z3 => absurd rfl z3⟩
    unfold wp_X5_asPublicException_105
    exact ⟨fun z => absurd z (by decide), fun z => absurd z (by decide), fun _ => sp_new22 hb1 hb2 kk, fun z => absurd z (by decide), fun _ _ z2 _ => absurd rfl z2⟩
  · refine sp_shash hb.s117 (by decide) ?_
    refine ⟨fun z => absurd z (by decide), fun z => absurd z (by decide), fun _ => sp_equals (hb.s117.s (ltb rfl)) (hb.s113.s (ltb rfl)) (K := fun r G => (r = (0 : Int32) → wp_X5_asPublicException_105 ad X K G (-1 : Int32)) ∧ (¬ r = (0 : Int32) → wp_X5_asPublicException_105 ad X K G (0 : Int32))) (brF (by decide) ?_), fun z => absurd z (by decide), fun _ _ z2 _ => absurd rfl z2⟩
    unfold wp_X5_asPublicException_105
    exact ⟨fun _ => sp_new20 hb1 hb2 kk, fun z => absurd z (by decide), fun z => absurd z (by decide), fun z => absurd z (by decide), fun z0 _ _ _ => absurd rfl z0⟩
  · refine sp_shash hb.s118 (by decide) ?_
    refine ⟨fun z => absurd z (by decide), fun z => absurd z (by decide), fun z => absurd z (by decide), fun z => absurd z (by decide), fun _ _ _ _ => ?_⟩
    unfold wp_X5_asPublicException_105
    exact ⟨fun z => absurd z (by decide), fun z => absurd z (by decide), fun z => absurd z (by decide), fun z => absurd z (by decide), fun _ _ _ _ => sp_new24 hb1 hb2 kk⟩
  · refine sp_shash hb.s119 (by decide) ?_
    refine ⟨fun _ => sp_equals (hb.s119.s (ltb rfl)) (hb.s116.s (ltb rfl)) (K := fun r G => (r = (0 : Int32) → wp_X5_asPublicException_105 ad X K G (-1 : Int32)) ∧ (¬ r = (0 : Int32) → wp_X5_asPublicException_105 ad X K G (3 : Int32))) (brF (by decide) ?_), fun z => absurd z (by decide), fun z => absurd z (by decide), fun z => absurd z (by decide), fun z0 _ _ _ => absurd rfl z0⟩
    unfold wp_X5_asPublicException_105
    exact ⟨fun z => absurd z (by decide), fun z => absurd z (by decide), fun z => absurd z (by decide), fun _ => sp_new23 hb1 hb2 kk, fun _ _ _ z3 => absurd rfl z3⟩
end BS
