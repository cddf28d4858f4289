/-! PURE: the primitives, forward -/
set_option maxRecDepth 20000
theorem wGetI_of {G : gS} {a ci k : Nat} {K : Int32 → Prop} {w : Bool} {fs : List Value} {x : Int32} (h : G.1 a = some (gO w ci fs)) (hk : fs[k]? = some (.int x)) (hK : K x) : wGetI G a ci k K := ⟨w, fs, x, h, hk, hK⟩
theorem wGetQ_of {G : gS} {a ci k : Nat} {K : Option Nat → Prop} {w : Bool} {fs : List Value} {x : Option Nat} (h : G.1 a = some (gO w ci fs)) (hk : fs[k]? = some (va_rf x)) (hK : K x) : wGetQ G a ci k K := ⟨w, fs, x, h, hk, hK⟩
theorem wPut_of {G : gS} {a ci k : Nat} {v : Value} {K : gS → Prop} {fs : List Value} (h : G.1 a = some (gO true ci fs)) (hk : k < fs.length) (hK : K (gSet G a (gO true ci (fs.set k v)))) : wPut G a ci k v K := ⟨fs, h, hk, hK⟩
theorem wNN_of {a : Nat} {K : Nat → Prop} (hK : K a) : wNN (some a) K := ⟨a, rfl, hK⟩
theorem gIs_of {G : gS} {a ci : Nat} {w : Bool} {fs : List Value} (h : G.1 a = some (gO w ci fs)) : gIs G a ci := ⟨w, fs, h⟩
theorem gIsO_of {G : gS} {a ci : Nat} {w : Bool} {fs : List Value} (h : G.1 a = some (gO w ci fs)) : gIsO G a := ⟨w, ci, fs, h⟩
theorem wCast_of {G : gS} {a ci : Nat} {cs : List Nat} {K : Prop} (h : gIs G a ci) (hc : ci ∈ cs) (hK : K) : wCast G (some a) cs K := ⟨fun b hb => by cases hb; exact ⟨ci, hc, h⟩, hK⟩
theorem wCast_null {G : gS} {cs : List Nat} {K : Prop} (hK : K) : wCast G none cs K := ⟨fun b hb => (by cases hb), hK⟩
theorem wAldI_of {G : gS} {a : Nat} {i : Int32} {K : Int32 → Prop} {w : Bool} {n : Nat} {f : Nat → Int32} (h : G.1 a = some (gAi w n f)) (hi : vp_in i n) (hK : K (f i.toNatClampNeg)) : wAldI G a i K := ⟨w, n, f, h, hi, hK⟩
theorem wAldB_of {G : gS} {a : Nat} {i : Int32} {K : Int32 → Prop} {w : Bool} {n : Nat} {f : Nat → Int32} (h : G.1 a = some (gAb w n f)) (hi : vp_in i n) (hK : K (f i.toNatClampNeg)) : wAldB G a i K := ⟨w, n, f, h, hi, hK⟩
theorem wAldQ_of {G : gS} {a : Nat} {i : Int32} {K : Option Nat → Prop} {w : Bool} {n : Nat} {f : Nat → Option Nat} (h : G.1 a = some (gAq w n f)) (hi : vp_in i n) (hK : K (f i.toNatClampNeg)) : wAldQ G a i K := ⟨w, n, f, h, hi, hK⟩
theorem wAldL_of {G : gS} {a : Nat} {i : Int32} {K : Int64 → Prop} {w : Bool} {n : Nat} {f : Nat → Int64} (h : G.1 a = some (gAl w n f)) (hi : vp_in i n) (hK : K (f i.toNatClampNeg)) : wAldL G a i K := ⟨w, n, f, h, hi, hK⟩
theorem wAldD_of {G : gS} {a : Nat} {i : Int32} {K : UInt64 → Prop} {w : Bool} {n : Nat} {f : Nat → UInt64} (h : G.1 a = some (gAd' w n f)) (hi : vp_in i n) (hK : K (f i.toNatClampNeg)) : wAldD G a i K := ⟨w, n, f, h, hi, hK⟩
theorem wAstI_of {G : gS} {a : Nat} {i x : Int32} {K : gS → Prop} {n : Nat} {f : Nat → Int32} (h : G.1 a = some (gAi true n f)) (hi : vp_in i n) (hK : K (gSet G a (gAi true n (upd f i.toNatClampNeg x)))) : wAstI G a i x K := ⟨n, f, h, hi, hK⟩
theorem wAstB_of {G : gS} {a : Nat} {i x : Int32} {K : gS → Prop} {n : Nat} {f : Nat → Int32} (h : G.1 a = some (gAb true n f)) (hi : vp_in i n) (hK : K (gSet G a (gAb true n (upd f i.toNatClampNeg x.toInt8.toInt32)))) : wAstB G a i x K := ⟨n, f, h, hi, hK⟩
theorem wAstQ_of {G : gS} {a : Nat} {i : Int32} {x : Option Nat} {K : gS → Prop} {n : Nat} {f : Nat → Option Nat} (h : G.1 a = some (gAq true n f)) (hi : vp_in i n) (hx : gOkQ G x) (hK : K (gSet G a (gAq true n (va_up f i.toNatClampNeg x)))) : wAstQ G a i x K := ⟨n, f, h, hi, hx, hK⟩
theorem wAstL_of {G : gS} {a : Nat} {i : Int32} {x : Int64} {K : gS → Prop} {n : Nat} {f : Nat → Int64} (h : G.1 a = some (gAl true n f)) (hi : vp_in i n) (hK : K (gSet G a (gAl true n (vp_updL f i.toNatClampNeg x)))) : wAstL G a i x K := ⟨n, f, h, hi, hK⟩
theorem wLen_of {G : gS} {a : Nat} {K : Int32 → Prop} {w : Bool} {k : Nat} {x : vp_A} (h : G.1 a = some (w, .inl (k, x))) (hk : k < 5) (hK : K (nI x.1)) : wLen G a K := ⟨w, k, x, hk, h, hK⟩
theorem gOkQ_none {G : gS} : gOkQ G none := fun _ h => by cases h
theorem gOkQ_some {G : gS} {a : Nat} (h : gIsO G a) : gOkQ G (some a) := fun b hb => by cases hb; exact h
/-- the loop, once more -/
theorem gLoop_succ {β : Type} (bot : β) (B : β → β) (n : Nat) : gLoop bot B (n + 1) = B (gLoop bot B n) := rfl
