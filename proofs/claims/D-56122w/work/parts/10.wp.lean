/-! THE PREDICATES that a method's walk is made of: pure, over the ghost heap -/
set_option maxRecDepth 20000
abbrev gO (w : Bool) (ci : Nat) (fs : List Value) : gC := (w, .inr (.inl (ci, fs)))
abbrev gA (w : Bool) (k n : Nat) (d : (Nat → Int32) ⊕ (Nat → Int64) ⊕ (Nat → UInt32) ⊕ (Nat → UInt64) ⊕ (Nat → Option Nat)) : gC := (w, .inl (k, (n, d)))
abbrev gAi (w : Bool) (n : Nat) (f : Nat → Int32) : gC := gA w 0 n (.inl f)
abbrev gAb (w : Bool) (n : Nat) (f : Nat → Int32) : gC := gA w 1 n (.inl f)
abbrev gAq (w : Bool) (n : Nat) (f : Nat → Option Nat) : gC := gA w 2 n (.inr (.inr (.inr (.inr f))))
abbrev gAl (w : Bool) (n : Nat) (f : Nat → Int64) : gC := gA w 3 n (.inr (.inl f))
abbrev gAd' (w : Bool) (n : Nat) (f : Nat → UInt64) : gC := gA w 4 n (.inr (.inr (.inr (.inl f))))
abbrev gLb (i : Nat) (vs : List Value) : gC := (true, .inr (.inr (i, vs)))
def gSet (G : gS) (a : Nat) (c : gC) : gS := (fun b => if b = a then some c else G.1 b, G.2)
def gNew (G : gS) (a : Nat) (c : gC) (n : Nat) : gS := (fun b => if b = a then some c else G.1 b, G.2.1 - 1, G.2.2 - n)
/-- fields -/
def wGetI (G : gS) (a ci k : Nat) (K : Int32 → Prop) : Prop := ∃ (w : Bool) (fs : List Value) (x : Int32), G.1 a = some (gO w ci fs) ∧ fs[k]? = some (.int x) ∧ K x
def wGetQ (G : gS) (a ci k : Nat) (K : Option Nat → Prop) : Prop := ∃ (w : Bool) (fs : List Value) (x : Option Nat), G.1 a = some (gO w ci fs) ∧ fs[k]? = some (va_rf x) ∧ K x
def wPut (G : gS) (a ci k : Nat) (v : Value) (K : gS → Prop) : Prop := ∃ fs : List Value, G.1 a = some (gO true ci fs) ∧ k < fs.length ∧ K (gSet G a (gO true ci (fs.set k v)))
/-- arrays -/
def wAldI (G : gS) (a : Nat) (i : Int32) (K : Int32 → Prop) : Prop := ∃ (w : Bool) (n : Nat) (f : Nat → Int32), G.1 a = some (gAi w n f) ∧ vp_in i n ∧ K (f i.toNatClampNeg)
def wAldB (G : gS) (a : Nat) (i : Int32) (K : Int32 → Prop) : Prop := ∃ (w : Bool) (n : Nat) (f : Nat → Int32), G.1 a = some (gAb w n f) ∧ vp_in i n ∧ K (f i.toNatClampNeg)
def wAldL (G : gS) (a : Nat) (i : Int32) (K : Int64 → Prop) : Prop := ∃ (w : Bool) (n : Nat) (f : Nat → Int64), G.1 a = some (gAl w n f) ∧ vp_in i n ∧ K (f i.toNatClampNeg)
def wAldD (G : gS) (a : Nat) (i : Int32) (K : UInt64 → Prop) : Prop := ∃ (w : Bool) (n : Nat) (f : Nat → UInt64), G.1 a = some (gAd' w n f) ∧ vp_in i n ∧ K (f i.toNatClampNeg)
def wAldQ (G : gS) (a : Nat) (i : Int32) (K : Option Nat → Prop) : Prop := ∃ (w : Bool) (n : Nat) (f : Nat → Option Nat), G.1 a = some (gAq w n f) ∧ vp_in i n ∧ K (f i.toNatClampNeg)
def wAstI (G : gS) (a : Nat) (i x : Int32) (K : gS → Prop) : Prop := ∃ (n : Nat) (f : Nat → Int32), G.1 a = some (gAi true n f) ∧ vp_in i n ∧ K (gSet G a (gAi true n (upd f i.toNatClampNeg x)))
def wAstB (G : gS) (a : Nat) (i x : Int32) (K : gS → Prop) : Prop := ∃ (n : Nat) (f : Nat → Int32), G.1 a = some (gAb true n f) ∧ vp_in i n ∧ K (gSet G a (gAb true n (upd f i.toNatClampNeg x.toInt8.toInt32)))
def wAstL (G : gS) (a : Nat) (i : Int32) (x : Int64) (K : gS → Prop) : Prop := ∃ (n : Nat) (f : Nat → Int64), G.1 a = some (gAl true n f) ∧ vp_in i n ∧ K (gSet G a (gAl true n (vp_updL f i.toNatClampNeg x)))
def wAstD (G : gS) (a : Nat) (i : Int32) (x : UInt64) (K : gS → Prop) : Prop := ∃ (n : Nat) (f : Nat → UInt64), G.1 a = some (gAd' true n f) ∧ vp_in i n ∧ K (gSet G a (gAd' true n (vf_upd f i.toNatClampNeg x)))
def gOkQ (G : gS) (o : Option Nat) : Prop := ∀ a, o = some a → gIsO G a
def wAstQ (G : gS) (a : Nat) (i : Int32) (x : Option Nat) (K : gS → Prop) : Prop := ∃ (n : Nat) (f : Nat → Option Nat), G.1 a = some (gAq true n f) ∧ vp_in i n ∧ gOkQ G x ∧ K (gSet G a (gAq true n (va_up f i.toNatClampNeg x)))
def wLen (G : gS) (a : Nat) (K : Int32 → Prop) : Prop := ∃ (w : Bool) (k : Nat) (x : vp_A), k < 5 ∧ G.1 a = some (w, .inl (k, x)) ∧ K (nI x.1)
/-- new cells -/
def wNew (G : gS) (ci n : Nat) (fs : List Value) (K : Nat → gS → Prop) : Prop := 1 ≤ G.2.1 ∧ n ≤ G.2.2 ∧ ∀ a, G.1 a = none → K a (gNew G a (gO true ci fs) n)
def wNewI (G : gS) (n : Int32) (K : Nat → gS → Prop) : Prop := ¬ n < 0 ∧ n.toNatClampNeg ≤ 65536 ∧ 1 ≤ G.2.1 ∧ n.toNatClampNeg ≤ G.2.2 ∧ ∀ a, G.1 a = none → K a (gNew G a (gAi true n.toNatClampNeg (fun _ => 0)) n.toNatClampNeg)
def wNewB (G : gS) (n : Int32) (K : Nat → gS → Prop) : Prop := ¬ n < 0 ∧ n.toNatClampNeg ≤ 65536 ∧ 1 ≤ G.2.1 ∧ n.toNatClampNeg ≤ G.2.2 ∧ ∀ a, G.1 a = none → K a (gNew G a (gAb true n.toNatClampNeg (fun _ => 0)) n.toNatClampNeg)
def wNewL (G : gS) (n : Int32) (K : Nat → gS → Prop) : Prop := ¬ n < 0 ∧ n.toNatClampNeg ≤ 65536 ∧ 1 ≤ G.2.1 ∧ n.toNatClampNeg ≤ G.2.2 ∧ ∀ a, G.1 a = none → K a (gNew G a (gAl true n.toNatClampNeg (fun _ => 0)) n.toNatClampNeg)
def wNewD (G : gS) (n : Int32) (K : Nat → gS → Prop) : Prop := ¬ n < 0 ∧ n.toNatClampNeg ≤ 65536 ∧ 1 ≤ G.2.1 ∧ n.toNatClampNeg ≤ G.2.2 ∧ ∀ a, G.1 a = none → K a (gNew G a (gAd' true n.toNatClampNeg (fun _ => 0)) n.toNatClampNeg)
def wNewQ (G : gS) (n : Int32) (K : Nat → gS → Prop) : Prop := ¬ n < 0 ∧ n.toNatClampNeg ≤ 65536 ∧ 1 ≤ G.2.1 ∧ n.toNatClampNeg ≤ G.2.2 ∧ ∀ a, G.1 a = none → K a (gNew G a (gAq true n.toNatClampNeg (fun _ => none)) n.toNatClampNeg)
/-- a reference that isn't null; an object of a class -/
def wNN (o : Option Nat) (K : Nat → Prop) : Prop := ∃ a, o = some a ∧ K a
def gIs (G : gS) (a ci : Nat) : Prop := ∃ (w : Bool) (fs : List Value), G.1 a = some (gO w ci fs)
def gIsL (G : gS) (a i : Nat) (vs : List Value) : Prop := ∃ w : Bool, G.1 a = some (w, .inr (.inr (i, vs)))
def wIs (G : gS) (a ci : Nat) (K : Prop) : Prop := gIs G a ci ∧ K
/-- null or an object of one of the classes -/
def wCast (G : gS) (o : Option Nat) (cs : List Nat) (K : Prop) : Prop := (∀ a, o = some a → ∃ ci ∈ cs, gIs G a ci) ∧ K
def wThrow (G : gS) (a : Nat) (X : Nat → gS → Prop) : Prop := gIsO G a ∧ X a G
