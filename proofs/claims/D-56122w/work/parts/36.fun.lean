/-! PURE: what the calls do with the numbers -/
set_option maxRecDepth 20000
abbrev pF : Type := Nat → Int32
def pN (f : pF) (j : Nat) : Nat := (f j).toNatClampNeg
def nB (f : pF) : Nat := pN f 8
def nG (f : pF) : Nat := pN f 9
def nC (f : pF) : Nat := pN f 11
/-- a number of at most b -/
def nn (f : pF) (j b : Nat) : Prop := f j = nI (pN f j) ∧ pN f j ≤ b
/-- the purses' sum -/
def pPu (f : pF) : Nat → Nat
  | 0 => 0
  | k + 1 => pPu f k + pN f (27 + 5 * k)
/-- what holds of a household's numbers, after changes worth c, done taken as d -/
def jA (f : pF) (c : Nat) : Prop := nn f 8 4 ∧ nn f 9 5 ∧ nn f 11 8 ∧ nn f 10 c ∧ c ≤ 1000
def jD (f : pF) : Prop := ∀ j, j < 6 → nn f (12 + j) 99
def jB (f : pF) : Prop := ∀ k, k < nB f → nn f (18 + 2 * k) 20 ∧ nn f (19 + 2 * k) 1
def jG (f : pF) : Prop := ∀ k, k < nG f → nn f (26 + 5 * k) 9 ∧ nn f (27 + 5 * k) 1000100 ∧ nn f (28 + 5 * k) 999 ∧ nn f (30 + 5 * k) 1
def jC (f : pF) : Prop := (∀ k, k < nC f → (nn f (51 + 5 * k) 1000 ∧ pN f (51 + 5 * k) < pN f 10) ∧ (nn f (52 + 5 * k) 4 ∧ pN f (52 + 5 * k) < nG f) ∧ nn f (53 + 5 * k) 5 ∧ nn f (54 + 5 * k) 50 ∧ nn f (55 + 5 * k) 20 ∧ 1 ≤ pN f (55 + 5 * k)) ∧ (∀ j k, j < k → k < nC f → pN f (51 + 5 * j) < pN f (51 + 5 * k)) ∧ (∀ j k, j < k → k < nC f → ¬ (f (52 + 5 * j) = f (52 + 5 * k) ∧ f (53 + 5 * j) = f (53 + 5 * k)))
def jS (f : pF) (c : Nat) : Prop := nn f 1 1000100 ∧ nn f 2 (999 * c) ∧ nn f 3 1000100 ∧ pN f 1 + pPu f (nG f) + pN f 3 = 100 + pN f 2
def jN (f : pF) (c d : Nat) : Prop := nn f 5 c ∧ d + pN f 5 + nC f ≤ pN f 10
def hJ (f : pF) (c d : Nat) : Prop := jA f c ∧ jD f ∧ jB f ∧ jG f ∧ jC f ∧ jS f c ∧ jN f c d
def hI (f : pF) (c : Nat) : Prop := hJ f c (pN f 4) ∧ f 4 = nI (pN f 4)
/-- which code a call answers with -/
def pHolds (a b c d : Bool) : Int32 := if a then (if b then (if c then (if d then 0 else 4) else 3) else 2) else 1
/-- brooms in use, among the first n -/
def pUsed (f : pF) : Nat → Int32
  | 0 => 0
  | k + 1 => pUsed f k + (1 - f (19 + 2 * k))
def pGreat (f : pF) : Nat → Int32
  | 0 => 0
  | k + 1 => if f (19 + 2 * k) = 1 then pGreat f k else (if pGreat f k < f (18 + 2 * k) then f (18 + 2 * k) else pGreat f k)
def pRest (f : pF) : Nat → Int32
  | 0 => 0
  | k + 1 => pRest f k + f (30 + 5 * k)
def pEnergy (f : pF) (g : Nat) : Int32 := f (26 + 5 * g) * (pUsed f (nB f) + 1)
/-- the last of the first n contracts that has an id -/
def pFind (f : pF) (id : Int32) : Nat → Option Nat
  | 0 => none
  | k + 1 => if f (51 + 5 * k) = id then some k else pFind f id k
def oI (o : Option Nat) : Int32 := match o with
  | none => -1
  | some k => nI k
def pHas (f : pF) (g r : Int32) : Nat → Bool
  | 0 => false
  | k + 1 => pHas f g r k || (decide (f (52 + 5 * k) = g) && decide (f (53 + 5 * k) = r))
/-- the first contract of a goblin, from k on, n in all -/
def pFrom (f : pF) (g : Int32) (n : Nat) : Nat → Option Nat
  | 0 => none
  | r + 1 => if f (52 + 5 * (n - (r + 1))) = g then some (n - (r + 1)) else pFrom f g n r
def pFirst (f : pF) (g : Int32) : Option Nat := pFrom f g (nC f) (nC f)
/-- the place of a goblin that may not be one -/
def pGi (f : pF) (g : Int32) : Nat := if pIn g 0 (f 9 - 1) then g.toNatClampNeg else 0
def pBi (f : pF) (b : Int32) : Nat := if pIn b 0 (f 8 - 1) then b.toNatClampNeg else 0
def pDrop (f : pF) (w : Nat) : pF := fun j => if j = 11 then f 11 - 1 else if 51 + 5 * w ≤ j ∧ j < 86 then f (j + 5) else f j
def pMin (a b : Int32) : Int32 := if a < b then a else b
def pMax (a b : Int32) : Int32 := if a < b then b else a
def pPay (f : pF) (g : Nat) (wage : Int32) : pF :=
  upd (upd (upd (upd f 1 (f 1 + (pMin (f (28 + 5 * g)) (pMin (f 1) wage) - pMin (f 1) wage))) (28 + 5 * g) (f (28 + 5 * g) - pMin (f (28 + 5 * g)) (pMin (f 1) wage))) (27 + 5 * g) (f (27 + 5 * g) + (pMin (f 1) wage - pMin (f (28 + 5 * g)) (pMin (f 1) wage)))) 6 (f 6 + (wage - pMin (f 1) wage))
/-- one contract is done: room swept, paid, gone -/
def pSweep (f : pF) (r : Nat) (sw : Int32) : pF := upd f (12 + r) (if 0 < f (12 + r) - sw then f (12 + r) - sw else 0)
def pStep (f : pF) (w : Nat) (sw : Int32) : pF := pDrop (pPay (pSweep f (pN f (53 + 5 * w)) sw) (pN f (52 + 5 * w)) (f (54 + 5 * w))) w
def pWorkL (g : Int32) (sw : Int32) : Nat → pF → Int32 → Int32 → pF × Int32
  | 0, f, _, m => (f, m)
  | r + 1, f, e, m => match pFirst f g with
    | none => (f, m)
    | some w => if e < f (55 + 5 * w) then (f, m) else pWorkL g sw r (pStep f w sw) (e - f (55 + 5 * w)) (m + 1)
def pWork (f : pF) (g : Nat) : pF × Int32 := pWorkL (nI g) (10 + pGreat f (nB f)) (nC f) f (pEnergy f g) 0
def pBr (f : pF) (w : Nat) : pF := upd (pDrop f w) 5 (f 5 + 1)
def pBreakL (g : Int32) : Nat → pF → pF
  | 0, f => f
  | r + 1, f => match pFirst f g with
    | none => f
    | some w => pBreakL g r (pBr f w)
def pBreak (f : pF) (g : Nat) : pF := pBreakL (nI g) (nC f) f
def pDusty (f : pF) : pF := fun j => if 12 ≤ j ∧ j < 18 then (if f j + 3 < 99 then f j + 3 else 99) else f j
/-- a goblin's night: skipped, or work -/
def pNa (f : pF) (g : Nat) (m : Int32) : pF × Int32 :=
  if f (30 + 5 * g) = 1 then (upd f (29 + 5 * g) (f (29 + 5 * g) + 1), m)
  else ((pWork (upd f (29 + 5 * g) 0) g).1, m + (pWork (upd f (29 + 5 * g) 0) g).2)
def pNaL : Nat → pF → Int32 → pF × Int32
  | 0, f, m => (f, m)
  | r + 1, f, m => pNa (pNaL r f m).1 r (pNaL r f m).2
def pMore (f : pF) (g : Nat) : Int32 := if f 0 - f 0 / 7 * 7 = 0 ∧ 0 < f (28 + 5 * g) then (if f (28 + 5 * g) / 10 + 1 < 999 - f (28 + 5 * g) then f (28 + 5 * g) / 10 + 1 else 999 - f (28 + 5 * g)) else 0
def pGrow (f : pF) (g : Nat) : pF := upd (upd f (28 + 5 * g) (f (28 + 5 * g) + pMore f g)) 7 (f 7 + pMore f g)
def pNb (f : pF) (g : Nat) : pF := pGrow (if f (29 + 5 * g) < 3 then f else pBreak f g) g
def pNbL : Nat → pF → pF
  | 0, f => f
  | r + 1, f => pNb (pNbL r f) r
/-- a night, done not counted yet; how many are done -/
def pNight0 (f : pF) : pF × Int32 := (pNbL (nG f) (pNaL (nG f) (pDusty (upd f 0 (f 0 + 1))) 0).1, (pNaL (nG f) (pDusty (upd f 0 (f 0 + 1))) 0).2)
def pNight (f : pF) : pF := upd (pNight0 f).1 4 (f 4 + (pNight0 f).2)
def pNights : Nat → pF → pF
  | 0, f => f
  | r + 1, f => pNight (pNights r f)
/-- the changes: code, answer, the numbers behind it (of use at code 0) -/
def pAddGoblin (f : pF) (s : Int32) : pF := upd (fun j => if 26 + 5 * nG f ≤ j ∧ j < 31 + 5 * nG f then (if j = 26 + 5 * nG f then s else 0) else f j) 9 (f 9 + 1)
def pAddBroom (f : pF) (s : Int32) : pF := upd (upd (upd f (18 + 2 * nB f) s) (19 + 2 * nB f) 0) 8 (f 8 + 1)
def pBan (f : pF) (b : Nat) (x : Int32) : pF := upd f (19 + 2 * b) x
def pHire (f : pF) (g r w e : Int32) : pF := upd (upd (upd (upd (upd (upd (upd f (51 + 5 * nC f) (f 10)) (52 + 5 * nC f) g) (53 + 5 * nC f) r) (54 + 5 * nC f) w) (55 + 5 * nC f) e) 11 (f 11 + 1)) 10 (f 10 + 1)
def pCrumbs (f : pF) (w : Nat) : Int32 := if f 1 < f (54 + 5 * w) / 10 then f 1 else f (54 + 5 * w) / 10
def pCancel (f : pF) (w : Nat) : pF := pDrop (upd (upd f 1 (f 1 - pCrumbs f w)) (27 + 5 * pN f (52 + 5 * w)) (f (27 + 5 * pN f (52 + 5 * w)) + pCrumbs f w)) w
def pLend (f : pF) (g : Nat) (x : Int32) : pF := upd (upd (upd f 1 (f 1 - x)) (27 + 5 * g) (f (27 + 5 * g) + x)) (28 + 5 * g) (f (28 + 5 * g) + x)
abbrev pR : Type := Int32 × Int32 × pF
def oGoblin (s : Int32) (f : pF) : pR := (pHolds (pIn s 1 9) (decide (f 9 < 5)) true true, f 9, pAddGoblin f s)
def oBroom (s : Int32) (f : pF) : pR := (pHolds (pIn s 1 20) (decide (f 8 < 4)) true true, f 8, pAddBroom f s)
def oBan (x b : Int32) (f : pF) : pR := (pHolds (pIn b 0 (f 8 - 1)) (decide (f (19 + 2 * pBi f b) ≠ x)) true true, pUsed (pBan f (pBi f b) x) (nB f), pBan f (pBi f b) x)
def oHire (g r w e : Int32) (f : pF) : pR := (pHolds (pIn g 0 (f 9 - 1) && pIn r 0 5) (pIn w 1 50 && pIn e 1 20) (decide (f 11 < 8)) (!pHas f g r (nC f)), f 10, pHire f g r w e)
def oCancel (id : Int32) (f : pF) : pR := match pFind f id (nC f) with
  | none => (1, 0, f)
  | some w => (0, pCrumbs f w, pCancel f w)
def pRestF (f : pF) (g : Nat) (x : Int32) : pF := upd f (30 + 5 * g) x
def oRest (x g : Int32) (f : pF) : pR := (pHolds (pIn g 0 (f 9 - 1)) (decide (f (30 + 5 * pGi f g) ≠ x)) true true, (if x = 1 then pRest (pRestF f (pGi f g) x) (nG f) else f (29 + 5 * pGi f g)), pRestF f (pGi f g) x)
def oLend (g x : Int32) (f : pF) : pR := (pHolds (pIn g 0 (f 9 - 1)) (pIn x 1 99) (decide (x ≤ f 1) && decide (f (28 + 5 * pGi f g) + x ≤ 200)) true, f (28 + 5 * pGi f g) + x, pLend f (pGi f g) x)
def oFund (x : Int32) (f : pF) : pR := (pHolds (pIn x 1 999) true true true, f 1 + x, upd (upd f 1 (f 1 + x)) 2 (f 2 + x))
def oSpend (x : Int32) (f : pF) : pR := (pHolds (pIn x 1 999) (decide (x ≤ f 1)) true true, f 1 - x, upd (upd f 1 (f 1 - x)) 3 (f 3 + x))
def pWaits : Nat → pF → Int32 → pF × Int32
  | 0, f, m => (f, m)
  | r + 1, f, m => (pNight (pWaits r f m).1, (pWaits r f m).2 + (pNight0 (pWaits r f m).1).2)
def oNight (x : Int32) (f : pF) : pR := (pHolds (pIn x 1 60) true true true, (pWaits x.toNatClampNeg f 0).2, (pWaits x.toNatClampNeg f 0).1)
/-- a change by its number -/
def pOp (o : Nat) (a b c d : Int32) (f : pF) : pR := match o with
  | 0 => oGoblin a f
  | 1 => oBroom a f
  | 2 => oBan 1 a f
  | 3 => oBan 0 a f
  | 4 => oHire a b c d f
  | 5 => oCancel a f
  | 6 => oRest 1 a f
  | 7 => oRest 0 a f
  | 8 => oLend a b f
  | 9 => oFund a f
  | 10 => oSpend a f
  | _ => oNight a f
