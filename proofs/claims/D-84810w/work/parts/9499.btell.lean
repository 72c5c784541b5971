set_option maxRecDepth 100000
/-! TELLING, PLAINLY: terms as rows of bytes -/
/-- a number -/
def numBD : Nat → Nat → List Int
  | 0, _ => []
  | f + 1, v => if v ≤ 9 then [((48 + v % 10 : Nat) : Int)] else numBD f (v / 10) ++ [((48 + v % 10 : Nat) : Int)]
def numB (v : Nat) : List Int := numBD 12 v
/-- two proofs, one after the other -/
def thnB : Option (List Int) → Option (List Int) → Option (List Int)
  | none, q => q
  | some a, none => some a
  | some a, some b => some (40 :: a ++ [59] ++ b ++ [41])
def lfB : Ty → Bool
  | .leaf => true
  | _ => false
section LBT
variable (nm con fam cnm : Nat → List Int)
/-- a type's head -/
def hdB (k w : Nat) : List Int := if k = 0 then nm w else if k = 1 then con w else fam w
/-- a type -/
def tyB : Ty → List Int
  | .leaf => []
  | .inner k w _ l r => if k = 3 then 40 :: tyB l ++ [45, 62] ++ tyB r ++ [41] else hdB nm con fam k w ++ (if lfB l = true then [] else 40 :: tyB l ++ (if lfB r = true then [] else 44 :: tyB r) ++ [41])
/-- its parts, in brackets -/
def prtB : Ty → List Int
  | .leaf => []
  | .inner _ _ _ l r => if lfB l = true then [] else 91 :: tyB nm con fam l ++ (if lfB r = true then [] else 44 :: tyB nm con fam r) ++ [93]
/-- alike -/
def altB (T : Ty) : List Int := 60 :: tyB nm con fam T ++ [62]
variable (ab : List (Option Nat)) (ins : List INs) (gv : List GVs)
/-- a type with its parts worked out -/
def innT (T : Ty) : Ty := if thB T = true then ((wkP (wk 0 ins gv 129 false 0) (0, 0, []) T).bind id).elim T Prod.fst else T
/-- why its parts are what they are worked out to -/
def wpB (w : Ty → Option (List Int)) : Ty → List Int
  | .leaf => []
  | .inner k x _ l r => (if k = 3 then [] else hdB nm con fam k x) ++ 40 :: (w l).getD (altB nm con fam l) ++ (if lfB r = true then [] else (if k = 3 then [45, 62] else [44]) ++ (w r).getD (altB nm con fam r)) ++ [41]
/-- why a family goes -/
def goB (b : Nat) (u : Ty) : List Int := if b < 100 then 120 :: numB b ++ prtB nm con fam (tL u) else 99 :: numB (b - 100)
/-- why a type is what it is worked out to; none: it is that -/
def whyB : Nat → Ty → Option (List Int)
  | 0, _ => none
  | f + 1, T => match gby ins gv (innT ins gv T) with
    | none => if tyE (innT ins gv T) T = true then none else some (wpB nm con fam (whyB f) T)
    | some b => thnB (thnB (if tyE (innT ins gv T) T = true then none else some (wpB nm con fam (whyB f) T)) (some (goB nm con fam b (innT ins gv T)))) (whyB f (gto ins gv b (tL (innT ins gv T))))
/-- why two types are one -/
def oneB (T U : Ty) : List Int := if tyE T U = true then altB nm con fam T else (thnB (whyB nm con fam ins gv 130 T) ((whyB nm con fam ins gv 130 U).map (fun a => 126 :: a))).getD []
/-- a given's dictionary, so many steps above -/
def gvBy (g1 j : Nat) : Nat → List Int
  | 0 => 100 :: numB j
  | n + 1 => cnm ((upA ab (n + 1) g1).getD 0) ++ [94, 40] ++ gvBy g1 j n ++ [41]
/-- with commas -/
def comB : List (List Int) → List Int
  | [] => []
  | [a] => a
  | a :: b :: l => a ++ [44] ++ comB (b :: l)
/-- dictionaries in a row -/
def dcsB : Dc → List (List Int)
  | .leaf => []
  | .inner t a _ cs nx => (let core := if t = 0 then (gv[a.1]?).elim [] (fun g => gvBy cnm ab g.1 a.1 a.2.1) else 105 :: numB a.1 ++ prtB nm con fam a.2.2.1 ++ (match dcsB cs with | [] => [] | l => 123 :: comB l ++ [125])
    let of := if t = 0 then (gv[a.1]?).elim 0 (fun g => (upA ab a.2.1 g.1).getD 0) else a.2.1
    if t = 2 then oneB nm con fam ins gv a.2.2.1 a.2.2.2 else if tyE a.2.2.1 a.2.2.2 = true then core else 40 :: core ++ [124, 62] ++ cnm of ++ [40] ++ oneB nm con fam ins gv a.2.2.1 a.2.2.2 ++ [41, 41]) :: dcsB nx
/-- a reason: of a class, or that two types are one -/
def evB (D : Dc) : List Int := ((dcsB nm con fam cnm ab ins gv D)[0]?).getD []
/-- a name -/
def nmB (lb : XL) (ev : List Dc) : List Int := nm lb.2.2.2.1 ++ (lb.2.2.2.2.2.map (fun p => 91 :: tyB nm con fam p.1 ++ [93])).flatten ++ (ev.map (fun D => 123 :: evB nm con fam cnm ab ins gv D ++ [125])).flatten
/-- a sign -/
def sgB (s : Nat) : List Int := if s = 61 then [61, 61] else [(s : Int)]
/-- an ex; sep: between the two of a pair -/
def exB : Et → List Int → List Int
  | .leaf, _ => []
  | .inner t a _ l r, sep => if t = 0 then exB l [] ++ sep ++ exB r [] else (if lfB a.2.2.1 = true then [] else [40]) ++ (if t = 10 then nmB nm con fam cnm ab ins gv a.1 a.2.2.2
    else if t = 11 then numB a.1.2.1
    else if t = 12 then 40 :: exB l [] ++ [32] ++ exB r [] ++ [41]
    else if t = 14 then 92 :: nm a.1.2.2.2.1 ++ [58] ++ tyB nm con fam (lbT a.1) ++ [46] ++ exB l []
    else if t = 15 then [108, 101, 116, 32] ++ nm a.1.2.2.2.1 ++ [58] ++ tyB nm con fam (lbT a.1) ++ [61] ++ exB l [] ++ [32, 105, 110, 32] ++ exB r []
    else if t = 16 then [105, 102, 32] ++ exB l [] ++ [32, 116, 104, 101, 110, 32] ++ exB r [32, 101, 108, 115, 101, 32]
    else if t = 17 then [99, 97, 115, 101, 32] ++ exB l [] ++ [32, 111, 102, 32, 123, 110, 105, 108, 45, 62] ++ exB r ([59, 99, 111, 110, 115, 32] ++ nm a.1.2.2.2.1 ++ [32] ++ nm a.1.2.2.2.2.1 ++ [45, 62]) ++ [125]
    else if t = 18 then 40 :: exB l [] ++ sgB a.1.2.1 ++ exB r [] ++ [41] else []) ++ (if lfB a.2.2.1 = true then [] else [124, 62] ++ oneB nm con fam ins gv a.2.1 a.2.2.1 ++ [41])
/-- what a term begins with: names, givens -/
def allB (ns : List Nat) : List Int := (ns.map (fun w => [47, 92] ++ nm w ++ [46])).flatten
def givB : Nat → List GVs → List Int
  | _, [] => []
  | k, g :: l => [92, if g.1 < 100 then 100 else 99] ++ numB k ++ [58] ++ (if g.1 < 100 then cnm g.1 else fam (g.1 - 100)) ++ [40] ++ nm g.2.1 ++ [41] ++ (if g.1 < 100 then [] else 126 :: tyB nm con fam g.2.2) ++ [46] ++ givB (k + 1) l
/-- a function's term, an inst's -/
def fnB (ns : List Nat) (e : Et) : List Int := allB nm ns ++ givB nm con fam cnm 0 gv ++ exB nm con fam cnm ab ins gv e []
def dcB (ns : List Nat) (D : Dc) : List Int := allB nm ns ++ givB nm con fam cnm 0 gv ++ evB nm con fam cnm ab ins gv D
end LBT
