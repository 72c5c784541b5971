set_option maxRecDepth 100000
/-! EXS AS TREES, AND JUDGING THEM, PLAINLY -/
/-- place; what it is, which; names (or a number, a sign); types with places -/
abbrev XL : Type := Nat × Nat × Nat × Nat × Nat × List (Ty × Nat)
/-- 10 name (0 bound, 1 function, 2 method, 3 built), 11 number, 12 use, 13 @, 14 function, 15 let, 16 if (behind it a pair), 17 case (the same), 18 sign, 0 pair -/
abbrev Xt : Type := Std.DTreeMap.Internal.Impl XL (fun _ => Unit)
/-- the same, judged: its type, what it is cast to (or leaf), reasons (Dc; tag 2: two types are one) -/
abbrev Et : Type := Std.DTreeMap.Internal.Impl (XL × Ty × Ty × List Dc) (fun _ => Unit)
abbrev xn (tg : Nat) (lb : XL) (l r : Xt) : Xt := .inner tg lb () l r
abbrev en (tg : Nat) (lb : XL) (T C : Ty) (ev : List Dc) (l r : Et) : Et := .inner tg (lb, T, C, ev) () l r
def lbT (lb : XL) : Ty := (lb.2.2.2.2.2[0]?).elim .leaf Prod.fst
def eTy : Et → Ty
  | .leaf => .leaf
  | .inner _ a _ _ _ => a.2.1
def ePl : Et → Nat
  | .leaf => 0
  | .inner _ a _ _ _ => a.1.1
def eCs (C : Ty) : Et → Et
  | .leaf => .leaf
  | .inner t a u l r => .inner t (a.1, a.2.1, C, a.2.2.2) u l r
/-- functions: names, givens, type; methods: class, its name, type; above; insts; given here -/
abbrev JE : Type := List (List Nat × List GVs × Ty) × List (Option (Nat × Nat × Ty)) × List (Option Nat) × List INs × List GVs
abbrev JS : Type := Nat × List Ty
def jb {α β : Type} (x : Option ((Nat × Nat) ⊕ α)) (f : α → Option ((Nat × Nat) ⊕ β)) : Option ((Nat × Nat) ⊕ β) := x.bind (Sum.elim (fun e => some (.inl e)) f)
abbrev tInt : Ty := tnd 1 0 .leaf .leaf
abbrev tBool : Ty := tnd 1 1 .leaf .leaf
abbrev tArr (a b : Ty) : Ty := tnd 3 0 a b
/-- the types of names that are there always -/
def btT (k : Nat) (a b : Ty) : Ty := if k = 0 then tnd 1 2 a .leaf else if k = 1 then tArr a (tArr (tnd 1 2 a .leaf) (tnd 1 2 a .leaf)) else if k = 2 then tArr a (tArr b (tnd 1 3 a b)) else if k = 3 then tArr (tnd 1 3 a b) a else if k = 4 then tArr (tnd 1 3 a b) b else tBool
def btN (k : Nat) : Nat := if k < 2 then 1 else if k < 5 then 2 else 0
/-- what came of an asking -/
def ja {α : Type} (pl : Nat) (z : Option (Option (α × WS))) (f : α → JS → Option ((Nat × Nat) ⊕ (Dc × JS))) : Option ((Nat × Nat) ⊕ (Dc × JS)) := z.bind fun a => match a with
  | none => some (.inl (7, pl))
  | some (x, s) => f x (s.2.1, s.2.2)
/-- a class is to be had -/
def jcl (E : JE) (pl c : Nat) (T : Ty) (s : JS) : Option ((Nat × Nat) ⊕ (Dc × JS)) := ja pl (hd E.2.2.1 E.2.2.2.1 E.2.2.2.2 70 (0, s.1, s.2) c T) (fun b s' => if b = true then (dcT E.2.2.1 E.2.2.2.1 E.2.2.2.2 70 c T).map (fun D => .inr (D, s')) else some (.inl (5, pl)))
/-- two types are to be one -/
def jeq (E : JE) (pl : Nat) (T U : Ty) (s : JS) : Option ((Nat × Nat) ⊕ (Dc × JS)) := if ¬ tszW T ≤ 60 ∨ ¬ tszW U ≤ 60 then some (.inl (7, pl)) else ja pl (oneP E.2.2.2.1 E.2.2.2.2 (0, s.1, s.2) T U) (fun b s' => if b = true then some (.inr (.inner 2 (0, 0, T, U) () .leaf .leaf, s'.1, s'.2 ++ [T, U])) else some (.inl (6, pl)))
/-- the givens of a name -/
def jgv (E : JE) (pl : Nat) (θ : List (Nat × Ty)) : List GVs → JS → Option ((Nat × Nat) ⊕ (List Dc × JS))
  | [], s => some (.inr ([], s))
  | g :: l, s => jb (if g.1 < 100 then jcl E pl g.1 ((lkT θ g.2.1).getD .leaf) s else jeq E pl (tnd 2 (g.1 - 100) ((lkT θ g.2.1).getD .leaf) .leaf) (sbT θ g.2.2) s) fun a => jb (jgv E pl θ l a.2) fun b => some (.inr (a.1 :: b.1, b.2))
/-- a name: how many @s it takes, what its names stand for, its type, its givens -/
def jnN (E : JE) (k i : Nat) : Nat := if k = 1 then (E.1[i]?).elim 0 (fun f => f.1.length) else if k = 2 then 1 else btN i
def jnT (E : JE) (k i : Nat) (ts : List Ty) : Ty := if k = 1 then (E.1[i]?).elim .leaf (fun f => if f.1 = [] then f.2.2 else sbT (f.1.zip ts) f.2.2) else if k = 2 then ((E.2.1[i]?).bind id).elim .leaf (fun m => sbT ([m.2.1].zip ts) m.2.2) else btT i (ts[0]?.getD .leaf) (ts[1]?.getD .leaf)
def jnG (E : JE) (pl k i : Nat) (ts : List Ty) (s : JS) : Option ((Nat × Nat) ⊕ (List Dc × JS)) := if k = 1 then (E.1[i]?).elim none (fun f => jgv E pl (f.1.zip ts) f.2.1 s) else if k = 2 then ((E.2.1[i]?).bind id).elim none (fun m => jb (jcl E pl m.1 (ts[0]?.getD .leaf) s) fun a => some (.inr ([a.1], a.2))) else some (.inr ([], s))
def jnm (E : JE) (lb : XL) (Γ : List Ty) (s : JS) : Option ((Nat × Nat) ⊕ (Et × JS)) :=
  if lb.2.1 = 0 then (match lb.2.2.2.2.2 with
    | [] => (Γ[lb.2.2.1]?).map fun T => .inr (en 10 lb T .leaf [] .leaf .leaf, s)
    | a :: _ => some (.inl (4, a.2)))
  else if lb.2.2.2.2.2.length < jnN E lb.2.1 lb.2.2.1 then some (.inl (4, lb.1))
  else match lb.2.2.2.2.2[jnN E lb.2.1 lb.2.2.1]? with
    | some a => some (.inl (4, a.2))
    | none => if jnN E lb.2.1 lb.2.2.1 ≠ 0 ∧ ¬ tszW (jnT E lb.2.1 lb.2.2.1 (lb.2.2.2.2.2.map Prod.fst)) ≤ 60 then some (.inl (7, lb.1)) else jb (jnG E lb.1 lb.2.1 lb.2.2.1 (lb.2.2.2.2.2.map Prod.fst) s) fun a => some (.inr (en 10 lb (jnT E lb.2.1 lb.2.2.1 (lb.2.2.2.2.2.map Prod.fst)) .leaf a.1 .leaf .leaf, a.2))
/-- an ex is to be of a type -/
def jw (E : JE) (T : Ty) (e : Et) (s : JS) : Option ((Nat × Nat) ⊕ (Et × JS)) := if tyE (eTy e) T = true then some (.inr (e, s)) else (oneP E.2.2.2.1 E.2.2.2.2 (0, s.1, s.2) (eTy e) T).bind fun a => match a with
  | none => some (.inl (7, ePl e))
  | some (b, s') => if b = true then some (.inr (eCs T e, s'.2.1, s'.2.2)) else some (.inl (4, ePl e))
def isK (k w : Nat) : Ty → Bool
  | .leaf => false
  | .inner k' w' _ _ _ => k' == k && w' == w
/-- an ex is to be of a type of a form -/
def jf (E : JE) (k w pl : Nat) (e : Et) (s : JS) : Option ((Nat × Nat) ⊕ (Et × Ty × JS)) := if isK k w (eTy e) = true then some (.inr (e, eTy e, s)) else (wk 2 E.2.2.2.1 E.2.2.2.2 130 false 0 (0, s.1, s.2) (eTy e)).bind fun a => match a with
  | none => some (.inl (7, pl))
  | some (u, s') => if isK k w u = true then some (.inr (eCs u e, u, s'.2.1, s'.2.2)) else some (.inl (4, pl))
def xPl : Xt → Nat
  | .leaf => 0
  | .inner _ a _ _ _ => a.1
/-- JUDGING -/
def jd (E : JE) : Xt → List Ty → JS → Option ((Nat × Nat) ⊕ (Et × JS))
  | .leaf, _, _ => none
  | .inner t lb _ l r, Γ, s =>
    if t = 10 then jnm E lb Γ s
    else if t = 11 then some (.inr (en 11 lb tInt .leaf [] .leaf .leaf, s))
    else if t = 12 then jb (jd E l Γ s) fun a => jb (jf E 3 0 (xPl r) a.1 a.2) fun f => jb (jd E r Γ f.2.2) fun b => jb (jw E (tL f.2.1) b.1 b.2) fun c => some (.inr (en 12 lb (tR' f.2.1) .leaf [] f.1 c.1, c.2))
    else if t = 13 then jb (jd E l Γ s) fun _ => some (.inl (4, lb.2.1))
    else if t = 14 then jb (jd E l (Γ ++ [lbT lb]) s) fun a => some (.inr (en 14 lb (tArr (lbT lb) (eTy a.1)) .leaf [] a.1 .leaf, a.2))
    else if t = 15 then jb (jd E l Γ s) fun a => jb (jw E (lbT lb) a.1 a.2) fun b => jb (jd E r (Γ ++ [lbT lb]) b.2) fun c => some (.inr (en 15 lb (eTy c.1) .leaf [] b.1 c.1, c.2))
    else if t = 18 then jb (jd E l Γ s) fun a => jb (jw E tInt a.1 a.2) fun b => jb (jd E r Γ b.2) fun c => jb (jw E tInt c.1 c.2) fun d => some (.inr (en 18 lb (if lb.2.1 = 60 ∨ lb.2.1 = 61 then tBool else tInt) .leaf [] b.1 d.1, d.2))
    else match r with
      | .leaf => none
      | .inner t' lb' _ r1 r2 =>
        if t = 16 then jb (jd E l Γ s) fun a => jb (jw E tBool a.1 a.2) fun b => jb (jd E r1 Γ b.2) fun c => jb (jd E r2 Γ c.2) fun d => jb (jw E (eTy c.1) d.1 d.2) fun e => some (.inr (en 16 lb (eTy c.1) .leaf [] b.1 (en t' lb' .leaf .leaf [] c.1 e.1), e.2))
        else if t = 17 then jb (jd E l Γ s) fun a => jb (jf E 1 2 (ePl a.1) a.1 a.2) fun f => jb (jd E r1 Γ f.2.2) fun c => jb (jd E r2 (Γ ++ [tL f.2.1, f.2.1]) c.2) fun d => jb (jw E (eTy c.1) d.1 d.2) fun e => some (.inr (en 17 lb (eTy c.1) .leaf [] f.1 (en t' lb' .leaf .leaf [] c.1 e.1), e.2))
        else none
/-- the same, one step -/
def jdB (E : JE) (W : Xt → List Ty → JS → Option ((Nat × Nat) ⊕ (Et × JS))) (t : Nat) (lb : XL) (l r : Xt) (Γ : List Ty) (s : JS) : Option ((Nat × Nat) ⊕ (Et × JS)) :=
    if t = 10 then jnm E lb Γ s
    else if t = 11 then some (.inr (en 11 lb tInt .leaf [] .leaf .leaf, s))
    else if t = 12 then jb (W l Γ s) fun a => jb (jf E 3 0 (xPl r) a.1 a.2) fun f => jb (W r Γ f.2.2) fun b => jb (jw E (tL f.2.1) b.1 b.2) fun c => some (.inr (en 12 lb (tR' f.2.1) .leaf [] f.1 c.1, c.2))
    else if t = 13 then jb (W l Γ s) fun _ => some (.inl (4, lb.2.1))
    else if t = 14 then jb (W l (Γ ++ [lbT lb]) s) fun a => some (.inr (en 14 lb (tArr (lbT lb) (eTy a.1)) .leaf [] a.1 .leaf, a.2))
    else if t = 15 then jb (W l Γ s) fun a => jb (jw E (lbT lb) a.1 a.2) fun b => jb (W r (Γ ++ [lbT lb]) b.2) fun c => some (.inr (en 15 lb (eTy c.1) .leaf [] b.1 c.1, c.2))
    else if t = 18 then jb (W l Γ s) fun a => jb (jw E tInt a.1 a.2) fun b => jb (W r Γ b.2) fun c => jb (jw E tInt c.1 c.2) fun d => some (.inr (en 18 lb (if lb.2.1 = 60 ∨ lb.2.1 = 61 then tBool else tInt) .leaf [] b.1 d.1, d.2))
    else match r with
      | .leaf => none
      | .inner t' lb' _ r1 r2 =>
        if t = 16 then jb (W l Γ s) fun a => jb (jw E tBool a.1 a.2) fun b => jb (W r1 Γ b.2) fun c => jb (W r2 Γ c.2) fun d => jb (jw E (eTy c.1) d.1 d.2) fun e => some (.inr (en 16 lb (eTy c.1) .leaf [] b.1 (en t' lb' .leaf .leaf [] c.1 e.1), e.2))
        else if t = 17 then jb (W l Γ s) fun a => jb (jf E 1 2 (ePl a.1) a.1 a.2) fun f => jb (W r1 Γ f.2.2) fun c => jb (W r2 (Γ ++ [tL f.2.1, f.2.1]) c.2) fun d => jb (jw E (eTy c.1) d.1 d.2) fun e => some (.inr (en 17 lb (eTy c.1) .leaf [] f.1 (en t' lb' .leaf .leaf [] c.1 e.1), e.2))
        else none
theorem jd_e {E : JE} {t : Nat} {lb : XL} {u : Unit} {l r : Xt} {Γ : List Ty} {s : JS} : jd E (.inner t lb u l r) Γ s = jdB E (jd E) t lb l r Γ s := by
  cases r with
  | leaf => rw [jd]; rfl
  | inner _ _ _ _ _ => rw [jd]; rfl
