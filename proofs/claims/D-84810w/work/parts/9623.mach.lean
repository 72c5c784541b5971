set_option maxRecDepth 100000
/-! THE MACHINE, PLAINLY: values and environments are trees; dictionaries go by closed types -/
/-- whose an ex is (functions from 0, insts from 100 on; 1000: an ask's), and the types for its names -/
abbrev Ow : Type := Nat × (Nat → Ty)
/-- 1 Int, 2 Bool, 3 built, 4 list, 5 pair, 6 half, 7 function, 8 environment -/
abbrev Vt : Type := Std.DTreeMap.Internal.Impl (Int × Ow × Et) (fun _ => Unit)
def oN : Ow := (1000, fun _ => tInt)
abbrev xvI (n : Int) : Vt := .inner 1 (n, oN, .leaf) () .leaf .leaf
abbrev xvB (n : Int) : Vt := .inner 2 (n, oN, .leaf) () .leaf .leaf
abbrev xvA (n : Int) : Vt := .inner 3 (n, oN, .leaf) () .leaf .leaf
abbrev xvL (a b : Vt) : Vt := .inner 4 (0, oN, .leaf) () a b
abbrev xvP (a b : Vt) : Vt := .inner 5 (0, oN, .leaf) () a b
abbrev xvH (n : Int) (a : Vt) : Vt := .inner 6 (n, oN, .leaf) () a .leaf
abbrev xvF (o : Ow) (e : Et) (en : Vt) : Vt := .inner 7 (0, o, e) () en .leaf
abbrev xvE (v en : Vt) : Vt := .inner 8 (0, oN, .leaf) () v en
def xtg : Vt → Nat
  | .leaf => 0
  | .inner t _ _ _ _ => t
def xnm : Vt → Int
  | .leaf => 0
  | .inner _ a _ _ _ => a.1
def xl : Vt → Vt
  | .leaf => .leaf
  | .inner _ _ _ l _ => l
def xr : Vt → Vt
  | .leaf => .leaf
  | .inner _ _ _ _ r => r
def xow : Vt → Ow
  | .leaf => oN
  | .inner _ a _ _ _ => a.2.1
def xcd : Vt → Et
  | .leaf => .leaf
  | .inner _ a _ _ _ => a.2.2
/-- an environment's things, the innermost last -/
def xls : Vt → List Vt
  | .leaf => []
  | .inner _ _ _ l r => xls r ++ [l]
def eTg : Et → Nat
  | .leaf => 0
  | .inner t _ _ _ _ => t
def eLf : Et → Et
  | .leaf => .leaf
  | .inner _ _ _ l _ => l
def eRt : Et → Et
  | .leaf => .leaf
  | .inner _ _ _ _ r => r
def eLb : Et → XL
  | .leaf => (0, 0, 0, 0, 0, [])
  | .inner _ a _ _ _ => a.1
def eEv : Et → List Dc
  | .leaf => []
  | .inner _ a _ _ _ => a.2.2.2
/-- functions, methods, above, insts -/
abbrev MPg : Type := List (List Nat × List GVs × Ty) × List (Option (Nat × Nat × Ty)) × List (Option Nat) × List INs
/-- judged exs: of functions, of insts by their class's methods -/
abbrev MBd : Type := (Nat → Et) × (Nat → Nat → Et)
/-- what is given in an owner -/
def gvW (M : MPg) (o : Nat) : List GVs := if o < 100 then (M.1[o]?).elim [] (fun f => f.2.1) else if o < 200 then (M.2.2.2[o - 100]?).elim [] gvI else []
def eW (M : MPg) (o : Nat) : JE := (M.1, M.2.1, M.2.2.1, M.2.2.2, gvW M o)
/-- what waits: kind, ex, environment, owner, a thing -/
abbrev Fr : Type := Nat × Et × Vt × Ow × Vt
/-- ex, environment, owner, what waits; cells, most frames -/
abbrev MS : Type := Et × Vt × Ow × List Fr × Nat × Nat
/-- the end: 2 done, 3 too deep, 4 full; the thing; cells, most frames -/
abbrev MF : Type := Nat × Vt × Nat × Nat
def xsg (s : Nat) (a b : Int) : Vt := if s = 60 then xvB (if a < b then 1 else 0) else if s = 61 then xvB (if a = b then 1 else 0) else if s = 42 then xvI (w32 (a * b)) else if s = 43 then xvI (w32 (a + b)) else xvI (w32 (a - b))
/-- a thing comes back -/
def pcm : List Fr → Vt → Nat → Nat → MS ⊕ MF
  | [], v, c, m => .inr (2, v, c, m)
  | f :: fs, v, c, m =>
    if f.1 = 12 then .inl (eRt f.2.1, f.2.2.1, f.2.2.2.1, (112, f.2.1, f.2.2.1, f.2.2.2.1, v) :: fs, c, m)
    else if f.1 = 18 then .inl (eRt f.2.1, f.2.2.1, f.2.2.2.1, (118, f.2.1, f.2.2.1, f.2.2.2.1, v) :: fs, c, m)
    else if f.1 = 15 then (if c < 4000 then .inl (eRt f.2.1, xvE v f.2.2.1, f.2.2.2.1, fs, c + 1, m) else .inr (4, .leaf, 4000, m))
    else if f.1 = 16 then .inl (if xnm v = 1 then eLf (eRt f.2.1) else eRt (eRt f.2.1), f.2.2.1, f.2.2.2.1, fs, c, m)
    else if f.1 = 17 then (if xtg v = 3 then .inl (eLf (eRt f.2.1), f.2.2.1, f.2.2.2.1, fs, c, m) else if c + 1 < 4000 then .inl (eRt (eRt f.2.1), xvE (xr v) (xvE (xl v) f.2.2.1), f.2.2.2.1, fs, c + 2, m) else .inr (4, .leaf, 4000, m))
    else if f.1 = 118 then pcm fs (xsg (eLb f.2.1).2.1 (xnm f.2.2.2.2) (xnm v)) c m
    else if xtg f.2.2.2.2 = 7 then (if c < 4000 then .inl (eLf (xcd f.2.2.2.2), xvE v (xl f.2.2.2.2), xow f.2.2.2.2, fs, c + 1, m) else .inr (4, .leaf, 4000, m))
    else if xtg f.2.2.2.2 = 6 then (if c < 4000 then pcm fs (if xnm f.2.2.2.2 = 1 then xvL (xl f.2.2.2.2) v else xvP (xl f.2.2.2.2) v) (c + 1) m else .inr (4, .leaf, 4000, m))
    else if xnm f.2.2.2.2 = 3 then pcm fs (xl v) c m
    else if xnm f.2.2.2.2 = 4 then pcm fs (xr v) c m
    else if c < 4000 then pcm fs (xvH (xnm f.2.2.2.2) v) (c + 1) m else .inr (4, .leaf, 4000, m)
def dTg : Dc → Nat
  | .leaf => 0
  | .inner t _ _ _ _ => t
/-- what reasons cost -/
def cEv (ab : List (Option Nat)) (ins : List INs) (gv : List GVs) (θ : Nat → Ty) : List Dc → Option Nat
  | [] => some 0
  | D :: l => (if dTg D = 2 then some 0 else cst ab ins gv θ D).bind fun x => (cEv ab ins gv θ l).map fun y => x + y
def tWh : Ty → Nat
  | .leaf => 0
  | .inner _ w _ _ _ => w
/-- the inst of a class for a closed type -/
def iAt (ins : List INs) (c : Nat) (τ : Ty) : Option (Nat × INs) := (iOf ins c (tWh τ)).bind fun i => (ins[i]?).map fun d => (i, d)
/-- a name -/
def pnm (M : MPg) (B : MBd) (lb : XL) (ev : List Dc) (en : Vt) (o : Ow) (fs : List Fr) (c m : Nat) : MS ⊕ MF :=
  if lb.2.1 = 0 then pcm fs ((xls en)[lb.2.2.1]?.getD .leaf) c m
  else if lb.2.1 = 1 then ((M.1[lb.2.2.1]?).bind fun f => (cEv M.2.2.1 M.2.2.2 (gvW M o.1) o.2 ev).map fun x => (f, x)).elim (.inr (9, .leaf, c, m)) fun p => if c + p.2 ≤ 4000 then .inl (B.1 lb.2.2.1, .leaf, (lb.2.2.1, thF M.2.2.2 o.2 p.1.1 (lb.2.2.2.2.2.map Prod.fst)), fs, c + p.2, m) else .inr (4, .leaf, 4000, m)
  else if lb.2.1 = 2 then (((M.2.1[lb.2.2.1]?).bind id).bind fun mm => (iAt M.2.2.2 mm.1 (sem M.2.2.2 o.2 ((lb.2.2.2.2.2.map Prod.fst)[0]?.getD .leaf))).bind fun q => (cEv M.2.2.1 M.2.2.2 (gvW M o.1) o.2 ev).map fun x => (q, x)).elim (.inr (9, .leaf, c, m)) fun p => if c + p.2 ≤ 4000 then .inl (B.2 p.1.1 (lb.2.2.1 % 4), .leaf, (100 + p.1.1, thN p.1.2 (tL (sem M.2.2.2 o.2 ((lb.2.2.2.2.2.map Prod.fst)[0]?.getD .leaf))) (tR' (sem M.2.2.2 o.2 ((lb.2.2.2.2.2.map Prod.fst)[0]?.getD .leaf)))), fs, c + p.2, m) else .inr (4, .leaf, 4000, m)
  else pcm fs (if lb.2.2.1 < 5 then xvA (lb.2.2.1 : Int) else xvB (if lb.2.2.1 = 5 then 1 else 0)) c m
/-- ONE STEP -/
def pstp (M : MPg) (B : MBd) (s : MS) : MS ⊕ MF :=
  if eTg s.1 = 10 then pnm M B (eLb s.1) (eEv s.1) s.2.1 s.2.2.1 s.2.2.2.1 s.2.2.2.2.1 s.2.2.2.2.2
  else if eTg s.1 = 11 then pcm s.2.2.2.1 (xvI (w32 ((eLb s.1).2.1 : Int))) s.2.2.2.2.1 s.2.2.2.2.2
  else if eTg s.1 = 14 then (if s.2.2.2.2.1 < 4000 then pcm s.2.2.2.1 (xvF s.2.2.1 s.1 s.2.1) (s.2.2.2.2.1 + 1) s.2.2.2.2.2 else .inr (4, .leaf, 4000, s.2.2.2.2.2))
  else if s.2.2.2.1.length < 300 then .inl (eLf s.1, s.2.1, s.2.2.1, (eTg s.1, s.1, s.2.1, s.2.2.1, .leaf) :: s.2.2.2.1, s.2.2.2.2.1, max s.2.2.2.2.2 (s.2.2.2.1.length + 1)) else .inr (3, .leaf, s.2.2.2.2.1, s.2.2.2.2.2)
/-- THINGS OF A TYPE; environments of a row of types -/
def vT (M : MPg) : Vt → Ty ⊕ List Ty → Prop
  | .leaf, .inl _ => False
  | .leaf, .inr γ => γ = []
  | .inner t a _ l r, .inl τ =>
    (t = 1 ∧ τ = tInt ∧ -2147483648 ≤ a.1 ∧ a.1 ≤ 2147483647)
    ∨ (t = 2 ∧ τ = tBool ∧ (a.1 = 0 ∨ a.1 = 1))
    ∨ (t = 3 ∧ ∃ (k : Nat) (x y : Ty), k < 5 ∧ a.1 = (k : Int) ∧ τ = btT k x y)
    ∨ (t = 4 ∧ ∃ x, τ = tnd 1 2 x .leaf ∧ vT M l (.inl x) ∧ vT M r (.inl (tnd 1 2 x .leaf)))
    ∨ (t = 5 ∧ ∃ x y, τ = tnd 1 3 x y ∧ vT M l (.inl x) ∧ vT M r (.inl y))
    ∨ (t = 6 ∧ ∃ x, vT M l (.inl x) ∧ ((a.1 = 1 ∧ τ = tArr (tnd 1 2 x .leaf) (tnd 1 2 x .leaf)) ∨ (a.1 = 2 ∧ ∃ y, τ = tArr y (tnd 1 3 x y))))
    ∨ (t = 7 ∧ okTh M.2.2.2 (gvW M a.2.1.1) a.2.1.2 ∧ (∃ γ, vT M l (.inr γ) ∧ wS (eW M a.2.1.1) a.2.1.2 a.2.2 γ) ∧ eTg a.2.2 = 14 ∧ τ = sem M.2.2.2 a.2.1.2 (eTy a.2.2))
  | .inner t _ _ l r, .inr γ => t = 8 ∧ ∃ x γ', γ = γ' ++ [x] ∧ vT M l (.inl x) ∧ vT M r (.inr γ')
/-- what waits for a thing of a type -/
def fTy (M : MPg) : List Fr → Ty → Prop
  | [], _ => True
  | f :: fs, τ => (okTh M.2.2.2 (gvW M f.2.2.2.1.1) f.2.2.2.1.2 ∧ ∃ γ, vT M f.2.2.1 (.inr γ) ∧ wS (eW M f.2.2.2.1.1) f.2.2.2.1.2 f.2.1 γ) ∧ fTy M fs (sem M.2.2.2 f.2.2.2.1.2 (eTy f.2.1)) ∧
    ((f.1 = eTg f.2.1 ∧ (f.1 = 12 ∨ f.1 = 18 ∨ f.1 = 15 ∨ f.1 = 16 ∨ f.1 = 17) ∧ τ = sem M.2.2.2 f.2.2.2.1.2 (eTy (eLf f.2.1)))
    ∨ (f.1 = 112 ∧ eTg f.2.1 = 12 ∧ vT M f.2.2.2.2 (.inl (sem M.2.2.2 f.2.2.2.1.2 (eTy (eLf f.2.1)))) ∧ τ = sem M.2.2.2 f.2.2.2.1.2 (eTy (eRt f.2.1)))
    ∨ (f.1 = 118 ∧ eTg f.2.1 = 18 ∧ vT M f.2.2.2.2 (.inl tInt) ∧ τ = sem M.2.2.2 f.2.2.2.1.2 (eTy (eRt f.2.1))))
/-- a state as it must be -/
def sTy (M : MPg) (s : MS) : Prop := (okTh M.2.2.2 (gvW M s.2.2.1.1) s.2.2.1.2 ∧ ∃ γ, vT M s.2.1 (.inr γ) ∧ wS (eW M s.2.2.1.1) s.2.2.1.2 s.1 γ) ∧ fTy M s.2.2.2.1 (sem M.2.2.2 s.2.2.1.2 (eTy s.1)) ∧ s.2.2.2.1.length ≤ 300 ∧ s.2.2.2.2.1 ≤ 4000
/-- what comes of a step -/
def rTy (M : MPg) : MS ⊕ MF → Prop
  | .inl s => sTy M s
  | .inr f => (f.1 = 2 ∧ ∃ τ, vT M f.2.1 (.inl τ)) ∨ f.1 = 3 ∨ f.1 = 4
/-- bodies as they must be -/
def bTy (M : MPg) (B : MBd) : Prop := (∀ (i : Nat) (f : List Nat × List GVs × Ty), M.1[i]? = some f → ∀ θ, okTh M.2.2.2 f.2.1 θ → wS (eW M i) θ (B.1 i) [] ∧ sem M.2.2.2 θ (eTy (B.1 i)) = sem M.2.2.2 θ f.2.2) ∧ ∀ (i k : Nat) (d : INs) (mm : Nat × Nat × Ty), M.2.2.2[i]? = some d → M.2.1[k]? = some (some mm) → d.1 = mm.1 → ∀ θ, okTh M.2.2.2 (gvI d) θ → wS (eW M (100 + i)) θ (B.2 i (k % 4)) [] ∧ sem M.2.2.2 θ (eTy (B.2 i (k % 4))) = sem M.2.2.2 θ (sbT [(mm.2.1, hdI d)] mm.2.2)
/-- functions, methods, insts as they must be -/
def mPO (M : MPg) : Prop := PgO M.2.2.1 M.2.2.2 ∧ M.1.length ≤ 24 ∧ ∀ (k : Nat) (mm : Nat × Nat × Ty), M.2.1[k]? = some (some mm) → nmIn [mm.2.1] mm.2.2
section LMC
variable {M : MPg} {B : MBd}
theorem vT_env : ∀ {en : Vt} {γ : List Ty}, vT M en (.inr γ) → (xls en).length = γ.length ∧ ∀ (i : Nat) (v : Vt) (τ : Ty), (xls en)[i]? = some v → γ[i]? = some τ → vT M v (.inl τ)
  | .leaf, γ, h => by
    have h' : γ = [] := h
    rw [h']
    exact ⟨rfl, fun i v τ e => by cases e⟩
  | .inner t a u l r, γ, h => by
    obtain ⟨_, x, γ', e, h1, h2⟩ := h
    obtain ⟨g1, g2⟩ := vT_env h2
    have e1 : xls (.inner t a u l r) = xls r ++ [l] := rfl
    rw [e1, e]
    refine ⟨by rw [List.length_append, List.length_append, g1]; rfl, fun i v τ e2 e3 => ?_⟩
    by_cases c : i < (xls r).length
    · rw [List.getElem?_append_left c] at e2
      rw [List.getElem?_append_left (by omega)] at e3
      exact g2 i v τ e2 e3
    · rw [List.getElem?_append_right (by omega)] at e2
      rw [List.getElem?_append_right (by omega), ← g1] at e3
      cases q : i - (xls r).length with
      | zero =>
        rw [q] at e2 e3
        rw [← Option.some.inj e2, ← Option.some.inj e3]
        exact h1
      | succ j => rw [q] at e2; cases e2
theorem vT_more {en v : Vt} {γ : List Ty} {x : Ty} (h : vT M en (.inr γ)) (hv : vT M v (.inl x)) : vT M (xvE v en) (.inr (γ ++ [x])) := ⟨rfl, x, γ, rfl, hv, h⟩
theorem bt_cs {k : Nat} {x y : Ty} (hk : k < 5) : (k = 0 ∧ btT k x y = tnd 1 2 x .leaf) ∨ (k = 1 ∧ btT k x y = tArr x (tArr (tnd 1 2 x .leaf) (tnd 1 2 x .leaf))) ∨ (k = 2 ∧ btT k x y = tArr x (tArr y (tnd 1 3 x y))) ∨ (k = 3 ∧ btT k x y = tArr (tnd 1 3 x y) x) ∨ (k = 4 ∧ btT k x y = tArr (tnd 1 3 x y) y) := by
  have : k = 0 ∨ k = 1 ∨ k = 2 ∨ k = 3 ∨ k = 4 := by omega
  rcases this with e | e | e | e | e
  · subst e; exact .inl ⟨rfl, rfl⟩
  · subst e; exact .inr (.inl ⟨rfl, rfl⟩)
  · subst e; exact .inr (.inr (.inl ⟨rfl, rfl⟩))
  · subst e; exact .inr (.inr (.inr (.inl ⟨rfl, rfl⟩)))
  · subst e; exact .inr (.inr (.inr (.inr ⟨rfl, rfl⟩)))
theorem vT_int {v : Vt} (h : vT M v (.inl tInt)) : xtg v = 1 ∧ -2147483648 ≤ xnm v ∧ xnm v ≤ 2147483647 := by
  cases v with
  | leaf => exact h.elim
  | inner t a u l r =>
    rcases h with h | h | ⟨_, k, x, y, hk, _, e⟩ | ⟨_, x, e, _⟩ | ⟨_, x, y, e, _⟩ | ⟨_, x, _, ⟨_, e⟩ | ⟨_, y, e⟩⟩ | ⟨_, _, ⟨γ, _, hw⟩, e14, e⟩
    · exact ⟨h.1, h.2.2⟩
    · cases h.2.1
    · rcases bt_cs (x := x) (y := y) hk with q | q | q | q | q
      · rw [q.2] at e; cases e
      · rw [q.2] at e; cases e
      · rw [q.2] at e; cases e
      · rw [q.2] at e; cases e
      · rw [q.2] at e; cases e
    · cases e
    · cases e
    · cases e
    · cases e
    · cases hc : a.2.2 with
      | leaf => rw [hc] at e14; cases e14
      | inner t' a' u' l' r' =>
        rw [hc] at e14 hw e
        have t14 : t' = 14 := e14
        subst t14
        rw [wS_e] at hw
        unfold wSB at hw
        rw [if_neg (by decide), if_neg (by decide), if_neg (by decide), if_pos rfl] at hw
        have e' : tInt = sem M.2.2.2 a.2.1.2 a'.2.1 := e
        have hw1 : sem M.2.2.2 a.2.1.2 a'.2.1 = tArr _ _ := hw.1
        rw [hw1] at e'
        cases e'
theorem vT_bool {v : Vt} (h : vT M v (.inl tBool)) : xtg v = 2 ∧ (xnm v = 0 ∨ xnm v = 1) := by
  cases v with
  | leaf => exact h.elim
  | inner t a u l r =>
    rcases h with h | h | ⟨_, k, x, y, hk, _, e⟩ | ⟨_, x, e, _⟩ | ⟨_, x, y, e, _⟩ | ⟨_, x, _, ⟨_, e⟩ | ⟨_, y, e⟩⟩ | ⟨_, _, ⟨γ, _, hw⟩, e14, e⟩
    · cases h.2.1
    · exact ⟨h.1, h.2.2⟩
    · rcases bt_cs (x := x) (y := y) hk with q | q | q | q | q
      · rw [q.2] at e; cases e
      · rw [q.2] at e; cases e
      · rw [q.2] at e; cases e
      · rw [q.2] at e; cases e
      · rw [q.2] at e; cases e
    · cases e
    · cases e
    · cases e
    · cases e
    · cases hc : a.2.2 with
      | leaf => rw [hc] at e14; cases e14
      | inner t' a' u' l' r' =>
        rw [hc] at e14 hw e
        have t14 : t' = 14 := e14
        subst t14
        rw [wS_e] at hw
        unfold wSB at hw
        rw [if_neg (by decide), if_neg (by decide), if_neg (by decide), if_pos rfl] at hw
        have e' : tBool = sem M.2.2.2 a.2.1.2 a'.2.1 := e
        have hw1 : sem M.2.2.2 a.2.1.2 a'.2.1 = tArr _ _ := hw.1
        rw [hw1] at e'
        cases e'
/-- a list: nil, or a thing and a list -/
theorem vT_list {v : Vt} {x : Ty} (h : vT M v (.inl (tnd 1 2 x .leaf))) : (xtg v = 3 ∧ xnm v = 0) ∨ (xtg v = 4 ∧ vT M (xl v) (.inl x) ∧ vT M (xr v) (.inl (tnd 1 2 x .leaf))) := by
  cases v with
  | leaf => exact h.elim
  | inner t a u l r =>
    rcases h with h | h | ⟨t3, k, x', y, hk, ek, e⟩ | ⟨t4, x', e, h1, h2⟩ | ⟨_, x', y, e, _⟩ | ⟨_, x', _, ⟨_, e⟩ | ⟨_, y, e⟩⟩ | ⟨_, _, ⟨γ, _, hw⟩, e14, e⟩
    · cases h.2.1
    · cases h.2.1
    · rcases bt_cs (x := x') (y := y) hk with q | q | q | q | q
      · refine .inl ⟨t3, ?_⟩
        show a.1 = 0
        rw [ek, q.1]; rfl
      · rw [q.2] at e; cases e
      · rw [q.2] at e; cases e
      · rw [q.2] at e; cases e
      · rw [q.2] at e; cases e
    · injection e with e1 e2 e3 e4 e5
      rw [← e4] at h1 h2
      exact .inr ⟨t4, h1, h2⟩
    · cases e
    · cases e
    · cases e
    · cases hc : a.2.2 with
      | leaf => rw [hc] at e14; cases e14
      | inner t' a' u' l' r' =>
        rw [hc] at e14 hw e
        have t14 : t' = 14 := e14
        subst t14
        rw [wS_e] at hw
        unfold wSB at hw
        rw [if_neg (by decide), if_neg (by decide), if_neg (by decide), if_pos rfl] at hw
        have e' : tnd 1 2 x .leaf = sem M.2.2.2 a.2.1.2 a'.2.1 := e
        have hw1 : sem M.2.2.2 a.2.1.2 a'.2.1 = tArr _ _ := hw.1
        rw [hw1] at e'
        cases e'
theorem vT_pair {v : Vt} {x y : Ty} (h : vT M v (.inl (tnd 1 3 x y))) : xtg v = 5 ∧ vT M (xl v) (.inl x) ∧ vT M (xr v) (.inl y) := by
  cases v with
  | leaf => exact h.elim
  | inner t a u l r =>
    rcases h with h | h | ⟨t3, k, x', y', hk, ek, e⟩ | ⟨t4, x', e, h1, h2⟩ | ⟨t5, x', y', e, h1, h2⟩ | ⟨_, x', _, ⟨_, e⟩ | ⟨_, y', e⟩⟩ | ⟨_, _, ⟨γ, _, hw⟩, e14, e⟩
    · cases h.2.1
    · cases h.2.1
    · rcases bt_cs (x := x') (y := y') hk with q | q | q | q | q
      · rw [q.2] at e; cases e
      · rw [q.2] at e; cases e
      · rw [q.2] at e; cases e
      · rw [q.2] at e; cases e
      · rw [q.2] at e; cases e
    · cases e
    · injection e with e1 e2 e3 e4 e5
      rw [← e4] at h1
      rw [← e5] at h2
      exact ⟨t5, h1, h2⟩
    · cases e
    · cases e
    · cases hc : a.2.2 with
      | leaf => rw [hc] at e14; cases e14
      | inner t' a' u' l' r' =>
        rw [hc] at e14 hw e
        have t14 : t' = 14 := e14
        subst t14
        rw [wS_e] at hw
        unfold wSB at hw
        rw [if_neg (by decide), if_neg (by decide), if_neg (by decide), if_pos rfl] at hw
        have e' : tnd 1 3 x y = sem M.2.2.2 a.2.1.2 a'.2.1 := e
        have hw1 : sem M.2.2.2 a.2.1.2 a'.2.1 = tArr _ _ := hw.1
        rw [hw1] at e'
        cases e'
/-- what can be used with a thing -/
theorem vT_arr {v : Vt} {x y : Ty} (h : vT M v (.inl (tArr x y))) : (xtg v = 3 ∧ ((xnm v = 1 ∧ y = tArr (tnd 1 2 x .leaf) (tnd 1 2 x .leaf)) ∨ (xnm v = 2 ∧ ∃ z, y = tArr z (tnd 1 3 x z)) ∨ (xnm v = 3 ∧ ∃ z, x = tnd 1 3 y z) ∨ (xnm v = 4 ∧ ∃ z, x = tnd 1 3 z y))) ∨ (xtg v = 6 ∧ ∃ z, vT M (xl v) (.inl z) ∧ ((xnm v = 1 ∧ x = tnd 1 2 z .leaf ∧ y = tnd 1 2 z .leaf) ∨ (xnm v = 2 ∧ y = tnd 1 3 z x))) ∨ (xtg v = 7 ∧ okTh M.2.2.2 (gvW M (xow v).1) (xow v).2 ∧ ∃ γ, vT M (xl v) (.inr γ) ∧ wS (eW M (xow v).1) (xow v).2 (eLf (xcd v)) (γ ++ [x]) ∧ sem M.2.2.2 (xow v).2 (eTy (eLf (xcd v))) = y ∧ eTg (xcd v) = 14) := by
  cases v with
  | leaf => exact h.elim
  | inner t a u l r =>
    rcases h with h | h | ⟨t3, k, x', y', hk, ek, e⟩ | ⟨t4, x', e, h1, h2⟩ | ⟨t5, x', y', e, h1, h2⟩ | ⟨t6, x', h1, ⟨k1, e⟩ | ⟨k2, y', e⟩⟩ | ⟨t7, ok, ⟨γ, hg, hw⟩, e14, e⟩
    · cases h.2.1
    · cases h.2.1
    · have en : xnm (.inner t a u l r) = (k : Int) := ek
      rw [en]
      rcases bt_cs (x := x') (y := y') hk with q | q | q | q | q
      · rw [q.2] at e; cases e
      · rw [q.2] at e
        injection e with e1 e2 e3 e4 e5
        exact .inl ⟨t3, .inl ⟨by rw [q.1]; rfl, by rw [e4, e5]⟩⟩
      · rw [q.2] at e
        injection e with e1 e2 e3 e4 e5
        exact .inl ⟨t3, .inr (.inl ⟨by rw [q.1]; rfl, y', by rw [e4, e5]⟩)⟩
      · rw [q.2] at e
        injection e with e1 e2 e3 e4 e5
        exact .inl ⟨t3, .inr (.inr (.inl ⟨by rw [q.1]; rfl, y', by rw [e4, e5]⟩))⟩
      · rw [q.2] at e
        injection e with e1 e2 e3 e4 e5
        exact .inl ⟨t3, .inr (.inr (.inr ⟨by rw [q.1]; rfl, x', by rw [e4, e5]⟩))⟩
    · cases e
    · cases e
    · injection e with e1 e2 e3 e4 e5
      exact .inr (.inl ⟨t6, x', h1, .inl ⟨k1, e4, e5⟩⟩)
    · injection e with e1 e2 e3 e4 e5
      exact .inr (.inl ⟨t6, x', h1, .inr ⟨k2, by rw [e5, e4]⟩⟩)
    · refine .inr (.inr ⟨t7, ok, γ, hg, ?_⟩)
      show wS _ a.2.1.2 (eLf a.2.2) (γ ++ [x]) ∧ sem M.2.2.2 a.2.1.2 (eTy (eLf a.2.2)) = y ∧ eTg a.2.2 = 14
      cases hc : a.2.2 with
      | leaf => rw [hc] at e14; cases e14
      | inner t' a' u' l' r' =>
        rw [hc] at e14 hw e
        have t14 : t' = 14 := e14
        subst t14
        rw [wS_e] at hw
        unfold wSB at hw
        rw [if_neg (by decide), if_neg (by decide), if_neg (by decide), if_pos rfl] at hw
        have e' : tArr x y = sem M.2.2.2 a.2.1.2 a'.2.1 := e
        obtain ⟨hw1, hw2⟩ := hw
        have hw1' : sem M.2.2.2 a.2.1.2 a'.2.1 = tArr (sem M.2.2.2 a.2.1.2 (lbT a'.1)) (sem M.2.2.2 a.2.1.2 (eTy l')) := hw1
        rw [hw1'] at e'
        injection e' with e1 e2 e3 e4 e5
        have hw2' : wS (eW M a.2.1.1) a.2.1.2 l' (γ ++ [sem M.2.2.2 a.2.1.2 (lbT a'.1)]) := hw2
        rw [← e4] at hw2'
        exact ⟨hw2', e5.symm, rfl⟩
theorem w32_in (x : Int) : -2147483648 ≤ w32 x ∧ w32 x ≤ 2147483647 := by
  have h := iR_w32 x
  unfold iR at h
  omega
theorem xsg_ty (s : Nat) (a b : Int) : vT M (xsg s a b) (.inl (if s = 60 ∨ s = 61 then tBool else tInt)) := by
  unfold xsg
  by_cases h1 : s = 60
  · have ee : (if s = 60 ∨ s = 61 then tBool else tInt) = tBool := if_pos (.inl h1)
    rw [if_pos h1, ee]
    refine .inr (.inl ⟨rfl, rfl, ?_⟩)
    show (if a < b then (1 : Int) else 0) = 0 ∨ (if a < b then (1 : Int) else 0) = 1
    split
    · exact .inr rfl
    · exact .inl rfl
  · rw [if_neg h1]
    by_cases h2 : s = 61
    · have ee : (if s = 60 ∨ s = 61 then tBool else tInt) = tBool := if_pos (.inr h2)
      rw [if_pos h2, ee]
      refine .inr (.inl ⟨rfl, rfl, ?_⟩)
      show (if a = b then (1 : Int) else 0) = 0 ∨ (if a = b then (1 : Int) else 0) = 1
      split
      · exact .inr rfl
      · exact .inl rfl
    · have ee : (if s = 60 ∨ s = 61 then tBool else tInt) = tInt := if_neg (fun z => z.elim h1 h2)
      rw [if_neg h2, ee]
      split
      · exact .inl ⟨rfl, rfl, w32_in _⟩
      · split
        · exact .inl ⟨rfl, rfl, w32_in _⟩
        · exact .inl ⟨rfl, rfl, w32_in _⟩
end LMC
