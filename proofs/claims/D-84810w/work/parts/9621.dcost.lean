set_option maxRecDepth 100000
/-! WHAT A DICTIONARY COSTS when it is put together: how many cells are made -/
/-- so many steps above a dictionary of a class -/
def cUp (r : Nat → Option Nat) (ab : List (Option Nat)) : Nat → Nat → Option Nat
  | 0, _ => some 0
  | n + 1, c => (r c).bind fun x => (ab[c]?).bind fun o => o.bind fun c' => (cUp r ab n c').map fun y => x + y
/-- a dictionary and those behind it, by what is given (R: by name and class, what the one above costs) -/
def cDc (ab : List (Option Nat)) (gv : List GVs) (R : Nat → Nat → Option Nat) : Dc → Option Nat
  | .leaf => some 0
  | .inner t a _ l nx => (if t = 0 then (gv[a.1]?).bind (fun g => cUp (R g.2.1) ab a.2.1 g.1) else (cDc ab gv R l).map (fun y => 1 + y)).bind fun x => (cDc ab gv R nx).map fun y => x + y
/-- the dictionary above an inst's -/
def avD (ab : List (Option Nat)) (ins : List INs) (i : Nat) : Option Dc := (ins[i]?).bind fun d => (ab[d.1]?).bind fun o => o.bind fun c' => dcT ab ins (gvI d) 70 c' (hdI d)
/-- what the one above costs, of a class and a closed type -/
def cA (ab : List (Option Nat)) (ins : List INs) : Ty → Nat → Option Nat
  | .leaf, _ => none
  | .inner k w _ l r, c => if k = 1 then (iOf ins c w).bind fun i => (ins[i]?).bind fun d => (avD ab ins i).bind fun D => cDc ab (gvI d) (fun x => (nm2 d.2.2.1 (cA ab ins l) (cA ab ins r) x).getD (fun _ => none)) D else none
section LDK
variable {ab : List (Option Nat)} {ins : List INs} {gv : List GVs} {θ : Nat → Ty}
theorem cDc_inner {R : Nat → Nat → Option Nat} {t : Nat} {a : Nat × Nat × Ty × Ty} {u : Unit} {l nx : Dc} : cDc ab gv R (.inner t a u l nx) = (if t = 0 then (gv[a.1]?).bind (fun g => cUp (R g.2.1) ab a.2.1 g.1) else (cDc ab gv R l).map (fun y => 1 + y)).bind fun x => (cDc ab gv R nx).map fun y => x + y := rfl
theorem cDc_congr {R R' : Nat → Nat → Option Nat} (h : ∀ g ∈ gv, R g.2.1 = R' g.2.1) : ∀ D : Dc, cDc ab gv R D = cDc ab gv R' D
  | .leaf => rfl
  | .inner t a u l nx => by
    rw [cDc_inner, cDc_inner, cDc_congr h l, cDc_congr h nx]
    by_cases t0 : t = 0
    · rw [if_pos t0, if_pos t0]
      cases q : gv[a.1]? with
      | none => rfl
      | some g =>
        rw [Option.bind_some, Option.bind_some, h g (List.mem_of_getElem? q)]
    · rw [if_neg t0, if_neg t0]
/-- a dictionary stands alone -/
theorem dcT_nx : ∀ {f c : Nat} {T : Ty} {D : Dc}, dcT ab ins gv f c T = some D → ∃ t a u l, D = .inner t a u l .leaf
  | 0, _, _, _, e => by cases e
  | f + 1, c, T, D, e => by
    have e' : (wk 0 ins gv 130 false 0 (0, 0, []) T).bind (fun a => a.bind fun p => dcU ab ins gv (dcT ab ins gv f) c T p.1) = some D := e
    cases q : wk 0 ins gv 130 false 0 (0, 0, []) T with
    | none => rw [q] at e'; cases e'
    | some a =>
    rw [q, Option.bind_some] at e'
    cases a with
    | none => cases e'
    | some p =>
    obtain ⟨v, s1⟩ := p
    rw [Option.bind_some] at e'
    cases v with
    | leaf => cases e'
    | inner k w x l t =>
      have e2 : dcU ab ins gv (dcT ab ins gv f) c T (.inner k w x l t) = some D := e'
      rw [dcU_inner] at e2
      by_cases k0 : k = 0
      · rw [if_pos k0] at e2
        obtain ⟨j, _, e3⟩ := Option.bind_eq_some_iff.mp e2
        obtain ⟨g, _, e4⟩ := Option.bind_eq_some_iff.mp e3
        obtain ⟨n, _, e5⟩ := Option.map_eq_some_iff.mp e4
        exact ⟨_, _, _, _, e5.symm⟩
      · rw [if_neg k0] at e2
        by_cases k1 : k = 1
        · rw [if_pos k1] at e2
          obtain ⟨i, _, e3⟩ := Option.bind_eq_some_iff.mp e2
          obtain ⟨d, _, e4⟩ := Option.bind_eq_some_iff.mp e3
          obtain ⟨cs, _, e5⟩ := Option.map_eq_some_iff.mp e4
          exact ⟨_, _, _, _, e5.symm⟩
        · rw [if_neg k1] at e2; cases e2
/-- one dictionary, in two cases: a given's, an inst's -/
theorem dcT_cs {f c : Nat} {T : Ty} {D : Dc} (e : dcT ab ins gv (f + 1) c T = some D) : ∃ (v : Ty) (s1 : WS), wk 0 ins gv 130 false 0 (0, 0, []) T = some (some (v, s1)) ∧ ((∃ (w : Nat) (x : Unit) (l t : Ty) (j n : Nat) (g : GVs), v = .inner 0 w x l t ∧ gCl ab gv c w = some j ∧ gv[j]? = some g ∧ (g.1 < 100 ∧ g.2.1 = w) ∧ stpA ab 9 g.1 c = some n ∧ D = .inner 0 (j, n, v, T) () .leaf .leaf) ∨ ∃ (w : Nat) (x : Unit) (l t : Ty) (i : Nat) (d : INs) (cs : Dc), v = .inner 1 w x l t ∧ iOf ins c w = some i ∧ ins[i]? = some d ∧ (d.1 = c ∧ d.2.1 = w) ∧ dcL (dcT ab ins gv f) v d.2.2.2.1 = some cs ∧ D = .inner 1 (i, c, v, T) () cs .leaf) := by
  have e' : (wk 0 ins gv 130 false 0 (0, 0, []) T).bind (fun a => a.bind fun p => dcU ab ins gv (dcT ab ins gv f) c T p.1) = some D := e
  cases q : wk 0 ins gv 130 false 0 (0, 0, []) T with
  | none => rw [q] at e'; cases e'
  | some a =>
  rw [q, Option.bind_some] at e'
  cases a with
  | none => cases e'
  | some p =>
  obtain ⟨v, s1⟩ := p
  rw [Option.bind_some] at e'
  refine ⟨v, s1, rfl, ?_⟩
  cases v with
  | leaf => cases e'
  | inner k w x l t =>
    have e2 : dcU ab ins gv (dcT ab ins gv f) c T (.inner k w x l t) = some D := e'
    rw [dcU_inner] at e2
    by_cases k0 : k = 0
    · rw [if_pos k0] at e2
      obtain ⟨j, ej, e3⟩ := Option.bind_eq_some_iff.mp e2
      obtain ⟨g, eg, e4⟩ := Option.bind_eq_some_iff.mp e3
      obtain ⟨n, en, e5⟩ := Option.map_eq_some_iff.mp e4
      obtain ⟨g', g1, g2⟩ := ixF_some ej
      have gg : g' = g := Option.some.inj (g1.symm.trans eg)
      rw [gg] at g2
      have g2' : (g.1 < 100 ∧ g.2.1 = w) ∧ rchB ab 9 g.1 c = true := by simpa using g2
      subst k0
      exact .inl ⟨w, x, l, t, j, n, g, rfl, ej, eg, g2'.1, en, e5.symm⟩
    · rw [if_neg k0] at e2
      by_cases k1 : k = 1
      · rw [if_pos k1] at e2
        obtain ⟨i, ei, e3⟩ := Option.bind_eq_some_iff.mp e2
        obtain ⟨d, ed, e4⟩ := Option.bind_eq_some_iff.mp e3
        obtain ⟨cs, ec, e5⟩ := Option.map_eq_some_iff.mp e4
        obtain ⟨d', d1, d2⟩ := ixF_some ei
        have dd : d' = d := Option.some.inj (d1.symm.trans ed)
        rw [dd] at d2
        have d2' : d.1 = c ∧ d.2.1 = w := by simpa using d2
        subst k1
        exact .inr ⟨w, x, l, t, i, d, cs, rfl, ei, ed, d2', ec, e5.symm⟩
      · rw [if_neg k1] at e2; cases e2
theorem cDc_nx {R : Nat → Nat → Option Nat} {t : Nat} {a : Nat × Nat × Ty × Ty} {u : Unit} {l b : Dc} : cDc ab gv R (dnx (.inner t a u l .leaf) b) = (cDc ab gv R (.inner t a u l .leaf)).bind fun x => (cDc ab gv R b).map fun y => x + y := by
  show cDc ab gv R (.inner t a u l b) = _
  rw [cDc_inner, cDc_inner]
  cases (if t = 0 then (gv[a.1]?).bind (fun g => cUp (R g.2.1) ab a.2.1 g.1) else (cDc ab gv R l).map (fun y => 1 + y)) with
  | none => rfl
  | some z => rfl
/-- steps above one another can be taken -/
theorem cUp_tot {τ : Ty} {r : Nat → Option Nat} (hup : ∀ c c', cHd ins τ c → ab[c]? = some (some c') → cHd ins τ c' ∧ ∃ x, r c = some x) : ∀ (f k a n : Nat), stpA ab f k a = some n → cHd ins τ k → ∃ x, cUp r ab n k = some x
  | 0, _, _, _, e, _ => by cases e
  | f + 1, k, a, n, e, h => by
    unfold stpA at e
    by_cases q : k = a
    · rw [if_pos q] at e
      rw [← Option.some.inj e]
      exact ⟨0, rfl⟩
    · rw [if_neg q] at e
      cases q2 : ab[k]? with
      | none => rw [q2] at e; cases e
      | some o =>
        cases o with
        | none => rw [q2] at e; cases e
        | some k' =>
          rw [q2] at e
          obtain ⟨m, em, e2⟩ := Option.map_eq_some_iff.mp e
          obtain ⟨h1, x, hx⟩ := hup k k' h q2
          obtain ⟨y, hy⟩ := cUp_tot hup f k' a m em h1
          rw [← e2]
          refine ⟨x + y, ?_⟩
          show (r k).bind _ = _
          rw [hx, Option.bind_some, q2, Option.bind_some, Option.bind_some, hy]
          rfl
/-- a dictionary that was found can be put together -/
theorem dc_tot {R : Nat → Nat → Option Nat} (hs : ∀ g ∈ gv, g.1 < 100 → cHd ins (θ g.2.1) g.1) (hup : ∀ g ∈ gv, g.1 < 100 → ∀ c c', cHd ins (θ g.2.1) c → ab[c]? = some (some c') → cHd ins (θ g.2.1) c' ∧ ∃ x, R g.2.1 c = some x) : ∀ (f c : Nat) (T : Ty) (D : Dc), dcT ab ins gv f c T = some D → ∃ x, cDc ab gv R D = some x
  | 0, _, _, _, e => by cases e
  | f + 1, c, T, D, e => by
    obtain ⟨v, s1, _, h | h⟩ := dcT_cs e
    · obtain ⟨w, x, l, t, j, n, g, _, _, eg, ⟨g1, g2⟩, en, eD⟩ := h
      rw [eD, cDc_inner, if_pos rfl]
      have gm := List.mem_of_getElem? eg
      obtain ⟨y, hy⟩ := cUp_tot (hup g gm g1) 9 g.1 c n en (hs g gm g1)
      show ∃ x, ((gv[j]?).bind fun g => cUp (R g.2.1) ab n g.1).bind _ = some x
      rw [eg, Option.bind_some, hy]
      exact ⟨_, rfl⟩
    · obtain ⟨w, x, l, t, i, d, cs, ev, _, _, _, ec, eD⟩ := h
      rw [eD, cDc_inner, if_neg (by decide)]
      have key : ∀ (l : List (Nat × Nat)) (cs : Dc), dcL (dcT ab ins gv f) v l = some cs → ∃ x, cDc ab gv R cs = some x := fun l => by
        induction l with
        | nil =>
          intro cs e
          rw [← Option.some.inj e]
          exact ⟨0, rfl⟩
        | cons p l ih =>
          intro cs e
          unfold dcL at e
          obtain ⟨a, ea, e2⟩ := Option.bind_eq_some_iff.mp e
          obtain ⟨b, eb, e3⟩ := Option.map_eq_some_iff.mp e2
          obtain ⟨x1, h1⟩ := dc_tot hs hup f p.1 _ a ea
          obtain ⟨x2, h2⟩ := ih b eb
          obtain ⟨t', a', u', l', ea'⟩ := dcT_nx ea
          rw [← e3, ea', cDc_nx, ← ea', h1, Option.bind_some, h2]
          exact ⟨_, rfl⟩
      obtain ⟨y, hy⟩ := key _ cs ec
      rw [hy]
      exact ⟨_, rfl⟩
/-- what the one above costs, by the inst -/
theorem cA_eq (P : PgO ab ins) {d : INs} {i : Nat} {w c : Nat} {u : Unit} {l r : Ty} (ei : iOf ins c w = some i) (ed : ins[i]? = some d) {D : Dc} (eD : avD ab ins i = some D) : cA ab ins (.inner 1 w u l r) c = cDc ab (gvI d) (fun x => cA ab ins (thN d l r x)) D := by
  have dm := List.mem_of_getElem? ed
  have e : cA ab ins (.inner 1 w u l r) c = (iOf ins c w).bind fun i => (ins[i]?).bind fun d => (avD ab ins i).bind fun D => cDc ab (gvI d) (fun x => (nm2 d.2.2.1 (cA ab ins l) (cA ab ins r) x).getD (fun _ => none)) D := by
    show (if (1 : Nat) = 1 then _ else _) = _
    rw [if_pos rfl]
  rw [e, ei, Option.bind_some, ed, Option.bind_some, eD, Option.bind_some]
  refine cDc_congr (fun g hg => ?_) D
  obtain ⟨c1, c2, c3⟩ := List.mem_map.mp hg
  have ci := ((P.2.2.2.1 d dm).2.2 c1 c2).1
  have eg : g.2.1 = d.2.2.1.getD c1.2 0 := by rw [← c3]
  have em : g.2.1 ∈ d.2.2.1 := by
    rw [eg, List.getD_eq_getElem?_getD, List.getElem?_eq_getElem ci]
    exact List.getElem_mem ci
  have m2 := nm2_map (cA ab ins) d.2.2.1 l r g.2.1
  obtain ⟨x, hx⟩ := nm2_mem (a := l) (b := r) (P.1 d dm).1.1 em
  show (nm2 d.2.2.1 (cA ab ins l) (cA ab ins r) g.2.1).getD (fun _ => none) = cA ab ins ((nm2 d.2.2.1 l r g.2.1).getD tInt)
  rw [← m2, hx]
  rfl
/-- THE ONE ABOVE CAN BE PUT TOGETHER -/
theorem cA_tot (P : PgO ab ins) : ∀ {τ : Ty}, wfT τ → ∀ c c', cHd ins τ c → ab[c]? = some (some c') → cHd ins τ c' ∧ ∃ x, cA ab ins τ c = some x
  | .leaf, _, _, _, h, _ => h.elim
  | .inner k w u l r, hw, c, c', h, ha => by
    refine ⟨up_1 P hw c c' h ha, ?_⟩
    obtain ⟨k1, i, d, i1, i2, hc⟩ := h
    obtain ⟨d', d1, d2⟩ := ixF_some i1
    have ed : d' = d := Option.some.inj (d1.symm.trans i2)
    rw [ed] at d2
    have d2' : d.1 = c ∧ d.2.1 = w := by simpa using d2
    have dm := List.mem_of_getElem? i2
    subst k1
    obtain ⟨D, hD⟩ := P.2.2.2.2.2.2 d dm c' (by rw [d2'.1]; exact ha)
    have eD : avD ab ins i = some D := by
      unfold avD
      rw [i2, Option.bind_some, d2'.1, ha, Option.bind_some, Option.bind_some]
      exact hD
    rw [cA_eq P i1 i2 eD]
    have hw' : wfT (.inner 1 d.2.1 u l r) := by rw [d2'.2]; exact hw
    have O := okTh_in (ab := ab) P dm hw' hc
    refine dc_tot (θ := thN d l r) O.2.2 (fun g hg _ => ?_) 70 c' (hdI d) D hD
    obtain ⟨cc, c1, c2⟩ := List.mem_map.mp hg
    have ci := ((P.2.2.2.1 d dm).2.2 cc c1).1
    have eg : g.2.1 = d.2.2.1.getD cc.2 0 := by rw [← c2]
    rw [eg]
    show ∀ a a', cHd ins (thN d l r (d.2.2.1.getD cc.2 0)) a → ab[a]? = some (some a') → cHd ins (thN d l r (d.2.2.1.getD cc.2 0)) a' ∧ ∃ x, cA ab ins (thN d l r (d.2.2.1.getD cc.2 0)) a = some x
    rw [thN_at (P.1 d dm).1 ci]
    split
    · exact fun a a' => cA_tot P hw.2.1 a a'
    · exact fun a a' => cA_tot P hw.2.2 a a'
/-- what a dictionary costs, where what is given holds -/
def cst (ab : List (Option Nat)) (ins : List INs) (gv : List GVs) (θ : Nat → Ty) (D : Dc) : Option Nat := cDc ab gv (fun x => cA ab ins (θ x)) D
theorem cst_tot (P : PgO ab ins) (hs : okTh ins gv θ) {f c : Nat} {T : Ty} {D : Dc} (e : dcT ab ins gv f c T = some D) : ∃ x, cst ab ins gv θ D = some x := dc_tot (θ := θ) hs.2.2 (fun g _ _ => cA_tot P (hs.1 g.2.1).2) f c T D e
end LDK
