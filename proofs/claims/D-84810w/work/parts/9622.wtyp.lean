set_option maxRecDepth 100000
/-! WHAT A JUDGED EX MEANS: its types as closed types (casts do not matter) -/
/-- types for the names of a function that is used with types -/
def thF (ins : List INs) (θ : Nat → Ty) (ns : List Nat) (ts : List Ty) (w : Nat) : Ty := (lkT (ns.zip ts) w).elim (θ w) (sem ins θ)
/-- a name -/
def wNm (E : JE) (θ : Nat → Ty) (lb : XL) (T : Ty) (ev : List Dc) (γ : List Ty) : Prop :=
  (lb.2.1 = 0 ∧ γ[lb.2.2.1]? = some T)
  ∨ (lb.2.1 = 1 ∧ ∃ f, E.1[lb.2.2.1]? = some f ∧ T = sem E.2.2.2.1 (thF E.2.2.2.1 θ f.1 (lb.2.2.2.2.2.map Prod.fst)) f.2.2 ∧ okTh E.2.2.2.1 f.2.1 (thF E.2.2.2.1 θ f.1 (lb.2.2.2.2.2.map Prod.fst)) ∧ gvK E (fun _ => True) (f.1.zip (lb.2.2.2.2.2.map Prod.fst)) f.2.1 ev)
  ∨ (lb.2.1 = 2 ∧ ∃ m D t, E.2.1[lb.2.2.1]? = some (some m) ∧ lb.2.2.2.2.2.map Prod.fst = [t] ∧ ev = [D] ∧ dcT E.2.2.1 E.2.2.2.1 E.2.2.2.2 70 m.1 t = some D ∧ dcK E.2.2.1 E.2.2.2.1 E.2.2.2.2 (fun _ => True) 70 m.1 t ∧ T = sem E.2.2.2.1 (thF E.2.2.2.1 θ [m.2.1] [t]) m.2.2 ∧ cG (sem E.2.2.2.1 θ t))
  ∨ (lb.2.1 = 3 ∧ lb.2.2.1 < 7 ∧ ∃ a b, T = btT lb.2.2.1 a b)
def wS (E : JE) (θ : Nat → Ty) : Et → List Ty → Prop
  | .leaf, _ => False
  | .inner t a _ l r, γ =>
    if t = 10 then wNm E θ a.1 (sem E.2.2.2.1 θ a.2.1) a.2.2.2 γ
    else if t = 11 then sem E.2.2.2.1 θ a.2.1 = tInt
    else if t = 12 then sem E.2.2.2.1 θ (eTy l) = tArr (sem E.2.2.2.1 θ (eTy r)) (sem E.2.2.2.1 θ a.2.1) ∧ wS E θ l γ ∧ wS E θ r γ
    else if t = 14 then sem E.2.2.2.1 θ a.2.1 = tArr (sem E.2.2.2.1 θ (lbT a.1)) (sem E.2.2.2.1 θ (eTy l)) ∧ wS E θ l (γ ++ [sem E.2.2.2.1 θ (lbT a.1)])
    else if t = 15 then sem E.2.2.2.1 θ (eTy l) = sem E.2.2.2.1 θ (lbT a.1) ∧ sem E.2.2.2.1 θ a.2.1 = sem E.2.2.2.1 θ (eTy r) ∧ wS E θ l γ ∧ wS E θ r (γ ++ [sem E.2.2.2.1 θ (lbT a.1)])
    else if t = 18 then sem E.2.2.2.1 θ (eTy l) = tInt ∧ sem E.2.2.2.1 θ (eTy r) = tInt ∧ sem E.2.2.2.1 θ a.2.1 = (if a.1.2.1 = 60 ∨ a.1.2.1 = 61 then tBool else tInt) ∧ wS E θ l γ ∧ wS E θ r γ
    else match r with
      | .leaf => False
      | .inner _ _ _ r1 r2 =>
        if t = 16 then sem E.2.2.2.1 θ (eTy l) = tBool ∧ sem E.2.2.2.1 θ (eTy r1) = sem E.2.2.2.1 θ a.2.1 ∧ sem E.2.2.2.1 θ (eTy r2) = sem E.2.2.2.1 θ a.2.1 ∧ wS E θ l γ ∧ wS E θ r1 γ ∧ wS E θ r2 γ
        else if t = 17 then sem E.2.2.2.1 θ (eTy r1) = sem E.2.2.2.1 θ a.2.1 ∧ sem E.2.2.2.1 θ (eTy r2) = sem E.2.2.2.1 θ a.2.1 ∧ wS E θ l γ ∧ wS E θ r1 γ ∧ ∃ x, sem E.2.2.2.1 θ (eTy l) = tnd 1 2 x .leaf ∧ wS E θ r2 (γ ++ [x, tnd 1 2 x .leaf])
        else False
/-- the same, one step -/
def wSB (E : JE) (θ : Nat → Ty) (W : Et → List Ty → Prop) (t : Nat) (lb : XL) (T : Ty) (ev : List Dc) (l r : Et) (γ : List Ty) : Prop :=
    if t = 10 then wNm E θ lb (sem E.2.2.2.1 θ T) ev γ
    else if t = 11 then sem E.2.2.2.1 θ T = tInt
    else if t = 12 then sem E.2.2.2.1 θ (eTy l) = tArr (sem E.2.2.2.1 θ (eTy r)) (sem E.2.2.2.1 θ T) ∧ W l γ ∧ W r γ
    else if t = 14 then sem E.2.2.2.1 θ T = tArr (sem E.2.2.2.1 θ (lbT lb)) (sem E.2.2.2.1 θ (eTy l)) ∧ W l (γ ++ [sem E.2.2.2.1 θ (lbT lb)])
    else if t = 15 then sem E.2.2.2.1 θ (eTy l) = sem E.2.2.2.1 θ (lbT lb) ∧ sem E.2.2.2.1 θ T = sem E.2.2.2.1 θ (eTy r) ∧ W l γ ∧ W r (γ ++ [sem E.2.2.2.1 θ (lbT lb)])
    else if t = 18 then sem E.2.2.2.1 θ (eTy l) = tInt ∧ sem E.2.2.2.1 θ (eTy r) = tInt ∧ sem E.2.2.2.1 θ T = (if lb.2.1 = 60 ∨ lb.2.1 = 61 then tBool else tInt) ∧ W l γ ∧ W r γ
    else match r with
      | .leaf => False
      | .inner _ _ _ r1 r2 =>
        if t = 16 then sem E.2.2.2.1 θ (eTy l) = tBool ∧ sem E.2.2.2.1 θ (eTy r1) = sem E.2.2.2.1 θ T ∧ sem E.2.2.2.1 θ (eTy r2) = sem E.2.2.2.1 θ T ∧ W l γ ∧ W r1 γ ∧ W r2 γ
        else if t = 17 then sem E.2.2.2.1 θ (eTy r1) = sem E.2.2.2.1 θ T ∧ sem E.2.2.2.1 θ (eTy r2) = sem E.2.2.2.1 θ T ∧ W l γ ∧ W r1 γ ∧ ∃ x, sem E.2.2.2.1 θ (eTy l) = tnd 1 2 x .leaf ∧ W r2 (γ ++ [x, tnd 1 2 x .leaf])
        else False
theorem wS_e {E : JE} {θ : Nat → Ty} {t : Nat} {a : XL × Ty × Ty × List Dc} {u : Unit} {l r : Et} {γ : List Ty} : wS E θ (.inner t a u l r) γ = wSB E θ (wS E θ) t a.1 a.2.1 a.2.2.2 l r γ := by
  cases r with
  | leaf => rw [wS]; rfl
  | inner _ _ _ _ _ => rw [wS]; rfl
section LWT
variable {E : JE} {B : Nat} {θ : Nat → Ty} {γ : List Ty}
theorem wS_cs {C : Ty} {e : Et} : wS E θ (eCs C e) γ ↔ wS E θ e γ := by
  cases e with
  | leaf => exact Iff.rfl
  | inner t a u l r =>
    show wS E θ (.inner t (a.1, a.2.1, C, a.2.2.2) u l r) γ ↔ _
    rw [wS_e, wS_e]
theorem one_sem {ins : List INs} {gv : List GVs} (ok : inOK ins) (hl : ins.length ≤ 100) (hs : satG ins gv θ) {s s' : WS} {T U : Ty} (e : oneP ins gv s T U = some (some (true, s'))) : sem ins θ T = sem ins θ U := by
  unfold oneP at e
  by_cases c : tyE T U = true
  · rw [tyE_iff.mp c]
  · rw [if_neg c] at e
    cases q : wk 2 ins gv 130 false 0 s T with
    | none => rw [q] at e; cases e
    | some a =>
    rw [q, Option.bind_some] at e
    cases a with
    | none => cases e
    | some p =>
    obtain ⟨u, s1⟩ := p
    simp only at e
    cases q2 : wk 2 ins gv 130 false 0 s1 U with
    | none => rw [q2] at e; cases e
    | some b =>
    rw [q2, Option.bind_some] at e
    cases b with
    | none => cases e
    | some p2 =>
    obtain ⟨v, s2⟩ := p2
    simp only at e
    injection Option.some.inj (Option.some.inj e) with e1 e2
    rw [← wk_sem ok hs hl q, ← wk_sem ok hs hl q2, tyE_iff.mp e1]
/-- an ex that is to be of a type is of it -/
theorem jw_sem (P : PgO E.2.2.1 E.2.2.2.1) (hs : okTh E.2.2.2.1 E.2.2.2.2 θ) {T : Ty} {e e' : Et} {s s' : JS} (h : jw E T e s = some (.inr (e', s'))) : eTy e' = eTy e ∧ sem E.2.2.2.1 θ (eTy e) = sem E.2.2.2.1 θ T ∧ ∀ γ, wS E θ e γ → wS E θ e' γ := by
  unfold jw at h
  by_cases c : tyE (eTy e) T = true
  · rw [if_pos c] at h
    injection Sum.inr.inj (Option.some.inj h) with e1 e2
    rw [← e1]
    exact ⟨rfl, by rw [tyE_iff.mp c], fun _ z => z⟩
  · rw [if_neg c] at h
    cases q : oneP E.2.2.2.1 E.2.2.2.2 (0, s.1, s.2) (eTy e) T with
    | none => rw [q] at h; cases h
    | some a =>
    rw [q, Option.bind_some] at h
    cases a with
    | none => cases Option.some.inj h
    | some p =>
    obtain ⟨b, w⟩ := p
    simp only at h
    cases b with
    | false => rw [if_neg (by decide)] at h; cases Option.some.inj h
    | true =>
      rw [if_pos rfl] at h
      injection Sum.inr.inj (Option.some.inj h) with e1 e2
      rw [← e1]
      exact ⟨eTy_Cs.1, one_sem P.1 (by have := P.2.1; omega) hs.2.1 q, fun _ z => wS_cs.mpr z⟩
theorem jf_sem (P : PgO E.2.2.1 E.2.2.2.1) (hs : okTh E.2.2.2.1 E.2.2.2.2 θ) {k w pl : Nat} {e e' : Et} {u : Ty} {s s' : JS} (h : jf E k w pl e s = some (.inr (e', u, s'))) : eTy e' = eTy e ∧ sem E.2.2.2.1 θ u = sem E.2.2.2.1 θ (eTy e) ∧ isK k w u = true ∧ ∀ γ, wS E θ e γ → wS E θ e' γ := by
  unfold jf at h
  by_cases c : isK k w (eTy e) = true
  · rw [if_pos c] at h
    injection Sum.inr.inj (Option.some.inj h) with e1 e2
    injection e2 with e3 e4
    rw [← e1, ← e3]
    exact ⟨rfl, rfl, c, fun _ z => z⟩
  · rw [if_neg c] at h
    cases q : wk 2 E.2.2.2.1 E.2.2.2.2 130 false 0 (0, s.1, s.2) (eTy e) with
    | none => rw [q] at h; cases h
    | some a =>
    rw [q, Option.bind_some] at h
    cases a with
    | none => cases Option.some.inj h
    | some p =>
    obtain ⟨v, w'⟩ := p
    simp only at h
    by_cases c2 : isK k w v = true
    · rw [if_pos c2] at h
      injection Sum.inr.inj (Option.some.inj h) with e1 e2
      injection e2 with e3 e4
      rw [← e1, ← e3]
      exact ⟨eTy_Cs.1, wk_sem P.1 hs.2.1 (by have := P.2.1; omega) q, c2, fun _ z => wS_cs.mpr z⟩
    · rw [if_neg c2] at h; cases Option.some.inj h
theorem oneK_sem {ins : List INs} {gv : List GVs} {Q : Ty → Prop} (ok : inOK ins) (hl : ins.length ≤ 100) (hs : satG ins gv θ) {T U : Ty} (H : oneK ins gv Q T U) : sem ins θ T = sem ins θ U := by
  by_cases c : T = U
  · rw [c]
  · obtain ⟨w, ⟨D, bg, h1, _⟩, h2, _⟩ := H c
    have e1 := wk_sem ok hs hl (h1 (0, 0, []))
    by_cases c2 : U = w
    · rw [c2]; exact e1.symm
    · obtain ⟨D', bg', h3, _⟩ := h2 c2
      exact e1.symm.trans (wk_sem ok hs hl (h3 (0, 0, [])))
theorem gvK_at {Q : Ty → Prop} {σ : List (Nat × Ty)} : ∀ {l : List GVs} {Ds : List Dc}, gvK E Q σ l Ds → Ds.length = l.length ∧ ∀ (j : Nat) (g : GVs), l[j]? = some g → ∃ D, Ds[j]? = some D ∧ (g.1 < 100 → dcT E.2.2.1 E.2.2.2.1 E.2.2.2.2 70 g.1 ((lkT σ g.2.1).getD .leaf) = some D ∧ dcK E.2.2.1 E.2.2.2.1 E.2.2.2.2 Q 70 g.1 ((lkT σ g.2.1).getD .leaf)) ∧ (100 ≤ g.1 → D = .inner 2 (0, 0, tnd 2 (g.1 - 100) ((lkT σ g.2.1).getD .leaf) .leaf, sbT σ g.2.2) () .leaf .leaf ∧ oneK E.2.2.2.1 E.2.2.2.2 Q (tnd 2 (g.1 - 100) ((lkT σ g.2.1).getD .leaf) .leaf) (sbT σ g.2.2))
  | [], [], _ => ⟨rfl, fun j g e => by cases e⟩
  | [], _ :: _, h => h.elim
  | _ :: _, [], h => h.elim
  | g :: l, D :: Ds, h => by
    obtain ⟨h1, h2⟩ := h
    obtain ⟨k1, k2⟩ := gvK_at h2
    refine ⟨by rw [List.length_cons, List.length_cons, k1], fun j g' e => ?_⟩
    cases j with
    | zero =>
      have eg : g = g' := Option.some.inj e
      rw [← eg]
      refine ⟨D, rfl, fun c => ?_, fun c => ?_⟩
      · rw [if_pos c] at h1; exact h1
      · rw [if_neg (by omega)] at h1; exact ⟨h1.1, h1.2.1⟩
    | succ j => exact k2 j g' e
/-- A NAME MEANS what it was judged to be -/
theorem jnm_sem (J : JOk E B) (P : PgO E.2.2.1 E.2.2.2.1) (hs : okTh E.2.2.2.1 E.2.2.2.2 θ) {lb : XL} {Γ : List Ty} {s s' : JS} {e : Et} (H : nok E lb Γ.length) (h : jnm E lb Γ s = some (.inr (e, s'))) : wS E θ e (Γ.map (sem E.2.2.2.1 θ)) := by
  obtain ⟨_, T, ev, ee, kk⟩ := jnm_kn (Q := fun _ => True) h
  have K := kk (fun _ _ => trivial)
  have hl : E.2.2.2.1.length ≤ 100 := by have := P.2.1; omega
  have eT : (lb.2.1 = 0 → Γ[lb.2.2.1]? = some T) ∧ (lb.2.1 ≠ 0 → T = jnT E lb.2.1 lb.2.2.1 (lb.2.2.2.2.2.map Prod.fst)) := by
    unfold jnm at h
    by_cases c : lb.2.1 = 0
    · rw [if_pos c] at h
      refine ⟨fun _ => ?_, fun z => absurd c z⟩
      cases q : lb.2.2.2.2.2 with
      | cons a m => rw [q] at h; cases Option.some.inj h
      | nil =>
        rw [q] at h
        obtain ⟨T', e1, e2⟩ := Option.map_eq_some_iff.mp h
        injection Sum.inr.inj e2 with e3 e4
        rw [ee] at e3
        injection e3 with f1 f2
        injection f2 with f3 f4
        injection f4 with f5 f6
        rw [← f5]; exact e1
    · rw [if_neg c] at h
      refine ⟨fun z => absurd z c, fun _ => ?_⟩
      split at h
      · cases Option.some.inj h
      · split at h
        · cases Option.some.inj h
        · split at h
          · cases Option.some.inj h
          · obtain ⟨a, a1, a2⟩ := jbR h
            injection Sum.inr.inj (Option.some.inj a2) with e3 e4
            rw [ee] at e3
            injection e3 with f1 f2
            injection f2 with f3 f4
            injection f4 with f5 f6
            exact f5.symm
  rw [ee, wS_e]
  unfold wSB
  rw [if_pos rfl]
  show wNm E θ lb (sem E.2.2.2.1 θ T) ev _
  have tg : ∀ t ∈ lb.2.2.2.2.2.map Prod.fst, cG (sem E.2.2.2.1 θ t) := fun t ht => by
    obtain ⟨a, a1, a2⟩ := List.mem_map.mp ht
    have o := (H.2 a a1).1
    rw [a2] at o
    exact sem_good P.1 P.2.2.1 P.2.2.2.2.1 hs.1 o.2.1 o.2.2 o.1
  rcases K with ⟨k0, _, _⟩ | ⟨k0, kl, kk⟩
  · refine .inl ⟨k0, ?_⟩
    rw [List.getElem?_map, eT.1 k0]; rfl
  · have eT' := eT.2 k0
    rcases kk with ⟨k1, f, f1, f2⟩ | ⟨k2, m, D, m1, m2, m3, m4⟩ | ⟨k1, k2, _⟩
    · refine .inr (.inl ⟨k1, f, f1, ?_, ?_, f2⟩)
      · rw [eT']
        unfold jnT
        rw [if_pos k1, f1]
        show sem _ θ (if f.1 = [] then f.2.2 else sbT _ f.2.2) = _
        by_cases c : f.1 = []
        · rw [if_pos c]
          have : thF E.2.2.2.1 θ f.1 (lb.2.2.2.2.2.map Prod.fst) = θ := by
            funext w
            unfold thF
            rw [c]; rfl
          rw [this]
        · rw [if_neg c, sem_sb]; rfl
      · have fm := List.mem_of_getElem? f1
        obtain ⟨g1, g2⟩ := gvK_at f2
        have ll : f.1.length ≤ (lb.2.2.2.2.2.map Prod.fst).length := by
          rw [List.length_map, kl]
          unfold jnN
          rw [if_pos k1, f1]
          exact Nat.le_refl _
        refine ⟨fun w => ?_, fun g hg gc => ?_, fun g hg gc => ?_⟩
        · unfold thF
          cases q : lkT (f.1.zip (lb.2.2.2.2.2.map Prod.fst)) w with
          | none => exact hs.1 w
          | some t => exact tg t (List.of_mem_zip (lkT_mem q)).2
        · obtain ⟨j, jl, je⟩ := List.getElem_of_mem hg
          obtain ⟨D, _, _, h3⟩ := g2 j g (by rw [List.getElem?_eq_getElem jl, je])
          obtain ⟨_, h4⟩ := h3 gc
          have h5 := oneK_sem P.1 hl hs.2.1 h4
          rw [sem_sb] at h5
          obtain ⟨t, t1, _⟩ := lkT_zip ((J.2.1 f fm).2.2 g hg).1 ll
          rw [t1] at h5
          have e6 : thF E.2.2.2.1 θ f.1 (lb.2.2.2.2.2.map Prod.fst) g.2.1 = sem E.2.2.2.1 θ t := by
            unfold thF
            rw [t1]; rfl
          rw [e6]
          exact h5
        · obtain ⟨j, jl, je⟩ := List.getElem_of_mem hg
          obtain ⟨D, _, h3, _⟩ := g2 j g (by rw [List.getElem?_eq_getElem jl, je])
          obtain ⟨h4, _⟩ := h3 gc
          obtain ⟨t, t1, _⟩ := lkT_zip ((J.2.1 f fm).2.2 g hg).1 ll
          rw [t1] at h4
          have e6 : thF E.2.2.2.1 θ f.1 (lb.2.2.2.2.2.map Prod.fst) g.2.1 = sem E.2.2.2.1 θ t := by
            unfold thF
            rw [t1]; rfl
          rw [e6]
          exact dc_had' P hs h4
    · have l1 : (lb.2.2.2.2.2.map Prod.fst).length = 1 := by
        rw [List.length_map, kl]
        unfold jnN
        rw [if_neg (by omega), if_pos k2]
      obtain ⟨t, et⟩ := List.length_eq_one_iff.mp l1
      rw [et] at m3 m4
      refine .inr (.inr (.inl ⟨k2, m, D, t, m1, et, m2, m3, m4, ?_, tg t (by rw [et]; exact List.mem_singleton.mpr rfl)⟩))
      rw [eT']
      unfold jnT
      rw [if_neg (by omega), if_pos k2, m1, et]
      show sem _ θ (sbT ([m.2.1].zip [t]) m.2.2) = _
      rw [sem_sb]; rfl
    · refine .inr (.inr (.inr ?_))
      have h3 : lb.2.1 = 3 ∧ lb.2.2.1 < 7 := by
        rcases H.1 with z | z | z | z
        · exact absurd z.1 k0
        · exact absurd z.1 k1
        · exact absurd z.1 k2
        · exact z
      refine ⟨h3.1, h3.2, ?_⟩
      rw [eT']
      unfold jnT
      rw [if_neg k1, if_neg k2]
      generalize ((lb.2.2.2.2.2.map Prod.fst)[0]?.getD .leaf) = a
      generalize ((lb.2.2.2.2.2.map Prod.fst)[1]?.getD .leaf) = b
      refine ⟨sem E.2.2.2.1 θ a, sem E.2.2.2.1 θ b, ?_⟩
      unfold btT
      split
      · rfl
      · split
        · rfl
        · split
          · rfl
          · split
            · rfl
            · split
              · rfl
              · rfl
/-- A JUDGED EX MEANS what it was judged to be -/
theorem jd_sem (J : JOk E B) (P : PgO E.2.2.1 E.2.2.2.1) (hs : okTh E.2.2.2.1 E.2.2.2.2 θ) : ∀ (t : Xt) (Γ : List Ty) (s : JS) (e : Et) (s' : JS) (b : Nat), xok E t Γ.length → (∀ T ∈ Γ, tyOk E.2.2.2.1 T ∧ tsz T ≤ b) → 2700 ≤ b → b + xsz t ≤ 1000000 → jd E t Γ s = some (.inr (e, s')) → wS E θ e (Γ.map (sem E.2.2.2.1 θ)) := by
  have eok : ∀ {t : Xt} {Γ : List Ty} {s : JS} {e : Et} {s' : JS} {b : Nat}, xok E t Γ.length → (∀ T ∈ Γ, tyOk E.2.2.2.1 T ∧ tsz T ≤ b) → 2700 ≤ b → b + xsz t ≤ 1000000 → jd E t Γ s = some (.inr (e, s')) → eOk E.2.2.2.1 (b + xsz t) e := fun {t Γ s e s' b} h1 h2 h3 h4 h5 => by
    obtain ⟨z, z1, z2⟩ := jd_ok J t Γ s b h1 h2 h3 h4
    exact (z2 (e, s') (Option.some.inj (z1.symm.trans h5))).1
  refine tr_ind (fun _ _ _ _ _ _ _ _ _ h => by rw [jd] at h; cases h) (fun t lb u l r ihl ihr ihp => ?_)
  intro Γ s e s' b H hΓ hb hb2 ej
  have gle : ∀ {b' : Nat}, b ≤ b' → ∀ T ∈ Γ, tyOk E.2.2.2.1 T ∧ tsz T ≤ b' := fun h T hT => ⟨(hΓ T hT).1, Nat.le_trans (hΓ T hT).2 h⟩
  have e0 : xsz (.inner t lb u l r) = 1 + 2 * tsz (lbT lb) + xsz l + xsz r := rfl
  rw [xok_e] at H
  unfold xokB at H
  rw [jd_e] at ej
  unfold jdB at ej
  by_cases t10 : t = 10
  · rw [if_pos t10] at H ej
    exact jnm_sem J P hs H ej
  rw [if_neg t10] at H ej
  by_cases t11 : t = 11
  · rw [if_pos t11] at ej
    injection Sum.inr.inj (Option.some.inj ej) with e1 e2
    rw [← e1, wS_e]
    unfold wSB
    rw [if_neg (by decide), if_pos rfl]
    rfl
  rw [if_neg t11] at H ej
  by_cases t12 : t = 12
  · rw [if_pos t12] at H ej
    obtain ⟨⟨a, s1⟩, e1, ej⟩ := jbR ej
    obtain ⟨⟨f, v, s2⟩, e2, ej⟩ := jbR ej
    obtain ⟨⟨c, s3⟩, e3, ej⟩ := jbR ej
    obtain ⟨⟨d, s4⟩, e4, ej⟩ := jbR ej
    injection Sum.inr.inj (Option.some.inj ej) with q1 q2
    obtain ⟨f1, f2, f3, f4⟩ := jf_sem P hs e2
    obtain ⟨g1, g2, g3⟩ := jw_sem P hs e4
    obtain ⟨u', vl, vr, ev⟩ := isK_iff f3
    rw [← q1, wS_e]
    unfold wSB
    rw [if_neg (by decide), if_neg (by decide), if_pos rfl]
    refine ⟨?_, f4 _ (ihl Γ s a s1 b H.1 hΓ hb (by omega) e1), g3 _ (ihr Γ s2 c s3 b H.2 hΓ hb (by omega) e3)⟩
    show sem _ θ (eTy f) = tArr (sem _ θ (eTy d)) (sem _ θ (tR' v))
    rw [f1, ← f2, g1, g2, ev]
    rfl
  rw [if_neg t12] at H ej
  by_cases t13 : t = 13
  · rw [if_pos t13] at ej
    obtain ⟨⟨a, s1⟩, e1, ej⟩ := jbR ej
    cases Option.some.inj ej
  rw [if_neg t13] at H ej
  by_cases t14 : t = 14
  · rw [if_pos t14] at H ej
    obtain ⟨⟨a, s1⟩, e1, ej⟩ := jbR ej
    injection Sum.inr.inj (Option.some.inj ej) with q1 q2
    rw [← q1, wS_e]
    unfold wSB
    rw [if_neg (by decide), if_neg (by decide), if_neg (by decide), if_pos rfl]
    refine ⟨rfl, ?_⟩
    have := ihl (Γ ++ [lbT lb]) s a s1 (b + tsz (lbT lb)) (by rw [List.length_append]; exact H.2) (fun T hT => ?_) (by omega) (by omega) e1
    · rw [List.map_append] at this
      exact this
    · rcases List.mem_append.mp hT with h | h
      · exact gle (by omega) T h
      · rw [List.mem_singleton.mp h]; exact ⟨H.1, by omega⟩
  rw [if_neg t14] at H ej
  by_cases t15 : t = 15
  · rw [if_pos t15] at H ej
    obtain ⟨⟨a, s1⟩, e1, ej⟩ := jbR ej
    obtain ⟨⟨c, s2⟩, e2, ej⟩ := jbR ej
    obtain ⟨⟨d, s3⟩, e3, ej⟩ := jbR ej
    injection Sum.inr.inj (Option.some.inj ej) with q1 q2
    obtain ⟨g1, g2, g3⟩ := jw_sem P hs e2
    rw [← q1, wS_e]
    unfold wSB
    rw [if_neg (by decide), if_neg (by decide), if_neg (by decide), if_neg (by decide), if_pos rfl]
    refine ⟨?_, rfl, g3 _ (ihl Γ s a s1 b H.2.1 hΓ hb (by omega) e1), ?_⟩
    · show sem _ θ (eTy c) = _
      rw [g1, g2]
    have := ihr (Γ ++ [lbT lb]) s2 d s3 (b + tsz (lbT lb)) (by rw [List.length_append]; exact H.2.2) (fun T hT => ?_) (by omega) (by omega) e3
    · rw [List.map_append] at this
      exact this
    · rcases List.mem_append.mp hT with h | h
      · exact gle (by omega) T h
      · rw [List.mem_singleton.mp h]; exact ⟨H.1, by omega⟩
  rw [if_neg t15] at H ej
  by_cases t18 : t = 18
  · rw [if_pos t18] at H ej
    obtain ⟨⟨a, s1⟩, e1, ej⟩ := jbR ej
    obtain ⟨⟨c, s2⟩, e2, ej⟩ := jbR ej
    obtain ⟨⟨d, s3⟩, e3, ej⟩ := jbR ej
    obtain ⟨⟨f, s4⟩, e4, ej⟩ := jbR ej
    injection Sum.inr.inj (Option.some.inj ej) with q1 q2
    obtain ⟨g1, g2, g3⟩ := jw_sem P hs e2
    obtain ⟨k1, k2, k3⟩ := jw_sem P hs e4
    rw [← q1, wS_e]
    unfold wSB
    rw [if_neg (by decide), if_neg (by decide), if_neg (by decide), if_neg (by decide), if_neg (by decide), if_pos rfl]
    refine ⟨?_, ?_, ?_, g3 _ (ihl Γ s a s1 b H.1 hΓ hb (by omega) e1), k3 _ (ihr Γ s2 d s3 b H.2 hΓ hb (by omega) e3)⟩
    · show sem _ θ (eTy c) = _
      rw [g1, g2]; rfl
    · show sem _ θ (eTy f) = _
      rw [k1, k2]; rfl
    · show sem _ θ (if lb.2.1 = 60 ∨ lb.2.1 = 61 then tBool else tInt) = if lb.2.1 = 60 ∨ lb.2.1 = 61 then tBool else tInt
      split
      · rfl
      · rfl
  rw [if_neg t18] at H ej
  cases r with
  | leaf => exact H.elim
  | inner t' lb' u' r1 r2 =>
    obtain ⟨p1, p2⟩ := ihp t' lb' u' r1 r2 rfl
    have e1 : xsz (.inner t' lb' u' r1 r2) = 1 + 2 * tsz (lbT lb') + xsz r1 + xsz r2 := rfl
    simp only at H ej
    by_cases t16 : t = 16
    · rw [if_pos t16] at H ej
      obtain ⟨⟨a, s1⟩, j1, ej⟩ := jbR ej
      obtain ⟨⟨c, s2⟩, j2, ej⟩ := jbR ej
      obtain ⟨⟨d, s3⟩, j3, ej⟩ := jbR ej
      obtain ⟨⟨f, s4⟩, j4, ej⟩ := jbR ej
      obtain ⟨⟨g, s5⟩, j5, ej⟩ := jbR ej
      injection Sum.inr.inj (Option.some.inj ej) with q1 q2
      obtain ⟨g1, g2, g3⟩ := jw_sem P hs j2
      obtain ⟨k1, k2, k3⟩ := jw_sem P hs j5
      rw [← q1, wS_e]
      unfold wSB
      rw [if_neg (by decide), if_neg (by decide), if_neg (by decide), if_neg (by decide), if_neg (by decide), if_neg (by decide)]
      show if (16 : Nat) = 16 then _ else _
      rw [if_pos rfl]
      refine ⟨?_, rfl, ?_, g3 _ (ihl Γ s a s1 b H.1 hΓ hb (by omega) j1), p1 Γ s2 d s3 b H.2.1 hΓ hb (by omega) j3, k3 _ (p2 Γ s3 f s4 b H.2.2 hΓ hb (by omega) j4)⟩
      · show sem _ θ (eTy c) = _
        rw [g1, g2]; rfl
      · show sem _ θ (eTy g) = sem _ θ (eTy d)
        rw [k1, k2]
    rw [if_neg t16] at H ej
    by_cases t17 : t = 17
    · rw [if_pos t17] at H ej
      obtain ⟨⟨a, s1⟩, j1, ej⟩ := jbR ej
      obtain ⟨⟨f, v, s2⟩, j2, ej⟩ := jbR ej
      obtain ⟨⟨d, s3⟩, j3, ej⟩ := jbR ej
      obtain ⟨⟨g, s4⟩, j4, ej⟩ := jbR ej
      obtain ⟨⟨q, s5⟩, j5, ej⟩ := jbR ej
      injection Sum.inr.inj (Option.some.inj ej) with q1 q2
      obtain ⟨f1, f2, f3, f4⟩ := jf_sem P hs j2
      obtain ⟨k1, k2, k3⟩ := jw_sem P hs j5
      have ea := eok H.1 hΓ hb (by omega) j1
      obtain ⟨z, z1, z2⟩ := jf_ok (k := 1) (w := 2) (pl := ePl a) (s := s1) J (by omega) (by omega) ⟨ea, rfl⟩
      obtain ⟨_, y1, y2, _⟩ := z2 (f, v, s2) (Option.some.inj (z1.symm.trans j2))
      have y1' : tyOk E.2.2.2.1 v := y1
      have y2' : tsz v ≤ b + xsz l := y2
      obtain ⟨u2, vl, vr, ev⟩ := isK_iff f3
      rw [ev] at y1' y2'
      obtain ⟨_, _, _, _, vr0⟩ := sh_1 y1'.2.1.1 rfl
      have er := vr0 (by decide)
      obtain ⟨o1, _⟩ := tyOk_parts y1' (.inr ⟨rfl, Nat.le_refl _⟩)
      rw [er] at ev y1' y2'
      have y3 : 1 + tsz vl + 0 ≤ b + xsz l := y2'
      rw [← q1, wS_e]
      unfold wSB
      rw [if_neg (by decide), if_neg (by decide), if_neg (by decide), if_neg (by decide), if_neg (by decide), if_neg (by decide)]
      show if (17 : Nat) = 16 then _ else if (17 : Nat) = 17 then _ else _
      rw [if_neg (by decide), if_pos rfl]
      have es : sem E.2.2.2.1 θ (eTy f) = tnd 1 2 (sem E.2.2.2.1 θ vl) .leaf := by
        rw [f1, ← f2, ev]; rfl
      refine ⟨rfl, ?_, f4 _ (ihl Γ s a s1 b H.1 hΓ hb (by omega) j1), p1 Γ s2 d s3 b H.2.1 hΓ hb (by omega) j3, sem E.2.2.2.1 θ vl, es, ?_⟩
      · show sem _ θ (eTy q) = sem _ θ (eTy d)
        rw [k1, k2]
      · have := p2 (Γ ++ [tL v, v]) s3 g s4 (b + xsz l) (by rw [List.length_append]; exact H.2.2) (fun T hT => ?_) (by omega) (by omega) j4
        · rw [List.map_append, ev] at this
          exact k3 _ this
        · rcases List.mem_append.mp hT with h | h
          · exact gle (by omega) T h
          · rcases List.mem_cons.mp h with h | h
            · rw [h, ev]; exact ⟨o1, by show tsz vl ≤ _; omega⟩
            · rw [List.mem_singleton.mp h, ev]; exact ⟨y1', by show 1 + tsz vl + 0 ≤ _; omega⟩
    rw [if_neg t17] at H
    exact H.elim
end LWT
