set_option maxRecDepth 100000
/-! HOW MANY BYTES ARE TOLD: dictionaries, names -/
/-- nothing is known of heads -/
abbrev hAny : Nat → Nat → Prop := fun _ _ => True
theorem allH_any : ∀ T : Ty, allH hAny T
  | .leaf => trivial
  | .inner _ _ _ l r => ⟨trivial, allH_any l, allH_any r⟩
def smL (rows : List (List Int)) : Nat := (rows.map (fun a => a.length + 1)).sum
theorem comB_len : ∀ (l : List (List Int)), (comB l).length ≤ smL l
  | [] => Nat.zero_le _
  | [a] => by
    show a.length ≤ a.length + 1 + 0
    omega
  | a :: b :: l => by
    have h := comB_len (b :: l)
    show (a ++ [44] ++ comB (b :: l)).length ≤ a.length + 1 + smL (b :: l)
    simp only [List.length_append, List.length_cons, List.length_nil]
    omega
theorem cosB_len {l : List (List Int)} : (cosB l).length ≤ smL l + 2 := by
  cases l with
  | nil => exact Nat.zero_le _
  | cons a l =>
    have h := comB_len (a :: l)
    show (123 :: comB (a :: l) ++ [125]).length ≤ _
    simp only [List.length_append, List.length_cons, List.length_nil]
    omega
section LDL
variable {nm con fam cnm : Nat → List Int} {ab : List (Option Nat)} {ins : List INs} {gv : List GVs} {B : Nat} {E : JE}
theorem gvBy_len (L : lt10 nm con fam cnm) {g1 j : Nat} : ∀ n : Nat, (gvBy cnm ab g1 j n).length ≤ 13 + 13 * n
  | 0 => by
    have h := numB_len (v := j)
    show (100 :: numB j).length ≤ _
    rw [List.length_cons]
    omega
  | n + 1 => by
    have h := gvBy_len L (g1 := g1) (j := j) n
    have h2 := (L ((upA ab (n + 1) g1).getD 0)).2.2.2
    show (cnm ((upA ab (n + 1) g1).getD 0) ++ [94, 40] ++ gvBy cnm ab g1 j n ++ [41]).length ≤ _
    simp only [List.length_append, List.length_cons, List.length_nil]
    omega
/-- a cast of a dictionary -/
theorem csB_len (L : lt10 nm con fam cnm) {c d : Nat} {u T : Ty} {core : List Int} (n1 : oL (whyB nm con fam ins gv 130 u) = 0) (n2 : oL (whyB nm con fam ins gv 130 T) ≤ 54000 * d) : (csB nm con fam cnm ins gv c u T core).length ≤ core.length + 54000 * d + 24 := by
  unfold csB
  by_cases e : tyE u T = true
  · rw [if_pos e]
    omega
  · rw [if_neg e]
    have h1 := oneB_len (nm := nm) (con := con) (fam := fam) (ins := ins) (gv := gv) e
    have h2 := (L c).2.2.2
    simp only [List.length_append, List.length_cons, List.length_nil]
    omega
theorem GT_of {T : Ty} (h : tyOk ins T) (hz : tsz T ≤ 1000000) : GTH ins hAny T := ⟨h.2.1, h.2.2, hz, allH_any T⟩
theorem stpA_9 {c k : Nat} : ∀ {f n : Nat}, stpA ab f k c = some n → n < f
  | 0, n, e => by cases e
  | f + 1, n, e => by
    unfold stpA at e
    by_cases h : k = c
    · rw [if_pos h] at e
      have := Option.some.inj e
      omega
    · rw [if_neg h] at e
      cases q : ab[k]? with
      | none => rw [q] at e; cases e
      | some o =>
        rw [q] at e
        cases o with
        | none => cases e
        | some k' =>
          have e' : (stpA ab f k' c).map (fun n => n + 1) = some n := e
          cases q2 : stpA ab f k' c with
          | none => rw [q2] at e'; cases e'
          | some n' =>
            rw [q2] at e'
            have h1 := stpA_9 (k := k') q2
            have h2 : n' + 1 = n := Option.some.inj e'
            omega
theorem hd_len (L : lt10 nm con fam cnm) (I : InH hAny ins gv B) (hc4 : ∀ d ∈ ins, d.2.2.2.1.length ≤ 4) : ∀ {f : Nat} {s s' : WS} {c : Nat} {T : Ty}, s.1 ≤ 60 → hd ab ins gv f s c T = some (some (true, s')) → GTH ins hAny T → ∀ D, dcT ab ins gv f c T = some D → (s'.1 ≤ 60 ∧ s.2.1 ≤ s'.2.1) ∧ D ≠ .leaf ∧ (evB nm con fam cnm ab ins gv D).length ≤ 60000 * (s'.2.1 - s.2.1) + 1000
  | 0, _, _, _, _, _, e, _, _, _ => by cases e
  | f + 1, s, s', c, T, h60, e, gT, D, eD => by
    have ih := fun (s s' : WS) (c : Nat) (T : Ty) (h60 : s.1 ≤ 60) (e : hd ab ins gv f s c T = some (some (true, s'))) (g : GTH ins hAny T) (D : Dc) (eD : dcT ab ins gv f c T = some D) => hd_len L I hc4 h60 e g D eD
    have lst : ∀ (u : Ty) (l : List (Nat × Nat)) (s1 s2 : WS) (cs : Dc), GTH ins hAny (tL u) ∧ GTH ins hAny (tR' u) → s1.1 ≤ 60 → hdL (hd ab ins gv f) u l s1 = some (some (true, s2)) → dcL (dcT ab ins gv f) u l = some cs → (s2.1 ≤ 60 ∧ s1.2.1 ≤ s2.2.1) ∧ smL (dcsB nm con fam cnm ab ins gv cs) ≤ 60000 * (s2.2.1 - s1.2.1) + 1001 * l.length := by
      intro u l
      induction l with
      | nil =>
        intro s1 s2 cs _ h60 e ec
        injection Option.some.inj (Option.some.inj e) with e1 e2
        have ecs : Std.DTreeMap.Internal.Impl.leaf = cs := Option.some.inj ec
        rw [← ecs, ← e2]
        exact ⟨⟨h60, Nat.le_refl _⟩, Nat.zero_le _⟩
      | cons p l ihl =>
        intro s1 s2 cs gu h60 e ec
        unfold hdL at e
        cases q : hd ab ins gv f s1 p.1 (if p.2 = 0 then tL u else tR' u) with
        | none => rw [q] at e; cases e
        | some a =>
        rw [q, Option.bind_some] at e
        cases a with
        | none => cases e
        | some pb =>
        obtain ⟨b1, s3⟩ := pb
        simp only at e
        by_cases hb : b1 = true
        rotate_left
        · rw [if_neg hb] at e
          injection Option.some.inj (Option.some.inj e) with e1 e2
          cases e1
        rw [if_pos hb] at e
        rw [hb] at q
        have ec' : (dcT ab ins gv f p.1 (if p.2 = 0 then tL u else tR' u)).bind (fun a => (dcL (dcT ab ins gv f) u l).map fun b => dnx a b) = some cs := ec
        cases qa : dcT ab ins gv f p.1 (if p.2 = 0 then tL u else tR' u) with
        | none => rw [qa] at ec'; cases ec'
        | some Da =>
        rw [qa, Option.bind_some] at ec'
        cases qb : dcL (dcT ab ins gv f) u l with
        | none => rw [qb] at ec'; cases ec'
        | some Db =>
        rw [qb] at ec'
        have ecs : dnx Da Db = cs := Option.some.inj ec'
        have gX : GTH ins hAny (if p.2 = 0 then tL u else tR' u) := by
          by_cases c0 : p.2 = 0
          · rw [if_pos c0]; exact gu.1
          · rw [if_neg c0]; exact gu.2
        obtain ⟨⟨a1, a2⟩, a3, a4⟩ := ih _ _ _ _ h60 q gX Da qa
        obtain ⟨⟨b2, b3⟩, b4⟩ := ihl s3 s2 Db gu a1 e qb
        refine ⟨⟨b2, by omega⟩, ?_⟩
        rw [← ecs, dcsB_dnx a3]
        show (evB nm con fam cnm ab ins gv Da).length + 1 + smL (dcsB nm con fam cnm ab ins gv Db) ≤ _
        rw [List.length_cons]
        omega
    unfold hd at e
    cases q1 : wk 2 ins gv 130 false 0 s T with
    | none => rw [q1] at e; cases e
    | some a =>
    rw [q1, Option.bind_some] at e
    cases a with
    | none => cases e
    | some p =>
    obtain ⟨u, s1⟩ := p
    obtain ⟨_, kn⟩ := knT_wk2 (Q := fun _ => True) q1
    have kn := kn (fun _ _ => trivial)
    obtain ⟨w1, w2, w3⟩ := nP_wk h60 q1
    obtain ⟨D0, d0, x0, w0⟩ := wk_st q1
    have x1 : s1.1 = s.1 + d0 := congrArg (fun y : WS => y.1) x0.1
    have x2 : s1.2.1 = s.2.1 + d0 := congrArg (fun y : WS => y.2.1) x0.1
    have ed : dcU ab ins gv (dcT ab ins gv f) c T u = some D := by
      have w := w0 0 0 (0, 0, []) (by decide) (by decide) (by decide)
      have e' : (wk 0 ins gv 130 false 0 (0, 0, []) T).bind (fun a => a.bind fun p => dcU ab ins gv (dcT ab ins gv f) c T p.1) = some D := eD
      rw [w] at e'
      exact e'
    simp only at e
    cases u with
    | leaf => cases ed
    | inner k w x l r =>
    have hT : T ≠ .leaf := fun z => by
      rw [z] at kn
      have := knT_no kn (by decide)
      cases this
    obtain ⟨gu, hu⟩ := kn_good I (by decide) kn hT gT
    have fitu := (knT_fit I kn hT gT).2.1
    have n1 : oL (whyB nm con fam ins gv 130 (.inner k w x l r)) = 0 := by
      rw [why_nf (by decide) kn]
      rfl
    have n2 : oL (whyB nm con fam ins gv 130 T) ≤ 54000 * d0 := by
      have := why_len (nm := nm) (con := con) (fam := fam) L I 130 (by decide) T _ 130 (Nat.le_refl _) kn hT gT
      omega
    rw [dcU_inner] at ed
    simp only at e
    by_cases k0 : k = 0
    · rw [if_pos k0] at e ed
      injection Option.some.inj (Option.some.inj e) with e1 e2
      cases q2 : gCl ab gv c w with
      | none => rw [q2] at ed; cases ed
      | some j =>
      rw [q2, Option.bind_some] at ed
      cases q3 : gv[j]? with
      | none => rw [q3] at ed; cases ed
      | some g =>
      rw [q3, Option.bind_some] at ed
      cases q4 : stpA ab 9 g.1 c with
      | none => rw [q4] at ed; cases ed
      | some n =>
      rw [q4] at ed
      have eDD : .inner 0 (j, n, .inner k w x l r, T) () .leaf .leaf = D := Option.some.inj ed
      subst eDD
      have h9 := stpA_9 q4
      have h1 := csB_len (ins := ins) (gv := gv) (c := (upA ab n g.1).getD 0) (core := gvBy cnm ab g.1 j n) L n1 n2
      have h2 := gvBy_len (ab := ab) (g1 := g.1) (j := j) L n
      rw [evB_0 q3, ← e2]
      exact ⟨⟨by omega, by omega⟩, (by intro z; cases z), by omega⟩
    · rw [if_neg k0] at e ed
      by_cases k1 : k = 1
      rotate_left
      · rw [if_neg k1] at ed; cases ed
      rw [if_pos k1] at e ed
      cases q2 : iOf ins c w with
      | none => rw [q2] at ed; cases ed
      | some i =>
      rw [q2, Option.bind_some] at ed
      rw [q2] at e
      simp only at e
      by_cases ov : 60 < s1.1 + 1 ∨ 300 < s1.2.1 + 1
      · rw [if_pos ov] at e; cases e
      rw [if_neg ov] at e
      cases q3 : ins[i]? with
      | none => rw [q3] at ed; cases ed
      | some d =>
      rw [q3, Option.bind_some] at ed
      rw [q3] at e
      simp only at e
      cases q4 : dcL (dcT ab ins gv f) (.inner k w x l r) d.2.2.2.1 with
      | none => rw [q4] at ed; cases ed
      | some cs =>
      rw [q4] at ed
      have eDD : .inner 1 (i, c, .inner k w x l r, T) () cs .leaf = D := Option.some.inj ed
      subst eDD
      obtain ⟨⟨l1, l2⟩, l3⟩ := lst _ _ (s1.1 + 1, s1.2.1 + 1, s1.2.2) s' cs (GTy_l gu) (by show s1.1 + 1 ≤ 60; omega) e q4
      have l2' : s1.2.1 + 1 ≤ s'.2.1 := l2
      have l3' : smL (dcsB nm con fam cnm ab ins gv cs) ≤ 60000 * (s'.2.1 - (s1.2.1 + 1)) + 1001 * d.2.2.2.1.length := l3
      have c4 := hc4 d (List.mem_of_getElem? q3)
      have h1 := csB_len (ins := ins) (gv := gv) (c := c) (core := 105 :: numB i ++ prtB nm con fam (.inner k w x l r) ++ cosB (dcsB nm con fam cnm ab ins gv cs)) L n1 n2
      have h2 := cosB_len (l := dcsB nm con fam cnm ab ins gv cs)
      have h3 := prtB_len (cnm := cnm) L (T := .inner k w x l r)
      have h4 := numB_len (v := i)
      rw [evB_1]
      simp only [List.length_append, List.length_cons] at h1
      exact ⟨⟨l1, by omega⟩, (by intro z; cases z), by omega⟩
/-- what was had, as a reason -/
theorem jcl_len (L : lt10 nm con fam cnm) (I : InH hAny E.2.2.2.1 E.2.2.2.2 B) (hc4 : ∀ d ∈ E.2.2.2.1, d.2.2.2.1.length ≤ 4) {pl c : Nat} {T : Ty} {s s' : JS} {D : Dc} (gT : GTH E.2.2.2.1 hAny T) (e : jcl E pl c T s = some (.inr (D, s'))) : s.1 ≤ s'.1 ∧ (evB nm con fam cnm E.2.2.1 E.2.2.2.1 E.2.2.2.2 D).length ≤ 60000 * (s'.1 - s.1) + 1000 := by
  unfold jcl ja at e
  cases q : hd E.2.2.1 E.2.2.2.1 E.2.2.2.2 70 (0, s.1, s.2) c T with
  | none => rw [q] at e; cases e
  | some a =>
  rw [q, Option.bind_some] at e
  cases a with
  | none => cases Option.some.inj e
  | some pb =>
  obtain ⟨b, w⟩ := pb
  simp only at e
  cases b with
  | false => rw [if_neg (by decide)] at e; cases Option.some.inj e
  | true =>
    rw [if_pos rfl] at e
    cases qd : dcT E.2.2.1 E.2.2.2.1 E.2.2.2.2 70 c T with
    | none => rw [qd] at e; cases e
    | some D0 =>
      rw [qd] at e
      injection Sum.inr.inj (Option.some.inj e) with e1 e2
      obtain ⟨⟨_, h1⟩, _, h2⟩ := hd_len (nm := nm) (con := con) (fam := fam) L I hc4 (Nat.zero_le _) q gT D0 qd
      rw [← e1, ← e2]
      exact ⟨h1, h2⟩
theorem one_len (L : lt10 nm con fam cnm) (I : InH hAny ins gv B) {s s' : WS} {T U : Ty} (h60 : s.1 ≤ 60) (gT : GTH ins hAny T) (gU : GTH ins hAny U) (hT : T ≠ .leaf) (hU : U ≠ .leaf) (e : oneP ins gv s T U = some (some (true, s'))) : s.2.1 ≤ s'.2.1 ∧ (¬ tyE T U = true → (oneB nm con fam ins gv T U).length ≤ 54000 * (s'.2.1 - s.2.1) + 4) := by
  unfold oneP at e
  by_cases c : tyE T U = true
  · rw [if_pos c] at e
    injection Option.some.inj (Option.some.inj e) with e1 e2
    rw [← e2]
    exact ⟨Nat.le_refl _, fun z => absurd c z⟩
  · rw [if_neg c] at e
    cases q1 : wk 2 ins gv 130 false 0 s T with
    | none => rw [q1] at e; cases e
    | some a =>
    rw [q1, Option.bind_some] at e
    cases a with
    | none => cases e
    | some p =>
    obtain ⟨u, s1⟩ := p
    simp only at e
    cases q2 : wk 2 ins gv 130 false 0 s1 U with
    | none => rw [q2] at e; cases e
    | some a =>
    rw [q2, Option.bind_some] at e
    cases a with
    | none => cases e
    | some p =>
    obtain ⟨v, s2⟩ := p
    simp only at e
    injection Option.some.inj (Option.some.inj e) with e1 e2
    obtain ⟨_, k1⟩ := knT_wk2 (Q := fun _ => True) q1
    obtain ⟨_, k2⟩ := knT_wk2 (Q := fun _ => True) q2
    obtain ⟨y1, y2, y3⟩ := nP_wk h60 q1
    obtain ⟨z1, z2, z3⟩ := nP_wk y2 q2
    obtain ⟨D0, d0, x0, _⟩ := wk_st q1
    obtain ⟨D1, d1, x1, _⟩ := wk_st q2
    have a1 : s1.1 = s.1 + d0 := congrArg (fun y : WS => y.1) x0.1
    have a2 : s1.2.1 = s.2.1 + d0 := congrArg (fun y : WS => y.2.1) x0.1
    have b1 : s2.1 = s1.1 + d1 := congrArg (fun y : WS => y.1) x1.1
    have b2 : s2.2.1 = s1.2.1 + d1 := congrArg (fun y : WS => y.2.1) x1.1
    have l1 := why_len (nm := nm) (con := con) (fam := fam) L I 130 (by decide) T _ 130 (Nat.le_refl _) (k1 (fun _ _ => trivial)) hT gT
    have l2 := why_len (nm := nm) (con := con) (fam := fam) L I 130 (by decide) U _ 130 (Nat.le_refl _) (k2 (fun _ _ => trivial)) hU gU
    have l3 := oneB_len (nm := nm) (con := con) (fam := fam) (ins := ins) (gv := gv) c
    rw [← e2]
    exact ⟨by omega, fun _ => by omega⟩
theorem jeq_len (L : lt10 nm con fam cnm) (I : InH hAny E.2.2.2.1 E.2.2.2.2 B) {pl : Nat} {T U : Ty} {s s' : JS} {D : Dc} (gT : tyOk E.2.2.2.1 T ∧ tsz T ≤ 2147483647) (gU : tyOk E.2.2.2.1 U ∧ tsz U ≤ 2147483647) (e : jeq E pl T U s = some (.inr (D, s'))) : s.1 ≤ s'.1 ∧ (evB nm con fam cnm E.2.2.1 E.2.2.2.1 E.2.2.2.2 D).length ≤ 60000 * (s'.1 - s.1) + 1000 := by
  unfold jeq at e
  split at e
  · cases Option.some.inj e
  · rename_i big
    have zT := tszW_eq gT.2
    have zU := tszW_eq gU.2
    have sT : tsz T ≤ 60 := Classical.byContradiction (fun z => big (.inl (by rw [zT]; omega)))
    have sU : tsz U ≤ 60 := Classical.byContradiction (fun z => big (.inr (by rw [zU]; omega)))
    unfold ja at e
    cases q : oneP E.2.2.2.1 E.2.2.2.2 (0, s.1, s.2) T U with
    | none => rw [q] at e; cases e
    | some x =>
      rw [q, Option.bind_some] at e
      cases x with
      | none => cases Option.some.inj e
      | some p =>
        obtain ⟨b, w⟩ := p
        simp only at e
        cases b with
        | false => rw [if_neg (by decide)] at e; cases Option.some.inj e
        | true =>
          rw [if_pos rfl] at e
          injection Sum.inr.inj (Option.some.inj e) with e1 e2
          obtain ⟨h1, h2⟩ := one_len (nm := nm) (con := con) (fam := fam) L I (Nat.zero_le _) (GT_of gT.1 (by omega)) (GT_of gU.1 (by omega)) gT.1.1 gU.1.1 q
          rw [← e1, ← e2, evB_2]
          refine ⟨h1, ?_⟩
          by_cases c : tyE T U = true
          · have h3 := altB_len (cnm := cnm) (nm := nm) (con := con) (fam := fam) L (T := T)
            unfold oneB
            rw [if_pos c]
            omega
          · have h3 : (oneB nm con fam E.2.2.2.1 E.2.2.2.2 T U).length ≤ 54000 * (w.2.1 - s.1) + 4 := h2 c
            show _ ≤ 60000 * (w.2.1 - s.1) + 1000
            omega
/-- the reasons of a name -/
def evsL (nm con fam cnm : Nat → List Int) (E : JE) (ev : List Dc) : Nat := ((ev.map (fun D => 123 :: evB nm con fam cnm E.2.2.1 E.2.2.2.1 E.2.2.2.2 D ++ [125])).flatten).length
theorem evsL_c {D : Dc} {l : List Dc} : evsL nm con fam cnm E (D :: l) = (evB nm con fam cnm E.2.2.1 E.2.2.2.1 E.2.2.2.2 D).length + 2 + evsL nm con fam cnm E l := by
  unfold evsL
  rw [List.map_cons, List.flatten_cons, List.length_append, List.length_append, List.length_cons, List.length_cons, List.length_nil]
theorem jgv_len (L : lt10 nm con fam cnm) (I : InH hAny E.2.2.2.1 E.2.2.2.2 B) (hc4 : ∀ d ∈ E.2.2.2.1, d.2.2.2.1.length ≤ 4) {pl : Nat} {θ : List (Nat × Ty)} : ∀ {l : List GVs} {s s' : JS} {Ds : List Dc}, (∀ g ∈ l, (g.1 < 100 → GTH E.2.2.2.1 hAny ((lkT θ g.2.1).getD .leaf)) ∧ (100 ≤ g.1 → (tyOk E.2.2.2.1 (tnd 2 (g.1 - 100) ((lkT θ g.2.1).getD .leaf) .leaf) ∧ tsz (tnd 2 (g.1 - 100) ((lkT θ g.2.1).getD .leaf) .leaf) ≤ 2147483647) ∧ tyOk E.2.2.2.1 (sbT θ g.2.2) ∧ tsz (sbT θ g.2.2) ≤ 2147483647)) → jgv E pl θ l s = some (.inr (Ds, s')) → s.1 ≤ s'.1 ∧ evsL nm con fam cnm E Ds ≤ 60000 * (s'.1 - s.1) + 1002 * l.length
  | [], s, s', Ds, _, e => by
    injection Sum.inr.inj (Option.some.inj e) with e1 e2
    rw [← e1, ← e2]
    exact ⟨Nat.le_refl _, Nat.zero_le _⟩
  | g :: l, s, s', Ds, hg, e => by
    have e' : jb (if g.1 < 100 then jcl E pl g.1 ((lkT θ g.2.1).getD .leaf) s else jeq E pl (tnd 2 (g.1 - 100) ((lkT θ g.2.1).getD .leaf) .leaf) (sbT θ g.2.2) s) (fun a => jb (jgv E pl θ l a.2) fun b => some (.inr (a.1 :: b.1, b.2))) = some (.inr (Ds, s')) := e
    obtain ⟨⟨D, s1⟩, e1, e2⟩ := jbR e'
    obtain ⟨⟨Dl, s2⟩, e3, e4⟩ := jbR e2
    injection Sum.inr.inj (Option.some.inj e4) with e5 e6
    obtain ⟨p1, p2⟩ := jgv_len L I hc4 (fun g' hg' => hg g' (List.mem_cons_of_mem _ hg')) e3
    have e6' : s2 = s' := e6
    have e5' : D :: Dl = Ds := e5
    have h1 : s.1 ≤ s1.1 ∧ (evB nm con fam cnm E.2.2.1 E.2.2.2.1 E.2.2.2.2 D).length ≤ 60000 * (s1.1 - s.1) + 1000 := by
      obtain ⟨g1, g2⟩ := hg g List.mem_cons_self
      by_cases c : g.1 < 100
      · rw [if_pos c] at e1
        exact jcl_len L I hc4 (g1 c) e1
      · rw [if_neg c] at e1
        obtain ⟨g3, g4⟩ := g2 (by omega)
        exact jeq_len L I g3 g4 e1
    rw [← e5', evsL_c, ← e6', List.length_cons]
    have p1' : s1.1 ≤ s2.1 := p1
    have p2' : evsL nm con fam cnm E Dl ≤ 60000 * (s2.1 - s1.1) + 1002 * l.length := p2
    obtain ⟨h1a, h1b⟩ := h1
    rw [Nat.mul_add]
    exact ⟨by omega, by omega⟩
end LDL
