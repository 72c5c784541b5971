set_option maxRecDepth 100000
/-! WHAT WAS JUDGED CAN BE TOLD: all types on the way are known (plain) -/
/-- one state after another -/
def preS (s s' : JS) : Prop := ∃ D, s'.2 = s.2 ++ D
theorem preS_refl (s : JS) : preS s s := ⟨[], by simp⟩
theorem preS_trans {s s1 s2 : JS} (A : preS s s1) (B : preS s1 s2) : preS s s2 := by
  obtain ⟨D, d⟩ := A
  obtain ⟨D', d'⟩ := B
  exact ⟨D ++ D', by rw [d', d, List.append_assoc]⟩
theorem preS_all {s s' : JS} {Q : Ty → Prop} (A : preS s s') (H : ∀ X ∈ s'.2, Q X) : ∀ X ∈ s.2, Q X := fun X hX => by
  obtain ⟨D, d⟩ := A
  exact H X (by rw [d]; exact List.mem_append_left _ hX)
/-- a dictionary can be told -/
def dcK (ab : List (Option Nat)) (ins : List INs) (gv : List GVs) (Q : Ty → Prop) : Nat → Nat → Ty → Prop
  | 0, _, _ => False
  | f + 1, c, T => ∃ u, knT ins gv Q 130 T u ∧ nP ins gv 130 T ≤ 3600 ∧ ∀ k w x l r, u = .inner k w x l r → k = 1 → ∀ i d, iOf ins c w = some i → ins[i]? = some d → ∀ p ∈ d.2.2.2.1, dcK ab ins gv Q f p.1 (if p.2 = 0 then tL u else tR' u)
/-- that two types are one -/
def oneK (ins : List INs) (gv : List GVs) (Q : Ty → Prop) (T U : Ty) : Prop := T ≠ U → ∃ w, knT ins gv Q 130 T w ∧ (U ≠ w → knT ins gv Q 130 U w) ∧ (U = w ∨ nP ins gv 130 T + nP ins gv 130 U ≤ 3600) ∧ nP ins gv 130 T ≤ 3600
/-- the reasons of a name -/
def gvK (E : JE) (Q : Ty → Prop) (θ : List (Nat × Ty)) : List GVs → List Dc → Prop
  | [], [] => True
  | g :: l, D :: Ds => (if g.1 < 100 then dcT E.2.2.1 E.2.2.2.1 E.2.2.2.2 70 g.1 ((lkT θ g.2.1).getD .leaf) = some D ∧ dcK E.2.2.1 E.2.2.2.1 E.2.2.2.2 Q 70 g.1 ((lkT θ g.2.1).getD .leaf) else D = .inner 2 (0, 0, tnd 2 (g.1 - 100) ((lkT θ g.2.1).getD .leaf) .leaf, sbT θ g.2.2) () .leaf .leaf ∧ oneK E.2.2.2.1 E.2.2.2.2 Q (tnd 2 (g.1 - 100) ((lkT θ g.2.1).getD .leaf) .leaf) (sbT θ g.2.2) ∧ (Q (tnd 2 (g.1 - 100) ((lkT θ g.2.1).getD .leaf) .leaf) ∧ Q (sbT θ g.2.2)) ∧ tszW (tnd 2 (g.1 - 100) ((lkT θ g.2.1).getD .leaf) .leaf) ≤ 60 ∧ tszW (sbT θ g.2.2) ≤ 60) ∧ gvK E Q θ l Ds
  | _, _ => False
def nmK2 (E : JE) (Q : Ty → Prop) (lb : XL) (ev : List Dc) : Prop := (lb.2.1 = 0 ∧ lb.2.2.2.2.2 = [] ∧ ev = []) ∨ (lb.2.1 ≠ 0 ∧ lb.2.2.2.2.2.length = jnN E lb.2.1 lb.2.2.1 ∧ ((lb.2.1 = 1 ∧ ∃ f, E.1[lb.2.2.1]? = some f ∧ gvK E Q (f.1.zip (lb.2.2.2.2.2.map Prod.fst)) f.2.1 ev) ∨ (lb.2.1 = 2 ∧ ∃ m D, E.2.1[lb.2.2.1]? = some (some m) ∧ ev = [D] ∧ dcT E.2.2.1 E.2.2.2.1 E.2.2.2.2 70 m.1 ((lb.2.2.2.2.2.map Prod.fst)[0]?.getD .leaf) = some D ∧ dcK E.2.2.1 E.2.2.2.1 E.2.2.2.2 Q 70 m.1 ((lb.2.2.2.2.2.map Prod.fst)[0]?.getD .leaf)) ∨ (lb.2.1 ≠ 1 ∧ lb.2.1 ≠ 2 ∧ ev = [])))
def tOk1 (ins : List INs) (T : Ty) : Prop := tyOk ins T ∧ tsz T ≤ 1000000
/-- a cast -/
def csK (E : JE) (Q : Ty → Prop) (T C : Ty) : Prop := C = .leaf ∨ (tOk1 E.2.2.2.1 C ∧ T ≠ C ∧ oneK E.2.2.2.1 E.2.2.2.2 Q T C)
/-- a judged ex can be told -/
def eK (E : JE) (Q : Ty → Prop) : Et → Prop
  | .leaf => True
  | .inner t a _ l r => (a.2.1 ≠ .leaf → t ≠ 13 ∧ tOk1 E.2.2.2.1 a.2.1 ∧ csK E Q a.2.1 a.2.2.1 ∧ (t = 10 → nmK2 E Q a.1 a.2.2.2)) ∧ ((t ≠ 10 → t ≠ 11 → eTy l ≠ .leaf) ∧ (t ≠ 10 → t ≠ 11 → t ≠ 14 → t ≠ 16 → t ≠ 17 → eTy r ≠ .leaf)) ∧ eK E Q l ∧ eK E Q r
section LJK
variable {ab : List (Option Nat)} {ins : List INs} {gv : List GVs} {Q Q' : Ty → Prop} {E : JE} {B : Nat}
theorem knT_mono (h : ∀ X, Q X → Q' X) {f : Nat} {T u : Ty} (H : knT ins gv Q f T u) : knT ins gv Q' f T u := by
  obtain ⟨D, bg, h1, h2⟩ := H
  exact ⟨D, bg, h1, fun X hX => h X (h2 X hX)⟩
theorem knT_wk2 {s s' : WS} {T u : Ty} (e : wk 2 ins gv 130 false 0 s T = some (some (u, s'))) : (∃ D, s'.2.2 = s.2.2 ++ D) ∧ ((∀ X ∈ s'.2.2, Q X) → knT ins gv Q 130 T u) := by
  obtain ⟨D, d, x, w⟩ := wk_st e
  exact ⟨⟨D, congrArg (fun y : WS => y.2.2) x.1⟩, fun q => ⟨D, 0, fun s0 => w 1 0 s0 (Nat.le_refl _) (by decide) (Nat.le_refl _), fun X hX => q X (by rw [x.1]; exact List.mem_append_right _ hX)⟩⟩
theorem nP_wk {s s' : WS} {T u : Ty} (h60 : s.1 ≤ 60) (e : wk 2 ins gv 130 false 0 s T = some (some (u, s'))) : s.1 ≤ s'.1 ∧ s'.1 ≤ 60 ∧ nP ins gv 130 T ≤ 60 * (s'.1 - s.1) := by
  obtain ⟨a1, a2⟩ := nP_le (m := false) (Nat.le_refl _) (by decide) e
  have a3 := a2 130
  rw [if_neg (by decide)] at a3
  obtain ⟨D, d, x, _⟩ := wk_st e
  have x1 : s'.1 = s.1 + d := congrArg (fun y : WS => y.1) x.1
  have := x.2.2 rfl h60
  exact ⟨a1, by omega, by omega⟩
theorem hd_kn : ∀ {f : Nat} {s s' : WS} {c : Nat} {T : Ty} {b : Bool}, s.1 ≤ 60 → hd ab ins gv f s c T = some (some (b, s')) → s'.1 ≤ 60 ∧ (∃ D, s'.2.2 = s.2.2 ++ D) ∧ (b = true → (∀ X ∈ s'.2.2, Q X) → dcK ab ins gv Q f c T)
  | 0, _, _, _, _, _, _, e => by cases e
  | f + 1, s, s', c, T, b, h60, e => by
    have ih := fun (s s' : WS) (c : Nat) (T : Ty) (b : Bool) (h60 : s.1 ≤ 60) (e : hd ab ins gv f s c T = some (some (b, s'))) => hd_kn h60 e
    have lst : ∀ (u : Ty) (l : List (Nat × Nat)) (s1 s2 : WS) (b : Bool), s1.1 ≤ 60 → hdL (hd ab ins gv f) u l s1 = some (some (b, s2)) → s2.1 ≤ 60 ∧ (∃ D, s2.2.2 = s1.2.2 ++ D) ∧ (b = true → (∀ X ∈ s2.2.2, Q X) → ∀ p ∈ l, dcK ab ins gv Q f p.1 (if p.2 = 0 then tL u else tR' u)) := by
      intro u l
      induction l with
      | nil =>
        intro s1 s2 b h60 e
        injection Option.some.inj (Option.some.inj e) with e1 e2
        exact ⟨by rw [← e2]; exact h60, ⟨[], by rw [← e2]; simp⟩, fun _ _ p hp => absurd hp List.not_mem_nil⟩
      | cons p l ihl =>
        intro s1 s2 b h60 e
        unfold hdL at e
        cases q : hd ab ins gv f s1 p.1 (if p.2 = 0 then tL u else tR' u) with
        | none => rw [q] at e; cases e
        | some a =>
        rw [q, Option.bind_some] at e
        cases a with
        | none => cases e
        | some pb =>
        obtain ⟨b1, s3⟩ := pb
        obtain ⟨q60, ⟨D1, d1⟩, k1⟩ := ih _ _ _ _ _ h60 q
        simp only at e
        by_cases hb : b1 = true
        · rw [if_pos hb] at e
          obtain ⟨r60, ⟨D2, d2⟩, k2⟩ := ihl _ _ _ q60 e
          refine ⟨r60, ⟨D1 ++ D2, by rw [d2, d1, List.append_assoc]⟩, fun hb2 hq p' hp' => ?_⟩
          rcases List.mem_cons.mp hp' with h | h
          · rw [h]
            exact k1 hb (fun X hX => hq X (by rw [d2]; exact List.mem_append_left _ hX))
          · exact k2 hb2 hq p' h
        · rw [if_neg hb] at e
          injection Option.some.inj (Option.some.inj e) with e1 e2
          exact ⟨by rw [← e2]; exact q60, ⟨D1, by rw [← e2]; exact d1⟩, fun hb2 => by rw [← e1] at hb2; cases hb2⟩
    unfold hd at e
    cases q1 : wk 2 ins gv 130 false 0 s T with
    | none => rw [q1] at e; cases e
    | some a =>
    rw [q1, Option.bind_some] at e
    cases a with
    | none => cases e
    | some p =>
    obtain ⟨u, s1⟩ := p
    obtain ⟨⟨D, d1⟩, kn⟩ := knT_wk2 (Q := Q) q1
    obtain ⟨w1, w2, w3⟩ := nP_wk h60 q1
    have np : nP ins gv 130 T ≤ 3600 := by omega
    simp only at e
    cases u with
    | leaf =>
      injection Option.some.inj (Option.some.inj e) with e1 e2
      exact ⟨by rw [← e2]; exact w2, ⟨D, by rw [← e2]; exact d1⟩, fun hb => by rw [← e1] at hb; cases hb⟩
    | inner k w x l r =>
      simp only at e
      by_cases k0 : k = 0
      · rw [if_pos k0] at e
        injection Option.some.inj (Option.some.inj e) with e1 e2
        exact ⟨by rw [← e2]; exact w2, ⟨D, by rw [← e2]; exact d1⟩, fun _ hq => ⟨_, kn (fun X hX => hq X (by rw [← e2]; exact hX)), np, fun k' w' x' l' r' eu k1 => by
          injection eu with eu1
          omega⟩⟩
      · rw [if_neg k0] at e
        by_cases k1 : k = 1
        · rw [if_pos k1] at e
          cases qi : iOf ins c w with
          | none =>
            rw [qi] at e
            injection Option.some.inj (Option.some.inj e) with e1 e2
            exact ⟨by rw [← e2]; exact w2, ⟨D, by rw [← e2]; exact d1⟩, fun hb => by rw [← e1] at hb; cases hb⟩
          | some i =>
            rw [qi] at e
            simp only at e
            by_cases ov : 60 < s1.1 + 1 ∨ 300 < s1.2.1 + 1
            · rw [if_pos ov] at e; cases e
            · rw [if_neg ov] at e
              cases qd : ins[i]? with
              | none => rw [qd] at e; cases e
              | some dd =>
                rw [qd] at e
                simp only at e
                obtain ⟨r60, ⟨D2, d2⟩, k2⟩ := lst _ _ _ _ _ (by show s1.1 + 1 ≤ 60; omega) e
                have d2' : s'.2.2 = s1.2.2 ++ D2 := d2
                refine ⟨r60, ⟨D ++ D2, by rw [d2', d1, List.append_assoc]⟩, fun hb hq => ⟨_, kn (fun X hX => hq X (by rw [d2']; exact List.mem_append_left _ hX)), np, fun k' w' x' l' r' eu k1' i' d' ei ed p hp => ?_⟩⟩
                injection eu with eu1 eu2
                rw [← eu2, qi] at ei
                rw [← Option.some.inj ei, qd] at ed
                rw [← Option.some.inj ed] at hp
                exact k2 hb hq p hp
        · rw [if_neg k1] at e
          injection Option.some.inj (Option.some.inj e) with e1 e2
          exact ⟨by rw [← e2]; exact w2, ⟨D, by rw [← e2]; exact d1⟩, fun hb => by rw [← e1] at hb; cases hb⟩
theorem one_kn {s s' : WS} {T U : Ty} {b : Bool} (h60 : s.1 ≤ 60) (e : oneP ins gv s T U = some (some (b, s'))) : (∃ D, s'.2.2 = s.2.2 ++ D) ∧ (b = true → (∀ X ∈ s'.2.2, Q X) → oneK ins gv Q T U) := by
  unfold oneP at e
  by_cases c : tyE T U = true
  · rw [if_pos c] at e
    injection Option.some.inj (Option.some.inj e) with e1 e2
    exact ⟨⟨[], by rw [← e2]; simp⟩, fun _ _ n => absurd (tyE_iff.mp c) n⟩
  · rw [if_neg c] at e
    cases q1 : wk 2 ins gv 130 false 0 s T with
    | none => rw [q1] at e; cases e
    | some a =>
    rw [q1, Option.bind_some] at e
    cases a with
    | none => cases e
    | some p =>
    obtain ⟨u, s1⟩ := p
    simp only at e
    cases q2 : wk 2 ins gv 130 false 0 s1 U with
    | none => rw [q2] at e; cases e
    | some a =>
    rw [q2, Option.bind_some] at e
    cases a with
    | none => cases e
    | some p =>
    obtain ⟨v, s2⟩ := p
    simp only at e
    injection Option.some.inj (Option.some.inj e) with e1 e2
    obtain ⟨⟨D1, d1⟩, k1⟩ := knT_wk2 (Q := Q) q1
    obtain ⟨⟨D2, d2⟩, k2⟩ := knT_wk2 (Q := Q) q2
    rw [← e2]
    obtain ⟨y1, y2, y3⟩ := nP_wk h60 q1
    obtain ⟨z1, z2, z3⟩ := nP_wk y2 q2
    refine ⟨⟨D1 ++ D2, by rw [d2, d1, List.append_assoc]⟩, fun hb hq _ => ⟨u, k1 (fun X hX => hq X (by rw [d2]; exact List.mem_append_left _ hX)), ?_, .inr (by omega), by omega⟩⟩
    rw [← e1] at hb
    rw [tyE_iff.mp hb]
    exact fun _ => k2 hq
theorem jcl_kn {pl c : Nat} {T : Ty} {s s' : JS} {D : Dc} (e : jcl E pl c T s = some (.inr (D, s'))) : preS s s' ∧ ((∀ X ∈ s'.2, Q X) → dcT E.2.2.1 E.2.2.2.1 E.2.2.2.2 70 c T = some D ∧ dcK E.2.2.1 E.2.2.2.1 E.2.2.2.2 Q 70 c T) := by
  unfold jcl ja at e
  cases q : hd E.2.2.1 E.2.2.2.1 E.2.2.2.2 70 (0, s.1, s.2) c T with
  | none => rw [q] at e; cases e
  | some a =>
  rw [q, Option.bind_some] at e
  cases a with
  | none => cases Option.some.inj e
  | some pb =>
  obtain ⟨b, w⟩ := pb
  simp only at e
  cases b with
  | false => rw [if_neg (by decide)] at e; cases Option.some.inj e
  | true =>
    rw [if_pos rfl] at e
    cases qd : dcT E.2.2.1 E.2.2.2.1 E.2.2.2.2 70 c T with
    | none => rw [qd] at e; cases e
    | some D0 =>
      rw [qd] at e
      injection Sum.inr.inj (Option.some.inj e) with e1 e2
      obtain ⟨_, ⟨D1, d1⟩, k1⟩ := hd_kn (Q := Q) (Nat.zero_le _) q
      rw [← e1, ← e2]
      exact ⟨⟨D1, d1⟩, fun hq => ⟨rfl, k1 rfl hq⟩⟩
theorem jeq_kn {pl : Nat} {T U : Ty} {s s' : JS} {D : Dc} (e : jeq E pl T U s = some (.inr (D, s'))) : preS s s' ∧ ((∀ X ∈ s'.2, Q X) → D = .inner 2 (0, 0, T, U) () .leaf .leaf ∧ oneK E.2.2.2.1 E.2.2.2.2 Q T U ∧ (Q T ∧ Q U) ∧ tszW T ≤ 60 ∧ tszW U ≤ 60) := by
  unfold jeq at e
  split at e
  · cases Option.some.inj e
  · rename_i big
    unfold ja at e
    cases q : oneP E.2.2.2.1 E.2.2.2.2 (0, s.1, s.2) T U with
    | none => rw [q] at e; cases e
    | some x =>
      rw [q, Option.bind_some] at e
      cases x with
      | none => cases Option.some.inj e
      | some p =>
        obtain ⟨b, w⟩ := p
        simp only at e
        cases b with
        | false => rw [if_neg (by decide)] at e; cases Option.some.inj e
        | true =>
          rw [if_pos rfl] at e
          injection Sum.inr.inj (Option.some.inj e) with e1 e2
          obtain ⟨⟨D1, d1⟩, k1⟩ := one_kn (Q := Q) (Nat.zero_le _) q
          have d1' : w.2.2 = s.2 ++ D1 := d1
          rw [← e1, ← e2]
          refine ⟨⟨D1 ++ [T, U], by show w.2.2 ++ [T, U] = _; rw [d1', List.append_assoc]⟩, fun hq => ?_⟩
          have hq' : ∀ X ∈ w.2.2 ++ [T, U], Q X := hq
          exact ⟨rfl, k1 rfl (fun X hX => hq' X (List.mem_append_left _ hX)), ⟨hq' T (List.mem_append_right _ (by simp)), hq' U (List.mem_append_right _ (by simp))⟩, Classical.byContradiction (fun w => big (.inl w)), Classical.byContradiction (fun w => big (.inr w))⟩
theorem jgv_kn {pl : Nat} {θ : List (Nat × Ty)} : ∀ {l : List GVs} {s s' : JS} {Ds : List Dc}, jgv E pl θ l s = some (.inr (Ds, s')) → preS s s' ∧ ((∀ X ∈ s'.2, Q X) → gvK E Q θ l Ds)
  | [], s, s', Ds, e => by
    injection Sum.inr.inj (Option.some.inj e) with e1 e2
    rw [← e1, ← e2]
    exact ⟨preS_refl _, fun _ => trivial⟩
  | g :: l, s, s', Ds, e => by
    have e' : jb (if g.1 < 100 then jcl E pl g.1 ((lkT θ g.2.1).getD .leaf) s else jeq E pl (tnd 2 (g.1 - 100) ((lkT θ g.2.1).getD .leaf) .leaf) (sbT θ g.2.2) s) (fun a => jb (jgv E pl θ l a.2) fun b => some (.inr (a.1 :: b.1, b.2))) = some (.inr (Ds, s')) := e
    rcases jb_cs e' with ⟨kp, _, z⟩ | ⟨⟨D, s1⟩, e1, e2⟩
    · cases z
    rcases jb_cs e2 with ⟨kp, _, z⟩ | ⟨⟨Dl, s2⟩, e3, e4⟩
    · cases z
    injection Sum.inr.inj (Option.some.inj e4) with e5 e6
    obtain ⟨p2, k2⟩ := jgv_kn e3
    have p2' : preS s1 s' := by rw [← e6]; exact p2
    have k2' : (∀ X ∈ s'.2, Q X) → gvK E Q θ l Dl := by rw [← e6]; exact k2
    rw [← e5]
    by_cases c : g.1 < 100
    · rw [if_pos c] at e1
      obtain ⟨p1, k1⟩ := jcl_kn (Q := Q) e1
      refine ⟨preS_trans p1 p2', fun hq => ⟨?_, k2' hq⟩⟩
      rw [if_pos c]
      exact k1 (preS_all p2' hq)
    · rw [if_neg c] at e1
      obtain ⟨p1, k1⟩ := jeq_kn (Q := Q) e1
      refine ⟨preS_trans p1 p2', fun hq => ⟨?_, k2' hq⟩⟩
      rw [if_neg c]
      exact k1 (preS_all p2' hq)
theorem jnm_kn {lb : XL} {Γ : List Ty} {s s' : JS} {e : Et} (H : jnm E lb Γ s = some (.inr (e, s'))) : preS s s' ∧ ∃ T ev, e = en 10 lb T .leaf ev .leaf .leaf ∧ ((∀ X ∈ s'.2, Q X) → nmK2 E Q lb ev) := by
  unfold jnm at H
  by_cases k0 : lb.2.1 = 0
  · rw [if_pos k0] at H
    cases q : lb.2.2.2.2.2 with
    | nil =>
      rw [q] at H
      simp only at H
      cases qg : Γ[lb.2.2.1]? with
      | none => rw [qg] at H; cases H
      | some T =>
        rw [qg] at H
        injection Sum.inr.inj (Option.some.inj H) with e1 e2
        rw [← e1, ← e2]
        exact ⟨preS_refl _, T, [], rfl, fun _ => .inl ⟨k0, q, rfl⟩⟩
    | cons a l =>
      rw [q] at H
      cases Option.some.inj H
  · rw [if_neg k0] at H
    by_cases l1 : lb.2.2.2.2.2.length < jnN E lb.2.1 lb.2.2.1
    · rw [if_pos l1] at H
      cases Option.some.inj H
    rw [if_neg l1] at H
    cases q : lb.2.2.2.2.2[jnN E lb.2.1 lb.2.2.1]? with
    | some a =>
      rw [q] at H
      cases Option.some.inj H
    | none =>
      rw [q] at H
      simp only at H
      have l2 := List.getElem?_eq_none_iff.mp q
      split at H
      · cases Option.some.inj H
      rcases jb_cs H with ⟨kp, _, z⟩ | ⟨⟨Ds, s1⟩, e1, e2⟩
      · cases z
      injection Sum.inr.inj (Option.some.inj e2) with e3 e4
      have e4' : s1 = s' := e4
      rw [← e3]
      have ll : lb.2.2.2.2.2.length = jnN E lb.2.1 lb.2.2.1 := by omega
      unfold jnG at e1
      by_cases k1 : lb.2.1 = 1
      · rw [if_pos k1] at e1
        cases qf : E.1[lb.2.2.1]? with
        | none => rw [qf] at e1; cases e1
        | some f =>
          rw [qf] at e1
          obtain ⟨p1, kk⟩ := jgv_kn (Q := Q) (θ := f.1.zip (lb.2.2.2.2.2.map Prod.fst)) (l := f.2.1) e1
          rw [← e4']
          exact ⟨p1, _, Ds, rfl, fun hq => .inr ⟨k0, ll, .inl ⟨k1, f, qf, kk hq⟩⟩⟩
      · rw [if_neg k1] at e1
        by_cases k2 : lb.2.1 = 2
        · rw [if_pos k2] at e1
          cases qm : E.2.1[lb.2.2.1]? with
          | none => rw [qm] at e1; cases e1
          | some o =>
            rw [qm] at e1
            cases o with
            | none => cases e1
            | some m =>
              have e1' : jb (jcl E lb.1 m.1 ((lb.2.2.2.2.2.map Prod.fst)[0]?.getD .leaf) s) (fun a => some (.inr ([a.1], a.2))) = some (.inr (Ds, s1)) := e1
              rcases jb_cs e1' with ⟨kp, _, z⟩ | ⟨⟨D, s2⟩, e5, e6⟩
              · cases z
              injection Sum.inr.inj (Option.some.inj e6) with e7 e8
              obtain ⟨p1, kk⟩ := jcl_kn (Q := Q) e5
              have e8' : s2 = s' := e8.trans e4'
              rw [← e8']
              exact ⟨p1, _, Ds, rfl, fun hq => .inr ⟨k0, ll, .inr (.inl ⟨k2, m, D, qm, e7.symm, kk hq⟩)⟩⟩
        · rw [if_neg k2] at e1
          injection Sum.inr.inj (Option.some.inj e1) with e5 e6
          have e6' : s = s' := e6.trans e4'
          rw [← e6']
          exact ⟨preS_refl _, _, Ds, rfl, fun _ => .inr ⟨k0, ll, .inr (.inr ⟨k1, k2, e5.symm⟩)⟩⟩
end LJK
