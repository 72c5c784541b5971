set_option maxRecDepth 100000
/-! TYPES THAT CAN BE SAID: what they are worked out to can be said -/
/-- a type whose heads are all known -/
def GTH (ins : List INs) (H : Nat → Nat → Prop) (T : Ty) : Prop := wfT T ∧ okF ins T ∧ tsz T ≤ 1000000 ∧ allH H T
/-- what is known of insts and givens -/
def InH (H : Nat → Nat → Prop) (ins : List INs) (gv : List GVs) (B : Nat) : Prop := (B ≤ 2700 ∧ insF ins B ∧ gvF' ins gv) ∧ (ins.length ≤ 20 ∧ gv.length ≤ 4 ∧ ∀ d ∈ ins, d.2.2.1.length = pN d.2.1) ∧ (∀ d ∈ ins, allH H d.2.2.2.2) ∧ ∀ g ∈ gv, 100 ≤ g.1 → allH H g.2.2
/-- a type that can be said, in the state σ -/
abbrev GTy (σ : tS) (ins : List INs) (nm con fam : Nat → List Int) (T : Ty) : Prop := GTH ins (hdO nm con fam σ) T
abbrev InO (σ : tS) (nm con fam : Nat → List Int) (ins : List INs) (gv : List GVs) (B : Nat) : Prop := InH (hdO nm con fam σ) ins gv B
section LKG
variable {ins : List INs} {gv : List GVs} {Q : Ty → Prop} {B : Nat} {H : Nat → Nat → Prop}
theorem GTy_l {k w : Nat} {u : Unit} {l r : Ty} (X : GTH ins H (.inner k w u l r)) : GTH ins H l ∧ GTH ins H r := by
  obtain ⟨⟨_, w1, w2⟩, ⟨_, o1, o2⟩, z, ⟨_, q1, q2⟩⟩ := X
  have z' : tsz (.inner k w u l r) = 1 + tsz l + tsz r := rfl
  exact ⟨⟨w1, o1, by omega, q1⟩, ⟨w2, o2, by omega, q2⟩⟩
theorem tOn_sb {θ : List (Nat × Ty)} (hθ : ∀ p ∈ θ, allH H p.2) : ∀ {T : Ty}, allH H T → allH H (sbT θ T)
  | .leaf, _ => trivial
  | .inner k w u l r, h => by
    unfold sbT
    split
    · cases q : lkT θ w with
      | none => exact h
      | some T => exact hθ _ (lkT_mem q)
    · exact ⟨h.1, tOn_sb hθ h.2.1, tOn_sb hθ h.2.2⟩
theorem hdP_on {d : INs} {p : Ty} (X : allH H p) : ∀ q ∈ hdP d p, allH H q.2 := fun q hq => by
  have h2 := (List.of_mem_zip hq).2
  have hp : allH H (tL p) ∧ allH H (tR' p) := by
    cases p with
    | leaf => exact ⟨trivial, trivial⟩
    | inner k w u l r => exact ⟨X.2.1, X.2.2⟩
  rcases List.mem_cons.mp h2 with h | h
  · rw [h]; exact hp.1
  · rw [List.mem_singleton.mp h]; exact hp.2
theorem gto_on (hi : ins.length ≤ 20) (hI : ∀ d ∈ ins, allH H d.2.2.2.2) (hG : ∀ g ∈ gv, 100 ≤ g.1 → allH H g.2.2) {v : Ty} {b : Nat} (ov : allH H v) (e : gby ins gv v = some b) : allH H (gto ins gv b (tL v)) := by
  rcases v with ⟨k, f, u, ⟨k', w, u', l, r⟩ | _, r'⟩ | _
  · have e' : (if k = 2 then (if k' = 1 then iOf ins f w else if k' = 0 then (gFm gv f w).map (fun g => 100 + g) else none) else none) = some b := e
    by_cases k2 : k = 2
    · rw [if_pos k2] at e'
      by_cases k1 : k' = 1
      · rw [if_pos k1] at e'
        obtain ⟨d, i1, i2⟩ := ixF_some e'
        have lt := (List.getElem?_eq_some_iff.mp i1).1
        have im := List.mem_of_getElem? i1
        have eg : gto ins gv b (tL (.inner k f u (.inner k' w u' l r) r')) = sbT (hdP d (.inner k' w u' l r)) d.2.2.2.2 := by
          unfold gto
          rw [if_pos (by omega), i1]
          rfl
        rw [eg]
        exact tOn_sb (hdP_on ov.2.1) (hI d im)
      · rw [if_neg k1] at e'
        by_cases k0 : k' = 0
        · rw [if_pos k0] at e'
          cases q : gFm gv f w with
          | none => rw [q] at e'; cases e'
          | some g =>
            rw [q] at e'
            have e1 : 100 + g = b := Option.some.inj e'
            obtain ⟨y, y1, y2⟩ := ixF_some q
            have y2' : y.1 = 100 + f ∧ y.2.1 = w := by simpa using y2
            have eg : gto ins gv b (tL (.inner k f u (.inner k' w u' l r) r')) = y.2.2 := by
              unfold gto
              rw [if_neg (by omega), show b - 100 = g by omega, y1]
              rfl
            rw [eg]; exact hG y (List.mem_of_getElem? y1) (by omega)
        · rw [if_neg k0] at e'; cases e'
    · rw [if_neg k2] at e'; cases e'
  · cases e
  · cases e
theorem wkP_hd {r : WS → Ty → Option (Option (Ty × WS))} {s s' : WS} {k w : Nat} {x : Unit} {l t v : Ty} (e : wkP r s (.inner k w x l t) = some (some (v, s'))) : ∃ l' t', v = .inner k w x l' t' := by
  rw [wkP_inner] at e
  cases q1 : wkQ r s l with
  | none => rw [q1] at e; cases e
  | some a =>
  rw [q1, Option.bind_some] at e
  cases a with
  | none => cases e
  | some p =>
  obtain ⟨l', s1⟩ := p
  simp only at e
  cases q2 : wkQ r s1 t with
  | none => rw [q2] at e; cases e
  | some b =>
  rw [q2, Option.bind_some] at e
  cases b with
  | none => cases e
  | some p2 =>
  obtain ⟨t', s2⟩ := p2
  injection Option.some.inj (Option.some.inj e) with e1 e2
  exact ⟨l', t', e1.symm⟩
/-- what it is worked out to fits -/
theorem knT_fit (I : InH H ins gv B) {f : Nat} {T u : Ty} (kn : knT ins gv Q f T u) (hT : T ≠ .leaf) (G : GTH ins H T) : (wfT u ∧ u ≠ .leaf ∧ okF ins u) ∧ tsz u ≤ 60 ∧ tdp u < 70 := by
  obtain ⟨D, bg, hw, _⟩ := kn
  obtain ⟨a1, a2⟩ := wk_tsz I.1.1 I.1.2.1 I.1.2.2 (by have := I.2.1.1; omega) I.2.1.2.2 G.2.2.1 G.1 hT G.2.1 (hw (0, 0, []))
  rw [if_neg (by decide)] at a2
  have := tdp_tsz u
  exact ⟨a1, a2, by omega⟩
/-- one step -/
theorem kn_step0 (I : InH H ins gv B) {g : Nat} {T u : Ty} (hg : g ≤ 129) (kn : knT ins gv Q (g + 2) T u) (th : thB T = true) (G : GTH ins H T) (ih : ∀ f, f < g + 2 → ∀ T u, knT ins gv Q f T u → GTH ins H T → allH H u) : (GTH ins H (innT ins gv T) ∧ innT ins gv T ≠ .leaf ∧ tsz (tL (innT ins gv T)) ≤ 60 ∧ tdp (tL (innT ins gv T)) < 70) ∧ ∀ b, gby ins gv (innT ins gv T) = some b → GTH ins H (gto ins gv b (tL (innT ins gv T))) ∧ gto ins gv b (tL (innT ins gv T)) ≠ .leaf := by
  have hT : T ≠ .leaf := fun z => by rw [z] at th; cases th
  obtain ⟨⟨⟨D2, hw, _⟩, _⟩, sp, _, _⟩ := knT_step hg kn th
  obtain ⟨p1, p2, p3, p4, p5⟩ := wkP_tsz (ins := ins) (fun s T u s' h1 h2 h3 h4 e => by
    have := wk_tsz I.1.1 I.1.2.1 I.1.2.2 (by have := I.2.1.1; omega) I.2.1.2.2 h1 h2 h3 h4 e
    rwa [if_neg (by decide)] at this) G.2.2.1 G.1 hT G.2.1 (hw 1 (Nat.le_refl _) (0, 0, []))
  have ov : allH H (innT ins gv T) := by
    obtain ⟨s1, s2⟩ := sp hT
    rcases T with ⟨k, w, x, l, r⟩ | _
    rotate_left
    · exact absurd rfl hT
    obtain ⟨gl, gr⟩ := GTy_l G
    obtain ⟨l', t', ev⟩ := wkP_hd (hw 1 (Nat.le_refl _) (0, 0, []))
    rw [ev] at s1 s2 ⊢
    refine ⟨G.2.2.2.1, ?_, ?_⟩
    · rcases s1 with z | z
      · rw [show l' = .leaf from z.2]; trivial
      · exact ih g (by omega) l l' z gl
    · rcases s2 with z | z
      · rw [show t' = .leaf from z.2]; trivial
      · exact ih g (by omega) r t' z gr
  have hd := tdp_tsz (tL (innT ins gv T))
  refine ⟨⟨⟨p1, p5, by omega, ov⟩, p3, p4, by omega⟩, fun b eb => ?_⟩
  obtain ⟨w1, w2, w3⟩ := gto_wf I.1.2.1 I.1.2.2 (by have := I.2.1.1; omega) I.2.1.2.2 p1 p5 eb
  exact ⟨⟨w1, w3, gto_tsz I.1.1 I.1.2.1 I.1.2.2 (by have := I.2.1.1; omega) p1 p4 eb, gto_on I.2.1.1 I.2.2.1 I.2.2.2 ov eb⟩, w2⟩
theorem kn_on (I : InH H ins gv B) : ∀ (f : Nat), f ≤ 131 → ∀ T u, knT ins gv Q f T u → GTH ins H T → allH H u := by
  intro f
  induction f using Nat.strongRecOn with
  | ind f ih =>
  intro hf T u kn G
  by_cases th : thB T = true
  · obtain ⟨g, eg⟩ := knT_2 kn th
    subst eg
    obtain ⟨⟨v1, v2, v3, v4⟩, v5⟩ := kn_step0 I (by omega) kn th G (fun f hf' T u => ih f hf' (by omega) T u)
    obtain ⟨_, _, s3, s4⟩ := knT_step (by omega) kn th
    cases gb : gby ins gv (innT ins gv T) with
    | none =>
      rw [s3 gb]
      exact v1.2.2.2
    | some b => exact ih (g + 1) (by omega) (by omega) _ _ (s4 b gb).2.1 (v5 b gb).1
  · rw [knT_no kn th]
    exact G.2.2.2
theorem kn_step (I : InH H ins gv B) {g : Nat} {T u : Ty} (hg : g ≤ 129) (kn : knT ins gv Q (g + 2) T u) (th : thB T = true) (G : GTH ins H T) : (GTH ins H (innT ins gv T) ∧ innT ins gv T ≠ .leaf ∧ tsz (tL (innT ins gv T)) ≤ 60 ∧ tdp (tL (innT ins gv T)) < 70) ∧ ∀ b, gby ins gv (innT ins gv T) = some b → GTH ins H (gto ins gv b (tL (innT ins gv T))) ∧ gto ins gv b (tL (innT ins gv T)) ≠ .leaf := kn_step0 I hg kn th G (fun f hf T u => kn_on I f (by omega) T u)
/-- what it is worked out to can be said -/
theorem kn_good (I : InH H ins gv B) {f : Nat} {T u : Ty} (hf : f ≤ 131) (kn : knT ins gv Q f T u) (hT : T ≠ .leaf) (G : GTH ins H T) : GTH ins H u ∧ u ≠ .leaf := by
  obtain ⟨⟨a1, a2, a3⟩, a4, _⟩ := knT_fit I kn hT G
  exact ⟨⟨a1, a3, by omega, kn_on I f hf T u kn G⟩, a2⟩
end LKG
