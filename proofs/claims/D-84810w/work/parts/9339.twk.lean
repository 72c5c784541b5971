set_option maxRecDepth 100000
/-! THE TWIN works out a type -/
section LTW
variable {c : Nat} {ab : List (Option Nat)} {ins : List INs} {gv : List GVs} {B : Nat}
/-- what the worker of a part does -/
def WkH (ab : List (Option Nat)) (ins : List INs) (gv : List GVs) (c B f bg Cb : Nat) (r : Int → tS → Option (Int × tS)) : Prop := ∀ (s : WS) (T : Ty) (z : Option (Ty × WS)) (σ : tS) (n : Nat) (t : Int), wk c ins gv f false bg s T = some z → WkC σ n ab ins gv c bg s → tyT σ n T t → T ≠ .leaf → okF ins T → tsz T ≤ 1000000 → s.1 ≤ 60 → s.2.1 ≤ 300 → WkR c B σ n s z → ∃ t' σ' n', r t σ = some (t', σ') ∧ WkO ins c B Cb bg σ n s T z t' σ' n'
theorem wkQ_ext {f bg : Nat} {s s' : WS} {T u : Ty} (e : wkQ (wk c ins gv f false bg) s T = some (some (u, s'))) : ∃ D d, extW c s s' D d := by
  cases T with
  | leaf =>
    injection Option.some.inj (Option.some.inj e) with e1 e2
    rw [← e2]
    exact ⟨[], 0, extW_refl s⟩
  | inner k w x l t =>
    obtain ⟨D, d, d1, _⟩ := wk_st (f := f) (m := false) (bg := bg) e
    exact ⟨D, d, d1⟩
theorem t_partQ {f bg Cb : Nat} {r : Int → tS → Option (Int × tS)} (Hr : WkH ab ins gv c B f bg Cb r) {s : WS} {T : Ty} {z : Option (Ty × WS)} {σ : tS} {n : Nat} {t : Int} (e : wkQ (wk c ins gv f false bg) s T = some z) (H : WkC σ n ab ins gv c bg s) (ct : tyT σ n T t) (ok : okF ins T) (hz : tsz T ≤ 1000000) (h60 : s.1 ≤ 60) (h300 : s.2.1 ≤ 300) (R : WkR c B σ n s z) : ∃ t' σ' n', (if t ≠ -1 then r t σ else some (-1, σ)) = some (t', σ') ∧ WkO ins c B Cb bg σ n s T z t' σ' n' := by
  by_cases hT : T = .leaf
  · subst hT
    have et : t = -1 := ct
    rw [if_neg (fun q => q et)]
    have ez : z = some (.leaf, s) := (Option.some.inj e).symm
    refine ⟨-1, σ, n, rfl, fr_refl _ _ _, H.1, tx_refl _ _, H.2.2.2.1, fun q => (by rw [ez] at q; cases q), fun u s' q => ?_⟩
    rw [ez] at q
    injection Option.some.inj q with q1 q2
    subst q1 q2
    refine ⟨H.2.2.2.2.1, rfl, ⟨fun _ => rfl, fun _ => rfl⟩, trivial, fun q => ⟨(H.2.2.2.2.2.1 q).2.1, (H.2.2.2.2.2.1 q).2.2, h300, by omega⟩, fun D hD X hX => ?_, fun _ => ⟨rfl, fun _ _ _ => rfl⟩⟩
    have : D = [] := by simpa using hD
    rw [this] at hX
    exact absurd hX List.not_mem_nil
  · rw [if_pos (fun q => hT ((tyT_0 ct).mpr q))]
    rw [wkQ_inner hT] at e
    exact Hr s T z σ n t e H ct hT ok hz h60 h300 R
theorem app_sub {D1 E D : List Ty} {p s : List Ty} (h : s ++ D = (s ++ D1) ++ E) : D = D1 ++ E := by
  rw [List.append_assoc] at h
  exact List.append_cancel_left h
theorem WkR_none {σ : tS} {n : Nat} {s : WS} (R : WkR c B σ n s none) (hc : c = 1 ∨ c = 2) : c = 2 := by
  rcases hc with h | h
  · obtain ⟨_, u, D, e, _⟩ := R.2 h
    cases e
  · exact h
set_option maxHeartbeats 1000000 in
/-- THE PARTS -/
theorem t_parts {f bg : Nat} {r : Int → tS → Option (Int × tS)} (hc : c = 1 ∨ c = 2) (Hr : WkH ab ins gv c B f bg (60 + (20 - bg)) r) {s : WS} {T : Ty} {z : Option (Ty × WS)} {σ : tS} {n : Nat} {t : Int} (e : wkP (wk c ins gv f false bg) s T = some z) (H : WkC σ n ab ins gv c bg s) (ct : tyT σ n T t) (hT : T ≠ .leaf) (ok : okF ins T) (hz : tsz T ≤ 1000000) (h60 : s.1 ≤ 60) (h300 : s.2.1 ≤ 300) (R : WkR c B σ n s z) : ∃ t' σ' n', T_partsOut r t σ = some (t', σ') ∧ WkO ins c B (60 + (20 - bg) + 1) bg σ n s T z t' σ' n' := by
  rcases T with ⟨k, w, x, l, rr⟩ | _
  rotate_left
  · exact absurd rfl hT
  have wf := tyT_wf H.1 ct
  obtain ⟨m, c1, c2, c3, c4, c5, c6⟩ := id ct
  have n126 := H.1.1.2.1
  have gm : 0 ≤ t ∧ t < 126000 := by omega
  have tm : t.toNat = m := by omega
  have k3 : k ≤ 3 := by
    have := (H.1.1.2.2.1 m c2).1
    rw [c3] at this
    omega
  rw [wkP_inner] at e
  cases q1 : wkQ (wk c ins gv f false bg) s l with
  | none => rw [q1] at e; cases e
  | some a =>
  rw [q1, Option.bind_some] at e
  -- the first part
  have Ra : WkR c B σ n s a := by
    refine ⟨R.1, fun h1 => ⟨(R.2 h1).1, ?_⟩⟩
    obtain ⟨_, u, D, ez, hD⟩ := R.2 h1
    cases a with
    | none =>
      have : z = none := (Option.some.inj e).symm
      rw [this] at ez; cases ez
    | some p =>
      obtain ⟨l', s1⟩ := p
      obtain ⟨D1, d, x1⟩ := wkQ_ext q1
      have d0 := x1.2.1 (by omega)
      refine ⟨l', D1, by rw [x1.1, d0]; rfl, fun X hX => hD X ?_⟩
      simp only at e
      cases q2 : wkQ (wk c ins gv f false bg) s1 rr with
      | none => rw [q2] at e; cases e
      | some b =>
        rw [q2, Option.bind_some] at e
        cases b with
        | none =>
          have : z = none := (Option.some.inj e).symm
          rw [this] at ez; cases ez
        | some p2 =>
          obtain ⟨t', s2⟩ := p2
          obtain ⟨D2, d2, x2⟩ := wkQ_ext q2
          have ez' := Option.some.inj e
          rw [ez] at ez'
          injection Option.some.inj ez' with y1 y2
          have y3 : s2.2.2 ++ [.inner k w x l' t'] = s.2.2 ++ D := congrArg (fun v : WS => v.2.2) y2
          have y4 : s2.2.2 = s1.2.2 ++ D2 := by rw [x2.1]
          have y5 : s1.2.2 = s.2.2 ++ D1 := by rw [x1.1]
          rw [y4, y5] at y3
          have := app_sub (p := []) (y3.symm.trans (by rw [List.append_assoc]))
          rw [this]
          exact List.mem_append_left _ hX
  obtain ⟨t1, σ1, n1, p1, O1⟩ := t_partQ Hr q1 H c5 ok.2.1 (by have : 1 + tsz l + tsz rr ≤ 1000000 := hz; omega) h60 h300 Ra
  obtain ⟨o1, o2, o3, o4, o5, o6⟩ := id O1
  have st1 : T_partsOut r t σ = T_partsOut_24 r t t1 σ1 := by
    unfold T_partsOut
    rw [if_pos gm, tm]
    by_cases h : ga σ 510 m = -1
    · rw [if_neg (fun q => q h)] at p1 ⊢
      injection Option.some.inj p1 with y1 y2
      rw [← y1, ← y2]
    · rw [if_pos h] at p1 ⊢
      rw [if_pos gm, p1, Option.bind_some]
  rw [st1]
  cases a with
  | none =>
    have ez : z = none := (Option.some.inj e).symm
    obtain ⟨h2, v1, v2⟩ := o5 rfl
    refine ⟨t, σ1, n1, ?_, o1, o2, o3, o4, fun _ => ⟨h2, v1, v2⟩, fun u s' q => by rw [ez] at q; cases q⟩
    unfold T_partsOut_24 T_partsOut_56
    rw [v1, if_pos (by decide), if_neg (by decide)]
  | some p =>
  obtain ⟨l', s1⟩ := p
  obtain ⟨v1, v2, v3, v4, v5, v6, v7⟩ := o6 l' s1 rfl
  simp only at e
  cases q2 : wkQ (wk c ins gv f false bg) s1 rr with
  | none => rw [q2] at e; cases e
  | some b =>
  rw [q2, Option.bind_some] at e
  obtain ⟨D1, d1, x1⟩ := wkQ_ext q1
  have s1e : s1.1 = s.1 + d1 := by rw [x1.1]
  have s60 : s1.1 ≤ 60 := by
    by_cases h2 : c = 2
    · rw [s1e]; exact x1.2.2 h2 h60
    · rw [s1e, x1.2.1 h2]; omega
  have s300 : s1.2.1 ≤ 300 := by
    by_cases h2 : c = 2
    · exact (v5 h2).2.2.1
    · have : s1.2.1 = s.2.1 + d1 := by rw [x1.1]
      rw [this, x1.2.1 h2]; omega
  have H1 : WkC σ1 n1 ab ins gv c bg s1 := WkC_next H o1 o2 o3 o4 v1 (fun h2 => ⟨(v5 h2).1, (v5 h2).2.1⟩)
  have c6' : tyT σ1 n1 rr (ga σ1 514 m) := by rw [o3.2 514 (by decide) (by decide) m c2]; exact tyT_mono o3 c6
  have Rb : WkR c B σ1 n1 s1 b := by
    refine ⟨fun h2 => ?_, fun h1 => ?_⟩
    · have r1 := R.1 h2
      have w1 := (v5 h2).2.2.2
      have h81 : (60 + (20 - bg)) * (s1.1 - s.1) ≤ 81 * (s1.1 - s.1) := Nat.mul_le_mul_right _ (by omega)
      have : 81 * (s1.1 - s.1) + 81 * (60 - s1.1) = 81 * (60 - s.1) := by rw [← Nat.mul_add]; congr 1; omega
      omega
    · obtain ⟨w1, w2⟩ := v7 h1
      refine ⟨by rw [w1]; exact (R.2 h1).1, ?_⟩
      obtain ⟨_, u, D, ez, hD⟩ := R.2 h1
      cases b with
      | none =>
        have : z = none := (Option.some.inj e).symm
        rw [this] at ez; cases ez
      | some p2 =>
        obtain ⟨t', s2⟩ := p2
        obtain ⟨D2, d2, x2⟩ := wkQ_ext q2
        refine ⟨t', D2, by rw [x2.1, x2.2.1 (by omega)]; rfl, fun X hX => ?_⟩
        have ez' := Option.some.inj e
        rw [ez] at ez'
        injection Option.some.inj ez' with y1 y2
        have y3 : s2.2.2 ++ [.inner k w x l' t'] = s.2.2 ++ D := congrArg (fun v : WS => v.2.2) y2
        have y4 : s2.2.2 = s1.2.2 ++ D2 := by rw [x2.1]
        have y5 : s1.2.2 = s.2.2 ++ D1 := by rw [x1.1]
        rw [y4, y5] at y3
        have := app_sub (p := []) (y3.symm.trans (by rw [List.append_assoc]))
        obtain ⟨tX, hX'⟩ := hD X (by rw [this]; exact List.mem_append_right _ (List.mem_append_left _ hX))
        exact ⟨tX, tyT_mono o3 hX'⟩
  obtain ⟨t2, σ2, n2, p2, O2⟩ := t_partQ Hr q2 H1 c6' ok.2.2 (by have : 1 + tsz l + tsz rr ≤ 1000000 := hz; omega) s60 s300 Rb
  obtain ⟨w1, w2, w3, w4, w5, w6⟩ := id O2
  have F2 : fr OFS OFA σ σ2 := fr_trans o1 w1
  have X2 := tx_trans o3 w3
  have st2 : T_partsOut_24 r t t1 σ1 = T_partsOut_56 r t t1 t2 σ2 := by
    unfold T_partsOut_24
    rw [v1, if_neg (fun q => q rfl), if_pos gm, tm]
    by_cases h : ga σ1 514 m = -1
    · rw [if_neg (fun q => q h)] at p2 ⊢
      injection Option.some.inj p2 with y1 y2
      rw [← y1, ← y2]
    · rw [if_pos h] at p2 ⊢
      rw [if_pos gm, p2, Option.bind_some]
  rw [st2]
  have cost1 : c = 2 → n1 ≤ n + (60 + (20 - bg)) * (s1.1 - s.1) := fun h2 => (v5 h2).2.2.2
  cases b with
  | none =>
    have ez : z = none := (Option.some.inj e).symm
    obtain ⟨h2, u1, u2⟩ := w5 rfl
    refine ⟨t, σ2, n2, ?_, F2, w2, X2, w4, fun _ => ⟨h2, u1, ?_⟩, fun u s' q => by rw [ez] at q; cases q⟩
    · unfold T_partsOut_56
      rw [u1, if_neg (by decide)]
    · have w1 := cost1 h2
      have h81 : (60 + (20 - bg)) * (s1.1 - s.1) ≤ 81 * (s1.1 - s.1) := Nat.mul_le_mul_right _ (by omega)
      have : 81 * (s1.1 - s.1) + 81 * (60 - s1.1) = 81 * (60 - s.1) := by rw [← Nat.mul_add]; congr 1; omega
      omega
  | some p3 =>
  obtain ⟨t', s2⟩ := p3
  obtain ⟨u1, u2, u3, u4, u5, u6, u7⟩ := w6 t' s2 rfl
  have ez : z = some (.inner k w x l' t', mkS s2 (.inner k w x l' t')) := (Option.some.inj e).symm
  obtain ⟨D2, d2, x2⟩ := wkQ_ext q2
  have s2e : s2.1 = s1.1 + d2 := by rw [x2.1]
  have lT2 : tyT σ2 n2 l' t1 := tyT_mono w3 v2
  have okN : okF ins (.inner k w x l' t') := ⟨ok.1, v4, u4⟩
  have sh : shT k w l' t' := by
    have := wf.1
    unfold shT at this ⊢
    simp only [ne_eq, v3, u3] at this ⊢
    exact this
  have Dfin : ∀ {σ3 : tS} {n3 : Nat}, tx σ2 n2 σ3 n3 → (∃ t0, tyT σ3 n3 (.inner k w x l' t') t0) → ∀ D, (mkS s2 (.inner k w x l' t')).2.2 = s.2.2 ++ D → ∀ X ∈ D, ∃ t, tyT σ3 n3 X t := fun {σ3 n3} X3 hN D hD X hX => by
    have y4 : s2.2.2 = s1.2.2 ++ D2 := by rw [x2.1]
    have y5 : s1.2.2 = s.2.2 ++ D1 := by rw [x1.1]
    have hD' : s2.2.2 ++ [.inner k w x l' t'] = s.2.2 ++ D := hD
    rw [y4, y5] at hD'
    have := app_sub (p := []) (hD'.symm.trans (by rw [List.append_assoc]))
    rw [this] at hX
    rcases List.mem_append.mp hX with hX | hX
    · obtain ⟨t0, h0⟩ := v6 D1 y5 X hX
      exact ⟨t0, tyT_mono X3 (tyT_mono w3 h0)⟩
    · rcases List.mem_append.mp hX with hX | hX
      · obtain ⟨t0, h0⟩ := u6 D2 y4 X hX
        exact ⟨t0, tyT_mono X3 h0⟩
      · rw [List.mem_singleton.mp hX]; exact hN
  have cost2 : c = 2 → n2 ≤ n + (60 + (20 - bg)) * (s2.1 - s.1) := fun h2 => by
    have a1 := cost1 h2
    have a2 := (u5 h2).2.2.2
    have : (60 + (20 - bg)) * (s1.1 - s.1) + (60 + (20 - bg)) * (s2.1 - s1.1) = (60 + (20 - bg)) * (s2.1 - s.1) := by rw [← Nat.mul_add]; congr 1; omega
    omega
  have e510 : ga σ2 510 m = ga σ 510 m := X2.2 510 (by decide) (by decide) m c2
  have e514 : ga σ2 514 m = ga σ 514 m := X2.2 514 (by decide) (by decide) m c2
  have c5' := tyT_mono X2 c5
  have c6'' := tyT_mono X2 c6
  -- it is another type
  have new : ¬ (t1 = ga σ 510 m ∧ t2 = ga σ 514 m) → ∃ t3 σ3 n3, T_partsOut_90 r t t1 t2 σ2 = some (t3, σ3) ∧ WkO ins c B (60 + (20 - bg) + 1) bg σ n s (.inner k w x l rr) z t3 σ3 n3 := fun hne => by
    have dge : c = 2 → 1 ≤ s2.1 - s.1 := fun h2 => by
      refine Decidable.byContradiction (fun hz => hne ?_)
      have z1 : s1.1 = s.1 := by omega
      have z2 : s2.1 = s1.1 := by omega
      have eql : ∀ {s s' : WS} {T u : Ty}, wkQ (wk c ins gv f false bg) s T = some (some (u, s')) → s'.1 = s.1 → u = T := fun {s s' T u} e h => by
        cases T with
        | leaf => injection Option.some.inj (Option.some.inj e) with e1 e2; exact e1.symm
        | inner k w x l t => rw [h2] at e; exact wk_zero (f := f) (m := false) (bg := bg) e h
      have a1 := eql q1 z1
      have a2 := eql q2 z2
      subst a1 a2
      exact ⟨tyT_inj w2.1 lT2 c5', tyT_inj w2.1 u2 c6''⟩
    have hn2 : n2 < 126000 := by
      rcases hc with h1 | h2
      · rw [(u7 h1).1, (v7 h1).1]; have := (R.2 h1).1; omega
      · have r1 := R.1 h2
        have a1 := cost2 h2
        have h81 : (60 + (20 - bg)) * (s2.1 - s.1) ≤ 81 * (s2.1 - s.1) := Nat.mul_le_mul_right _ (by omega)
        have s2l : s2.1 ≤ 60 := by rw [s2e]; exact x2.2.2 h2 s60
        have : 81 * (s2.1 - s.1) ≤ 81 * (60 - s.1) := Nat.mul_le_mul_left _ (by omega)
        omega
    obtain ⟨t3, σ3, n3, g1, g2, g3, g4, g5, g6, g6n, g7⟩ := t_get (k := k) (w := w) w2 k3 lT2 u2 hn2 (shT_Z lT2 u2 sh)
    have F3 : fr OFS OFA σ2 σ3 := fr_wide g6 (by decide) (by decide)
    refine ⟨t3, σ3, n3, ?_, fr_trans F2 F3, g2, tx_trans X2 g3, by rw [g6.1 816 (by decide)]; exact w4, fun q => (by rw [ez] at q; cases q), fun u s' q => ?_⟩
    · unfold T_partsOut_90
      rw [if_pos gm, tm, X2.2 502 (by decide) (by decide) m c2, X2.2 506 (by decide) (by decide) m c2, c3, c4, g1]
      rfl
    · rw [ez] at q
      injection Option.some.inj q with y1 y2
      subst y1 y2
      refine ⟨by rw [g6.1 823 (by decide)]; exact u1, g5, ⟨fun z => (by cases z), fun z => by cases z⟩, okN, fun h2 => ⟨by rw [g6.1 808 (by decide)]; exact (u5 h2).1, by rw [g6.1 812 (by decide)]; exact (u5 h2).2.1, (u5 h2).2.2.1, ?_⟩, Dfin g3 ⟨_, g5⟩, fun h1 => ?_⟩
      · have a1 := cost2 h2
        have a2 := dge h2
        show n3 ≤ n + (60 + (20 - bg) + 1) * (s2.1 - s.1)
        rw [Nat.add_mul (60 + (20 - bg)) 1, Nat.one_mul]
        omega
      · obtain ⟨_, uu, D, ezz, hD⟩ := R.2 h1
        rw [ez] at ezz
        injection Option.some.inj ezz with y1 y2
        have y3 : s2.2.2 ++ [.inner k w x l' t'] = s.2.2 ++ D := congrArg (fun v : WS => v.2.2) y2
        have y4 : s2.2.2 = s1.2.2 ++ D2 := by rw [x2.1]
        have y5 : s1.2.2 = s.2.2 ++ D1 := by rw [x1.1]
        rw [y4, y5] at y3
        have hDe := app_sub (p := []) (y3.symm.trans (by rw [List.append_assoc]))
        obtain ⟨t0, h0⟩ := hD (.inner k w x l' t') (by rw [hDe]; exact List.mem_append_right _ (List.mem_append_right _ (by simp)))
        obtain ⟨z1, z2⟩ := g7 ⟨t0, tyT_mono X2 h0⟩
        rw [z1, z2]
        exact ⟨by rw [(u7 h1).1, (v7 h1).1], fun f hf i => by rw [(u7 h1).2 f hf i, (v7 h1).2 f hf i]⟩
  unfold T_partsOut_56
  rw [u1, if_pos rfl, if_pos gm, tm, e510]
  by_cases h1 : t1 = ga σ 510 m
  · rw [if_neg (fun q => q h1), if_pos gm, e514]
    by_cases h2 : t2 = ga σ 514 m
    · rw [if_neg (fun q => q h2)]
      have a1 : l' = l := tyT_fun lT2 (by rw [h1]; exact c5')
      have a2 : t' = rr := tyT_fun u2 (by rw [h2]; exact c6'')
      refine ⟨t, σ2, n2, rfl, F2, w2, X2, w4, fun q => (by rw [ez] at q; cases q), fun u s' q => ?_⟩
      rw [ez] at q
      injection Option.some.inj q with y1 y2
      have cN : tyT σ2 n2 (.inner k w x l' t') t := by rw [a1, a2]; exact tyT_mono X2 ct
      subst y1 y2
      refine ⟨u1, cN, ⟨fun z => (by cases z), fun z => by cases z⟩, okN, fun h2 => ⟨(u5 h2).1, (u5 h2).2.1, (u5 h2).2.2.1, ?_⟩, Dfin (tx_refl _ _) ⟨_, cN⟩, fun h1 => ⟨by rw [(u7 h1).1, (v7 h1).1], fun f hf i => by rw [(u7 h1).2 f hf i, (v7 h1).2 f hf i]⟩⟩
      have a1 := cost2 h2
      show n2 ≤ n + (60 + (20 - bg) + 1) * (s2.1 - s.1)
      rw [Nat.add_mul (60 + (20 - bg)) 1, Nat.one_mul]
      omega
    · rw [if_pos h2]
      exact new (fun q => h2 q.2)
  · rw [if_pos h1]
    exact new (fun q => h1 q.1)
end LTW
