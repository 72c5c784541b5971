set_option maxRecDepth 100000
/-! THE TWIN works out a type -/
section LTY
variable {c : Nat} {ab : List (Option Nat)} {ins : List INs} {gv : List GVs} {B : Nat}
theorem TyS_us {σ : tS} {n f : Nat} {x : Int} (hf : 532 ≠ f) (H : TyS σ n) : TyS (us σ f x) n := TyS_same (σ := σ) (τ := us σ f x) (by rw [gs_us, if_neg hf]) (fun _ _ _ => rfl) H
/-- of one mode -/
def WkM (ab : List (Option Nat)) (ins : List INs) (gv : List GVs) (c B f : Nat) (m : Bool) (bg : Nat) : Prop := ∀ (s : WS) (T : Ty) (z : Option (Ty × WS)) (fu : Nat) (σ : tS) (n : Nat) (t : Int), wk c ins gv f m bg s T = some z → WkC σ n ab ins gv c bg s → tyT σ n T t → T ≠ .leaf → okF ins T → tsz T ≤ 1000000 → s.1 ≤ 60 → s.2.1 ≤ 300 → WkR c B σ n s z →
  if m = true then 21 - bg ≤ fu → ∃ (e : (Int × tS) ⊕ (Int × tS)) (n' : Nat), (∀ l1, om_loop (T_out_52s (T_outD fu) l1) (t, 1, σ) = some e) ∧ WkO ins c B (60 + (20 - bg) + 1) bg σ n s T z (e.elim id id).1 (e.elim id id).2 n'
  else 20 - bg ≤ fu → ∃ (t' : Int) (σ' : tS) (n' : Nat), T_outD (fu + 1) t σ = some (t', σ') ∧ WkO ins c B (60 + (20 - bg)) bg σ n s T z t' σ' n'
theorem m81 {a b d : Nat} (h1 : a ≤ b) (h2 : b ≤ d) : 81 * (b - a) + 81 * (d - b) = 81 * (d - a) := by rw [← Nat.mul_add]; congr 1; omega
theorem mCb {C a b d : Nat} (h1 : a ≤ b) (h2 : b ≤ d) : C * (b - a) + C * (d - b) = C * (d - a) := by rw [← Nat.mul_add]; congr 1; omega
/-- a type as it is worked out, out of going on -/
theorem wk_F {f bg : Nat} (hb : bg ≤ 20) (hc : c = 1 ∨ c = 2) (IH : bg < 20 → WkM ab ins gv c B f true (bg + 1)) : WkM ab ins gv c B (f + 1) false bg := by
  intro s T z fu σ n t e H ct hT ok hz h60 h300 R
  rw [if_neg (by decide)]
  intro hfu
  have S := H.1
  rcases T with ⟨k, w, x, l, rr⟩ | _
  rotate_left
  · exact absurd rfl hT
  obtain ⟨m, c1, c2, c3, c4, c5, c6⟩ := id ct
  have n126 := S.1.2.1
  have gm : 0 ≤ t ∧ t < 126000 := by omega
  have tm : t.toNat = m := by omega
  have th := (tyT_sz S ct hT).2
  rw [tm] at th
  have h823 := H.2.2.2.2.1
  have h816 := H.2.2.2.1
  generalize eT : (Std.DTreeMap.Internal.Impl.inner k w x l rr : Ty) = T at *
  -- too big in the end
  have fit : ∀ (v : Ty) (s1 : WS) (t1 : Int) (τ : tS) (n1 : Nat), WkO ins c B (60 + (20 - bg)) bg σ n s T (some (v, s1)) t1 τ n1 → s1.1 ≤ 60 → s.1 ≤ s1.1 → (c = 1 → z ≠ none) → z = fitO v s1 → ∃ t' σ' n', T_within t1 τ = some (t', σ') ∧ WkO ins c B (60 + (20 - bg)) bg σ n s T z t' σ' n' := by
    intro v s1 t1 τ n1 O hs1 hss hz ez
    obtain ⟨o1, o2, o3, o4, o5, o6⟩ := O
    obtain ⟨v1, v2, v3, v4, v5, v6, v7⟩ := o6 v s1 rfl
    have hv : v ≠ .leaf := fun q => hT (v3.mp q)
    have wi := t_within o2 hv v2
    unfold fitO at ez
    by_cases q : tszW v ≤ 60
    · rw [if_pos q] at wi ez
      refine ⟨t1, τ, n1, wi, o1, o2, o3, o4, fun y => (by rw [ez] at y; cases y), fun u s' y => ?_⟩
      rw [ez] at y
      exact o6 u s' y
    · rw [if_neg q] at wi ez
      have c2' : c = 2 := by
        rcases hc with h | h
        · exact absurd ez (hz h)
        · exact h
      have R1 : fr OFS OFA τ (us τ 823 1) := fr_us (fr_refl _ _ _) (by simp)
      refine ⟨t1, us τ 823 1, n1, wi, fr_trans o1 R1, TyS_us (by decide) o2, tx_trans o3 (tx_same (fun _ _ _ => rfl)), o4, fun _ => ⟨c2', rfl, ?_⟩, fun u s' y => by rw [ez] at y; cases y⟩
      have w1 := (v5 c2').2.2.2
      have h81 : (60 + (20 - bg)) * (s1.1 - s.1) ≤ 81 * (s1.1 - s.1) := Nat.mul_le_mul_right _ (by omega)
      have : 81 * (s1.1 - s.1) ≤ 81 * (60 - s.1) := Nat.mul_le_mul_left _ (by omega)
      omega
  have znz : c = 1 → z ≠ none := fun h1 q => by
    obtain ⟨_, u, D, ez, _⟩ := R.2 h1
    rw [q] at ez; cases ez
  show ∃ (t' : Int) (σ' : tS) (n' : Nat), T_outB (T_outD fu) t σ = some (t', σ') ∧ _
  unfold T_outB
  rw [h823, if_neg (fun z => z rfl), if_pos gm, tm, th]
  unfold wk at e
  by_cases hF : thB T = true
  · rw [if_pos hF] at e
    unfold thI
    rw [if_pos hF, if_pos (by decide)]
    by_cases b20 : bg = 20
    · rw [if_pos ⟨by omega, by omega⟩] at e
      have ez : z = none := (Option.some.inj e).symm
      rw [h816, if_neg (by omega)]
      have R1 : fr OFS OFA σ (us σ 823 1) := fr_us (fr_refl _ _ _) (by simp)
      have c2' : c = 2 := by
        rcases hc with h | h
        · exact absurd ez (znz h)
        · exact h
      exact ⟨t, us σ 823 1, n, rfl, R1, TyS_us (by decide) S, tx_same (fun _ _ _ => rfl), h816, fun _ => ⟨c2', rfl, by omega⟩, fun u s' y => by rw [ez] at y; cases y⟩
    · rw [if_neg (fun q => b20 (by have := q.2; omega))] at e
      rw [h816, if_pos (by omega)]
      have e816 : w32 ((bg : Int) + 1) = ((bg + 1 : Nat) : Int) := by rw [w32_s (by omega) (by omega)]; rfl
      rw [e816]
      cases q : wk c ins gv f true (bg + 1) s T with
      | none => rw [q] at e; cases e
      | some z1 =>
        rw [q] at e
        have ez : z = z1.bind (fun p => fitO p.1 p.2) := (Option.some.inj e).symm
        have R0 : fr OFS OFA σ (us σ 816 ((bg + 1 : Nat) : Int)) := fr_us (fr_refl _ _ _) (by simp)
        have X0 : tx σ n (us σ 816 ((bg + 1 : Nat) : Int)) n := tx_same (fun _ _ _ => rfl)
        have H1 : WkC (us σ 816 ((bg + 1 : Nat) : Int)) n ab ins gv c (bg + 1) s := ⟨TyS_us (by decide) S, PGT_fr H.2.1 R0 (by decide) (by decide) X0, GVT_fr H.2.2.1 R0 (by decide) (by decide) X0, rfl, h823, H.2.2.2.2.2.1, H.2.2.2.2.2.2⟩
        have R1 : WkR c B (us σ 816 ((bg + 1 : Nat) : Int)) n s z1 := by
          refine ⟨R.1, fun h1 => ⟨(R.2 h1).1, ?_⟩⟩
          obtain ⟨_, u, D, ez', hD⟩ := R.2 h1
          rw [ez] at ez'
          cases z1 with
          | none => cases ez'
          | some p =>
            have ez2 : fitO p.1 p.2 = some (u, s.1, s.2.1, s.2.2 ++ D) := ez'
            unfold fitO at ez2
            split at ez2
            · injection Option.some.inj ez2 with y1 y2
              exact ⟨p.1, D, by rw [← y2], fun X hX => by obtain ⟨tX, h⟩ := hD X hX; exact ⟨tX, tyT_mono X0 h⟩⟩
            · cases ez2
        have M := IH (by omega) s T z1 fu (us σ 816 ((bg + 1 : Nat) : Int)) n t q H1 (tyT_mono X0 ct) hT ok hz h60 h300 R1
        rw [if_pos rfl] at M
        obtain ⟨ev, n1, e1, O1⟩ := M (by omega)
        rw [e1 t, Option.bind_some]
        have el : Sum.elim (fun v1 : Int × tS => T_out_168 (T_outD fu) t v1.1 v1.2) (fun v1 : Int × tS => T_out_168 (T_outD fu) t v1.1 v1.2) ev = T_out_168 (T_outD fu) t (ev.elim id id).1 (ev.elim id id).2 := by cases ev <;> rfl
        rw [el]
        generalize (ev.elim id id).1 = t1 at *
        generalize (ev.elim id id).2 = τ1 at *
        obtain ⟨o1, o2, o3, o4, o5, o6⟩ := id O1
        have e816' : w32 (gs τ1 816 - 1) = (bg : Int) := by rw [o4, w32_s (by omega) (by omega)]; omega
        have R2 : fr OFS OFA τ1 (us τ1 816 (bg : Int)) := fr_us (fr_refl _ _ _) (by simp)
        have O2 : ∀ zz, z1 = zz → WkO ins c B (60 + (20 - bg)) bg σ n s T zz t1 (us τ1 816 (bg : Int)) n1 := fun zz hz => by
          subst hz
          refine ⟨fr_trans R0 (fr_trans o1 R2), TyS_us (by decide) o2, tx_trans X0 (tx_trans o3 (tx_same (fun _ _ _ => rfl))), rfl, o5, fun u s' y => ?_⟩
          obtain ⟨v1, v2, v3, v4, v5, v6, v7⟩ := o6 u s' y
          have X3 : tx τ1 n1 (us τ1 816 (bg : Int)) n1 := tx_same (fun _ _ _ => rfl)
          refine ⟨v1, tyT_mono X3 v2, v3, v4, fun h2 => ⟨(v5 h2).1, (v5 h2).2.1, (v5 h2).2.2.1, ?_⟩, fun D hD X hX => by obtain ⟨tX, h⟩ := v6 D hD X hX; exact ⟨tX, tyT_mono X3 h⟩, v7⟩
          have := (v5 h2).2.2.2
          rw [show 60 + (20 - (bg + 1)) + 1 = 60 + (20 - bg) by omega] at this
          exact this
        unfold T_out_168 T_out_189 T_out_185
        rw [e816']
        cases z1 with
        | none =>
          obtain ⟨a1, a2, a3⟩ := o5 rfl
          rw [a2, if_neg (by decide)]
          have ez2 : z = none := ez
          obtain ⟨b1, b2, b3, b4, b5, b6⟩ := O2 none rfl
          exact ⟨t, us τ1 816 (bg : Int), n1, rfl, b1, b2, b3, b4, fun _ => b5 rfl, fun u s' y => by rw [ez2] at y; cases y⟩
        | some p =>
          obtain ⟨v, s1⟩ := p
          obtain ⟨v1, _⟩ := o6 v s1 rfl
          rw [v1, if_pos rfl]
          obtain ⟨D, d, x1, _⟩ := wk_st q
          have s1e : s1.1 = s.1 + d := by rw [x1.1]
          have s60 : s1.1 ≤ 60 := by
            by_cases h2 : c = 2
            · rw [s1e]; exact x1.2.2 h2 h60
            · rw [s1e, x1.2.1 h2]; omega
          obtain ⟨t', σ', n', g1, g2⟩ := fit v s1 t1 (us τ1 816 (bg : Int)) n1 (O2 _ rfl) s60 (by omega) znz ez
          exact ⟨t', σ', n', by rw [g1]; rfl, g2⟩
  · rw [if_neg hF] at e
    have ez : z = fitO T s := (Option.some.inj e).symm
    unfold thI
    rw [if_neg hF, if_neg (fun q => q rfl)]
    unfold T_out_16
    obtain ⟨t', σ', n', g1, g2⟩ := fit T s t σ n ⟨fr_refl _ _ _, S, tx_refl _ _, h816, fun y => (by cases y), fun u s' y => by
      injection Option.some.inj y with y1 y2
      subst y1 y2
      refine ⟨h823, ct, Iff.rfl, ok, fun h2 => ⟨(H.2.2.2.2.2.1 h2).2.1, (H.2.2.2.2.2.1 h2).2.2, h300, by omega⟩, fun D hD X hX => ?_, fun _ => ⟨rfl, fun _ _ _ => rfl⟩⟩
      have : D = [] := by simpa using hD
      rw [this] at hX
      exact absurd hX List.not_mem_nil⟩ h60 (Nat.le_refl _) znz ez
    exact ⟨t', σ', n', by rw [g1]; rfl, g2⟩
set_option maxHeartbeats 1000000 in
/-- a type that goes on -/
theorem wk_T {f bg : Nat} (hb : bg ≤ 20) (hc : c = 1 ∨ c = 2) (hB : B ≤ 2700) (hI : insF ins B) (hG : gvF' ins gv) (IHp : WkM ab ins gv c B f false bg) (IHg : WkM ab ins gv c B f true bg) : WkM ab ins gv c B (f + 1) true bg := by
  intro s T z fu σ n t e H ct hT ok hz h60 h300 R
  rw [if_pos rfl]
  intro hfu
  obtain ⟨fu', rfl⟩ : ∃ k, fu = k + 1 := ⟨fu - 1, by omega⟩
  have S := H.1
  have th := (tyT_sz S ct hT).2
  have lt := tyT_lt ct
  have nl : t ≠ -1 := fun q => hT ((tyT_0 ct).mpr q)
  have n126 := S.1.2.1
  have gm : 0 ≤ t ∧ t < 126000 := by omega
  have Hr : WkH ab ins gv c B f bg (60 + (20 - bg)) (T_outD (fu' + 1)) := fun s T z σ n t e H ct hT ok hz h1 h2 R => by
    have := IHp s T z fu' σ n t e H ct hT ok hz h1 h2 R
    rw [if_neg (by decide)] at this
    exact this (by omega)
  unfold wk at e
  -- the parts
  have parts : ∀ z1, (if thB T = true then wkP (wk c ins gv f false bg) s T else some (some (T, s))) = some z1 → WkR c B σ n s z1 → ∃ t1 σ1 n1, (∀ l1, T_out_52s (T_outD (fu' + 1)) l1 (t, 1, σ) = T_out_74 (T_outD (fu' + 1)) l1 t1 σ1) ∧ WkO ins c B (60 + (20 - bg) + 1) bg σ n s T z1 t1 σ1 n1 := fun z1 e1 R1 => by
    by_cases hF : thB T = true
    · rw [if_pos hF] at e1
      obtain ⟨t1, σ1, n1, g1, g2⟩ := t_parts hc Hr e1 H ct hT ok hz h60 h300 R1
      refine ⟨t1, σ1, n1, fun l1 => ?_, g2⟩
      unfold T_out_52s
      simp only
      rw [if_neg (by decide), if_pos gm, th]
      unfold thI
      rw [if_pos hF, if_neg (by decide), g1]
      rfl
    · rw [if_neg hF] at e1
      have ez : z1 = some (T, s) := (Option.some.inj e1).symm
      refine ⟨t, σ, n, fun l1 => ?_, fr_refl _ _ _, S, tx_refl _ _, H.2.2.2.1, fun y => (by rw [ez] at y; cases y), fun u s' y => ?_⟩
      · unfold T_out_52s
        simp only
        rw [if_neg (by decide), if_pos gm, th]
        unfold thI
        rw [if_neg hF, if_pos rfl]
      · rw [ez] at y
        injection Option.some.inj y with y1 y2
        subst y1 y2
        refine ⟨H.2.2.2.2.1, ct, Iff.rfl, ok, fun h2 => ⟨(H.2.2.2.2.2.1 h2).2.1, (H.2.2.2.2.2.1 h2).2.2, h300, by omega⟩, fun D hD X hX => ?_, fun _ => ⟨rfl, fun _ _ _ => rfl⟩⟩
        have : D = [] := by simpa using hD
        rw [this] at hX
        exact absurd hX List.not_mem_nil
  have pext : ∀ v s1, (if thB T = true then wkP (wk c ins gv f false bg) s T else some (some (T, s))) = some (some (v, s1)) → ∃ D d, extW c s s1 D d := fun v s1 e => by
    split at e
    · obtain ⟨D, d, d1, _⟩ := wkP_st (c := c) (Q := fun _ => False) (fun s T u s' e => by
        obtain ⟨D, d, d1, _⟩ := wk_st e
        exact ⟨D, d, d1, fun _ z => z.elim⟩) e
      exact ⟨D, d, d1⟩
    · injection Option.some.inj (Option.some.inj e) with e3 e4
      rw [← e4]
      exact ⟨[], 0, extW_refl s⟩
  cases q : (if thB T = true then wkP (wk c ins gv f false bg) s T else some (some (T, s))) with
  | none => rw [q] at e; cases e
  | some z1 =>
  rw [q, Option.bind_some] at e
  cases z1 with
  | none =>
    have ez : z = none := (Option.some.inj e).symm
    have c2' : c = 2 := by
      rcases hc with h | h
      · obtain ⟨_, u, D, ez', _⟩ := R.2 h
        rw [ez] at ez'; cases ez'
      · exact h
    obtain ⟨t1, σ1, n1, g1, o1, o2, o3, o4, o5, o6⟩ := parts none q ⟨R.1, fun h => by omega⟩
    obtain ⟨a1, a2, a3⟩ := o5 rfl
    refine ⟨.inl (t1, σ1), n1, fun l1 => om_loop_out ?_, o1, o2, o3, o4, fun _ => ⟨a1, a2, a3⟩, fun u s' y => by rw [ez] at y; cases y⟩
    rw [g1 l1]
    unfold T_out_74 T_out_112 T_out_125 T_out_134
    rw [a2, if_pos (by decide), if_pos rfl, if_pos rfl, if_neg (by decide)]
  | some p =>
  obtain ⟨v, s1⟩ := p
  obtain ⟨D1, d1, x1⟩ := pext v s1 q
  have s1e : s1.1 = s.1 + d1 := by rw [x1.1]
  have s60 : s1.1 ≤ 60 := by
    by_cases h2 : c = 2
    · rw [s1e]; exact x1.2.2 h2 h60
    · rw [s1e, x1.2.1 h2]; omega
  simp only at e
  -- what c = 1 knows of the rest
  have R1 : WkR c B σ n s (some (v, s1)) := by
    refine ⟨R.1, fun h1 => ⟨(R.2 h1).1, v, D1, by rw [x1.1, x1.2.1 (by omega)]; rfl, fun X hX => ?_⟩⟩
    obtain ⟨_, u, D, ez, hD⟩ := R.2 h1
    refine hD X ?_
    have y5 : s1.2.2 = s.2.2 ++ D1 := by rw [x1.1]
    cases qb : gby ins gv v with
    | none =>
      rw [qb] at e
      have ez' := Option.some.inj e
      rw [ez] at ez'
      injection Option.some.inj ez' with y1 y2
      have y3 : s1.2.2 = s.2.2 ++ D := congrArg (fun v : WS => v.2.2) y2
      rw [y5] at y3
      rw [← List.append_cancel_left y3]; exact hX
    | some b =>
      rw [qb] at e
      simp only at e
      rw [if_neg (by omega)] at e
      split at e
      · rw [ez] at e
        obtain ⟨D2, d2, x2, _⟩ := wk_st e
        have y3 : s.2.2 ++ D = _ := congrArg (fun v : WS => v.2.2) x2.1
        rw [if_neg (by omega)] at y3
        have y3' : s.2.2 ++ D = s1.2.2 ++ [gto ins gv b (tL v)] ++ D2 := y3
        rw [y5] at y3'
        have := app_sub (p := []) (y3'.trans (by rw [List.append_assoc]))
        rw [this]
        exact List.mem_append_left _ hX
      · rw [ez] at e; cases e
  obtain ⟨t1, σ1, n1, g1, O1⟩ := parts (some (v, s1)) q R1
  obtain ⟨o1, o2, o3, o4, o5, o6⟩ := id O1
  obtain ⟨v1, v2, v3, v4, v5, v6, v7⟩ := o6 v s1 rfl
  have hv : v ≠ .leaf := fun y => hT (v3.mp y)
  have H1 : WkC σ1 n1 ab ins gv c bg s1 := WkC_next H o1 o2 o3 o4 v1 (fun h2 => ⟨(v5 h2).1, (v5 h2).2.1⟩)
  have s300 : s1.2.1 ≤ 300 := by
    by_cases h2 : c = 2
    · exact (v5 h2).2.2.1
    · have : s1.2.1 = s.2.1 + d1 := by rw [x1.1]
      rw [this, x1.2.1 h2]; omega
  have g74 : ∀ l1, T_out_52s (T_outD (fu' + 1)) l1 (t, 1, σ) = T_out_112 (T_outD (fu' + 1)) l1 t1 (oI (gby ins gv v)) σ1 := fun l1 => by
    rw [g1 l1]
    exact t_74 o2 H1.2.1 H1.2.2.1 v1 hv v4 v2
  cases qb : gby ins gv v with
  | none =>
    rw [qb] at e
    have ez : z = some (v, s1) := (Option.some.inj e).symm
    refine ⟨.inr (t1, σ1), n1, fun l1 => ?_, by rw [ez]; exact O1⟩
    have st : T_out_52s (T_outD (fu' + 1)) l1 (t, 1, σ) = some (.inl (t1, 0, σ1)) := by
      rw [g74 l1, qb]
      unfold T_out_112 T_out_125 T_out_134
      rw [if_pos (show oI none = -1 from rfl), if_pos rfl, v1, if_pos rfl, if_pos rfl]
    rw [om_loop_in st]
    refine om_loop_out ?_
    unfold T_out_52s
    simp only
    rw [if_pos trivial]
  | some b =>
  rw [qb] at e
  simp only at e
  -- counting
  obtain ⟨σ2, k1, k2, k3, k4, k5, k6⟩ := t_counts (c := c) (s := s1) (fun h2 => (H1.2.2.2.2.2.1 h2)) H1.2.2.2.2.2.2 hc s60 s300 v1
  have st : ∀ l1, T_out_52s (T_outD (fu' + 1)) l1 (t, 1, σ) = T_out_134 (T_outD (fu' + 1)) l1 t1 1 (b : Int) σ2 := fun l1 => by
    rw [g74 l1, qb]
    unfold T_out_112 T_out_125
    show (if (b : Int) = -1 then _ else _) = _
    rw [if_neg (by omega), if_neg (by decide), k1, Option.bind_some]
    rfl
  have F2 : fr OFS OFA σ1 σ2 := fr_wide k2 (by decide) (by simp)
  have T2 : ∀ f ∈ TYA, ∀ i, ga σ2 f i = ga σ1 f i := fun f _ i => k2.2 f (by simp) i
  have S2 : TyS σ2 n1 := TyS_same (k2.1 532 (by decide)) T2 o2
  have X2 : tx σ1 n1 σ2 n1 := tx_same T2
  have cost1 : c = 2 → n1 ≤ n + (60 + (20 - bg) + 1) * (s1.1 - s.1) := fun h2 => (v5 h2).2.2.2
  have c81 : (60 + (20 - bg) + 1) * (s1.1 - s.1) ≤ 81 * (s1.1 - s.1) := Nat.mul_le_mul_right _ (by omega)
  have s1le : s.1 ≤ s1.1 := by omega
  by_cases hov : c = 2 ∧ (60 < s1.1 + 1 ∨ 300 < s1.2.1 + 1)
  · rw [if_pos hov] at e
    have ez : z = none := (Option.some.inj e).symm
    have h1 := k3 hov
    refine ⟨.inl (t1, σ2), n1, fun l1 => om_loop_out ?_, fr_trans o1 F2, S2, tx_trans o3 X2, by show gs σ2 816 = _; rw [k2.1 816 (by decide)]; exact o4, fun _ => ⟨hov.1, h1, ?_⟩, fun u s' y => by rw [ez] at y; cases y⟩
    · rw [st l1]
      unfold T_out_134
      rw [h1, if_neg (by decide)]
    · have w1 := cost1 hov.1
      have : 81 * (s1.1 - s.1) ≤ 81 * (60 - s.1) := Nat.mul_le_mul_left _ (by omega)
      omega
  · rw [if_neg hov] at e
    have h0 := k4 hov
    -- what comes
    rcases v with ⟨kk, fw, ux, pp, rx⟩ | _
    rotate_left
    · exact absurd rfl hv
    have kk2 : kk = 2 := by
      rcases pp with ⟨k', w', u', l', r'⟩ | _
      · have qb' : (if kk = 2 then _ else none) = some b := qb
        refine Decidable.byContradiction (fun hk => ?_)
        rw [if_neg hk] at qb'
        cases qb'
      · cases qb
    subst kk2
    have wfv := tyT_wf o2 v2
    obtain ⟨m1, a1, a2, a3, a4, a5, a6⟩ := id v2
    have m126 := o2.1.2.1
    have gm1 : 0 ≤ t1 ∧ t1 < 126000 := by omega
    have tm1 : t1.toNat = m1 := by omega
    have e510 : ga σ2 510 t1.toNat = ga σ1 510 m1 := by rw [tm1]; exact T2 510 (by decide) m1
    have nB : n1 + B < 126000 := by
      rcases hc with h1 | h2
      · rw [(v7 h1).1]; exact (R.2 h1).1
      · have r1 := R.1 h2
        have w1 := cost1 h2
        have : 81 * (s1.1 - s.1) ≤ 81 * (60 - s.1) := Nat.mul_le_mul_left _ (by omega)
        omega
    obtain ⟨t3, σ3, n3, j1, j2, j3, j4, j5, j6, j7, j8, j9, j10⟩ := t_goesTo hI hG S2 (PGT_fr H1.2.1 F2 (by decide) (by decide) X2) (GVT_fr H1.2.2.1 F2 (by decide) (by decide) X2) (tyT_mono X2 a5) wfv.2.1 v4 qb (by omega)
    have hl : ins.length ≤ 100 := by have := H.2.1.2.2.1; omega
    have hN : ∀ d ∈ ins, d.2.2.1.length = pN d.2.1 := fun d hd => by
      obtain ⟨i, hi⟩ := List.getElem?_of_mem hd
      exact (H.2.1.2.2.2 i d hi).2.2.1.2.1
    have gbig : tsz (gto ins gv b pp) ≤ 1000000 := by
      have wfT0 := tyT_wf S ct
      have hF : thB T = true := by
        refine Decidable.byContradiction (fun hF => ?_)
        rw [if_neg hF] at q
        injection Option.some.inj (Option.some.inj q) with e3 e4
        rw [e3] at hF
        exact hF (gby_th qb)
      rw [if_pos hF] at q
      obtain ⟨_, _, _, p4, _⟩ := wkP_tsz (ins := ins) (fun s T u s' h1 h2 h3 h4 e => by
        have := wk_tsz hB hI hG hl hN h1 h2 h3 h4 e
        rwa [if_neg (by decide)] at this) hz wfT0 hT ok q
      exact gto_tsz hB hI hG hl wfv p4 qb
    have F3 : fr OFS OFA σ2 σ3 := fr_wide j2 (by decide) (by decide)
    have wi := t_within j3 j6 j5
    have etl : tL (.inner 2 fw ux pp rx) = pp := rfl
    rw [etl] at e
    have F13 : fr OFS OFA σ σ3 := fr_trans o1 (fr_trans F2 F3)
    have X13 := tx_trans o3 (tx_trans X2 j4)
    have g816 : gs σ3 816 = (bg : Int) := by rw [j2.1 816 (by decide), k2.1 816 (by decide)]; exact o4
    have st2 : ∀ l1, T_out_52s (T_outD (fu' + 1)) l1 (t, 1, σ) = some (.inl (t3, 1, if tszW (gto ins gv b pp) ≤ 60 then σ3 else us σ3 823 1)) := fun l1 => by
      rw [st l1]
      unfold T_out_134
      rw [h0, if_pos rfl, if_neg (by decide), if_pos gm1, e510, j1, Option.bind_some]
      simp only
      rw [wi]
      rfl
    have g823 : gs σ3 823 = 0 := by rw [j2.1 823 (by decide)]; exact h0
    by_cases hsz : tszW (gto ins gv b pp) ≤ 60
    · rw [if_pos hsz] at e
      have H3 : WkC σ3 n3 ab ins gv c bg (mkS (if c = 2 then (s1.1 + 1, s1.2.1 + 1, s1.2.2) else s1) (gto ins gv b pp)) := WkC_next H F13 j3 X13 g816 g823 (fun h2 => by
        rw [if_pos h2, j2.1 808 (by decide), j2.1 812 (by decide)]
        exact k5 h2)
      have st3 : (mkS (if c = 2 then (s1.1 + 1, s1.2.1 + 1, s1.2.2) else s1) (gto ins gv b pp)).1 = s1.1 + (if c = 2 then 1 else 0) := by split <;> rfl
      have st4 : (mkS (if c = 2 then (s1.1 + 1, s1.2.1 + 1, s1.2.2) else s1) (gto ins gv b pp)).2.1 = s1.2.1 + (if c = 2 then 1 else 0) := by split <;> rfl
      have st5 : (mkS (if c = 2 then (s1.1 + 1, s1.2.1 + 1, s1.2.2) else s1) (gto ins gv b pp)).2.2 = s1.2.2 ++ [gto ins gv b pp] := by split <;> rfl
      generalize es2 : mkS (if c = 2 then (s1.1 + 1, s1.2.1 + 1, s1.2.2) else s1) (gto ins gv b pp) = s2 at *
      have big : tsz (gto ins gv b pp) ≤ 1000000 := gbig
      have t60 := sz60 big hsz
      have cost3 : n3 ≤ n1 + 60 := by omega
      have hs2 : s2.1 ≤ 60 ∧ s2.2.1 ≤ 300 := by
        rw [st3, st4]
        by_cases h2 : c = 2
        · rw [if_pos h2]
          have : ¬ (60 < s1.1 + 1 ∨ 300 < s1.2.1 + 1) := fun y => hov ⟨h2, y⟩
          omega
        · rw [if_neg h2]; omega
      have R3 : WkR c B σ3 n3 s2 z := by
        refine ⟨fun h2 => ?_, fun h1 => ?_⟩
        · have r1 := R.1 h2
          have w1 := cost1 h2
          rw [st3, if_pos h2]
          have := m81 (a := s.1) (b := s1.1) (d := 60) s1le s60
          have h3 : 81 * (60 - (s1.1 + 1)) + 81 = 81 * (60 - s1.1) := by
            have : ¬ (60 < s1.1 + 1 ∨ 300 < s1.2.1 + 1) := fun y => hov ⟨h2, y⟩
            omega
          omega
        · obtain ⟨r0, u, D, ez, hD⟩ := R.2 h1
          rw [ez] at e
          obtain ⟨D2, d2, x2, _⟩ := wk_st e
          have y5 : s1.2.2 = s.2.2 ++ D1 := by rw [x1.1]
          have y3 : s.2.2 ++ D = s2.2.2 ++ D2 := congrArg (fun v : WS => v.2.2) x2.1
          rw [st5, y5] at y3
          have hDe := app_sub (p := []) (y3.trans (by rw [List.append_assoc]))
          have hg0 : ∃ t0, tyT σ n (gto ins gv b pp) t0 := hD _ (by rw [hDe]; exact List.mem_append_right _ (List.mem_append_left _ (by simp)))
          obtain ⟨t0, ht0⟩ := hg0
          obtain ⟨z1, z2⟩ := j10 ⟨t0, tyT_mono X2 (tyT_mono o3 ht0)⟩
          refine ⟨by rw [z1, (v7 h1).1]; exact r0, u, D2, ?_, fun X hX => ?_⟩
          · have d0 := x2.2.1 (by omega)
            rw [ez, x2.1, d0]
            rfl
          · obtain ⟨tX, hX'⟩ := hD X (by rw [hDe]; exact List.mem_append_right _ (List.mem_append_right _ hX))
            exact ⟨tX, tyT_mono X13 hX'⟩
      have M := IHg s2 (gto ins gv b pp) z (fu' + 1) σ3 n3 t3 e H3 j5 j6 j7 big hs2.1 hs2.2 R3
      rw [if_pos rfl] at M
      obtain ⟨ev, n4, q1, O4⟩ := M hfu
      refine ⟨ev, n4, fun l1 => ?_, ?_⟩
      · rw [om_loop_in (st2 l1), if_pos hsz]
        exact q1 l1
      · obtain ⟨r1, r2, r3, r4, r5, r6⟩ := O4
        refine ⟨fr_trans F13 r1, r2, tx_trans X13 r3, r4, fun y => ?_, fun u s' y => ?_⟩
        · obtain ⟨y1, y2, y3⟩ := r5 y
          refine ⟨y1, y2, ?_⟩
          have w1 := cost1 y1
          rw [st3, if_pos y1] at y3
          have := m81 (a := s.1) (b := s1.1) (d := 60) s1le s60
          have h3 : 81 * (60 - (s1.1 + 1)) + 81 = 81 * (60 - s1.1) := by
            have : ¬ (60 < s1.1 + 1 ∨ 300 < s1.2.1 + 1) := fun y => hov ⟨y1, y⟩
            omega
          omega
        · obtain ⟨u1, u2, u3, u4, u5, u6, u7⟩ := r6 u s' y
          rw [y] at e
          obtain ⟨D2, d2, x2, _⟩ := wk_st e
          have y5 : s1.2.2 = s.2.2 ++ D1 := by rw [x1.1]
          have s'e : s'.1 = s2.1 + d2 := by rw [x2.1]
          have s'2 : s'.2.2 = s2.2.2 ++ D2 := by rw [x2.1]
          refine ⟨u1, u2, ⟨fun q => absurd (u3.mp q) j6, fun q => absurd q hT⟩, u4, fun h2 => ⟨(u5 h2).1, (u5 h2).2.1, (u5 h2).2.2.1, ?_⟩, fun D hD X hX => ?_, fun h1 => ?_⟩
          · have w1 := cost1 h2
            have w4 := (u5 h2).2.2.2
            rw [st3, if_pos h2] at w4 s'e
            have h61 : 60 ≤ 60 + (20 - bg) + 1 := by omega
            have k1 := mCb (C := 60 + (20 - bg) + 1) (a := s.1) (b := s1.1) (d := s1.1 + 1) s1le (by omega)
            have k2 := mCb (C := 60 + (20 - bg) + 1) (a := s.1) (b := s1.1 + 1) (d := s'.1) (by omega) (by omega)
            rw [show s1.1 + 1 - s1.1 = 1 by omega, Nat.mul_one] at k1
            omega
          · rw [s'2, st5, y5] at hD
            have hDe := app_sub (p := []) (hD.symm.trans (by rw [List.append_assoc]))
            rw [hDe] at hX
            rcases List.mem_append.mp hX with hX | hX
            · obtain ⟨tX, hX'⟩ := v6 D1 y5 X hX
              exact ⟨tX, tyT_mono r3 (tyT_mono j4 (tyT_mono X2 hX'))⟩
            · rcases List.mem_append.mp hX with hX | hX
              · rw [List.mem_singleton.mp hX]
                exact ⟨t3, tyT_mono r3 j5⟩
              · exact u6 D2 s'2 X hX
          · obtain ⟨r0, uu, D, ez, hD⟩ := R.2 h1
            rw [y] at ez
            injection Option.some.inj ez with a1 a2
            have y3 : s'.2.2 = s.2.2 ++ D := by rw [a2]
            rw [s'2, st5, y5] at y3
            have hDe := app_sub (p := []) (y3.symm.trans (by rw [List.append_assoc]))
            obtain ⟨t0, ht0⟩ := hD (gto ins gv b pp) (by rw [hDe]; exact List.mem_append_right _ (List.mem_append_left _ (by simp)))
            obtain ⟨z1, z2⟩ := j10 ⟨t0, tyT_mono X2 (tyT_mono o3 ht0)⟩
            exact ⟨by rw [(u7 h1).1, z1, (v7 h1).1], fun f hf i => by rw [(u7 h1).2 f hf i, z2 f hf i, T2 f hf i, (v7 h1).2 f hf i]⟩
    · rw [if_neg hsz] at e
      have ez : z = none := (Option.some.inj e).symm
      have c2' : c = 2 := by
        rcases hc with h | h
        · obtain ⟨_, u, D, ez', _⟩ := R.2 h
          rw [ez] at ez'; cases ez'
        · exact h
      have X4 : tx σ3 n3 (us σ3 823 1) n3 := tx_same (fun _ _ _ => rfl)
      have S4 : TyS (us σ3 823 1) n3 := TyS_us (by decide) j3
      refine ⟨.inl (t3, us σ3 823 1), n3, fun l1 => ?_, fr_trans F13 (fr_us (fr_refl _ _ _) (by simp)), S4, tx_trans X13 X4, g816, fun _ => ⟨c2', rfl, ?_⟩, fun u s' y => by rw [ez] at y; cases y⟩
      · rw [om_loop_in (st2 l1), if_neg hsz]
        exact t_over S4 j6 (tyT_mono X4 j5) rfl
      · have w1 := cost1 c2'
        have : 81 * (s1.1 - s.1) ≤ 81 * (60 - s.1) := Nat.mul_le_mul_left _ (by omega)
        omega
/-- THE TWIN WORKS OUT -/
theorem t_wk (hc : c = 1 ∨ c = 2) (hB : B ≤ 2700) (hI : insF ins B) (hG : gvF' ins gv) : ∀ (f : Nat) (m : Bool) (bg : Nat), bg ≤ 20 → WkM ab ins gv c B f m bg
  | 0, _, _, _ => fun s T z fu σ n t e => by cases e
  | f + 1, false, bg, hb => wk_F hb hc (fun h => t_wk hc hB hI hG f true (bg + 1) (by omega))
  | f + 1, true, bg, hb => wk_T hb hc hB hI hG (t_wk hc hB hI hG f false bg hb) (t_wk hc hB hI hG f true bg hb)
end LTY
