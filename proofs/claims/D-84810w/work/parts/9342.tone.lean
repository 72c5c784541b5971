set_option maxRecDepth 100000
/-! WHETHER TWO TYPES ARE ONE: plainly, and in the twin -/
def tyE : Ty → Ty → Bool
  | .leaf, .leaf => true
  | .inner k w _ l r, .inner k' w' _ l' r' => k == k' && w == w' && tyE l l' && tyE r r'
  | _, _ => false
theorem tyE_iff : ∀ {a b : Ty}, tyE a b = true ↔ a = b
  | .leaf, .leaf => ⟨fun _ => rfl, fun _ => rfl⟩
  | .leaf, .inner _ _ _ _ _ => ⟨fun h => (by cases h), fun h => (by cases h)⟩
  | .inner _ _ _ _ _, .leaf => ⟨fun h => (by cases h), fun h => (by cases h)⟩
  | .inner k w u l r, .inner k' w' u' l' r' => by
    show (k == k' && w == w' && tyE l l' && tyE r r') = true ↔ _
    rw [Bool.and_eq_true, Bool.and_eq_true, Bool.and_eq_true, beq_iff_eq, beq_iff_eq, tyE_iff, tyE_iff]
    constructor
    · rintro ⟨⟨⟨h1, h2⟩, h3⟩, h4⟩
      rw [h1, h2, h3, h4]
    · intro h
      injection h with h1 h2 h3 h4 h5
      exact ⟨⟨⟨h1, h2⟩, h4⟩, h5⟩
def oneP (ins : List INs) (gv : List GVs) (s : WS) (T U : Ty) : Option (Option (Bool × WS)) := if tyE T U = true then some (some (true, s)) else (wk 2 ins gv 130 false 0 s T).bind fun a => match a with
  | none => some none
  | some (u, s1) => (wk 2 ins gv 130 false 0 s1 U).bind fun b => match b with
    | none => some none
    | some (v, s2) => some (some (tyE u v, s2))
/-- what came of a question -/
def AskO (B : Nat) (σ : tS) (n : Nat) (s : WS) (z : Option (Bool × WS)) (v : Int) (σ' : tS) (n' : Nat) : Prop := fr OFS OFA σ σ' ∧ TyS σ' n' ∧ tx σ n σ' n' ∧ gs σ' 816 = 0 ∧ (z = none → v = 0 ∧ gs σ' 823 = 1 ∧ n' ≤ n + 81 * (60 - s.1) + B) ∧ ∀ b s', z = some (b, s') → gs σ' 823 = 0 ∧ v = (if b = true then 1 else 0) ∧ gs σ' 808 = (s'.1 : Int) ∧ gs σ' 812 = (s'.2.1 : Int) ∧ s'.1 ≤ 60 ∧ s'.2.1 ≤ 300 ∧ s.1 ≤ s'.1 ∧ n' ≤ n + 81 * (s'.1 - s.1) ∧ ∃ D, s'.2.2 = s.2.2 ++ D ∧ ∀ X ∈ D, ∃ t, tyT σ' n' X t
section LTN
variable {ab : List (Option Nat)} {ins : List INs} {gv : List GVs} {B : Nat}
/-- a type is worked out, in an asking -/
theorem t_out (hB : B ≤ 2700) (hI : insF ins B) (hG : gvF' ins gv) {σ : tS} {n : Nat} {s : WS} {T : Ty} {t : Int} {z : Option (Ty × WS)} (e : wk 2 ins gv 130 false 0 s T = some z) (H : WkC σ n ab ins gv 2 0 s) (ct : tyT σ n T t) (hT : T ≠ .leaf) (ok : okF ins T) (hz : tsz T ≤ 1000000) (h60 : s.1 ≤ 60) (h300 : s.2.1 ≤ 300) (R : n + 81 * (60 - s.1) + B < 126000) : ∃ t' σ' n', T_out t σ = some (t', σ') ∧ WkO ins 2 B 80 0 σ n s T z t' σ' n' := by
  have := t_wk (ab := ab) (c := 2) (.inr rfl) hB hI hG 130 false 0 (by decide) s T z 23 σ n t e H ct hT ok hz h60 h300 ⟨fun _ => R, fun h => by omega⟩
  rw [if_neg (by decide)] at this
  exact this (by decide)
/-- the same, nothing being counted: all types are there -/
theorem t_outN (hB : B ≤ 2700) (hI : insF ins B) (hG : gvF' ins gv) {σ : tS} {n : Nat} {s : WS} {T u : Ty} {t : Int} {D : List Ty} (e : wk 1 ins gv 130 false 0 s T = some (some (u, s.1, s.2.1, s.2.2 ++ D))) (H : WkC σ n ab ins gv 1 0 s) (ct : tyT σ n T t) (hT : T ≠ .leaf) (ok : okF ins T) (hz : tsz T ≤ 1000000) (h60 : s.1 ≤ 60) (h300 : s.2.1 ≤ 300) (hn : n + B < 126000) (hD : ∀ X ∈ D, ∃ t, tyT σ n X t) : ∃ t' σ', T_out t σ = some (t', σ') ∧ fr OFS OFA σ σ' ∧ TyS σ' n ∧ (∀ f ∈ TYA, ∀ i, ga σ' f i = ga σ f i) ∧ gs σ' 823 = 0 ∧ gs σ' 816 = 0 ∧ tyT σ' n u t' ∧ u ≠ .leaf := by
  have := t_wk (ab := ab) (c := 1) (.inl rfl) hB hI hG 130 false 0 (by decide) s T _ 23 σ n t e H ct hT ok hz h60 h300 ⟨fun h => by omega, fun _ => ⟨hn, u, D, rfl, hD⟩⟩
  rw [if_neg (by decide)] at this
  obtain ⟨t', σ', n', g1, o1, o2, o3, o4, o5, o6⟩ := this (by decide)
  obtain ⟨v1, v2, v3, v4, v5, v6, v7⟩ := o6 u _ rfl
  obtain ⟨w1, w2⟩ := v7 rfl
  subst w1
  exact ⟨t', σ', g1, o1, o2, w2, v1, o4, v2, fun q => hT (v3.mp q)⟩
/-- TWO TYPES ARE ONE -/
theorem t_one (hB : B ≤ 2700) (hI : insF ins B) (hG : gvF' ins gv) {σ : tS} {n : Nat} {s : WS} {T U : Ty} {t u : Int} {z : Option (Bool × WS)} (e : oneP ins gv s T U = some z) (H : WkC σ n ab ins gv 2 0 s) (ct : tyT σ n T t) (cu : tyT σ n U u) (hT : T ≠ .leaf) (hU : U ≠ .leaf) (okT : okF ins T) (okU : okF ins U) (hzT : tsz T ≤ 1000000) (hzU : tsz U ≤ 1000000) (h60 : s.1 ≤ 60) (h300 : s.2.1 ≤ 300) (R : n + 81 * (60 - s.1) + B < 126000) : ∃ v σ' n', T_one t u σ = some (v, σ') ∧ AskO B σ n s z v σ' n' := by
  unfold oneP at e
  unfold T_one
  by_cases h : T = U
  · rw [if_pos (tyE_iff.mpr h)] at e
    subst h
    have ez : z = some (true, s) := (Option.some.inj e).symm
    rw [if_neg (fun q => q (tyT_inj H.1.1 ct cu))]
    refine ⟨1, σ, n, rfl, fr_refl _ _ _, H.1, tx_refl _ _, H.2.2.2.1, fun q => (by rw [ez] at q; cases q), fun b s' q => ?_⟩
    rw [ez] at q
    injection Option.some.inj q with q1 q2
    subst q1 q2
    exact ⟨H.2.2.2.2.1, rfl, (H.2.2.2.2.2.1 rfl).2.1, (H.2.2.2.2.2.1 rfl).2.2, h60, h300, Nat.le_refl _, by omega, [], by rw [List.append_nil], fun X hX => absurd hX List.not_mem_nil⟩
  · rw [if_neg (fun q => h (tyE_iff.mp q))] at e
    rw [if_pos (fun q => h (tyT_fun ct (by rw [q]; exact cu)))]
    cases q1 : wk 2 ins gv 130 false 0 s T with
    | none => rw [q1] at e; cases e
    | some a =>
    rw [q1, Option.bind_some] at e
    obtain ⟨t1, σ1, n1, g1, o1, o2, o3, o4, o5, o6⟩ := t_out hB hI hG q1 H ct hT okT hzT h60 h300 R
    rw [g1, Option.bind_some]
    simp only
    have over : ∀ {σ1 : tS} {n1 : Nat}, TyS σ1 n1 → tyT σ1 n1 U u → gs σ1 823 = 1 → ∃ y, T_out u σ1 = some (y, σ1) := fun {σ1 n1} S c0 hov => by
      have id1 : us σ1 823 1 = σ1 := by
        refine tS_ext (fun f => ?_) (fun _ _ => rfl)
        rw [gs_us]
        split
        · rename_i e; rw [e, hov]
        · rfl
      have wi := t_within S hU c0
      rw [id1, show (if tszW U ≤ 60 then σ1 else σ1) = σ1 by split <;> rfl] at wi
      refine ⟨u, ?_⟩
      show T_outB (T_outD 23) u σ1 = _
      unfold T_outB T_out_16
      rw [hov, if_pos (by decide), wi]
      rfl
    cases a with
    | none =>
      have ez : z = none := (Option.some.inj e).symm
      obtain ⟨_, a2, a3⟩ := o5 rfl
      obtain ⟨y, hy⟩ := over o2 (tyT_mono o3 cu) a2
      rw [hy, Option.bind_some]
      simp only
      rw [a2, if_pos (by decide)]
      refine ⟨0, σ1, n1, rfl, o1, o2, o3, o4, fun _ => ⟨rfl, a2, a3⟩, fun b s' q => by rw [ez] at q; cases q⟩
    | some p =>
    obtain ⟨uu, s1⟩ := p
    obtain ⟨v1, v2, v3, v4, v5, v6, _⟩ := o6 uu s1 rfl
    obtain ⟨w1, w2, w3, w4⟩ := v5 rfl
    obtain ⟨D1, d1, x1, _⟩ := wk_st q1
    have s1e : s1.1 = s.1 + d1 := by rw [x1.1]
    have s60 : s1.1 ≤ 60 := by rw [s1e]; exact x1.2.2 rfl h60
    have y5 : s1.2.2 = s.2.2 ++ D1 := by rw [x1.1]
    have H1 : WkC σ1 n1 ab ins gv 2 0 s1 := WkC_next H o1 o2 o3 o4 v1 (fun _ => ⟨w1, w2⟩)
    have h80 : 80 * (s1.1 - s.1) ≤ 81 * (s1.1 - s.1) := Nat.mul_le_mul_right _ (by decide)
    have k81 := m81 (a := s.1) (b := s1.1) (d := 60) (by omega) s60
    have R1 : n1 + 81 * (60 - s1.1) + B < 126000 := by omega
    simp only at e
    cases q2 : wk 2 ins gv 130 false 0 s1 U with
    | none => rw [q2] at e; cases e
    | some b =>
    rw [q2, Option.bind_some] at e
    obtain ⟨t2, σ2, n2, g2, r1, r2, r3, r4, r5, r6⟩ := t_out hB hI hG q2 H1 (tyT_mono o3 cu) hU okU hzU s60 w3 R1
    rw [g2, Option.bind_some]
    simp only
    have F2 := fr_trans o1 r1
    have X2 := tx_trans o3 r3
    cases b with
    | none =>
      have ez : z = none := (Option.some.inj e).symm
      obtain ⟨_, a2, a3⟩ := r5 rfl
      rw [a2, if_pos (by decide)]
      exact ⟨0, σ2, n2, rfl, F2, r2, X2, r4, fun _ => ⟨rfl, a2, by omega⟩, fun b s' q => by rw [ez] at q; cases q⟩
    | some p2 =>
    obtain ⟨vv, s2⟩ := p2
    have ez : z = some (tyE uu vv, s2) := (Option.some.inj e).symm
    obtain ⟨a1, a2, a3, a4, a5, a6, _⟩ := r6 vv s2 rfl
    obtain ⟨b1, b2, b3, b4⟩ := a5 rfl
    obtain ⟨D2, d2, x2, _⟩ := wk_st q2
    have s2e : s2.1 = s1.1 + d2 := by rw [x2.1]
    have y6 : s2.2.2 = s1.2.2 ++ D2 := by rw [x2.1]
    have s260 : s2.1 ≤ 60 := by rw [s2e]; exact x2.2.2 rfl s60
    have h80' : 80 * (s2.1 - s1.1) ≤ 81 * (s2.1 - s1.1) := Nat.mul_le_mul_right _ (by decide)
    have k81' := m81 (a := s.1) (b := s1.1) (d := s2.1) (by omega) (by omega)
    have fin : ∀ v : Int, v = (if tyE uu vv = true then 1 else 0) → AskO B σ n s z v σ2 n2 := fun v hv => by
      refine ⟨F2, r2, X2, r4, fun q => (by rw [ez] at q; cases q), fun b s' q => ?_⟩
      rw [ez] at q
      injection Option.some.inj q with z1 z2
      subst z1 z2
      refine ⟨a1, hv, b1, b2, s260, b3, by omega, by omega, D1 ++ D2, by rw [y6, y5, List.append_assoc], fun X hX => ?_⟩
      rcases List.mem_append.mp hX with hX | hX
      · obtain ⟨tX, h⟩ := v6 D1 y5 X hX
        exact ⟨tX, tyT_mono r3 h⟩
      · exact a6 D2 y6 X hX
    rw [a1, if_neg (fun q => q rfl)]
    have same : t1 = t2 ↔ uu = vv := ⟨fun q => tyT_fun (tyT_mono r3 v2) (by rw [q]; exact a2), fun q => by subst q; exact tyT_inj r2.1 (tyT_mono r3 v2) a2⟩
    by_cases q : uu = vv
    · rw [if_neg (fun z => z (same.mpr q))]
      exact ⟨1, σ2, n2, rfl, fin 1 (by rw [if_pos (tyE_iff.mpr q)])⟩
    · rw [if_pos (fun z => q (same.mp z))]
      exact ⟨0, σ2, n2, rfl, fin 0 (by rw [if_neg (fun z => q (tyE_iff.mp z))])⟩
end LTN
