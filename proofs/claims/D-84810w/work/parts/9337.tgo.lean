set_option maxRecDepth 100000
/-! THE TWIN: what a family goes to; counting -/
section LTG
variable {σ τ : tS} {n n' : Nat} {ab : List (Option Nat)} {ins : List INs} {gv : List GVs}
/-- the names of an inst's head stand for a type's parts -/
theorem t_putHead (P : PGT σ n ab ins) {i : Nat} {d : INs} (ei : ins[i]? = some d) {p : Ty} {t : Int} (hp : p ≠ .leaf) (c : tyT σ n p t) (hn : n ≤ 126000) : ∃ τ, T_putHead (i : Int) t σ = some τ ∧ fr [836] [830, 834] σ τ ∧ PutT τ n (hdP d p) := by
  obtain ⟨_, b1, b2, b3⟩ := P
  obtain ⟨_, ⟨c2, c2'⟩, ⟨c3, c3', c3''⟩, _⟩ := b3 i d ei
  have il := (List.getElem?_eq_some_iff.mp ei).1
  have i20 : i < 20 := by omega
  have tp : tyT σ n (tL p) (ga σ 510 t.toNat) ∧ tyT σ n (tR' p) (ga σ 514 t.toNat) ∧ 0 ≤ t ∧ t < 126000 := by
    rcases p with ⟨k, w, u, l, r⟩ | _
    · obtain ⟨m, d1, d2, d3, d4, d5, d6⟩ := c
      rw [show t.toNat = m by omega]
      exact ⟨d5, d6, by omega, by omega⟩
    · exact absurd rfl hp
  obtain ⟨t1, t2, t3, t4⟩ := tp
  have g0 : 0 ≤ (i : Int) ∧ (i : Int) < 20 := by omega
  have iN : ((i : Int)).toNat = i := by omega
  have e2 : w32 (2 * (i : Int)) = ((2 * i : Nat) : Int) := by rw [w32_s (by omega) (by omega)]; omega
  have e20 : w32 (w32 (2 * (i : Int)) + 0) = ((2 * i : Nat) : Int) := by rw [e2, Int.add_zero, w32_s (by omega) (by omega)]
  have e21 : w32 (w32 (2 * (i : Int)) + 1) = ((2 * i + 1 : Nat) : Int) := by rw [e2, w32_s (by omega) (by omega)]; omega
  have stop : ∀ (υ : tS) (x : Int), gs υ 836 ≤ x → om_loop (T_putHead_12s (i : Int) t) (x, υ) = some υ := fun υ x h => om_loop_out (by unfold T_putHead_12s; simp only; rw [if_pos h])
  have go0 : ∀ (υ : tS), 0 < gs υ 836 → T_putHead_12s (i : Int) t (0, υ) = some (.inl (1, ua (ua υ 830 0 (ga υ 706 (2 * i))) 834 0 (ga υ 510 t.toNat))) := fun υ h => by
    unfold T_putHead_12s T_putHead_45 T_putHead_60
    simp only
    rw [if_neg (by omega), e20, if_pos (by omega), if_neg (by decide), if_pos ⟨t3, t4⟩, if_pos (by decide), show (((2 * i : Nat) : Int)).toNat = 2 * i by omega]
    rfl
  have go1 : ∀ (υ : tS), 1 < gs υ 836 → T_putHead_12s (i : Int) t (1, υ) = some (.inl (2, ua (ua υ 830 1 (ga υ 706 (2 * i + 1))) 834 1 (ga υ 514 t.toNat))) := fun υ h => by
    unfold T_putHead_12s T_putHead_54 T_putHead_60
    simp only
    rw [if_neg (by omega), e21, if_pos (by omega), if_pos (by decide), if_pos ⟨t3, t4⟩, if_pos (by decide), show (((2 * i + 1 : Nat) : Int)).toNat = 2 * i + 1 by omega]
    rfl
  have R0 : fr [836] [830, 834] σ (us σ 836 (ga σ 702 i)) := fr_us (fr_refl _ _ _) (by simp)
  have l2 : d.2.2.1.length ≤ 2 := by
    rw [c3']; unfold pN; split <;> omega
  have ub : T_putHead (i : Int) t σ = (om_loop (T_putHead_12s (i : Int) t) (0, us σ 836 (ga σ 702 i))).bind fun y1 => some y1 := by
    unfold T_putHead
    rw [if_pos g0, iN]
  have keep : ∀ {υ : tS} {X : Ty} {x : Int}, fr [836] [830, 834] σ υ → tyT σ n X x → tyT υ n X x := fun R c => tyT_mono (tx_same (fun f hf i => R.2 f (fun z => by simp only [List.mem_cons, List.not_mem_nil, or_false] at z hf; omega) i)) c
  have s836 : gs (us σ 836 (ga σ 702 i)) 836 = (d.2.2.1.length : Int) := by rw [gs_us, if_pos rfl, c3]
  unfold hdP
  rcases e : d.2.2.1 with _ | ⟨x, _ | ⟨y, _ | ⟨z, l⟩⟩⟩
  · rw [e] at s836
    refine ⟨us σ 836 (ga σ 702 i), ?_, R0, ?_⟩
    · rw [ub, stop _ _ (by rw [s836]; decide)]; rfl
    · exact ⟨s836, by simp, fun j q e => by cases e⟩
  · rw [e] at s836
    have n0 := c3'' 0 x (by rw [e]; rfl)
    have R1 : fr [836] [830, 834] σ (ua (ua (us σ 836 (ga σ 702 i)) 830 0 (ga (us σ 836 (ga σ 702 i)) 706 (2 * i))) 834 0 (ga (us σ 836 (ga σ 702 i)) 510 t.toNat)) := fr_ua (fr_ua R0 (by simp)) (by simp)
    refine ⟨_, ?_, R1, ?_⟩
    · rw [ub, om_loop_in (go0 _ (by rw [s836]; simp)), stop _ _ (by show gs (us σ 836 (ga σ 702 i)) 836 ≤ 1; rw [s836]; simp)]; rfl
    · refine ⟨s836, by simp, fun j q e => ?_⟩
      have ej : j = 0 ∧ (x, tL p) = q := by
        rcases j with _ | j
        · exact ⟨rfl, Option.some.inj e⟩
        · cases e
      rw [ej.1, ← ej.2]
      refine ⟨?_, keep R1 ?_⟩
      · show ga σ 706 (2 * i) = _
        rw [← n0, Nat.add_zero]
      · exact t1
  · rw [e] at s836
    have n0 := c3'' 0 x (by rw [e]; rfl)
    have n1 := c3'' 1 y (by rw [e]; rfl)
    have R1 : fr [836] [830, 834] σ (ua (ua (us σ 836 (ga σ 702 i)) 830 0 (ga (us σ 836 (ga σ 702 i)) 706 (2 * i))) 834 0 (ga (us σ 836 (ga σ 702 i)) 510 t.toNat)) := fr_ua (fr_ua R0 (by simp)) (by simp)
    generalize eυ : ua (ua (us σ 836 (ga σ 702 i)) 830 0 (ga (us σ 836 (ga σ 702 i)) 706 (2 * i))) 834 0 (ga (us σ 836 (ga σ 702 i)) 510 t.toNat) = υ at *
    have v836 : gs υ 836 = ((1 + 1 : Nat) : Int) := by rw [← eυ]; exact s836
    have v830 : ga υ 830 0 = ga σ 706 (2 * i) := by rw [← eυ]; rfl
    have v834 : ga υ 834 0 = ga σ 510 t.toNat := by rw [← eυ]; rfl
    have R2 : fr [836] [830, 834] σ (ua (ua υ 830 1 (ga υ 706 (2 * i + 1))) 834 1 (ga υ 514 t.toNat)) := fr_ua (fr_ua R1 (by simp)) (by simp)
    refine ⟨_, ?_, R2, ?_⟩
    · rw [ub, om_loop_in (show T_putHead_12s (i : Int) t (0, us σ 836 (ga σ 702 i)) = some (.inl (1, υ)) by rw [← eυ]; exact go0 _ (by rw [s836]; simp)), om_loop_in (go1 υ (by rw [v836]; decide)), stop _ _ (by show gs υ 836 ≤ 2; rw [v836]; decide)]; rfl
    · refine ⟨v836, by simp, fun j q e => ?_⟩
      rcases j with _ | _ | j
      · have ej : (x, tL p) = q := Option.some.inj e
        rw [← ej]
        refine ⟨?_, keep R2 ?_⟩
        · show ga υ 830 0 = _
          rw [v830, ← n0, Nat.add_zero]
        · show tyT σ n (tL p) (ga υ 834 0)
          rw [v834]; exact t1
      · have ej : (y, tR' p) = q := Option.some.inj e
        rw [← ej]
        refine ⟨?_, keep R2 ?_⟩
        · show ga υ 706 (2 * i + 1) = _
          rw [R1.2 706 (by decide)]; exact n1
        · show tyT σ n (tR' p) (ga υ 514 t.toNat)
          rw [R1.2 514 (by decide)]; exact t2
      · cases e
  · rw [e] at l2; simp at l2
theorem t_within {u : Ty} {t : Int} (S : TyS σ n) (hu : u ≠ .leaf) (c : tyT σ n u t) : T_within t σ = some (t, if tszW u ≤ 60 then σ else us σ 823 1) := by
  have sz := (tyT_sz S c hu).1
  have lt := tyT_lt c
  have nl : t ≠ -1 := fun z => hu ((tyT_0 c).mpr z)
  have n126 := S.1.2.1
  unfold T_within
  rw [if_neg nl, if_pos (by omega), sz]
  by_cases q : tszW u ≤ 60
  · rw [if_pos q, if_pos q]
  · rw [if_neg q, if_neg q]
/-- counting -/
theorem t_counts {c : Nat} {s : WS} (h7 : c = 2 → gs σ 827 = 0 ∧ gs σ 808 = (s.1 : Int) ∧ gs σ 812 = (s.2.1 : Int)) (h1 : c = 1 → gs σ 827 ≠ 0) (hc : c = 1 ∨ c = 2) (b1 : s.1 ≤ 60) (b2 : s.2.1 ≤ 300) (h0 : gs σ 823 = 0) : ∃ τ, T_counts σ = some τ ∧ fr [808, 812, 823] [] σ τ ∧ ((c = 2 ∧ (60 < s.1 + 1 ∨ 300 < s.2.1 + 1)) → gs τ 823 = 1) ∧ (¬ (c = 2 ∧ (60 < s.1 + 1 ∨ 300 < s.2.1 + 1)) → gs τ 823 = 0) ∧ (c = 2 → gs τ 808 = ((s.1 + 1 : Nat) : Int) ∧ gs τ 812 = ((s.2.1 + 1 : Nat) : Int)) ∧ (c = 1 → τ = σ) := by
  rcases hc with hc | hc
  · refine ⟨σ, ?_, fr_refl _ _ _, fun z => by omega, fun _ => h0, fun z => by omega, fun _ => rfl⟩
    unfold T_counts
    rw [if_neg (h1 hc)]
  · obtain ⟨a1, a2, a3⟩ := h7 hc
    have e1 : w32 (gs σ 808 + 1) = ((s.1 + 1 : Nat) : Int) := by rw [a2, w32_s (by omega) (by omega)]; rfl
    have e2 : w32 (gs σ 812 + 1) = ((s.2.1 + 1 : Nat) : Int) := by rw [a3, w32_s (by omega) (by omega)]; rfl
    have R : fr [808, 812, 823] [] σ (us (us σ 808 ((s.1 + 1 : Nat) : Int)) 812 ((s.2.1 + 1 : Nat) : Int)) := fr_us (fr_us (fr_refl _ _ _) (by simp)) (by simp)
    have R2 : fr [808, 812, 823] [] σ (us (us (us σ 808 ((s.1 + 1 : Nat) : Int)) 812 ((s.2.1 + 1 : Nat) : Int)) 823 1) := fr_us R (by simp)
    unfold T_counts
    rw [if_pos a1, e1, e2]
    by_cases q1 : 60 < s.1 + 1
    · rw [if_pos (by omega)]
      exact ⟨_, rfl, R2, fun _ => rfl, fun z => absurd ⟨hc, .inl q1⟩ z, fun _ => ⟨rfl, rfl⟩, fun z => by omega⟩
    · rw [if_neg (by omega)]
      unfold T_counts_37 T_counts_47
      show ∃ τ, (if ((s.2.1 + 1 : Nat) : Int) ≤ 300 then some (us (us σ 808 ((s.1 + 1 : Nat) : Int)) 812 ((s.2.1 + 1 : Nat) : Int)) else some (us (us (us σ 808 ((s.1 + 1 : Nat) : Int)) 812 ((s.2.1 + 1 : Nat) : Int)) 823 1)) = some τ ∧ _
      by_cases q2 : 300 < s.2.1 + 1
      · rw [if_neg (by omega)]
        exact ⟨_, rfl, R2, fun _ => rfl, fun z => absurd ⟨hc, .inr q2⟩ z, fun _ => ⟨rfl, rfl⟩, fun z => by omega⟩
      · rw [if_pos (by omega)]
        exact ⟨_, rfl, R, fun z => by omega, fun _ => h0, fun _ => ⟨rfl, rfl⟩, fun z => by omega⟩
end LTG
