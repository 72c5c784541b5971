set_option maxRecDepth 100000
/-! THE TWIN: a name is judged, as a whole -/
/-- names bound around -/
def GmT (σ : tS) (n : Nat) (Γ : List Ty) : Prop := gs σ 788 = (Γ.length : Int) ∧ Γ.length ≤ 590 ∧ ∀ (i : Nat) (T : Ty), Γ[i]? = some T → tyT σ n T (ga σ 854 i)
section LTN3
variable {σ : tS} {n : Nat} {E : JE} {B : Nat}
theorem bt_sb {wa wb k : Nat} {ts : List Ty} (h : wa ≠ wb) (hl : ts.length = btN k) : sbT (([wa, wb].take (btN k)).zip ts) (btT k (tNm wa) (tNm wb)) = btT k (ts[0]?.getD .leaf) (ts[1]?.getD .leaf) := by
  have e1 : ∀ a : Ty, sbT [(wa, a)] (tNm wa) = a := fun a => by
    show (if (0 : Nat) = 0 then (lkT [(wa, a)] wa).getD (tNm wa) else _) = a
    rw [if_pos rfl, lkT_cons, if_pos rfl]; rfl
  have e2 : ∀ a c : Ty, sbT [(wa, a), (wb, c)] (tNm wa) = a := fun a c => by
    show (if (0 : Nat) = 0 then (lkT [(wa, a), (wb, c)] wa).getD (tNm wa) else _) = a
    rw [if_pos rfl, lkT_cons, if_pos rfl]; rfl
  have e3 : ∀ a c : Ty, sbT [(wa, a), (wb, c)] (tNm wb) = c := fun a c => by
    show (if (0 : Nat) = 0 then (lkT [(wa, a), (wb, c)] wb).getD (tNm wb) else _) = c
    rw [if_pos rfl, lkT_cons, if_neg h, lkT_cons, if_pos rfl]; rfl
  by_cases k5 : k < 5
  · have kk : k = 0 ∨ k = 1 ∨ k = 2 ∨ k = 3 ∨ k = 4 := by omega
    rcases kk with kk | kk | kk | kk | kk
    · subst kk
      match ts, hl with
      | [a], _ =>
        show tnd 1 2 (sbT [(wa, a)] (tNm wa)) .leaf = tnd 1 2 a .leaf
        rw [e1]
    · subst kk
      match ts, hl with
      | [a], _ =>
        show tnd 3 0 (sbT [(wa, a)] (tNm wa)) (tnd 3 0 (tnd 1 2 (sbT [(wa, a)] (tNm wa)) .leaf) (tnd 1 2 (sbT [(wa, a)] (tNm wa)) .leaf)) = tnd 3 0 a (tnd 3 0 (tnd 1 2 a .leaf) (tnd 1 2 a .leaf))
        rw [e1]
    · subst kk
      match ts, hl with
      | [a, c], _ =>
        show tnd 3 0 (sbT [(wa, a), (wb, c)] (tNm wa)) (tnd 3 0 (sbT [(wa, a), (wb, c)] (tNm wb)) (tnd 1 3 (sbT [(wa, a), (wb, c)] (tNm wa)) (sbT [(wa, a), (wb, c)] (tNm wb)))) = tnd 3 0 a (tnd 3 0 c (tnd 1 3 a c))
        rw [e2, e3]
    · subst kk
      match ts, hl with
      | [a, c], _ =>
        show tnd 3 0 (tnd 1 3 (sbT [(wa, a), (wb, c)] (tNm wa)) (sbT [(wa, a), (wb, c)] (tNm wb))) (sbT [(wa, a), (wb, c)] (tNm wa)) = tnd 3 0 (tnd 1 3 a c) a
        rw [e2, e3]
    · subst kk
      match ts, hl with
      | [a, c], _ =>
        show tnd 3 0 (tnd 1 3 (sbT [(wa, a), (wb, c)] (tNm wa)) (sbT [(wa, a), (wb, c)] (tNm wb))) (sbT [(wa, a), (wb, c)] (tNm wb)) = tnd 3 0 (tnd 1 3 a c) c
        rw [e2, e3]
  · have eb : ∀ a c : Ty, btT k a c = tBool := fun a c => by
      unfold btT
      rw [if_neg (by omega), if_neg (by omega), if_neg (by omega), if_neg (by omega), if_neg (by omega)]
    rw [eb, eb]
    rfl
/-- its own type, the things of its @s being put -/
theorem t_own (J : JOk E B) (S : TyS σ n) (JT : JTE σ n E) {lb : XL} {hi v d : Nat} (v84 : v < 4200 ∧ hi ≤ 4200) (H : nmTw σ n lb hi v) (N : nok E lb d) (k0 : lb.2.1 ≠ 0) (hl : lb.2.2.2.2.2.length = jnN E lb.2.1 lb.2.2.1) (R : n + 2700 < 126000) (i7 : gs σ 823 = 0) : ∃ (own x : Int) (σ1 σ2 : tS) (n2 : Nat), T_putAts (v : Int) σ = some σ1 ∧ fr [836] [830, 834] σ σ1 ∧ (lb.2.1 = 1 → own = ga σ1 762 lb.2.2.1 ∧ lb.2.2.1 < 24) ∧ (lb.2.1 = 2 → own = ga σ1 686 lb.2.2.1 ∧ lb.2.2.1 < 32) ∧ (lb.2.1 = 3 → own = ga σ1 878 lb.2.2.1 ∧ lb.2.2.1 < 7) ∧ (if ((jnN E lb.2.1 lb.2.2.1 : Nat) : Int) ≤ 0 then some (own, σ1) else (T_put own σ1).bind fun p1 => T_within p1.1 p1.2) = some (x, σ2) ∧ fr [532, 823, 836] NFA σ σ2 ∧ TyS σ2 n2 ∧ tx σ n σ2 n2 ∧ tyT σ2 n2 (jnT E lb.2.1 lb.2.2.1 (lb.2.2.2.2.2.map Prod.fst)) x ∧ (n2 ≤ n + 2700 ∧ (jnN E lb.2.1 lb.2.2.1 = 0 → n2 = n)) ∧ ((jnN E lb.2.1 lb.2.2.1 ≠ 0 ∧ ¬ tszW (jnT E lb.2.1 lb.2.2.1 (lb.2.2.2.2.2.map Prod.fst)) ≤ 60) → gs σ2 823 = 1) ∧ (¬ (jnN E lb.2.1 lb.2.2.1 ≠ 0 ∧ ¬ tszW (jnT E lb.2.1 lb.2.2.1 (lb.2.2.2.2.2.map Prod.fst)) ≤ 60) → gs σ2 823 = 0 ∧ (lb.2.1 = 1 → ∀ f, E.1[lb.2.2.1]? = some f → n2 ≤ n + min 60 (tsz f.2.2)) ∧ (lb.2.1 = 2 → n2 ≤ n + 60) ∧ (lb.2.1 = 3 → n2 ≤ n + 7)) := by
  obtain ⟨o1, o2, o3⟩ := jnT_ok J N k0 hl
  obtain ⟨wa, wb, wab, w1, w2, w3⟩ := id JT.2.2.2.1
  have ixs : (lb.2.1 = 1 → lb.2.2.1 < E.1.length) ∧ (lb.2.1 = 2 → ∃ m, E.2.1[lb.2.2.1]? = some (some m)) ∧ (lb.2.1 = 3 → lb.2.2.1 < 7) ∧ (lb.2.1 = 1 ∨ lb.2.1 = 2 ∨ lb.2.1 = 3) := by
    rcases N.1 with h | ⟨h, h'⟩ | ⟨h, h'⟩ | ⟨h, h'⟩
    · exact absurd h.1 k0
    · exact ⟨fun _ => h', fun z => by omega, fun z => by omega, .inl h⟩
    · exact ⟨fun z => by omega, fun _ => h', fun z => by omega, .inr (.inl h)⟩
    · exact ⟨fun z => by omega, fun z => by omega, fun _ => h', .inr (.inr h)⟩
  have eL : (jnS E wa wb lb.2.1 lb.2.2.1).length = jnN E lb.2.1 lb.2.2.1 ∧ jnN E lb.2.1 lb.2.2.1 ≤ 4 := by
    unfold jnS jnN
    rcases ixs.2.2.2 with h | h | h
    · rw [if_pos h, if_pos h, List.getElem?_eq_getElem (ixs.1 h)]
      exact ⟨rfl, (J.2.1 _ (List.getElem_mem _)).2.1.1⟩
    · obtain ⟨m, em⟩ := ixs.2.1 h
      rw [if_neg (by omega), if_pos h, if_neg (by omega), if_pos h, em]
      exact ⟨rfl, by decide⟩
    · rw [if_neg (by omega), if_neg (by omega), if_neg (by omega), if_neg (by omega), List.length_take]
      unfold btN
      show min _ 2 = _ ∧ _
      split
      · exact ⟨rfl, by decide⟩
      · split
        · exact ⟨rfl, by decide⟩
        · exact ⟨rfl, by decide⟩
  obtain ⟨σ1, p1, F1, PT⟩ := t_putAts JT v84 H k0 ⟨w1, w2⟩ ⟨ixs.1, ixs.2.1⟩ (by rw [eL.1]; exact hl) (by rw [eL.1]; exact eL.2)
  have X1 : tx σ n σ1 n := ⟨Nat.le_refl _, fun f hf _ x _ => F1.2 f (fun z => by
    simp only [List.mem_cons, List.not_mem_nil, or_false] at hf z
    omega) x⟩
  have S1 : TyS σ1 n := TyS_same (F1.1 532 (by decide)) (fun f hf i => F1.2 f (fun z => by
    simp only [List.mem_cons, List.not_mem_nil, or_false] at hf z
    omega) i) S
  have FJ1 : fr JFS JFA σ σ1 := fr_sub F1 (by decide) (by decide)
  have JT1 := JTE_keep FJ1 X1 JT
  have hθ : ∀ p ∈ (jnS E wa wb lb.2.1 lb.2.2.1).zip (lb.2.2.2.2.2.map Prod.fst), tyOk E.2.2.2.1 p.2 ∧ tsz p.2 ≤ 2700 := fun p hp => by
    obtain ⟨a, x1, x2⟩ := List.mem_map.mp (List.of_mem_zip hp).2
    rw [← x2]; exact N.2 a x1
  have wS : wfS ((jnS E wa wb lb.2.1 lb.2.2.1).zip (lb.2.2.2.2.2.map Prod.fst)) := fun p hp => ⟨(hθ p hp).1.2.1, (hθ p hp).1.1⟩
  -- its own type
  have own : ∃ (own : Int) (T : Ty), tyT σ1 n T own ∧ T ≠ .leaf ∧ tdp T < 60 ∧ tsz T ≤ 2700 ∧ (jnN E lb.2.1 lb.2.2.1 = 0 → T = jnT E lb.2.1 lb.2.2.1 (lb.2.2.2.2.2.map Prod.fst)) ∧ (jnN E lb.2.1 lb.2.2.1 ≠ 0 → sbT ((jnS E wa wb lb.2.1 lb.2.2.1).zip (lb.2.2.2.2.2.map Prod.fst)) T = jnT E lb.2.1 lb.2.2.1 (lb.2.2.2.2.2.map Prod.fst)) ∧ (lb.2.1 = 1 → own = ga σ1 762 lb.2.2.1 ∧ lb.2.2.1 < 24) ∧ (lb.2.1 = 2 → own = ga σ1 686 lb.2.2.1 ∧ lb.2.2.1 < 32) ∧ (lb.2.1 = 3 → own = ga σ1 878 lb.2.2.1 ∧ lb.2.2.1 < 7) ∧ (lb.2.1 = 1 → ∀ f, E.1[lb.2.2.1]? = some f → T = f.2.2) ∧ (lb.2.1 = 3 → tsz T ≤ 7) := by
    rcases ixs.2.2.2 with h | h | h
    · have ef : E.1[lb.2.2.1]? = some E.1[lb.2.2.1] := List.getElem?_eq_getElem (ixs.1 h)
      obtain ⟨⟨f1, f2, f3⟩, _⟩ := J.2.1 _ (List.mem_of_getElem? ef)
      have i24 := JT1.2.1.1
      have il := ixs.1 h
      generalize E.1[lb.2.2.1] = f at *
      refine ⟨_, f.2.2, (JT1.2.1.2 _ f ef).2.2, f1.1, f3, f2, fun z => ?_, fun z => ?_, fun _ => ⟨rfl, by omega⟩, fun z => by omega, fun z => by omega, fun _ f' e' => by rw [ef] at e'; rw [Option.some.inj e'], fun z => by omega⟩
      · unfold jnN at z
        unfold jnT
        rw [if_pos h, ef] at z ⊢
        have z' : f.1.length = 0 := z
        show _ = if f.1 = [] then _ else _
        rw [if_pos (List.length_eq_zero_iff.mp z')]
      · unfold jnN at z
        unfold jnT jnS
        rw [if_pos h, ef] at z ⊢
        rw [if_pos h]
        have z' : f.1.length ≠ 0 := z
        show _ = if f.1 = [] then _ else _
        rw [if_neg (fun w => z' (by rw [w]; rfl))]
        rfl
    · obtain ⟨m, em⟩ := ixs.2.1 h
      obtain ⟨m1, m2, m3⟩ := J.2.2 m (List.mem_of_getElem? em)
      have il := (List.getElem?_eq_some_iff.mp em).1
      have i32 := JT1.2.2.1.1
      refine ⟨_, m.2.2, (JT1.2.2.1.2 _ m em).2.2, m1.1, m3, m2, fun z => ?_, fun _ => ?_, fun z => by omega, fun _ => ⟨rfl, by omega⟩, fun z => by omega, fun z => by omega, fun z => by omega⟩
      · unfold jnN at z
        rw [if_neg (by omega), if_pos h] at z
        exact absurd z (by decide)
      · unfold jnT jnS
        rw [if_neg (by omega), if_pos h, if_neg (by omega), if_pos h, em]
        rfl
    · obtain ⟨wa', wb', _, y1, y2, y3⟩ := JT1.2.2.2.1
      have ea : wa' = wa := by rw [F1.1 868 (by decide), w1] at y1; omega
      have eb : wb' = wb := by rw [F1.1 872 (by decide), w2] at y2; omega
      rw [ea, eb] at y3
      have i7' := ixs.2.2.1 h
      have zz : tsz (btT lb.2.2.1 (tNm wa) (tNm wb)) ≤ 7 := by
        unfold btT
        repeat' split
        all_goals (simp only [tsz]; omega)
      refine ⟨_, btT lb.2.2.1 (tNm wa) (tNm wb), y3 _ i7', ?_, by have := tdp_tsz (btT lb.2.2.1 (tNm wa) (tNm wb)); omega, by omega, fun z => ?_, fun _ => ?_, fun z => by omega, fun z => by omega, fun _ => ⟨rfl, i7'⟩, fun z => by omega, fun _ => zz⟩
      · intro z
        unfold btT at z
        repeat' split at z
        all_goals cases z
      · unfold jnN at z
        rw [if_neg (by omega), if_neg (by omega)] at z
        have h5 : ¬ lb.2.2.1 < 5 := fun h5 => by have := btN_1 h5; omega
        unfold jnT btT
        rw [if_neg (by omega), if_neg (by omega), if_neg (by omega), if_neg (by omega), if_neg (by omega), if_neg (by omega), if_neg (by omega), if_neg (by omega), if_neg (by omega), if_neg (by omega), if_neg (by omega), if_neg (by omega)]
      · unfold jnT jnS
        rw [if_neg (by omega), if_neg (by omega), if_neg (by omega), if_neg (by omega)]
        refine bt_sb wab ?_
        unfold jnN at hl
        rw [if_neg (by omega), if_neg (by omega)] at hl
        rw [List.length_map]; exact hl
  obtain ⟨own, T, t1, t2, t3, t4, t5, t6, t7, t8, t9, t10, t11⟩ := own
  by_cases n0 : jnN E lb.2.1 lb.2.2.1 = 0
  · refine ⟨own, own, σ1, σ1, n, p1, F1, t7, t8, t9, by rw [if_pos (by omega)], fr_sub F1 (by decide) (by decide), S1, X1, by rw [← t5 n0]; exact t1, ⟨by omega, fun _ => rfl⟩, fun z => absurd n0 z.1, fun _ => ⟨by rw [F1.1 823 (by decide)]; exact i7, fun _ f _ => by omega, fun _ => by omega, fun _ => by omega⟩⟩
  · obtain ⟨tt, σ2, n2, q1, q2, q3, q4, q5, q6, q7, _⟩ := t_put wS S1 PT t1 t3 (by omega)
    have q1' : T_put own σ1 = some (tt, σ2) := q1
    rw [t6 n0] at q5 q6
    have wi := t_within q2 o1.1 q5
    have F2 : fr [532, 823, 836] NFA σ σ2 := fr_trans (fr_sub F1 (by decide) (by decide)) (fr_sub q4 (by decide) (by decide))
    refine ⟨own, tt, σ1, (if tszW (jnT E lb.2.1 lb.2.2.1 (lb.2.2.2.2.2.map Prod.fst)) ≤ 60 then σ2 else us σ2 823 1), n2, p1, F1, t7, t8, t9, ?_, ?_, ?_, ?_, ?_, ⟨by omega, fun z => absurd z n0⟩, fun z => ?_, fun z => ?_⟩
    · rw [if_neg (by omega), q1', Option.bind_some]
      exact wi
    · split
      · exact F2
      · exact fr_trans F2 (fr_sub fr_one (by decide) (by decide))
    · split
      · exact q2
      · exact TyS_u q2 (by decide)
    · split
      · exact tx_trans X1 q3
      · exact tx_trans (tx_trans X1 q3) ⟨Nat.le_refl _, fun _ _ _ _ _ => rfl⟩
    · split
      · exact q5
      · exact tyT_mono (σ := σ2) (n := n2) (τ := us σ2 823 1) ⟨Nat.le_refl _, fun _ _ _ _ _ => rfl⟩ q5
    · rw [if_neg z.2, gs_us, if_pos rfl]
    · have f60 : tszW (jnT E lb.2.1 lb.2.2.1 (lb.2.2.2.2.2.map Prod.fst)) ≤ 60 := Classical.byContradiction (fun w => z ⟨n0, w⟩)
      have e60 := tszW_eq (T := jnT E lb.2.1 lb.2.2.1 (lb.2.2.2.2.2.map Prod.fst)) (by omega)
      rw [if_pos f60]
      refine ⟨by rw [q4.1 823 (by decide), F1.1 823 (by decide)]; exact i7, fun h f e => ?_, fun _ => by omega, fun h => ?_⟩
      · have := t10 h f e
        rw [this] at q7
        omega
      · have := t11 h
        omega
end LTN3
