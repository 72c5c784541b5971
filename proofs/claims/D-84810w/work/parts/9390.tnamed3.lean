set_option maxRecDepth 100000
/-! THE TWIN: A NAME IS JUDGED -/
section LTN4
variable {σ : tS} {n : Nat} {E : JE} {B : Nat}
theorem t_failsI {k p : Int} (e : gs σ 452 = 0) : T_fails k p σ = some (us (us σ 452 k) 456 p) := by
  unfold T_fails
  rw [if_pos e]
theorem t_allOf (JT : JTE σ n E) {lb : XL} {hi v d : Nat} (H : nmTw σ n lb hi v) (N : nok E lb d) (k0 : lb.2.1 ≠ 0) : T_allOf (lb.2.2.2.1 : Int) σ = some ((jnN E lb.2.1 lb.2.2.1 : Nat) : Int) := by
  obtain ⟨_, nm2, nm3⟩ := nmT_638 H k0
  have nm1 : lb.2.2.2.1 < 2100 := by obtain ⟨k', _, _, _, y4⟩ := H.1; exact y4
  have nn : ((lb.2.2.2.1 : Int)).toNat = lb.2.2.2.1 := by omega
  unfold T_allOf jnN
  rw [if_pos (by omega), nn, nm2]
  rcases nm3 with ⟨h, h'⟩ | ⟨h, h'⟩ | ⟨h, h', h''⟩
  · have il : lb.2.2.1 < E.1.length := by
      rcases N.1 with y | y | y | y
      · omega
      · exact y.2
      · omega
      · omega
    have i24 := JT.2.1.1
    have ef : E.1[lb.2.2.1]? = some E.1[lb.2.2.1] := List.getElem?_eq_getElem il
    rw [h', if_neg (fun z => z rfl), if_pos (by omega), show ((lb.2.2.1 : Int)).toNat = lb.2.2.1 by omega, (JT.2.1.2 _ _ ef).1.1, if_pos h, ef]
    rfl
  · rw [h', if_pos (by decide), if_pos (by omega), if_neg (fun z => z rfl), if_neg (by omega), if_pos h]
    rfl
  · rw [if_pos h', if_pos (by omega), if_pos h'', if_neg (show ¬ lb.2.1 = 1 by omega), if_neg (show ¬ lb.2.1 = 2 by omega)]
    unfold btN
    by_cases q2 : lb.2.2.1 < 2
    · rw [if_neg (by omega), if_pos q2]; rfl
    · rw [if_pos (by omega), if_neg q2]
      by_cases q5 : lb.2.2.1 < 5
      · rw [if_neg (by omega), if_pos q5]; rfl
      · rw [if_pos (by omega), if_neg q5]; rfl
theorem t_named (J : JOk E B) (hg : ∀ g ∈ E.2.2.2.2, g.1 < 100 → g.1 < E.2.2.1.length) (S : TyS σ n) (JT : JTE σ n E) {Γ : List Ty} (GM : GmT σ n Γ) {lb : XL} {hi v : Nat} (v84 : v < 4200 ∧ hi ≤ 4200) (tk : tkP σ v lb.1) (H : nmTw σ n lb hi v) (N : nok E lb Γ.length) (gl : ∀ T ∈ Γ, T ≠ .leaf) {s : JS} {z : (Nat × Nat) ⊕ (Et × JS)} (e : jnm E lb Γ s = some z) (e812 : gs σ 812 = (s.1 : Int)) (h300 : s.1 ≤ 300) (R : n + (if lb.2.2.2.2.2 = [] then 0 else jC E lb) + 142 * (300 - s.1) + 9200 < 126000) (f0 : gs σ 452 = 0) : ∃ x σ' n', T_named (v : Int) σ = some (x, σ') ∧ GvO σ n s z (if lb.2.2.2.2.2 = [] then 0 else jC E lb) 9200 σ' n' ∧ (0 ≤ x ∧ x < 126000) ∧ ∀ e s', z = .inr (e, s') → tyT σ' n' (eTy e) x := by
  have vN : ((v : Int)).toNat = v := by omega
  obtain ⟨kt, tk1, tk2, tk3⟩ := tk
  have lt12 : ∀ {σ' : tS} {n' : Nat} {T : Ty} {x : Int}, TyS σ' n' → tyT σ' n' T x → T ≠ .leaf → 0 ≤ x ∧ x < 126000 := fun {σ' n' T x} S' c hT => by
    have h1 := tyT_lt c
    have h2 : x ≠ -1 := fun w => hT ((tyT_0 c).mpr w)
    have h3 := S'.1.2.1
    omega
  have flt : ∀ (k p : Nat) (σ1 : tS) (n1 : Nat), k ≠ 0 → fr NFS NFA σ σ1 → TyS σ1 n1 → tx σ n σ1 n1 → n1 ≤ n + 2700 → z = .inl (k, p) → GvO σ n s z (if lb.2.2.2.2.2 = [] then 0 else jC E lb) 9200 (us (us σ1 452 (k : Int)) 456 (p : Int)) n1 := fun k p σ1 n1 hk o1 o2 o3 hn ez => by
    obtain ⟨u1, u2, u3⟩ := fails_f (σ := σ1) (k := (k : Int)) (p := (p : Int))
    refine ⟨fr_trans o1 (fr_sub u1 (by decide) (by decide)), TyS_u (TyS_u o2 (by decide)) (by decide), tx_trans o3 ⟨Nat.le_refl _, fun _ _ _ _ _ => rfl⟩, fun k' p' q' => ?_, fun a s' q' => by rw [ez] at q'; cases q'⟩
    rw [ez] at q'
    injection Sum.inl.inj q' with q1 q2
    rw [← q1, ← q2]
    exact ⟨hk, u2, u3, by omega⟩
  obtain ⟨⟨kn, n1, n2, n3, n4⟩, h2, os, o1, o2, o3⟩ := id H
  unfold jnm at e
  unfold T_named
  rw [if_pos (by omega), vN]
  by_cases k0 : lb.2.1 = 0
  · -- bound
    rw [if_pos k0] at e
    have b1 : ga σ 550 v = (lb.2.2.1 : Int) := by
      rcases h2 with h | h
      · exact h.2
      · exact absurd k0 h.1
    have b2 : lb.2.2.1 < Γ.length := by
      rcases N.1 with h | h | h | h
      · exact h.2
      · omega
      · omega
      · omega
    have g590 := GM.2.1
    have eΓ : Γ[lb.2.2.1]? = some Γ[lb.2.2.1] := List.getElem?_eq_getElem b2
    have c41 : ∀ σ1 : tS, (∀ i, ga σ1 550 i = ga σ 550 i) → (∀ i, ga σ1 854 i = ga σ 854 i) → T_named_41 (v : Int) σ1 = some (ga σ 854 lb.2.2.1, σ1) := fun σ1 y1 y2 => by
      unfold T_named_41
      rw [vN, y1, b1, if_pos (by omega), show ((lb.2.2.1 : Int)).toNat = lb.2.2.1 by omega, y2]
    have cΓ := GM.2.2 _ _ eΓ
    have nΓ := gl _ (List.mem_of_getElem? eΓ)
    rw [b1, if_neg (by omega), if_pos (by omega)]
    cases qa : lb.2.2.2.2.2 with
    | nil =>
      rw [qa] at e o2
      have eo : os = [] := List.length_eq_zero_iff.mp o2
      rw [eo] at o1
      have f1 : ga σ 546 v = -1 := o1
      simp only at e
      rw [eΓ] at e
      have ez : z = .inr (en 10 lb Γ[lb.2.2.1] .leaf [] .leaf .leaf, s) := (Option.some.inj e).symm
      rw [if_pos f1, c41 σ (fun _ => rfl) (fun _ => rfl)]
      refine ⟨_, σ, n, rfl, ⟨fr_refl _ _ _, S, tx_refl _ _, fun k p q => (by rw [ez] at q; cases q), fun a s' q => ?_⟩, lt12 S cΓ nΓ, fun a s' q => ?_⟩
      · rw [ez] at q
        injection Sum.inr.inj q with q1 q2
        rw [← q2]
        exact ⟨f0, e812, ⟨Nat.le_refl _, h300⟩, by omega, [], by rw [List.append_nil], fun X hX => absurd hX List.not_mem_nil⟩
      · rw [ez] at q
        injection Sum.inr.inj q with q1 q2
        rw [← q1]
        exact cΓ
    | cons a l =>
      rw [qa] at e o2 o3
      cases os with
      | nil => simp at o2
      | cons o os' =>
      obtain ⟨⟨p1, p1'⟩, ⟨kk, p2, p3, p4⟩, p5⟩ := o3 0 o a rfl rfl
      have f1 : ga σ 546 v = (o : Int) := o1.1
      simp only at e
      have ez : z = .inl (4, a.2) := (Option.some.inj e).symm
      have oN : ((o : Int)).toNat = o := by omega
      rw [f1, if_neg (by omega), oN, p2, if_pos (by omega), show ((kk : Int)).toNat = kk by omega, p4, t_failsI f0, Option.bind_some, c41 (us (us σ 452 4) 456 (a.2 : Int)) (fun _ => rfl) (fun _ => rfl)]
      have F := flt 4 a.2 σ n (by decide) (fr_refl _ _ _) S (tx_refl _ _) (by omega) ez
      rw [qa] at F
      exact ⟨_, _, n, rfl, F, lt12 S cΓ nΓ, fun a s' q => by rw [ez] at q; cases q⟩
  · rw [if_neg k0] at e
    obtain ⟨b1, nm2, nm3⟩ := nmT_638 H k0
    have nmN : ((lb.2.2.2.1 : Int)).toNat = lb.2.2.2.1 := by omega
    have ekn : kt = kn := by rw [tk1] at n1; omega
    have cI := JT.2.2.2.2.1
    rw [b1, if_pos rfl, tk1, if_pos (by omega)]
    have na : T_nameAt (kt : Int) σ = some (lb.2.2.2.1 : Int) := by
      unfold T_nameAt
      rw [if_pos (by omega), show ((kt : Int)).toNat = kt by omega, ekn, n3]
    rw [na, Option.bind_some, if_pos (by omega), t_allOf JT H N k0, Option.bind_some, if_pos (by omega), nmN, nm2, show ((kt : Int)).toNat = kt by omega, tk3]
    have eL4 : jnN E lb.2.1 lb.2.2.1 ≤ 4 := by
      unfold jnN
      rcases N.1 with h | ⟨h, h'⟩ | ⟨h, h'⟩ | ⟨h, h'⟩
      · exact absurd h.1 k0
      · rw [if_pos h, List.getElem?_eq_getElem h']
        exact (J.2.1 _ (List.getElem_mem _)).2.1.1
      · rw [if_neg (by omega), if_pos h]; decide
      · rw [if_neg (by omega), if_neg (by omega)]
        unfold btN
        split
        · decide
        · split <;> decide
    have cnt := t_count (σ := σ) (l1 := (v : Int)) (l2 := (lb.1 : Int)) (l3 := (lb.2.2.2.1 : Int)) (l4 := (lb.2.2.1 : Int)) (all := jnN E lb.2.1 lb.2.2.1) os 0 (ga σ 546 v) o1 (fun o ho => by
      obtain ⟨i, il, ei⟩ := List.mem_iff_getElem.mp ho
      have := (o3 i o _ (by rw [List.getElem?_eq_getElem il, ei]) (List.getElem?_eq_getElem (by omega))).1
      omega) (Nat.zero_le _) (by omega)
    have cnt' : om_loop (T_named_102s (v : Int) (lb.1 : Int) (lb.2.2.2.1 : Int) (lb.2.2.1 : Int) ((jnN E lb.2.1 lb.2.2.1 : Nat) : Int) σ) (0, ga σ 546 v) = _ := cnt
    rw [cnt', Nat.sub_zero, Nat.zero_add, Option.bind_some]
    by_cases l1 : lb.2.2.2.2.2.length < jnN E lb.2.1 lb.2.2.1
    · rw [if_pos l1] at e
      have ez : z = .inl (4, lb.1) := (Option.some.inj e).symm
      rw [List.getElem?_eq_none (show os.length ≤ jnN E lb.2.1 lb.2.2.1 by omega)]
      show ∃ x σ' n', (if ((jnN E lb.2.1 lb.2.2.1 : Nat) : Int) ≤ ((os.length : Nat) : Int) then _ else _) = some (x, σ') ∧ _
      rw [if_neg (by omega), t_failsI f0, Option.bind_some]
      refine ⟨_, _, n, rfl, flt 4 lb.1 σ n (by decide) (fr_refl _ _ _) S (tx_refl _ _) (by omega) ez, ?_, fun a s' q => by rw [ez] at q; cases q⟩
      have := lt12 S cI (by intro w; cases w)
      rw [fails_f.1.1 860 (by decide)]
      exact this
    rw [if_neg l1] at e
    cases qa : lb.2.2.2.2.2[jnN E lb.2.1 lb.2.2.1]? with
    | some a =>
      rw [qa] at e
      have ez : z = .inl (4, a.2) := (Option.some.inj e).symm
      have al := (List.getElem?_eq_some_iff.mp qa).1
      have eo : os[jnN E lb.2.1 lb.2.2.1]? = some os[jnN E lb.2.1 lb.2.2.1] := List.getElem?_eq_getElem (by omega)
      obtain ⟨⟨p1, p1'⟩, ⟨kk, p2, p3, p4⟩, p5⟩ := o3 _ _ a eo qa
      rw [eo]
      generalize os[jnN E lb.2.1 lb.2.2.1] = o at *
      show ∃ x σ' n', (if 0 ≤ (o : Int) ∧ (o : Int) < 8400 ∧ 0 ≤ ga σ 542 ((o : Int)).toNat ∧ ga σ 542 ((o : Int)).toNat < 4100 then _ else _) = some (x, σ') ∧ _
      have oN : ((o : Int)).toNat = o := by omega
      rw [oN, p2, if_pos (by omega), show ((kk : Int)).toNat = kk by omega, p4, t_failsI f0, Option.bind_some]
      refine ⟨_, _, n, rfl, flt 4 a.2 σ n (by decide) (fr_refl _ _ _) S (tx_refl _ _) (by omega) ez, ?_, fun a s' q => by rw [ez] at q; cases q⟩
      have := lt12 S cI (by intro w; cases w)
      rw [fails_f.1.1 860 (by decide)]
      exact this
    | none =>
      rw [qa] at e
      simp only at e
      have l2 := List.getElem?_eq_none_iff.mp qa
      have hl : lb.2.2.2.2.2.length = jnN E lb.2.1 lb.2.2.1 := by omega
      rw [List.getElem?_eq_none (show os.length ≤ jnN E lb.2.1 lb.2.2.1 by omega)]
      show ∃ x σ' n', (if ((jnN E lb.2.1 lb.2.2.1 : Nat) : Int) ≤ ((os.length : Nat) : Int) then _ else _) = some (x, σ') ∧ _
      rw [if_pos (by omega)]
      -- the question begins
      obtain ⟨σ1, a1, F1, S1, X1, W1⟩ := asks_W S JT (s := s) e812
      have FJ1 : fr JFS JFA σ σ1 := fr_sub F1 (by decide) (by decide)
      have JT1 := JTE_keep FJ1 X1 JT
      have H1 := nmT_keep FJ1 X1 H
      obtain ⟨own, x, σ2, σ3, n3', q1, q2, q3, q4, q5, q6, q7, q8, q9, q10, ⟨q11, q11'⟩, q12, q13⟩ := t_own J S1 JT1 v84 H1 N k0 hl (by omega) W1.2.2.2.2.1
      obtain ⟨y1, y2, y3⟩ := jnT_ok J N k0 hl
      have e638 : ga σ2 638 lb.2.2.2.1 = ga σ 638 lb.2.2.2.1 := by rw [q2.2 638 (by decide), F1.2 638 (by decide)]
      have F3 : fr NFS NFA σ σ3 := fr_trans (fr_sub F1 (by decide) (by decide)) (fr_sub q7 (by decide) (by decide))
      have X3 := tx_trans X1 q9
      have f3 : gs σ3 452 = 0 := by rw [q7.1 452 (by decide), F1.1 452 (by decide)]; exact f0
      have X13 : tx σ n σ3 n3' := tx_trans X1 q9
      have e3812 : gs σ3 812 = (s.1 : Int) := by rw [q7.1 812 (by decide), F1.1 812 (by decide)]; exact e812
      have FJ3 : fr JFS JFA σ σ3 := fr_NJ F3
      have JT3 := JTE_keep FJ3 X13 JT
      have H3 := nmT_keep FJ3 X13 H
      have e226 : T_named_226 (v : Int) (lb.1 : Int) (lb.2.2.2.1 : Int) ((jnN E lb.2.1 lb.2.2.1 : Nat) : Int) own σ2 = T_named_248 (v : Int) (lb.1 : Int) (lb.2.2.2.1 : Int) x σ3 := by
        unfold T_named_226
        by_cases c : ((jnN E lb.2.1 lb.2.2.1 : Nat) : Int) ≤ 0
        · rw [if_pos c] at q6 ⊢
          injection Option.some.inj q6 with e1 e2
          rw [e1, e2]
        · rw [if_neg c] at q6 ⊢
          cases qp : T_put own σ2 with
          | none => rw [qp] at q6; cases q6
          | some p =>
            rw [qp, Option.bind_some] at q6
            rw [Option.bind_some, q6, Option.bind_some]
      have eT : ((T_asks σ).bind fun p5 => (T_putAts (v : Int) p5).bind fun p6 => if 0 ≤ (lb.2.2.2.1 : Int) ∧ (lb.2.2.2.1 : Int) < 2100 then (if (ga p6 638 lb.2.2.2.1) ≠ 1 then if 0 ≤ (lb.2.2.2.1 : Int) ∧ (lb.2.2.2.1 : Int) < 2100 then (if (ga p6 638 lb.2.2.2.1) ≠ 2 then if 0 ≤ (lb.2.2.1 : Int) ∧ (lb.2.2.1 : Int) < 7 then (T_named_226 (v : Int) (lb.1 : Int) (lb.2.2.2.1 : Int) ((jnN E lb.2.1 lb.2.2.1 : Nat) : Int) (ga p6 878 ((lb.2.2.1 : Int)).toNat) p6) else none else if 0 ≤ (lb.2.2.1 : Int) ∧ (lb.2.2.1 : Int) < 32 then (T_named_226 (v : Int) (lb.1 : Int) (lb.2.2.2.1 : Int) ((jnN E lb.2.1 lb.2.2.1 : Nat) : Int) (ga p6 686 ((lb.2.2.1 : Int)).toNat) p6) else none) else none else if 0 ≤ (lb.2.2.1 : Int) ∧ (lb.2.2.1 : Int) < 24 then (T_named_226 (v : Int) (lb.1 : Int) (lb.2.2.2.1 : Int) ((jnN E lb.2.1 lb.2.2.1 : Nat) : Int) (ga p6 762 ((lb.2.2.1 : Int)).toNat) p6) else none) else none) = T_named_248 (v : Int) (lb.1 : Int) (lb.2.2.2.1 : Int) x σ3 := by
        rw [a1, Option.bind_some, q1, Option.bind_some, if_pos (by omega), e638, show ((lb.2.2.1 : Int)).toNat = lb.2.2.1 by omega]
        rcases nm3 with ⟨h, h'⟩ | ⟨h, h'⟩ | ⟨h, h', h''⟩
        · obtain ⟨w1, w2⟩ := q3 h
          rw [h', if_neg (fun z => z rfl), if_pos (by omega), ← w1]
          exact e226
        · obtain ⟨w1, w2⟩ := q4 h
          rw [h', if_pos (by decide), if_pos (by omega), if_neg (fun z => z rfl), if_pos (by omega), ← w1]
          exact e226
        · obtain ⟨w1, w2⟩ := q5 h
          rw [if_pos h', if_pos (by omega), if_pos h'', if_pos (by omega), ← w1]
          exact e226
      show ∃ x σ' n', ((T_asks σ).bind fun p5 => (T_putAts (v : Int) p5).bind fun p6 => _) = some (x, σ') ∧ _
      rw [eT]
      -- how many givens
      have gOf : ∀ σ4 : tS, (∀ i, ga σ4 638 i = ga σ 638 i) → (∀ i, ga σ4 642 i = ga σ 642 i) → (∀ i, ga σ4 746 i = ga σ 746 i) → ∃ c : Int, T_givensOf (lb.2.2.2.1 : Int) σ4 = some c ∧ (lb.2.1 = 1 → ∀ f, E.1[lb.2.2.1]? = some f → c = (f.2.1.length : Int)) ∧ (lb.2.1 = 2 → c = 1) ∧ (lb.2.1 = 3 → c = 0) := fun σ4 w1 w2 w3 => by
        unfold T_givensOf
        rw [if_pos (by omega), nmN, w1, w2, nm2]
        rcases nm3 with ⟨h, h'⟩ | ⟨h, h'⟩ | ⟨h, h', h''⟩
        · have i24 := (q3 h).2
          rw [h', if_neg (fun z => z rfl), if_pos (by omega), show ((lb.2.2.1 : Int)).toNat = lb.2.2.1 by omega, w3]
          exact ⟨_, rfl, fun _ f ef => (JT.2.1.2 _ f ef).2.1.1, fun z => by omega, fun z => by omega⟩
        · rw [h', if_pos (by decide), if_pos (by omega), if_neg (fun z => z rfl)]
          exact ⟨_, rfl, fun z => by omega, fun _ => rfl, fun z => by omega⟩
        · rw [if_pos h', if_pos (by omega), if_pos h'']
          exact ⟨_, rfl, fun z => by omega, fun z => by omega, fun _ => rfl⟩
      have x12 := lt12 q8 q10 y1.1
      by_cases big : jnN E lb.2.1 lb.2.2.1 ≠ 0 ∧ ¬ tszW (jnT E lb.2.1 lb.2.2.1 (lb.2.2.2.2.2.map Prod.fst)) ≤ 60
      · rw [if_pos big] at e
        have ez : z = .inl (7, lb.1) := (Option.some.inj e).symm
        obtain ⟨c, gc, _⟩ := gOf (us (us σ3 452 7) 456 (lb.1 : Int)) (fun i => FJ3.2 638 (by decide) i) (fun i => FJ3.2 642 (by decide) i) (fun i => FJ3.2 746 (by decide) i)
        have tf : T_fails 7 (lb.1 : Int) σ3 = some (us (us σ3 452 7) 456 (lb.1 : Int)) := t_fails (k := 7) (p := lb.1) f3
        have u2 := (fails_f (σ := σ3) (k := 7) (p := (lb.1 : Int))).2.1
        have st : om_loop (T_named_274s (v : Int) (lb.1 : Int) (lb.2.2.2.1 : Int) x c) (0, us (us σ3 452 7) 456 (lb.1 : Int)) = some (us (us σ3 452 7) 456 (lb.1 : Int)) := by
          refine om_loop_out ?_
          unfold T_named_274s
          simp only
          by_cases cc : c ≤ 0
          · rw [if_pos cc]
          · rw [if_neg cc, if_pos (by rw [u2]; decide)]
        unfold T_named_248 T_named_264
        rw [if_neg (by rw [q12 big]; decide), tf, Option.bind_some, gc, Option.bind_some, st]
        exact ⟨x, _, n3', rfl, flt 7 lb.1 σ3 n3' (by decide) F3 q8 X13 q11 ez, x12, fun a s' q => by rw [ez] at q; cases q⟩
      · rw [if_neg big] at e
        obtain ⟨z0, k1, k2, k3⟩ := q13 big
        obtain ⟨c, gc, gc1, gc2, gc3⟩ := gOf σ3 (fun i => FJ3.2 638 (by decide) i) (fun i => FJ3.2 642 (by decide) i) (fun i => FJ3.2 746 (by decide) i)
        unfold T_named_248 T_named_264
        rw [if_pos z0, gc, Option.bind_some]
        unfold jb at e
        cases qg : jnG E lb.1 lb.2.1 lb.2.2.1 (lb.2.2.2.2.2.map Prod.fst) s with
        | none => rw [qg] at e; cases e
        | some z1 =>
        rw [qg, Option.bind_some] at e
        have a0 : lb.2.2.2.2.2 = [] ↔ jnN E lb.2.1 lb.2.2.1 = 0 := by rw [← hl]; exact List.length_eq_zero_iff.symm
        -- the givens
        have giv : ∃ (σ' : tS) (n' Cg : Nat), om_loop (T_named_274s (v : Int) (lb.1 : Int) (lb.2.2.2.1 : Int) x c) (0, σ3) = some σ' ∧ GvO σ3 n3' s z1 Cg 9000 σ' n' ∧ n3' + Cg ≤ n + (if lb.2.2.2.2.2 = [] then 0 else jC E lb) := by
          unfold jnG at qg
          rcases nm3 with ⟨h, h'⟩ | ⟨h, h'⟩ | ⟨h, h', h''⟩
          · have il : lb.2.2.1 < E.1.length := by
              rcases N.1 with y | y | y | y
              · omega
              · exact y.2
              · omega
              · omega
            have ef : E.1[lb.2.2.1]? = some E.1[lb.2.2.1] := List.getElem?_eq_getElem il
            generalize E.1[lb.2.2.1] = f at *
            rw [if_pos h, ef] at qg
            have qg' : jgv E lb.1 (f.1.zip (lb.2.2.2.2.2.map Prod.fst)) f.2.1 s = some z1 := qg
            have jn : jnN E lb.2.1 lb.2.2.1 = f.1.length := by unfold jnN; rw [if_pos h, ef]; rfl
            have ec := gc1 h f ef
            have cst : n3' + jCg f.2.1 ≤ n + (if lb.2.2.2.2.2 = [] then 0 else jC E lb) := by
              by_cases a00 : lb.2.2.2.2.2 = []
              · rw [if_pos a00]
                have j0 := a0.mp a00
                have f10 : f.1 = [] := by rw [jn] at j0; exact List.length_eq_zero_iff.mp j0
                have f20 : f.2.1 = [] := by
                  cases qf : f.2.1 with
                  | nil => rfl
                  | cons g l =>
                    have := ((J.2.1 f (List.mem_of_getElem? ef)).2.2 g (by rw [qf]; exact List.mem_cons_self)).1
                    rw [f10] at this
                    exact absurd this List.not_mem_nil
                rw [f20, q11' j0]
                exact Nat.le_refl _
              · rw [if_neg a00]
                have := k1 h f ef
                have ej : jC E lb = min 60 (tsz f.2.2) + jCg f.2.1 := by unfold jC; rw [if_pos h, ef]; rfl
                omega
            obtain ⟨σ', n', r1, r2⟩ := t_givens J hg v84 h ef N.2 (by rw [hl, jn]) (pl := lb.1) (l8 := x) f.2.1 0 σ3 n3' s z1 rfl (Nat.zero_le _) qg' q8 JT3 H3 e3812 h300 (by omega) f3
            rw [ec]
            exact ⟨σ', n', jCg f.2.1, r1, r2, cst⟩
          · obtain ⟨m, em⟩ : ∃ m, E.2.1[lb.2.2.1]? = some (some m) := by
              rcases N.1 with y | y | y | y
              · omega
              · omega
              · exact y.2
              · omega
            rw [if_neg (by omega), if_pos h, em] at qg
            have jn : jnN E lb.2.1 lb.2.2.1 = 1 := by unfold jnN; rw [if_neg (by omega), if_pos h]
            have a1' : lb.2.2.2.2.2.length = 1 := by omega
            obtain ⟨ap, eap⟩ := List.length_eq_one_iff.mp a1'
            have okap := N.2 ap (by rw [eap]; exact List.mem_cons_self)
            rw [eap] at qg
            have qg' : (jcl E lb.1 m.1 ap.1 s).bind (Sum.elim (fun e => some (.inl e)) (fun a => some (.inr ([a.1], a.2)))) = some z1 := qg
            cases qc : jcl E lb.1 m.1 ap.1 s with
            | none => rw [qc] at qg'; cases qg'
            | some z2 =>
            rw [qc, Option.bind_some] at qg'
            have cst : n3' ≤ n + (if lb.2.2.2.2.2 = [] then 0 else jC E lb) := by
              rw [if_neg (by rw [eap]; intro w; cases w)]
              have ej : jC E lb = 60 := by unfold jC; rw [if_neg (by omega), if_pos h]
              have := k2 h
              omega
            obtain ⟨σ', n', r1, r2, r3, r4, r5, r6⟩ := t_given2 J hg q8 JT3 v84 H3 h em (T := ap.1) (pa := ap.2) eap okap qc e3812 h300 (by omega) f3
            rw [gc2 h]
            have st : T_named_274s (v : Int) (lb.1 : Int) (lb.2.2.2.1 : Int) x 1 (0, σ3) = some (.inl (1, σ')) := by
              unfold T_named_274s
              simp only
              rw [if_neg (by decide), if_neg (fun z => z f3), r1]
              rfl
            have st2 : om_loop (T_named_274s (v : Int) (lb.1 : Int) (lb.2.2.2.1 : Int) x 1) (1, σ') = some σ' := by
              refine om_loop_out ?_
              unfold T_named_274s
              simp only
              rw [if_pos (by decide)]
            refine ⟨σ', n', 0, by rw [om_loop_in st]; exact st2, ⟨r2, r3, r4, fun k p q' => ?_, fun a s' q' => ?_⟩, cst⟩
            · cases z2 with
              | inl kp =>
                have ez1 : z1 = .inl kp := (Option.some.inj qg').symm
                rw [ez1] at q'
                exact r5 k p (by rw [Sum.inl.inj q'])
              | inr b =>
                have ez1 : z1 = .inr ([b.1], b.2) := (Option.some.inj qg').symm
                rw [ez1] at q'; cases q'
            · cases z2 with
              | inl kp =>
                have ez1 : z1 = .inl kp := (Option.some.inj qg').symm
                rw [ez1] at q'; cases q'
              | inr b =>
                have ez1 : z1 = .inr ([b.1], b.2) := (Option.some.inj qg').symm
                rw [ez1] at q'
                injection Sum.inr.inj q' with w1 w2
                rw [← w2]
                exact r6 b.1 b.2 rfl
          · rw [if_neg (by omega), if_neg (by omega)] at qg
            have ez1 : z1 = .inr ([], s) := (Option.some.inj qg).symm
            rw [gc3 h]
            refine ⟨σ3, n3', 0, om_loop_out ?_, ⟨fr_refl _ _ _, q8, tx_refl _ _, fun k p q' => (by rw [ez1] at q'; cases q'), fun a s' q' => ?_⟩, ?_⟩
            · unfold T_named_274s
              simp only
              rw [if_pos (by decide)]
            · rw [ez1] at q'
              injection Sum.inr.inj q' with w1 w2
              rw [← w2]
              exact ⟨f3, e3812, ⟨Nat.le_refl _, h300⟩, by omega, [], by rw [List.append_nil], fun X hX => absurd hX List.not_mem_nil⟩
            · by_cases a00 : lb.2.2.2.2.2 = []
              · rw [if_pos a00, q11' (a0.mp a00)]
                exact Nat.le_refl _
              · rw [if_neg a00]
                have ej : jC E lb = 7 := by unfold jC; rw [if_neg (by omega), if_neg (by omega)]
                have := k3 h
                omega
        obtain ⟨σ', n', Cg, r1, ⟨r2, r3, r4, r5, r6⟩, r7⟩ := giv
        rw [r1]
        refine ⟨x, σ', n', rfl, ⟨fr_trans F3 r2, r3, tx_trans X13 r4, fun k p q' => ?_, fun a s' q' => ?_⟩, x12, fun a s' q' => ?_⟩
        · cases z1 with
          | inl kp =>
            have ez : z = .inl kp := (Option.some.inj e).symm
            rw [ez] at q'
            obtain ⟨w1, w2, w3, w4⟩ := r5 k p (by rw [Sum.inl.inj q'])
            exact ⟨w1, w2, w3, by omega⟩
          | inr b =>
            have ez : z = .inr (en 10 lb (jnT E lb.2.1 lb.2.2.1 (lb.2.2.2.2.2.map Prod.fst)) .leaf b.1 .leaf .leaf, b.2) := (Option.some.inj e).symm
            rw [ez] at q'; cases q'
        · cases z1 with
          | inl kp =>
            have ez : z = .inl kp := (Option.some.inj e).symm
            rw [ez] at q'; cases q'
          | inr b =>
            have ez : z = .inr (en 10 lb (jnT E lb.2.1 lb.2.2.1 (lb.2.2.2.2.2.map Prod.fst)) .leaf b.1 .leaf .leaf, b.2) := (Option.some.inj e).symm
            rw [ez] at q'
            injection Sum.inr.inj q' with w1 w2
            rw [← w2]
            obtain ⟨v1, v2, v3, v4, v5⟩ := r6 b.1 b.2 rfl
            exact ⟨v1, v2, v3, by omega, v5⟩
        · cases z1 with
          | inl kp =>
            have ez : z = .inl kp := (Option.some.inj e).symm
            rw [ez] at q'; cases q'
          | inr b =>
            have ez : z = .inr (en 10 lb (jnT E lb.2.1 lb.2.2.1 (lb.2.2.2.2.2.map Prod.fst)) .leaf b.1 .leaf .leaf, b.2) := (Option.some.inj e).symm
            rw [ez] at q'
            injection Sum.inr.inj q' with w1 w2
            rw [← w1]
            exact tyT_mono r4 q10
end LTN4
