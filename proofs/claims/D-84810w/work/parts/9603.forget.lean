set_option maxRecDepth 100000
/-! TYPES ARE FORGOTTEN, in the twin (T_forgetTypes) -/
theorem chT_det {σ : tS} : ∀ {f : Int} {l l' : List Nat}, chT σ f l → chT σ f l' → l = l'
  | _, [], [], _, _ => rfl
  | f, [], u :: r, c, c' => by
    have e1 : f = -1 := c
    have e2 := c'.1
    omega
  | f, u :: r, [], c, c' => by
    have e1 : f = -1 := c'
    have e2 := c.1
    omega
  | f, u :: r, u' :: r', c, c' => by
    have e : u = u' := by have := c.1; have := c'.1; omega
    rw [← e] at c' ⊢
    rw [chT_det c.2.2 c'.2.2]
theorem t_fgL {k hh : Nat} (h4 : hh < 4096) : ∀ (l : List Nat) (σ : tS), chT σ (ga σ 526 hh) l → ∃ τ, om_loop (T_forgetTypes_9s (k : Int) (hh : Int)) σ = some τ ∧ fr [] [526] σ τ ∧ (∀ j, j ≠ hh → ga τ 526 j = ga σ 526 j) ∧ ∃ l', chT τ (ga τ 526 hh) l' ∧ ∀ t, t ∈ l' ↔ t ∈ l ∧ t < k
  | [], σ, c => by
    have c' : ga σ 526 hh = -1 := c
    refine ⟨σ, om_loop_out ?_, fr_refl _ _ _, fun _ _ => rfl, [], c, fun t => ⟨fun w => absurd w List.not_mem_nil, fun w => absurd w.1 List.not_mem_nil⟩⟩
    unfold T_forgetTypes_9s
    rw [if_pos ⟨by omega, by omega⟩, show ((hh : Int)).toNat = hh by omega, c', if_pos (by omega)]
  | u :: r, σ, c => by
    obtain ⟨c1, ⟨c2, c3⟩, c4⟩ := id c
    by_cases lt : u < k
    · refine ⟨σ, om_loop_out ?_, fr_refl _ _ _, fun _ _ => rfl, u :: r, c, fun t => ⟨fun w => ⟨w, ?_⟩, fun w => w.1⟩⟩
      · unfold T_forgetTypes_9s
        rw [if_pos ⟨by omega, by omega⟩, show ((hh : Int)).toNat = hh by omega, c1, if_pos (by omega)]
      · rcases List.mem_cons.mp w with w | w
        · omega
        · have := c3 t w; omega
    · have st : T_forgetTypes_9s (k : Int) (hh : Int) σ = some (.inl (ua σ 526 hh (ga σ 522 u))) := by
        unfold T_forgetTypes_9s
        rw [if_pos ⟨by omega, by omega⟩, show ((hh : Int)).toNat = hh by omega, c1, if_neg (by omega), if_pos ⟨by omega, by omega, by omega, by omega⟩, show ((u : Int)).toNat = u by omega]
      have cr : chT (ua σ 526 hh (ga σ 522 u)) (ga (ua σ 526 hh (ga σ 522 u)) 526 hh) r := by
        rw [ga_ua, if_pos ⟨rfl, rfl⟩]
        exact chT_keep c4 (fun t _ => by rw [ga_ua, if_neg (fun z => absurd z.1 (by decide))])
      obtain ⟨τ, a1, a2, a3, l', a4, a5⟩ := t_fgL h4 r _ cr
      refine ⟨τ, by rw [om_loop_in st]; exact a1, fr_trans (fr_ua (fr_refl _ _ _) (by decide)) a2, fun j hj => by rw [a3 j hj, ga_ua, if_neg (fun z => hj z.2)], l', a4, fun t => ?_⟩
      rw [a5 t]
      exact ⟨fun w => ⟨List.mem_cons_of_mem _ w.1, w.2⟩, fun w => ⟨(List.mem_cons.mp w.1).elim (fun z => absurd w.2 (by omega)) (fun z => z), w.2⟩⟩
theorem t_fgO {k : Nat} {σ0 : tS} (H : ∀ hh : Nat, hh < 4096 → ∃ l, chT σ0 (ga σ0 526 hh) l) : ∀ (d j : Nat) (σ : tS), j + d = 4096 → fr [] [526] σ0 σ → (∀ i, j ≤ i → ga σ 526 i = ga σ0 526 i) → (∀ i, i < j → ∀ l, chT σ0 (ga σ0 526 i) l → ∃ l', chT σ (ga σ 526 i) l' ∧ ∀ t, t ∈ l' ↔ t ∈ l ∧ t < k) → ∃ τ, om_loop (T_forgetTypes_2s (k : Int)) ((j : Int), σ) = some τ ∧ fr [] [526] σ0 τ ∧ ∀ i, i < 4096 → ∀ l, chT σ0 (ga σ0 526 i) l → ∃ l', chT τ (ga τ 526 i) l' ∧ ∀ t, t ∈ l' ↔ t ∈ l ∧ t < k
  | 0, j, σ, e, F, _, D => by
    refine ⟨σ, om_loop_out ?_, F, fun i hi => D i (by omega)⟩
    unfold T_forgetTypes_2s
    simp only
    rw [if_pos (by omega)]
  | d + 1, j, σ, e, F, U, D => by
    have hj : j < 4096 := by omega
    have e522 : ∀ t, ga σ 522 t = ga σ0 522 t := fun t => F.2 522 (by decide) t
    obtain ⟨l0, cl0⟩ := H j hj
    have cj : chT σ (ga σ 526 j) l0 := by
      rw [U j (Nat.le_refl _)]
      exact chT_keep cl0 (fun t _ => e522 t)
    obtain ⟨τ, a1, a2, a3, l', a4, a5⟩ := t_fgL (k := k) hj l0 σ cj
    have st : T_forgetTypes_2s (k : Int) ((j : Int), σ) = some (.inl (((j + 1 : Nat) : Int), τ)) := by
      unfold T_forgetTypes_2s
      simp only
      rw [if_neg (by omega), a1, Option.bind_some, w32_s (by omega) (by omega)]
      rfl
    obtain ⟨τ2, b1, b2, b3⟩ := t_fgO (k := k) H d (j + 1) τ (by omega) (fr_trans F a2) (fun i hi => by rw [a3 i (by omega)]; exact U i (by omega)) (fun i hi l cl => by
      by_cases c : i = j
      · rw [c] at cl ⊢
        have el : l = l0 := chT_det cl cl0
        rw [el]
        exact ⟨l', a4, a5⟩
      · obtain ⟨l2, d1, d2⟩ := D i (by omega) l cl
        refine ⟨l2, ?_, d2⟩
        rw [a3 i c]
        exact chT_keep d1 (fun t _ => a2.2 522 (by decide) t))
    exact ⟨τ2, by rw [om_loop_in st]; exact b1, b2, b3⟩
/-- TYPES FROM k ON ARE FORGOTTEN -/
theorem t_forget {σ : tS} {n k : Nat} (H : TyS σ n) (hk : k ≤ n) : ∃ τ, T_forgetTypes (k : Int) σ = some τ ∧ TyS τ k ∧ fr [532] [526] σ τ := by
  obtain ⟨⟨a1, a2, a3, a4, a5⟩, b, bs⟩ := H
  obtain ⟨τ, c1, c2, c3⟩ := t_fgO (k := k) (σ0 := σ) (fun hh h4 => by obtain ⟨l, l1, _⟩ := a5 hh h4; exact ⟨l, l1⟩) 4096 0 σ (by omega) (fr_refl _ _ _) (fun _ _ => rfl) (fun i hi => absurd hi (Nat.not_lt_zero _))
  have c1' : om_loop (T_forgetTypes_2s (k : Int)) (0, σ) = some τ := c1
  have g : ∀ f, f ≠ 526 → ∀ i, ga (us τ 532 (k : Int)) f i = ga σ f i := fun f n i => by rw [ga_us, c2.2 f (by simp [n])]
  have g1 := g 502 (by decide)
  have g2 := g 506 (by decide)
  have g3 := g 510 (by decide)
  have g4 := g 514 (by decide)
  have g5 := g 518 (by decide)
  have g6 := g 522 (by decide)
  have g8 := g 530 (by decide)
  refine ⟨us τ 532 (k : Int), ?_, ⟨⟨by rw [gs_us, if_pos rfl], by omega, fun t ht => ?_, fun t u ht hu c => ?_, fun hh hl => ?_⟩, fun t ht => ?_, fun t ht => by rw [g1, g2, g3, g4]; exact bs t (by omega)⟩, fr_us (fr_mono c2 (fun f hf => absurd hf List.not_mem_nil) (fun f hf => hf)) (by decide)⟩
  · unfold T_forgetTypes
    rw [c1', Option.bind_some]
  · have := a3 t (by omega)
    unfold tyP at *
    simp only [g1, g3, g4, g8]
    exact this
  · refine a4 t u (by omega) (by omega) ?_
    unfold tyF at *
    simp only [g1, g2, g3, g4] at c
    exact c
  · obtain ⟨l, l1, l2⟩ := a5 hh hl
    obtain ⟨l', d1, d2⟩ := c3 hh hl l l1
    refine ⟨l', chT_keep d1 (fun t _ => rfl), fun t => ?_⟩
    simp only [g1, g2, g3, g4]
    rw [d2 t, l2 t]
    exact ⟨fun w => ⟨w.2, w.1.2⟩, fun w => ⟨⟨by omega, w.2⟩, w.1⟩⟩
  · have := b t (by omega)
    unfold tySz tyHs at *
    simp only [g1, g3, g4, g5, g8]
    exact this
