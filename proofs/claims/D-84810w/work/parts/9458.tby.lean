set_option maxRecDepth 100000
/-! WHAT IS GIVEN IN AN INST; ITS HEAD (the twin) -/
/-- an inst's conditions, as what is given -/
def gvI (d : INs) : List GVs := d.2.2.2.1.map (fun c => (c.1, d.2.2.1.getD c.2 0, .leaf))
/-- an inst's head -/
def hdI (d : INs) : Ty := tnd 1 d.2.1 (hdN d.2.2.1 0) (hdN d.2.2.1 1)
section LBY
variable {σ τ : tS} {n f C : Nat} {d : INs}
theorem t_scp (hf : f < 20) (e702 : ga σ 702 f = (d.2.2.1.length : Int)) (h2 : d.2.2.1.length ≤ 2) : ∀ (k j : Nat) (σ1 : tS), j + k = d.2.2.1.length → fr [784] [778] σ σ1 → gs σ1 784 = (j : Int) → ∃ τ, om_loop (T_headScope_7s (f : Int)) ((j : Int), σ1) = some τ ∧ fr [784] [778] σ τ
  | 0, j, σ1, e, F, g => by
    refine ⟨σ1, om_loop_out ?_, F⟩
    unfold T_headScope_7s
    simp only
    rw [if_pos (by omega), show ((f : Int)).toNat = f by omega, F.2 702 (by simp), e702, if_pos (by omega)]
  | k + 1, j, σ1, e, F, g => by
    have w1 : w32 (2 * (f : Int)) = ((2 * f : Nat) : Int) := by rw [w32_s (by omega) (by omega)]; omega
    have w2 : w32 (((2 * f : Nat) : Int) + (j : Int)) = ((2 * f + j : Nat) : Int) := by rw [w32_s (by omega) (by omega)]; omega
    have st : T_headScope_7s (f : Int) ((j : Int), σ1) = some (.inl (((j + 1 : Nat) : Int), us (ua σ1 778 j (ga σ1 706 (2 * f + j))) 784 ((j + 1 : Nat) : Int))) := by
      unfold T_headScope_7s
      simp only
      rw [if_pos (by omega), show ((f : Int)).toNat = f by omega, F.2 702 (by simp), e702, if_neg (by omega), if_neg (by omega), w1, w2, g, if_pos (by omega), show (((2 * f + j : Nat) : Int)).toNat = 2 * f + j by omega, show ((j : Int)).toNat = j by omega, w32_s (by omega) (by omega)]
      rfl
    obtain ⟨τ, r1, r2⟩ := t_scp hf e702 h2 k (j + 1) (us (ua σ1 778 j (ga σ1 706 (2 * f + j))) 784 ((j + 1 : Nat) : Int)) (by omega) (fr_us (fr_ua F (by simp)) (by simp)) (by rw [gs_us, if_pos rfl])
    exact ⟨τ, by rw [om_loop_in st]; exact r1, r2⟩
/-- the conditions are laid -/
theorem t_cnd (hf : f < 20) (h2 : d.2.2.1.length ≤ 2) (h4 : d.2.2.2.1.length ≤ 4) (e706 : ∀ (j w : Nat), d.2.2.1[j]? = some w → ga σ 706 (2 * f + j) = (w : Int)) (ec : ∀ (j : Nat) (c : Nat × Nat), d.2.2.2.1[j]? = some c → ga σ 714 (4 * f + j) = (c.1 : Int) ∧ ga σ 718 (4 * f + j) = (c.2 : Int) ∧ c.2 < d.2.2.1.length) : ∀ (k j : Nat) (σ1 : tS), j + k = d.2.2.2.1.length → fr [784, 792] [778, 798, 802, 806] σ σ1 → gs σ1 792 = (d.2.2.2.1.length : Int) → (∀ (i : Nat) (g : GVs), i < j → (gvI d)[i]? = some g → ga σ1 798 i = (g.1 : Int) ∧ ga σ1 802 i = (g.2.1 : Int) ∧ ga σ1 806 i = -1) → ∃ τ, om_loop (T_byInstance_17s (f : Int)) ((j : Int), σ1) = some τ ∧ fr [784, 792] [778, 798, 802, 806] σ τ ∧ gs τ 792 = (d.2.2.2.1.length : Int) ∧ (∀ (i : Nat) (g : GVs), (gvI d)[i]? = some g → ga τ 798 i = (g.1 : Int) ∧ ga τ 802 i = (g.2.1 : Int) ∧ ga τ 806 i = -1)
  | 0, j, σ1, e, F, g, H => by
    refine ⟨σ1, om_loop_out ?_, F, g, fun i g' e' => H i g' ?_ e'⟩
    · unfold T_byInstance_17s
      simp only
      rw [g, if_pos (by omega)]
    · have := (List.getElem?_eq_some_iff.mp e').1
      unfold gvI at this
      rw [List.length_map] at this
      omega
  | k + 1, j, σ1, e, F, g, H => by
    have ej : d.2.2.2.1[j]? = some (d.2.2.2.1[j]'(by omega)) := List.getElem?_eq_getElem (by omega)
    generalize d.2.2.2.1[j]'(by omega) = c at ej
    obtain ⟨c1, c2, c3⟩ := ec j c ej
    have ew : d.2.2.1[c.2]? = some (d.2.2.1[c.2]) := List.getElem?_eq_getElem c3
    have e6 := e706 c.2 _ ew
    have w1 : w32 (4 * (f : Int)) = ((4 * f : Nat) : Int) := by rw [w32_s (by omega) (by omega)]; omega
    have w2 : w32 (((4 * f : Nat) : Int) + (j : Int)) = ((4 * f + j : Nat) : Int) := by rw [w32_s (by omega) (by omega)]; omega
    have w3 : w32 (2 * (f : Int)) = ((2 * f : Nat) : Int) := by rw [w32_s (by omega) (by omega)]; omega
    have w4 : w32 (((2 * f : Nat) : Int) + (c.2 : Int)) = ((2 * f + c.2 : Nat) : Int) := by rw [w32_s (by omega) (by omega)]; omega
    have n1 : (((4 * f + j : Nat) : Int)).toNat = 4 * f + j := by omega
    have n2 : (((2 * f + c.2 : Nat) : Int)).toNat = 2 * f + c.2 := by omega
    have jN : ((j : Int)).toNat = j := by omega
    have st : T_byInstance_17s (f : Int) ((j : Int), σ1) = some (.inl (((j + 1 : Nat) : Int), ua (ua (ua σ1 798 j (c.1 : Int)) 802 j ((d.2.2.1[c.2] : Nat) : Int)) 806 j (-1))) := by
      unfold T_byInstance_17s
      simp only
      rw [g, if_neg (by omega), w1, w2, w3, n1, F.2 718 (by simp), c2, w4, if_pos (by omega), n2, jN, F.2 714 (by simp), c1, F.2 706 (by simp), e6, w32_s (by omega) (by omega)]
      rfl
    obtain ⟨τ, r1, r2, r3, r4⟩ := t_cnd hf h2 h4 e706 ec k (j + 1) (ua (ua (ua σ1 798 j (c.1 : Int)) 802 j ((d.2.2.1[c.2] : Nat) : Int)) 806 j (-1)) (by omega) (fr_ua (fr_ua (fr_ua F (by simp)) (by simp)) (by simp)) g (fun i g' hi e' => by
      by_cases z : i = j
      · subst z
        have eg : g' = (c.1, d.2.2.1.getD c.2 0, .leaf) := by
          unfold gvI at e'
          rw [List.getElem?_map, ej] at e'
          exact (Option.some.inj e').symm
        rw [eg]
        refine ⟨?_, ?_, ?_⟩
        · rw [ga_ua, if_neg (by simp), ga_ua, if_neg (by simp), ga_ua, if_pos ⟨rfl, rfl⟩]
        · rw [ga_ua, if_neg (by simp), ga_ua, if_pos ⟨rfl, rfl⟩]
          show _ = ((d.2.2.1.getD c.2 0 : Nat) : Int)
          rw [List.getD_eq_getElem?_getD, ew]; rfl
        · rw [ga_ua, if_pos ⟨rfl, rfl⟩]
      · obtain ⟨a1, a2, a3⟩ := H i g' (by omega) e'
        refine ⟨?_, ?_, ?_⟩
        · rw [ga_ua, if_neg (fun w => z w.2), ga_ua, if_neg (fun w => z w.2), ga_ua, if_neg (fun w => z w.2)]; exact a1
        · rw [ga_ua, if_neg (fun w => z w.2), ga_ua, if_neg (fun w => z w.2), ga_ua, if_neg (fun w => z w.2)]; exact a2
        · rw [ga_ua, if_neg (fun w => z w.2), ga_ua, if_neg (fun w => z w.2), ga_ua, if_neg (fun w => z w.2)]; exact a3)
    exact ⟨τ, by rw [om_loop_in st]; exact r1, r2, r3, r4⟩
/-- WHAT IS GIVEN IN AN INST, in the twin -/
theorem t_byI (hf : f < 20) (hC : C ≤ 8) (P : InTw σ n C f d) : ∃ τ, T_byInstance (f : Int) σ = some τ ∧ fr [784, 792] [778, 798, 802, 806] σ τ ∧ GVT τ n (gvI d) := by
  obtain ⟨⟨a1, a1'⟩, ⟨a2, a2'⟩, ⟨a3, a4, a5⟩, ⟨a6, a7, a8⟩, _⟩ := P
  have p2 : d.2.2.1.length ≤ 2 := by rw [a4]; unfold pN; split <;> omega
  obtain ⟨σ1, b1, b2⟩ := t_scp (d := d) (σ := σ) hf a3 p2 d.2.2.1.length 0 (us σ 784 0) (by omega) (fr_us (fr_refl _ _ _) (by simp)) (by rw [gs_us, if_pos rfl]; rfl)
  rw [show ((0 : Nat) : Int) = 0 from rfl] at b1
  have F1 : fr [784, 792] [778, 798, 802, 806] σ (us σ1 792 (ga σ1 710 f)) := fr_us (fr_wide b2 (by simp) (by simp)) (by simp)
  obtain ⟨τ, c1, c2, c3, c4⟩ := t_cnd (d := d) (σ := σ) hf p2 a7 a5 (fun j c e => by
    obtain ⟨u1, u2, u3, u4⟩ := a8 j c e
    exact ⟨u1, u2, u4⟩) d.2.2.2.1.length 0 (us σ1 792 (ga σ1 710 f)) (by omega) F1 (by rw [gs_us, if_pos rfl, b2.2 710 (by simp)]; exact a6) (fun i g hi => by omega)
  rw [show ((0 : Nat) : Int) = 0 from rfl] at c1
  have lg : (gvI d).length = d.2.2.2.1.length := by unfold gvI; rw [List.length_map]
  refine ⟨τ, ?_, c2, by rw [c3, lg], by omega, fun i g e => ?_⟩
  · unfold T_byInstance T_headScope
    rw [b1, Option.bind_some, Option.bind_some, if_pos (by omega), show ((f : Int)).toNat = f by omega, c1, Option.bind_some]
  · obtain ⟨u1, u2, u3⟩ := c4 i g e
    have eg : ∃ c, d.2.2.2.1[i]? = some c ∧ g = (c.1, d.2.2.1.getD c.2 0, .leaf) := by
      unfold gvI at e
      rw [List.getElem?_map] at e
      cases q : d.2.2.2.1[i]? with
      | none => rw [q] at e; cases e
      | some c => rw [q] at e; exact ⟨c, rfl, (Option.some.inj e).symm⟩
    obtain ⟨c, ec, eg⟩ := eg
    have cC := (a8 i c ec).2.2.1
    refine ⟨u1, u2, ?_, by rw [eg]; show c.1 < 108; omega⟩
    rw [eg]
    exact u3
/-- AN INST's HEAD, in the twin -/
theorem t_hdI (hf : f < 20) (S : TyS σ n) (hn : n + 3 ≤ 126000) (P : InTw σ n C f d) : ∃ t τ n', T_head (f : Int) σ = some (t, τ) ∧ fr [532] TYA σ τ ∧ TyS τ n' ∧ tx σ n τ n' ∧ n' ≤ n + 3 ∧ tyT τ n' (hdI d) t := by
  obtain ⟨⟨a1, a1'⟩, ⟨a2, a2'⟩, ⟨a3, a4, a5⟩, _⟩ := P
  have fN : ((f : Int)).toNat = f := by omega
  have p2 : d.2.2.1.length ≤ 2 := by rw [a4]; unfold pN; split <;> omega
  have w1 : w32 (2 * (f : Int)) = ((2 * f : Nat) : Int) := by rw [w32_s (by omega) (by omega)]; omega
  have w2 : w32 (((2 * f : Nat) : Int) + 1) = ((2 * f + 1 : Nat) : Int) := by rw [w32_s (by omega) (by omega)]; omega
  -- the first name
  obtain ⟨t1, σ1, n1, s1, F1, S1, x1, l1, c1⟩ : ∃ t1 σ1 n1, T_head (f : Int) σ = T_head_28 (f : Int) t1 σ1 ∧ fr [532] TYA σ σ1 ∧ TyS σ1 n1 ∧ tx σ n σ1 n1 ∧ n1 ≤ n + 1 ∧ tyT σ1 n1 (hdN d.2.2.1 0) t1 := by
    unfold T_head
    rw [if_pos (by omega), fN, a3]
    by_cases z : d.2.2.1.length = 0
    · rw [if_pos (by omega)]
      refine ⟨-1, σ, n, rfl, fr_refl _ _ _, S, tx_refl _ _, by omega, ?_⟩
      unfold hdN
      rw [List.getElem?_eq_none (by omega)]
      rfl
    · have e0 : d.2.2.1[0]? = some (d.2.2.1[0]'(by omega)) := List.getElem?_eq_getElem (by omega)
      have e6 := a5 0 _ e0
      rw [Nat.add_zero] at e6
      rw [if_neg (by omega), w1, if_pos (by omega), show (((2 * f : Nat) : Int)).toNat = 2 * f by omega, e6]
      obtain ⟨t1, σ1, n1, b1, b2, b3, b4, b5, b6, _⟩ := t_get (k := 0) (w := d.2.2.1[0]'(by omega)) (l := .leaf) (r := .leaf) (o := -1) (u := -1) S (by omega) rfl rfl (by omega) (by unfold shZ; omega)
      have b1' : T_aType 0 ((d.2.2.1[0]'(by omega) : Nat) : Int) (-1) (-1) σ = some (t1, σ1) := b1
      rw [b1', Option.bind_some]
      refine ⟨t1, σ1, n1, rfl, b6, b2, b3, b4, ?_⟩
      unfold hdN
      rw [e0]
      exact b5
  have a3' : ga σ1 702 f = (d.2.2.1.length : Int) := by rw [F1.2 702 (by decide)]; exact a3
  -- the second name
  obtain ⟨t2, σ2, n2, s2, F2, S2, x2, l2, c2⟩ : ∃ t2 σ2 n2, T_head_28 (f : Int) t1 σ1 = T_head_60 (f : Int) t1 t2 σ2 ∧ fr [532] TYA σ1 σ2 ∧ TyS σ2 n2 ∧ tx σ1 n1 σ2 n2 ∧ n2 ≤ n1 + 1 ∧ tyT σ2 n2 (hdN d.2.2.1 1) t2 := by
    unfold T_head_28
    rw [if_pos (by omega), fN, a3']
    by_cases z : d.2.2.1.length ≤ 1
    · rw [if_pos (by omega)]
      refine ⟨-1, σ1, n1, rfl, fr_refl _ _ _, S1, tx_refl _ _, by omega, ?_⟩
      unfold hdN
      rw [List.getElem?_eq_none (by omega)]
      rfl
    · have e0 : d.2.2.1[1]? = some (d.2.2.1[1]'(by omega)) := List.getElem?_eq_getElem (by omega)
      have e6 : ga σ1 706 (2 * f + 1) = ((d.2.2.1[1]'(by omega) : Nat) : Int) := by rw [F1.2 706 (by decide)]; exact a5 1 _ e0
      rw [if_neg (by omega), w1, w2, if_pos (by omega), show (((2 * f + 1 : Nat) : Int)).toNat = 2 * f + 1 by omega, e6]
      obtain ⟨t2, σ2, n2, b1, b2, b3, b4, b5, b6, _⟩ := t_get (k := 0) (w := d.2.2.1[1]'(by omega)) (l := .leaf) (r := .leaf) (o := -1) (u := -1) S1 (by omega) rfl rfl (by omega) (by unfold shZ; omega)
      have b1' : T_aType 0 ((d.2.2.1[1]'(by omega) : Nat) : Int) (-1) (-1) σ1 = some (t2, σ2) := b1
      rw [b1', Option.bind_some]
      refine ⟨t2, σ2, n2, rfl, b6, b2, b3, b4, ?_⟩
      unfold hdN
      rw [e0]
      exact b5
  have c1' := tyT_mono x2 c1
  have l0 : ∀ i, hdN d.2.2.1 i = .leaf ↔ d.2.2.1.length ≤ i := fun i => by
    unfold hdN
    rcases Nat.lt_or_ge i d.2.2.1.length with z | z
    · rw [List.getElem?_eq_getElem z]
      exact ⟨fun w => (by cases w), fun w => by omega⟩
    · rw [List.getElem?_eq_none z]
      exact ⟨fun _ => z, fun _ => rfl⟩
  have m1 := tyT_0 c1'
  have m2 := tyT_0 c2
  have k0 := l0 0
  have k1 := l0 1
  obtain ⟨t, τ, n', b1, b2, b3, b4, b5, b6, _⟩ := t_get (k := 1) (w := d.2.1) (l := hdN d.2.2.1 0) (r := hdN d.2.2.1 1) (o := t1) (u := t2) S2 (by omega) c1' c2 (by omega) (by
    unfold shZ
    have q1 : t1 = -1 ↔ d.2.2.1.length ≤ 0 := m1.symm.trans k0
    have q2 : t2 = -1 ↔ d.2.2.1.length ≤ 1 := m2.symm.trans k1
    unfold pN at a4
    simp only [ne_eq, q1, q2]
    split at a4 <;> omega)
  refine ⟨t, τ, n', ?_, fr_trans (fr_trans F1 F2) b6, b2, tx_trans (tx_trans x1 x2) b3, by omega, b5⟩
  rw [s1, s2]
  unfold T_head_60
  have b1' : T_aType 1 (d.2.1 : Int) t1 t2 σ2 = some (t, τ) := b1
  rw [if_pos (by omega), fN, F2.2 698 (by decide), F1.2 698 (by decide), a2, b1']
  rfl
end LBY
