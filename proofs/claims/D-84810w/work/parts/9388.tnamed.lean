set_option maxRecDepth 100000
/-! THE TWIN: a name is judged -/
section LTN2
variable {σ τ : tS} {n n' : Nat} {E : JE} {B : Nat}
theorem nmT_638 {lb : XL} {hi v : Nat} (H : nmTw σ n lb hi v) (k0 : lb.2.1 ≠ 0) : ga σ 550 v = -1 ∧ ga σ 642 lb.2.2.2.1 = (lb.2.2.1 : Int) ∧ ((lb.2.1 = 1 ∧ ga σ 638 lb.2.2.2.1 = 1) ∨ (lb.2.1 = 2 ∧ ga σ 638 lb.2.2.2.1 = 2) ∨ (lb.2.1 = 3 ∧ ga σ 638 lb.2.2.2.1 ≠ 1 ∧ ga σ 638 lb.2.2.2.1 ≠ 2)) := by
  rcases H.2.1 with h | h
  · exact absurd h.1 k0
  · exact h.2
/-- A FUNCTION'S GIVENS -/
theorem t_givens (J : JOk E B) (hg : ∀ g ∈ E.2.2.2.2, g.1 < 100 → g.1 < E.2.2.1.length) {lb : XL} {hi v : Nat} (v84 : v < 4200 ∧ hi ≤ 4200) (k1 : lb.2.1 = 1) {f : List Nat × List GVs × Ty} (ef : E.1[lb.2.2.1]? = some f) (hok : ∀ a ∈ lb.2.2.2.2.2, tyOk E.2.2.2.1 a.1 ∧ tsz a.1 ≤ 2700) (hl : lb.2.2.2.2.2.length = f.1.length) {pl : Nat} {l8 : Int} : ∀ (l : List GVs) (j : Nat) (σ : tS) (n : Nat) (s : JS) (z : (Nat × Nat) ⊕ (List Dc × JS)), f.2.1.drop j = l → j ≤ f.2.1.length → jgv E pl (f.1.zip (lb.2.2.2.2.2.map Prod.fst)) l s = some z → TyS σ n → JTE σ n E → nmTw σ n lb hi v → gs σ 812 = (s.1 : Int) → s.1 ≤ 300 → n + jCg l + 142 * (300 - s.1) + 9000 < 126000 → gs σ 452 = 0 → ∃ σ' n', om_loop (T_named_274s (v : Int) (pl : Int) (lb.2.2.2.1 : Int) l8 (f.2.1.length : Int)) ((j : Int), σ) = some σ' ∧ GvO σ n s z (jCg l) 9000 σ' n'
  | [], j, σ, n, s, z, hd', hj, e, S, JT, H, e812, h300, R, f0 => by
    have lj : f.2.1.length ≤ j := List.drop_eq_nil_iff.mp hd'
    have ez : z = .inr ([], s) := (Option.some.inj e).symm
    refine ⟨σ, n, om_loop_out ?_, fr_refl _ _ _, S, tx_refl _ _, fun k p q => (by rw [ez] at q; cases q), fun a s' q => ?_⟩
    · unfold T_named_274s
      simp only
      rw [if_pos (by omega)]
    · rw [ez] at q
      injection Sum.inr.inj q with q1 q2
      rw [← q2]
      exact ⟨f0, e812, ⟨Nat.le_refl _, h300⟩, by omega, [], by rw [List.append_nil], fun X hX => absurd hX List.not_mem_nil⟩
  | g :: l, j, σ, n, s, z, hd', hj, e, S, JT, H, e812, h300, R, f0 => by
    have eg : f.2.1[j]? = some g := by
      have := congrArg (fun z => z[0]?) hd'
      simpa using this
    have jl := (List.getElem?_eq_some_iff.mp eg).1
    have f4 := (JT.2.1.2 _ f ef).2.1.2.1
    unfold jgv jb at e
    have eC : jCg (g :: l) = (if g.1 < 100 then 0 else 2) + jCg l := rfl
    rw [eC] at R
    cases q : (if g.1 < 100 then jcl E pl g.1 ((lkT (f.1.zip (lb.2.2.2.2.2.map Prod.fst)) g.2.1).getD .leaf) s else jeq E pl (tnd 2 (g.1 - 100) ((lkT (f.1.zip (lb.2.2.2.2.2.map Prod.fst)) g.2.1).getD .leaf) .leaf) (sbT (f.1.zip (lb.2.2.2.2.2.map Prod.fst)) g.2.2) s) with
    | none => rw [q] at e; cases e
    | some z1 =>
    rw [q, Option.bind_some] at e
    obtain ⟨σ1, n1, g1, o1, o2, o3, o4, o5⟩ := t_given1 J hg S JT v84 H k1 ef hok hl eg q e812 h300 (by omega) f0
    have st : T_named_274s (v : Int) (pl : Int) (lb.2.2.2.1 : Int) l8 (f.2.1.length : Int) ((j : Int), σ) = some (.inl (((j + 1 : Nat) : Int), σ1)) := by
      unfold T_named_274s
      simp only
      rw [if_neg (by omega), if_neg (fun z => z f0), g1, Option.bind_some, w32_s (by omega) (by omega)]
      rfl
    rw [om_loop_in st]
    cases z1 with
    | inl kp =>
      have ez : z = .inl kp := (Option.some.inj e).symm
      obtain ⟨y1, y2, y3, y4⟩ := o4 kp.1 kp.2 rfl
      refine ⟨σ1, n1, om_loop_out ?_, o1, o2, o3, fun k p q' => ?_, fun a s' q' => by rw [ez] at q'; cases q'⟩
      · unfold T_named_274s
        simp only
        by_cases c : (f.2.1.length : Int) ≤ ((j + 1 : Nat) : Int)
        · rw [if_pos c]
        · rw [if_neg c, if_pos (by rw [y2]; omega)]
      · rw [ez] at q'
        have e1 := Sum.inl.inj q'
        rw [e1] at y1 y2 y3
        exact ⟨y1, y2, y3, by rw [eC]; omega⟩
    | inr a =>
      obtain ⟨y1, y2, ⟨y3, y3'⟩, y4, D, y5, y6⟩ := o5 a.1 a.2 rfl
      have FJ := fr_NJ o1
      have e' : (jgv E pl (f.1.zip (lb.2.2.2.2.2.map Prod.fst)) l a.2).bind (Sum.elim (fun e => some (.inl e)) (fun b => some (.inr (a.1 :: b.1, b.2)))) = some z := e
      cases q2 : jgv E pl (f.1.zip (lb.2.2.2.2.2.map Prod.fst)) l a.2 with
      | none => rw [q2] at e'; cases e'
      | some z2 =>
      rw [q2, Option.bind_some] at e'
      obtain ⟨σ2, n2, r1, r2, r3, r4, r5, r6⟩ := t_givens J hg v84 k1 ef hok hl (pl := pl) (l8 := l8) l (j + 1) σ1 n1 a.2 z2 (by rw [← List.tail_drop, hd']; rfl) (by omega) q2 o2 (JTE_keep FJ o3 JT) (nmT_keep FJ o3 H) y2 y3' (by omega) y1
      refine ⟨σ2, n2, r1, fr_trans o1 r2, r3, tx_trans o3 r4, fun k p q' => ?_, fun b s' q' => ?_⟩
      · cases z2 with
        | inl kp =>
          have ez : z = .inl kp := (Option.some.inj e').symm
          rw [ez] at q'
          obtain ⟨w1, w2, w3, w4⟩ := r5 k p (by rw [Sum.inl.inj q'])
          exact ⟨w1, w2, w3, by rw [eC]; omega⟩
        | inr b =>
          have ez : z = .inr (a.1 :: b.1, b.2) := (Option.some.inj e').symm
          rw [ez] at q'; cases q'
      · cases z2 with
        | inl kp =>
          have ez : z = .inl kp := (Option.some.inj e').symm
          rw [ez] at q'; cases q'
        | inr b0 =>
          have ez : z = .inr (a.1 :: b0.1, b0.2) := (Option.some.inj e').symm
          rw [ez] at q'
          injection Sum.inr.inj q' with q1 q2
          obtain ⟨w1, w2, ⟨w3, w3'⟩, w4, D2, w5, w6⟩ := r6 b0.1 b0.2 rfl
          rw [← q2]
          refine ⟨w1, w2, ⟨by omega, w3'⟩, by rw [eC]; omega, D ++ D2, by rw [w5, y5, List.append_assoc], fun X hX => ?_⟩
          rcases List.mem_append.mp hX with h | h
          · obtain ⟨t, ht⟩ := y6 X h
            exact ⟨t, tyT_mono r4 ht⟩
          · exact w6 X h
/-- A METHOD'S CLASS -/
theorem t_given2 (J : JOk E B) (hg : ∀ g ∈ E.2.2.2.2, g.1 < 100 → g.1 < E.2.2.1.length) (S : TyS σ n) (JT : JTE σ n E) {lb : XL} {hi v : Nat} (v84 : v < 4200 ∧ hi ≤ 4200) (H : nmTw σ n lb hi v) (k2 : lb.2.1 = 2) {m : Nat × Nat × Ty} (em : E.2.1[lb.2.2.1]? = some (some m)) {T : Ty} {pa : Nat} (ea : lb.2.2.2.2.2 = [(T, pa)]) (ok : tyOk E.2.2.2.1 T ∧ tsz T ≤ 2700) {pl : Nat} {s : JS} {z : (Nat × Nat) ⊕ (Dc × JS)} (e : jcl E pl m.1 T s = some z) (e812 : gs σ 812 = (s.1 : Int)) (h300 : s.1 ≤ 300) (R : n + 8900 < 126000) (f0 : gs σ 452 = 0) : ∃ σ' n', T_given (v : Int) (lb.2.2.2.1 : Int) 0 (pl : Int) σ = some σ' ∧ GvO σ n s z 0 9000 σ' n' := by
  obtain ⟨σ1, a1, F1, S1, X1, W1⟩ := asks_W S JT (s := s) e812
  have FJ1 : fr JFS JFA σ σ1 := fr_sub F1 (by decide) (by decide)
  have JT1 := JTE_keep FJ1 X1 JT
  have H1 := nmT_keep FJ1 X1 H
  obtain ⟨wa, wb, wab, w1, w2, _⟩ := id JT1.2.2.2.1
  have eS : jnS E wa wb lb.2.1 lb.2.2.1 = [m.2.1] := by
    unfold jnS
    rw [if_neg (by omega), if_pos k2, em]; rfl
  have il := (List.getElem?_eq_some_iff.mp em).1
  have i32 := JT1.2.2.1.1
  obtain ⟨m1, m2, m3⟩ := JT1.2.2.1.2 _ m em
  obtain ⟨σ2, p1, F2, PT⟩ := t_putAts JT1 v84 H1 (by omega) ⟨w1, w2⟩ ⟨fun z => by omega, fun _ => ⟨m, em⟩⟩ (by rw [eS, ea]; rfl) (by rw [eS]; show 1 ≤ 4; decide)
  rw [eS, ea] at PT
  have X2 : tx σ1 n σ2 n := ⟨Nat.le_refl _, fun f hf _ x _ => F2.2 f (fun z => by
    simp only [List.mem_cons, List.not_mem_nil, or_false] at hf z
    omega) x⟩
  have S2 : TyS σ2 n := TyS_same (F2.1 532 (by decide)) (fun f hf i => F2.2 f (fun z => by
    simp only [List.mem_cons, List.not_mem_nil, or_false] at hf z
    omega) i) S1
  have cT : tyT σ2 n T (ga σ2 834 0) := (PT.2.2 0 (m.2.1, T) rfl).2
  have W2 := WkC_mv (fr_sub F2 (by decide) (by decide)) X2 S2 W1
  obtain ⟨_, nm2, nm3⟩ := nmT_638 H1 (by omega)
  have nm3' : ga σ1 638 lb.2.2.2.1 = 2 := by
    rcases nm3 with y | y | y
    · omega
    · exact y.2
    · omega
  have nm1 : lb.2.2.2.1 < 2100 := by obtain ⟨k', _, _, _, y4⟩ := H1.1; exact y4
  have e638 : ga σ2 638 lb.2.2.2.1 = 2 := by rw [F2.2 638 (by decide)]; exact nm3'
  have d4 : div32 (lb.2.2.1 : Int) 4 = ((lb.2.2.1 / 4 : Nat) : Int) := by
    unfold div32
    have a1 : (Int32.ofInt (lb.2.2.1 : Int)).toInt = (lb.2.2.1 : Int) := w32_s (by omega) (by omega)
    have a2 : (Int32.ofInt 4).toInt = 4 := by decide
    rw [Int32.toInt_div, a1, a2, Int.tdiv_eq_ediv_of_nonneg (by omega), bmod32 (by omega) (by omega)]
    omega
  generalize eσ3 : us (us (us σ2 880 ((lb.2.2.1 / 4 : Nat) : Int)) 884 (ga σ2 834 0)) 888 (-1) = σ3
  have gp : T_givenPut (v : Int) (lb.2.2.2.1 : Int) 0 σ1 = some σ3 := by
    unfold T_givenPut
    rw [if_pos (by omega), p1, Option.bind_some, if_pos (by omega), show ((lb.2.2.2.1 : Int)).toNat = lb.2.2.2.1 by omega, e638, if_neg (fun z => z rfl), nm2, d4, eσ3]
  have F3 : fr [880, 884, 888] [] σ2 σ3 := by
    rw [← eσ3]
    exact fr_trans (fr_trans (fr_sub fr_one (by decide) (by decide)) (fr_sub fr_one (by decide) (by decide))) (fr_sub fr_one (by decide) (by decide))
  have S3 : TyS σ3 n := by rw [← eσ3]; exact TyS_u (TyS_u (TyS_u S2 (by decide)) (by decide)) (by decide)
  have X3 : tx σ2 n σ3 n := by rw [← eσ3]; exact ⟨Nat.le_refl _, fun _ _ _ _ _ => rfl⟩
  have W3 := WkC_mv (fr_sub F3 (by decide) (by decide)) X3 S3 W2
  have g880 : gs σ3 880 = (m.1 : Int) := by rw [← eσ3, gs_us, if_neg (by decide), gs_us, if_neg (by decide), gs_us, if_pos rfl, m1]
  have g884 : gs σ3 884 = ga σ2 834 0 := by rw [← eσ3, gs_us, if_neg (by decide), gs_us, if_pos rfl]
  have N13 : fr NFS NFA σ σ3 := fr_trans (fr_trans (fr_sub F1 (by decide) (by decide)) (fr_sub F2 (by decide) (by decide))) (fr_sub F3 (by decide) (by decide))
  have X13 := tx_trans (tx_trans X1 X2) X3
  have f3 : gs σ3 452 = 0 := by rw [F3.1 452 (by decide), F2.1 452 (by decide), F1.1 452 (by decide)]; exact f0
  unfold T_given
  rw [a1, Option.bind_some, gp, Option.bind_some, g880, if_neg (by omega)]
  obtain ⟨σ', n', r1, r2, r3, r4, r5, r6⟩ := t_jcl J hg e W3 (t := gs σ3 884) (by rw [g884]; exact tyT_mono X3 cT) ok.1 (by omega) h300 (by omega) f3
  refine ⟨σ', n', r1, fr_trans N13 r2, r3, tx_trans X13 r4, fun k' p' q' => ?_, r6⟩
  obtain ⟨y1, y2, y3, y4⟩ := r5 k' p' q'
  exact ⟨y1, y2, y3, by omega⟩
/-- how many @s there are -/
theorem t_count {l1 l2 l3 l4 : Int} {all : Nat} : ∀ (os : List Nat) (c : Nat) (f : Int), chain σ f os → (∀ o ∈ os, o < 8400) → c ≤ all → all ≤ 10 → om_loop (T_named_102s l1 l2 l3 l4 (all : Int) σ) ((c : Int), f) = some (match os[all - c]? with | some o => .inl (o : Int) | none => .inr ((c + os.length : Nat) : Int))
  | [], c, f, ch, _, hc, ha => by
    have f1 : f = -1 := ch
    refine om_loop_out ?_
    unfold T_named_102s
    simp only
    rw [if_pos f1]
    rfl
  | o :: os, c, f, ch, ho, hc, ha => by
    have ef : f = (o : Int) := ch.1
    have o84 := ho o List.mem_cons_self
    by_cases q : c = all
    · refine om_loop_out ?_
      unfold T_named_102s
      simp only
      rw [ef, if_neg (by omega), if_neg (fun z => z (by omega)), show all - c = 0 by omega]
      rfl
    · have st : T_named_102s l1 l2 l3 l4 (all : Int) σ ((c : Int), f) = some (.inl (((c + 1 : Nat) : Int), ga σ 562 o)) := by
        unfold T_named_102s
        simp only
        rw [ef, if_neg (by omega), if_pos (by omega), if_pos (by omega), w32_s (by omega) (by omega), show ((o : Int)).toNat = o by omega]
        rfl
      rw [om_loop_in st, t_count os (c + 1) (ga σ 562 o) ch.2 (fun x hx => ho x (List.mem_cons_of_mem _ hx)) (by omega) ha]
      rw [show all - c = (all - (c + 1)) + 1 by omega, List.getElem?_cons_succ]
      cases os[all - (c + 1)]? with
      | some x => rfl
      | none =>
        show some (Sum.inr _) = some (Sum.inr _)
        rw [List.length_cons, show c + 1 + os.length = c + (os.length + 1) by omega]
end LTN2
