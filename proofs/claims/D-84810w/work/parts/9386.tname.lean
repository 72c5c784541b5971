set_option maxRecDepth 100000
/-! THE TWIN: the givens of a name -/
/-- types that a name may make -/
def jCg : List GVs → Nat
  | [] => 0
  | g :: l => (if g.1 < 100 then 0 else 2) + jCg l
def jC (E : JE) (lb : XL) : Nat := if lb.2.1 = 1 then (E.1[lb.2.2.1]?).elim 0 (fun f => min 60 (tsz f.2.2) + jCg f.2.1) else if lb.2.1 = 2 then 60 else 7
/-- what came of a given, or of all -/
def GvO {α : Type} (σ : tS) (n : Nat) (s : JS) (z : (Nat × Nat) ⊕ (α × JS)) (C Z : Nat) (σ' : tS) (n' : Nat) : Prop := fr NFS NFA σ σ' ∧ TyS σ' n' ∧ tx σ n σ' n' ∧ (∀ k p, z = .inl (k, p) → k ≠ 0 ∧ gs σ' 452 = (k : Int) ∧ gs σ' 456 = (p : Int) ∧ n' ≤ n + C + 142 * (300 - s.1) + Z) ∧ ∀ a s', z = .inr (a, s') → gs σ' 452 = 0 ∧ gs σ' 812 = (s'.1 : Int) ∧ (s.1 ≤ s'.1 ∧ s'.1 ≤ 300) ∧ n' ≤ n + C + 142 * (s'.1 - s.1) ∧ ∃ D, s'.2 = s.2 ++ D ∧ ∀ X ∈ D, ∃ t, tyT σ' n' X t
section LTG
variable {σ τ : tS} {n n' : Nat} {E : JE} {B : Nat}
theorem fr_ON (F : fr OFS OFA σ τ) : fr NFS NFA σ τ := ⟨fun f hf => F.1 f (fun h => hf (by
  simp only [List.mem_cons, List.not_mem_nil, or_false] at h ⊢
  omega)), fun f hf => F.2 f (fun h => hf h)⟩
theorem t_asks : T_asks σ = some (us (us (us (us σ 808 0) 816 0) 823 0) 827 0) := rfl
/-- a question begins -/
theorem asks_W (S : TyS σ n) (J : JTE σ n E) {s : JS} (e812 : gs σ 812 = (s.1 : Int)) : ∃ τ, T_asks σ = some τ ∧ fr [808, 816, 823, 827] [] σ τ ∧ TyS τ n ∧ tx σ n τ n ∧ WkC τ n E.2.2.1 E.2.2.2.1 E.2.2.2.2 2 0 (0, s.1, s.2) := by
  have F : fr [808, 816, 823, 827] [] σ (us (us (us (us σ 808 0) 816 0) 823 0) 827 0) := by
    refine ⟨fun f hf => ?_, fun _ _ _ => rfl⟩
    simp only [List.mem_cons, List.not_mem_nil, or_false, not_or] at hf
    rw [gs_us, if_neg hf.2.2.2, gs_us, if_neg hf.2.2.1, gs_us, if_neg hf.2.1, gs_us, if_neg hf.1]
  have X : tx σ n (us (us (us (us σ 808 0) 816 0) 823 0) 827 0) n := ⟨Nat.le_refl _, fun _ _ _ _ _ => rfl⟩
  have FJ : fr JFS JFA σ (us (us (us (us σ 808 0) 816 0) 823 0) 827 0) := ⟨fun f hf => F.1 f (fun h => hf (by
    simp only [List.mem_cons, List.not_mem_nil, or_false] at h ⊢
    omega)), fun f _ => F.2 f List.not_mem_nil⟩
  have S' : TyS (us (us (us (us σ 808 0) 816 0) 823 0) 827 0) n := TyS_us (by decide) (TyS_us (by decide) (TyS_us (by decide) (TyS_us (by decide) S)))
  refine ⟨_, rfl, F, S', X, S', (JTE_keep FJ X J).1.1, (JTE_keep FJ X J).1.2, ?_, ?_, fun _ => ⟨?_, ?_, ?_⟩, fun z => by omega⟩
  · rw [gs_us, if_neg (by decide), gs_us, if_neg (by decide), gs_us, if_pos rfl]; rfl
  · rw [gs_us, if_neg (by decide), gs_us, if_pos rfl]
  · rw [gs_us, if_pos rfl]
  · rw [gs_us, if_neg (by decide), gs_us, if_neg (by decide), gs_us, if_neg (by decide), gs_us, if_pos rfl]; rfl
  · rw [F.1 812 (by decide)]; exact e812
theorem t_fails {k p : Nat} (e : gs σ 452 = 0) : T_fails (k : Int) (p : Int) σ = some (us (us σ 452 (k : Int)) 456 (p : Int)) := by
  unfold T_fails
  rw [if_pos e]
theorem fails_f {k p : Int} : fr [452, 456] [] σ (us (us σ 452 k) 456 p) ∧ gs (us (us σ 452 k) 456 p) 452 = k ∧ gs (us (us σ 452 k) 456 p) 456 = p := by
  refine ⟨⟨fun f hf => ?_, fun _ _ _ => rfl⟩, ?_, ?_⟩
  · simp only [List.mem_cons, List.not_mem_nil, or_false, not_or] at hf
    rw [gs_us, if_neg hf.2, gs_us, if_neg hf.1]
  · rw [gs_us, if_neg (by decide), gs_us, if_pos rfl]
  · rw [gs_us, if_pos rfl]
theorem TyS_u (S : TyS σ n) {f : Nat} {x : Int} (hf : f ≠ 532) : TyS (us σ f x) n := TyS_us (fun z => hf z.symm) S
/-- a class is to be had -/
theorem t_jcl (J : JOk E B) (hg : ∀ g ∈ E.2.2.2.2, g.1 < 100 → g.1 < E.2.2.1.length) {s : JS} {pl c : Nat} {T : Ty} {t : Int} {z : (Nat × Nat) ⊕ (Dc × JS)} (e : jcl E pl c T s = some z) (W : WkC σ n E.2.2.1 E.2.2.2.1 E.2.2.2.2 2 0 (0, s.1, s.2)) (ct : tyT σ n T t) (ok : tyOk E.2.2.2.1 T) (hz : tsz T ≤ 1000000) (h300 : s.1 ≤ 300) (R : n + 8900 < 126000) (f0 : gs σ 452 = 0) : ∃ σ' n', ((T_had (c : Int) t σ).bind fun p6 => if p6.1 ≠ 0 then some p6.2 else if (gs p6.2 823) = 0 then T_given_53 (pl : Int) 5 p6.2 else T_given_53 (pl : Int) 7 p6.2) = some σ' ∧ GvO σ n s z 0 8900 σ' n' := by
  unfold jcl ja at e
  cases q : hd E.2.2.1 E.2.2.2.1 E.2.2.2.2 70 (0, s.1, s.2) c T with
  | none => rw [q] at e; cases e
  | some a =>
  rw [q, Option.bind_some] at e
  have hB := J.1.1
  obtain ⟨v, σ1, n1, g1, o1, o2, o3, o4, o5, o6⟩ := t_had (ab := E.2.2.1) J.1.1 J.1.2.1 J.1.2.2.1 hg 70 (0, s.1, s.2) c T a σ n t q W ct ok.1 ok.2.2 hz (Nat.zero_le _) h300 (by show n + 81 * (60 - 0) + B < 126000; omega)
  have g1' : T_had (c : Int) t σ = some (v, σ1) := g1
  rw [g1', Option.bind_some]
  have f1 : gs σ1 452 = 0 := by rw [o1.1 452 (by decide)]; exact f0
  have flt : ∀ k : Nat, k ≠ 0 → n1 ≤ n + 142 * (300 - s.1) + 8900 → z = .inl (k, pl) → ∃ σ' n', T_given_53 (pl : Int) (k : Int) σ1 = some σ' ∧ GvO σ n s z 0 8900 σ' n' := fun k hk hn ez => by
    obtain ⟨u1, u2, u3⟩ := fails_f (σ := σ1) (k := (k : Int)) (p := (pl : Int))
    refine ⟨_, n1, by unfold T_given_53; rw [t_fails f1]; rfl, fr_trans (fr_ON o1) ⟨fun f hf => u1.1 f (fun h => hf (by
      simp only [List.mem_cons, List.not_mem_nil, or_false] at h ⊢
      omega)), fun f _ => u1.2 f List.not_mem_nil⟩, TyS_u (TyS_u o2 (by decide)) (by decide), tx_trans o3 ⟨Nat.le_refl _, fun _ _ _ _ _ => rfl⟩, fun k' p' q' => ?_, fun a s' q' => by rw [ez] at q'; cases q'⟩
    rw [ez] at q'
    injection Sum.inl.inj q' with q1 q2
    rw [← q1, ← q2]
    exact ⟨hk, u2, u3, by omega⟩
  cases a with
  | none =>
    obtain ⟨a1, a2, a3⟩ := o5 rfl
    have a3' : n1 ≤ n + 81 * (60 - 0) + B := a3
    have ez : z = .inl (7, pl) := (Option.some.inj e).symm
    simp only
    rw [a1, if_neg (fun z => z rfl), a2, if_neg (by decide)]
    exact flt 7 (by decide) (by omega) ez
  | some pb =>
    obtain ⟨b, s'⟩ := pb
    obtain ⟨a1, a2, a3, a4, a5, a6, a7, a8, D, a9, a10⟩ := o6 b s' rfl
    have sd' : s'.2.1 + 0 = s.1 + s'.1 := hd_cnt q
    have a8' : n1 ≤ n + 81 * (s'.1 - 0) := a8
    simp only at e ⊢
    cases b with
    | false =>
      rw [if_neg (by decide)] at e a2
      have ez : z = .inl (5, pl) := (Option.some.inj e).symm
      rw [a2, if_neg (fun z => z rfl), a1, if_pos rfl]
      exact flt 5 (by decide) (by omega) ez
    | true =>
      rw [if_pos rfl] at e a2
      rw [a2, if_pos (by decide)]
      obtain ⟨Dc0, hD⟩ := Option.isSome_iff_exists.mp (hd_dc q)
      rw [hD] at e
      have ez : z = .inr (Dc0, s'.2.1, s'.2.2) := (Option.some.inj e).symm
      refine ⟨σ1, n1, rfl, fr_ON o1, o2, o3, fun k p q' => (by rw [ez] at q'; cases q'), fun a s2 q' => ?_⟩
      rw [ez] at q'
      injection Sum.inr.inj q' with q1 q2
      rw [← q2]
      exact ⟨f1, a4, ⟨by show s.1 ≤ s'.2.1; omega, a6⟩, by show n1 ≤ n + 0 + 142 * (s'.2.1 - s.1); omega, D, a9, a10⟩
/-- two types are to be one -/
theorem t_jeq (J : JOk E B) {s : JS} {pl : Nat} {T U : Ty} {z : (Nat × Nat) ⊕ (Dc × JS)} (e : jeq E pl T U s = some z) (W : WkC σ n E.2.2.1 E.2.2.2.1 E.2.2.2.2 2 0 (0, s.1, s.2)) (cT : tyT σ n T (gs σ 884)) (cU : tyT σ n U (gs σ 888)) (okT : tyOk E.2.2.2.1 T) (okU : tyOk E.2.2.2.1 U) (hzT : tsz T ≤ 2000000000) (hzU : tsz U ≤ 2000000000) (h300 : s.1 ≤ 300) (R : tszW T ≤ 60 → tszW U ≤ 60 → n + 8900 < 126000) (f0 : gs σ 452 = 0) : ∃ σ' n', ((T_within (gs σ 884) σ).bind fun p3 => (T_within (gs p3.2 888) p3.2).bind fun p4 => if (gs p4.2 823) ≠ 0 then T_given_106 (pl : Int) 0 p4.2 else (T_one (gs p4.2 884) (gs p4.2 888) p4.2).bind fun p5 => if p5.1 = 0 then T_given_106 (pl : Int) 0 p5.2 else T_given_106 (pl : Int) 1 p5.2) = some σ' ∧ GvO σ n s z 0 8900 σ' n' ∧ (∀ a s', z = .inr (a, s') → n' ≤ n + 81 * (s'.1 - s.1)) ∧ (¬ (tszW T ≤ 60 ∧ tszW U ≤ 60) → n' = n) := by
  have S := W.1
  have hB := J.1.1
  have flt : ∀ (k : Nat) (σ1 : tS) (n1 : Nat), k ≠ 0 → fr NFS NFA σ σ1 → TyS σ1 n1 → tx σ n σ1 n1 → gs σ1 452 = 0 → n1 ≤ n + 142 * (300 - s.1) + 8900 → z = .inl (k, pl) → (¬ (tszW T ≤ 60 ∧ tszW U ≤ 60) → n1 = n) → ∃ σ' n', T_given_128 (pl : Int) (k : Int) σ1 = some σ' ∧ GvO σ n s z 0 8900 σ' n' ∧ (∀ a s', z = .inr (a, s') → n' ≤ n + 81 * (s'.1 - s.1)) ∧ (¬ (tszW T ≤ 60 ∧ tszW U ≤ 60) → n' = n) := fun k σ1 n1 hk o1 o2 o3 f1 hn ez hx => by
    obtain ⟨u1, u2, u3⟩ := fails_f (σ := σ1) (k := (k : Int)) (p := (pl : Int))
    refine ⟨_, n1, by unfold T_given_128; rw [t_fails f1]; rfl, ⟨fr_trans o1 ⟨fun f hf => u1.1 f (fun h => hf (by
      simp only [List.mem_cons, List.not_mem_nil, or_false] at h ⊢
      omega)), fun f _ => u1.2 f List.not_mem_nil⟩, TyS_u (TyS_u o2 (by decide)) (by decide), tx_trans o3 ⟨Nat.le_refl _, fun _ _ _ _ _ => rfl⟩, fun k' p' q' => ?_, fun a s' q' => by rw [ez] at q'; cases q'⟩, fun a s' q' => (by rw [ez] at q'; cases q'), hx⟩
    rw [ez] at q'
    injection Sum.inl.inj q' with q1 q2
    rw [← q1, ← q2]
    exact ⟨hk, u2, u3, by omega⟩
  unfold jeq at e
  rw [t_within S okT.1 cT, Option.bind_some]
  by_cases big : ¬ tszW T ≤ 60 ∨ ¬ tszW U ≤ 60
  · rw [if_pos big] at e
    have ez : z = .inl (7, pl) := (Option.some.inj e).symm
    -- some mark is set
    have key : ∃ σ1, ((T_within (gs (if tszW T ≤ 60 then σ else us σ 823 1) 888) (if tszW T ≤ 60 then σ else us σ 823 1)) = some (gs σ 888, σ1)) ∧ gs σ1 823 = 1 ∧ fr NFS NFA σ σ1 ∧ TyS σ1 n ∧ tx σ n σ1 n ∧ gs σ1 452 = 0 := by
      have m1 : ∀ σ2 : tS, fr [823] [] σ2 (us σ2 823 1) := fun σ2 => ⟨fun f hf => by rw [gs_us, if_neg (by simpa using hf)], fun _ _ _ => rfl⟩
      have m2 : ∀ (σ2 τ2 : tS), fr [823] [] σ2 τ2 → fr NFS NFA σ2 τ2 := fun σ2 τ2 F => ⟨fun f hf => F.1 f (fun h => hf (by
        simp only [List.mem_cons, List.not_mem_nil, or_false] at h ⊢
        omega)), fun f _ => F.2 f List.not_mem_nil⟩
      by_cases bT : tszW T ≤ 60
      · rw [if_pos bT]
        have bU := big.resolve_left (fun z => z bT)
        refine ⟨us σ 823 1, by rw [t_within S okU.1 cU, if_neg bU], by rw [gs_us, if_pos rfl], m2 _ _ (m1 σ), TyS_u S (by decide), ⟨Nat.le_refl _, fun _ _ _ _ _ => rfl⟩, by rw [gs_us, if_neg (by decide)]; exact f0⟩
      · rw [if_neg bT]
        have S1 : TyS (us σ 823 1) n := TyS_u S (by decide)
        have e888 : gs (us σ 823 1) 888 = gs σ 888 := by rw [gs_us, if_neg (by decide)]
        have cU1 : tyT (us σ 823 1) n U (gs σ 888) := tyT_mono (σ := σ) (n := n) (τ := us σ 823 1) ⟨Nat.le_refl _, fun _ _ _ _ _ => rfl⟩ cU
        rw [e888, t_within S1 okU.1 cU1]
        by_cases bU : tszW U ≤ 60
        · rw [if_pos bU]
          exact ⟨us σ 823 1, rfl, by rw [gs_us, if_pos rfl], m2 _ _ (m1 σ), S1, ⟨Nat.le_refl _, fun _ _ _ _ _ => rfl⟩, by rw [gs_us, if_neg (by decide)]; exact f0⟩
        · rw [if_neg bU]
          exact ⟨us (us σ 823 1) 823 1, rfl, by rw [gs_us, if_pos rfl], fr_trans (m2 _ _ (m1 σ)) (m2 _ _ (m1 _)), TyS_u S1 (by decide), ⟨Nat.le_refl _, fun _ _ _ _ _ => rfl⟩, by rw [gs_us, if_neg (by decide), gs_us, if_neg (by decide)]; exact f0⟩
    obtain ⟨σ1, k1, k2, k3, k4, k5, k6⟩ := key
    rw [k1, Option.bind_some]
    simp only
    rw [if_pos (by rw [k2]; decide)]
    unfold T_given_106
    rw [if_neg (fun z => z rfl), if_neg (by rw [k2]; decide)]
    exact flt 7 σ1 n (by decide) k3 k4 k5 k6 (by omega) ez (fun _ => rfl)
  · rw [if_neg big] at e
    have bT : tszW T ≤ 60 := Classical.byContradiction (fun z => big (.inl z))
    have bU : tszW U ≤ 60 := Classical.byContradiction (fun z => big (.inr z))
    have R := R bT bU
    have nbx : ∀ {n1 : Nat}, ¬ (tszW T ≤ 60 ∧ tszW U ≤ 60) → n1 = n := fun w => absurd ⟨bT, bU⟩ w
    have zT : tsz T ≤ 60 := by have := tszW_eq (T := T) (by omega); omega
    have zU : tsz U ≤ 60 := by have := tszW_eq (T := U) (by omega); omega
    rw [if_pos bT, t_within S okU.1 cU, if_pos bU, Option.bind_some]
    simp only
    rw [if_neg (by rw [W.2.2.2.2.1]; exact fun z => z rfl)]
    unfold ja at e
    cases q : oneP E.2.2.2.1 E.2.2.2.2 (0, s.1, s.2) T U with
    | none => rw [q] at e; cases e
    | some a =>
    rw [q, Option.bind_some] at e
    obtain ⟨v, σ1, n1, g1, o1, o2, o3, o4, o5, o6⟩ := t_one (ab := E.2.2.1) J.1.1 J.1.2.1 J.1.2.2.1 q W cT cU okT.1 okU.1 okT.2.2 okU.2.2 (by omega) (by omega) (Nat.zero_le _) h300 (by show n + 81 * (60 - 0) + B < 126000; omega)
    rw [g1, Option.bind_some]
    have f1 : gs σ1 452 = 0 := by rw [o1.1 452 (by decide)]; exact f0
    simp only
    unfold T_given_106
    cases a with
    | none =>
      obtain ⟨a1, a2, a3⟩ := o5 rfl
      have a3' : n1 ≤ n + 81 * (60 - 0) + B := a3
      have ez : z = .inl (7, pl) := (Option.some.inj e).symm
      rw [a1, if_pos rfl, if_neg (fun z => z rfl), a2, if_neg (by decide)]
      exact flt 7 σ1 n1 (by decide) (fr_ON o1) o2 o3 f1 (by omega) ez nbx
    | some pb =>
      obtain ⟨b, s'⟩ := pb
      obtain ⟨a1, a2, a3, a4, a5, a6, a7, a8, D, a9, a10⟩ := o6 b s' rfl
      have sd' : s'.2.1 + 0 = s.1 + s'.1 := one_cnt q
      have a8' : n1 ≤ n + 81 * (s'.1 - 0) := a8
      simp only at e
      cases b with
      | false =>
        rw [if_neg (by decide)] at e a2
        have ez : z = .inl (6, pl) := (Option.some.inj e).symm
        rw [a2, if_pos rfl, if_neg (fun z => z rfl), a1, if_pos rfl]
        exact flt 6 σ1 n1 (by decide) (fr_ON o1) o2 o3 f1 (by omega) ez nbx
      | true =>
        rw [if_pos rfl] at e a2
        rw [a2, if_neg (by decide), if_pos (by decide)]
        have ez : z = .inr (.inner 2 (0, 0, T, U) () .leaf .leaf, s'.2.1, s'.2.2 ++ [T, U]) := (Option.some.inj e).symm
        refine ⟨σ1, n1, rfl, ⟨fr_ON o1, o2, o3, fun k p q' => (by rw [ez] at q'; cases q'), fun a s2 q' => ?_⟩, fun a s2 q' => ?_, nbx⟩
        rotate_left
        · rw [ez] at q'
          injection Sum.inr.inj q' with q1 q2
          rw [← q2]
          show n1 ≤ n + 81 * (s'.2.1 - s.1)
          omega
        rw [ez] at q'
        injection Sum.inr.inj q' with q1 q2
        rw [← q2]
        refine ⟨f1, a4, ⟨by show s.1 ≤ s'.2.1; omega, a6⟩, by show n1 ≤ n + 0 + 142 * (s'.2.1 - s.1); omega, D ++ [T, U], ?_, fun X hX => ?_⟩
        · show s'.2.2 ++ [T, U] = s.2 ++ (D ++ [T, U])
          rw [show s'.2.2 = s.2 ++ D from a9, List.append_assoc]
        · rcases List.mem_append.mp hX with hX | hX
          · exact a10 X hX
          · rcases List.mem_cons.mp hX with hX | hX
            · rw [hX]; exact ⟨_, tyT_mono o3 cT⟩
            · rw [List.mem_singleton.mp hX]; exact ⟨_, tyT_mono o3 cU⟩
end LTG
