set_option maxRecDepth 100000
/-! THE TWIN JUDGES: what lies left in one another -/
noncomputable def jKK (r : Int → tS → Option (Int × tS)) (l1 fm : Int) (y : Int × tS) : Option tS := (om_loop (T_judge_7s r l1 fm) y).bind fun y1 => if 0 ≤ y1.1 ∧ y1.1 < 8400 then ((T_judgeOne r y1.1 (ua y1.2 846 y1.1.toNat (-1))).bind fun p2 => if 0 ≤ y1.1 ∧ y1.1 < 8400 then om_loop (T_judge_63s r l1 fm) (ua p2.2 842 y1.1.toNat p2.1) else none) else none
/-- what the judge of an ex does, before those that wait -/
def JSp (E : JE) (r : Int → tS → Option (Int × tS)) (t : Xt) : Prop := ∀ (Γ : List Ty) (s : JS) (z : (Nat × Nat) ⊕ (Et × JS)) (σ : tS) (n lo hi v sp b fm : Nat) (l1 : Int), JH E t Γ s z σ n lo hi v sp b → fm ≤ sp → ∃ (σ' : tS) (n' : Nat), jKK r l1 (fm : Int) ((v : Int), σ) = om_loop (T_judge_63s r l1 (fm : Int)) σ' ∧ JPost E t Γ s z σ n lo hi v sp (ga σ' 842 v) σ' n'
section LJU
variable {E : JE} {B : Nat}
/-- nothing lies left of it -/
theorem sp_head {r : Int → tS → Option (Int × tS)} {t : Nat} {lb : XL} {u : Unit} {l r' : Xt} (ht : t ≠ 12 ∧ t ≠ 13 ∧ t ≠ 18) (H : JHd E r (.inner t lb u l r')) : JSp E r (.inner t lb u l r') := by
  intro Γ s z σ n lo hi v sp b fm l1 h hf
  have XP := h.2.2.1
  have i84 := XTg_in XP
  have h538 : ga σ 538 v = (t : Int) := by
    unfold XTp at XP
    rw [XTg_e] at XP
    exact XP.2.1
  obtain ⟨x, σ1, n', e1, P⟩ := H Γ s z σ n lo hi v sp b h
  have vN : ((v : Int)).toNat = v := by omega
  have vb : 0 ≤ (v : Int) ∧ (v : Int) < 8400 := by omega
  have st : om_loop (T_judge_7s r l1 (fm : Int)) ((v : Int), σ) = some ((v : Int), σ) := by
    refine om_loop_out ?_
    have hl : T_hasLeft (v : Int) σ = some 0 := by
      unfold T_hasLeft T_hasLeft_38
      rw [if_pos vb, vN, h538, if_neg (by omega), if_pos vb, if_neg (by omega), if_pos vb, if_pos (by omega), if_pos (.inl rfl)]
    unfold T_judge_7s
    simp only
    rw [hl, Option.bind_some, if_pos rfl]
  refine ⟨ua σ1 842 v x, n', ?_, by
    have : ga (ua σ1 842 v x) 842 v = x := by rw [ga_ua, if_pos ⟨rfl, rfl⟩]
    rw [this]; exact P⟩
  unfold jKK
  rw [st, Option.bind_some]
  simp only
  rw [if_pos vb, vN, e1, Option.bind_some, if_pos vb]
/-- what waits is judged in its turn -/
theorem sp_left {r : Int → tS → Option (Int × tS)} {t : Nat} {lb : XL} {u : Unit} {l r' : Xt} (ht : t = 12 ∨ t = 13 ∨ t = 18) (Sl : JSp E r l)
    (Hu : ∀ (Γ : List Ty) (s : JS) (z z1 : (Nat × Nat) ⊕ (Et × JS)) (σ σ2 : tS) (n n1 lo hi v sp b m xl : Nat), JH E (.inner t lb u l r') Γ s z σ n lo hi v sp b → jd E l Γ s = some z1 → XTp σ n l lo m xl → m ≤ v → ga σ 546 v = (xl : Int) → (t ≠ 13 → ∃ xr : Nat, ga σ 550 v = (xr : Int) ∧ XTp σ n r' m v xr) → ∀ a sa, z1 = .inr (a, sa) → JX E σ n s lo hi v sp Γ.length σ2 n1 Γ sa (jct E l) → XTe σ2 n1 a lo m xl → ∃ (y : Int) (σ3 : tS) (n3 : Nat), T_judgeUp r (v : Int) (ga σ2 842 xl) σ2 = some (y, σ3) ∧ JPost E (.inner t lb u l r') Γ s z σ n lo hi v sp y (ua σ3 842 v y) n3)
    (Hz : ∀ (Γ : List Ty) (s : JS) (z : (Nat × Nat) ⊕ (Et × JS)), jd E (.inner t lb u l r') Γ s = some z → ∃ z1, jd E l Γ s = some z1 ∧ ∀ kp, z1 = .inl kp → z = .inl kp) : JSp E r (.inner t lb u l r') := by
  intro Γ s z σ n lo hi v sp b fm l1 h hf
  obtain ⟨e, A, XP, ok, gl, ⟨hb, hb2⟩, hbd, hsp, R⟩ := id h
  have i84 := XTg_in XP
  have str : ga σ 538 v = (t : Int) ∧ v + 1 = hi ∧ ∃ m xl : Nat, m ≤ v ∧ ga σ 546 v = (xl : Int) ∧ XTp σ n l lo m xl ∧ (t ≠ 13 → ∃ xr : Nat, ga σ 550 v = (xr : Int) ∧ XTp σ n r' m v xr) := by
    unfold XTp at XP
    rw [XTg_e] at XP
    obtain ⟨_, h1, _, h4⟩ := XP
    refine ⟨h1, ?_⟩
    rcases ht with e | e | e
    · subst e
      rw [if_neg (by decide), if_neg (by decide), if_pos rfl] at h4
      obtain ⟨a1, a2, m, x, y, a3, a4, a5, a6⟩ := h4
      have := XTg_in a6
      exact ⟨a1, m, x, by omega, a3, a5, fun _ => ⟨y, a4, a6⟩⟩
    · subst e
      rw [if_neg (by decide), if_neg (by decide), if_neg (by decide), if_pos rfl] at h4
      obtain ⟨a1, a2, a3, m, x, a4, a5, a6⟩ := h4
      exact ⟨a1, m, x, a4, a5, a6, fun w => absurd rfl w⟩
    · subst e
      rw [if_neg (by decide), if_neg (by decide), if_neg (by decide), if_neg (by decide), if_neg (by decide), if_neg (by decide), if_pos rfl] at h4
      obtain ⟨a1, a2, a3, m, x, y, a4, a5, a6, a7⟩ := h4
      have := XTg_in a7
      exact ⟨a1, m, x, by omega, a4, a6, fun _ => ⟨y, a5, a7⟩⟩
  obtain ⟨h538, hv, m, xl, hm, h546, XPl, hRr⟩ := str
  have okl : xok E l Γ.length := by
    rw [xok_e] at ok
    unfold xokB at ok
    rcases ht with e | e | e
    · subst e
      rw [if_neg (by decide), if_neg (by decide), if_pos rfl] at ok; exact ok.1
    · subst e
      rw [if_neg (by decide), if_neg (by decide), if_neg (by decide), if_pos rfl] at ok; exact ok
    · subst e
      rw [if_neg (by decide), if_neg (by decide), if_neg (by decide), if_neg (by decide), if_neg (by decide), if_neg (by decide), if_pos rfl] at ok; exact ok.1
  have ect : jct E l ≤ jct E (.inner t lb u l r') := by
    show _ ≤ _ + jct E l + jct E r'
    omega
  have ebd : xbd l ≤ xbd (.inner t lb u l r') := by
    show _ ≤ _ + max (xbd l) (xbd r')
    omega
  have esz : xsz (.inner t lb u l r') = 1 + 2 * tsz (lbT lb) + xsz l + xsz r' := rfl
  rw [esz] at hb2
  have il := XTg_in XPl
  have vN : ((v : Int)).toNat = v := by omega
  have vb : 0 ≤ (v : Int) ∧ (v : Int) < 8400 := by omega
  have e856 := A.2.2.2.2.1
  have spN : (gs σ 856).toNat = sp := by omega
  obtain ⟨z1, q1, Hz1⟩ := Hz Γ s z e
  -- it waits
  obtain ⟨σp, eσp⟩ : ∃ σp, σp = us (ua σ 850 (gs σ 856).toNat (v : Int)) 856 (w32 (gs σ 856 + 1)) := ⟨_, rfl⟩
  have ga' : ∀ f i, f ≠ 850 → ga σp f i = ga σ f i := fun f i hf => by rw [eσp, gaus, ga_ua, if_neg (fun z => hf z.1)]
  have gs' : ∀ f, f ≠ 856 → gs σp f = gs σ f := fun f hf => by rw [eσp, gs_us, if_neg hf]; rfl
  have p856 : gs σp 856 = ((sp + 1 : Nat) : Int) := by rw [eσp, gs_us, if_pos rfl, e856, w32_s (by omega) (by omega)]; rfl
  have p850 : ga σp 850 sp = (v : Int) := by rw [eσp, gaus, ga_ua, if_pos ⟨rfl, spN.symm⟩]
  have Fp : JFr σ σp lo hi Γ.length sp := ⟨⟨fun f hf => gs' f (fun z => hf (by rw [z]; decide)), fun f hf i => ga' f i (fun z => hf (by rw [z]; decide))⟩, fun i _ => ⟨ga' 842 i (by decide), ga' 846 i (by decide)⟩, fun i _ => ga' 854 i (by decide), fun i hi' => by rw [eσp, gaus, ga_ua, if_neg (fun z => by omega)]⟩
  have Tp : tx σ n σp n := ⟨Nat.le_refl _, fun f hf _ x _ => ga' f x (fun z => by rw [z] at hf; revert hf; decide)⟩
  have Sp : TyS σp n := TyS_same (gs' 532 (by decide)) (fun f hf i => ga' f i (fun z => by rw [z] at hf; revert hf; decide)) A.1.1
  have Ap : JSt σp n E Γ s (sp + 1) := ⟨⟨Sp, JTE_keep Fp.1 Tp A.1.2⟩, GmT_mv A.2.1 Tp (gs' 788 (by decide)) (fun i _ => ga' 854 i (by decide)), by rw [gs' 452 (by decide)]; exact A.2.2.1, by rw [gs' 812 (by decide)]; exact A.2.2.2.1, p856, fun i => by rw [ga' 842 i (by decide)]; exact A.2.2.2.2.2 i⟩
  have st : T_judge_7s r l1 (fm : Int) ((v : Int), σ) = some (.inl ((xl : Int), σp)) := by
    have hl : T_hasLeft (v : Int) σ = some 1 := by
      unfold T_hasLeft T_hasLeft_38
      rw [if_pos vb, vN, h538]
      rcases ht with e | e | e
      · rw [if_pos (by omega), if_pos (.inr rfl)]
      · rw [if_neg (by omega), if_pos vb, if_neg (by omega), if_pos vb, if_neg (by omega), if_pos (.inr rfl)]
      · rw [if_neg (by omega), if_pos vb, if_pos (by omega), if_pos (.inr rfl)]
    unfold T_judge_7s
    simp only
    rw [hl, Option.bind_some, if_neg (by decide), if_pos (by omega), vN, h546, eσp]
  have sk : jKK r l1 (fm : Int) ((v : Int), σ) = jKK r l1 (fm : Int) ((xl : Int), σp) := by
    unfold jKK
    rw [om_loop_in st]
  obtain ⟨σ1, n1, r1, F1, ⟨k1, k2, k3, k4, k5⟩, k6, k7⟩ := Sl Γ s z1 σp n lo m xl (sp + 1) b fm l1 ⟨q1, Ap, XTp_mv Fp.1 Tp XPl, okl, gl, ⟨hb, by omega⟩, by omega, by omega, by omega⟩ (by omega)
  rw [sk, r1]
  have s856 : gs σ1 856 = ((sp + 1 : Nat) : Int) := by rw [k2]; exact p856
  have s850 : ga σ1 850 sp = (v : Int) := by rw [F1.2.2.2 sp (by omega)]; exact p850
  have w1 : w32 (gs σ1 856 - 1) = (sp : Int) := by rw [s856, w32_s (by omega) (by omega)]; omega
  have spN' : ((sp : Int)).toNat = sp := by omega
  obtain ⟨σ2, eσ2⟩ : ∃ σ2, σ2 = ua (us σ1 856 (sp : Int)) 846 v (-1) := ⟨_, rfl⟩
  have ga2 : ∀ f i, f ≠ 846 → ga σ2 f i = ga σ1 f i := fun f i hf => by rw [eσ2, ga_ua, if_neg (fun z => hf z.1), gaus]
  have gs2 : ∀ f, f ≠ 856 → gs σ2 f = gs σ1 f := fun f hf => by rw [eσ2]; show gs (us σ1 856 (sp : Int)) f = _; rw [gs_us, if_neg hf]
  have p2856 : gs σ2 856 = gs σ 856 := by rw [eσ2, e856]; show gs (us σ1 856 (sp : Int)) 856 = _; rw [gs_us, if_pos rfl]
  have p846 : ga σ2 846 v = -1 := by rw [eσ2, ga_ua, if_pos ⟨rfl, rfl⟩]
  have F12 : JFr σ1 σ2 v (v + 1) Γ.length sp := ⟨⟨fun f hf => gs2 f (fun z => hf (by rw [z]; decide)), fun f hf i => ga2 f i (fun z => hf (by rw [z]; decide))⟩, fun i hi' => ⟨ga2 842 i (by decide), by rw [eσ2, ga_ua, if_neg (fun z => by omega), gaus]⟩, fun i _ => ga2 854 i (by decide), fun i _ => ga2 850 i (by decide)⟩
  have F02 : JFr σ σ2 lo hi Γ.length sp := JFr_trans (JFr_trans Fp (JFr_mono F1 (Nat.le_refl _) (by omega) (Nat.le_refl _) (by omega))) (JFr_mono F12 (by omega) (by omega) (Nat.le_refl _) (Nat.le_refl _))
  have N2 : NodB σ2 := fun i => by rw [ga2 842 i (by decide)]; exact k3 i
  have T12 : ∀ n0, tx σ1 n0 σ2 n0 := fun n0 => ⟨Nat.le_refl _, fun f hf _ x _ => ga2 f x (fun z => by rw [z] at hf; revert hf; decide)⟩
  have s546 : ga σ2 546 v = (xl : Int) := by rw [F02.1.2 546 (by decide)]; exact h546
  have step : T_judge_63s r l1 (fm : Int) σ1 = (if gs σ1 452 = 0 then T_judge_117 r l1 (fm : Int) (v : Int) (v : Int) σ2 else T_judge_133 r l1 (fm : Int) (v : Int) (gs σ2 860) σ2) := by
    unfold T_judge_63s
    rw [if_neg (by omega), w1, spN', s850, if_pos (by omega), vN, ← eσ2]
  cases z1 with
  | inl kp =>
    have ez := Hz1 kp rfl
    obtain ⟨⟨w1', w2', w3'⟩, w4', w5', w6'⟩ := k6 kp.1 kp.2 rfl
    have W2 : TyW σ2 n1 := ⟨by rw [gs2 532 (by decide)]; exact w4'.1, w4'.2.1, fun hh hl => by
      obtain ⟨ll0, a1, a2⟩ := w4'.2.2 hh hl
      exact ⟨ll0, by rw [ga2 526 hh (by decide)]; exact chT_keep a1 (fun t' _ => ga2 522 t' (by decide)), a2⟩⟩
    have x860 : -1 ≤ gs σ2 860 ∧ gs σ2 860 < 126000 := by
      have c := A.1.2.2.2.2.2.1
      have := tyT_lt c
      have := A.1.1.1.2.1
      rw [F02.1.1 860 (by decide)]
      omega
    have st2 : T_judge_63s r l1 (fm : Int) σ1 = some (.inl (ua σ2 842 v (gs σ2 860))) := by
      rw [step, if_neg (by rw [w2']; omega)]
      unfold T_judge_133
      rw [if_pos vb, vN]
    refine ⟨ua σ2 842 v (gs σ2 860), n1, om_loop_in st2, ?_⟩
    have : ga (ua σ2 842 v (gs σ2 860)) 842 v = gs σ2 860 := by rw [ga_ua, if_pos ⟨rfl, rfl⟩]
    rw [this]
    exact hd_fault F02 (by rw [gs2 788 (by decide), k1, gs' 788 (by decide)]) p2856 N2 x860 ⟨i84.1, i84.2.1⟩ ez w1' (by rw [gs2 452 (by decide)]; exact w2') (by rw [gs2 456 (by decide)]; exact w3') W2 ⟨tx_trans Tp (tx_trans w5' (T12 n1)), by omega⟩
  | inr a =>
    obtain ⟨a, sa⟩ := a
    obtain ⟨⟨w1', w2', w3', w3''⟩, ⟨w4', w5', w6'⟩, ⟨w7', w8'⟩, D, w9', w10'⟩ := k7 a sa rfl
    have S2 : TyS σ2 n1 := TyS_same (gs2 532 (by decide)) (fun f hf i => ga2 f i (fun z => by rw [z] at hf; revert hf; decide)) w4'
    have T02 := tx_trans Tp (tx_trans w5' (T12 n1))
    have Xx : JX E σ n s lo hi v sp Γ.length σ2 n1 Γ sa (jct E l) := ⟨JSt_mv A F02 T02 S2 (by rw [gs2 788 (by decide), k1, gs' 788 (by decide)]) (by rw [gs2 452 (by decide)]; exact w1') ⟨by rw [gs2 812 (by decide)]; exact w2', w3''⟩ p2856 N2, F02, T02, p2856, ⟨w3', w6'⟩, ⟨D, w9', fun Y hY => by obtain ⟨t0, h0⟩ := w10' Y hY; exact ⟨t0, tyT_mono (T12 n1) h0⟩⟩, p846, Nat.le_refl _⟩
    have Ha : XTe σ2 n1 a lo m xl := XTe_mv F12 (T12 n1) (.inl (by omega)) w7'
    obtain ⟨y, σ3, n3, u1, P⟩ := Hu Γ s z (.inr (a, sa)) σ σ2 n n1 lo hi v sp b m xl h q1 XPl hm h546 hRr a sa rfl Xx Ha
    have st2 : T_judge_63s r l1 (fm : Int) σ1 = some (.inl (ua σ3 842 v y)) := by
      rw [step, if_pos w1']
      unfold T_judge_117 T_judge_133
      rw [vN, s546, if_pos (by omega), show ((xl : Int)).toNat = xl by omega, u1, Option.bind_some, if_pos vb]
    refine ⟨ua σ3 842 v y, n3, om_loop_in st2, ?_⟩
    have : ga (ua σ3 842 v y) 842 v = y := by rw [ga_ua, if_pos ⟨rfl, rfl⟩]
    rw [this]
    exact P
end LJU
