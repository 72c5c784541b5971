set_option maxRecDepth 100000
/-! THE TWIN JUDGES: uses, signs -/
section LJV
variable {E : JE} {B : Nat}
/-- the end, where nothing is bound -/
theorem JXF_end0 {t : Xt} {z : (Nat × Nat) ⊕ (Et × JS)} {Γ : List Ty} {σ σ2 : tS} {s : JS} {n n2 k p lo hi v sp C : Nat} {x : Int} (F : JXF σ n s lo hi sp Γ.length C σ2 n2 k p) (g : gs σ2 788 = gs σ 788) (hC : C ≤ jct E t) (hx : -1 ≤ x ∧ x < 126000) (lv : lo ≤ v ∧ v < hi) (ez : z = .inl (k, p)) : JPost E t Γ s z σ n lo hi v sp x (ua σ2 842 v x) n2 := by
  obtain ⟨f1, f2, f3, f4, f5, f6, f7⟩ := F
  exact hd_fault f1 g f2 f3 hx lv ez f4.1 f4.2.1 f4.2.2 f5 ⟨f6, by omega⟩
theorem JX_end0 {t : Xt} {z : (Nat × Nat) ⊕ (Et × JS)} {Γ : List Ty} {σ σ1 : tS} {s s1 : JS} {n n1 lo hi v sp C : Nat} {x : Int} {e : Et} (X : JX E σ n s lo hi v sp Γ.length σ1 n1 Γ s1 C) (g : gs σ 788 = (Γ.length : Int)) (hC : C ≤ jct E t) (hx : -1 ≤ x ∧ x < 126000) (lv : lo ≤ v ∧ v < hi) (ez : z = .inr (e, s1)) (H : ∀ τ, fr JFS JFA σ τ → tx σ n τ n1 → tx σ1 n1 τ n1 → fr JFS JFA σ1 τ → (∀ i, i ≠ v → ga τ 842 i = ga σ1 842 i ∧ ga τ 846 i = ga σ1 846 i) → ga τ 842 v = x → ga τ 846 v = -1 → XTe τ n1 e lo hi v) : JPost E t Γ s z σ n lo hi v sp x (ua σ1 842 v x) n1 := by
  obtain ⟨A, F, T, g2, x1, ⟨D, d1, d2⟩, c0, hg⟩ := X
  obtain ⟨z1, z2, z3, z4, z5, z6, z7, z8⟩ := ua842 (σ := σ1) (n := n1) (v := v) (g := Γ.length) (sp := sp) hx
  refine hd_fine F (by rw [A.2.1.1, g]) g2 A.2.2.2.2.2 hx lv ez A.2.2.1 A.2.2.2.1.1 ⟨x1.1, A.2.2.2.1.2⟩ A.1.1 T (by omega) ?_ ⟨D, d1, d2⟩
  exact H _ (fr_trans F.1 z1.1) (tx_trans T z6) z6 z1.1 (fun i hi => z1.2.1 i (by omega)) z7 (by rw [z8]; exact c0)
/-- @s where none may be -/
theorem sp_at {r : Int → tS → Option (Int × tS)} {lb : XL} {u : Unit} {l r' : Xt} (Sl : JSp E r l) : JSp E r (.inner 13 lb u l r') := by
  have hz : ∀ (Γ : List Ty) (s : JS) (z : (Nat × Nat) ⊕ (Et × JS)), jd E (.inner 13 lb u l r') Γ s = some z → ∃ z1, jd E l Γ s = some z1 ∧ (∀ kp, z1 = .inl kp → z = .inl kp) ∧ ∀ a, z1 = .inr a → z = .inl (4, lb.2.1) := fun Γ s z e => by
    rw [jd_e] at e
    unfold jdB at e
    rw [if_neg (by decide), if_neg (by decide), if_neg (by decide), if_pos rfl] at e
    unfold jb at e
    cases q : jd E l Γ s with
    | none => rw [q] at e; cases e
    | some z1 =>
      rw [q, Option.bind_some] at e
      refine ⟨z1, rfl, fun kp ek => ?_, fun a ea => ?_⟩
      · rw [ek] at e; exact (Option.some.inj e).symm
      · rw [ea] at e; exact (Option.some.inj e).symm
  refine sp_left (.inr (.inl rfl)) Sl (fun Γ s z z1 σ σ2 n n1 lo hi v sp b m xl h q1 XPl hm h546 hRr a sa ez1 X Ha => ?_) (fun Γ s z e => by obtain ⟨z1, q, w, _⟩ := hz Γ s z e; exact ⟨z1, q, w⟩)
  obtain ⟨e, A, XP, ok, gl, ⟨hb, hb2⟩, hbd, hsp, R⟩ := h
  have i84 := XTg_in XP
  obtain ⟨z1', q1', _, w⟩ := hz Γ s z e
  rw [q1] at q1'
  have ez := w (a, sa) (by rw [← Option.some.inj q1', ez1])
  unfold XTp at XP
  rw [XTg_e] at XP
  obtain ⟨_, h538, _, h4⟩ := XP
  rw [if_neg (by decide), if_neg (by decide), if_neg (by decide), if_pos rfl] at h4
  obtain ⟨h5, h6, ⟨k, t1, t2, t3⟩, _⟩ := h4
  have t3' : ga σ 474 k = (lb.2.1 : Int) := t3
  obtain ⟨A2, F2, T2, g2, ⟨x1, x2⟩, _⟩ := id X
  have vN : ((v : Int)).toNat = v := by omega
  have vb : 0 ≤ (v : Int) ∧ (v : Int) < 8400 := by omega
  obtain ⟨u1, u2, u3⟩ := fails_f (σ := σ2) (k := 4) (p := (lb.2.1 : Int))
  have cI := A2.1.2.2.2.2.2.1
  have lt := tyT_lt cI
  have n126 := A2.1.1.1.2.1
  have ect : jct E l ≤ jct E (.inner 13 lb u l r') := by
    show _ ≤ _ + jct E l + jct E r'
    omega
  have h300 := A2.2.2.2.1.2
  have t1' : ga σ2 542 v = (k : Int) := by rw [F2.1.2 542 (by decide)]; exact t1
  refine ⟨gs σ2 860, us (us σ2 452 4) 456 (lb.2.1 : Int), n1, ?_, ?_⟩
  · unfold T_judgeUp
    rw [if_pos vb, vN, F2.1.2 538 (by decide), h538, if_neg (by decide), t1', if_pos (by omega), show ((k : Int)).toNat = k by omega, F2.1.2 474 (by decide), t3', t_failsI A2.2.2.1, Option.bind_some, u1.1 860 (by decide)]
  · have N1 : fr NFS NFA σ2 (us (us σ2 452 4) 456 (lb.2.1 : Int)) := fr_sub u1 (by decide) (by decide)
    obtain ⟨y1, y2, y3, y4⟩ := JFr_N (lo := lo) (hi := hi) (g := Γ.length) (sp := sp) N1
    exact hd_fault (k := 4) (JFr_trans F2 y1) (by rw [y2, A2.2.1.1, A.2.1.1]) (by rw [y3]; exact g2) (y4 A2.2.2.2.2.2) (by omega) ⟨i84.1, i84.2.1⟩ ez (by decide) u2 u3 (TyW_of (TyS_u (TyS_u A2.1.1 (by decide)) (by decide)).1) ⟨tx_trans T2 ⟨Nat.le_refl _, fun _ _ _ _ _ => rfl⟩, by omega⟩
/-- USES -/
theorem sp_use (J : JOk E B) {r : Int → tS → Option (Int × tS)} {lb : XL} {u : Unit} {l r' : Xt} (Sl : JSp E r l) (Hr : JR E r r') : JSp E r (.inner 12 lb u l r') := by
  have un : ∀ (Γ : List Ty) (s : JS), jd E (.inner 12 lb u l r') Γ s = (jd E l Γ s).bind (Sum.elim (fun e => some (.inl e)) fun a => jb (jf E 3 0 (xPl r') a.1 a.2) fun f => jb (jd E r' Γ f.2.2) fun b => jb (jw E (tL f.2.1) b.1 b.2) fun c => some (.inr (en 12 lb (tR' f.2.1) .leaf [] f.1 c.1, c.2))) := fun Γ s => by
    rw [jd_e]
    unfold jdB
    rw [if_neg (by decide), if_neg (by decide), if_pos rfl]
    rfl
  refine sp_left (.inl rfl) Sl (fun Γ s z z1 σ σ2 n n1 lo hi v sp b m xl h q1 XPl hm h546 hRr a sa ez1 X Ha => ?_) (fun Γ s z e => ?_)
  rotate_left
  · rw [un] at e
    cases q : jd E l Γ s with
    | none => rw [q] at e; cases e
    | some z1 =>
      rw [q, Option.bind_some] at e
      exact ⟨z1, rfl, fun kp ek => by rw [ek] at e; exact (Option.some.inj e).symm⟩
  obtain ⟨e, A, XP, ok, gl, ⟨hb, hb2⟩, hbd, hsp, R⟩ := h
  have i84 := XTg_in XP
  rw [un, q1, Option.bind_some, ez1] at e
  rw [ez1] at q1
  unfold XTp at XP
  rw [XTg_e] at XP
  obtain ⟨_, h538, _, h4⟩ := XP
  rw [if_neg (by decide), if_neg (by decide), if_pos rfl] at h4
  obtain ⟨h5, h6, _⟩ := h4
  obtain ⟨xb, h8, h10⟩ := hRr (by decide)
  rw [xok_e] at ok
  have ok' : xok E l Γ.length ∧ xok E r' Γ.length := by unfold xokB at ok; rw [if_neg (by decide), if_neg (by decide), if_pos rfl] at ok; exact ok
  have ib := XTg_in h10
  have ect : jct E (.inner 12 lb u l r') = jct E l + jct E r' := by
    show (if (12 : Nat) = 10 then _ else if (12 : Nat) = 14 then 1 else 0) + jct E l + jct E r' = _
    rw [if_neg (by decide), if_neg (by decide), Nat.zero_add]
  have ebd : max (xbd l) (xbd r') ≤ xbd (.inner 12 lb u l r') := by
    show _ ≤ _ + max (xbd l) (xbd r')
    omega
  have esz : xsz (.inner 12 lb u l r') = 1 + 2 * tsz (lbT lb) + xsz l + xsz r' := rfl
  rw [ect] at R
  rw [esz] at hb2
  obtain ⟨A2, F2, T2, g2, ⟨x1, x2⟩, _⟩ := id X
  have h300 := A2.2.2.2.1.2
  have vN : ((v : Int)).toNat = v := by omega
  have vb : 0 ≤ (v : Int) ∧ (v : Int) < 8400 := by omega
  have il := XTg_in XPl
  have g788 := A.2.1.1
  have arr : ∀ τ : tS, fr JFS JFA σ τ → ga τ 546 v = (xl : Int) ∧ ga τ 550 v = (xb : Int) := fun τ F => ⟨by rw [F.2 546 (by decide)]; exact h546, by rw [F.2 550 (by decide)]; exact h8⟩
  have oka := jd_eOk J q1 ok'.1 gl hb (by omega)
  have plr := t_placeOf r' m v xb (XTp_mv F2.1 T2 h10)
  rw [xPl_g] at plr
  have e2 : (jf E 3 0 (xPl r') a sa).bind (Sum.elim (fun e => some (.inl e)) fun f => jb (jd E r' Γ f.2.2) fun b => jb (jw E (tL f.2.1) b.1 b.2) fun c => some (.inr (en 12 lb (tR' f.2.1) .leaf [] f.1 c.1, c.2))) = some z := e
  cases q2 : jf E 3 0 (xPl r') a sa with
  | none => rw [q2] at e2; cases e2
  | some z2 =>
  rw [q2, Option.bind_some] at e2
  obtain ⟨x3, σ3, n3, w1, W, w2⟩ := t_formed J A2.1.1 A2.1.2 Ha oka.1.1 (Nat.le_trans oka.1.2 (by omega)) q2 A2.2.2.2.1.1 A2.2.2.2.1.2 (by omega) A2.2.2.1
  obtain ⟨F3, T3, ⟨f842, gg3⟩, k3, k4⟩ := JX_W X W ⟨by omega, by omega, by omega⟩
  have w1' : T_formed (xl : Int) 3 0 ((xPl r' : Nat) : Int) σ2 = some (x3, σ3) := w1
  have run : T_judgeUp r (v : Int) (ga σ2 842 xl) σ2 = (if (gs σ3 452) = 0 then if 0 ≤ (v : Int) ∧ (v : Int) < 8400 then ((r (ga σ3 550 v) σ3).bind fun p3 => if 0 ≤ (v : Int) ∧ (v : Int) < 8400 ∧ 0 ≤ x3 ∧ x3 < 126000 then ((T_wanted (ga p3.2 550 v) (ga p3.2 510 x3.toNat) p3.2).bind fun p4 => if 0 ≤ x3 ∧ x3 < 126000 then some (ga p4 514 x3.toNat, p4) else none) else none) else none else some (gs σ3 860, σ3)) := by
    unfold T_judgeUp
    rw [if_pos vb, vN, F2.1.2 538 (by decide), h538, if_pos (by decide), if_pos vb, if_pos (by decide), if_pos vb, (arr σ2 F2.1).2, plr, Option.bind_some, (arr σ2 F2.1).1, w1', Option.bind_some]
  rw [run]
  cases z2 with
  | inl kp =>
    have ez : z = .inl kp := (Option.some.inj e2).symm
    have F := k3 kp.1 kp.2 rfl
    rw [if_neg (by rw [F.2.2.2.1.2.1]; have := F.2.2.2.1.1; omega)]
    have cI := A.1.2.2.2.2.2.1
    have lt := tyT_lt cI
    have n126 := A.1.1.1.2.1
    exact ⟨gs σ3 860, σ3, n3, rfl, JXF_end0 F (by rw [gg3, A2.2.1.1, g788]) (by rw [ect]; omega) (by rw [F.1.1.1 860 (by decide)]; omega) ⟨i84.1, i84.2.1⟩ ez⟩
  | inr fb =>
  obtain ⟨f, U, sf⟩ := fb
  have X3 := k4 (f, U) sf rfl
  obtain ⟨Hf, cU⟩ := w2 f U sf rfl
  obtain ⟨⟨okf, _⟩, okU, szU, isU⟩ := jf_eOk J (by omega) (by omega) oka q2
  obtain ⟨A3, F3', T3', _⟩ := id X3
  rw [if_pos A3.2.2.1, if_pos vb, (arr σ3 F3'.1).2]
  have e3 : (jd E r' Γ sf).bind (Sum.elim (fun e => some (.inl e)) fun b => jb (jw E (tL U) b.1 b.2) fun c => some (.inr (en 12 lb (tR' U) .leaf [] f c.1, c.2))) = some z := e2
  cases q3 : jd E r' Γ sf with
  | none => rw [q3] at e3; cases e3
  | some z3 =>
  rw [q3, Option.bind_some] at e3
  obtain ⟨y4, σ4, n4, ⟨rb, t34⟩, F4, ⟨y4a, y4b, gg4⟩, k5, k6⟩ := JX_r2 Hr X3 q3 h10 ok'.2 gl ⟨hb, by omega⟩ (by omega) (by omega) (by omega) ⟨by omega, by omega, .inr (Nat.le_refl _)⟩
  have x3r := tyT_lt cU
  have x3n : x3 ≠ -1 := fun w => okU.1 ((tyT_0 cU).mpr w)
  have n126 := A3.1.1.1.2.1
  have x3b : 0 ≤ x3 ∧ x3 < 126000 := by omega
  rw [rb, Option.bind_some, if_pos ⟨vb.1, vb.2, x3b.1, x3b.2⟩]
  simp only
  obtain ⟨uu, tl, tr, eU⟩ := isK_iff isU
  have parts : ∀ (τ : tS) (nn : Nat), tyT τ nn U x3 → tyT τ nn (tL U) (ga τ 510 x3.toNat) ∧ tyT τ nn (tR' U) (ga τ 514 x3.toNat) := fun τ nn c => by
    rw [eU] at c ⊢
    obtain ⟨q, d1, d2, d3, d4, d5, d6⟩ := c
    rw [show x3.toNat = q by omega]
    exact ⟨d5, d6⟩
  have c514 := (parts σ3 n3 cU).2
  have r514 : -1 ≤ ga σ3 514 x3.toNat ∧ ga σ3 514 x3.toNat < 126000 := by
    have := tyT_lt c514
    omega
  have okp : tyOk E.2.2.2.1 (tL U) ∧ tyOk E.2.2.2.1 (tR' U) ∧ tsz (tL U) ≤ 1000000 := by
    rw [eU] at okU szU ⊢
    have : 1 + tsz tl + tsz tr ≤ b + xsz l := szU
    obtain ⟨g1, g2⟩ := tyOk_parts okU (.inl rfl)
    exact ⟨g1, g2 rfl, by show tsz tl ≤ _; omega⟩
  cases z3 with
  | inl kp =>
    have ez : z = .inl kp := (Option.some.inj e3).symm
    have F := k5 kp.1 kp.2 rfl
    rw [t_wantedF (by rw [F.2.2.2.1.2.1]; have := F.2.2.2.1.1; omega), Option.bind_some, if_pos x3b]
    have e514 : ga σ4 514 x3.toNat = ga σ3 514 x3.toNat := t34.2 514 (by decide) (by decide) _ (by omega)
    exact ⟨_, σ4, n4, rfl, JXF_end0 F (by rw [gg4, A3.2.1.1, g788]) (by rw [ect]; omega) (by rw [e514]; exact r514) ⟨i84.1, i84.2.1⟩ ez⟩
  | inr bb =>
  obtain ⟨bb, sb⟩ := bb
  obtain ⟨X4, T4, Hb, ey4⟩ := k6 bb sb rfl
  have okb := jd_eOk J q3 ok'.2 gl hb (by omega)
  have e4 : (jw E (tL U) bb sb).bind (Sum.elim (fun e => some (.inl e)) fun c => some (.inr (en 12 lb (tR' U) .leaf [] f c.1, c.2))) = some z := e3
  cases q4 : jw E (tL U) bb sb with
  | none => rw [q4] at e4; cases e4
  | some z4 =>
  rw [q4, Option.bind_some] at e4
  obtain ⟨A4, F4', T4', _, ⟨x4a, x4b⟩, _⟩ := id X4
  have h300' := A4.2.2.2.1.2
  have cU4 := tyT_mono T4 cU
  obtain ⟨σ5, n5, w3, W5, w4⟩ := t_wanted J A4.1.1 A4.1.2 Hb (parts σ4 n4 cU4).1 okp.1 okp.2.2 okb.1.1 (Nat.le_trans okb.1.2 (by omega)) q4 A4.2.2.2.1.1 A4.2.2.2.1.2 (by omega) A4.2.2.1
  obtain ⟨F5, T5, ⟨f842', gg5⟩, k9, k10⟩ := JX_W X4 W5 ⟨by omega, by omega, by omega⟩
  rw [(arr σ4 F4'.1).2, w3, Option.bind_some, if_pos x3b]
  have c5 := (parts σ5 n5 (tyT_mono T5 cU4)).2
  have r5 : -1 ≤ ga σ5 514 x3.toNat ∧ ga σ5 514 x3.toNat < 126000 := by
    have := tyT_lt c5
    have := W5.2.1.1.2.1
    omega
  cases z4 with
  | inl kp =>
    have ez : z = .inl kp := (Option.some.inj e4).symm
    have F := k9 kp.1 kp.2 rfl
    exact ⟨_, σ5, n5, rfl, JXF_end0 F (by rw [gg5, A4.2.1.1, g788]) (by rw [ect]; omega) r5 ⟨i84.1, i84.2.1⟩ ez⟩
  | inr c =>
  obtain ⟨c, sc⟩ := c
  have ez : z = .inr (en 12 lb (tR' U) .leaf [] f c, sc) := (Option.some.inj e4).symm
  have X5 := k10 c sc rfl
  have Hc := w4 c sc rfl
  refine ⟨_, σ5, n5, rfl, JX_end0 X5 g788 (by rw [ect]; omega) r5 ⟨i84.1, i84.2.1⟩ ez (fun τ Fσ Tσ Tτ Fτ kτ v842 v846 => ?_)⟩
  unfold XTe
  rw [XTg_e]
  unfold XTb
  rw [if_neg (by decide), if_neg (by decide), if_pos rfl]
  have Hf' : XTe τ n5 f lo m xl := by
    refine XTe_keep (fr_trans F4.1 (fr_trans F5.1 Fτ)) (tx_trans T4 (tx_trans T5 Tτ)) (fun i j1 j2 => ?_) Hf
    have w := kτ i (by omega)
    have w5 := F5.2.1 i (.inl (by omega))
    have w4 := F4.2.1 i (.inl (by omega))
    rw [w.1, w.2, w5.1, w5.2, w4.1, w4.2]
    exact ⟨rfl, rfl⟩
  have Hc' : XTe τ n5 c m v xb := XTe_keep Fτ Tτ (fun i j1 j2 => kτ i (by omega)) Hc
  refine ⟨i84, by rw [Fσ.2 538 (by decide)]; exact h538, ⟨?_, v846⟩, h5, ?_, m, xl, xb, (arr τ Fσ).1, (arr τ Fσ).2, Hf', Hc'⟩
  · show tyT τ n5 (tR' U) (ga τ 842 v)
    rw [v842]
    exact tyT_mono Tτ c5
  · show lb.1 = gPl Prod.fst f
    rw [ePl_g]
    have pf := (jf_eOk J (by omega) (by omega) oka q2).1.2
    rw [pf]
    have h6' : lb.1 = gPl id l := h6
    rw [h6', xPl_g]
/-- SIGNS -/
theorem sp_sign (J : JOk E B) {r : Int → tS → Option (Int × tS)} {lb : XL} {u : Unit} {l r' : Xt} (Sl : JSp E r l) (Hr : JR E r r') : JSp E r (.inner 18 lb u l r') := by
  have un : ∀ (Γ : List Ty) (s : JS), jd E (.inner 18 lb u l r') Γ s = (jd E l Γ s).bind (Sum.elim (fun e => some (.inl e)) fun a => jb (jw E tInt a.1 a.2) fun b => jb (jd E r' Γ b.2) fun c => jb (jw E tInt c.1 c.2) fun d => some (.inr (en 18 lb (if lb.2.1 = 60 ∨ lb.2.1 = 61 then tBool else tInt) .leaf [] b.1 d.1, d.2))) := fun Γ s => by
    rw [jd_e]
    unfold jdB
    rw [if_neg (by decide), if_neg (by decide), if_neg (by decide), if_neg (by decide), if_neg (by decide), if_neg (by decide), if_pos rfl]
    rfl
  refine sp_left (.inr (.inr rfl)) Sl (fun Γ s z z1 σ σ2 n n1 lo hi v sp b m xl h q1 XPl hm h546 hRr a sa ez1 X Ha => ?_) (fun Γ s z e => ?_)
  rotate_left
  · rw [un] at e
    cases q : jd E l Γ s with
    | none => rw [q] at e; cases e
    | some z1 =>
      rw [q, Option.bind_some] at e
      exact ⟨z1, rfl, fun kp ek => by rw [ek] at e; exact (Option.some.inj e).symm⟩
  obtain ⟨e, A, XP, ok, gl, ⟨hb, hb2⟩, hbd, hsp, R⟩ := h
  have i84 := XTg_in XP
  rw [un, q1, Option.bind_some, ez1] at e
  rw [ez1] at q1
  unfold XTp at XP
  rw [XTg_e] at XP
  obtain ⟨_, h538, _, h4⟩ := XP
  rw [if_neg (by decide), if_neg (by decide), if_neg (by decide), if_neg (by decide), if_neg (by decide), if_neg (by decide), if_pos rfl] at h4
  obtain ⟨h5, h6, ⟨k, t1, t2, t3a⟩, _⟩ := h4
  have t3 : (ga σ 470 k = 60 ∨ ga σ 470 k = 17) ↔ (lb.2.1 = 60 ∨ lb.2.1 = 61) := t3a
  obtain ⟨xb, h8, h10⟩ := hRr (by decide)
  rw [xok_e] at ok
  have ok' : xok E l Γ.length ∧ xok E r' Γ.length := by unfold xokB at ok; rw [if_neg (by decide), if_neg (by decide), if_neg (by decide), if_neg (by decide), if_neg (by decide), if_neg (by decide), if_pos rfl] at ok; exact ok
  have ib := XTg_in h10
  have ect : jct E (.inner 18 lb u l r') = jct E l + jct E r' := by
    show (if (18 : Nat) = 10 then _ else if (18 : Nat) = 14 then 1 else 0) + jct E l + jct E r' = _
    rw [if_neg (by decide), if_neg (by decide), Nat.zero_add]
  have ebd : max (xbd l) (xbd r') ≤ xbd (.inner 18 lb u l r') := by
    show _ ≤ _ + max (xbd l) (xbd r')
    omega
  have esz : xsz (.inner 18 lb u l r') = 1 + 2 * tsz (lbT lb) + xsz l + xsz r' := rfl
  rw [ect] at R
  rw [esz] at hb2
  obtain ⟨A2, F2, T2, g2, ⟨x1, x2⟩, _⟩ := id X
  have h300 := A2.2.2.2.1.2
  have vN : ((v : Int)).toNat = v := by omega
  have vb : 0 ≤ (v : Int) ∧ (v : Int) < 8400 := by omega
  have il := XTg_in XPl
  have g788 := A.2.1.1
  have arr : ∀ τ : tS, fr JFS JFA σ τ → ga τ 546 v = (xl : Int) ∧ ga τ 550 v = (xb : Int) ∧ ga τ 542 v = (k : Int) ∧ ga τ 470 k = ga σ 470 k := fun τ F => ⟨by rw [F.2 546 (by decide)]; exact h546, by rw [F.2 550 (by decide)]; exact h8, by rw [F.2 542 (by decide)]; exact t1, F.2 470 (by decide) k⟩
  have tI : tyOk E.2.2.2.1 tInt := tyOk_con (by decide) (by rw [if_neg (by decide)]) (by rw [if_neg (by decide)])
  have oka := jd_eOk J q1 ok'.1 gl hb (by omega)
  have i860 : ∀ (τ : tS), fr JFS JFA σ τ → -1 ≤ gs τ 860 ∧ gs τ 860 < 126000 := fun τ F => by
    have lt := tyT_lt A.1.2.2.2.2.2.1
    have n126 := A.1.1.1.2.1
    rw [F.1 860 (by decide)]
    omega
  have i864 : ∀ (τ : tS), fr JFS JFA σ τ → -1 ≤ gs τ 864 ∧ gs τ 864 < 126000 := fun τ F => by
    have lt := tyT_lt A.1.2.2.2.2.2.2
    have n126 := A.1.1.1.2.1
    rw [F.1 864 (by decide)]
    omega
  have e2 : (jw E tInt a sa).bind (Sum.elim (fun e => some (.inl e)) fun b => jb (jd E r' Γ b.2) fun c => jb (jw E tInt c.1 c.2) fun d => some (.inr (en 18 lb (if lb.2.1 = 60 ∨ lb.2.1 = 61 then tBool else tInt) .leaf [] b.1 d.1, d.2))) = some z := e
  cases q2 : jw E tInt a sa with
  | none => rw [q2] at e2; cases e2
  | some z2 =>
  rw [q2, Option.bind_some] at e2
  obtain ⟨σ3, n3, w1, W, w2⟩ := t_wanted J A2.1.1 A2.1.2 Ha A2.1.2.2.2.2.2.1 tI (by show 1 + 0 + 0 ≤ _; omega) oka.1.1 (Nat.le_trans oka.1.2 (by omega)) q2 A2.2.2.2.1.1 A2.2.2.2.1.2 (by omega) A2.2.2.1
  obtain ⟨F3, T3, ⟨f842, gg3⟩, k3, k4⟩ := JX_W X W ⟨by omega, by omega, by omega⟩
  have run : T_judgeUp r (v : Int) (ga σ2 842 xl) σ2 = (if (gs σ3 452) = 0 then if 0 ≤ (v : Int) ∧ (v : Int) < 8400 then ((r (ga σ3 550 v) σ3).bind fun p6 => if 0 ≤ (v : Int) ∧ (v : Int) < 8400 then ((T_wanted (ga p6.2 550 v) (gs p6.2 860) p6.2).bind fun p7 => if 0 ≤ (v : Int) ∧ (v : Int) < 8400 ∧ 0 ≤ ga p7 542 v ∧ ga p7 542 v < 4100 then (if (ga p7 470 (ga p7 542 v).toNat) = 60 then T_judgeUp_121 r p7 else if (ga p7 470 (ga p7 542 v).toNat) ≠ 17 then some (gs p7 860, p7) else T_judgeUp_121 r p7) else none) else none) else none else some (gs σ3 860, σ3)) := by
    unfold T_judgeUp
    rw [if_pos vb, vN, F2.1.2 538 (by decide), h538, if_pos (by decide), if_pos vb, if_neg (by decide), if_pos vb, (arr σ2 F2.1).1, w1, Option.bind_some]
  rw [run]
  -- the last
  have last : ∀ τ : tS, fr JFS JFA σ τ → (if 0 ≤ (v : Int) ∧ (v : Int) < 8400 ∧ 0 ≤ ga τ 542 v ∧ ga τ 542 v < 4100 then (if (ga τ 470 (ga τ 542 v).toNat) = 60 then T_judgeUp_121 r τ else if (ga τ 470 (ga τ 542 v).toNat) ≠ 17 then some (gs τ 860, τ) else T_judgeUp_121 r τ) else none) = some (if lb.2.1 = 60 ∨ lb.2.1 = 61 then gs τ 864 else gs τ 860, τ) := fun τ F => by
    obtain ⟨_, _, c1, c2⟩ := arr τ F
    rw [c1, if_pos (by omega), show ((k : Int)).toNat = k by omega, c2]
    unfold T_judgeUp_121
    by_cases c : ga σ 470 k = 60
    · rw [if_pos c, if_pos (t3.mp (.inl c))]
    · rw [if_neg c]
      by_cases c' : ga σ 470 k = 17
      · rw [if_neg (fun z => z c'), if_pos (t3.mp (.inr c'))]
      · rw [if_pos c', if_neg (fun w => (t3.mpr w).elim c c')]
  have xrange : ∀ τ : tS, fr JFS JFA σ τ → -1 ≤ (if lb.2.1 = 60 ∨ lb.2.1 = 61 then gs τ 864 else gs τ 860) ∧ (if lb.2.1 = 60 ∨ lb.2.1 = 61 then gs τ 864 else gs τ 860) < 126000 := fun τ F => by
    split
    · exact i864 τ F
    · exact i860 τ F
  cases z2 with
  | inl kp =>
    have ez : z = .inl kp := (Option.some.inj e2).symm
    have F := k3 kp.1 kp.2 rfl
    rw [if_neg (by rw [F.2.2.2.1.2.1]; have := F.2.2.2.1.1; omega)]
    exact ⟨gs σ3 860, σ3, n3, rfl, JXF_end0 F (by rw [gg3, A2.2.1.1, g788]) (by rw [ect]; omega) (i860 σ3 F.1.1) ⟨i84.1, i84.2.1⟩ ez⟩
  | inr bb =>
  obtain ⟨bb, sb⟩ := bb
  have X3 := k4 bb sb rfl
  have Hb := w2 bb sb rfl
  obtain ⟨A3, F3', T3', _⟩ := id X3
  rw [if_pos A3.2.2.1, if_pos vb, (arr σ3 F3'.1).2.1]
  have e3 : (jd E r' Γ sb).bind (Sum.elim (fun e => some (.inl e)) fun c => jb (jw E tInt c.1 c.2) fun d => some (.inr (en 18 lb (if lb.2.1 = 60 ∨ lb.2.1 = 61 then tBool else tInt) .leaf [] bb d.1, d.2))) = some z := e2
  cases q3 : jd E r' Γ sb with
  | none => rw [q3] at e3; cases e3
  | some z3 =>
  rw [q3, Option.bind_some] at e3
  obtain ⟨y4, σ4, n4, rb, F4, ⟨y4a, y4b, gg4⟩, k5, k6⟩ := JX_r Hr X3 q3 h10 ok'.2 gl ⟨hb, by omega⟩ (by omega) (by omega) (by omega) ⟨by omega, by omega, .inr (Nat.le_refl _)⟩
  rw [rb, Option.bind_some, if_pos vb]
  simp only
  cases z3 with
  | inl kp =>
    have ez : z = .inl kp := (Option.some.inj e3).symm
    have F := k5 kp.1 kp.2 rfl
    rw [t_wantedF (by rw [F.2.2.2.1.2.1]; have := F.2.2.2.1.1; omega), Option.bind_some, last σ4 F.1.1]
    exact ⟨_, σ4, n4, rfl, JXF_end0 F (by rw [gg4, A3.2.1.1, g788]) (by rw [ect]; omega) (xrange σ4 F.1.1) ⟨i84.1, i84.2.1⟩ ez⟩
  | inr c =>
  obtain ⟨c, sc⟩ := c
  obtain ⟨X4, T4, Hc, ey4⟩ := k6 c sc rfl
  have okc := jd_eOk J q3 ok'.2 gl hb (by omega)
  have e4 : (jw E tInt c sc).bind (Sum.elim (fun e => some (.inl e)) fun d => some (.inr (en 18 lb (if lb.2.1 = 60 ∨ lb.2.1 = 61 then tBool else tInt) .leaf [] bb d.1, d.2))) = some z := e3
  cases q4 : jw E tInt c sc with
  | none => rw [q4] at e4; cases e4
  | some z4 =>
  rw [q4, Option.bind_some] at e4
  obtain ⟨A4, F4', T4', _, ⟨x4a, x4b⟩, _⟩ := id X4
  have h300' := A4.2.2.2.1.2
  obtain ⟨σ5, n5, w3, W5, w4⟩ := t_wanted J A4.1.1 A4.1.2 Hc A4.1.2.2.2.2.2.1 tI (by show 1 + 0 + 0 ≤ _; omega) okc.1.1 (Nat.le_trans okc.1.2 (by omega)) q4 A4.2.2.2.1.1 A4.2.2.2.1.2 (by omega) A4.2.2.1
  obtain ⟨F5, T5, ⟨f842', gg5⟩, k9, k10⟩ := JX_W X4 W5 ⟨by omega, by omega, by omega⟩
  rw [(arr σ4 F4'.1).2.1, w3, Option.bind_some]
  cases z4 with
  | inl kp =>
    have ez : z = .inl kp := (Option.some.inj e4).symm
    have F := k9 kp.1 kp.2 rfl
    rw [last σ5 F.1.1]
    exact ⟨_, σ5, n5, rfl, JXF_end0 F (by rw [gg5, A4.2.1.1, g788]) (by rw [ect]; omega) (xrange σ5 F.1.1) ⟨i84.1, i84.2.1⟩ ez⟩
  | inr d =>
  obtain ⟨d, sd⟩ := d
  have ez : z = .inr (en 18 lb (if lb.2.1 = 60 ∨ lb.2.1 = 61 then tBool else tInt) .leaf [] bb d, sd) := (Option.some.inj e4).symm
  have X5 := k10 d sd rfl
  have Hd := w4 d sd rfl
  rw [last σ5 X5.2.1.1]
  refine ⟨_, σ5, n5, rfl, JX_end0 X5 g788 (by rw [ect]; omega) (xrange σ5 X5.2.1.1) ⟨i84.1, i84.2.1⟩ ez (fun τ Fσ Tσ Tτ Fτ kτ v842 v846 => ?_)⟩
  generalize eW : (if lb.2.1 = 60 ∨ lb.2.1 = 61 then tBool else tInt) = Wt
  unfold XTe
  rw [XTg_e]
  unfold XTb
  rw [if_neg (by decide), if_neg (by decide), if_neg (by decide), if_neg (by decide), if_neg (by decide), if_neg (by decide), if_pos rfl]
  have Hb' : XTe τ n5 bb lo m xl := by
    refine XTe_keep (fr_trans F4.1 (fr_trans F5.1 Fτ)) (tx_trans T4 (tx_trans T5 Tτ)) (fun i j1 j2 => ?_) Hb
    have w := kτ i (by omega)
    have w5 := F5.2.1 i (.inl (by omega))
    have w4 := F4.2.1 i (.inl (by omega))
    rw [w.1, w.2, w5.1, w5.2, w4.1, w4.2]
    exact ⟨rfl, rfl⟩
  have Hd' : XTe τ n5 d m v xb := XTe_keep Fτ Tτ (fun i j1 j2 => kτ i (by omega)) Hd
  obtain ⟨a1, a2, a3, a4⟩ := arr τ Fσ
  refine ⟨i84, by rw [Fσ.2 538 (by decide)]; exact h538, ⟨?_, v846⟩, h5, tkP_keep Fσ h6, ⟨k, a3, t2, by rw [a4]; exact t3⟩, m, xl, xb, a1, a2, Hb', Hd'⟩
  show tyT τ n5 Wt (ga τ 842 v)
  rw [v842, ← eW]
  have E5 := X5.1.1.2.2.2.2.2
  by_cases c : lb.2.1 = 60 ∨ lb.2.1 = 61
  · rw [if_pos c, if_pos c]; exact tyT_mono Tτ E5.2
  · rw [if_neg c, if_neg c]; exact tyT_mono Tτ E5.1
end LJV
