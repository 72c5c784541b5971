set_option maxRecDepth 100000
/-! EXS BECOME KNOWN: names are bound; what is known already -/
section LB0
variable {S : List Int} {b m : Nat} {N : List (List Int)} {K : KT} {sc : List Nat} {F : FT} {Ms : List FT} {bd bd' : List Nat} {σ τ σ1 : tS} {n n' q lo hi sp j : Nat} {X : Int}
/-- a name is bound, in the twin -/
theorem t_binds (H : EU S b m N K sc F Ms σ n bd sp) (k2 : tokk S j = 2) (hl : bd.length < 600) : ∃ (w : Nat) (τ : tS), T_binds ((b + j : Nat) : Int) σ = some τ ∧ N[w]? = some (tokw S j) ∧ EU S b m N K sc F Ms τ n (bd ++ [w]) sp ∧ fr [788] [782] σ τ ∧ (∀ i, i < bd.length → ga τ 782 i = ga σ 782 i) := by
  obtain ⟨w, w1, w2, w3⟩ := t_nameAt H.1.2.1 (.inl k2)
  have e788 := H.2.1.1
  refine ⟨w, us (ua σ 782 bd.length (w : Int)) 788 ((bd.length + 1 : Nat) : Int), ?_, w2, ?_, ?_, fun i hi => ?_⟩
  · unfold T_binds
    rw [w1, Option.bind_some, e788, if_pos (by omega), w32_s (by omega) (by omega), show ((bd.length : Int)).toNat = bd.length by omega]
    rfl
  · have R : fr [788] [782] σ (us (ua σ 782 bd.length (w : Int)) 788 ((bd.length + 1 : Nat) : Int)) := ⟨fun f hf => by rw [gs_us, if_neg (fun z => hf (by rw [z]; decide))]; rfl, fun f hf i => by
      show ga (ua σ 782 bd.length (w : Int)) f i = _
      rw [ga_ua, if_neg (fun (z : f = 782 ∧ i = bd.length) => hf (by rw [z.1]; decide))]⟩
    obtain ⟨h1, ⟨h2, h3⟩, h4, h5⟩ := H
    have e1 : gs (us (ua σ 782 bd.length (w : Int)) 788 ((bd.length + 1 : Nat) : Int)) 452 = gs σ 452 := R.1 452 (by decide)
    have e2 : gs (us (ua σ 782 bd.length (w : Int)) 788 ((bd.length + 1 : Nat) : Int)) 456 = gs σ 456 := R.1 456 (by decide)
    refine ⟨KU_step h1 R (by decide) (by decide) (TyK_same (R.1 532 (by decide)) (fun f hf i => R.2 f (fun z => by rw [List.mem_singleton.mp z] at hf; exact absurd hf (by decide)) i) h1.1) (by rw [e1]; exact h1.2.2.2.2.1) (by rw [bp_eq e1 e2]; omega), ⟨by rw [gs_us, if_pos rfl]; simp, fun i v hv => ?_⟩, by rw [R.1 856 (by decide)]; exact h4, fun y L hy => by rw [R.2 638 (by decide)]; exact h5 y L hy⟩
    show ga (ua σ 782 bd.length (w : Int)) 782 i = _
    by_cases z : i < bd.length
    · rw [ga_ua, if_neg (fun (y : (782 : Nat) = 782 ∧ i = bd.length) => by omega)]
      rw [List.getElem?_append_left z] at hv
      exact h3 i v hv
    · have il := (List.getElem?_eq_some_iff.mp hv).1
      have ie : i = bd.length := by simp at il; omega
      rw [ga_ua, if_pos ⟨rfl, ie⟩]
      rw [ie, List.getElem?_append_right (Nat.le_refl _), Nat.sub_self] at hv
      simp at hv
      rw [hv]
  · exact ⟨fun f hf => by rw [gs_us, if_neg (fun z => hf (by rw [z]; decide))]; rfl, fun f hf i => by
      show ga (ua σ 782 bd.length (w : Int)) f i = _
      rw [ga_ua, if_neg (fun (z : f = 782 ∧ i = bd.length) => hf (by rw [z.1]; decide))]⟩
  · show ga (ua σ 782 bd.length (w : Int)) 782 i = _
    rw [ga_ua, if_neg (fun (y : (782 : Nat) = 782 ∧ i = bd.length) => by omega)]
/-- and is bound no more -/
theorem SU_in (H : EU S b m N K sc F Ms σ n bd sp) (p : bd <+: bd') (R : fr [788] [782] σ σ1) (k : ∀ i, i < bd.length → ga σ1 782 i = ga σ 782 i) (C : SU S b m N K sc F Ms bd' sp lo hi σ1 n τ n' q X) : SU S b m N K sc F Ms bd sp lo hi σ n (us τ 788 (bd.length : Int)) n' q X := by
  obtain ⟨a1, a2, a3, a4, a5, a6, a7, a8⟩ := C
  have pl := p.length_le
  have g1 : ∀ f, f ≠ 782 → ∀ i, ga σ1 f i = ga σ f i := fun f hf i => R.2 f (fun z => hf (List.mem_singleton.mp z)) i
  have e : ∀ f, f ≠ 788 → gs (us τ 788 (bd.length : Int)) f = gs τ f := fun f hf => by rw [gs_us, if_neg hf]
  obtain ⟨h1, ⟨h2, h3⟩, h4, h5⟩ := a1
  have R2 : fr [788] [] τ (us τ 788 (bd.length : Int)) := ⟨fun f hf => e f (fun z => hf (by rw [z]; decide)), fun f _ i => rfl⟩
  have e1 := e 452 (by decide)
  have e2 := e 456 (by decide)
  have k782 : ∀ i, i < bd.length → ga τ 782 i = ga σ 782 i := fun i hi => (a4 i (by omega)).trans (k i hi)
  refine ⟨⟨KU_step h1 R2 (by decide) (by decide) (TyK_same (e 532 (by decide)) (fun f _ i => rfl) h1.1) (by rw [e1]; exact h1.2.2.2.2.1) (by rw [bp_eq e1 e2]; omega), ⟨by rw [gs_us, if_pos rfl], fun i v hv => ?_⟩, by rw [e 856 (by decide)]; exact h4, fun y L hy => h5 y L hy⟩, ⟨fun f hf => ?_, fun f hf i => ?_⟩, fun i => ?_, k782, fun i hi => (a5 i hi).trans (g1 850 (by decide) i), ?_, a7, ?_⟩
  · show ga τ 782 i = _
    have il := (List.getElem?_eq_some_iff.mp hv).1
    rw [k782 i il]
    exact H.2.1.2 i v hv
  · have f7 : f ≠ 788 := fun z => hf (by rw [z]; decide)
    rw [e f f7, a2.1 f hf, R.1 f (fun z => f7 (List.mem_singleton.mp z))]
  · show ga τ f i = _
    rw [a2.2 f hf, g1 f (fun z => hf (by rw [z]; decide))]
  · show _ ∨ ga τ 550 i = _
    rcases a3 i with z | z
    · exact .inl ⟨z.1, z.2.1, by rw [g1 538 (by decide)] at z; exact z.2.2⟩
    · exact .inr (z.trans (g1 550 (by decide) i))
  · refine ⟨a6.1, fun f hf c x hx => ?_⟩
    show ga τ f x = _
    rw [a6.2 f hf c x hx, g1 f (fun z => by rw [z] at hf; exact absurd hf (by decide))]
  · rw [bp_eq e1 e2, a8, bp_eq (σ := σ) (τ := σ1) (R.1 452 (by decide)) (R.1 456 (by decide))]
end LB0
section LB1
variable {G : om_G} {A : Nat} {S : List Int} {b m : Nat} {N : List (List Int)} {cs : List Nat} {K : KT} {pr Ln : Nat} {Ls : List (List Int)} {sc : List Nat} {tb : Nat} {rest : List (Nat × List Nat)} {fo : List Nat} {F : FT} {mo : List (List Nat)} {Ms : List FT} {rs so Lb : Nat} {bLs : List (List Int)} {bd : List Nat} {z0 d : Nat}
variable {h h' h1 h2 : om_H} {us fs us' fs' us2 fs2 : List Nat} {σ τ : tS} {n n' q q2 lo hi alo ahi sp a v w j : Nat} {X X2 : Int} {L : List Int}
theorem WL_app : ∀ {ws : List Nat} {Ls : List (List Int)}, WL h ws Ls → (w < hz h ∧ fR h 1186 w < hz h ∧ wb h w L) → WL h (ws ++ [w]) (Ls ++ [L])
  | [], [], _, x => ⟨x, trivial⟩
  | _ :: _, _ :: _, c, x => ⟨c.1, WL_app c.2 x⟩
  | [], _ :: _, c, _ => c.elim
  | _ :: _, [], c, _ => c.elim
theorem WL_pop : ∀ {ws : List Nat} {Ls : List (List Int)}, WL h (ws ++ [w]) (Ls ++ [L]) → ws.length = Ls.length → WL h ws Ls
  | [], [], _, _ => trivial
  | _ :: ws, _ :: Ls, c, e => ⟨c.1, WL_pop c.2 (by simpa using e)⟩
  | [], _ :: _, _, e => by simp at e
  | _ :: _, [], _, e => by simp at e
theorem EC_Lb (H : EC G A S N cs K pr Ln Ls tb rest fo F mo Ms rs so Lb h us fs bLs) (Y : hT (fun y => y = Lb) h h1) : (∀ y, y = Lb → y < hz h → kd h y ≠ 3 ∧ kd h y ≠ 34 ∧ kd h y ≠ 56 ∧ y ≠ fR h 122 tb) ∧ dOK (fun y => y = Lb) h h1 := by
  have kL := H.2.2.2.2.1.1.2.1
  refine ⟨fun y hy _ => ?_, fun y hy => ?_⟩
  · rw [hy]
    exact ⟨by omega, by omega, by omega, H.2.2.2.2.2.1.1⟩
  · have hy' : y = Lb := hy
    rw [hy']
    exact ⟨by omega, by omega, fun z => by omega⟩
/-- the list of names that are bound is written -/
theorem EC_list {bLs' : List (List Int)} (H : EC G A S N cs K pr Ln Ls tb rest fo F mo Ms rs so Lb h us fs bLs) (Y : hT (fun y => y = Lb) h h1) (L1 : okW G h1 Lb) (L2 : WL h1 (ll h1 Lb) bLs') (L3 : bLs'.length ≤ 600) (L4 : lc h1 Lb ≤ 20000) : EC G A S N cs K pr Ln Ls tb rest fo F mo Ms rs so Lb h1 us fs bLs' := by
  obtain ⟨pk, dd⟩ := EC_Lb H Y
  have T := H.1.1.1
  have kL := H.2.2.2.2.1.1.2.1
  have kp := H.1.2.2.1.1.1.1
  have W := CS_write (N := N) (cl := clF cs) (P := fun y => y = Lb) (z := hz h1) (u := hu h1) T Y pk dd (by omega) (by omega)
  have T1 := TB_hT T H.1.1.2 Y pk dd
  have npr : pr ≠ Lb := fun z => by rw [z] at kp; omega
  have epr := Y.2.2.2 pr H.1.2.2.1.1.1.2 npr
  obtain ⟨⟨n1, n2, n3, n4, n5⟩, n6, n7⟩ := H.2.2.2.2.2
  have K1 : KC G A S N cs K pr Ln Ls tb rest h1 us fs := by
    refine KC_step H.1 T1 W dd ⟨fun z => n2 z.symm, fun c hc z => ?_, fun z => n4 z.symm, fun z => ?_⟩ (epr.2.2.1 82) (by rw [epr.2.1]; omega)
    · obtain ⟨i, hi⟩ := List.getElem?_of_mem hc
      have il := (List.getElem?_eq_some_iff.mp hi).1
      have ik : i < K.length := by have := H.1.2.2.1.1.2.2.1; omega
      have k18 := (H.1.2.2.1.1.2.2.2.2 i c _ hi (List.getElem?_eq_getElem ik)).1.2.2.1
      rw [z] at k18; omega
    · have := H.1.2.1.1.1; rw [z] at this; omega
  exact EC_step H K1 Y dd (fun y hy => .inr (.inl hy)) epr.2.2.1 W.2.2.2.2.1.2 L1 L2 L3 L4
/-- a name is bound, in the component -/
theorem c_push (H : EC G A S N cs K pr Ln Ls tb rest fo F mo Ms rs so Lb h us fs bLs) (W : wb h w L) (w1 : w < hz h) (w2 : fR h 1186 w < hz h) (hl : bLs.length + 1 ≤ 600) : ∃ h1, P_J2_add G Lb w h = some (1, h1) ∧ EC G A S N cs K pr Ln Ls tb rest fo F mo Ms rs so Lb h1 us fs (bLs ++ [L]) ∧ hT (fun y => y = Lb) h h1 ∧ ll h1 Lb = ll h Lb ++ [w] ∧ hz h1 ≤ hz h + 1 ∧ hu h1 + 4 * lc h Lb ≤ hu h + 4 * lc h1 Lb ∧ lc h Lb ≤ lc h1 Lb ∧ (lc h1 Lb ≤ lc h Lb ∨ lc h1 Lb ≤ 2 * (bLs.length + 1) + 10) := by
  obtain ⟨l1, l2, l3, l4⟩ := H.2.2.2.2.1
  have len := WL_len l2
  obtain ⟨g1, g2, g3, g4, g5, g6⟩ := w_add l1 (.inl ⟨w1, by rw [W.1]; omega, by rw [W.1]; omega⟩) (by omega)
  have rm := addL_room2 h Lb w l1.2.2.1
  have Y : hT (fun y => y = Lb) h (addL h Lb w) := by
    obtain ⟨x1, x2, x3, x4, x5, x6, x7, x8, x9, x10⟩ := g2
    exact ⟨x1, x2, x3, fun y hy nd => ⟨x3 y hy, fun f => x4 f y hy, fun f => x5 f y hy, x6 y hy, fun f => x7 y f hy, fun f => x8 y f hy, x9 y hy nd, x10 y hy nd⟩⟩
  have dd := (EC_Lb H Y).2
  have ew := Y.2.2.2 w w1 (fun z => by have := W.1; rw [z, l1.2.1] at this; omega)
  refine ⟨addL h Lb w, g1, EC_list H Y g3 ?_ (by simp; omega) (by rcases rm.2.1 with z | z <;> omega), Y, g4, g5, g6, rm.2.2.1, by rcases rm.2.1 with z | z <;> omega⟩
  rw [g4]
  exact WL_app (WL_hT Y dd l2) ⟨Nat.lt_of_lt_of_le w1 Y.1, by rw [ew.2.2.1]; exact Nat.lt_of_lt_of_le w2 Y.1, wb_hT Y dd w1 w2 W⟩
/-- and is bound no more: the whole step -/
theorem c_pop (H : EC G A S N cs K pr Ln Ls tb rest fo F mo Ms rs so Lb h us fs bLs) (D : djE h tb fs pr Lb alo ahi) (hA : ahi ≤ hz h) (Y : hT (fun y => y = Lb) h h1) (e1 : ll h1 Lb = ll h Lb ++ [w]) (z1 : hz h1 ≤ hz h + 1) (z2 : hu h1 + 4 * lc h Lb ≤ hu h + 4 * lc h1 Lb) (z3 : lc h Lb ≤ lc h1 Lb) (z4 : lc h1 Lb ≤ lc h Lb ∨ lc h1 Lb ≤ 2 * (bLs.length + 1) + 10) (C : SE G A S N cs K pr Ln Ls tb rest fo F mo Ms rs so Lb (bLs ++ [L]) alo ahi h1 us fs h2 us2 fs2 q X) : ∃ h3, (gd (kd h2 rs = 35 ∧ kd h2 (fR h2 1610 rs) = 42) ((P_J2_size G (fR h2 1610 rs) h2).bind fun p3 => gd (kd h2 (fR h2 1610 rs) = 42) ((P_J2_remove G (fR h2 1610 rs) (w32 (p3 - 1)) h2).bind fun p4 => some p4.2))) = some h3 ∧ SE G A S N cs K pr Ln Ls tb rest fo F mo Ms rs so Lb bLs alo ahi h us fs h3 us2 fs2 (q + 1) X ∧ hT (fun y => y = Lb) h2 h3 := by
  obtain ⟨c1, c2, c3, c4, c5, c6⟩ := C
  obtain ⟨hK, _, ⟨r1, r2, r3, r4, r5, r6⟩, _, ⟨l1, l2, l3, l4⟩, _⟩ := id c1
  have len0 := WL_len H.2.2.2.2.1.2.1
  have e2 : ll h2 Lb = ll h Lb ++ [w] := c3.2.2.trans e1
  have len2 : (ll h2 Lb).length = bLs.length + 1 := by rw [e2]; simp; omega
  have erm : P_J2_remove G Lb (w32 (((bLs.length + 1 : Nat) : Int) - 1)) h2 = some (w, sL h2 Lb (ll h Lb)) := by
    unfold P_J2_remove
    have l3' : bLs.length + 1 ≤ 600 := by simpa using l3
    rw [w32_s (by omega) (by omega), gd_pos ⟨l1.2.1, by rw [len2]; omega⟩, e2, List.getLast?_append]
    simp
  have Y2 : hT (fun y => y = Lb) h2 (sL h2 Lb (ll h Lb)) := hT_sL
  have dd2 := (EC_Lb c1 Y2).2
  have lw : WL (sL h2 Lb (ll h Lb)) (ll (sL h2 Lb (ll h Lb)) Lb) bLs := by
    rw [ll_sL, if_pos rfl]
    rw [e2] at l2
    exact WL_hT Y2 dd2 (WL_pop l2 len0)
  have O3 : okW G (sL h2 Lb (ll h Lb)) Lb := ⟨l1.1, l1.2.1, by rw [ll_sL, if_pos rfl, lc_sL]; have := l1.2.2.1; omega, l1.2.2.2.1, fun y hy => by
    rw [ll_sL, if_pos rfl] at hy
    exact objY_mono (h := h2) (Nat.le_refl _) (fun _ _ => rfl) (l1.2.2.2.2 y (by rw [e2]; exact List.mem_append_left _ hy))⟩
  have l3' : bLs.length + 1 ≤ 600 := by simpa using l3
  have E3 := EC_list c1 Y2 O3 lw (by omega) l4
  have hz2 := c2.1.1
  have npr : pr ≠ Lb := fun z => by have := H.1.2.2.1.1.1.1; rw [z, H.2.2.2.2.1.1.2.1] at this; omega
  have epr1 := Y.2.2.2 pr H.1.2.2.1.1.1.2 npr
  have ep2 : pr < hz h2 := by have := H.1.2.2.1.1.1.2; have := Y.1; omega
  have epr3 := Y2.2.2.2 pr ep2 npr
  have LbD : Lb < alo ∨ ahi ≤ Lb := D Lb (.inr (.inr rfl))
  have kYd := EC_Lb H Y
  have W1 := CS_write (N := N) (cl := clF cs) (P := fun y => y = Lb) (z := 1) (u := 4 * (lc h1 Lb - lc h Lb)) H.1.1.1 Y kYd.1 kYd.2 (by omega) (by omega)
  have kY3 := EC_Lb c1 Y2
  have W3 := CS_write (N := N) (cl := clF cs) (P := fun y => y = Lb) (z := 0) (u := 0) c1.1.1.1 Y2 kY3.1 kY3.2 (Nat.le_refl _) (Nat.le_refl _)
  have W12 := CS_trans (CS_mono W1 (P' := EP h pr Lb alo ahi) (fun y _ z => .inr (.inl z))) c2 (fun y hy z => by
    rcases z with z | z | ⟨y1, y2, y3⟩
    · exact .inl z
    · exact .inr (.inl z)
    · exact .inr (.inr ⟨y1, y2, by rw [Y.2.2.1 y hy] at y3; exact y3⟩))
  have W123 := CS_trans W12 W3 (fun y _ z => .inr (.inl z))
  have lc3 : lc (sL h2 Lb (ll h Lb)) Lb = lc h2 Lb := rfl
  have len1 : (bLs ++ [L]).length = bLs.length + 1 := by simp
  rw [len1] at c3
  refine ⟨sL h2 Lb (ll h Lb), ?_, ⟨E3, CS_le W123 (by omega) (by omega) (by rw [lc3]; omega), ⟨by rw [lc3]; omega, by rw [lc3]; omega, by rw [ll_sL, if_pos rfl]⟩, fun y d1 d2 => ?_, ⟨fun f hf => ?_, fun f => ?_⟩, ?_⟩, Y2⟩
  · rw [r6, gd_pos ⟨r1, l1.2.1⟩, show P_J2_size G Lb h2 = some (((bLs.length + 1 : Nat)) : Int) by unfold P_J2_size; rw [gd_pos l1.2.1, len2], Option.bind_some, gd_pos l1.2.1, erm, Option.bind_some]
  · have a1 := Y.2.2.2 y (by omega) (show y ≠ Lb by omega)
    have a2 := c4 y d1 d2
    exact ⟨a2.1.trans a1.1, fun f hf => (a2.2.1 f hf).trans (a1.2.1 f), fun f hf => (a2.2.2.1 f hf).trans (a1.2.2.1 f), by rw [ll_sL, if_neg (by omega), a2.2.2.2]; exact a1.2.2.2.2.2.2.1⟩
  · exact (c5.1 f hf).trans (epr1.2.1 f)
  · exact (c5.2 f).trans (epr1.2.2.1 f)
  · show fI h2 112 pr = _
    rw [c6, epr1.2.1]
/-- an ex that is known, later -/
theorem XS_step {k lo' hi' alo' ahi' e : Nat} (W : XS G A S b h σ (Psi1 S b N cs rest fo F mo Ms z0 h us σ n) k e lo' hi' alo' ahi' a v) (H : EC G A S N cs K pr Ln Ls tb rest fo F mo Ms rs so Lb h us fs bLs) (zc : fR h 122 tb < z0 ∧ Lb < z0) (D : djE h tb fs pr Lb alo' ahi') (C : SE G A S N cs K pr Ln Ls tb rest fo F mo Ms rs so Lb bLs alo ahi h us fs h' us' fs' q X) (hA : ahi' ≤ hz h) (dj1 : ahi' ≤ alo ∨ ahi ≤ alo') (C2 : SU S b m N K sc F Ms bd sp lo hi σ n τ n' q2 X2) (dj2 : hi' ≤ lo ∨ hi ≤ lo') : XS G A S b h' τ (Psi1 S b N cs rest fo F mo Ms z0 h' us' τ n') k e lo' hi' alo' ahi' a v := by
  have K1 := SE_hk D C hA dj1
  have L1 := SU_nall C2 dj2
  refine XS_keep W (fun e => ⟨fun a c1 c2 => ⟨(K1 a c1 c2).1, fun f _ => (K1 a c1 c2).2.1 f, fun f _ => (K1 a c1 c2).2.2.1 f, (K1 a c1 c2).2.2.2.1⟩, SU_nss C2, Psi1_keep K1 L1 C.2.1.2.2.2.2.2.1 C2.2.2.2.2.2.1 C.2.1.1.1 (fun y y1 y2 y3 => ?_)⟩)
  have ey := C.2.1.1.2.2.2 y y2 (fun z => by
    rcases z with z | z | z | z
    · exact nDT H.1.1.1 (by rw [y3]; decide) (by omega) z
    · have := H.1.2.2.1.1.1.1; rw [z] at y3; omega
    · omega
    · omega)
  exact ⟨by rw [ey.1]; exact y3, ey.2.2.2.2.2.2.1⟩
end LB1
