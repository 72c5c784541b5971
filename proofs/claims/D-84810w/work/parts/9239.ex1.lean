set_option maxRecDepth 100000
/-! EXS BECOME KNOWN: what keeps what both have; types within -/
section LE1
variable {G : om_G} {A : Nat} {S : List Int} {b m : Nat} {N : List (List Int)} {cs : List Nat} {K : KT} {pr Ln : Nat} {Ls : List (List Int)} {sc : List Nat} {tb : Nat} {rest : List (Nat × List Nat)} {fo : List Nat} {F : FT} {mo : List (List Nat)} {Ms : List FT} {rs so Lb : Nat} {bLs bLs' : List (List Int)} {bd : List Nat}
variable {h h' : om_H} {us fs us' fs' : List Nat} {σ τ : tS} {n n' q lo hi alo ahi sp : Nat} {X : Int}
theorem SLs_hT {D : Nat → Prop} (X : hT D h h') (d : dOK D h h') {Lx kk f g : Nat} {os : List Nat} {F : FT} (C : SLs h Lx kk f g os F) (nL : ¬ D Lx) (nc : ∀ c, kd h c = kk → ¬ D c) : SLs h' Lx kk f g os F := by
  obtain ⟨c0, c1, c2, c3, c4, c5⟩ := C
  have eL := X.2.2.2 _ c0 nL
  refine ⟨Nat.lt_of_lt_of_le c0 X.1, by rw [eL.1]; exact c1, by rw [eL.2.2.2.2.2.2.1]; exact c2, c3, c4, fun i o k ho hk => ?_⟩
  obtain ⟨d1, d2⟩ := c5 i o k ho hk
  have e := X.2.2.2 o d1.2.1 (nc o d1.2.2)
  exact ⟨⟨d1.1, Nat.lt_of_lt_of_le d1.2.1 X.1, by rw [e.1]; exact d1.2.2⟩, CLw_hT X d d1.2.1 (nc o d1.2.2) d2⟩
/-- the component's context, when only these are written -/
theorem EC_step {D : Nat → Prop} (H : EC G A S N cs K pr Ln Ls tb rest fo F mo Ms rs so Lb h us fs bLs) (HK : KC G A S N cs K pr Ln Ls tb rest h' us' fs') (X : hT D h h') (d : dOK D h h') (nd : ∀ y, D y → y = pr ∨ y = Lb ∨ y = fR h 122 tb ∨ kd h y = 3 ∨ kd h y = 34 ∨ kd h y = 56 ∨ kd h y = 24 ∨ kd h y = 25 ∨ kd h y = 28 ∨ (kd h y = 42 ∧ y ≠ fR h 90 pr ∧ ∀ c ∈ cs, fR h 1230 c ≠ y)) (e1 : ∀ f, fR h' f pr = fR h f pr) (e2 : ∀ f, fR h' f tb = fR h f tb) (L1 : okW G h' Lb) (L2 : WL h' (ll h' Lb) bLs') (L3 : bLs'.length ≤ 600) (L4 : lc h' Lb ≤ 20000) : EC G A S N cs K pr Ln Ls tb rest fo F mo Ms rs so Lb h' us' fs' bLs' := by
  obtain ⟨hK, ⟨f1, f2, f3, f4⟩, ⟨r1, r2, r3, r4, r5, r6⟩, ⟨s1, s2, s3⟩, ⟨l1, l2, l3, l4⟩, ⟨n1, n2, n3, n4, n5⟩, n6, n7⟩ := H
  obtain ⟨⟨a1, a3⟩, ⟨b2, b3⟩, ⟨c1, c3, c4⟩, ⟨g1, g3⟩⟩ := id hK
  have kL := l1.2.1
  have kp := c1.1.1
  have kP := a1.2.1.1.2.1
  have nk : ∀ y, kd h y ≠ 2 → kd h y ≠ 42 → kd h y ≠ 3 → kd h y ≠ 34 → kd h y ≠ 56 → kd h y ≠ 24 → kd h y ≠ 25 → kd h y ≠ 28 → ¬ D y := fun y h1 h2 h3 h4 h5 h6 h7 h8 z => by
    rcases nd y z with z | z | z | z | z | z | z | z | z | z
    · rw [z] at h1; exact h1 kp
    · rw [z] at h2; exact h2 kL
    · rw [z] at h2; exact h2 kP
    · exact h3 z
    · exact h4 z
    · exact h5 z
    · exact h6 z
    · exact h7 z
    · exact h8 z
    · exact h2 z.1
  have nl : ∀ y, kd h y = 42 → y ≠ Lb → y ≠ fR h 122 tb → (y = fR h 90 pr ∨ ∃ c ∈ cs, fR h 1230 c = y) → ¬ D y := fun y h1 h2 h3 h4 z => by
    rcases nd y z with z | z | z | z | z | z | z | z | z | z
    · rw [z] at h1; omega
    · exact h2 z
    · exact h3 z
    · omega
    · omega
    · omega
    · omega
    · omega
    · omega
    · rcases h4 with h4 | ⟨c, hc, h4⟩
      · exact z.2.1 h4
      · exact z.2.2 c hc h4
  have ers := X.2.2.2 rs r2 (nk rs (by omega) (by omega) (by omega) (by omega) (by omega) (by omega) (by omega) (by omega))
  have eso := X.2.2.2 so s2 (nk so (by omega) (by omega) (by omega) (by omega) (by omega) (by omega) (by omega) (by omega))
  have ec : ∀ c ∈ cs, eqA c h h' := fun c hc => by
    obtain ⟨i, hi⟩ := List.getElem?_of_mem hc
    have il := (List.getElem?_eq_some_iff.mp hi).1
    have ik : i < K.length := by have := c1.2.2.1; omega
    have k18 := (c1.2.2.2.2 i c _ hi (List.getElem?_eq_getElem ik)).1
    exact X.2.2.2 c k18.2.1 (nk c (by omega) (by omega) (by omega) (by omega) (by omega) (by omega) (by omega) (by omega))
  refine ⟨HK, ⟨?_, f2, f3, fun i c ms Fm h1 h2 h3 => ?_⟩, ⟨by rw [ers.1]; exact r1, Nat.lt_of_lt_of_le r2 X.1, by rw [ers.2.2.1]; exact r3, by rw [ers.2.2.1]; exact r4, by rw [ers.2.2.1]; exact r5, by rw [ers.2.2.1]; exact r6⟩, ⟨by rw [eso.1]; exact s1, Nat.lt_of_lt_of_le s2 X.1, by rw [eso.2.2.1]; exact s3⟩, ⟨L1, L2, L3, L4⟩, ⟨by rw [e2]; exact n1, by rw [e1]; exact n2, by rw [e1]; exact n3, n4, fun c hc => by rw [(ec c hc).2.2.1]; exact n5 c hc⟩, by rw [e1, e2]; exact n6, fun c hc => by rw [(ec c hc).2.2.1, e2]; exact n7 c hc⟩
  · rw [e1]
    exact SLs_hT X d f1 (nl _ f1.2.1 (fun z => n3 z.symm) n6 (.inl rfl)) (fun c hc => nk c (by omega) (by omega) (by omega) (by omega) (by omega) (by omega) (by omega) (by omega))
  · have hc := List.mem_of_getElem? h1
    have S1 := f4 i c ms Fm h1 h2 h3
    rw [(ec c hc).2.2.1]
    exact SLs_hT X d S1 (nl _ S1.2.1 (n5 c hc) (n7 c hc) (.inr ⟨c, hc, rfl⟩)) (fun c hc => nk c (by omega) (by omega) (by omega) (by omega) (by omega) (by omega) (by omega) (by omega))
theorem okW_hT {D : Nat → Prop} {L : Nat} (O : okW G h L) (X : hT D h h') (nP : ¬ D L) : okW G h' L := by
  have e := X.2.2.2 L O.1 nP
  exact ⟨Nat.lt_of_lt_of_le O.1 X.1, by rw [e.1]; exact O.2.1, by rw [e.2.2.2.2.2.2.1, e.2.2.2.2.2.2.2]; exact O.2.2.1, by rw [e.2.2.2.2.2.2.2]; exact O.2.2.2.1, fun y hy => by rw [e.2.2.2.2.2.2.1] at hy; exact objY_mono X.1 X.2.2.1 (O.2.2.2.2 y hy)⟩
/-- a step of types is a step of exs -/
theorem SE_of (H : EC G A S N cs K pr Ln Ls tb rest fo F mo Ms rs so Lb h us fs bLs) (C : SC G A S N cs K pr Ln Ls tb rest h us fs h' us' fs' q X) (hA : ahi ≤ hz h) (D : djE h tb fs pr Lb alo ahi) : SE G A S N cs K pr Ln Ls tb rest fo F mo Ms rs so Lb bLs alo ahi h us fs h' us' fs' q X := by
  obtain ⟨c1, c2, c3, c4⟩ := C
  have T := H.1.1.1
  have kL := H.2.2.2.2.1.1.2.1
  have nL : ¬ (DT h tb fs Lb ∨ Lb = pr) := fun z => by
    rcases z with z | z
    · exact nDT T (by rw [kL]; decide) H.2.2.2.2.2.1.1 z
    · have := H.1.2.2.1.1.1.1; rw [← z] at this; omega
  have eL := c2.1.2.2.2 Lb H.2.2.2.2.1.1.1 nL
  have dd : dOK (fun y => DT h tb fs y ∨ y = pr) h h' := fun y hy => by
    rcases hy with hy | hy
    · exact DT_ok T y hy
    · have := H.1.2.2.1.1.1.1
      rw [hy]
      exact ⟨by omega, by omega, fun z => by omega⟩
  refine ⟨EC_step H c1 c2.1 dd (fun y hy => ?_) c3.2 c2.2.2.2.2.1.2 (okW_hT H.2.2.2.2.1.1 c2.1 nL) (by rw [eL.2.2.2.2.2.2.1]; exact WL_hT c2.1 dd H.2.2.2.2.1.2.1) H.2.2.2.2.1.2.2.1 (by rw [eL.2.2.2.2.2.2.2]; exact H.2.2.2.2.1.2.2.2), CS_le (CS_mono c2 (fun y _ z => .inl z)) (Nat.le_refl _) (by omega) (by omega), ⟨by rw [eL.2.2.2.2.2.2.2]; omega, by rw [eL.2.2.2.2.2.2.2]; omega, eL.2.2.2.2.2.2.1⟩, fun a h1 h2 => ?_, c3, c4⟩
  · rcases hy with hy | hy
    · rcases DT_kd T hy with z | z | z | z
      · exact .inr (.inr (.inr (.inl z)))
      · rcases hy with y1 | y1 | y1 | y1
        · rw [y1, (TB_3 T).1] at z; omega
        · exact .inr (.inr (.inl y1))
        · rw [y1, T.1.2.1.2.1.2.1] at z; omega
        · rw [(T.2.1.2.2.2.2 y (List.mem_append_right _ y1)).1] at z; omega
      · exact .inr (.inr (.inr (.inr (.inr (.inl z)))))
      · exact .inr (.inr (.inr (.inr (.inl z))))
    · exact .inl hy
  · have e := c2.1.2.2.2 a (by omega) (fun z => by
      rcases z with z | z
      · have := D a (.inl z); omega
      · have := D a (.inr (.inl z)); omega)
    exact ⟨e.1, fun f _ => e.2.1 f, fun f _ => e.2.2.1 f, e.2.2.2.2.2.2.1⟩
theorem SU_of (H : EU S b m N K sc F Ms σ n bd sp) (C : ST S b m N K sc σ n τ n' q X) : SU S b m N K sc F Ms bd sp lo hi σ n τ n' q X := by
  obtain ⟨c1, c2, c3, c4, c5⟩ := C
  have g : ∀ f, f ∉ TYA → ∀ i, ga τ f i = ga σ f i := c2.2
  refine ⟨⟨c1, ⟨by rw [c2.1 788 (by decide)]; exact H.2.1.1, fun i v hv => by rw [g 782 (by decide)]; exact H.2.1.2 i v hv⟩, by rw [c2.1 856 (by decide)]; exact H.2.2.1, fun w L hw => by rw [g 638 (by decide)]; exact H.2.2.2 w L hw⟩, ⟨fun f hf => c2.1 f (fun z => hf (by simp only [List.mem_cons, List.not_mem_nil, or_false] at z ⊢; omega)), fun f hf i => g f (fun z => hf (List.mem_cons_of_mem _ (List.mem_cons_of_mem _ (List.mem_cons_of_mem _ z)))) i⟩, fun i => .inr (g 550 (by decide) i), fun i _ => g 782 (by decide) i, fun i _ => g 850 (by decide) i, c3, c4, c5⟩
/-- room that is needed -/
def ER (S : List Int) (lo hi alo ahi pr tb Lb : Nat) (h : om_H) (us fs : List Nat) (n sp : Nat) : Prop := (0 < alo ∧ ahi ≤ hz h ∧ hi ≤ 2700 ∧ S.length ≤ 2000) ∧ djE h tb fs pr Lb alo ahi ∧ n + (hi - lo) ≤ 126000 ∧ tl us fs + (hi - lo) ≤ 149000 ∧ sp + (hi - lo) ≤ 4200
theorem ER_KR (R : ER S lo hi alo ahi pr tb Lb h us fs n sp) {lo' hi' alo' ahi' : Nat} (h1 : lo ≤ lo') (h2 : hi' ≤ hi) (h3 : alo ≤ alo') (h4 : ahi' ≤ ahi) : KR S lo' hi' alo' ahi' pr tb h us fs n := by
  obtain ⟨r1, r2, r3, r4, r5⟩ := R
  refine ⟨⟨by omega, by omega, by omega, r1.2.2.2⟩, fun y hy => ?_, by omega, by omega⟩
  rcases hy with z | z
  · have := r2 y (.inl z); omega
  · have := r2 y (.inr (.inl z)); omega
theorem ER_sub (R : ER S lo hi alo ahi pr tb Lb h us fs n sp) {lo' hi' alo' ahi' : Nat} (h1 : lo ≤ lo') (h2 : hi' ≤ hi) (h3 : alo ≤ alo') (h4 : ahi' ≤ ahi) : ER S lo' hi' alo' ahi' pr tb Lb h us fs n sp := by
  obtain ⟨r1, r2, r3, r4, r5⟩ := R
  exact ⟨⟨by omega, by omega, by omega, r1.2.2.2⟩, djE_sub r2 h3 h4, by omega, by omega, by omega⟩
theorem ER_next {lo0 hi0 alo0 ahi0 : Nat} (R : ER S lo hi alo ahi pr tb Lb h us fs n sp) (C : SE G A S N cs K pr Ln Ls tb rest fo F mo Ms rs so Lb bLs alo0 ahi0 h us fs h' us' fs' q X) {X2 : Int} (C2 : SU S b m N K sc F Ms bd sp lo0 hi0 σ n τ n' q X2) {lo' hi' alo' ahi' : Nat} (h1 : lo + q ≤ lo') (h2 : hi' ≤ hi) (h3 : alo ≤ alo') (h4 : ahi' ≤ ahi) (h5 : lo + q ≤ hi) : ER S lo' hi' alo' ahi' pr tb Lb h' us' fs' n' sp := by
  obtain ⟨r1, r2, r3, r4, r5⟩ := R
  have z1 := C.2.1.1.1
  have z2 := C.2.1.2.2.2.1
  have z3 := C2.2.2.2.2.2.2.1
  exact ⟨⟨by omega, by omega, by omega, r1.2.2.2⟩, djE_sub (djE_step r2 C r1.2.1) h3 h4, by omega, by omega, by omega⟩
/-- a type within an ex becomes known -/
theorem type_step {a v : Nat} {lo' hi' alo' ahi' : Nat} (H : EC G A S N cs K pr Ln Ls tb rest fo F mo Ms rs so Lb h us fs bLs) (HU : EU S b m N K sc F Ms σ n bd sp) (W : WR A S b h σ 59 lo' hi' alo' ahi' a v) (R : ER S lo hi alo ahi pr tb Lb h us fs n sp) (h1 : lo ≤ lo') (h2 : hi' ≤ hi) (h3 : alo ≤ alo') (h4 : ahi' ≤ ahi) : ∃ (t : Int) (τ : tS) (n' x : Nat) (h' : om_H) (us' fs' : List Nat) (XC XT : Int), T_known (v : Int) σ = some (t, τ) ∧ C_35_type G rs a h = some (x, h') ∧ SE G A S N cs K pr Ln Ls tb rest fo F mo Ms rs so Lb bLs alo ahi h us fs h' us' fs' (hi' - lo') XC ∧ SU S b m N K sc F Ms bd sp lo hi σ n τ n' (hi' - lo') XT ∧ hk alo ahi h h' ∧ (∀ f, f ∉ TYA → ∀ i, ga τ f i = ga σ f i) ∧ brk S b m σ lo' hi' XC ∧ brk S b m σ lo' hi' XT ∧ tR N cs rest (scA N sc Ls) h' us' τ n' [x] [t] XC XT (hi' - lo') 59 := by
  obtain ⟨t, τ, n', x, h', us', fs', XC, XT, e1, e2, e3, e4, e5, e6, e7⟩ := known_rel 59 60 60 (by decide) (by decide) lo' hi' alo' ahi' a v h us fs σ n H.1 HU.1 W (ER_KR R h1 h2 h3 h4)
  refine ⟨t, τ, n', x, h', us', fs', XC, XT, e1, ?_, SE_of H e3 R.1.2.1 R.2.1, SU_of HU e4, hk_SC (fun y hy => ?_) e3 R.1.2.1, e4.2.1.2, e5, e6, e7⟩
  · obtain ⟨hK, _, ⟨r1, r2, r3, r4, r5, r6⟩, ⟨s1, s2, s3⟩, _⟩ := H
    unfold C_35_type
    rw [r3, r4, r5, s3, gd_pos ⟨r1, s1, hK.2.2.1.1.1.1⟩, show C_1_typeOf G pr a Ln tb h = some (x, h') from e2]
    rfl
  · rcases hy with z | z
    · exact R.2.1 y (.inl z)
    · exact R.2.1 y (.inr (.inl z))
/-- a step, and then new lists, or an ex's own fields -/
theorem SE_more {h1 h2 : om_H} {us1 fs1 : List Nat} {q1 q2 : Nat} {P : Nat → Prop} (H0 : EC G A S N cs K pr Ln Ls tb rest fo F mo Ms rs so Lb h us fs bLs) (C : SE G A S N cs K pr Ln Ls tb rest fo F mo Ms rs so Lb bLs alo ahi h us fs h1 us1 fs1 q1 X) (Y : hT P h1 h2) (Pn : ∀ y, P y → (hz h ≤ y ∧ kd h1 y = 42) ∨ (alo ≤ y ∧ y < ahi ∧ (kd h1 y = 24 ∨ kd h1 y = 25 ∨ kd h1 y = 28))) (hy : hs alo ahi h1 h2) (z1 : hz h2 ≤ hz h1 + 6 * q2) (z2 : hu h2 ≤ hu h1 + 20 * q2) : SE G A S N cs K pr Ln Ls tb rest fo F mo Ms rs so Lb bLs alo ahi h us fs h2 us1 fs1 (q1 + q2) X := by
  obtain ⟨c1, c2, c3, c4, c5, c6⟩ := C
  have X1 := c2.1
  have T1 := c1.1.1.1
  have N1 := c1.1.1.2
  have kdm := X1.2.2.1
  -- old lists
  have o82 : fR h 82 pr < hz h := H0.1.2.2.1.1.2.1.1
  have o90 : fR h 90 pr < hz h := H0.2.1.1.1
  have oLn : Ln < hz h := H0.1.2.2.2.1.1
  have oA : A < hz h := H0.1.2.1.2
  have oLb : Lb < hz h := H0.2.2.2.2.1.1.1
  have otb : tb < hz h := (TB_3 H0.1.1.1).2.2
  have oP : fR h 122 tb < hz h := H0.1.1.1.2.1.1.1
  have opr : pr < hz h := H0.1.2.2.1.1.1.2
  have e122 : fR h1 122 tb = fR h 122 tb := c2.2.2.2.2.1.2 122
  have k2 := c1.1.2.2.1.1.1.1
  have npr : ¬ P pr := fun z => by
    rcases Pn pr z with z | z <;> omega
  have nL : ¬ P Lb := fun z => by
    have := c1.2.2.2.2.1.1.2.1
    rcases Pn Lb z with z | z <;> omega
  have pk : ∀ y, P y → y < hz h1 → kd h1 y ≠ 3 ∧ kd h1 y ≠ 34 ∧ kd h1 y ≠ 56 ∧ y ≠ fR h1 122 tb := fun y z _ => by
    have kP := T1.2.1.1.2.1
    rcases Pn y z with z | z
    · exact ⟨by omega, by omega, by omega, by rw [e122]; omega⟩
    · exact ⟨by omega, by omega, by omega, fun w => by rw [← w] at kP; omega⟩
  have dd : dOK P h1 h2 := fun y z => by
    rcases Pn y z with z | z <;> exact ⟨by omega, by omega, fun w => by omega⟩
  have W := CS_write (N := N) (cl := clF cs) (z := 6 * q2) (u := 20 * q2) T1 Y pk dd z1 z2
  have T2 := TB_hT T1 N1 Y pk dd
  have epr := Y.2.2.2 pr (by have := X1.1; omega) npr
  have eLb := Y.2.2.2 Lb (by have := X1.1; omega) nL
  have etb := W.2.2.2.2.1.2
  have K2 : KC G A S N cs K pr Ln Ls tb rest h2 us1 fs1 := by
    refine KC_step c1.1 T2 W dd ⟨fun z => ?_, fun c hc z => ?_, fun z => ?_, fun z => ?_⟩ (epr.2.2.1 82) (by rw [epr.2.1]; omega)
    · have k := c1.1.2.2.1.1.2.1.2.1
      rcases Pn _ z with y | y
      · rw [c5.2] at y; omega
      · omega
    · obtain ⟨i, hi⟩ := List.getElem?_of_mem hc
      have il := (List.getElem?_eq_some_iff.mp hi).1
      have ik : i < K.length := by have := c1.1.2.2.1.1.2.2.1; omega
      have k18 := (c1.1.2.2.1.1.2.2.2.2 i c _ hi (List.getElem?_eq_getElem ik)).1.2.2.1
      rcases Pn _ z with y | y <;> omega
    · have k := c1.1.2.2.2.1.2.1
      rcases Pn _ z with y | y <;> omega
    · have k := c1.1.2.1.1.1
      rcases Pn _ z with y | y <;> omega
  have E2 : EC G A S N cs K pr Ln Ls tb rest fo F mo Ms rs so Lb h2 us1 fs1 bLs := by
    refine EC_step c1 K2 Y dd (fun y z => ?_) epr.2.2.1 etb (okW_hT c1.2.2.2.2.1.1 Y nL) (by rw [eLb.2.2.2.2.2.2.1]; exact WL_hT Y dd c1.2.2.2.2.1.2.1) c1.2.2.2.2.1.2.2.1 (by rw [eLb.2.2.2.2.2.2.2]; exact c1.2.2.2.2.1.2.2.2)
    rcases Pn y z with w | w
    · refine .inr (.inr (.inr (.inr (.inr (.inr (.inr (.inr (.inr ⟨w.2, by rw [c5.2]; omega, fun c hc q => ?_⟩))))))))
      obtain ⟨i, hi⟩ := List.getElem?_of_mem hc
      have il := (List.getElem?_eq_some_iff.mp hi).1
      have C0 := H0.1.2.2.1.1
      have ik : i < K.length := by have := C0.2.2.1; omega
      have k18 := (C0.2.2.2.2 i c _ hi (List.getElem?_eq_getElem ik)).1
      have F0 := H0.2.1
      have S0 := F0.2.2.2 i c _ _ hi (List.getElem?_eq_getElem (show i < mo.length by have := F0.2.1; omega)) (List.getElem?_eq_getElem (show i < Ms.length by have := F0.2.2.1; omega))
      have ec : fR h1 1230 c = fR h 1230 c := by
        refine (X1.2.2.2 c k18.2.1 (fun z => ?_)).2.2.1 1230
        rcases z with z | z | z | z
        · rcases DT_kd H0.1.1.1 z with z | z | z | z <;> omega
        · rw [z] at k18; have := H0.1.2.2.1.1.1.1; omega
        · rw [z] at k18; have := H0.2.2.2.2.1.1.2.1; omega
        · omega
      have := S0.1
      omega
    · rcases w.2.2 with w | w | w
      · exact .inr (.inr (.inr (.inr (.inr (.inr (.inl w))))))
      · exact .inr (.inr (.inr (.inr (.inr (.inr (.inr (.inl w)))))))
      · exact .inr (.inr (.inr (.inr (.inr (.inr (.inr (.inr (.inl w))))))))
  have W2 := CS_trans c2 W (fun y hy' z => by
    rcases Pn y z with w | w
    · omega
    · exact .inr (.inr ⟨w.1, w.2.1, by rw [kdm y hy'] at w; exact w.2.2⟩))
  refine ⟨E2, CS_le W2 (by omega) (by omega) (by rw [eLb.2.2.2.2.2.2.2]; omega), ⟨by rw [eLb.2.2.2.2.2.2.2]; exact c3.1, by rw [eLb.2.2.2.2.2.2.2]; omega, eLb.2.2.2.2.2.2.1.trans c3.2.2⟩, hs_trans c4 hy, ⟨fun f hf => (epr.2.1 f).trans (c5.1 f hf), fun f => (epr.2.2.1 f).trans (c5.2 f)⟩, by rw [epr.2.1]; exact c6⟩
end LE1
