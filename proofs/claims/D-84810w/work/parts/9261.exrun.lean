set_option maxRecDepth 100000
/-! A WHOLE EX BECOMES KNOWN: a Resolver of its own -/
/-- lists that are not those of the table -/
def nPL (h : om_H) (pr tb : Nat) (cs : List Nat) : Prop := fR h 90 pr ≠ fR h 122 tb ∧ ∀ c ∈ cs, fR h 1230 c ≠ fR h 122 tb
/-- what is written besides the table -/
def EQ (h : om_H) (pr alo ahi : Nat) (y : Nat) : Prop := y = pr ∨ (alo ≤ y ∧ y < ahi ∧ (kd h y = 24 ∨ kd h y = 25 ∨ kd h y = 28))
/-- what the component goes through when a whole ex becomes known -/
def SR (G : om_G) (A : Nat) (S : List Int) (N : List (List Int)) (cs : List Nat) (K : KT) (pr Ln : Nat) (Ls : List (List Int)) (tb : Nat) (rest : List (Nat × List Nat)) (fo : List Nat) (F : FT) (mo : List (List Nat)) (Ms : List FT) (alo ahi : Nat) (h : om_H) (us fs : List Nat) (h' : om_H) (us' fs' : List Nat) (q z u : Nat) (X : Int) : Prop :=
  KC G A S N cs K pr Ln Ls tb rest h' us' fs' ∧ FNS h' pr cs fo F mo Ms ∧ nPL h' pr tb cs ∧ CS (EQ h pr alo ahi) N (clF cs) tb rest h us fs h' us' fs' q z u ∧ hs alo ahi h h' ∧ ((∀ f, f ≠ 112 → fI h' f pr = fI h f pr) ∧ ∀ f, fR h' f pr = fR h f pr) ∧ fI h' 112 pr = min (fI h 112 pr) X
/-- a Resolver is begun -/
def rsH (h : om_H) (pr so tb : Nat) : om_H := sR (sR (sR (sR (gL (nO (nO h 35 4) 41 3) (hz h + 1) [] 0 0 0) 1610 (hz h) (hz h + 1)) 1598 (hz h) pr) 1602 (hz h) so) 1606 (hz h) tb
section LXR
variable {G : om_G} {A : Nat} {S : List Int} {b m : Nat} {N : List (List Int)} {cs : List Nat} {K : KT} {pr Ln : Nat} {Ls : List (List Int)} {sc : List Nat} {tb : Nat} {rest : List (Nat × List Nat)} {fo : List Nat} {F : FT} {mo : List (List Nat)} {Ms : List FT} {so : Nat}
variable {h : om_H} {ul fl : List Nat} {σ : tS} {n lo hi alo ahi sp a v : Nat}
theorem rsH_hz : hz (rsH h pr so tb) = hz h + 2 := by
  show hz (gL (nO (nO h 35 4) 41 3) (hz h + 1) [] 0 0 0) = _
  rw [hz_gL, hz_nO, hz_nO]
theorem rsH_hu : hu (rsH h pr so tb) = hu h + 7 := by
  show hu (gL (nO (nO h 35 4) 41 3) (hz h + 1) [] 0 0 0) = _
  rw [hu_gL, hu_nO, hu_nO]
theorem rsH_kd (y : Nat) : kd (rsH h pr so tb) y = if y = hz h + 1 then 42 else if y = hz h then 35 else kd h y := by
  show kd (gL (nO (nO h 35 4) 41 3) (hz h + 1) [] 0 0 0) y = _
  rw [kd_gL]
  by_cases c : y = hz h + 1
  · rw [if_pos c, if_pos c]
  · rw [if_neg c, if_neg c, kd_nO, hz_nO, if_neg c, kd_nO]
theorem rsH_eq {y : Nat} (hy : y < hz h) : eqA y h (rsH h pr so tb) := by
  refine ⟨by rw [rsH_kd, if_neg (by omega), if_neg (by omega)], fun f => ?_, fun f => ?_, rfl, fun f => rfl, fun f => rfl, ?_, ?_⟩
  · show fI (gL (nO (nO h 35 4) 41 3) (hz h + 1) [] 0 0 0) f y = _
    rw [fI_gL, fI_nO, hz_nO, if_neg (by omega), fI_nO, if_neg (by omega)]
  · unfold rsH
    rw [fR_na (by omega), fR_na (by omega), fR_na (by omega), fR_na (by omega), fR_gL, fR_nO, hz_nO, if_neg (by omega), fR_nO, if_neg (by omega)]
  · show ll (gL (nO (nO h 35 4) 41 3) (hz h + 1) [] 0 0 0) y = _
    rw [ll_gL, if_neg (by omega), ll_nO, ll_nO]
  · show lc (gL (nO (nO h 35 4) 41 3) (hz h + 1) [] 0 0 0) y = _
    rw [lc_gL, if_neg (by omega), lc_nO, lc_nO]
theorem rsH_hT : hT (fun _ => False) h (rsH h pr so tb) := ⟨by rw [rsH_hz]; omega, by rw [rsH_hu]; omega, fun y hy => (rsH_eq hy).1, fun y hy _ => rsH_eq hy⟩
theorem rsH_ll : ll (rsH h pr so tb) (hz h + 1) = [] ∧ lc (rsH h pr so tb) (hz h + 1) = 0 := by
  constructor
  · show ll (gL (nO (nO h 35 4) 41 3) (hz h + 1) [] 0 0 0) (hz h + 1) = _
    rw [ll_gL, if_pos rfl]
  · show lc (gL (nO (nO h 35 4) 41 3) (hz h + 1) [] 0 0 0) (hz h + 1) = _
    rw [lc_gL, if_pos rfl]
theorem rsH_fR : fR (rsH h pr so tb) 1598 (hz h) = pr ∧ fR (rsH h pr so tb) 1602 (hz h) = so ∧ fR (rsH h pr so tb) 1606 (hz h) = tb ∧ fR (rsH h pr so tb) 1610 (hz h) = hz h + 1 := by
  unfold rsH
  refine ⟨?_, ?_, fR_eq, ?_⟩
  · rw [fR_ne (by decide), fR_ne (by decide), fR_eq]
  · rw [fR_ne (by decide), fR_eq]
  · rw [fR_ne (by decide), fR_ne (by decide), fR_ne (by decide), fR_eq]
theorem rs_init : C_35_init G (hz h) pr so tb (nO h 35 4) = some (rsH h pr so tb) := by
  have e1 : hz (nO h 35 4) = hz h + 1 := hz_nO h 35 4
  have k1 : kd (nO h 35 4) (hz h) = 35 := by rw [kd_nO, if_pos rfl]
  have k2 : kd (nO (nO h 35 4) 41 3) (hz h + 1) = 41 := by rw [kd_nO, hz_nO, if_pos rfl]
  have ei : P_J2_init G (hz h + 1) (nO (nO h 35 4) 41 3) = some (gL (nO (nO h 35 4) 41 3) (hz h + 1) [] 0 0 0) := by
    unfold P_J2_init
    exact gd_pos ⟨k2, by rw [fI_nO, hz_nO, if_pos rfl]⟩
  have k3 : kd (gL (nO (nO h 35 4) 41 3) (hz h + 1) [] 0 0 0) (hz h) = 35 := by rw [kd_gL, if_neg (by omega), kd_nO, hz_nO, if_neg (by omega)]; exact k1
  unfold C_35_init
  rw [e1, gd_pos ⟨k1, k2⟩, ei, Option.bind_some, gd_pos ⟨k3, k3⟩]
  rfl
/-- the context of exs, at the beginning -/
theorem EC_begin (HK : KC G A S N cs K pr Ln Ls tb rest h ul fl) (HF : FNS h pr cs fo F mo Ms) (HP : nPL h pr tb cs) (s1 : kd h so = 5) (s2 : so < hz h) (s3 : fR h 162 so = Ln) : EC G A S N cs K pr Ln Ls tb rest fo F mo Ms (hz h) so (hz h + 1) (rsH h pr so tb) ul fl [] ∧ CS (fun _ => False) N (clF cs) tb rest h ul fl (rsH h pr so tb) ul fl 0 2 7 := by
  obtain ⟨⟨a1, a3⟩, ⟨b2, b3⟩, ⟨c1, c3, c4⟩, ⟨g1, g3⟩⟩ := id HK
  have Y := rsH_hT (h := h) (pr := pr) (so := so) (tb := tb)
  have dd : dOK (fun _ => False) h (rsH h pr so tb) := fun y hy => hy.elim
  have W := CS_write (N := N) (cl := clF cs) (P := fun _ => False) (z := 2) (u := 7) a1 Y (fun y hy => hy.elim) dd (by rw [rsH_hz]; exact Nat.le_refl _) (by rw [rsH_hu]; exact Nat.le_refl _)
  have T1 := TB_hT a1 a3 Y (fun y hy => hy.elim) dd
  have opr := c1.1.2
  have epr := rsH_eq (pr := pr) (so := so) (tb := tb) opr
  have K1 : KC G A S N cs K pr Ln Ls tb rest (rsH h pr so tb) ul fl := KC_step HK T1 W dd ⟨id, fun _ _ => id, id, id⟩ (epr.2.2.1 82) (by rw [epr.2.1]; omega)
  have otb := TB_3 a1
  have etb := rsH_eq (pr := pr) (so := so) (tb := tb) otb.2.2
  have eso := rsH_eq (pr := pr) (so := so) (tb := tb) s2
  obtain ⟨f1, f2, f3, f4⟩ := HF
  obtain ⟨p1, p2⟩ := HP
  have clt : ∀ c ∈ cs, c < hz h := fun c hc => by
    obtain ⟨i, hi⟩ := List.getElem?_of_mem hc
    have il := (List.getElem?_eq_some_iff.mp hi).1
    have ik : i < K.length := by have := c1.2.2.1; omega
    exact (c1.2.2.2.2 i c _ hi (List.getElem?_eq_getElem ik)).1.2.1
  have c1230 : ∀ c ∈ cs, fR h 1230 c < hz h := fun c hc => by
    obtain ⟨i, hi⟩ := List.getElem?_of_mem hc
    have il := (List.getElem?_eq_some_iff.mp hi).1
    exact (f4 i c _ _ hi (List.getElem?_eq_getElem (show i < mo.length by omega)) (List.getElem?_eq_getElem (show i < Ms.length by omega))).1
  have ec : ∀ c ∈ cs, fR (rsH h pr so tb) 1230 c = fR h 1230 c := fun c hc => (rsH_eq (clt c hc)).2.2.1 1230
  have F1 : FNS (rsH h pr so tb) pr cs fo F mo Ms := ⟨by rw [epr.2.2.1]; exact SLs_hT Y dd f1 id (fun _ _ => id), f2, f3, fun i c ms Fm h1 h2 h3 => by rw [ec c (List.mem_of_getElem? h1)]; exact SLs_hT Y dd (f4 i c ms Fm h1 h2 h3) id (fun _ _ => id)⟩
  obtain ⟨r1, r2, r3, r4⟩ := rsH_fR (h := h) (pr := pr) (so := so) (tb := tb)
  obtain ⟨l1, l2⟩ := rsH_ll (h := h) (pr := pr) (so := so) (tb := tb)
  have pl := a1.2.1.1.1
  refine ⟨⟨K1, F1, ⟨by rw [rsH_kd, if_neg (by omega), if_pos rfl], by rw [rsH_hz]; omega, r1, r2, r3, r4⟩, ⟨by rw [eso.1]; exact s1, by rw [rsH_hz]; omega, by rw [eso.2.2.1]; exact s3⟩, ⟨⟨by rw [rsH_hz]; omega, by rw [rsH_kd, if_pos rfl], by rw [l1]; exact Nat.zero_le _, by rw [l2]; omega, fun y hy => by rw [l1] at hy; cases hy⟩, by rw [l1]; trivial, Nat.zero_le _, by rw [l2]; omega⟩, ⟨by rw [etb.2.2.1]; omega, by rw [epr.2.2.1]; have := c1.2.1.1; omega, by rw [epr.2.2.1]; have := f1.1; omega, by have := g1.1; omega, fun c hc => by rw [ec c hc]; have := c1230 c hc; omega⟩, by rw [epr.2.2.1, etb.2.2.1]; exact p1, fun c hc => by rw [ec c hc, etb.2.2.1]; exact p2 c hc⟩, W⟩
set_option maxHeartbeats 1000000 in
/-- A WHOLE EX -/
theorem ex_run (HK : KC G A S N cs K pr Ln Ls tb rest h ul fl) (HF : FNS h pr cs fo F mo Ms) (HP : nPL h pr tb cs) (s1 : kd h so = 5) (s2 : so < hz h) (s3 : fR h 162 so = Ln) (HU : EU S b m N K sc F Ms σ n [] sp) (W : X0 G A S b h σ 100 lo hi alo ahi a v) (R : KR S lo hi alo ahi pr tb h ul fl n) (hsp : sp + (hi - lo) ≤ 4200) : ∃ (τ : tS) (n' : Nat) (h' : om_H) (ul' fl' : List Nat) (XC XT : Int), T_exKnown (v : Int) σ = some τ ∧ C_35_ex G (hz h) a (rsH h pr so tb) = some h' ∧ SR G A S N cs K pr Ln Ls tb rest fo F mo Ms alo ahi h ul fl h' ul' fl' (hi - lo) (6 * (hi - lo) + 2) (60 * (hi - lo) + 200) XC ∧ SU S b m N K sc F Ms [] sp lo hi σ n τ n' (hi - lo) XT ∧ brkE S b m σ lo hi XC ∧ brkE S b m σ lo hi XT ∧ (scA N sc Ls → XC = XT ∧ (XC = 2147483647 → XS G A S b h' τ (Psi1 S b N cs rest fo F mo Ms (hz h + 2) h' ul' τ n') 100 0 lo hi alo ahi a v)) := by
  obtain ⟨E0, W0⟩ := EC_begin HK HF HP s1 s2 s3
  have hA := R.1.2.1
  have hz1 := rsH_hz (h := h) (pr := pr) (so := so) (tb := tb)
  have otb := TB_3 HK.1.1
  have etb := rsH_eq (pr := pr) (so := so) (tb := tb) otb.2.2
  have pl := HK.1.1.2.1.1.1
  have W1 : X0 G A S b (rsH h pr so tb) σ 100 lo hi alo ahi a v := X0_keep W (fun y c d => by
    have e := rsH_eq (pr := pr) (so := so) (tb := tb) (show y < hz h by omega)
    exact ⟨e.1, e.2.1, e.2.2.1, e.2.2.2.2.2.2.1, e.2.2.2.2.2.2.2⟩) (fun _ _ _ _ _ => rfl)
  have R1 : ER S lo hi alo ahi pr tb (hz h + 1) (rsH h pr so tb) ul fl n sp := by
    refine ⟨⟨R.1.1, by rw [hz1]; omega, R.1.2.2.1, R.1.2.2.2⟩, fun y hy => ?_, R.2.2.1, R.2.2.2, hsp⟩
    rcases hy with (z | z | z | z) | z | z
    · exact R.2.1 y (.inl (.inl z))
    · rw [etb.2.2.1] at z; exact R.2.1 y (.inl (.inr (.inl z)))
    · rw [etb.2.2.1] at z; exact R.2.1 y (.inl (.inr (.inr (.inl z))))
    · exact R.2.1 y (.inl (.inr (.inr (.inr z))))
    · exact R.2.1 y (.inr z)
    · exact .inr (by omega)
  obtain ⟨τ, n', h', u', f', XC, XT, e1, e2, e3, e4, e5, e6, e7⟩ := exs_rel (z0 := hz h + 2) 100 129 130 (by omega) (by omega) lo hi alo ahi a v (rsH h pr so tb) ul fl σ n [] [] sp E0 HU ⟨rfl, fun i w L hw => by simp at hw⟩ W1 R1 ⟨by rw [hz1]; exact Nat.le_refl _, by rw [etb.2.2.1]; omega, by omega⟩ (by simp)
  obtain ⟨c1, c2, c3, c4, c5, c6⟩ := e3
  have l2 := (rsH_ll (h := h) (pr := pr) (so := so) (tb := tb)).2
  have opr := HK.2.2.1.1.1.2
  have epr := rsH_eq (pr := pr) (so := so) (tb := tb) opr
  have CC := CS_trans (CS_mono W0 (P' := EQ h pr alo ahi) (fun y _ z => z.elim)) c2 (fun y hy z => by
    rcases z with z | z | ⟨y1, y2, y3⟩
    · exact .inl z
    · omega
    · exact .inr ⟨y1, y2, by rw [(rsH_eq (pr := pr) (so := so) (tb := tb) hy).1] at y3; exact y3⟩)
  have kl := c3.2.1
  rw [l2] at kl CC
  refine ⟨τ, n', h', u', f', XC, XT, DN_all e1 HU.2.2.1 e4.1.2.2.1, e2, ⟨c1.1, c1.2.1, c1.2.2.2.2.2.2, CS_le CC (by omega) (by omega) (by simp at kl; omega), fun y d1 d2 => ?_, ⟨fun f hf => (c5.1 f hf).trans (epr.2.1 f), fun f => (c5.2 f).trans (epr.2.2.1 f)⟩, by rw [c6, epr.2.1]⟩, e4, e5, e6, e7⟩
  have e := rsH_eq (pr := pr) (so := so) (tb := tb) (show y < hz h by omega)
  have q := c4 y d1 d2
  exact ⟨q.1.trans e.1, fun f hf => (q.2.1 f hf).trans (e.2.1 f), fun f hf => (q.2.2.1 f hf).trans (e.2.2.1 f), q.2.2.2.trans e.2.2.2.2.2.2.1⟩
end LXR
