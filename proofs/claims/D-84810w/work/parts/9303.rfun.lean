set_option maxRecDepth 100000
/-! RESOLVE: a function's type and ex, in both -/
/-- what the component does behind the givens -/
noncomputable def CRt (G : om_G) (l0 l1 : Nat) (p3 : om_H) : Option om_H := gd (kd p3 l1 = 33 ∧ kd p3 (fR p3 1542 l1) = 5 ∧ kd p3 l0 = 2) ((C_1_typeOf G l0 (fR p3 1546 l1) (fR p3 162 (fR p3 1542 l1)) (fR p3 78 l0) p3).bind fun p4 => gd (kd p4.2 l1 = 33 ∧ kd (nO p4.2 35 4) l1 = 33 ∧ kd (nO p4.2 35 4) l0 = 2 ∧ kd (nO p4.2 35 4) (hz (sR p4.2 1550 l1 p4.1)) = 35) ((C_35_init G (hz (sR p4.2 1550 l1 p4.1)) l0 (fR (nO (sR p4.2 1550 l1 p4.1) 35 4) 1542 l1) (fR (nO (sR p4.2 1550 l1 p4.1) 35 4) 78 l0) (nO (sR p4.2 1550 l1 p4.1) 35 4)).bind fun p5 => gd (kd p5 l1 = 33 ∧ kd p5 (hz (sR p4.2 1550 l1 p4.1)) = 35) ((C_35_ex G (hz (sR p4.2 1550 l1 p4.1)) (fR p5 1554 l1) p5).bind fun p6 => some p6)))
theorem CRt_eq {G : om_G} {l0 l1 : Nat} {l2 : Int} {h : om_H} : C_1_resolveFunction G l0 l1 l2 h = gd (kd h l1 = 33 ∧ kd h (fR h 1530 l1) = 17 ∧ kd h l0 = 2) ((C_1_tooMany G l0 l2 24 (fI h 1188 (fR h 1530 l1)) h).bind fun p1 => (om_loop (C_1_resolveFunction_16s G l0 l1) (0, p1)).bind fun y2 => gd (kd y2 l1 = 33 ∧ kd y2 l0 = 2) ((C_1_resolveGivens G l0 (fR y2 1542 l1) 0 y2).bind fun p3 => CRt G l0 l1 p3)) := rfl
section LRF
variable {G : om_G} {A : Nat} {S : List Int} {b m : Nat} {N : List (List Int)} {cs : List Nat} {K : KT} {pr Ln : Nat} {Ls : List (List Int)} {sc : List Nat} {tb : Nat} {rest : List (Nat × List Nat)} {fo : List Nat} {F : FT} {mo : List (List Nat)} {Ms : List FT}
variable {h h' h2 hr : om_H} {ul fl ul' fl' : List Nat} {σ τ υ σr : tS} {n n' q z u lo hi alo ahi a0 amid a c w k : Nat} {B B2 : List Int} {X : Int} {L : List Int}
theorem SCt_fr {fs as : List Nat} (C : SCt σ sc) (R : fr fs as σ τ) (h1 : 784 ∉ fs) (h2 : 778 ∉ as) : SCt τ sc := ⟨by rw [R.1 784 h1]; exact C.1, C.2.1, fun i v e => by rw [R.2 778 h2]; exact C.2.2 i v e⟩
theorem eqA_hkV {y : Nat} (e : eqA y h h') : hkV y (y + 1) h h' := hkV_eq (fun y' e1 e2 => by rw [show y' = y by omega]; exact e)
set_option maxHeartbeats 1000000 in
/-- a function's type and ex -/
theorem rf_tail {f so m1 m2 a1 a2 a3 nT nX fi wr ex : Nat} (H : RX G A S N cs K pr tb rest fo F mo Ms h ul fl) (kf : kd h f = 33) (rf : a0 ≤ f ∧ f < a1) (e42 : fR h 1542 f = so) (ks : kd h so = 5 ∧ so < hz h ∧ fR h 162 so = Ln) (rso : a0 ≤ so ∧ so < a1) (C : SCc h Ln Ls ∧ Ln ≠ fR h 122 tb) (e78 : fR h 78 pr = tb) (e46 : fR h 1546 f = wr) (e54 : fR h 1554 f = ex) (W : WR A S b h τ 59 m1 m2 a1 a2 wr nT) (X0w : X0 G A S b h τ 100 m2 hi a2 a3 ex nX) (ra : a0 ≤ a1 ∧ a3 ≤ amid) (U : KU S b m N K sc τ n) (g7 : gs τ 788 = 0 ∧ gs τ 856 = 0) (TL : TLk τ N F Ms) (R : KR S m1 hi a0 amid pr tb h ul fl n) (hfi : fi < 24) (h42 : hi - m2 ≤ 4200) :
    ∃ (t : Int) (τ1 τ3 : tS) (n3 : Nat) (h' : om_H) (ul' fl' : List Nat) (XC1 XT1 XC2 XT2 : Int), (T_known (nT : Int) τ = some (t, τ1) ∧ fr [452, 456, 532] TYA τ τ1) ∧ T_exKnown (nX : Int) (ua τ1 762 fi t) = some τ3 ∧ CRt G pr f h = some h' ∧ RS G A S N cs K pr tb rest fo F mo Ms a0 amid h ul fl h' ul' fl' (hi - m1) (6 * (hi - m2) + 2) (60 * (hi - m2) + 200) [XC1, XC2] ∧ hkV a0 a2 h h' ∧ (∀ y, a0 ≤ y → y < a2 → y ≠ f → eqA y h h') ∧ KU S b m N K sc τ3 n3 ∧ (gs τ3 788 = 0 ∧ gs τ3 856 = 0) ∧ TLk τ3 N F Ms ∧ fr [452, 456, 532, 788, 856] (762 :: 550 :: 782 :: 850 :: TYA) τ τ3 ∧ (∀ i, (m2 ≤ i ∧ i < hi) ∨ ga τ3 550 i = ga τ 550 i) ∧ (∀ i, i ≠ fi → ga τ3 762 i = ga τ 762 i) ∧ tx τ n τ3 n3 ∧ n3 ≤ n + (hi - m1) ∧ bp τ3 = mnl (bp τ) [XT1, XT2] ∧ (brk S b m τ m1 m2 XC1 ∧ brk S b m τ m1 m2 XT1) ∧ (brkE S b m τ m2 hi XC2 ∧ brkE S b m τ m2 hi XT2) ∧
      (scA N sc Ls → XC1 = XT1 ∧ XC2 = XT2 ∧ (XC1 = 2147483647 → XC2 = 2147483647 → (∃ T : Ty, tyM T ∧ tyC h' N (clF cs) (UU ul' rest) T (fR h' 1550 f) ∧ tyT τ3 n3 T (ga τ3 762 fi)) ∧ ∃ z0, hz h ≤ z0 ∧ XS G A S b h' τ3 (Psi1 S b N cs rest fo F mo Ms z0 h' ul' τ3 n3) 100 0 m2 hi a2 a3 ex nX)) := by
  have wi := WR_in W
  have xi := XR_in _ _ _ _ _ _ _ X0w
  have zA := R.1.2.1
  have D := R.2.1
  have HK := KC_of H C.1 C.2
  obtain ⟨t, τ1, n1, y, h1, ul1, fl1, XC, XT, f1, f2, f3, f4, f5, f6, f7⟩ := known_rel 59 60 60 (by decide) (by decide) m1 m2 a1 a2 wr nT h ul fl τ n HK U W (KR_sub R (Nat.le_refl _) (by omega) (by omega) (by omega))
  have H1 := RS_SC (alo := a0) (ahi := amid) H f3
  have z1 := f3.2.1.1.1
  have l1 := f3.2.1.2.2.2.1
  have eq1 : ∀ y', a0 ≤ y' → y' < amid → eqA y' h h1 := fun y' d1 d2 => f3.2.1.1.2.2.2 y' (by omega) (fun e => by
    rcases e with e | e
    · have := D y' (.inl e); omega
    · have := D y' (.inr e); omega)
  have kf1 : kd h1 f = 33 := by rw [(eq1 f rf.1 (by omega)).1]; exact kf
  have Y : hG f h1 (sR h1 1550 f y) := hG_sR (by decide)
  have H2 := RS_hG (alo := a0) (ahi := amid) H1.1 Y (by rw [kf1]; decide) ⟨by omega, by omega⟩
  have S2 : SCc (sR h1 1550 f y) Ln Ls := hG_SCc Y f3.1.2.2.2.1
  have e22 : fR (sR h1 1550 f y) 122 tb = fR h 122 tb := by rw [hG_fR Y (by decide)]; exact f3.2.1.2.2.2.2.1.2 122
  have eq2 : ∀ y', a0 ≤ y' → y' < amid → y' ≠ f → eqA y' h (sR h1 1550 f y) := fun y' d1 d2 d3 => eqA_trans (eq1 y' d1 d2) (Y.2.1 y' d3)
  have V2 : hkV a0 amid h (sR h1 1550 f y) := hkV_trans (hkV_eq eq1) (hkV_hG Y)
  have D1 := dj_CS D f3.2.1 zA
  have D2 : dj (sR h1 1550 f y) tb fl1 pr a0 amid := dj_CS D1 H2.2.1 (by omega)
  have z2 : hz (sR h1 1550 f y) = hz h1 := rfl
  have e50 : fR (sR h1 1550 f y) 1550 f = y := fR_eq
  have e42' : fR (sR h1 1550 f y) 1542 f = so := by rw [hG_fR Y (by decide), (eq1 f rf.1 (by omega)).2.2.1]; exact e42
  have e54' : fR (sR h1 1550 f y) 1554 f = ex := by rw [hG_fR Y (by decide), (eq1 f rf.1 (by omega)).2.2.1]; exact e54
  have e78' : fR (sR h1 1550 f y) 78 pr = tb := by rw [hG_fR Y (by decide), f3.2.2.1.2]; exact e78
  have kf2 : kd (sR h1 1550 f y) f = 33 := kf1
  have kp2 : kd (sR h1 1550 f y) pr = 2 := H2.1.1.2.2.1.1.1
  have ks2 : kd (sR h1 1550 f y) so = 5 ∧ so < hz (sR h1 1550 f y) ∧ fR (sR h1 1550 f y) 162 so = Ln := ⟨by rw [hG_kd Y, (eq1 so rso.1 (by omega)).1]; exact ks.1, by rw [z2]; omega, by rw [hG_fR Y (by decide), (eq1 so rso.1 (by omega)).2.2.1]; exact ks.2.2⟩
  -- the twin
  have Rw : fr [] [762] τ1 (ua τ1 762 fi t) := fr_ua (fr_refl _ _ _) (by simp)
  obtain ⟨v1, v2, v3, v4, v5⟩ := f4
  obtain ⟨U2, b2⟩ := KU_tab v1 Rw (by decide)
  have v762 : ga (ua τ1 762 fi t) 762 fi = t := by rw [ga_ua, if_pos ⟨rfl, rfl⟩]
  have v762' : ∀ i, i ≠ fi → ga (ua τ1 762 fi t) 762 i = ga τ1 762 i := fun i hi => by rw [ga_ua, if_neg (fun z => hi z.2)]
  have F2 : fr [452, 456, 532] (762 :: TYA) τ (ua τ1 762 fi t) := fr_trans (fr_wide v2 (fun _ h => h) (by decide)) (fr_wide Rw (by simp) (by decide))
  have EU2 : EU S b m N K sc F Ms (ua τ1 762 fi t) n1 [] 0 := ⟨U2, ⟨by rw [F2.1 788 (by decide)]; exact g7.1, fun i v e => (by cases e)⟩, by rw [F2.1 856 (by decide)]; exact g7.2, fun w L e => by rw [F2.2 638 (by decide)]; exact TL w L e⟩
  have X2 : tx τ n (ua τ1 762 fi t) n1 := tx_trans v3 (tx_same (fun g hg i => Rw.2 g (fun z => by have z' := List.mem_singleton.mp z; rw [z'] at hg; exact absurd hg (by decide)) i))
  generalize hτ2 : ua τ1 762 fi t = τ2 at *
  have W2 : X0 G A S b (sR h1 1550 f y) τ2 100 m2 hi a2 a3 ex nX := X0_keepF X0w (hkF_sub (hkV_F V2) (by omega) (by omega)) (fun g hg i _ _ => F2.2 g (by simp only [List.mem_cons, List.not_mem_nil, or_false] at hg ⊢; omega) i)
  have HK2 := KC_of H2.1 S2 (by rw [e22]; exact C.2)
  obtain ⟨τ3, n3, h3, ul3, fl3, YC, YT, g1, g2, g3, g4, g5, g6, g7'⟩ := ex_run (alo := a2) (ahi := a3) (lo := m2) (hi := hi) HK2 H2.1.2.1 H2.1.2.2 ks2.1 ks2.2.1 ks2.2.2 EU2 W2 ⟨⟨by have := R.1.1; omega, by rw [z2]; omega, R.1.2.2⟩, dj_sub D2 (by omega) (by omega), by have := R.2.2.1; omega, by have := R.2.2.2; omega⟩ (by omega)
  have H3 := RS_SR (alo := a0) (ahi := amid) g3 (by omega) (by omega)
  obtain ⟨s1, s2, s3, s4, s5, s6, s7, s8⟩ := g4
  have F3 : fr [452, 456, 532, 788, 856] (762 :: 550 :: 782 :: 850 :: TYA) τ τ3 := fr_trans (fr_wide F2 (by decide) (by decide)) (fr_wide s2 (by decide) (by decide))
  -- what lies ahead of the ex is the same
  have eq3 : ∀ y', a0 ≤ y' → y' < a2 → eqA y' (sR h1 1550 f y) h3 := fun y' d1 d2 => g3.2.2.2.1.1.2.2.2 y' (by rw [z2]; omega) (fun e => by
    rcases e with e | e | e
    · have := D2 y' (.inl e); omega
    · have := D2 y' (.inr e); omega
    · omega)
  obtain ⟨t1, t2, t3, t4⟩ := f7
  refine ⟨t, τ1, τ3, n3, h3, ul3, fl3, XC, XT, YC, YT, ⟨f1, v2⟩, by rw [hτ2]; exact g1, ?_, ?_, fun y' d1 d2 => ?_, fun y' d1 d2 d3 => eqA_trans (eq2 y' d1 (by omega) d3) (eq3 y' d1 d2), s1.1, ⟨s1.2.1.1, s1.2.2.1⟩, s1.2.2.2, F3, fun i => ?_, fun i hi' => ?_, tx_trans X2 s6, by omega, ?_, ⟨f5, f6⟩, ⟨?_, ?_⟩, fun sA => ⟨(t4 sA).1, (g7' sA).1, fun e1 e2 => ⟨?_, hz (sR h1 1550 f y) + 2, by rw [z2]; omega, (g7' sA).2 e2⟩⟩⟩
  · have ff : C_1_typeOf G pr wr Ln tb h = some (y, h1) := f2
    have kn : ∀ y', y' < hz h1 → kd (nO h1 35 4) y' = kd h1 y' := fun y' hy => by rw [kd_nO, if_neg (by omega)]
    have hn : ∀ y' g, y' < hz h1 → fR (nO (sR h1 1550 f y) 35 4) g y' = fR (sR h1 1550 f y) g y' := fun y' g hy => by rw [fR_nO, if_neg (by rw [z2]; omega)]
    have opr := H2.1.1.2.2.1.1.2
    have er := rsH_eq (h := sR h1 1550 f y) (pr := pr) (so := so) (tb := tb) (y := f) (by rw [z2]; omega)
    unfold CRt
    rw [e42, e46, ks.2.2, e78, gd_pos ⟨kf, ks.1, H.1.2.2.1.1.1⟩, ff, Option.bind_some]
    simp only
    rw [gd_pos ⟨kf1, by rw [kn f (by omega)]; exact kf1, by rw [kn pr (by rw [← z2]; exact opr)]; exact kp2, by rw [z2, kd_nO, if_pos rfl]⟩, hn f 1542 (by omega), hn pr 78 (by rw [← z2]; exact opr), e42', e78', rs_init, Option.bind_some, gd_pos ⟨by rw [er.1]; exact kf2, by rw [rsH_kd, if_neg (by omega), if_pos rfl]⟩, er.2.2.1, e54', g2, Option.bind_some]
  · have := RS_trans (RS_trans H1 H2) H3
    rw [List.append_nil] at this
    exact RS_le this (by omega) (by omega) (by omega)
  · exact hkV_trans (hkV_sub V2 d1 (show y' + 1 ≤ amid by omega)) (eqA_hkV (eq3 y' d1 d2)) y' (Nat.le_refl _) (by omega)
  · rcases s3 i with e | e
    · exact .inl ⟨e.1, e.2.1⟩
    · exact .inr (by rw [e, F2.2 550 (by decide)])
  · rw [s2.2 762 (by decide), v762' i hi', v2.2 762 (by decide)]
  · rw [s8, b2, v5]; rfl
  · rcases g5 with e | ⟨v, j, e1, e2, e3, e4, e5⟩
    · exact .inl e
    · rw [F2.2 542 (by decide), F2.2 538 (by decide), F2.2 554 (by decide)] at e3
      exact .inr ⟨v, j, e1, e2, e3, e4, e5⟩
  · rcases g6 with e | ⟨v, j, e1, e2, e3, e4, e5⟩
    · exact .inl e
    · rw [F2.2 542 (by decide), F2.2 538 (by decide), F2.2 554 (by decide)] at e3
      exact .inr ⟨v, j, e1, e2, e3, e4, e5⟩
  · obtain ⟨T, T1, T2, T3⟩ := (t4 sA).2 e1 0 y t rfl rfl
    have e5 : fR h3 1550 f = y := by rw [(eq3 f rf.1 (by omega)).2.2.1]; exact e50
    rw [e5, s2.2 762 (by decide), v762]
    refine ⟨T, tyQ_M T1, H3.2.1.2.2.2.2.2.1 T y (H2.2.1.2.2.2.2.2.1 T y T2), tyT_mono (tx_trans ?_ s6) T3⟩
    exact tx_same (fun g hg i => Rw.2 g (fun z => by have z' := List.mem_singleton.mp z; rw [z'] at hg; exact absurd hg (by decide)) i)
end LRF
