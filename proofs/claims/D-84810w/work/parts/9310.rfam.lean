set_option maxRecDepth 100000
/-! RESOLVE: the family's line of an inst, in both -/
/-- what the component does behind the conditions -/
noncomputable def CRi (G : om_G) (l0 l1 : Nat) (p2 : om_H) : Option om_H := gd (kd p2 l1 = 21) (if (fR p2 1310 l1) = 0 then C_1_resolveInstance_185 G l0 l1 p2 else gd (kd p2 l1 = 21 ∧ kd p2 l0 = 2) ((C_1_familyOf G l0 (fR p2 1298 l1) p2).bind fun p3 => if p3 ≠ 0 then C_1_resolveInstance_162 G l0 l1 p2 else gd (kd p2 l1 = 21 ∧ kd p2 (fR p2 1298 l1) = 17 ∧ kd p2 l0 = 2) ((C_1_rule G l0 (fI p2 1188 (fR p2 1298 l1)) p2).bind fun p4 => C_1_resolveInstance_162 G l0 l1 p4)))
theorem CRi_eq {G : om_G} {l0 l1 : Nat} {h : om_H} : C_1_resolveInstance_90 G l0 l1 h = (om_loop (C_1_resolveInstance_92s G l0 l1) (0, h)).bind fun y1 => gd (kd y1 l1 = 21 ∧ kd y1 l0 = 2) ((C_1_resolveGivens G l0 (fR y1 1286 l1) 1 y1).bind fun p2 => CRi G l0 l1 p2) := rfl
section LRW
variable {G : om_G} {A : Nat} {S : List Int} {b m : Nat} {N : List (List Int)} {cs : List Nat} {K : KT} {pr Ln : Nat} {Ls : List (List Int)} {sc : List Nat} {tb : Nat} {rest : List (Nat × List Nat)} {fo : List Nat} {F : FT} {mo : List (List Nat)} {Ms : List FT}
variable {h h' h2 hr : om_H} {ul fl ul' fl' : List Nat} {σ τ υ σr : tS} {n n' q z u lo hi alo ahi a0 amid a c w k : Nat} {B B2 : List Int} {X : Int} {L : List Int}
set_option maxHeartbeats 1000000 in
/-- THE FAMILY's LINE BECOMES KNOWN ALIKE -/
theorem fam_res {f so ii d m1 m2 fam fw : Nat} (H : RX G A S N cs K pr tb rest fo F mo Ms h ul fl) (kf : kd h f = 21) (rf : a0 ≤ f ∧ f < amid) (e86 : fR h 1286 f = so) (ks : kd h so = 5 ∧ fR h 162 so = Ln) (rso : a0 ≤ so ∧ so < amid) (C : SCc h Ln Ls ∧ Ln ≠ fR h 122 tb) (e78 : fR h 78 pr = tb) (e10 : fR h 1310 f = fw) (e98 : fR h 1298 f = fam)
    (W : (fam = 0 ∧ fw = 0 ∧ m2 = m1 ∧ ga τ 610 d = -1) ∨ ∃ jf p a1 a2 : Nat, fw ≠ 0 ∧ wd h A S fam jf ∧ tokk S jf = 3 ∧ WR A S b h τ 59 m1 m2 a1 a2 fw p ∧ a0 ≤ a1 ∧ a2 ≤ amid ∧ ga τ 610 d = ((b + jf : Nat) : Int) ∧ ga τ 614 d = (p : Int)) (U : KU S b m N K sc τ n) (R : KR S m1 m2 a0 amid pr tb h ul fl n) (hii : ii < 20) (hd : d < 700) :
    ∃ (h' : om_H) (ul' fl' : List Nat) (τ' : tS) (n' : Nat) (BC B : List Int), CRi G pr f h = C_1_resolveInstance_185 G pr f h' ∧ T_fillInstance_404 (ii : Int) (d : Int) τ = T_fillInstance_467 (d : Int) τ' ∧ RS G A S N cs K pr tb rest fo F mo Ms a0 amid h ul fl h' ul' fl' (m2 - m1) 0 0 BC ∧ hkV a0 amid h h' ∧ SCc h' Ln Ls ∧ (∀ y, a0 ≤ y → y < amid → y ≠ f → eqA y h h') ∧ (∀ g, g ≠ 1314 → fR h' g f = fR h g f) ∧ (∀ g, fI h' g f = fI h g f) ∧ KU S b m N K sc τ' n' ∧ fr [452, 456, 532] (722 :: TYA) τ τ' ∧ (∀ i, i ≠ ii → ga τ' 722 i = ga τ 722 i) ∧ tx τ n τ' n' ∧ n' ≤ n + (m2 - m1) ∧ bp τ' = mnl (bp τ) B ∧ bj S 0 B ∧ (scA N sc Ls → lbE BC B) ∧ (∀ j0 : Nat, (∀ i : Nat, m1 ≤ i → i < m2 → ((b + j0 : Nat) : Int) ≤ ga τ 542 i) → (ga τ 610 d = -1 ∨ ((b + j0 : Nat) : Int) ≤ ga τ 610 d) → bj S j0 BC) ∧
      (scA N sc Ls → (∀ y ∈ B, y = 2147483647) → (fw = 0 → ga τ' 722 ii = -1) ∧ (fw ≠ 0 → (∃ jf, wd h A S fam jf ∧ FI Prod.snd (tokw S jf) K ≠ none) ∧ ∃ T : Ty, tyM T ∧ tyC h' N (clF cs) (UU ul' rest) T (fR h' 1314 f) ∧ tyT τ' n' T (ga τ' 722 ii) ∧ ∃ p : Nat, ga τ 614 d = (p : Int) ∧ RdT S b K τ (fun w => bp τ' = 2147483647 → w ∈ sc) m1 m2 59 p T)) := by
  have iN : ((ii : Int)).toNat = ii := by omega
  have dN : ((d : Int)).toNat = d := by omega
  have hS := R.1.2.2.2
  have D := R.2.1
  have zA := R.1.2.1
  have kp := H.1.2.2.1.1.1
  have R0 : fr [] [722] τ (ua τ 722 ii (-1)) := fr_ua (fr_refl _ _ _) (by simp)
  obtain ⟨U0, b0⟩ := KU_tab U R0 (by decide)
  have v22 : ga (ua τ 722 ii (-1)) 722 ii = -1 := by rw [ga_ua, if_pos ⟨rfl, rfl⟩]
  have v22' : ∀ i, i ≠ ii → ga (ua τ 722 ii (-1)) 722 i = ga τ 722 i := fun i hi => by rw [ga_ua, if_neg (fun z => hi z.2)]
  have u404 : T_fillInstance_404 (ii : Int) (d : Int) τ = if ga τ 610 d = -1 then T_fillInstance_467 (d : Int) (ua τ 722 ii (-1)) else T_fillInstance_421 (ii : Int) (d : Int) (ua τ 722 ii (-1)) := by
    unfold T_fillInstance_404
    rw [if_pos (by omega), dN, iN]
  rw [u404]
  clear u404
  generalize ua τ 722 ii (-1) = τ0 at *
  have n0 : ∀ x i, x ≠ 722 → ga τ0 x i = ga τ x i := fun x i hx => R0.2 x (by simpa using hx) i
  rcases W with ⟨w1, w2, w3, w4⟩ | ⟨jf, p, a1, a2, w1, w2, w3, w4, w5, w6, w7, w8⟩
  · rw [if_pos w4]
    refine ⟨h, ul, fl, τ0, n, [], [], ?_, rfl, RS_le (RS_refl H) (by omega) (by omega) (by omega), hkV_refl, C.1, fun _ _ _ _ => eqA_refl _ _, fun _ _ => rfl, fun _ => rfl, U0, fr_wide R0 (by simp) (by simp), v22', tx_same (fun g hg i => R0.2 g (fun z => by have z' := List.mem_singleton.mp z; rw [z'] at hg; exact absurd hg (by decide)) i), by omega, b0, bj_nil, fun _ => lbE_refl, fun _ _ _ => bj_nil, fun _ _ => ⟨fun _ => v22, fun z => absurd w2 z⟩⟩
    unfold CRi
    rw [gd_pos kf, e10, if_pos w2]
  · rw [if_neg (by omega)]
    have jm := TT_lt U.2.1 (j := jf) (by rw [w3]; decide)
    have X1 := H.1.2.1.1
    obtain ⟨w, nw1, nw2, _⟩ := t_nameAt U0.2.1 (j := jf) (.inr w3)
    obtain ⟨wl, gl1, gl2⟩ := GL_gv U0.2.2.1 nw2 true
    have wl' := w4
    have wi := WR_in w4
    -- the family's great, in both
    obtain ⟨τ1, s1, U1, F1, b1⟩ : ∃ τ1, T_fillInstance_421 (ii : Int) (d : Int) τ0 = T_fillInstance_451 (ii : Int) (d : Int) τ1 ∧ KU S b m N K sc τ1 n ∧ fr [452, 456] [] τ0 τ1 ∧ bp τ1 = mnl (bp τ0) (if FI Prod.snd (tokw S jf) K = none then [(tokq S jf : Int)] else []) := by
      unfold T_fillInstance_421
      rw [if_pos (by omega), dN, n0 610 d (by decide), w7, nw1, Option.bind_some, if_pos (by omega), show ((w : Int)).toNat = w by omega]
      by_cases c : FI Prod.snd (tokw S jf) K = none
      · have i0 : ¬ ga τ0 630 w = 3 := fun z => (gl1.mp z) c
        rw [if_neg i0, if_pos (by omega)]
        obtain ⟨τ2, e1, e2, e3, e4⟩ := KU_break U0 (j := jf) (by omega) hS
        rw [e1, Option.bind_some, if_pos c]
        exact ⟨τ2, rfl, e2, e3, e4⟩
      · have i0 : ga τ0 630 w = 3 := gl1.mpr c
        rw [if_pos i0, if_neg c]
        exact ⟨τ0, rfl, U0, fr_refl _ _ _, rfl⟩
    rw [s1]
    clear s1
    obtain ⟨h1, t1, H1, V1, q1, r1, i1, Sc1⟩ : ∃ h1, CRi G pr f h = C_1_resolveInstance_162 G pr f h1 ∧ RS G A S N cs K pr tb rest fo F mo Ms a0 amid h ul fl h1 ul fl 0 0 0 (if FI Prod.snd (tokw S jf) K = none then [(tokq S jf : Int)] else []) ∧ hkV a0 amid h h1 ∧ (∀ y, a0 ≤ y → y < amid → eqA y h h1) ∧ hz h1 = hz h ∧ (∀ g, fR h1 g pr = fR h g pr) ∧ SCc h1 Ln Ls := by
      have c0 := clA_0 H.1.2.2.1 (o := FI Prod.snd (tokw S jf) K) (fun i e => FI_lt e)
      unfold CRi
      rw [gd_pos kf, e10, if_neg w1, gd_pos ⟨kf, kp⟩, e98, c_familyOf H.1.2.2.1 (wd_wb X1 w2), Option.bind_some]
      by_cases c : FI Prod.snd (tokw S jf) K = none
      · rw [if_neg (fun z => z (c0.mpr c)), gd_pos ⟨kf, w2.1, kp⟩, w2.2.2.1, c_rule' kp, Option.bind_some, if_pos c]
        exact ⟨_, rfl, RS_ruH H _, hkV_ru D, fun y d1 d2 => eqA_ru D d1 d2, rfl, fun _ => rfl, hF_SCc ruH_F (by decide) C.1⟩
      · rw [if_pos (fun z => c (c0.mp z)), if_neg c]
        exact ⟨h, rfl, RS_refl H, hkV_refl, fun _ _ _ => eqA_refl _ _, rfl, fun _ => rfl, C.1⟩
    rw [t1]
    clear t1
    -- its type
    have F01 : fr [452, 456] [722] τ τ1 := fr_trans (fr_wide R0 (by simp) (by simp)) (fr_wide F1 (fun _ h => h) (by simp))
    have D1 := dj_CS D H1.2.1 zA
    have e22 : fR h1 122 tb = fR h 122 tb := H1.2.1.2.2.2.2.1.2 122
    have W1 : WR A S b h1 τ1 59 m1 m2 a1 a2 fw p := WR_keepF w4 (hkF_sub (hkV_F V1) w5 w6) (nall_nk (fun g hg i _ _ => F01.2 g (by simp only [List.mem_cons, List.not_mem_nil, or_false] at hg ⊢; omega) i) (Nat.le_refl _) (Nat.le_refl _))
    have HK := KC_of H1.1 Sc1 (by rw [e22]; exact C.2)
    obtain ⟨t, τ2, n2, y, h2, ul2, fl2, XC, XT, f1, f2, f3, f4, f5, f6, f7⟩ := known_rel 59 60 60 (by decide) (by decide) m1 m2 a1 a2 fw p h1 ul fl τ1 n HK U1 W1 ⟨⟨by have := R.1.1; omega, by omega, R.1.2.2⟩, dj_sub D1 w5 w6, R.2.2⟩
    have H2 := RS_SC (alo := a0) (ahi := amid) H1.1 f3
    have eq2 : ∀ y', a0 ≤ y' → y' < amid → eqA y' h1 h2 := fun y' d1 d2 => f3.2.1.1.2.2.2 y' (by omega) (fun e => by
      rcases e with e | e
      · have := D1 y' (.inl e); omega
      · have := D1 y' (.inr e); omega)
    have kf1 : kd h1 f = 21 := by rw [(q1 f rf.1 rf.2).1]; exact kf
    have kf2 : kd h2 f = 21 := by rw [(eq2 f rf.1 rf.2).1]; exact kf1
    have Y : hG f h2 (sR h2 1314 f y) := hG_sR (by decide)
    have H3 := RS_hG (alo := a0) (ahi := amid) H2.1 Y (by rw [kf2]; decide) rf
    obtain ⟨v1, v2, v3, v4, v5⟩ := f4
    have Rw : fr [] [722] τ2 (ua τ2 722 ii t) := fr_ua (fr_refl _ _ _) (by simp)
    obtain ⟨U3, b3⟩ := KU_tab v1 Rw (by decide)
    have x22 : ga (ua τ2 722 ii t) 722 ii = t := by rw [ga_ua, if_pos ⟨rfl, rfl⟩]
    have x22' : ∀ i, i ≠ ii → ga (ua τ2 722 ii t) 722 i = ga τ2 722 i := fun i hi => by rw [ga_ua, if_neg (fun z => hi z.2)]
    have F3 : fr [452, 456, 532] (722 :: TYA) τ (ua τ2 722 ii t) := fr_trans (fr_wide F01 (by decide) (by simp)) (fr_trans (fr_wide v2 (fun _ h => h) (fun _ h => List.mem_cons_of_mem _ h)) (fr_wide Rw (by simp) (by simp)))
    have X23 : tx τ2 n2 (ua τ2 722 ii t) n2 := tx_same (fun g hg i => Rw.2 g (fun z => by have z' := List.mem_singleton.mp z; rw [z'] at hg; exact absurd hg (by decide)) i)
    obtain ⟨t1, t2, t3, t4⟩ := f7
    have g542 : ∀ i, ga τ1 542 i = ga τ 542 i := F01.2 542 (by decide)
    refine ⟨sR h2 1314 f y, ul2, fl2, ua τ2 722 ii t, n2, (if FI Prod.snd (tokw S jf) K = none then [(tokq S jf : Int)] else []) ++ [XC], (if FI Prod.snd (tokw S jf) K = none then [(tokq S jf : Int)] else []) ++ [XT], ?_, ?_, ?_, hkV_trans (hkV_trans V1 (hkV_eq eq2)) (hkV_hG Y), hG_SCc Y f3.1.2.2.2.1, fun y' d1 d2 d3 => eqA_trans (q1 y' d1 d2) (eqA_trans (eq2 y' d1 d2) (Y.2.1 y' d3)), fun g hg => ?_, fun g => ?_, U3, F3, fun i hi => ?_, ?_, v4, ?_, ?_, fun sA => ?_, fun j0 nv nf => ?_, fun sA hB => ⟨fun z => absurd z w1, fun _ => ⟨⟨jf, w2, fun z => ?_⟩, ?_⟩⟩⟩
    · have ff : C_1_typeOf G pr fw Ln tb h1 = some (y, h2) := f2
      unfold C_1_resolveInstance_162
      rw [(q1 f rf.1 rf.2).2.2.1, (q1 f rf.1 rf.2).2.2.1, e10, e86, (q1 so rso.1 rso.2).2.2.1, ks.2, i1, e78, gd_pos ⟨kf1, by rw [(q1 so rso.1 rso.2).1]; exact ks.1, H1.1.1.2.2.1.1.1⟩, ff, Option.bind_some, gd_pos kf2]
    · have f1' : T_known (p : Int) τ1 = some (t, τ2) := f1
      unfold T_fillInstance_451
      rw [if_pos (by omega), dN, F01.2 614 (by decide), w8, f1', Option.bind_some, if_pos (by omega), iN]
    · have := RS_trans (RS_trans H1 H2) H3
      rw [List.append_nil] at this
      exact RS_le this (by omega) (by omega) (by omega)
    · rw [fR_ne hg, (eq2 f rf.1 rf.2).2.2.1, (q1 f rf.1 rf.2).2.2.1]
    · show fI h2 g f = fI h g f
      rw [(eq2 f rf.1 rf.2).2.1, (q1 f rf.1 rf.2).2.1]
    · rw [x22' i hi, v2.2 722 (by decide), F1.2 722 (by simp), v22' i hi]
    · exact tx_trans (tx_same (fun g hg i => F01.2 g (fun z => by have z' := List.mem_singleton.mp z; rw [z'] at hg; exact absurd hg (by decide)) i)) (tx_trans v3 X23)
    · rw [b3, v5, b1, b0, mnl_app]; rfl
    · refine bj_app (fun y' hy => ?_) (bj0_brk f6)
      split at hy
      · exact .inr ⟨jf, Nat.zero_le _, List.mem_singleton.mp hy⟩
      · exact absurd hy List.not_mem_nil
    · rw [(t4 sA).1]; exact lbE_refl
    · refine bj_app ?_ (bj_brk f5 (fun i e1 e2 => by rw [g542]; exact nv i e1 e2))
      intro y' hy
      split at hy
      · refine .inr ⟨jf, ?_, List.mem_singleton.mp hy⟩
        rw [w7] at nf
        omega
      · exact absurd hy List.not_mem_nil
    · have := hB (tokq S jf : Int) (List.mem_append_left _ (by rw [if_pos z]; simp))
      have := tok_le S jf
      omega
    · have hX : XT = 2147483647 := hB XT (List.mem_append_right _ (by simp))
      obtain ⟨T, T1, T2, T3⟩ := (t4 sA).2 (by rw [(t4 sA).1]; exact hX) 0 y t rfl rfl
      rw [fR_eq, x22]
      refine ⟨T, tyQ_M T1, H3.2.1.2.2.2.2.2.1 T y T2, tyT_mono X23 T3, p, w8, ?_⟩
      rcases rd_known 59 60 60 (by decide) (by decide) m1 m2 a1 a2 fw p h1 ul fl τ1 n HK U1 W1 ⟨⟨by have := R.1.1; omega, by omega, R.1.2.2⟩, dj_sub D1 w5 w6, R.2.2⟩ t τ2 n2 f1 v1 with e | ⟨T', r1', r2'⟩
      · exact absurd ((tyT_0 T3).mpr e) T1.1
      · rw [tyT_fun T3 r1']
        refine RdT_imp (fun w q e => q ?_) (RdT_eq (fun g hg i _ _ => (F01.2 g (by simp only [List.mem_cons, List.not_mem_nil, or_false] at hg ⊢; omega) i).symm) r2')
        rw [← b3]; exact e
end LRW
