set_option maxRecDepth 100000
/-! RESOLVE: the head of an inst: its class and constructor, in both -/
/-- breaks at the class's great, at the constructor -/
def icB (S : List Int) (K : KT) (jc : Nat) : List Int := if FI Prod.fst (tokw S jc) K = none then [(tokq S jc : Int)] else []
def inB (S : List Int) (jn len : Nat) : List Int := match cnI (tokw S jn) with
  | some c => if pN c = len then [] else [(tokq S jn : Int)]
  | none => [(tokq S jn : Int)]
section LRI
variable {G : om_G} {A : Nat} {S : List Int} {b m : Nat} {N : List (List Int)} {cs : List Nat} {K : KT} {pr Ln : Nat} {Ls : List (List Int)} {sc : List Nat} {tb : Nat} {rest : List (Nat × List Nat)} {fo : List Nat} {F : FT} {mo : List (List Nat)} {Ms : List FT}
variable {h h' h2 hr : om_H} {ul fl ul' fl' : List Nat} {σ τ υ σr : tS} {n n' q z u lo hi alo ahi a0 amid a c w k : Nat} {B B2 : List Int} {X : Int} {L : List Int}
theorem clA_0 (C : CLS h pr cs K) {o : Option Nat} (ho : ∀ i, o = some i → i < K.length) : clA cs o = 0 ↔ o = none := by
  cases o with
  | none => exact ⟨fun _ => rfl, fun _ => rfl⟩
  | some i =>
    have il := ho i rfl
    have icl : i < cs.length := by have := C.2.2.1; omega
    have ec : cs[i]? = some cs[i] := List.getElem?_eq_getElem icl
    have ek : K[i]? = some K[i] := List.getElem?_eq_getElem il
    have d1 := (C.2.2.2.2 i _ _ ec ek).1
    refine ⟨fun z => absurd z ?_, fun z => by cases z⟩
    show cs.getD i 0 ≠ 0
    rw [List.getD_eq_getElem?_getD, ec]
    exact d1.1
theorem wd_hG {w j : Nat} (Y : hG a h h') (W : wd h A S w j) : wd h' A S w j := ⟨by rw [hG_kd Y]; exact W.1, by rw [hG_fR Y (by decide)]; exact W.2.1, by rw [hG_fI Y (by decide)]; exact W.2.2.1, by rw [hG_fI Y (by decide)]; exact W.2.2.2⟩
set_option maxHeartbeats 1000000 in
/-- the class and the constructor, in the component -/
theorem ri_head {f so cn con j0 jc jn : Nat} {ws : List Nat} (H : RX G A S N cs K pr tb rest fo F mo Ms h ul fl) (kf : kd h f = 21) (rf : a0 ≤ f ∧ f < amid) (e76 : fI h 1276 f = (tokq S j0 : Int)) (e86 : fR h 1286 f = so) (ks : kd h so = 5 ∧ fR h 162 so = Ln) (kL : kd h Ln = 42 ∧ ll h Ln = ws) (e90 : fR h 1290 f = cn) (wc : wd h A S cn jc) (e94 : fR h 1294 f = con) (wn : wd h A S con jn) (D : dj h tb fl pr a0 amid) (hA : amid ≤ hz h) :
    ∃ h', C_1_resolveInstance G pr f (k : Int) h = C_1_resolveInstance_90 G pr f h' ∧ RS G A S N cs K pr tb rest fo F mo Ms a0 amid h ul fl h' ul fl 0 0 0 (((if k < 20 then [] else [(tokq S j0 : Int)]) ++ icB S K jc) ++ inB S jn ws.length) ∧ hkV a0 amid h h' ∧ (∀ y, a0 ≤ y → y < amid → y ≠ f → eqA y h h') ∧ fR h' 1302 f = clA cs (FI Prod.fst (tokw S jc) K) ∧ fI h' 1304 f = oI (cnI (tokw S jn)) ∧ (∀ g, g ≠ 1302 → fR h' g f = fR h g f) := by
  have kp := H.1.2.2.1.1.1
  have tm := c_tooMany (G := G) (h := h) (pr := pr) (x := (tokq S j0 : Int)) (i := k) (n := 20) kp
  have H1 := RS_ruH (alo := a0) (ahi := amid) H (if k < 20 then [] else [(tokq S j0 : Int)])
  have F1 : hF [112] h (ruH h pr (if k < 20 then [] else [(tokq S j0 : Int)])) := ruH_F
  have D1 : dj (ruH h pr (if k < 20 then [] else [(tokq S j0 : Int)])) tb fl pr a0 amid := D
  have V1 : hkV a0 amid h (ruH h pr (if k < 20 then [] else [(tokq S j0 : Int)])) := hkV_ru D
  have q1 : ∀ y, a0 ≤ y → y < amid → eqA y h (ruH h pr (if k < 20 then [] else [(tokq S j0 : Int)])) := fun y d1 d2 => eqA_ru D d1 d2
  have z1 : hz (ruH h pr (if k < 20 then [] else [(tokq S j0 : Int)])) = hz h := rfl
  have un : C_1_resolveInstance G pr f (k : Int) h = gd (kd (ruH h pr (if k < 20 then [] else [(tokq S j0 : Int)])) f = 21 ∧ kd (ruH h pr (if k < 20 then [] else [(tokq S j0 : Int)])) pr = 2) ((C_1_classOf G pr (fR (ruH h pr (if k < 20 then [] else [(tokq S j0 : Int)])) 1290 f) (ruH h pr (if k < 20 then [] else [(tokq S j0 : Int)]))).bind fun p2 => gd (kd (ruH h pr (if k < 20 then [] else [(tokq S j0 : Int)])) f = 21 ∧ kd (ruH h pr (if k < 20 then [] else [(tokq S j0 : Int)])) f = 21) (if (fR (sR (ruH h pr (if k < 20 then [] else [(tokq S j0 : Int)])) 1302 f p2) 1302 f) ≠ 0 then C_1_resolveInstance_41 G pr f (sR (ruH h pr (if k < 20 then [] else [(tokq S j0 : Int)])) 1302 f p2) else C_1_resolveInstance_30 G pr f (sR (ruH h pr (if k < 20 then [] else [(tokq S j0 : Int)])) 1302 f p2))) := by
    unfold C_1_resolveInstance
    rw [gd_pos ⟨kf, kp⟩, e76, show (20 : Int) = ((20 : Nat) : Int) from rfl, tm, Option.bind_some]
  have kk1 : ∀ y, kd (ruH h pr (if k < 20 then [] else [(tokq S j0 : Int)])) y = kd h y := fun _ => rfl
  have rr1 : ∀ g y, fR (ruH h pr (if k < 20 then [] else [(tokq S j0 : Int)])) g y = fR h g y := fun _ _ => rfl
  have ll1 : ∀ y, ll (ruH h pr (if k < 20 then [] else [(tokq S j0 : Int)])) y = ll h y := fun _ => rfl
  have wc1 := hF_wd F1 (by decide) wc
  have wn1 := hF_wd F1 (by decide) wn
  rw [un]
  clear un tm F1
  generalize ruH h pr (if k < 20 then [] else [(tokq S j0 : Int)]) = h1 at *
  have kf1 : kd h1 f = 21 := by rw [kk1]; exact kf
  have X1 := H1.1.1.2.1.1
  rw [gd_pos ⟨kf1, by rw [kk1]; exact kp⟩, rr1, e90, c_classOf H1.1.1.2.2.1 (wd_wb X1 wc1), Option.bind_some, gd_pos ⟨kf1, kf1⟩]
  -- the class is put down
  have Y2 : hG f h1 (sR h1 1302 f (clA cs (FI Prod.fst (tokw S jc) K))) := hG_sR (by decide)
  have H2 := RS_hG (alo := a0) (ahi := amid) H1.1 Y2 (by rw [kf1]; decide) rf
  have e02 : fR (sR h1 1302 f (clA cs (FI Prod.fst (tokw S jc) K))) 1302 f = clA cs (FI Prod.fst (tokw S jc) K) := fR_eq
  have r2 : ∀ g, g ≠ 1302 → fR (sR h1 1302 f (clA cs (FI Prod.fst (tokw S jc) K))) g f = fR h g f := fun g hg => by rw [fR_ne hg, rr1]
  have c0 := clA_0 H1.1.1.2.2.1 (o := FI Prod.fst (tokw S jc) K) (fun i e => FI_lt e)
  rw [e02]
  have D2 : dj (sR h1 1302 f (clA cs (FI Prod.fst (tokw S jc) K))) tb fl pr a0 amid := dj_CS D1 H2.2.1 (by omega)
  have wc2 := wd_hG Y2 wc1
  have wn2 := wd_hG Y2 wn1
  have kf2 : kd (sR h1 1302 f (clA cs (FI Prod.fst (tokw S jc) K))) f = 21 := kf1
  have kp2 : kd (sR h1 1302 f (clA cs (FI Prod.fst (tokw S jc) K))) pr = 2 := H2.1.1.2.2.1.1.1
  have V2 := hkV_trans V1 (hkV_hG (alo := a0) (ahi := amid) Y2)
  have q2 : ∀ y, a0 ≤ y → y < amid → y ≠ f → eqA y h (sR h1 1302 f (clA cs (FI Prod.fst (tokw S jc) K))) := fun y d1 d2 d3 => eqA_trans (q1 y d1 d2) (Y2.2.1 y d3)
  have ks2 : kd (sR h1 1302 f (clA cs (FI Prod.fst (tokw S jc) K))) so = 5 ∧ fR (sR h1 1302 f (clA cs (FI Prod.fst (tokw S jc) K))) 162 so = Ln := ⟨by rw [hG_kd Y2, kk1]; exact ks.1, by rw [hG_fR Y2 (by decide), rr1]; exact ks.2⟩
  have kL2 : kd (sR h1 1302 f (clA cs (FI Prod.fst (tokw S jc) K))) Ln = 42 ∧ ll (sR h1 1302 f (clA cs (FI Prod.fst (tokw S jc) K))) Ln = ws := ⟨by rw [hG_kd Y2, kk1]; exact kL.1, by rw [(hG_ll Y2 _).1, ll1]; exact kL.2⟩
  have z2 : hz (sR h1 1302 f (clA cs (FI Prod.fst (tokw S jc) K))) = hz h1 := rfl
  generalize sR h1 1302 f (clA cs (FI Prod.fst (tokw S jc) K)) = h2 at *
  -- behind the class: the constructor, at any breaks
  have con41 : ∀ B0, ∃ h', C_1_resolveInstance_41 G pr f (ruH h2 pr B0) = C_1_resolveInstance_90 G pr f h' ∧ RS G A S N cs K pr tb rest fo F mo Ms a0 amid h2 ul fl h' ul fl 0 0 0 (B0 ++ inB S jn ws.length) ∧ hkV a0 amid h2 h' ∧ (∀ y, a0 ≤ y → y < amid → y ≠ f → eqA y h2 h') ∧ fR h' 1302 f = clA cs (FI Prod.fst (tokw S jc) K) ∧ fI h' 1304 f = oI (cnI (tokw S jn)) ∧ (∀ g, fR h' g f = fR h2 g f) := by
    intro B0
    have F3 : hF [112] h2 (ruH h2 pr B0) := ruH_F
    have H3 := RS_ruH (alo := a0) (ahi := amid) H2.1 B0
    have D3 : dj (ruH h2 pr B0) tb fl pr a0 amid := D2
    have kf3 : kd (ruH h2 pr B0) f = 21 := kf2
    have e94' : fR (ruH h2 pr B0) 1294 f = con := by show fR h2 1294 f = con; rw [r2 1294 (by decide)]; exact e94
    have wn3 := hF_wd F3 (by decide) wn2
    have V3 : hkV a0 amid h2 (ruH h2 pr B0) := hkV_ru D2
    have q3 : ∀ y, a0 ≤ y → y < amid → eqA y h2 (ruH h2 pr B0) := fun y d1 d2 => eqA_ru D2 d1 d2
    have rr3 : ∀ g y, fR (ruH h2 pr B0) g y = fR h2 g y := fun _ _ => rfl
    have kk3 : ∀ y, kd (ruH h2 pr B0) y = kd h2 y := fun _ => rfl
    have l3 : ∀ y, ll (ruH h2 pr B0) y = ll h2 y := fun _ => rfl
    have z3 : hz (ruH h2 pr B0) = hz h2 := rfl
    unfold C_1_resolveInstance_41
    generalize ruH h2 pr B0 = h3 at *
    have X3 := H3.1.1.2.1.1
    rw [gd_pos kf3, e94', c_conOf (wd_wb X3 wn3), Option.bind_some, gd_pos ⟨kf3, kf3⟩]
    have Y4 : hG f h3 (sI h3 1304 f (oI (cnI (tokw S jn)))) := hG_sI (by decide)
    have H4 := RS_hG (alo := a0) (ahi := amid) H3.1 Y4 (by rw [kf3]; decide) rf
    have e04 : fI (sI h3 1304 f (oI (cnI (tokw S jn)))) 1304 f = oI (cnI (tokw S jn)) := fI_eq
    rw [e04]
    have D4 : dj (sI h3 1304 f (oI (cnI (tokw S jn)))) tb fl pr a0 amid := dj_CS D3 H4.2.1 (by omega)
    have wn4 := wd_hG Y4 wn3
    have kf4 : kd (sI h3 1304 f (oI (cnI (tokw S jn)))) f = 21 := kf3
    have kp4 : kd (sI h3 1304 f (oI (cnI (tokw S jn)))) pr = 2 := H4.1.1.2.2.1.1.1
    have rr4 : ∀ g y, fR (sI h3 1304 f (oI (cnI (tokw S jn)))) g y = fR h2 g y := fun g y => (rr3 g y)
    have kk4 : ∀ y, kd (sI h3 1304 f (oI (cnI (tokw S jn)))) y = kd h2 y := fun y => kk3 y
    have l4 : ∀ y, ll (sI h3 1304 f (oI (cnI (tokw S jn)))) y = ll h2 y := fun y => l3 y
    have V4 := hkV_trans V3 (hkV_hG (alo := a0) (ahi := amid) Y4)
    have q4 : ∀ y, a0 ≤ y → y < amid → y ≠ f → eqA y h2 (sI h3 1304 f (oI (cnI (tokw S jn)))) := fun y d1 d2 d3 => eqA_trans (q3 y d1 d2) (Y4.2.1 y d3)
    generalize sI h3 1304 f (oI (cnI (tokw S jn))) = h4 at *
    have R4 := RS_trans H3 H4
    rw [List.append_nil] at R4
    have good : inB S jn ws.length = [] → ∃ h', C_1_resolveInstance_90 G pr f h4 = C_1_resolveInstance_90 G pr f h' ∧ RS G A S N cs K pr tb rest fo F mo Ms a0 amid h2 ul fl h' ul fl 0 0 0 (B0 ++ inB S jn ws.length) ∧ hkV a0 amid h2 h' ∧ (∀ y, a0 ≤ y → y < amid → y ≠ f → eqA y h2 h') ∧ fR h' 1302 f = clA cs (FI Prod.fst (tokw S jc) K) ∧ fI h' 1304 f = oI (cnI (tokw S jn)) ∧ (∀ g, fR h' g f = fR h2 g f) := fun e => by
      rw [e, List.append_nil]
      exact ⟨h4, rfl, R4, V4, q4, by rw [rr4]; exact e02, e04, fun g => rr4 g f⟩
    have bad : inB S jn ws.length = [(tokq S jn : Int)] → ∃ h', C_1_resolveInstance_79 G pr f h4 = C_1_resolveInstance_90 G pr f h' ∧ RS G A S N cs K pr tb rest fo F mo Ms a0 amid h2 ul fl h' ul fl 0 0 0 (B0 ++ inB S jn ws.length) ∧ hkV a0 amid h2 h' ∧ (∀ y, a0 ≤ y → y < amid → y ≠ f → eqA y h2 h') ∧ fR h' 1302 f = clA cs (FI Prod.fst (tokw S jc) K) ∧ fI h' 1304 f = oI (cnI (tokw S jn)) ∧ (∀ g, fR h' g f = fR h2 g f) := fun e => by
      rw [e]
      have e94'' : fR h4 1294 f = con := by rw [rr4, r2 1294 (by decide)]; exact e94
      refine ⟨ruH h4 pr [(tokq S jn : Int)], ?_, RS_trans R4 (RS_ruH H4.1 _), hkV_trans V4 (hkV_ru D4), fun y d1 d2 d3 => eqA_trans (q4 y d1 d2 d3) (eqA_ru D4 d1 d2), by show fR h4 1302 f = _; rw [rr4]; exact e02, by rw [(ruH_F (h := h4) (pr := pr) (B := [(tokq S jn : Int)])).2 f |>.2.1 1304 (by decide)]; exact e04, fun g => rr4 g f⟩
      unfold C_1_resolveInstance_79
      rw [e94'', gd_pos ⟨kf4, wn4.1, kp4⟩, wn4.2.2.1, c_rule' kp4, Option.bind_some]
    cases ec : cnI (tokw S jn) with
    | none =>
      rw [ec] at good bad e04
      rw [if_pos (show oI none < 0 by decide)]
      exact bad (by unfold inB; rw [ec])
    | some c' =>
      rw [ec] at good bad e04
      have c3 := cnI_le ec
      rw [if_neg (show ¬ oI (some c') < 0 by show ¬ ((c' : Int) < 0); omega)]
      unfold C_1_resolveInstance_59
      have e86'' : fR h4 1286 f = so := by rw [rr4, r2 1286 (by decide)]; exact e86
      have ks4 : kd h4 so = 5 ∧ fR h4 162 so = Ln := ⟨by rw [kk4]; exact ks2.1, by rw [rr4]; exact ks2.2⟩
      have kL4 : kd h4 Ln = 42 ∧ ll h4 Ln = ws := ⟨by rw [kk4]; exact kL2.1, by rw [l4]; exact kL2.2⟩
      have es : P_J2_size G Ln h4 = some ((ws.length : Nat) : Int) := by unfold P_J2_size; rw [gd_pos kL4.1, kL4.2]
      rw [e86'', ks4.2, gd_pos ⟨kf4, ks4.1, kL4.1⟩, es, Option.bind_some, gd_pos kf4, e04, show C_0_partsOf G (oI (some c')) h4 = some ((pN c' : Nat) : Int) from c_pN c3, Option.bind_some]
      by_cases y : pN c' = ws.length
      · rw [if_pos (by omega)]
        exact good (by unfold inB; rw [ec]; exact if_pos y)
      · rw [if_neg (by omega)]
        exact bad (by unfold inB; rw [ec]; exact if_neg y)
  have fin : ∀ B0, B0 = icB S K jc → ∃ h', C_1_resolveInstance_41 G pr f (ruH h2 pr B0) = C_1_resolveInstance_90 G pr f h' ∧ RS G A S N cs K pr tb rest fo F mo Ms a0 amid h ul fl h' ul fl 0 0 0 (((if k < 20 then [] else [(tokq S j0 : Int)]) ++ icB S K jc) ++ inB S jn ws.length) ∧ hkV a0 amid h h' ∧ (∀ y, a0 ≤ y → y < amid → y ≠ f → eqA y h h') ∧ fR h' 1302 f = clA cs (FI Prod.fst (tokw S jc) K) ∧ fI h' 1304 f = oI (cnI (tokw S jn)) ∧ (∀ g, g ≠ 1302 → fR h' g f = fR h g f) := by
    intro B0 eB
    subst eB
    obtain ⟨h', g1, g2, g3, g4, g5, g6, g7⟩ := con41 (icB S K jc)
    refine ⟨h', g1, ?_, hkV_trans V2 g3, fun y d1 d2 d3 => eqA_trans (q2 y d1 d2 d3) (g4 y d1 d2 d3), g5, g6, fun g hg => by rw [g7, r2 g hg]⟩
    have := RS_trans (RS_trans H1 H2) g2
    rw [List.append_nil, ← List.append_assoc] at this
    exact this
  by_cases y : FI Prod.fst (tokw S jc) K = none
  · rw [if_neg (fun z => z (c0.mpr y))]
    unfold C_1_resolveInstance_30
    rw [r2 1290 (by decide), e90, gd_pos ⟨kf2, wc2.1, kp2⟩, wc2.2.2.1, c_rule' kp2, Option.bind_some]
    exact fin _ (by unfold icB; rw [if_pos y])
  · rw [if_pos (fun z => y (c0.mp z))]
    have := fin [] (by unfold icB; rw [if_neg y])
    rw [ruH_nil] at this
    exact this
end LRI
