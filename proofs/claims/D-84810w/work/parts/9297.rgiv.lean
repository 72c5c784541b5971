set_option maxRecDepth 100000
/-! RESOLVE: givens and conditions, in the component -/
/-- what a given's great has to be -/
def gvF (K : KT) (eq : Bool) (L : List Int) : Option Nat := if eq then FI Prod.snd L K else FI Prod.fst L K
/-- breaks at a given: its great, its name -/
def gvB (S : List Int) (K : KT) (Ls : List (List Int)) (eq : Bool) (j : Nat) : List Int := (if gvF K eq (tokw S j) = none then [(tokq S j : Int)] else []) ++ (if tokw S (j + 1) ∈ Ls then [] else [(tokq S (j + 1) : Int)])
/-- a scope and its givens, while they are gone through -/
def sgF (h : om_H) (pr tb so Lg Ln : Nat) (Ls : List (List Int)) (gv : List Nat) : Prop := (kd h so = 5 ∧ fR h 166 so = Lg ∧ fR h 162 so = Ln) ∧ (kd h Lg = 42 ∧ ll h Lg = gv ∧ gv.length ≤ 5000) ∧ (SCc h Ln Ls ∧ Ln ≠ fR h 122 tb) ∧ fR h 78 pr = tb
section LRG
variable {G : om_G} {A : Nat} {S : List Int} {b m : Nat} {N : List (List Int)} {cs : List Nat} {K : KT} {pr Ln : Nat} {Ls : List (List Int)} {sc : List Nat} {tb : Nat} {rest : List (Nat × List Nat)} {fo : List Nat} {F : FT} {mo : List (List Nat)} {Ms : List FT}
variable {h h' h2 hr : om_H} {ul fl ul' fl' : List Nat} {σ τ υ σr : tS} {n n' q z u lo hi alo ahi a0 amid a c w k : Nat} {B B2 : List Int} {X : Int} {L : List Int}
theorem c_isEqual {x : Nat} (kx : kd h x = 22) : C_21_isEqual G x h = some (if fR h 1346 x ≠ 0 then 1 else 0) := by
  unfold C_21_isEqual
  by_cases e : fR h 1346 x = 0
  · rw [gd_pos kx, if_pos e, if_neg (fun z => z e)]
    unfold C_21_isEqual_12
    first
    | rfl
    | exact gd_pos (.inl rfl)
  · rw [gd_pos kx, if_neg e, if_pos e]
    unfold C_21_isEqual_12
    first
    | rfl
    | exact gd_pos (.inr rfl)
theorem eqA_ru (D : dj h tb fl pr a0 amid) {y : Nat} (h1 : a0 ≤ y) (h2 : y < amid) : eqA y h (ruH h pr B) := ⟨rfl, fun f => fI_na (fun e => by have := D pr (.inr rfl); omega), fun _ => rfl, rfl, fun _ => rfl, fun _ => rfl, rfl, rfl⟩
/-- up to the type: too many, its great, its name -/
theorem rg_head {so Lg x j : Nat} {gv : List Nat} {eq : Bool} (he : eq = true ↔ fR h 1346 x ≠ 0) (hA : amid ≤ hz h) (H : RX G A S N cs K pr tb rest fo F mo Ms h ul fl) (C : sgF h pr tb so Lg Ln Ls gv) (ex : gv[k]? = some x) (kx : kd h x = 22) (rx : a0 ≤ x ∧ x < amid) (wg : wd h A S (fR h 1338 x) j) (wn : wd h A S (fR h 1342 x) (j + 1)) (D : dj h tb fl pr a0 amid) :
    ∃ h1, C_1_resolveGivens_2s G pr so ((k : Int), h) = C_1_resolveGivens_121 G pr so (k : Int) x h1 ∧ RS G A S N cs K pr tb rest fo F mo Ms a0 amid h ul fl h1 ul fl 0 0 0 ((if k < 4 then [] else [(tokq S j : Int)]) ++ gvB S K Ls eq j) ∧ hkV a0 amid h h1 ∧ (∀ y, a0 ≤ y → y < amid → y ≠ x → eqA y h h1) ∧ fR h1 1350 x = clA cs (gvF K eq (tokw S j)) ∧ fR h1 1354 x = fR h 1354 x ∧ SCc h1 Ln Ls := by
  obtain ⟨⟨c1, c2, c3⟩, ⟨c4, c5, c6⟩, ⟨c7, c8⟩, c9⟩ := C
  have kp := H.1.2.2.1.1.1
  have X0 := H.1.2.1
  have kl : k < gv.length := (List.getElem?_eq_some_iff.mp ex).1
  have tm := c_tooMany (G := G) (h := h) (pr := pr) (x := (tokq S j : Int)) (i := k) (n := 4) kp
  -- behind too many
  have H1 := RS_ruH (alo := a0) (ahi := amid) H (if k < 4 then [] else [(tokq S j : Int)])
  have K1 : hkV a0 amid h (ruH h pr (if k < 4 then [] else [(tokq S j : Int)])) := hkV_ru D
  have eq1 : ∀ y, a0 ≤ y → y < amid → eqA y h (ruH h pr (if k < 4 then [] else [(tokq S j : Int)])) := fun y d1 d2 => eqA_ru D d1 d2
  have S1 : SCc (ruH h pr (if k < 4 then [] else [(tokq S j : Int)])) Ln Ls := hF_SCc ruH_F (by decide) c7
  have k1 : ∀ y, kd (ruH h pr (if k < 4 then [] else [(tokq S j : Int)])) y = kd h y := fun _ => rfl
  have r1 : ∀ f y, fR (ruH h pr (if k < 4 then [] else [(tokq S j : Int)])) f y = fR h f y := fun _ _ => rfl
  have wg1 : wd (ruH h pr (if k < 4 then [] else [(tokq S j : Int)])) A S (fR h 1338 x) j := hF_wd ruH_F (by decide) wg
  have wn1 : wd (ruH h pr (if k < 4 then [] else [(tokq S j : Int)])) A S (fR h 1342 x) (j + 1) := hF_wd ruH_F (by decide) wn
  have D1 : dj (ruH h pr (if k < 4 then [] else [(tokq S j : Int)])) tb fl pr a0 amid := D
  have un : C_1_resolveGivens_2s G pr so ((k : Int), h) = (C_21_isEqual G x (ruH h pr (if k < 4 then [] else [(tokq S j : Int)]))).bind (fun p4 => if p4 = 0 then gd (kd (ruH h pr (if k < 4 then [] else [(tokq S j : Int)])) x = 22 ∧ kd (ruH h pr (if k < 4 then [] else [(tokq S j : Int)])) pr = 2) ((C_1_classOf G pr (fR (ruH h pr (if k < 4 then [] else [(tokq S j : Int)])) 1338 x) (ruH h pr (if k < 4 then [] else [(tokq S j : Int)]))).bind fun p5 => C_1_resolveGivens_71 G pr so (k : Int) x x p5 (ruH h pr (if k < 4 then [] else [(tokq S j : Int)]))) else gd (kd (ruH h pr (if k < 4 then [] else [(tokq S j : Int)])) x = 22 ∧ kd (ruH h pr (if k < 4 then [] else [(tokq S j : Int)])) pr = 2) ((C_1_familyOf G pr (fR (ruH h pr (if k < 4 then [] else [(tokq S j : Int)])) 1338 x) (ruH h pr (if k < 4 then [] else [(tokq S j : Int)]))).bind fun p6 => C_1_resolveGivens_71 G pr so (k : Int) x x p6 (ruH h pr (if k < 4 then [] else [(tokq S j : Int)])))) := by
    have e1 : P_J2_size G (fR h 166 so) h = some ((gv.length : Nat) : Int) := by unfold P_J2_size; rw [c2, gd_pos c4, c5]
    have e2 : P_J2_get G (fR h 166 so) (k : Int) h = some x := by unfold P_J2_get; rw [c2, gd_pos ⟨c4, by omega⟩, c5, show ((k : Int)).toNat = k by omega, ex]
    unfold C_1_resolveGivens_2s
    simp only
    rw [gd_pos ⟨c1, by rw [c2]; exact c4⟩, e1, Option.bind_some, if_neg (by omega), gd_pos ⟨c1, by rw [c2]; exact c4⟩, e2, Option.bind_some, gd_pos ⟨.inr kx, kx, wg.1, kp⟩, wg.2.2.1, show (4 : Int) = ((4 : Nat) : Int) from rfl, tm, Option.bind_some, gd_pos (show kd (ruH h pr (if k < 4 then [] else [(tokq S j : Int)])) x = 22 from kx)]
  rw [un]
  clear un tm
  generalize ruH h pr (if k < 4 then [] else [(tokq S j : Int)]) = h1 at *
  have kx1 : kd h1 x = 22 := by rw [k1]; exact kx
  have kp1 : kd h1 pr = 2 := by rw [k1]; exact kp
  have X1 := H1.1.1.2.1.1
  have Wg := wd_wb X1 wg1
  have Wn := wd_wb X1 wn1
  have cl1 := H1.1.1.2.2.1
  rw [c_isEqual kx1, Option.bind_some, r1 1346, r1 1338]
  -- the great is looked up
  have look : (if (if fR h 1346 x ≠ 0 then (1 : Int) else 0) = 0 then gd (kd h1 x = 22 ∧ kd h1 pr = 2) ((C_1_classOf G pr (fR h 1338 x) h1).bind fun p5 => C_1_resolveGivens_71 G pr so (k : Int) x x p5 h1) else gd (kd h1 x = 22 ∧ kd h1 pr = 2) ((C_1_familyOf G pr (fR h 1338 x) h1).bind fun p6 => C_1_resolveGivens_71 G pr so (k : Int) x x p6 h1)) = C_1_resolveGivens_71 G pr so (k : Int) x x (clA cs (gvF K eq (tokw S j))) h1 := by
    unfold gvF
    by_cases e : fR h 1346 x = 0
    · have ee : eq = false := by
        cases eq with
        | false => rfl
        | true => exact absurd e (he.mp rfl)
      have i0 : (if fR h 1346 x ≠ 0 then (1 : Int) else 0) = 0 := if_neg (fun z => z e)
      rw [if_pos i0, gd_pos ⟨kx1, kp1⟩, c_classOf cl1 Wg, Option.bind_some, ee]
      rfl
    · have ee : eq = true := he.mpr e
      have i0 : ¬ (if fR h 1346 x ≠ 0 then (1 : Int) else 0) = 0 := by rw [if_pos e]; decide
      rw [if_neg i0, gd_pos ⟨kx1, kp1⟩, c_familyOf cl1 Wg, Option.bind_some, ee]
      rfl
  rw [look]
  clear look
  have Y : hG x h1 (sR h1 1350 x (clA cs (gvF K eq (tokw S j)))) := hG_sR (by decide)
  have H2 := RS_hG (alo := a0) (ahi := amid) H1.1 Y (by rw [kx1]; decide) rx
  have e50 : fR (sR h1 1350 x (clA cs (gvF K eq (tokw S j)))) 1350 x = clA cs (gvF K eq (tokw S j)) := fR_eq
  have z0 : clA cs (gvF K eq (tokw S j)) = 0 ↔ gvF K eq (tokw S j) = none := by
    cases e : gvF K eq (tokw S j) with
    | none => exact ⟨fun _ => rfl, fun _ => rfl⟩
    | some i =>
      have il : i < K.length := by
        unfold gvF at e
        split at e
        · exact FI_lt e
        · exact FI_lt e
      have icl : i < cs.length := by have := cl1.2.2.1; omega
      have ec : cs[i]? = some cs[i] := List.getElem?_eq_getElem icl
      have ek : K[i]? = some K[i] := List.getElem?_eq_getElem il
      have d1 := (cl1.2.2.2.2 i _ _ ec ek).1
      refine ⟨fun z => absurd z ?_, fun z => by cases z⟩
      show cs.getD i 0 ≠ 0
      rw [List.getD_eq_getElem?_getD, ec]
      exact d1.1
  have eq2 : ∀ y, a0 ≤ y → y < amid → y ≠ x → eqA y h (sR h1 1350 x (clA cs (gvF K eq (tokw S j)))) := fun y d1 d2 d3 => eqA_trans (eq1 y d1 d2) (Y.2.1 y d3)
  have V2 : hkV a0 amid h (sR h1 1350 x (clA cs (gvF K eq (tokw S j)))) := hkV_trans K1 (hkV_hG Y)
  have S2 := hG_SCc Y S1
  have zh1 : hz h ≤ hz h1 := H1.2.1.1.1
  have D2 : dj (sR h1 1350 x (clA cs (gvF K eq (tokw S j)))) tb fl pr a0 amid := dj_CS D1 H2.2.1 (by omega)
  have kso2 : kd (sR h1 1350 x (clA cs (gvF K eq (tokw S j)))) so = 5 := by rw [hG_kd Y, k1]; exact c1
  have kx2 : kd (sR h1 1350 x (clA cs (gvF K eq (tokw S j)))) x = 22 := kx1
  have kp2 : kd (sR h1 1350 x (clA cs (gvF K eq (tokw S j)))) pr = 2 := kp1
  have e62 : fR (sR h1 1350 x (clA cs (gvF K eq (tokw S j)))) 162 so = Ln := by rw [hG_fR Y (by decide), r1]; exact c3
  have e42 : fR (sR h1 1350 x (clA cs (gvF K eq (tokw S j)))) 1342 x = fR h 1342 x := by rw [hG_fR Y (by decide), r1]
  have e38 : fR (sR h1 1350 x (clA cs (gvF K eq (tokw S j)))) 1338 x = fR h 1338 x := by rw [hG_fR Y (by decide), r1]
  have e54 : fR (sR h1 1350 x (clA cs (gvF K eq (tokw S j)))) 1354 x = fR h 1354 x := by rw [fR_ne (by decide), r1]
  have wn2 : wd (sR h1 1350 x (clA cs (gvF K eq (tokw S j)))) A S (fR h 1342 x) (j + 1) := ⟨by rw [hG_kd Y]; exact wn1.1, by rw [hG_fR Y (by decide)]; exact wn1.2.1, by rw [hG_fI Y (by decide)]; exact wn1.2.2.1, by rw [hG_fI Y (by decide)]; exact wn1.2.2.2⟩
  have wg2 : fI (sR h1 1350 x (clA cs (gvF K eq (tokw S j)))) 1188 (fR h 1338 x) = (tokq S j : Int) ∧ kd (sR h1 1350 x (clA cs (gvF K eq (tokw S j)))) (fR h 1338 x) = 17 := ⟨by rw [hG_fI Y (by decide)]; exact wg1.2.2.1, by rw [hG_kd Y]; exact wg1.1⟩
  have u71 : C_1_resolveGivens_71 G pr so (k : Int) x x (clA cs (gvF K eq (tokw S j))) h1 = if clA cs (gvF K eq (tokw S j)) ≠ 0 then C_1_resolveGivens_94 G pr so (k : Int) x (sR h1 1350 x (clA cs (gvF K eq (tokw S j)))) else C_1_resolveGivens_82 G pr so (k : Int) x (sR h1 1350 x (clA cs (gvF K eq (tokw S j)))) := by
    unfold C_1_resolveGivens_71
    rw [gd_pos ⟨kx1, kx1⟩, e50]
  rw [u71]
  clear u71
  generalize sR h1 1350 x (clA cs (gvF K eq (tokw S j))) = g2 at *
  -- the name
  have nam : ∀ B0, C_1_resolveGivens_94 G pr so (k : Int) x (ruH g2 pr B0) = C_1_resolveGivens_121 G pr so (k : Int) x (ruH g2 pr (B0 ++ if tokw S (j + 1) ∈ Ls then [] else [(tokq S (j + 1) : Int)])) := by
    intro B0
    have F0 : hF [112] g2 (ruH g2 pr B0) := ruH_F
    have kS : kd (ruH g2 pr B0) so = 5 := kso2
    have kX : kd (ruH g2 pr B0) x = 22 := kx2
    have kP : kd (ruH g2 pr B0) pr = 2 := kp2
    have eL : fR (ruH g2 pr B0) 162 so = Ln := e62
    have eN : fR (ruH g2 pr B0) 1342 x = fR h 1342 x := e42
    have wN := hF_wd F0 (by decide) wn2
    have X3 : txC (ruH g2 pr B0) A S := (RS_ruH (alo := a0) (ahi := amid) H2.1 B0).1.1.2.1.1
    have SC3 := hF_SCc F0 (by decide) S2
    unfold C_1_resolveGivens_94
    rw [gd_pos ⟨kS, kX⟩, eL, eN, c_isAmong SC3 (wd_wb X3 wN), Option.bind_some]
    by_cases y : tokw S (j + 1) ∈ Ls
    · rw [if_pos y, if_pos (by decide), if_pos y, List.append_nil]
    · rw [if_neg y, if_neg (by decide), if_neg y, gd_pos ⟨kX, wN.1, kP⟩, wN.2.2.1, c_rule' kP, Option.bind_some, ruH_app]
  have fin : ∀ B0, B0 = (if gvF K eq (tokw S j) = none then [(tokq S j : Int)] else []) → ∃ h3, C_1_resolveGivens_94 G pr so (k : Int) x (ruH g2 pr B0) = C_1_resolveGivens_121 G pr so (k : Int) x h3 ∧ RS G A S N cs K pr tb rest fo F mo Ms a0 amid h ul fl h3 ul fl 0 0 0 ((if k < 4 then [] else [(tokq S j : Int)]) ++ gvB S K Ls eq j) ∧ hkV a0 amid h h3 ∧ (∀ y, a0 ≤ y → y < amid → y ≠ x → eqA y h h3) ∧ fR h3 1350 x = clA cs (gvF K eq (tokw S j)) ∧ fR h3 1354 x = fR h 1354 x ∧ SCc h3 Ln Ls := by
    intro B0 eB
    subst eB
    have H3 := RS_ruH (alo := a0) (ahi := amid) H2.1 ((if gvF K eq (tokw S j) = none then [(tokq S j : Int)] else []) ++ if tokw S (j + 1) ∈ Ls then [] else [(tokq S (j + 1) : Int)])
    refine ⟨_, nam _, ?_, hkV_trans V2 (hkV_ru D2), fun y d1 d2 d3 => eqA_trans (eq2 y d1 d2 d3) (eqA_ru D2 d1 d2), e50, e54, hF_SCc ruH_F (by decide) S2⟩
    have := RS_trans (RS_trans H1 H2) H3
    rw [List.append_nil] at this
    exact this
  by_cases y : gvF K eq (tokw S j) = none
  · rw [if_neg (fun z => z (z0.mpr y))]
    unfold C_1_resolveGivens_82
    rw [e38, gd_pos ⟨kx2, wg2.2, kp2⟩, wg2.1, c_rule' kp2, Option.bind_some]
    exact fin _ (by rw [if_pos y])
  · rw [if_pos (fun z => y (z0.mp z))]
    have := fin [] (by rw [if_neg y])
    rw [ruH_nil] at this
    exact this
end LRG
