set_option maxRecDepth 100000
section LPG2
variable {G : om_G} {A t : Nat} {N : List (List Int)} {S : List Int} {b m i : Nat} {M : Nat} {σ τ υ : tS} {h h' h1 h2 : om_H} {c pr : Nat} {Z Z' : Nat → Prop}
variable {σ0 : tS} {h0 : om_H} {HZ HU : Nat}
/-- the room that is left while a program is read -/
def RB (m pr HZ HU i M : Nat) (h : om_H) : Prop := hz h + 20 * (m - i) + 40 ≤ HZ ∧ hu h + 300 * (m - i) + 600 ≤ HU + 4 * lcs h pr ∧ M + 2 * (m - i) + 60 ≤ 2700
/-- a program that is being read -/
def PB (G : om_G) (A t : Nat) (S : List Int) (b m : Nat) (Z : Nat → Prop) (pr : Nat) (σ0 : tS) (h0 : om_H) (HZ HU i M : Nat) (σ : tS) (h : om_H) (qs : List dcl) : Prop := ndP σ0 σ 0 0 ∧ hp Z t h0 h ∧ PL G h pr t Z ∧ RB m pr HZ HU i M h ∧ gs σ 624 = (qs.length : Int) ∧ (2 * qs.length ≤ i ∧ qs.Pairwise (fun q q' => q.2.2 < q'.2.2) ∧ ∀ q ∈ qs, q.2.2 < i) ∧ prows G A S b h σ 0 qs (fun _ => []) 0 M (hz h0) (hz h) ∧ PC h pr (prgL h qs (fun _ => [])) ∧ ∀ f ∈ PFs, (ll h (fR h f pr)).length ≤ i
/-- a declaration and the semicolon behind it -/
def DQ (G : om_G) (A t : Nat) (S : List Int) (b m : Nat) (Z : Nat → Prop) (pr : Nat) (σ1 : tS) (M d : Nat) (h : om_H) (HZ HU i : Nat) (Lf : Nat → List Nat) (k : Nat) (j M' : Nat) (τ : tS) (h' : om_H) : Prop := i + 2 ≤ j ∧ ndD σ1 τ M d ∧ M ≤ M' ∧ hp Z t h h' ∧ PL G h' pr t Z ∧ RB m pr HZ HU j M' h' ∧ (∃ a, dclR G A S b h' τ M M' (hz h) (hz h') d Lf (k, a, i) ∧ PC h' pr (dclLf h' Lf (k, a, i))) ∧ (∀ f ∈ PFs, (ll h' (fR h' f pr)).length ≤ j) ∧ (k = 2 → fvR M M' d τ)
theorem DQ_of {σ1 : tS} {d k a j M' : Nat} {Lf : Nat → List Nat} (ht : t < hz h) (H : At G A t N S b m j 0 M' τ h') (hij : i < j) (Q : DS G t m Z pr σ1 M d h HZ HU 20 300 60 j M' τ h') (hM : M ≤ M') (w : dclR G A S b h' τ M M' (hz h) (hz h') d Lf (k, a, i)) (C : PC h' pr (dclLf h' Lf (k, a, i))) (hl : ∀ f ∈ PFs, (ll h' (fR h' f pr)).length ≤ j) (fv : k = 2 → fvR M M' d τ) {hG : om_okG G} :
    RD G A t N S b m 0 Z pr σ1 M d h HZ HU (fun τ : tS => τ) (fun j M' τ h' _ => DQ G A t S b m Z pr σ1 M d h HZ HU i Lf k j M' τ h') (T_decl_165 τ) (gd (kd h' t = 15) (xc (C_14_need_2 G t 59 h') (fun t h => some (.inl t, h)) (fun _ h6 => some (.inr (), h6)))) := by
  unfold T_decl_165
  refine RD_gd (At_kd H) (RD_need hG H Q (by omega) (.inr (.inr (by omega))) (by decide) (by decide) (fun c59 τ2 h2 H2 D2 X2 => ?_) (fun p τ T D => Fv_end T D))
  have hi2 := At_i H2
  have z2 : hz h2 = hz h' := X2.2.2.2.2.2.2.2.2.1
  have y2 : hu h2 = hu h' := X2.2.2.2.2.2.2.2.2.2.1
  have X2x := hx_onlyT X2
  have Q2 : DS G t m Z pr σ1 M d h HZ HU 40 600 60 (j + 1) M' τ2 h2 := DS_step Q D2 X2x (Nat.le_refl _) (by omega) (by omega) (by omega)
  have s2 : ∀ x, hz h ≤ x → x < hz h' → sameA x h' h2 := fun x q r => hx_same X2x r (by omega)
  refine .inl ⟨j + 1, M', τ2, h2, (), rfl, rfl, H2, by omega, Q2.1, hM, Q2.2.2.1, Q2.2.2.2.1, ⟨Q2.2.2.2.2.1, Q2.2.2.2.2.2.1, Q2.2.2.2.2.2.2⟩, ⟨a, by rw [z2]; exact dclR_keep w s2 (fun f hf x _ y => D2.2 f hf x y) (fun f hf => D2.1.2 f (PA_DA hf) d), ?_⟩, fun f hf => ?_, fun ek y c1 c2 => ?_⟩
  · rw [dclLf_keep w s2]
    exact PC_hx C Q.2.2.2.1 X2x
  · rw [(hx_same X2x Q.2.2.2.1.1.2.1 Q.2.2.2.1.1.2.2).2.2.1, X2.2.2.2.2.2.2.1]
    have := hl f hf
    omega
  · rw [D2.1.2 594 (PA_DA (by simp)), D2.1.2 598 (PA_DA (by simp)), D2.2 542 (by simp) y c2, D2.2 538 (by simp) y c2, D2.2 554 (by simp) y c2]
    exact fv ek y c1 c2
theorem len_cls {Lf : Nat → List Nat} {k a j0 j : Nat} (C : PC h' pr (dclLf h' Lf (k, a, j0))) (hl : ∀ f ∈ PFs, (Lf f).length ≤ j0) (hj : j0 < j) (hk : k = 6 ∨ k = 2) : ∀ f ∈ PFs, (ll h' (fR h' f pr)).length ≤ j := by
  intro f hf
  rw [C f hf]
  have := hl f hf
  have e86 := hl 86 (by simp)
  have e90 := hl 90 (by simp)
  have e98 := hl 98 (by simp)
  have e106 := hl 106 (by simp)
  have e110 := hl 110 (by simp)
  unfold dclLf
  rcases hk with rfl | rfl
  · rw [if_neg (show ¬ ((6 : Nat) = 5) by decide), if_pos rfl]
    unfold updL
    by_cases c : f = 86
    · rw [if_pos c, List.length_append]; simp; omega
    · rw [if_neg c]; omega
  · rw [if_neg (show ¬ ((2 : Nat) = 5) by decide), if_neg (show ¬ ((2 : Nat) = 6) by decide)]
    unfold funLf updL
    by_cases c : f = 110
    · subst c; simp; omega
    · by_cases c1 : f = 106
      · subst c1; simp; omega
      · by_cases c2 : f = 98
        · subst c2; simp; omega
        · by_cases c3 : f = 90
          · subst c3; simp; omega
          · simp [c, c1, c2, c3]; omega
set_option maxHeartbeats 1000000 in
/-- one declaration -/
theorem decl_rel (hG : om_okG G) (hN : ∃ N', N = [110, 105, 108] :: [99, 111, 110, 115] :: N') {qs : List dcl} (hZ : ∀ a, Z a → a < hz h0) (hpr : pr < hz h0) (hm : m ≤ 1300) (H : At G A t N S b m i 0 M σ h) (B : PB G A t S b m Z pr σ0 h0 HZ HU i M σ h qs) (ck : tokk S i = 5 ∨ tokk S i = 6 ∨ tokk S i = 2) :
    ∃ (Y : Option ((Nat ⊕ Unit) × om_H)) (k : Nat), (tokk S i = (k : Int) ∧ CPr G pr t h = xc (CP59 G t Y) (fun t h => some (.inl t, h)) (fun _ h6 => CPr G pr t h6)) ∧ RD G A t N S b m 0 Z pr (dw σ qs.length (tokk S i) ((b + i : Nat) : Int)) M qs.length h HZ HU (fun τ : tS => τ) (fun j M' τ h' _ => DQ G A t S b m Z pr (dw σ qs.length (tokk S i) ((b + i : Nat) : Int)) M qs.length h HZ HU i (prgL h qs (fun _ => [])) k j M' τ h') (T_decl σ) (CP59 G t Y) := by
  obtain ⟨B1, B2, B3, B4, B5, B6, B7, B8, B9⟩ := B
  have hi := At_i H
  have htz := At_t H
  have z0 : hz h0 ≤ hz h := B2.1
  have hZh : ∀ a, Z a → a < hz h := fun a z => by have := hZ a z; omega
  have hd : qs.length < 700 ∧ qs.length ≤ qs.length := by omega
  obtain ⟨T1, D1, G1⟩ := dw_st (d := qs.length) (k := tokk S i) (q := ((b + i : Nat) : Int)) H.1
  have hLn : ∀ f ∈ PFs, (prgL h qs (fun _ => []) f).length ≤ i := fun f hf => by rw [← B8 f hf]; exact B9 f hf
  rw [T_decl_eq H.1 B5 hd.1]
  have e570 : ga (dw σ qs.length (tokk S i) ((b + i : Nat) : Int)) 570 qs.length = tokk S i := dw_ga (by simp [dvl])
  have e574 : ga (dw σ qs.length (tokk S i) ((b + i : Nat) : Int)) 574 qs.length = ((b + i : Nat) : Int) := dw_ga (by simp [dvl])
  have e586 : ga (dw σ qs.length (tokk S i) ((b + i : Nat) : Int)) 586 qs.length = -1 := dw_ga (by simp [dvl])
  have e590 : ga (dw σ qs.length (tokk S i) ((b + i : Nat) : Int)) 590 qs.length = 0 := dw_ga (by simp [dvl])
  have e594 : ga (dw σ qs.length (tokk S i) ((b + i : Nat) : Int)) 594 qs.length = -1 := dw_ga (by simp [dvl])
  have e598 : ga (dw σ qs.length (tokk S i) ((b + i : Nat) : Int)) 598 qs.length = 0 := dw_ga (by simp [dvl])
  have e602 : ga (dw σ qs.length (tokk S i) ((b + i : Nat) : Int)) 602 qs.length = -1 := dw_ga (by simp [dvl])
  have e606 : ga (dw σ qs.length (tokk S i) ((b + i : Nat) : Int)) 606 qs.length = -1 := dw_ga (by simp [dvl])
  have e610 : ga (dw σ qs.length (tokk S i) ((b + i : Nat) : Int)) 610 qs.length = -1 := dw_ga (by simp [dvl])
  have e614 : ga (dw σ qs.length (tokk S i) ((b + i : Nat) : Int)) 614 qs.length = -1 := dw_ga (by simp [dvl])
  generalize hσ1 : dw σ qs.length (tokk S i) ((b + i : Nat) : Int) = σ1 at *
  have H1 : At G A t N S b m i 0 M σ1 h := ⟨T1, H.2⟩
  obtain ⟨R1, R2, R3⟩ := B4
  have Q0 : DS G t m Z pr σ1 M qs.length h HZ HU 40 600 60 i M σ1 h := ⟨ndD_refl _ _ _, Nat.le_refl _, hp_refl _ _ _, B3, R1, R2, R3⟩
  obtain ⟨ca1, ca2⟩ := c_passes hG H.2.1 (j := 11) (kk := 5) (bs := [99, 108, 97, 115, 115]) (by rfl) (by decide)
  obtain ⟨cb1, cb2⟩ := c_passes hG H.2.1 (j := 13) (kk := 6) (bs := [105, 110, 115, 116, 97, 110, 99, 101]) (by rfl) (by decide)
  obtain ⟨ta1, ta2⟩ := t_takes T1 (k := 5) (by decide)
  obtain ⟨tb1, tb2⟩ := t_takes T1 (k := 6) (by decide)
  have tf : ∀ (p : Int) (τ : tS) (M' : Nat), Tfl τ N S b m p 0 M' → ndD σ1 τ M qs.length → TFv N S b m 0 σ1 M qs.length p (T_decl_165 τ) := fun p τ M' T D => decl_165F T D
  by_cases c5 : tokk S i = 5
  · obtain ⟨τ2, u1, u2, u3⟩ := ta1 c5
    obtain ⟨h2, v1, v2, v3⟩ := ca1 c5
    have X2 := hx_onlyT v3
    have z2 : hz h2 = hz h := v3.2.2.2.2.2.2.2.2.1
    have y2 : hu h2 = hu h := v3.2.2.2.2.2.2.2.2.2.1
    have H2 := At_onlyT H1 v3 v2 u2
    have hi2 := At_i H2
    obtain ⟨P2, L2⟩ := PL_hx B3 X2
    refine ⟨C_1_readClass G pr t (tokq S i : Int) h2, 5, ⟨c5, CPr_5 hG H.2.1 c5 v1 P2.1.1⟩, ?_⟩
    rw [u1]
    simp only [Option.bind_some]
    rw [if_neg (by decide)]
    have Q2 : DS G t m Z pr σ1 M qs.length h HZ HU 40 600 60 (i + 1) M τ2 h2 := DS_step Q0 u3 X2 (Nat.le_refl _) (by omega) (by omega) (by omega)
    have C2 : PC h2 pr (prgL h qs (fun _ => [])) := PC_hx B8 B3 X2
    unfold CP59
    refine RD_then (class_rel (Lf := prgL h qs (fun _ => [])) hG (by omega) htz (by omega) hZh hd (by omega) H2 Q2 C2 ⟨by rw [u3.1.2 570 (PA_DA (by simp)), e570]; exact c5, by rw [u3.1.2 574 (PA_DA (by simp))]; exact e574, by rw [u3.1.2 586 (PA_DA (by simp))]; exact e586, by rw [u3.1.2 602 (PA_DA (by simp))]; exact e602, by rw [u3.1.2 610 (PA_DA (by simp))]; exact e610⟩ (fun f hf => by rw [C2 f hf]; have := hLn f hf; omega)) (fun j M' τ h' Hj P1 => ?_) tf
    obtain ⟨p1, p2, p3, ⟨a, p4, p5⟩, p6⟩ := P1
    exact DQ_of (hG := hG) (k := 5) (a := a) htz Hj p1 p2 p3 (.inl ⟨rfl, p4⟩) (fun f hf => by unfold dclLf; rw [if_pos rfl]; exact p5 f hf) p6 (fun z => absurd z (by decide))
  · by_cases c6 : tokk S i = 6
    · obtain ⟨τ2, u1, u2, u3⟩ := tb1 c6
      obtain ⟨h2, v1, v2, v3⟩ := cb1 c6
      have X2 := hx_onlyT v3
      have z2 : hz h2 = hz h := v3.2.2.2.2.2.2.2.2.1
      have y2 : hu h2 = hu h := v3.2.2.2.2.2.2.2.2.2.1
      have H2 := At_onlyT H1 v3 v2 u2
      have hi2 := At_i H2
      obtain ⟨P2, L2⟩ := PL_hx B3 X2
      refine ⟨C_1_readInstance G pr t (tokq S i : Int) h2, 6, ⟨c6, CPr_6 hG H.2.1 c6 (ca2 c5) v1 P2.1.1⟩, ?_⟩
      rw [ta2 c5]
      simp only [Option.bind_some]
      rw [if_pos trivial, u1]
      simp only [Option.bind_some]
      rw [if_neg (by decide)]
      have Q2 : DS G t m Z pr σ1 M qs.length h HZ HU 40 600 60 (i + 1) M τ2 h2 := DS_step Q0 u3 X2 (Nat.le_refl _) (by omega) (by omega) (by omega)
      have C2 : PC h2 pr (prgL h qs (fun _ => [])) := PC_hx B8 B3 X2
      unfold CP59
      refine RD_then (inst_rel (Lf := prgL h qs (fun _ => [])) hG hN htz (by omega) hZh hd (by omega) H2 Q2 C2 ⟨by rw [u3.1.2 570 (PA_DA (by simp)), e570]; exact c6, by rw [u3.1.2 574 (PA_DA (by simp))]; exact e574, by rw [u3.1.2 590 (PA_DA (by simp))]; exact e590, by rw [u3.1.2 602 (PA_DA (by simp))]; exact e602, by rw [u3.1.2 606 (PA_DA (by simp))]; exact e606, by rw [u3.1.2 610 (PA_DA (by simp))]; exact e610, by rw [u3.1.2 614 (PA_DA (by simp))]; exact e614⟩ (fun f hf => by have := hLn f hf; omega)) (fun j M' τ h' Hj P1 => ?_) tf
      obtain ⟨p1, p2, p3, a, p4, p5⟩ := P1
      have p5' : PC h' pr (dclLf h' (prgL h qs (fun _ => [])) (6, a, i)) := fun f hf => by unfold dclLf; rw [if_neg (show ¬ ((6 : Nat) = 5) by decide), if_pos rfl]; exact p5 f hf
      exact DQ_of (hG := hG) (k := 6) (a := a) htz Hj p1 p2 p3 (.inr (.inl ⟨rfl, p4⟩)) p5' (len_cls p5' hLn p1 (.inl rfl)) (fun z => absurd z (by decide))
    · have c2 : tokk S i = 2 := by omega
      refine ⟨C_1_readFunction G pr t h, 2, ⟨by omega, CPr_f hG H.2.1 (by omega) (ca2 c5) (cb2 c6) B3.1.1⟩, ?_⟩
      rw [ta2 c5]
      simp only [Option.bind_some]
      rw [if_pos trivial, tb2 c6]
      simp only [Option.bind_some]
      rw [if_pos trivial]
      unfold CP59
      refine RD_then (function_rel (Lf := prgL h qs (fun _ => [])) hG hN htz (by omega) hZh hd (Nat.le_refl _) H1 Q0 B8 ⟨by rw [e570]; exact c2, e574, e594, e598, e606⟩ hLn) (fun j M' τ h' Hj P1 => ?_) tf
      obtain ⟨fv, p1, p2, p3, a, p4, p5⟩ := P1
      have p5' : PC h' pr (dclLf h' (prgL h qs (fun _ => [])) (2, a, i)) := fun f hf => by unfold dclLf; rw [if_neg (show ¬ ((2 : Nat) = 5) by decide), if_neg (show ¬ ((2 : Nat) = 6) by decide)]; exact p5 f hf
      exact DQ_of (hG := hG) (k := 2) (a := a) htz Hj p1 p2 p3 (.inr (.inr ⟨rfl, p4⟩)) p5' (len_cls p5' hLn p1 (.inr rfl)) (fun _ => fv)
end LPG2
