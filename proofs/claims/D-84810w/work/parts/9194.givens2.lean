set_option maxRecDepth 100000
section LG3
variable {G : om_G} {A t : Nat} {N : List (List Int)} {S : List Int} {b m i : Nat} {n : Int} {M : Nat} {σ τ : tS} {h h' h1 h2 : om_H} {c pr : Nat} {Z Z' : Nat → Prop}
variable {σ0 : tS} {M0 d0 : Nat} {h0 : om_H} {HZ HU : Nat}
set_option maxHeartbeats 1000000 in
/-- a Given is filled and put into its list; then a comma or not -/
theorem given_tail {pl : Prop} {wr : Nat} (hG : om_okG G) (hpl : pl → wr = 0) {am ag Mg Mb d L x w1 w2 jg : Nat} {Lf : Nat → List Nat} {dv : Nat → Int} {Φ : om_H → Prop} {first last tw : Int} {os xs : List Nat} (ht : t < hz h0) (hpr : pr < hz h0) (hZ : ∀ a, Z a → a < hz h0) (hMb : M0 ≤ Mb) (hΦ : ∀ h h', (∀ a, hz h0 ≤ a → a < am → a ≠ L → sameA a h h') → Φ h → Φ h')
    (H : At G A t N S b m i n M σ h) (Q : DSL G t m Z pr σ0 M0 d0 h0 HZ HU L 30 400 62 i M σ h) (B : GB G A S b (hz h0) Mb am d L pr Lf dv Φ pl Mg ag σ h first os xs) (hl : lastOf os last first) (hMg : Mg ≤ M)
    (hx' : kd h x = 22 ∧ ag ≤ x ∧ x < hz h ∧ fR h 1350 x = 0 ∧ fR h 1354 x = 0 ∧ fR h 1358 x = 0) (h1' : ag ≤ w1 ∧ w1 < hz h ∧ wd h A S w1 jg ∧ tokk S jg = 3) (h2' : ag ≤ w2 ∧ w2 < hz h ∧ wd h A S w2 (jg + 1) ∧ tokk S (jg + 1) = 2)
    (hw : (wr = 0 ∧ tw = -1 ∧ Mg = M) ∨ ∃ kk p a1 a3 : Nat, wr ≠ 0 ∧ tw = (p : Int) ∧ ag ≤ a1 ∧ a3 ≤ hz h ∧ x < a1 ∧ WR A S b h σ 59 Mg M a1 a3 wr p) (hxl : xs.length ≤ i) (hgl : ∀ y, Mg ≤ y → y < M → ((b + jg : Nat) : Int) ≤ ga σ 542 y) (hgo : ∀ o ∈ os, ga σ 542 o < ((b + jg : Nat) : Int)) (hji : jg < i)
    (l1 : Int) {F : Int × tS → Option tS} {P : Nat → Nat → tS → om_H → Unit → Prop} {CG ex : om_H → Option ((Nat ⊕ Unit) × om_H)}
    (go : ∀ (M' : Nat) (σ' : tS) (h' : om_H) (first' last' : Int) (os' xs' : List Nat), At G A t N S b m (i + 1) n M' σ' h' → DSL G t m Z pr σ0 M0 d0 h0 HZ HU L 20 300 60 (i + 1) M' σ' h' → GB G A S b (hz h0) Mb am d L pr Lf dv Φ pl M' (hz h') σ' h' first' os' xs' → lastOf os' last' first' → xs'.length ≤ i + 1 → RD G A t N S b m n Z pr σ0 M0 d0 h0 HZ HU (fun τ : tS => τ) P (TGF l1 F (first', last', 1, σ')) (CG h'))
    (ge : ∀ (M' : Nat) (σ' : tS) (h' : om_H) (first' : Int) (os' xs' : List Nat), At G A t N S b m i n M' σ' h' → DSL G t m Z pr σ0 M0 d0 h0 HZ HU L 20 300 60 i M' σ' h' → GB G A S b (hz h0) Mb am d L pr Lf dv Φ pl M' (hz h') σ' h' first' os' xs' → RD G A t N S b m n Z pr σ0 M0 d0 h0 HZ HU (fun τ : tS => τ) P ((T_need 125 σ').bind fun p2 => F (first', p2)) (ex h')) :
    RD G A t N S b m n Z pr σ0 M0 d0 h0 HZ HU (fun τ : tS => τ) P (TG54 l1 F first last ((b + jg : Nat) : Int) ((b + (jg + 1) : Nat) : Int) tw σ) (gd (kd h x = 22) ((C_21_init G x w1 w2 wr h).bind fun p1 => gd (kd p1 L = 42) ((P_J2_add G L x p1).bind fun p2 => gd (kd p2.2 t = 15) ((C_14_passes_2 G t 44 p2.2).bind fun p3 => if p3.1 ≠ 0 then CG p3.2 else ex p3.2)))) := by
  obtain ⟨B1, B2, B3, B4, B5, B6, B7, B8, B9⟩ := B
  obtain ⟨q1, q2, q3, q4, q5, q6, q7⟩ := Q
  have Bi := grows_in B4
  have Bp := grows_pw B4
  have hm4 := H.1.1.2.1
  have hi := At_i H
  have xne : x ≠ pr := by omega
  -- the object
  have eC : C_21_init G x w1 w2 wr h = some (sR (sR (sR h 1338 x w1) 1342 x w2) 1346 x wr) := by unfold C_21_init; exact gd_pos hx'.1
  have F3 : hp Z x h (sR (sR (sR h 1338 x w1) 1342 x w2) 1346 x wr) := hp_trans (hp_trans (hp_sRx h) (hp_sRx _)) (hp_sRx _)
  have R3 : fR (sR (sR (sR h 1338 x w1) 1342 x w2) 1346 x wr) 1338 x = w1 ∧ fR (sR (sR (sR h 1338 x w1) 1342 x w2) 1346 x wr) 1342 x = w2 ∧ fR (sR (sR (sR h 1338 x w1) 1342 x w2) 1346 x wr) 1346 x = wr ∧ ∀ f, f ≠ 1338 → f ≠ 1342 → f ≠ 1346 → fR (sR (sR (sR h 1338 x w1) 1342 x w2) 1346 x wr) f x = fR h f x := ⟨by rw [fR_ne (by decide), fR_ne (by decide), fR_eq], by rw [fR_ne (by decide), fR_eq], fR_eq, fun f c1 c2 c3 => by rw [fR_ne c3, fR_ne c2, fR_ne c1]⟩
  obtain ⟨P3, L3⟩ : PL G (sR (sR (sR h 1338 x w1) 1342 x w2) 1346 x wr) pr t Z ∧ lcs (sR (sR (sR h 1338 x w1) 1342 x w2) 1346 x wr) pr = lcs h pr := by
    obtain ⟨a1, a2⟩ := PL_sR (f := 1338) (x := w1) q4 xne
    obtain ⟨b1, b2⟩ := PL_sR (f := 1342) (x := w2) a1 xne
    obtain ⟨c1, c2⟩ := PL_sR (f := 1346) (x := wr) b1 xne
    exact ⟨c1, c2.trans (b2.trans a2)⟩
  have O3 : okV G (sR (sR (sR h 1338 x w1) 1342 x w2) 1346 x wr) L := B2
  have l3 : ll (sR (sR (sR h 1338 x w1) 1342 x w2) 1346 x wr) = ll h := rfl
  have c3 : lc (sR (sR (sR h 1338 x w1) 1342 x w2) 1346 x wr) = lc h := rfl
  have k3 : kd (sR (sR (sR h 1338 x w1) 1342 x w2) 1346 x wr) = kd h := rfl
  have z3 : hz (sR (sR (sR h 1338 x w1) 1342 x w2) 1346 x wr) = hz h := rfl
  have y3 : hu (sR (sR (sR h 1338 x w1) 1342 x w2) 1346 x wr) = hu h := rfl
  rw [gd_pos hx'.1, eC]
  simp only [Option.bind_some]
  have sx3 : ∀ a, a < hz h → a ≠ x → sameA a h (sR (sR (sR h 1338 x w1) 1342 x w2) 1346 x wr) := fun a _ r => ⟨rfl, fun _ => rfl, fun f => by rw [fR_na r, fR_na r, fR_na r], rfl, fun _ => rfl, rfl, rfl⟩
  have H3 : At G A t N S b m i n M σ (sR (sR (sR h 1338 x w1) 1342 x w2) 1346 x wr) := At_sR (At_sR (At_sR H (by omega)) (by omega)) (by omega)
  generalize sR (sR (sR h 1338 x w1) 1342 x w2) 1346 x wr = h3 at *
  obtain ⟨a1, a2, a3, a4, a5, a6⟩ := v_add (x := x) O3 (.inl ⟨by omega, by rw [k3]; omega, by rw [k3]; omega⟩) (by rw [l3, B3]; omega)
  generalize addL h3 L x = h4 at a1 a2 a3 a4 a5 a6
  have H4 := hxL_At H3 a2
  rw [gd_pos O3.2.1, a1]
  simp only [Option.bind_some]
  rw [gd_pos (At_kd H4)]
  obtain ⟨P4, L4⟩ := PL_hxL P3 a2 (fun z => by have := hZ _ z; omega)
  have a21 := a2.1
  have s4 : ∀ a, a < hz h → a ≠ x → a ≠ L → sameA a h h4 := fun a r s u => sameA_trans (sx3 a r s) (hxL_same a2 (by omega) u)
  have sx := hxL_same a2 (a := x) (by omega) (by omega)
  have hp4 : hp Z t h0 h4 := hp_hxL (hp_hpO q3 F3 (by omega) (fun a z => .inl z)) a2 B1.1
  -- the twin's node and its link
  obtain ⟨τ1, e1, e2, e3, e4, e5⟩ := t_node H.1 (by omega) 21 ((b + jg : Nat) : Int) ((b + (jg + 1) : Nat) : Int) tw (-1) (-1)
  rw [TG54_eq, e1]
  simp only [Option.bind_some]
  have hlk : ∃ υ first', (if last ≠ (-1) then if 0 ≤ last ∧ last < 8400 then some (ua τ1 562 last.toNat (M : Int)) else none else some τ1) = some υ ∧ (if last ≠ (-1) then first else (M : Int)) = first' ∧ chain υ first' (os ++ [M]) ∧ lastOf (os ++ [M]) (M : Int) first' ∧ Tst υ N S b m i n (M + 1) ∧ (∀ f ∈ PA, f ≠ 562 → ∀ i, ga υ f i = ga τ1 f i) ∧ (∀ i, i ∉ os → ga υ 562 i = ga τ1 562 i) ∧ (∀ f ∈ DA, ∀ i, ga υ f i = ga τ1 f i) ∧ ndD σ0 υ M0 d0 := by
    have dD : ndD σ0 τ1 M0 d0 := ndD_nd q1 e4 q2
    rcases hl with ⟨p1, p2, p3⟩ | ⟨ns', l, p1, p2⟩
    · refine ⟨τ1, (M : Int), by rw [if_neg (by rw [p2]; simp)], by rw [if_neg (by rw [p2]; simp)], ?_, .inr ⟨os, M, rfl, rfl⟩, e2, fun _ _ _ _ => rfl, fun _ _ => rfl, fun _ _ _ => rfl, dD⟩
      rw [p1]
      exact chain_first e3.2.2.2.2.2.2
    · have hlM := Bi.2.2.1 l (by rw [p1]; simp)
      have u3 : fr PF PA τ1 (ua τ1 562 l (M : Int)) := fr_ua (fr_refl _ _ _) (by simp)
      refine ⟨ua τ1 562 l (M : Int), first, by rw [p2, if_pos (by omega), if_pos ⟨by omega, by omega⟩, show ((l : Int)).toNat = l by omega], by rw [if_pos (by omega)], ?_, .inr ⟨os, M, rfl, rfl⟩, ⟨TT_fr u3 e2.1, e2.2⟩, fun f hf c x => ?_, fun x hx => ?_, fun f hf x => ?_, ndD_nd dD ⟨u3, fun g _ z hz => by rw [ga_ua, if_neg (by omega)]⟩ (Nat.le_refl M0)⟩
      · rw [p1] at B5 Bp ⊢
        refine chain_more B5 Bp (fun x hx => ?_) (fun x hx => ?_) e3.2.2.2.2.2.2
        · have := Bi.2.2.1 x (by rw [p1]; exact hx); omega
        · have := Bi.2.2.1 x (by rw [p1]; exact List.mem_append_left _ hx)
          exact e4.2 562 (by simp) x (by omega)
      · rw [ga_ua, if_neg (fun z => c z.1)]
      · rw [ga_ua, if_neg (fun z => hx (by rw [p1, z.2]; simp))]
      · rw [ga_ua, if_neg (fun (z : f = 562 ∧ x = l) => PA_DA hf (by rw [z.1]; simp))]
  obtain ⟨υ, first', f1, f2, f3, f4, f5, f6, f7, f8, f9⟩ := hlk
  rw [f1]
  simp only [Option.bind_some]
  rw [f2]
  have H4' : At G A t N S b m i n (M + 1) υ h4 := ⟨f5, H4.2.1, H4.2.2⟩
  have nos : M ∉ os := fun z => by have := Bi.2.2.1 M z; omega
  have l4 : (ll h4 L).length = xs.length + 1 := by rw [a4, l3, B3]; simp
  have Q4 : DSL G t m Z pr σ0 M0 d0 h0 HZ HU L 20 300 60 i (M + 1) υ h4 := by
    refine ⟨f9, by omega, hp4, P4, by omega, ?_, by omega⟩
    rw [l4, L4, L3]
    rw [B3] at q6
    rw [c3] at a6
    omega
  have B4' : GB G A S b (hz h0) Mb am d L pr Lf dv Φ pl (M + 1) (hz h4) υ h4 first' (os ++ [M]) (xs ++ [x]) := by
    have hkg : hk am ag h h4 := fun a d e => by obtain ⟨s1, s2, s3, s4', s5, s6, s7⟩ := s4 a (by omega) (by omega) (by omega); exact ⟨s1, s2, s3, s6, s7⟩
    have tkM : ga υ 542 M = ((b + jg : Nat) : Int) := by rw [f6 542 (by simp) (by decide)]; exact e3.2.1
    have tko : ∀ o ∈ os, ga υ 542 o = ga σ 542 o := fun o ho => by rw [f6 542 (by simp) (by decide), e4.2 542 (by simp) o (by have := Bi.2.2.1 o ho; omega)]
    refine ⟨⟨by omega, by omega, by omega, by omega, by omega, fun o ho => ?_⟩, a3, by rw [a4, l3, B3], ?_, f3, fun y hy => ?_, fun f hf => by rw [f8 f hf, e4.1.2 f (PA_DA hf)]; exact B7 f hf, fun f hf => ?_, hΦ h h4 (fun a q r u => s4 a (by omega) (by omega) u) B9⟩
    · rw [f5.2.1]
      rcases List.mem_append.mp ho with ho | ho
      · rw [tko o ho]; have := hgo o ho; omega
      · rw [List.mem_singleton.mp ho, tkM]; omega
    · refine grows_app (a2 := hz h4) (mid := Mg) (amid := ag) (j := jg) ⟨by rw [f6 538 (by simp) (by decide)]; exact e3.1, tkM, h1'.2.2.2, by rw [f6 546 (by simp) (by decide)]; exact e3.2.2.1, h2'.2.2.2, fun y d e => by rw [tkM, f6 542 (by simp) (by decide), e4.2 542 (by simp) y e]; exact hgl y d e⟩ ⟨by rw [sx.1, k3]; exact hx'.1, hx'.2.1, by omega⟩ ?_ ?_ ?_ (Nat.le_refl _) (grows_keep B4 hkg (fun f hf c y d e => ?_) (fun y d e c => ?_)) (fun o ho => by rw [tko o ho, tkM]; exact hgo o ho)
      · rw [sx.2.2.1, R3.1]
        exact ⟨h1'.1, by omega, wd_same h1'.2.2.1 (s4 _ h1'.2.1 (fun z => by have := h1'.2.2.1.1; rw [z] at this; omega) (by omega))⟩
      · rw [sx.2.2.1, R3.2.1]
        exact ⟨h2'.1, by omega, wd_same h2'.2.2.1 (s4 _ h2'.2.1 (fun z => by have := h2'.2.2.1.1; rw [z] at this; omega) (by omega))⟩
      · rw [sx.2.2.1, R3.2.2.1, f6 550 (by simp) (by decide)]
        rcases hw with ⟨g1, g2, g3⟩ | ⟨kk, p, b1, b3, g1, g2, g3, g4, g5, g6⟩
        · exact .inl ⟨g1, by rw [← g2]; exact e3.2.2.2.1, g3.symm⟩
        · have gi := WR_in g6
          refine .inr ⟨kk, p, b1, b3, g1, by rw [← g2]; exact e3.2.2.2.1, g3, by omega, WR_keep g6 (fun a d e => by obtain ⟨s1, s2, s3, s4', s5, s6, s7⟩ := s4 a (by omega) (by omega) (by omega); exact ⟨s1, s2, s3, s6, s7⟩) ⟨fun f hf c y d e => ?_, fun y d e _ => ?_⟩⟩
          · rw [f6 f hf c, e4.2 f hf y e]
          · rw [f7 y (fun z => by have := Bi.2.2.1 y z; omega), e4.2 562 (by simp) y e]
      · rw [f6 f hf c, e4.2 f hf y (by omega)]
      · rw [f7 y c, e4.2 562 (by simp) y (by omega)]
    · rcases List.mem_append.mp hy with hy | hy
      · have := Bi.2.2.2.1 y hy
        have sy := s4 y (by omega) (by omega) (by omega)
        rw [sy.2.2.1, sy.2.2.1, sy.2.2.1, sy.2.2.1]; exact B6 y hy
      · have e : y = x := by simpa using hy
        rw [e, sx.2.2.1, sx.2.2.1, sx.2.2.1, sx.2.2.1, R3.2.2.2 1350 (by decide) (by decide) (by decide), R3.2.2.2 1354 (by decide) (by decide) (by decide), R3.2.2.2 1358 (by decide) (by decide) (by decide), R3.2.2.1]
        exact ⟨hx'.2.2.2.1, hx'.2.2.2.2.1, hx'.2.2.2.2.2, hpl⟩
    · have az := (q4.2.1 f hf).1.1
      have zz := hZ _ (q4.2.1 f hf).2
      rw [(s4 pr (by omega) (by omega) (by omega)).2.2.1, (s4 (fR h f pr) az (by omega) (by omega)).2.2.2.2.2.1]
      exact B8 f hf
  -- a comma
  obtain ⟨ta1, ta2⟩ := t_takes f5 (k := 44) (by decide)
  obtain ⟨ca1, ca2⟩ := c_passes2 hG H4.2.1 (v := 44) (by omega)
  rw [show sc 44 = 44 by decide] at ca1 ca2
  by_cases c44 : tokk S i = 44
  · obtain ⟨υ2, u1, u2, u3⟩ := ta1 c44
    obtain ⟨h5, v1, v2, v3⟩ := ca1 c44
    rw [u1, v1]
    simp only [Option.bind_some]
    rw [if_pos (by decide)]
    have z5 : hz h5 = hz h4 := v3.2.2.2.2.2.2.2.2.1
    have y5 : hu h5 = hu h4 := v3.2.2.2.2.2.2.2.2.2.1
    have H5 := At_onlyT H4' v3 v2 u2
    have hi5 := At_i H5
    have X5 := hx_onlyT v3
    obtain ⟨P5, L5⟩ := PL_hx P4 X5
    obtain ⟨p1, p2, p3, p4, p5, p6, p7⟩ := Q4
    refine go (M + 1) υ2 h5 first' (M : Int) (os ++ [M]) (xs ++ [x]) H5 ⟨ndD_nd p1 u3 p2, p2, hp_trans p3 (hx_hp X5), P5, by omega, ?_, by omega⟩ (by rw [z5]; exact GB_hx ht hΦ P4 B4' X5 u3 (by rw [f5.2.1, u2.2.1]; omega)) f4 (by rw [List.length_append]; simp; omega)
    rw [L5, v3.2.2.2.2.2.2.1, v3.2.2.2.2.2.2.2.1]
    omega
  · rw [ta2 c44, ca2 c44]
    simp only [Option.bind_some]
    rw [if_neg (by decide), TGF_end]
    exact ge (M + 1) υ h4 first' (os ++ [M]) (xs ++ [x]) H4' Q4 B4'
end LG3
