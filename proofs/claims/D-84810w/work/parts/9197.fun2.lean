set_option maxRecDepth 100000
section LF2
variable {G : om_G} {A t : Nat} {N : List (List Int)} {S : List Int} {b m i : Nat} {M : Nat} {σ τ : tS} {h h' h1 h2 : om_H} {c pr : Nat} {Z Z' : Nat → Prop}
variable {σ0 : tS} {M0 d0 : Nat} {h0 : om_H} {HZ HU : Nat}
set_option maxHeartbeats 1000000 in
/-- a function's givens, type and ex -/
theorem fun_114 (hG : om_okG G) (hN : ∃ N', N = [110, 105, 108] :: [99, 111, 110, 115] :: N') {am d f w s Ls Lg j0 j1 : Nat} {nb : Int} {ws : List Nat} {Lf Lf0 : Nat → List Nat} {dv : Nat → Int} (ht : t < hz h0) (hpr : pr < hz h0) (hZ : ∀ a, Z a → a < hz h0) (hd : d < 700 ∧ d0 ≤ d) (hib : j0 < i)
    (r1 : hz h0 ≤ f ∧ f < am ∧ f ≠ Lg) (r2 : hz h0 ≤ s ∧ s < am ∧ s ≠ Lg) (r3 : hz h0 ≤ Ls ∧ Ls < am ∧ Ls ≠ Lg) (r4 : hz h0 ≤ w ∧ w < am ∧ w ≠ Lg) (r5 : f ≠ s ∧ f ≠ Ls ∧ f ≠ w) (r6 : hz h0 ≤ Lg ∧ Lg < am ∧ am ≤ hz h)
    (H : At G A t N S b m i 0 M σ h) (Q : DS G t m Z pr σ0 M0 d0 h0 HZ HU 20 340 60 i M σ h) (O : okV G h Lg) (Oe : ll h Lg = []) (W : fΦ G A S (hz h0) am f w s Ls Lg 0 0 j0 j1 nb ws h) (hdv' : ∀ g ∈ DA, ga σ g d = dv g) (C : PC h pr Lf) (hk0 : tokk S j0 = 2) (hdv : dv 570 = 2 ∧ dv 574 = ((b + j0 : Nat) : Int) ∧ dv 578 = ((b + j0 : Nat) : Int) ∧ ((ws = [] ∧ dv 594 = -1) ∨ dv 594 = ((b + j1 : Nat) : Int)) ∧ dv 598 = (ws.length : Int) ∧ dv 606 = -1) (hLf : Lf = updL (updL (updL (updL Lf0 90 f) 98 w) 106 f) 110 0) (hnb : nb = ((Lf0 90).length : Int)) {v4 v8 : Int} (hv : dv 594 = v4 ∧ dv 598 = v8) :
    RD G A t N S b m 0 Z pr σ0 M0 d0 h0 HZ HU (fun τ : tS => τ) (fun j M' τ h' _ => (ga τ 594 d = v4 ∧ ga τ 598 d = v8) ∧ funPost G A t S b m Z pr σ0 M0 d0 h0 HZ HU M d j0 Lf0 j M' τ h') (T_aFunction_75 (d : Int) σ) (C_1_readFunction_114 G t f h) := by
  have d7 : (0 : Int) ≤ (d : Int) ∧ (d : Int) < 700 := by omega
  have dN : ((d : Int)).toNat = d := by omega
  have htz := At_t H
  have hi := At_i H
  have q22 := Q.2.1
  have q27 := Q.2.2.2.2.2.2
  have kLg : kd h Lg = 42 := O.2.1
  have OL := O.1
  unfold T_aFunction_75 C_1_readFunction_114
  simp only [if_pos d7, dN]
  rw [gd_pos (At_kd H)]
  -- what is kept: with the list of givens being one
  have hΦ : ∀ h h' : om_H, (∀ a, hz h0 ≤ a → a < am → a ≠ Lg → sameA a h h') → (fun g => fΦ G A S (hz h0) am f w s Ls Lg 0 0 j0 j1 nb ws g ∧ Lg ∉ ws) h → (fun g => fΦ G A S (hz h0) am f w s Ls Lg 0 0 j0 j1 nb ws g ∧ Lg ∉ ws) h' := by
    intro h h' sm W
    refine ⟨?_, W.2⟩
    have sL := sm Ls r3.1 r3.2.1 r3.2.2
    have key : ∀ {j : Nat} {us : List Nat}, (∀ u ∈ us, u ≠ Lg) → wrow A S h (hz h0) am j us → wrow A S h' (hz h0) am j us := by
      intro j us
      induction us generalizing j with
      | nil => intro _ r; exact r
      | cons u us ih =>
        intro hu r
        exact ⟨r.1, r.2.1, wd_same r.2.2.1 (sm u r.1 r.2.1 (hu u List.mem_cons_self)), r.2.2.2.1, ih (fun v hv => hu v (List.mem_cons_of_mem _ hv)) r.2.2.2.2⟩
    exact ⟨funO_keep W.1.1 (sm f r1.1 r1.2.1 r1.2.2) (sm s r2.1 r2.2.1 r2.2.2), wd_same W.1.2.1 (sm w r4.1 r4.2.1 r4.2.2), by rw [sL.1]; exact W.1.2.2.1, by rw [sL.2.2.2.2.2.1]; exact W.1.2.2.2.1, key (fun u hu z => W.2 (z ▸ hu)) W.1.2.2.2.2⟩
  have hLw : Lg ∉ ws := fun z => by have := (wrow_mem W.2.2.2.2 Lg z).2.2; omega
  obtain ⟨ta1, ta2⟩ := t_takes H.1 (k := 123) (by decide)
  obtain ⟨ca1, ca2⟩ := c_passes2 hG H.2.1 (v := 123) (by omega)
  rw [show sc 123 = 123 by decide] at ca1 ca2
  by_cases c123 : tokk S i = 123
  · obtain ⟨τ1, u1, u2, u3⟩ := ta1 c123
    obtain ⟨h1, v1, v2, v3⟩ := ca1 c123
    rw [u1, v1]
    simp only [Option.bind_some]
    rw [if_neg (by decide), if_neg (by decide)]
    have H1 := At_onlyT H v3 v2 u2
    have hi1 := At_i H1
    have z1 : hz h1 = hz h := v3.2.2.2.2.2.2.2.2.1
    have y1 : hu h1 = hu h := v3.2.2.2.2.2.2.2.2.2.1
    have X1 := hx_onlyT v3
    have s1 : ∀ a, a < hz h → a ≠ t → sameA a h h1 := fun a q r => hx_same X1 q r
    have P0 := Q.2.2.2.1
    have Φ1 := hΦ h h1 (fun a q r _ => s1 a (by omega) (by omega)) ⟨W, hLw⟩
    have O1 := okV_hx O X1
    have Oe1 : ll h1 Lg = [] := by rw [(s1 Lg (by omega) (by omega)).2.2.2.2.2.1]; exact Oe
    have eT : (T_conditions 1 τ1).bind (fun p2 => T_aFunction_95 (d : Int) (ua p2.2 606 d p2.1)) = TGF 1 (fun p2 => T_aFunction_95 (d : Int) (ua p2.2 606 d p2.1)) (-1, -1, 1, τ1) := by
      unfold T_conditions TGF
      simp only [Option.bind_assoc, Option.bind_some]
    have eC : (om_loop (C_1_readFunction_123s G t f) h1).bind (Sum.elim (fun v2 => gd (kd v2 t = 15) (xc (C_14_need_2 G t 125 v2) (fun t h => some (.inl t, h)) (fun p3 h3 => C_1_readFunction_193 G t f h3))) (fun v3 => some v3)) = CGf G t f h1 := rfl
    rw [eT, eC]
    obtain ⟨p1, p2, p3, p4, p5, p6, p7⟩ := Q
    obtain ⟨P1, L1⟩ := PL_hx p4 X1
    refine fun_givens (f := f) (s := s) (L := Lg) (am := am) (Mb := M) (d := d) (ib := i) (Lf := Lf) (dv := dv) (Φ := fun g => fΦ G A S (hz h0) am f w s Ls Lg 0 0 j0 j1 nb ws g ∧ Lg ∉ ws) hG (by omega) ht hpr hZ p2 hΦ (fun g W => ⟨W.1.1.1.1, W.1.1.1.2.2.2.1, W.1.1.2.2.1, W.1.1.2.2.2.2⟩) (fun p x τ M' T D q q' => aFunction_95F (Tfl_ua T (by simp)) (ndD_ua D (by simp) hd.2) q (by omega) (by omega) hd.1 hd.2) ?_ (m - (i + 1) + 1) (i + 1) M τ1 h1 (-1) (-1) [] [] (by omega) (by omega) H1 ⟨ndD_nd p1 u3 p2, p2, hp_trans p3 (hx_hp X1), P1, by omega, by rw [Oe1, L1]; simp only [List.length_nil]; omega, by omega⟩ ⟨⟨by omega, by omega, by omega, by omega, by omega, fun o ho => absurd ho List.not_mem_nil⟩, O1, Oe1, ⟨rfl, by omega⟩, rfl, fun x hx => absurd hx List.not_mem_nil, fun g hg => by rw [u3.1.2 g (PA_DA hg)]; exact hdv' g hg, fun g hg => by rw [(s1 pr P0.1.2.1 P0.1.2.2).2.2.1, X1.2.2.2.2.2.2.2.2.1 _ (P0.2.1 g hg).1.1]; exact C g hg, Φ1⟩ (.inl ⟨rfl, rfl, rfl⟩) (by simp)
    intro i5 M5 σ5 h5 first os xs hib5 H5 Q5 B5
    have Q5' := DSL_DS B5.2.1 Q5
    unfold exFn
    refine RD_gd (At_kd H5) (RD_need hG H5 Q5' (by omega) (.inr (.inr (by omega))) (by decide) (by decide) (fun c125 τ6 h6 H6 D6 X6 => ?_) (fun p τ T D => aFunction_95F (Tfl_ua T (by simp)) (ndD_ua D (by simp) hd.2) (by have := Q5.2.1; omega) (by have := Q5.2.2.2.2.2.2; omega) (by omega) hd.1 hd.2))
    have hi6 := At_i H6
    have z6 : hz h6 = hz h5 := X6.2.2.2.2.2.2.2.2.1
    have y6 : hu h6 = hu h5 := X6.2.2.2.2.2.2.2.2.2.1
    have X6x := hx_onlyT X6
    have B6 := GB_hx ht hΦ Q5.2.2.2.1 B5 X6x D6 (by rw [H5.1.2.1, H6.1.2.1]; omega)
    have Q6 : DS G t m Z pr σ0 M0 d0 h0 HZ HU 20 300 60 (i5 + 1) M5 (ua τ6 606 d first) h6 := DS_ua (DS_step Q5' D6 X6x (Nat.le_refl _) (by omega) (by omega) (by omega)) (by simp) hd.2
    obtain ⟨b1, b2, b3, b4, b5, b6, b7, b8, b9⟩ := B6
    have Ng : ∀ f' ∈ PA, ∀ x, ga (ua τ6 606 d first) f' x = ga τ6 f' x := fun f' hf x => by rw [ga_ua, if_neg (fun (z : f' = 606 ∧ x = d) => PA_DA (f := 606) (by simp) (z.1 ▸ hf))]
    refine fun_193 (dv := fun g => if g = 606 then first else dv g) (Lf := Lf) (Lf0 := Lf0) hG hN ht hpr hZ hd p2 (by omega) r1 r2 r3 r4 r5 (At_ua H6 (by simp)) Q6 ⟨⟨b1.1, b1.2.1, b1.2.2.1, b1.2.2.2.1, b1.2.2.2.2.1, fun o ho => by rw [Ng 542 (by simp) o]; exact b1.2.2.2.2.2 o ho⟩, b2, b3, grows_keep b4 (hk_refl _) (fun f' hf _ x _ _ => Ng f' hf x) (fun x _ _ _ => Ng 562 (by simp) x), chain_keep b5 (fun x _ => Ng 562 (by simp) x), b6, fun g hg => ?_, b8, b9.1⟩ hk0 ⟨by simp; exact hdv.1, by simp; exact hdv.2.1, by simp; exact hdv.2.2.1, by simp; exact hdv.2.2.2.1, by simp; exact hdv.2.2.2.2.1, by simp⟩ hLf hnb ⟨by simp; exact hv.1, by simp; exact hv.2⟩
    show ga (ua τ6 606 d first) g d = if g = 606 then first else dv g
    rw [ga_ua]
    by_cases c6 : g = 606
    · rw [if_pos ⟨c6, rfl⟩, if_pos c6]
    · rw [if_neg (fun z => c6 z.1), if_neg c6]; exact b7 g hg
  · rw [ta2 c123, ca2 c123]
    simp only [Option.bind_some]
    rw [if_pos trivial, if_pos trivial]
    exact fun_193 (dv := dv) (first := -1) (os := []) (xs := []) (ag := am) (Lf := Lf) (Lf0 := Lf0) hG hN ht hpr hZ hd Q.2.1 hib r1 r2 r3 r4 r5 H (DS_step Q (nd_refl _ _) (hx_refl _ _) (Nat.le_refl _) (by omega) (by omega) (by omega)) ⟨⟨by omega, by omega, by omega, by omega, by omega, fun o ho => absurd ho List.not_mem_nil⟩, O, Oe, ⟨rfl, Nat.le_refl _⟩, rfl, fun x hx => absurd hx List.not_mem_nil, hdv', C, W⟩ hk0 hdv hLf hnb hv
theorem RD_and {ρ β : Type} {n : Int} {st : ρ → tS} {P : Nat → Nat → ρ → om_H → β → Prop} {V : Nat → ρ → Prop} {X : Option ρ} {Y : Option ((Nat ⊕ β) × om_H)} (R : RD G A t N S b m n Z pr σ0 M0 d0 h0 HZ HU st P X Y) (U : ∀ j M' r h' w, X = some r → At G A t N S b m j n M' (st r) h' → P j M' r h' w → V M' r) : RD G A t N S b m n Z pr σ0 M0 d0 h0 HZ HU st (fun j M' r h' w => V M' r ∧ P j M' r h' w) X Y := by
  rcases R with ⟨j, M', r, h', w, q1, q2, q3, q4⟩ | R
  · exact .inl ⟨j, M', r, h', w, q1, q2, q3, U j M' r h' w q1 q3 q4, q4⟩
  · exact .inr R
theorem RD_imp {ρ β : Type} {n : Int} {st : ρ → tS} {P P' : Nat → Nat → ρ → om_H → β → Prop} {X : Option ρ} {Y : Option ((Nat ⊕ β) × om_H)} (R : RD G A t N S b m n Z pr σ0 M0 d0 h0 HZ HU st P X Y) (U : ∀ j M' r h' w, P j M' r h' w → P' j M' r h' w) : RD G A t N S b m n Z pr σ0 M0 d0 h0 HZ HU st P' X Y := by
  rcases R with ⟨j, M', r, h', w, q1, q2, q3, q4⟩ | R
  · exact .inl ⟨j, M', r, h', w, q1, q2, q3, U j M' r h' w q4⟩
  · exact .inr R
/-- with where its nodes stand -/
theorem fun_fv {d : Nat} {v4 v8 : Int} {P : Nat → Nat → tS → om_H → Unit → Prop} {Y : Option ((Nat ⊕ Unit) × om_H)} (H : At G A t N S b m i 0 M σ h) (hiw : v4 + v8 ≤ ((b + i : Nat) : Int)) (R : RD G A t N S b m 0 Z pr σ0 M0 d0 h0 HZ HU (fun τ : tS => τ) (fun j M' τ h' w => (ga τ 594 d = v4 ∧ ga τ 598 d = v8) ∧ P j M' τ h' w) (T_aFunction_75 (d : Int) σ) Y) : RD G A t N S b m 0 Z pr σ0 M0 d0 h0 HZ HU (fun τ : tS => τ) (fun j M' τ h' w => fvR M M' d τ ∧ P j M' τ h' w) (T_aFunction_75 (d : Int) σ) Y := by
  refine RD_imp (RD_and (V := fun M' τ => fvR M M' d τ) R (fun j M' τ h' w e K p => ?_)) (fun j M' τ h' w q => ⟨q.1, q.2.2⟩)
  have iv := (w_fun75 (q := ((b + i : Nat) : Int)) (M := M) (dd := 700) e (Iv_begin H.1.2.1 H.1.2.2.2.2.2)).1
  have e5 : gs τ 564 = (M' : Int) := K.1.2.2.2.2.2
  intro y c1 c2
  have f := iv.2.2 y c1 (by rw [e5]; omega)
  rw [p.1.1, p.1.2]
  exact ⟨by omega, fun z => by have := f.2 z; omega⟩
end LF2
