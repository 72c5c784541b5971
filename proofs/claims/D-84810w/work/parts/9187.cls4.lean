set_option maxRecDepth 100000
section LK4
variable {G : om_G} {A t : Nat} {N : List (List Int)} {S : List Int} {b m i : Nat} {n : Int} {M : Nat} {σ τ : tS} {h h' h1 h2 : om_H} {c pr : Nat} {Z Z' : Nat → Prop}
variable {σ0 : tS} {M0 d0 : Nat} {h0 : om_H} {HZ HU : Nat}
/-- what the program's lists hold when so many methods are read -/
def mL (Lf : Nat → List Nat) (h : om_H) (ms : List Nat) (f : Nat) : List Nat := if f = 98 then Lf 98 ++ ms.map (fun x => fR h 1242 x) else if f = 106 then Lf 106 ++ ms.map (fun _ => 0) else if f = 110 then Lf 110 ++ ms else Lf f
def MB (G : om_G) (A : Nat) (S : List Int) (b : Nat) (z0 Mb am c d Lm pr : Nat) (Lf : Nat → List Nat) (dv : Nat → Int) (Φ : om_H → Prop) (M : Nat) (σ : tS) (h : om_H) (ms ns : List Nat) : Prop :=
  (z0 ≤ c ∧ c < am ∧ z0 ≤ Lm ∧ Lm < am ∧ c ≠ Lm ∧ am ≤ hz h ∧ Mb ≤ M) ∧ (kd h c = 18 ∧ fR h 1230 c = Lm) ∧ okV G h Lm ∧ ll h Lm = ms ∧ mrows A S b h σ c 0 ms ns Mb M am (hz h) ∧ chain σ (ga σ 602 d) ns ∧ (∀ x ∈ ms, fI h 1259 x = 0 ∧ fR h 1262 x = 0) ∧ (∀ f ∈ PFs, ll h (fR h f pr) = mL Lf h ms f) ∧ (∀ f ∈ DA, f ≠ 602 → ga σ f d = dv f) ∧ Φ h
/-- the twin's link, behind a fault -/
theorem link_dF {p : Int} {last x f : Int} {ns : List Nat} {d : Nat} (hl : lastOf ns last f) (hin : ∀ y ∈ ns, M0 ≤ y ∧ y < 8400) (hd : d < 700 ∧ d0 ≤ d) (H : Tfl τ N S b m p n M) (D : ndD σ0 τ M0 d0) {F : Nat} (hF : F ∈ DA) : ∃ υ, (if last ≠ (-1) then if 0 ≤ last ∧ last < 8400 then some (ua τ 562 last.toNat x) else none else if 0 ≤ (d : Int) ∧ (d : Int) < 700 then some (ua τ F ((d : Int)).toNat x) else none) = some υ ∧ Tfl υ N S b m p n M ∧ ndD σ0 υ M0 d0 := by
  rcases hl with ⟨p1, p2, p3⟩ | ⟨ns', l, p1, p2⟩
  · exact ⟨ua τ F d x, by rw [if_neg (by rw [p2]; simp), if_pos ⟨by omega, by omega⟩, show ((d : Int)).toNat = d by omega], Tfl_ua H hF, ndD_ua D hF hd.2⟩
  · have hl := hin l (by rw [p1]; simp)
    have u3 : fr PF PA τ (ua τ 562 l x) := fr_ua (fr_refl _ _ _) (by simp)
    have D1 : nd τ (ua τ 562 l x) M0 := ⟨u3, fun g _ z hz => by rw [ga_ua, if_neg (by omega)]⟩
    exact ⟨ua τ 562 l x, by rw [p2, if_pos (by omega), if_pos ⟨by omega, by omega⟩, show ((l : Int)).toNat = l by omega], ⟨TT_fr u3 H.1, H.2⟩, ndD_nd D D1 (Nat.le_refl _)⟩
theorem mL_snoc {Lf : Nat → List Nat} {ms : List Nat} {x f : Nat} (h1 : ∀ y ∈ ms, fR h' 1242 y = fR h 1242 y) (hf : f ∈ PFs) : (if f = 98 then mL Lf h ms 98 ++ [fR h' 1242 x] else if f = 106 then mL Lf h ms 106 ++ [0] else if f = 110 then mL Lf h ms 110 ++ [x] else mL Lf h ms f) = mL Lf h' (ms ++ [x]) f := by
  unfold mL
  have e : (ms.map fun x => fR h' 1242 x) = ms.map fun x => fR h 1242 x := List.map_congr_left (fun y hy => h1 y hy)
  by_cases f98 : f = 98
  · subst f98; simp [e]
  · by_cases f106 : f = 106
    · subst f106; simp
    · by_cases f110 : f = 110
      · subst f110; simp
      · simp [f98, f106, f110]
theorem MB_only {z0 Mb am d Lm : Nat} {Lf : Nat → List Nat} {dv : Nat → Int} {Φ : om_H → Prop} {ms ns : List Nat} (ht : t < z0) (hΦ : ∀ h h', (∀ a, z0 ≤ a → a < am → a ≠ Lm → sameA a h h') → Φ h → Φ h') (P : PL G h pr t Z) (B : MB G A S b z0 Mb am c d Lm pr Lf dv Φ M σ h ms ns) (X : onlyT t h h') (D : nd σ τ M) : MB G A S b z0 Mb am c d Lm pr Lf dv Φ M τ h' ms ns := by
  obtain ⟨B1, B2, B3, B4, B5, B6, B7, B8, B9, B10⟩ := B
  have X1 := hx_onlyT X
  have z2 : hz h' = hz h := X.2.2.2.2.2.2.2.2.1
  have s : ∀ a, a < hz h → a ≠ t → sameA a h h' := fun a q r => hx_same X1 q r
  have Bi := mrows_in B5
  have sc := s c (by omega) (by omega)
  have sp := s pr P.1.2.1 P.1.2.2
  refine ⟨by omega, by rw [sc.1, sc.2.2.1]; exact B2, okV_hx B3 X1, by rw [(s Lm (by omega) (by omega)).2.2.2.2.2.1]; exact B4, ?_, ?_, fun x hx => ?_, fun f hf => ?_, fun f hf c => ?_, hΦ h h' (fun a q r _ => s a (by omega) (by omega)) B10⟩
  · rw [z2]
    exact mrows_keep B5 (hx_hk X1 (Nat.le_refl _) (by omega)) (fun f hf _ x _ e => D.2 f hf x e) (fun x _ e _ => D.2 562 (by simp) x e)
  · rw [D.1.2 602 (PA_DA (by simp))]
    exact chain_keep B6 (fun x hx => D.2 562 (by simp) x (Bi.2.2.1 x hx).2)
  · have := Bi.2.2.2.1 x hx
    have sx := s x (by omega) (by omega)
    rw [sx.2.1, sx.2.2.1]; exact B7 x hx
  · rw [sp.2.2.1, X1.2.2.2.2.2.2.2.2.1 _ (P.2.1 f hf).1.1, B8 f hf]
    unfold mL
    have e : (ms.map fun x => fR h' 1242 x) = ms.map fun x => fR h 1242 x := List.map_congr_left (fun y hy => (s y (by have := Bi.2.2.2.1 y hy; omega) (by have := Bi.2.2.2.1 y hy; omega)).2.2.1 _)
    rw [e]
  · rw [D.1.2 f (PA_DA hf)]; exact B9 f hf c
set_option maxHeartbeats 4000000 in
/-- the methods of a class -/
theorem cls_loop (hG : om_okG G) (hn : 0 ≤ n ∧ n ≤ 20) {Mb am d Lm ib : Nat} {Lf : Nat → List Nat} {dv : Nat → Int} {Φ : om_H → Prop} (ht : t < hz h0) (hpr : pr < hz h0) (hZ : ∀ a, Z a → a < hz h0) (hd : d < 700 ∧ d0 ≤ d) (hMb : M0 ≤ Mb) (hΦ : ∀ h h', (∀ a, hz h0 ≤ a → a < am → a ≠ Lm → sameA a h h') → Φ h → Φ h') :
    ∀ (dd i M : Nat) (σ : tS) (h : om_H) (last : Int) (ms ns : List Nat), m - i < dd → ib ≤ i → At G A t N S b m i n M σ h → DSL G t m Z pr σ0 M0 d0 h0 HZ HU Lm 20 300 60 i M σ h → MB G A S b (hz h0) Mb am c d Lm pr Lf dv Φ M σ h ms ns → lastOf ns last (ga σ 602 d) → (∀ f ∈ PFs, (ll h (fR h f pr)).length ≤ i) →
    RD G A t N S b m n Z pr σ0 M0 d0 h0 HZ HU (fun τ : tS => τ) (fun j M' τ h' _ => ib ≤ j ∧ DSL G t m Z pr σ0 M0 d0 h0 HZ HU Lm 20 300 60 j M' τ h' ∧ (∃ ms ns, MB G A S b (hz h0) Mb am c d Lm pr Lf dv Φ M' τ h' ms ns) ∧ ∀ f ∈ PFs, (ll h' (fR h' f pr)).length ≤ j) (TCl (d : Int) (last, σ)) (CCl G pr t c h) := by
  intro dd
  induction dd with
  | zero =>
    intro i M σ h last ms ns hd'
    exact absurd hd' (Nat.not_lt_zero _)
  | succ dd ih =>
    intro i M σ h last ms ns hd' hib H Q B hl hln
    have hi := At_i H
    have O := B.2.2.1
    have Q0 := DSL_DS O Q
    by_cases c2 : tokk S i = 2
    · rw [TCl_in H.1 c2, CCl_in hG H.2.1 c2]
      obtain ⟨B1, B2, B3, B4, B5, B6, B7, B8, B9, B10⟩ := B
      have Bi := mrows_in B5
      have Bp := mrows_pw B5
      obtain ⟨h1, v1, v2, v3, v4, v5, v6, v7⟩ := (c_need hG H.2.1 (e := 2) (by omega)).1 c2
      rw [v1, xc_v]
      rw [H.2.2] at v4 v7
      obtain ⟨T1, D1⟩ := Tst_at H.1 (by omega)
      have H1 : At G A t N S b m (i + 1) n M (us σ 432 ((b + (i + 1) : Nat) : Int)) h1 := ⟨T1, v2, v7⟩
      have hi1 := At_i H1
      have Q1 : DS G t m Z pr σ0 M0 d0 h0 HZ HU 39 597 62 (i + 1) M (us σ 432 ((b + (i + 1) : Nat) : Int)) h1 := DS_step Q0 D1 v3 (Nat.le_refl _) (by omega) (by omega) (by omega)
      have s7 := Q0.2.2.2.2.2.2
      have s2 := Q0.2.1
      have lkF : ∀ (p : Int) (x : Int) (τ : tS) (M' : Nat), Tfl τ N S b m p n M' → ndD σ0 τ M0 d0 → TFv N S b m n σ0 M0 d0 p ((if last ≠ (-1) then if 0 ≤ last ∧ last < 8400 then some (ua τ 562 last.toNat x) else none else if 0 ≤ (d : Int) ∧ (d : Int) < 700 then some (ua τ 602 ((d : Int)).toNat x) else none).bind fun s => TCl (d : Int) (x, s)) := by
        intro p x τ M' T D
        obtain ⟨υ, u1, u2, u3⟩ := link_dF (F := 602) (x := x) hl (fun y hy => by have := Bi.2.2.1 y hy; omega) hd T D (by simp)
        rw [u1]
        exact TCl_F u2 u3 _ _
      refine RD_gd (At_kd H1) (RD_need hG H1 Q1 (by omega) (.inr (.inr (by omega))) (by decide) (by decide) (fun q2 τ2 h2 H2 D2 X2 => ?_) (fun p τ T D => Fd_rec (typeF30 hn) T D s2 (by omega) (fun x τ M1 T D q q' => Fd_node T D (by omega) (by omega) (fun τ T D => Fd_need T (lkF p _ τ _ T D)))))
      have z2 : hz h2 = hz h1 := X2.2.2.2.2.2.2.2.2.1
      have y2 : hu h2 = hu h1 := X2.2.2.2.2.2.2.2.2.2.1
      have hi2 := At_i H2
      have H2n := At_nO H2 19 6
      have X2n := hx_trans (hx_onlyT X2) (hx_nO (t := t) h2 19 6)
      have zn : hz (nO h2 19 6) = hz h2 + 1 := rfl
      have yn : hu (nO h2 19 6) = hu h2 + 6 := rfl
      have Q2 : DS G t m Z pr σ0 M0 d0 h0 HZ HU 58 891 64 (i + 1 + 1) M τ2 (nO h2 19 6) := DS_step Q1 D2 X2n (Nat.le_refl _) (by omega) (by omega) (by omega)
      have kx : kd (nO h2 19 6) (hz h2) = 19 := by rw [kd_nO, if_pos rfl]
      have xI : ∀ f, fI (nO h2 19 6) f (hz h2) = 0 := fun f => by rw [fI_nO, if_pos rfl]
      have xR : ∀ f, fR (nO h2 19 6) f (hz h2) = 0 := fun f => by rw [fR_nO, if_pos rfl]
      have Xn : hx t h (nO h2 19 6) := hx_trans v3 X2n
      have wn : wd (nO h2 19 6) A S (hz h) i := by
        have a1 := hx_same X2n (a := hz h) (by omega) (by have := At_t H; omega)
        exact ⟨by rw [a1.1]; exact v4.1, by rw [a1.2.2.1]; exact v4.2.1, by rw [a1.2.1]; exact v4.2.2.1, by rw [a1.2.1]; exact v4.2.2.2⟩
      generalize nO h2 19 6 = g2 at *
      refine RD_bind Q2 (by omega) (type_RO hG hn H2n (by omega)) (fun j M' τ3 h3 v w j1 H3 D3 X3 m3 P3 => ?_) (fun p v τ M' T D q q' => Fd_node T D (by omega) (by omega) (fun τ T D => Fd_need T (lkF p _ τ _ T D)))
      obtain ⟨nT, k, rfl, g2', W3, g3, g4, g5, g6, g7⟩ := P3
      have hj := At_i H3
      have Wi := WR_in W3
      have htz := At_t H
      -- the method
      have X3' : hx t h h3 := hx_trans Xn X3
      have s3 : ∀ a, a < hz h → a ≠ t → sameA a h h3 := fun a q r => hx_same X3' q r
      obtain ⟨P3, L3⟩ := PL_hx Q.2.2.2.1 X3'
      have O3 := okV_hx O X3'
      have hLm3 : ll h3 Lm = ll h Lm := (s3 Lm (by omega) (by omega)).2.2.2.2.2.1
      have hLc3 : lc h3 Lm = lc h Lm := (s3 Lm (by omega) (by omega)).2.2.2.2.2.2
      have sx := hx_same X3 (a := hz h2) (by omega) (by omega)
      have sw := hx_same X3 (a := hz h) (by omega) (by omega)
      have w3 : wd h3 A S (hz h) i := ⟨by rw [sw.1]; exact wn.1, by rw [sw.2.2.1]; exact wn.2.1, by rw [sw.2.1]; exact wn.2.2.1, by rw [sw.2.1]; exact wn.2.2.2⟩
      have sc3 := s3 c (by omega) (by omega)
      have pf3 : ∀ f, fR h3 f pr = fR h f pr := fun f => (s3 pr (by omega) Q.2.2.2.1.1.2.2).2.2.1 f
      have pl3 : ∀ f ∈ PFs, ll h3 (fR h f pr) = ll h (fR h f pr) := fun f hf => X3'.2.2.2.2.2.2.2.2.1 _ (Q.2.2.2.1.2.1 f hf).1.1
      have hm4 := H.1.1.2.1
      obtain ⟨h9, k1, k2, k3, k4, k5, k6, k7, k8, k9, k10⟩ := meth_add (c := c) (x := hz h2) (w := hz h) (wr := w) (Lm := Lm) P3 O3 (fun z => by have := hZ _ z; omega) ⟨by rw [sc3.1]; exact B2.1, by rw [sc3.2.2.1]; exact B2.2, by omega, by omega⟩ ⟨by rw [sx.1]; exact kx, by omega, by omega⟩ (.inl ⟨by omega, by rw [w3.1]; omega, by rw [w3.1]; omega⟩) (fun f hf => by rw [pf3, pl3 f hf]; have := hln f hf; omega) (by rw [hLm3, B4, Bi.2.2.2.2]; have : ns.length ≤ i := by { rw [← Bi.2.2.2.2]; have := hln 110 (by simp); rw [B8 110 (by simp)] at this; unfold mL at this; rw [if_neg (by decide), if_neg (by decide), if_pos rfl, List.length_append] at this; omega }; omega)
      rw [gd_pos (by rw [sx.1]; exact kx), k1 (fun g => gd (kd g t = 15) (xc (C_14_need_2 G t 59 g) (fun t h => some (.inl t, h)) (fun p10 h10 => CCl G pr t c h10)))]
      have H9 := At_hp H3 k2 (by omega)
      obtain ⟨τ4, e1, e2, e3, e4, e5⟩ := t_node H3.1 (by omega) 20 ((b + i : Nat) : Int) (nT : Int) (-1) (-1) (-1)
      rw [e1]
      simp only [Option.bind_some]
      have H9' : At G A t N S b m j n (M' + 1) τ4 h9 := ⟨e2, H9.2.1, H9.2.2⟩
      have hZ' : ∀ a, (Z a ∨ a = Lm) → Z a ∨ hz h0 ≤ a := fun a z => by rcases z with z | z; exact .inl z; exact .inr (by omega)
      have hp9 : hp Z t h0 h9 := hp_hpO (hp_trans Q.2.2.1 (hx_hp X3')) k2 (by have := Q.2.2.1.1; omega) hZ'
      have k21 := k2.1
      have N3 := nd_trans (nd_trans (nd_trans D1 D2 (Nat.le_refl _)) D3 (Nat.le_refl _)) e4 m3
      have nd4 : ndD σ0 τ4 M0 d0 := ndD_nd Q.1 N3 s2
      have q6 := Q.2.2.2.2.2.1
      have q5 := Q.2.2.2.2.1
      have l9 : (ll h9 Lm).length = (ll h Lm).length + 1 := by rw [k5, hLm3]; simp
      have Q9 : DSL G t m Z pr σ0 M0 d0 h0 HZ HU Lm 20 300 60 j (M' + 1) τ4 h9 := ⟨nd4, by omega, hp9, k6, by omega, by rw [l9]; omega, by omega⟩
      refine RD_gd (At_kd H9') (RD_need hG H9' (DSL_DS k4 Q9) (by omega) (.inr (.inr (by omega))) (by decide) (by decide) (fun q10 τ5 h10 H10 D10 X10 => ?_) (fun p τ T D => lkF p _ τ _ T D))
      have z10 : hz h10 = hz h9 := X10.2.2.2.2.2.2.2.2.1
      have y10 : hu h10 = hu h9 := X10.2.2.2.2.2.2.2.2.2.1
      have hi10 := At_i H10
      have N5 := nd_trans N3 D10 (by omega)
      have hM' : M ≤ M' := m3
      -- the link
      have hnx : ga τ5 562 M' = -1 := by rw [D10.2 562 (by simp) M' (by omega)]; exact e3.2.2.2.2.2.2
      have hlk : ∃ υ, (if last ≠ (-1) then if 0 ≤ last ∧ last < 8400 then some (ua τ5 562 last.toNat (M' : Int)) else none else if 0 ≤ (d : Int) ∧ (d : Int) < 700 then some (ua τ5 602 ((d : Int)).toNat (M' : Int)) else none) = some υ ∧ chain υ (ga υ 602 d) (ns ++ [M']) ∧ (∀ f, gs υ f = gs τ5 f) ∧ (∀ f ∈ PA, f ≠ 562 → ∀ i, ga υ f i = ga τ5 f i) ∧ (∀ i, i ∉ ns → ga υ 562 i = ga τ5 562 i) ∧ (∀ f ∈ DA, f ≠ 602 → ∀ i, ga υ f i = ga τ5 f i) ∧ TT υ N S b m ∧ ndD σ0 υ M0 d0 := by
        have dD : ndD σ0 τ5 M0 d0 := ndD_nd Q.1 N5 s2
        rcases hl with ⟨p1, p2, p3⟩ | ⟨ns', l, p1, p2⟩
        · refine ⟨ua τ5 602 d (M' : Int), by rw [if_neg (by rw [p2]; simp), if_pos ⟨by omega, by omega⟩, show ((d : Int)).toNat = d by omega], ?_, fun _ => rfl, fun f hf _ x => ?_, fun x _ => ?_, fun f hf c x => ?_, (Tst_ua H10.1 (by simp)).1, ndD_ua dD (by simp) hd.2⟩
          · rw [ga_ua, if_pos ⟨rfl, rfl⟩, p1]
            exact chain_first (by rw [ga_ua, if_neg (by omega)]; exact hnx)
          · rw [ga_ua, if_neg (fun (z : f = 602 ∧ x = d) => PA_DA (f := 602) (by simp) (z.1 ▸ hf))]
          · rw [ga_ua, if_neg (by omega)]
          · rw [ga_ua, if_neg (fun z => c z.1)]
        · have hlM := Bi.2.2.1 l (by rw [p1]; simp)
          have u3 : fr PF PA τ5 (ua τ5 562 l (M' : Int)) := fr_ua (fr_refl _ _ _) (by simp)
          refine ⟨ua τ5 562 l (M' : Int), by rw [p2, if_pos (by omega), if_pos ⟨by omega, by omega⟩, show ((l : Int)).toNat = l by omega], ?_, fun _ => rfl, fun f hf c x => ?_, fun x hx => ?_, fun f hf c x => ?_, TT_fr u3 H10.1.1, ndD_nd dD ⟨u3, fun g _ z hz => by rw [ga_ua, if_neg (by omega)]⟩ (Nat.le_refl M0)⟩
          · rw [p1] at B6 Bp ⊢
            have e602 : ga (ua τ5 562 l (M' : Int)) 602 d = ga σ 602 d := by rw [ga_ua, if_neg (by omega), N5.1.2 602 (PA_DA (by simp))]
            rw [e602]
            refine chain_more B6 Bp (fun x hx => ?_) (fun x hx => ?_) hnx
            · have := Bi.2.2.1 x (by rw [p1]; exact hx); omega
            · have := Bi.2.2.1 x (by rw [p1]; exact List.mem_append_left _ hx)
              exact N5.2 562 (by simp) x (by omega)
          · rw [ga_ua, if_neg (fun z => c z.1)]
          · rw [ga_ua, if_neg (fun z => hx (by rw [p1, z.2]; simp))]
          · rw [ga_ua, if_neg (fun (z : f = 562 ∧ x = l) => PA_DA hf (by rw [z.1]; simp))]
      obtain ⟨υ, u1, u2, u3, u4, u5, u6, u7, u8⟩ := hlk
      rw [u1]
      simp only [Option.bind_some]
      have T5 := H10.1
      have H11 : At G A t N S b m (j + 1) n (M' + 1) υ h10 := ⟨⟨u7, by rw [u3]; exact T5.2.1, T5.2.2.1, by rw [u3]; exact T5.2.2.2.1, by rw [u3]; exact T5.2.2.2.2.1, by rw [u3]; exact T5.2.2.2.2.2⟩, H10.2.1, H10.2.2⟩
      have X10x := hx_onlyT X10
      obtain ⟨P10, L10⟩ := PL_hx k6 X10x
      have sA : ∀ a, a < hz h9 → a ≠ t → sameA a h9 h10 := fun a q r => hx_same X10x q r
      have l10 : ll h10 Lm = ll h9 Lm := (sA Lm (by omega) (by omega)).2.2.2.2.2.1
      have c10 : lc h10 Lm = lc h9 Lm := (sA Lm (by omega) (by omega)).2.2.2.2.2.2
      have pf10 : ∀ f, fR h10 f pr = fR h f pr := fun f => by rw [(sA pr (by omega) Q.2.2.2.1.1.2.2).2.2.1 f, k7, pf3]
      have pl10 : ∀ f ∈ PFs, ll h10 (fR h f pr) = ll h9 (fR h f pr) := fun f hf => X10x.2.2.2.2.2.2.2.2.1 _ (by have := (Q.2.2.2.1.2.1 f hf).1.1; omega)
      -- from h to h10 at old addresses
      have s10 : ∀ a, hz h0 ≤ a → a < hz h → a ≠ Lm → sameA a h h10 := fun a q r s => sameA_trans (sameA_trans (s3 a r (by omega)) (hp_same k2 (a := a) (by omega) (by omega) (fun z => by rcases z with z | z; (have := hZ a z; omega); exact s z))) (sA a (by omega) (by omega))
      have s39 : ∀ a, hz h ≤ a → a < hz h3 → a ≠ hz h2 → sameA a h3 h10 := fun a q r s => sameA_trans (hp_same k2 (a := a) r s (fun z => by rcases z with z | z; (have := hZ a z; omega); omega)) (sA a (by omega) (by omega))
      have sxx := sA (hz h2) (by omega) (by omega)
      have hkm : hk am (hz h) h h10 := fun a d e => by obtain ⟨s1, s2, s3, s4, s5, s6, s7⟩ := s10 a (by omega) e (by omega); exact ⟨s1, s2, s3, s6, s7⟩
      have hk3 : hk (hz g2) (hz h3) h3 h10 := fun a d e => by obtain ⟨s1, s2, s3, s4, s5, s6, s7⟩ := s39 a (by omega) e (by omega); exact ⟨s1, s2, s3, s6, s7⟩
      have mw : ∀ y ∈ ms, fR h10 1242 y = fR h 1242 y := fun y hy => by have := Bi.2.2.2.1 y hy; exact (s10 y (by omega) (by omega) (by omega)).2.2.1 _
      have nMs : M' ∉ ns := fun z => by have := Bi.2.2.1 M' z; omega
      have fw : fR h10 1242 (hz h2) = hz h := by rw [sxx.2.2.1]; exact k3.1
      refine ih (j + 1) (M' + 1) υ h10 (M' : Int) (ms ++ [hz h2]) (ns ++ [M']) (by omega) (by omega) H11 ⟨u8, by omega, hp_trans hp9 (hx_hp X10x), P10, by omega, by rw [l10, c10, l9, L10]; omega, by omega⟩ ⟨by omega, ?_, okV_hx k4 X10x, ?_, ?_, u2, ?_, ?_, ?_, ?_⟩ (.inr ⟨ns, M', rfl, rfl⟩) ?_
      · have s := s10 c (by omega) (by omega) (by omega)
        rw [s.1, s.2.2.1]; exact B2
      · rw [l10, k5, hLm3, B4]
      · refine mrows_app (amid := hz h) (a1 := hz g2) (a2 := hz h3) (p := nT) (j := i) (mrows_keep B5 hkm (fun f hf c x d e => ?_) (fun x d e c => ?_)) ?_ ⟨?_, ?_, c2, ?_⟩ ?_ ⟨?_, ?_, ?_, ?_⟩ (by omega)
        · rw [u4 f hf c, N5.2 f hf x e]
        · rw [u5 x c, N5.2 562 (by simp) x e]
        · rw [sxx.2.2.1, k3.2.1]
          refine WR_keep W3 hk3 ⟨fun f hf c x d e => ?_, fun x d e _ => ?_⟩
          · rw [u4 f hf c, D10.2 f hf x (by omega), e4.2 f hf x e]
          · rw [u5 x (fun z => by have := Bi.2.2.1 x z; omega), D10.2 562 (by simp) x (by omega), e4.2 562 (by simp) x e]
        · rw [u4 538 (by simp) (by decide), D10.2 538 (by simp) M' (by omega)]; exact e3.1
        · rw [u4 542 (by simp) (by decide), D10.2 542 (by simp) M' (by omega)]; exact e3.2.1
        · rw [u4 546 (by simp) (by decide), D10.2 546 (by simp) M' (by omega)]; exact e3.2.2.1
        · rw [fw]; omega
        · rw [sxx.1, k2.2.2.1 _ (by omega), sx.1]; exact kx
        · rw [fw]
          have sw' := s39 (hz h) (by omega) (by omega) (by omega)
          exact ⟨by rw [sw'.1]; exact w3.1, by rw [sw'.2.2.1]; exact w3.2.1, by rw [sw'.2.1]; exact w3.2.2.1, by rw [sw'.2.1]; exact w3.2.2.2⟩
        · rw [sxx.2.2.1]; exact k3.2.2.1
        · rw [sxx.2.1, k3.2.2.2.1, hLm3, B4]; simp
      · intro x hx
        rcases List.mem_append.mp hx with hx | hx
        · have := Bi.2.2.2.1 x hx
          have s := s10 x (by omega) (by omega) (by omega)
          rw [s.2.1, s.2.2.1]; exact B7 x hx
        · have e : x = hz h2 := by simpa using hx
          rw [e, sxx.2.1, sxx.2.2.1, k3.2.2.2.2.1, k3.2.2.2.2.2, sx.2.1, sx.2.2.1, xI, xR]
          exact ⟨rfl, rfl⟩
      · intro f hf
        rw [pf10, pl10 f hf, ← mL_snoc mw hf, fw, ← pf3, k8 f hf, pf3, pf3, pf3, pf3, pl3 f hf, pl3 98 (by simp), pl3 106 (by simp), pl3 110 (by simp), B8 f hf, B8 98 (by simp), B8 106 (by simp), B8 110 (by simp)]
      · intro f hf c
        rw [u6 f hf c, N5.1.2 f (PA_DA hf)]; exact B9 f hf c
      · exact hΦ h h10 (fun a q r s => s10 a q (by omega) s) B10
      · intro f hf
        rw [pf10, pl10 f hf, ← pf3, k8 f hf, pf3, pf3, pf3, pf3, pl3 f hf, pl3 98 (by simp), pl3 106 (by simp), pl3 110 (by simp)]
        have e98 := hln 98 (by simp)
        have e106 := hln 106 (by simp)
        have e110 := hln 110 (by simp)
        have ef := hln f hf
        split
        · rw [List.length_append]; simp; omega
        · split
          · rw [List.length_append]; simp; omega
          · split
            · rw [List.length_append]; simp; omega
            · omega
    · rw [TCl_end H.1 c2, CCl_end hG H.2.1 c2]
      refine RD_gd (At_kd H) (RD_need hG H Q0 (by omega) (.inr (.inr (by omega))) (by decide) (by decide) (fun q2 τ2 h2 H2 D2 X2 => ?_) (fun p τ T D => Fv_end T D))
      have X1 := hx_onlyT X2
      have z2 : hz h2 = hz h := X2.2.2.2.2.2.2.2.2.1
      have y2 : hu h2 = hu h := X2.2.2.2.2.2.2.2.2.2.1
      have hi2 := At_i H2
      obtain ⟨P2, L2⟩ := PL_hx Q.2.2.2.1 X1
      obtain ⟨q1, q2', q3, q4, q5, q6, q7⟩ := Q
      refine .inl ⟨i + 1, M, τ2, h2, (), rfl, rfl, H2, by omega, ⟨ndD_nd q1 D2 q2', q2', hp_trans q3 (hx_hp X1), P2, by omega, ?_, by omega⟩, ⟨ms, ns, MB_only ht hΦ q4 B X2 D2⟩, fun f hf => ?_⟩
      · rw [L2, X2.2.2.2.2.2.2.1, X2.2.2.2.2.2.2.2.1]; omega
      · rw [(hx_same X1 q4.1.2.1 q4.1.2.2).2.2.1, X2.2.2.2.2.2.2.1]
        have := hln f hf
        omega
end LK4
