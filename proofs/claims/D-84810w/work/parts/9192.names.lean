set_option maxRecDepth 100000
/-! NAMES in a row: those of a forall, those of an instance's head -/
def wrow (A : Nat) (S : List Int) (h : om_H) (alo ahi : Nat) : Nat → List Nat → Prop
  | _, [] => True
  | j, w :: ws => alo ≤ w ∧ w < ahi ∧ wd h A S w j ∧ tokk S j = 2 ∧ wrow A S h alo ahi (j + 1) ws
section LW
variable {G : om_G} {A t : Nat} {N : List (List Int)} {S : List Int} {b m i : Nat} {n : Int} {M : Nat} {σ τ : tS} {h h' h1 h2 : om_H} {c pr : Nat} {Z Z' : Nat → Prop}
variable {σ0 : tS} {M0 d0 : Nat} {h0 : om_H} {HZ HU : Nat}
theorem wrow_keep {alo ahi ahi' : Nat} (s : ∀ a, alo ≤ a → a < ahi → kd h a = 17 → sameA a h h') (hh : ahi ≤ ahi') : ∀ {j : Nat} {ws : List Nat}, wrow A S h alo ahi j ws → wrow A S h' alo ahi' j ws
  | _, [], _ => trivial
  | j, w :: ws, ⟨a1, a2, a3, a4, a5⟩ => ⟨a1, by omega, wd_same a3 (s w a1 a2 a3.1), a4, wrow_keep s hh a5⟩
theorem wrow_app {alo ahi : Nat} {w : Nat} : ∀ {j : Nat} {ws : List Nat}, wrow A S h alo ahi j ws → alo ≤ w ∧ w < ahi ∧ wd h A S w (j + ws.length) ∧ tokk S (j + ws.length) = 2 → wrow A S h alo ahi j (ws ++ [w])
  | _, [], _, q => ⟨q.1, q.2.1, q.2.2.1, q.2.2.2, trivial⟩
  | j, x :: ws, ⟨a1, a2, a3, a4, a5⟩, q => ⟨a1, a2, a3, a4, wrow_app a5 (by rw [show j + 1 + ws.length = j + (x :: ws).length by simp; omega]; exact q)⟩
theorem wrow_mem {alo ahi : Nat} : ∀ {j : Nat} {ws : List Nat}, wrow A S h alo ahi j ws → ∀ w ∈ ws, alo ≤ w ∧ w < ahi ∧ kd h w = 17
  | _, [], _, _, q => absurd q List.not_mem_nil
  | j, x :: ws, ⟨a1, a2, a3, a4, a5⟩, w, q => by
    rcases List.mem_cons.mp q with rfl | q
    · exact ⟨a1, a2, a3.1⟩
    · exact wrow_mem a5 w q
/-- what stays so, but for the objects of X, while the nodes below M stay as they are -/
def Kp (z0 am : Nat) (X : List Nat) (M : Nat) (Φ : tS → om_H → Prop) : Prop := ∀ σ τ h h', (∀ a, z0 ≤ a → a < am → a ∉ X → sameA a h h') → (∀ f ∈ PA, ∀ x, x < M → ga τ f x = ga σ f x) → Φ σ h → Φ τ h'
/-- names are being read into the list L, from the token j1 on; F the twin's count -/
def NB (G : om_G) (A : Nat) (S : List Int) (z0 am d F L pr j1 : Nat) (Lf : Nat → List Nat) (dv : Nat → Int) (Φ : tS → om_H → Prop) (i : Nat) (σ : tS) (h : om_H) (ws : List Nat) : Prop :=
  (z0 ≤ L ∧ L < am ∧ am ≤ hz h) ∧ okV G h L ∧ ll h L = ws ∧ wrow A S h am (hz h) j1 ws ∧ j1 + ws.length = i ∧ ga σ F d = (ws.length : Int) ∧ (∀ f ∈ DA, f ≠ F → ga σ f d = dv f) ∧ PC h pr Lf ∧ Φ σ h
theorem names_loop (hG : om_okG G) {am d F L j1 ib : Nat} {Lf : Nat → List Nat} {dv : Nat → Int} {Φ : tS → om_H → Prop} (ht : t < hz h0) (hpr : pr < hz h0) (hZ : ∀ a, Z a → a < hz h0) (hd : d < 700 ∧ d0 ≤ d) (hF : F ∈ DA) (hΦ : Kp (hz h0) am [L] M Φ)
    {TN : tS → Option tS} {CN : om_H → Option ((Nat ⊕ Unit) × om_H)} (hT : ∀ σ τ, T_takes 2 σ = some (1, τ) → TN σ = TN (ua τ F d (w32 (ga τ F d + 1))))
    (hC : ∀ i σ h, Cst G h t S i n → tokk S i = 2 → Φ σ h → ∃ K : om_H → Option ((Nat ⊕ Unit) × om_H), CN h = xc (C_14_need G t (om_cA G 2) h) (fun t h => some (.inl t, h)) (fun p1 h1 => gd (kd h1 L = 42) ((P_J2_add G L p1 h1).bind fun p2 => K p2.2)) ∧ ∀ g, kd g t = 15 → K g = CN g)
    {P : Nat → Nat → tS → om_H → Unit → Prop}
    (go : ∀ (i : Nat) (σ : tS) (h : om_H) (ws : List Nat), ib ≤ i → At G A t N S b m i n M σ h → DSL G t m Z pr σ0 M0 d0 h0 HZ HU L 20 300 60 i M σ h → NB G A S (hz h0) am d F L pr j1 Lf dv Φ i σ h ws → tokk S i ≠ 2 → RD G A t N S b m n Z pr σ0 M0 d0 h0 HZ HU (fun τ : tS => τ) P (TN σ) (CN h)) :
    ∀ (dd i : Nat) (σ : tS) (h : om_H) (ws : List Nat), m - i < dd → ib ≤ i → At G A t N S b m i n M σ h → DSL G t m Z pr σ0 M0 d0 h0 HZ HU L 20 300 60 i M σ h → NB G A S (hz h0) am d F L pr j1 Lf dv Φ i σ h ws → RD G A t N S b m n Z pr σ0 M0 d0 h0 HZ HU (fun τ : tS => τ) P (TN σ) (CN h) := by
  intro dd
  induction dd with
  | zero =>
    intro i σ h ws hd'
    exact absurd hd' (Nat.not_lt_zero _)
  | succ dd ih =>
    intro i σ h ws hd' hib H Q B
    by_cases c2 : tokk S i = 2
    · have hi := At_i H
      obtain ⟨τ, u1, u2, u3⟩ := (t_takes H.1 (k := 2) (by decide)).1 c2
      obtain ⟨K, k1, k2⟩ := hC i σ h H.2.1 c2 B.2.2.2.2.2.2.2.2
      obtain ⟨h1, v1, v2, v3, v4, v5, v6, v7⟩ := (c_need hG H.2.1 (e := 2) (by omega)).1 c2
      rw [hT σ τ u1, k1, v1, xc_v]
      rw [H.2.2] at v4 v7
      have H1 : At G A t N S b m (i + 1) n M τ h1 := ⟨u2, v2, v7⟩
      have hi1 := At_i H1
      have htz := At_t H
      obtain ⟨q1, q2, q3, q4, q5, q6, q7⟩ := Q
      obtain ⟨B1, B2, B3, B4, B5, B6, B7, B8, B9⟩ := B
      obtain ⟨P1, L1⟩ := PL_hx q4 v3
      have s1 : ∀ a, a < hz h → a ≠ t → sameA a h h1 := fun a q r => hx_same v3 q r
      have O1 := okV_hx B2 v3
      have l1 : ll h1 L = ll h L := (s1 L (by omega) (by omega)).2.2.2.2.2.1
      have c1 : lc h1 L = lc h L := (s1 L (by omega) (by omega)).2.2.2.2.2.2
      have hm4 := H.1.1.2.1
      have wl : ws.length ≤ i := by omega
      obtain ⟨a1, a2, a3, a4, a5, a6⟩ := v_add (x := hz h) O1 (.inl ⟨by omega, by rw [v4.1]; omega, by rw [v4.1]; omega⟩) (by rw [l1, B3]; omega)
      generalize addL h1 L (hz h) = h2 at a1 a2 a3 a4 a5 a6
      have H2 := hxL_At H1 a2
      rw [gd_pos O1.2.1, a1]
      simp only [Option.bind_some]
      rw [k2 h2 (At_kd H2)]
      have a21 := a2.1
      obtain ⟨P2, L2⟩ := PL_hxL P1 a2 (fun z => by have := hZ _ z; omega)
      have e590 : ga τ F d = (ws.length : Int) := by rw [u3.1.2 F (PA_DA hF)]; exact B6
      rw [e590, w32_s (by omega) (by omega)]
      have s2 : ∀ a, hz h0 ≤ a → a < hz h → a ≠ L → sameA a h h2 := fun a q r s => sameA_trans (s1 a r (by omega)) (hxL_same a2 (by omega) s)
      have l2 : (ll h2 L).length = ws.length + 1 := by rw [a4, l1, B3]; simp
      refine ih (i + 1) _ h2 (ws ++ [hz h]) (by omega) (by omega) (At_ua H2 hF) ⟨ndD_ua (ndD_nd q1 u3 q2) hF hd.2, q2, hp_hxL (hp_trans q3 (hx_hp v3)) a2 B1.1, P2, by omega, ?_, by omega⟩ ⟨by omega, a3, by rw [a4, l1, B3], ?_, by rw [List.length_append]; simp; omega, ?_, fun f hf c => ?_, fun f hf => ?_, hΦ σ _ h h2 (fun a q r s => s2 a q (by omega) (fun z => s (by rw [z]; exact List.mem_cons_self))) (fun f hf x hx => by rw [ga_ua, if_neg (fun (z : f = F ∧ x = d) => PA_DA hF (z.1 ▸ hf)), u3.2 f hf x hx]) B9⟩
      · rw [l2, L2, L1]
        rw [B3] at q6
        omega
      · refine wrow_app (wrow_keep (ahi := hz h) (fun a q r k => s2 a (by omega) r (by omega)) (by omega) B4) ⟨by omega, by omega, ?_, by rw [B5]; exact c2⟩
        rw [B5]
        exact wd_same v4 (hxL_same a2 (by omega) (by omega))
      · rw [ga_ua, if_pos ⟨rfl, rfl⟩, List.length_append]; simp
      · rw [ga_ua, if_neg (fun z => c z.1), u3.1.2 f (PA_DA hf)]; exact B7 f hf c
      · have e := (s1 pr q4.1.2.1 q4.1.2.2).2.2.1 f
        have zz := (q4.2.1 f hf).2
        have az := (q4.2.1 f hf).1.1
        rw [a2.2.2.2.2.1 f pr P1.1.2.1, e, a2.2.2.2.2.2.2.2.2.1 _ (by omega) (fun z => by have := hZ _ zz; omega), v3.2.2.2.2.2.2.2.2.1 _ az]
        exact B8 f hf
    · exact go i σ h ws hib H Q B c2
end LW
