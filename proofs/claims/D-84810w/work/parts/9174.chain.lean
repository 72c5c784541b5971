set_option maxRecDepth 100000
section LC
variable {G : om_G} {A t : Nat} {N : List (List Int)} {S : List Int} {b m K : Nat} {nc p : Int} {i M : Nat} {h h' : om_H} {σ τ : tS}
variable {z0 Mb a L1 L2 hd nh mh a3 top ahi : Nat} {fl : Bool}
/-- a chain of signs that is being read -/
def CC (fl : Bool) (G : om_G) (A : Nat) (S : List Int) (b K z0 Mb a L1 L2 hd nh mh a3 top M ahi : Nat) (σ : tS) (h : om_H) : Prop :=
  (z0 ≤ a ∧ a < a3 ∧ z0 ≤ L1 ∧ L1 < a3 ∧ z0 ≤ L2 ∧ L2 < a3 ∧ L1 ≠ L2 ∧ a3 ≤ ahi ∧ ahi ≤ hz h) ∧ (kd h a = 32 ∧ fR h 1518 a = hd ∧ fR h 1522 a = L1 ∧ fR h 1526 a = L2 ∧ fR h 1382 a = 0) ∧ okV G h L1 ∧ okV G h L2 ∧ (ll h L1).length = (ll h L2).length ∧ (∃ ah, X0 G A S b h σ K Mb mh z0 ah hd nh ∧ ah ≤ a ∧ ah ≤ L1 ∧ ah ≤ L2) ∧ spineR (signR G S b σ (Psi0 A S b h σ) (X0 G A S b h σ K)) ((ll h L1).zip (ll h L2)) nh mh M a3 ahi top ∧ (ll h L1 ≠ [] → ∃ j : Nat, ga σ 542 top = ((b + j : Nat) : Int) ∧ fI h 1372 a = (tokq S j : Int)) ∧ ((∀ y ∈ ll h L2, okS G y) ∨ (fl = true ∧ (ll h L1).length ≤ 1))
theorem sspine_keep {ys : List (Nat × Nat)} {l lo hi alo ahi top : Nat} (w : spineR (signR G S b σ (Psi0 A S b h σ) (X0 G A S b h σ K)) ys l lo hi alo ahi top) (X : hk alo ahi h h') (Q : nall lo hi σ τ) : spineR (signR G S b τ (Psi0 A S b h' τ) (X0 G A S b h' τ K)) ys l lo hi alo ahi top :=
  spineR_mono (signR_in (XR_in K)) (fun lo' hi' alo' ahi' l x s c1 c2 c3 c4 _ q => signR_keep (kp_sub (kp0 X Q) c1 c2 c3 c4) (XR_in K) (fun l1 l2 l3 l4 x n q1 q2 q3 q4 q5 => XR_keep q5 (kp_sub (kp0 X Q) (by omega) (by omega) (by omega) (by omega))) q) w
theorem CC_top (w : CC fl G A S b K z0 Mb a L1 L2 hd nh mh a3 top M ahi σ h) : Mb ≤ top ∧ top < M := by
  obtain ⟨w1, w2, w3, w4, w5, ⟨ah, w6, w6'⟩, w7, w8⟩ := w
  have i6 := spineR_in (signR_in (XR_in K)) w7
  have i5 := XR_in K _ _ _ _ _ _ w6
  by_cases c : (ll h L1).zip (ll h L2) = []
  · have := i6.2.2.2 c; omega
  · have := i6.2.2.1 c; omega
theorem CC_hx (w : CC fl G A S b K z0 Mb a L1 L2 hd nh mh a3 top M ahi σ h) (ht : t < z0) (X : hx t h h') (D : nd σ τ M) : CC fl G A S b K z0 Mb a L1 L2 hd nh mh a3 top M ahi τ h' := by
  have it := CC_top w
  obtain ⟨w1, w2, w3, w4, w5, ⟨ah, w6, w6'⟩, w7, w8⟩ := w
  have X0 := X.1
  have ku : kd h' a = kd h a := X.2.2.1 a (by omega)
  have ru : ∀ f, fR h' f a = fR h f a := fun f => X.2.2.2.2.1 f a (by omega) (by omega)
  have iu : ∀ f, fI h' f a = fI h f a := fun f => X.2.2.2.1 f a (by omega) (by omega)
  have i6 := spineR_in (signR_in (XR_in K)) w7
  have l1 : ll h' L1 = ll h L1 := X.2.2.2.2.2.2.2.2.1 L1 w3.1
  have l2 : ll h' L2 = ll h L2 := X.2.2.2.2.2.2.2.2.1 L2 w4.1
  refine ⟨by omega, by rw [ku, ru, ru, ru, ru]; exact w2, okV_hx w3 X, okV_hx w4 X, by rw [l1, l2]; exact w5, ⟨ah, X0_keep w6 (hx_hk X (by omega) ht) (nd_nall D (by omega)), w6'⟩, ?_, ?_⟩
  · rw [l1, l2]
    exact sspine_keep w7 (hx_hk X (by omega) (by omega)) (nd_nall D (Nat.le_refl _))
  · rw [l1, l2, iu, D.2 542 (by simp) top it.2]; exact w8
theorem hxL_hxL {L L' : Nat} {h1 h2 : om_H} (X : hxL L h h1) (Y : hxL L' h1 h2) : hz h ≤ hz h2 ∧ hu h ≤ hu h2 ∧ (∀ a, a < hz h → kd h2 a = kd h a) ∧ (∀ f a, a < hz h → fI h2 f a = fI h f a) ∧ (∀ f a, a < hz h → fR h2 f a = fR h f a) ∧ (∀ a, a < hz h → a ≠ L → a ≠ L' → ll h2 a = ll h a ∧ lc h2 a = lc h a) := by
  obtain ⟨c0, c1, c2, c3, c4, c5, c6, c7, c8, c9⟩ := X
  obtain ⟨d0, d1, d2, d3, d4, d5, d6, d7, d8, d9⟩ := Y
  exact ⟨by omega, by omega, fun a q => by rw [d2 a (by omega)]; exact c2 a q, fun f a q => by rw [d3 f a (by omega)]; exact c3 f a q, fun f a q => by rw [d4 f a (by omega)]; exact c4 f a q, fun a q r s => ⟨by rw [d8 a (by omega) s]; exact c8 a q r, by rw [d9 a (by omega) s]; exact c9 a q r⟩⟩
/-- the sign's number -/
theorem sgv_r {k : Int} (hk : k = 17 ∨ k = 60 ∨ k = 43 ∨ k = 45 ∨ k = 42) : -128 ≤ sgv k ∧ sgv k ≤ 127 := by
  unfold sgv
  split <;> omega
theorem CC_link {hb : om_H} {M' nT w : Nat} {v : Int} (U : CC fl G A S b K (hz hb) Mb a L1 L2 hd nh mh a3 top M ahi σ h) (W : X0 G A S b h σ K M M' ahi (hz h) w nT) (hn : (ll h L1).length ≤ 100000) (D : nd σ τ M') (hM : M ≤ M') (Nd : node τ M' 18 ((b + i : Nat) : Int) (top : Int) (nT : Int) (-1) (-1) (-1)) (hk : tokk S i = 17 ∨ tokk S i = 60 ∨ tokk S i = 43 ∨ tokk S i = 45 ∨ tokk S i = 42) (hv : (v ≠ 256 → v = sgv (tokk S i)) ∧ (v = 256 → sgv (tokk S i) = 61)) (hs : (fl = false ∧ okS G (om_cA G (300 + (sgv (tokk S i) + 128).toNat))) ∨ (fl = true ∧ ll h L1 = [])) (ht : t < hz hb) (X : hx t hb h) :
    ∃ h5, C_0_link G t a w v (tokq S i : Int) h = some h5 ∧ CC fl G A S b K (hz hb) Mb a L1 L2 hd nh mh a3 M' (M' + 1) (hz h5) τ h5 ∧ hx t hb h5 ∧ (∀ {j : Nat} {M1 : Nat}, At G A t N S b m j nc M1 σ h → ∀ {τ' : tS} {M2 : Nat}, Tst τ' N S b m j nc M2 → At G A t N S b m j nc M2 τ' h5) ∧ ll h5 L1 = ll h L1 ++ [w] ∧ hz h5 ≤ hz h + 2 ∧ hu h5 + 4 * lc h L1 + 4 * lc h L2 ≤ hu h + 4 * lc h5 L1 + 4 * lc h5 L2 := by
  obtain ⟨w1, w2, w3, w4, w5, ⟨ah, w6, w6'⟩, w7, w8⟩ := U
  have Wi := XR_in K _ _ _ _ _ _ W
  have ke := exk_ne (XR_exk W)
  have sg := sgv_r hk
  obtain ⟨a1, a2, a3', a4, a5, a6⟩ := v_add (x := w) w3 (.inl ⟨by omega, by omega, by omega⟩) hn
  generalize addL h L1 w = h3 at a1 a2 a3' a4 a5 a6
  have O2 := okV_hxL w4 (Ne.symm w1.2.2.2.2.2.2.1) a2
  have l32 : ll h3 L2 = ll h L2 := a2.2.2.2.2.2.2.2.2.1 L2 (by omega) (Ne.symm w1.2.2.2.2.2.2.1)
  have c32 : lc h3 L2 = lc h L2 := a2.2.2.2.2.2.2.2.2.2 L2 (by omega) (Ne.symm w1.2.2.2.2.2.2.1)
  obtain ⟨b1, b2, b3, b4, b5, b6⟩ := v_add (x := om_cA G (300 + (sgv (tokk S i) + 128).toNat)) O2 (.inr (.inr ⟨_, by omega, rfl⟩)) (by rw [l32, ← w5]; exact hn)
  generalize addL h3 L2 (om_cA G (300 + (sgv (tokk S i) + 128).toNat)) = h4 at b1 b2 b3 b4 b5 b6
  have k3a : kd h3 a = 32 := by rw [a2.2.2.1 a (by omega)]; exact w2.1
  have r3a : ∀ f, fR h3 f a = fR h f a := fun f => a2.2.2.2.2.1 f a (by omega)
  obtain ⟨x0, x1, x2, x3, x4, x5⟩ := hxL_hxL a2 b2
  have z34 := b2.1
  have z3 := a2.1
  have l41 : ll h4 L1 = ll h L1 ++ [w] := by rw [b2.2.2.2.2.2.2.2.2.1 L1 (by omega) w1.2.2.2.2.2.2.1]; exact a4
  have c41 : lc h4 L1 = lc h3 L1 := b2.2.2.2.2.2.2.2.2.2 L1 (by omega) w1.2.2.2.2.2.2.1
  have l42 : ll h4 L2 = ll h L2 ++ [om_cA G (300 + (sgv (tokk S i) + 128).toNat)] := by rw [b4, l32]
  have sgN : (∀ y ∈ ll h4 L2, okS G y) ∨ (fl = true ∧ (ll h4 L1).length ≤ 1) := by
    rcases hs with ⟨f0, ok⟩ | ⟨f1, l0⟩
    · refine .inl (fun y hy => ?_)
      rw [l42] at hy
      rcases List.mem_append.mp hy with z | z
      · rcases w8.2 with q | q
        · exact q y z
        · rw [f0] at q; cases q.1
      · rw [List.mem_singleton.mp z]; exact ok
    · exact .inr ⟨f1, by rw [l41, l0]; simp⟩
  have kE : C_0_link_26 G a (tokq S i : Int) L2 (sgv (tokk S i)) h3 = some (sI h4 1372 a (tokq S i : Int)) := by
    unfold C_0_link_26 P_J15_valueOf
    rw [gd_pos sg]
    simp only [Option.bind_some]
    rw [gd_pos O2.2.1, b1]
    simp only [Option.bind_some]
    rw [gd_pos (by rw [b2.2.2.1 a (by omega)]; exact k3a)]
  have hC : C_0_link G t a w v (tokq S i : Int) h = some (sI h4 1372 a (tokq S i : Int)) := by
    unfold C_0_link
    rw [w2.2.2.1, gd_pos ⟨w2.1, w3.2.1⟩, a1]
    simp only [Option.bind_some]
    rw [gd_pos k3a, r3a, w2.2.2.2.1]
    by_cases c : v = 256
    · rw [if_neg (fun z => z c), ← hv.2 c]; exact kE
    · rw [if_pos c, hv.1 c]; exact kE
  have x5' : ∀ z, z < hz h → z ≠ L1 → z ≠ L2 → z ≠ a → kd (sI h4 1372 a (tokq S i : Int)) z = kd h z ∧ (∀ f, fI (sI h4 1372 a (tokq S i : Int)) f z = fI h f z) ∧ (∀ f, fR (sI h4 1372 a (tokq S i : Int)) f z = fR h f z) ∧ ll (sI h4 1372 a (tokq S i : Int)) z = ll h z ∧ lc (sI h4 1372 a (tokq S i : Int)) z = lc h z := fun z q r s u => ⟨x2 z q, fun f => by rw [fI_na u]; exact x3 f z q, fun f => x4 f z q, (x5 z q r s).1, (x5 z q r s).2⟩
  have i6 := spineR_in (signR_in (XR_in K)) w7
  refine ⟨_, hC, ⟨by rw [hz_sI]; omega, ?_, ?_, b3, ?_, ⟨ah, X0_keep w6 (fun z c d => x5' z (by omega) (by omega) (by omega) (by omega)) (nd_nall D (by omega)), w6'⟩, ?_, fun _ => ⟨i, Nd.2.1, fI_eq⟩, sgN⟩, ?_, ?_, l41, by rw [hz_sI]; omega, ?_⟩
  · rw [kd_sI, fR_sI, fR_sI, fR_sI, fR_sI, x2 a (by omega), x4 _ a (by omega), x4 _ a (by omega), x4 _ a (by omega), x4 _ a (by omega)]; exact w2
  · exact okV_sI (okV_hxL a3' w1.2.2.2.2.2.2.1 b2)
  · show (ll h4 L1).length = (ll h4 L2).length
    rw [l41, l42]; simp; exact w5
  · show spineR _ ((ll h4 L1).zip (ll h4 L2)) _ _ _ _ _ _
    rw [l41, l42, List.zip_append w5]
    refine spineR_app (sspine_keep w7 (fun z c d => x5' z (by omega) (by omega) (by omega) (by omega)) (nd_nall D hM)) (fun alo' hal => ?_)
    refine ⟨by omega, rfl, Nd.1, Nd.2.2.1, i, nT, Nd.2.1, hk, rfl, Nd.2.2.2.1, XR_wide hal (by rw [hz_sI]; omega) (X0_keep W (fun z c d => x5' z (by omega) (by omega) (by omega) (by omega)) (nd_nall D (Nat.le_refl _))), Psi0_i (.inr rfl)⟩
  · exact hx_sI (hxL_hx (hxL_hx X a2 w1.2.2.1) b2 w1.2.2.2.2.1) w1.1
  · intro j M1 H τ' M2 T
    exact At_sI (hxL_At (hxL_At ⟨T, H.2.1, H.2.2⟩ a2) b2) (by omega)
  · show hu h4 + 4 * lc h L1 + 4 * lc h L2 ≤ hu h + 4 * lc h4 L1 + 4 * lc h4 L2
    omega
theorem CC_end (U : CC fl G A S b K z0 Mb a L1 L2 hd nh mh a3 top M ahi σ h) (hne : ll h L1 ≠ []) : X0 G A S b h σ (K + 1) Mb M z0 ahi a top := by
  have it := CC_top U
  obtain ⟨w1, w2, w3, w4, w5, ⟨ah, w6, w6'⟩, w7, w8⟩ := U
  obtain ⟨w8, w10⟩ := w8
  obtain ⟨j, w8, w9⟩ := w8 hne
  refine ⟨it.1, it.2, w1.1, by omega, .inr (.inr (.inr (.inr (.inr (.inr (.inr ⟨w2.1, ?_, ?_, ?_, ?_, ?_, ?_, j, nh, mh, z0, ah, a3, ahi, ?_, Nat.le_refl _, w6'.1, w1.2.1, ?_, Nat.le_refl _, w8, w9, Psi0_z w2.2.2.2.2 (by decide)⟩))))))⟩
  all_goals (first | rw [w2.2.2.1] | skip)
  all_goals (first | rw [w2.2.2.2.1] | skip)
  · omega
  · exact w3.2.1
  · omega
  · exact w4.2.1
  · exact w5
  · refine ⟨hne, fun q => ?_⟩
    rcases w10 with z | z
    · exact z
    · omega
  · rw [w2.2.1]; exact w6
  · exact w7
/-! a list is made -/
def mkL (g : om_H) (c n u : Nat) : om_H := gL (nO g 41 3) (hz g) [] c n u
theorem new_L (G : om_G) (g : om_H) : kd (nO g 41 3) (hz g) = 41 ∧ P_J2_init G (hz g) (nO g 41 3) = some (mkL g 0 0 0) := by
  have k2 : kd (nO g 41 3) (hz g) = 41 := by rw [kd_nO, if_pos rfl]
  exact ⟨k2, gd_pos ⟨k2, by rw [fI_nO, if_pos rfl]⟩⟩
theorem new_L2 (G : om_G) (g : om_H) {c : Int} (hc : 0 < c ∧ c ≤ 1000000) : kd (nO g 41 3) (hz g) = 41 ∧ P_J2_init_2 G (hz g) c (nO g 41 3) = some (mkL g c.toNat 1 c.toNat) := by
  have k2 : kd (nO g 41 3) (hz g) = 41 := by rw [kd_nO, if_pos rfl]
  exact ⟨k2, gd_pos ⟨k2, by rw [fI_nO, if_pos rfl], hc.1, hc.2⟩⟩
section LM
variable {g : om_H} {c n u : Nat}
theorem mkL_kd (a : Nat) : kd (mkL g c n u) a = if a = hz g then 42 else kd g a := by
  show (if a = hz g then 42 else if a = hz g then 41 else kd g a) = _
  split <;> rfl
theorem mkL_fI {f a : Nat} (ha : a < hz g) : fI (mkL g c n u) f a = fI g f a := by show fI (nO g 41 3) f a = _; rw [fI_nO, if_neg (by omega)]
theorem mkL_fR {f a : Nat} (ha : a < hz g) : fR (mkL g c n u) f a = fR g f a := by show fR (nO g 41 3) f a = _; rw [fR_nO, if_neg (by omega)]
theorem mkL_ll (a : Nat) : ll (mkL g c n u) a = if a = hz g then [] else ll g a := rfl
theorem mkL_lc (a : Nat) : lc (mkL g c n u) a = if a = hz g then c else lc g a := rfl
theorem mkL_hz : hz (mkL g c n u) = hz g + 1 + n := rfl
theorem mkL_hu : hu (mkL g c n u) = hu g + 3 + u := rfl
theorem mkL_hx (t : Nat) : hx t g (mkL g c n u) := hx_gL (hx_nO g 41 3) (Nat.le_refl _)
theorem mkL_ok {G : om_G} (hc : c ≤ 10) : okV G (mkL g c n u) (hz g) := ⟨by rw [mkL_hz]; omega, by rw [mkL_kd, if_pos rfl], by rw [mkL_ll, if_pos rfl]; simp, by rw [mkL_lc, if_pos rfl]; omega, fun y hy => by rw [mkL_ll, if_pos rfl] at hy; simp at hy⟩
end LM
/-- a chain is made -/
theorem chain_begin (ht : t < hz h) (hd : Nat) : ∃ h1 h2, C_32_init G (hz h) (nO h 32 6) = some h1 ∧ kd (nO h 32 6) (hz h) = 32 ∧ kd h1 (hz h) = 32 ∧ (∀ f, fI h1 f t = fI h f t) ∧ kd h1 t = kd h t ∧ h2 = sR h1 1518 (hz h) hd ∧ hx t h h2 ∧ (kd h2 (hz h) = 32 ∧ fR h2 1518 (hz h) = hd ∧ fR h2 1522 (hz h) = hz h + 1 ∧ fR h2 1526 (hz h) = hz h + 2 ∧ fR h2 1382 (hz h) = 0) ∧ okV G h2 (hz h + 1) ∧ okV G h2 (hz h + 2) ∧ ll h2 (hz h + 1) = [] ∧ ll h2 (hz h + 2) = [] ∧ hz h2 = hz h + 3 ∧ hu h2 = hu h + 12 ∧ (∀ f, fI h2 f t = fI h f t) ∧ (∀ f, fR h2 f t = fR h f t) := by
  have k1 : kd (nO h 32 6) (hz h) = 32 := by rw [kd_nO, if_pos rfl]
  have z1 : hz (nO h 32 6) = hz h + 1 := rfl
  have y1 : hu (nO h 32 6) = hu h + 6 := rfl
  have X1 := hx_nO (t := t) h 32 6
  have t1 : (∀ f, fI (nO h 32 6) f t = fI h f t) ∧ ∀ f, fR (nO h 32 6) f t = fR h f t := ⟨fun f => by rw [fI_nO, if_neg (by omega)], fun f => by rw [fR_nO, if_neg (by omega)]⟩
  have r1 : fR (nO h 32 6) 1382 (hz h) = 0 := by rw [fR_nO, if_pos rfl]
  unfold C_32_init C_23_init
  generalize nO h 32 6 = h1 at *
  rw [gd_pos k1, gd_pos (by omega)]
  simp only [Option.bind_some]
  obtain ⟨q1, q2⟩ := new_L G h1
  rw [gd_pos q1, q2]
  simp only [Option.bind_some]
  have k3 : kd (mkL h1 0 0 0) (hz h) = 32 := by rw [mkL_kd, if_neg (by omega)]; exact k1
  have X2 : hx t h (sR (mkL h1 0 0 0) 1522 (hz h) (hz h1)) := hx_sR (hx_trans X1 (mkL_hx t)) (Nat.le_refl _)
  have O2 : okV G (sR (mkL h1 0 0 0) 1522 (hz h) (hz h1)) (hz h1) := okV_sR (mkL_ok (by omega))
  have z2 : hz (sR (mkL h1 0 0 0) 1522 (hz h) (hz h1)) = hz h + 2 := by show hz h1 + 1 + 0 = _; omega
  have y2 : hu (sR (mkL h1 0 0 0) 1522 (hz h) (hz h1)) = hu h + 9 := by show hu h1 + 3 + 0 = _; omega
  have k2 : kd (sR (mkL h1 0 0 0) 1522 (hz h) (hz h1)) (hz h) = 32 := k3
  have r2 : fR (sR (mkL h1 0 0 0) 1522 (hz h) (hz h1)) 1522 (hz h) = hz h + 1 ∧ fR (sR (mkL h1 0 0 0) 1522 (hz h) (hz h1)) 1382 (hz h) = 0 := ⟨by rw [fR_eq]; exact z1, by rw [fR_ne (by decide), mkL_fR (by omega)]; exact r1⟩
  have l2 : ll (sR (mkL h1 0 0 0) 1522 (hz h) (hz h1)) (hz h1) = [] := by show ll (mkL h1 0 0 0) (hz h1) = []; rw [mkL_ll, if_pos rfl]
  have t2 : (∀ f, fI (sR (mkL h1 0 0 0) 1522 (hz h) (hz h1)) f t = fI h f t) ∧ ∀ f, fR (sR (mkL h1 0 0 0) 1522 (hz h) (hz h1)) f t = fR h f t := ⟨fun f => by rw [fI_sR, mkL_fI (by omega)]; exact t1.1 f, fun f => by rw [fR_na (by omega), mkL_fR (by omega)]; exact t1.2 f⟩
  have e41 : kd (nO (mkL h1 0 0 0) 41 3) (hz (sR (mkL h1 0 0 0) 1522 (hz h) (hz h1))) = 41 := by show kd (nO (mkL h1 0 0 0) 41 3) (hz (mkL h1 0 0 0)) = 41; rw [kd_nO, if_pos rfl]
  rw [gd_pos ⟨k3, e41⟩]
  generalize sR (mkL h1 0 0 0) 1522 (hz h) (hz h1) = h2 at *
  rw [z1] at O2 l2
  obtain ⟨q3, q4⟩ := new_L G h2
  rw [q4]
  simp only [Option.bind_some]
  have k4 : kd (mkL h2 0 0 0) (hz h) = 32 := by rw [mkL_kd, if_neg (by omega)]; exact k2
  rw [gd_pos k4]
  have kT : ∀ a x y, kd (sR (mkL h2 0 0 0) x y (hz h2)) a = kd (mkL h2 0 0 0) a := fun _ _ _ => rfl
  refine ⟨sR (mkL h2 0 0 0) 1526 (hz h) (hz h2), _, rfl, k1, k4, fun f => ?_, ?_, rfl, hx_sR (hx_sR (hx_trans X2 (mkL_hx t)) (Nat.le_refl _)) (Nat.le_refl _), ⟨k4, fR_eq, ?_, ?_, ?_⟩, okV_sR (okV_sR (okV_hx O2 (mkL_hx t))), ?_, ?_, ?_, ?_, ?_, fun f => ?_, fun f => ?_⟩
  · rw [fI_sR, mkL_fI (by omega)]; exact t2.1 f
  · show kd (mkL h2 0 0 0) t = _; rw [mkL_kd, if_neg (by omega)]; exact X2.2.2.1 t ht
  · rw [fR_ne (by decide), fR_ne (by decide), mkL_fR (by omega)]; exact r2.1
  · rw [fR_ne (by decide), fR_eq]; exact z2
  · rw [fR_ne (by decide), fR_ne (by decide), mkL_fR (by omega)]; exact r2.2
  · rw [← z2]; exact okV_sR (okV_sR (mkL_ok (by omega)))
  · show ll (mkL h2 0 0 0) (hz h + 1) = []; rw [mkL_ll, if_neg (by omega)]; exact l2
  · show ll (mkL h2 0 0 0) (hz h + 2) = []; rw [← z2, mkL_ll, if_pos rfl]
  · show hz h2 + 1 + 0 = _; omega
  · show hu h2 + 3 + 0 = _; omega
  · rw [fI_sR, fI_sR, mkL_fI (by omega)]; exact t2.1 f
  · rw [fR_na (by omega), fR_na (by omega), mkL_fR (by omega)]; exact t2.2 f
end LC
