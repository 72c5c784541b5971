set_option maxRecDepth 100000
/-! WHAT IS THERE ALWAYS, in the twin (T_always) -/
abbrev ALA : List Nat := [630, 770, 634, 638, 774, 642]
/-- what names stand for at the start -/
def alS (k : Nat) (σ : tS) : Prop := ∀ j, j < k → ga σ 630 j = (if 9 ≤ j ∧ j < 13 then 1 else 0) ∧ ga σ 770 j = (if 9 ≤ j ∧ j < 13 then 1 else 0) ∧ ga σ 634 j = (j : Int) - 9 ∧ ga σ 638 j = (if j < 7 then 3 else 0) ∧ ga σ 774 j = (if j < 7 then 1 else 0) ∧ ga σ 642 j = (j : Int)
theorem al_153 {k : Nat} (hk : k < 2100) {g : Int} (hg : g = 0 ∨ g = 1) (σ : tS) : T_always_153 (k : Int) (k : Int) g σ = some (.inl (((k + 1 : Nat) : Int), ua (ua (ua (ua (ua σ 770 k g) 634 k ((k : Int) - 9)) 638 k (if k < 7 then 3 else 0)) 774 k (if k < 7 then 1 else 0)) 642 k (k : Int))) := by
  have kN : ((k : Int)).toNat = k := by omega
  have w9 : w32 ((k : Int) - 9) = (k : Int) - 9 := w32_s (by omega) (by omega)
  have w1 : w32 ((k : Int) + 1) = ((k + 1 : Nat) : Int) := by rw [w32_s (by omega) (by omega)]; rfl
  unfold T_always_153
  rw [if_pos ⟨by omega, by omega, hg, by omega, by omega⟩, kN, w9]
  by_cases c : k < 7
  · rw [if_neg (by omega)]
    unfold T_always_180
    rw [if_pos ⟨by omega, by omega⟩, if_neg (by omega)]
    unfold T_always_197
    rw [if_pos ⟨by omega, by omega, .inr rfl, by omega, by omega⟩, w1, kN, if_pos c, if_pos c]
  · rw [if_pos (by omega)]
    unfold T_always_180
    rw [if_pos ⟨by omega, by omega⟩, if_pos (by omega)]
    unfold T_always_197
    rw [if_pos ⟨by omega, by omega, .inl rfl, by omega, by omega⟩, w1, kN, if_neg c, if_neg c]
theorem al_133 {k : Nat} (hk : k < 2100) {g : Int} (hg : g = 0 ∨ g = 1) (σ : tS) : T_always_133 (k : Int) (k : Int) g σ = some (.inl (((k + 1 : Nat) : Int), ua (ua (ua (ua (ua (ua σ 630 k g) 770 k g) 634 k ((k : Int) - 9)) 638 k (if k < 7 then 3 else 0)) 774 k (if k < 7 then 1 else 0)) 642 k (k : Int))) := by
  have kN : ((k : Int)).toNat = k := by omega
  unfold T_always_133
  have eg : ga (ua σ 630 k g) 630 k = g := by rw [ga_ua, if_pos ⟨rfl, rfl⟩]
  rw [if_pos ⟨by omega, by omega, by omega, by omega⟩, kN, eg]
  rcases hg with hg | hg
  · rw [if_pos hg, hg]
    exact al_153 hk (.inl rfl) _
  · rw [if_neg (by omega), hg]
    exact al_153 hk (.inr rfl) _
theorem t_al104 : ∀ (d k : Nat) (σ : tS), k + d = 2100 → alS k σ → ∃ τ, om_loop T_always_104s ((k : Int), σ) = some τ ∧ fr [] ALA σ τ ∧ alS 2100 τ
  | 0, k, σ, e, H => by
    have k0 : k = 2100 := by omega
    refine ⟨σ, om_loop_out ?_, fr_refl _ _ _, by rw [← k0]; exact H⟩
    unfold T_always_104s
    simp only
    rw [if_pos (by omega)]
  | d + 1, k, σ, e, H => by
    obtain ⟨g, eg⟩ : ∃ g : Int, g = (if 9 ≤ k ∧ k < 13 then 1 else 0) := ⟨_, rfl⟩
    have hg : g = 0 ∨ g = 1 := by rw [eg]; split <;> simp
    have st : T_always_104s ((k : Int), σ) = some (.inl (((k + 1 : Nat) : Int), ua (ua (ua (ua (ua (ua σ 630 k g) 770 k g) 634 k ((k : Int) - 9)) 638 k (if k < 7 then 3 else 0)) 774 k (if k < 7 then 1 else 0)) 642 k (k : Int))) := by
      unfold T_always_104s
      simp only
      rw [if_neg (by omega)]
      by_cases c1 : k < 9
      · rw [if_pos (by omega)]
        have g0 : g = 0 := by rw [eg, if_neg (by omega)]
        rw [g0]
        exact al_133 (by omega) (.inl rfl) σ
      · rw [if_neg (by omega)]
        by_cases c2 : 13 ≤ k
        · rw [if_pos (by omega)]
          have g0 : g = 0 := by rw [eg, if_neg (by omega)]
          rw [g0]
          exact al_133 (by omega) (.inl rfl) σ
        · rw [if_neg (by omega)]
          have g0 : g = 1 := by rw [eg, if_pos ⟨by omega, by omega⟩]
          rw [g0]
          exact al_133 (by omega) (.inr rfl) σ
    obtain ⟨σ1, e1⟩ : ∃ σ1, σ1 = ua (ua (ua (ua (ua (ua σ 630 k g) 770 k g) 634 k ((k : Int) - 9)) 638 k (if k < 7 then 3 else 0)) 774 k (if k < 7 then 1 else 0)) 642 k (k : Int) := ⟨_, rfl⟩
    rw [← e1] at st
    have F1 : fr [] ALA σ σ1 := by
      rw [e1]
      exact fr_ua (fr_ua (fr_ua (fr_ua (fr_ua (fr_ua (fr_refl _ _ _) (by decide)) (by decide)) (by decide)) (by decide)) (by decide)) (by decide)
    obtain ⟨τ, a1, a2, a3⟩ := t_al104 d (k + 1) σ1 (by omega) (fun j hj => by
      rw [e1]
      by_cases c : j = k
      · rw [c]
        refine ⟨?_, ?_, ?_, ?_, ?_, ?_⟩ <;> simp only [ga_ua] <;> simp [eg]
      · obtain ⟨h1, h2, h3, h4, h5, h6⟩ := H j (by omega)
        refine ⟨?_, ?_, ?_, ?_, ?_, ?_⟩ <;> simp only [ga_ua, c, and_false, if_false] <;> assumption)
    exact ⟨τ, by rw [om_loop_in st]; exact a1, fr_trans F1 a2, a3⟩
theorem t_al230 : ∀ (d k : Nat) (σ : tS), k + d = 4096 → (∀ j, j < k → ga σ 526 j = -1) → ∃ τ, om_loop T_always_230s ((k : Int), σ) = some τ ∧ fr [] [526] σ τ ∧ ∀ j, j < 4096 → ga τ 526 j = -1
  | 0, k, σ, e, H => by
    have k0 : k = 4096 := by omega
    refine ⟨σ, om_loop_out ?_, fr_refl _ _ _, by rw [← k0]; exact H⟩
    unfold T_always_230s
    simp only
    rw [if_pos (by omega)]
  | d + 1, k, σ, e, H => by
    have st : T_always_230s ((k : Int), σ) = some (.inl (((k + 1 : Nat) : Int), ua σ 526 k (-1))) := by
      unfold T_always_230s
      simp only
      rw [if_neg (by omega), if_pos ⟨by omega, by omega⟩, show ((k : Int)).toNat = k by omega, w32_s (by omega) (by omega)]
      rfl
    obtain ⟨τ, a1, a2, a3⟩ := t_al230 d (k + 1) (ua σ 526 k (-1)) (by omega) (fun j hj => by
      rw [ga_ua]
      by_cases c : j = k
      · rw [if_pos ⟨rfl, c⟩]
      · rw [if_neg (fun z => c z.2)]
        exact H j (by omega))
    exact ⟨τ, by rw [om_loop_in st]; exact a1, fr_trans (fr_ua (fr_refl _ _ _) (by decide)) a2, a3⟩
/-- the table of types, of no family -/
def TyN (σ : tS) (n : Nat) : Prop := TyS σ n ∧ ∀ t, t < n → ga σ 502 t ≠ 2
theorem TyN_0 {σ : tS} (e : gs σ 532 = 0) (H : ∀ j, j < 4096 → ga σ 526 j = -1) : TyN σ 0 := by
  refine ⟨⟨⟨e, by omega, fun t ht => absurd ht (Nat.not_lt_zero _), fun t u ht => absurd ht (Nat.not_lt_zero _), fun hh h4 => ⟨[], H hh h4, fun t => ⟨fun w => absurd w List.not_mem_nil, fun w => absurd w.1 (Nat.not_lt_zero _)⟩⟩⟩, fun t ht => absurd ht (Nat.not_lt_zero _), fun t ht => absurd ht (Nat.not_lt_zero _)⟩, fun t ht => absurd ht (Nat.not_lt_zero _)⟩
theorem TyN_same {σ τ : tS} {n : Nat} (e : gs τ 532 = gs σ 532) (g : ∀ f ∈ TYA, ∀ i, ga τ f i = ga σ f i) (H : TyN σ n) : TyN τ n := ⟨TyS_same e g H.1, fun t ht => by rw [g 502 (by decide)]; exact H.2 t ht⟩
theorem t_getN {σ : tS} {n k w : Nat} {o u : Int} {l r : Ty} (H : TyN σ n) (hk : k ≤ 3 ∧ k ≠ 2) (ho : tyT σ n l o) (hu : tyT σ n r u) (hn : n < 126000) (sh : shZ (k : Int) (w : Int) o u) : ∃ (t : Int) (τ : tS) (n' : Nat), T_aType (k : Int) (w : Int) o u σ = some (t, τ) ∧ TyN τ n' ∧ tx σ n τ n' ∧ n' ≤ n + 1 ∧ tyT τ n' (tnd k w l r) t ∧ fr [532] TYA σ τ := by
  obtain ⟨t, τ, n', a1, a2, a3, a4, a5, a6, a7, _⟩ := t_get H.1 hk.1 ho hu hn sh
  refine ⟨t, τ, n', a1, ⟨a2, fun x hx => ?_⟩, a3, a4, a5, a6⟩
  by_cases c : x < n
  · rw [a3.2 502 (by decide) (by decide) x c]
    exact H.2 x c
  · rw [(a7 x hx c).1]
    omega
theorem ne_of_ty {σ : tS} {n k w : Nat} {l r : Ty} {t : Int} (c : tyT σ n (tnd k w l r) t) : t ≠ -1 := by
  obtain ⟨m, e, _⟩ := c
  omega
abbrev ALS : List Nat := [420, 496, 532, 860, 864, 868, 872]
abbrev ALR : List Nat := [490, 494, 878] ++ ALA ++ TYA
noncomputable def alN (σ : tS) : Option tS := (T_spell 7235948 (us (us σ 496 0) 420 40)).bind fun p1 => (T_spell 1668247155 p1).bind fun p2 => (T_spell 1885432178 p2).bind fun p3 => (T_spell 6714228 p3).bind fun p4 => (T_spell 7564900 p4).bind fun p5 => (T_spell 1953658213 p5).bind fun p6 => (T_spell 439721161573 p6).bind fun p7 => (T_spell 97 p7).bind fun p8 => (T_spell 98 p8).bind fun p9 => (T_spell 4812404 p9).bind fun p10 => (T_spell 1114599276 p10).bind fun p11 => (T_spell 1281979252 p11).bind fun p12 => T_spell 1348561266 p12
noncomputable def alT2 (y15 : tS) : Option tS := (T_aType 1 0 (-1) (-1) y15).bind fun p16 => (T_aType 1 1 (-1) (-1) (us p16.2 860 p16.1)).bind fun p17 => (T_aType 0 (gs p17.2 868) (-1) (-1) (us p17.2 864 p17.1)).bind fun p18 => (T_aType 0 (gs p18.2 872) (-1) (-1) p18.2).bind fun p19 => (T_aType 1 2 p18.1 (-1) p19.2).bind fun p20 => (T_aType 1 3 p18.1 p19.1 p20.2).bind fun p21 => (T_aType 3 0 p20.1 p20.1 (ua p21.2 878 0 p20.1)).bind fun p22 => (T_aType 3 0 p18.1 p22.1 p22.2).bind fun p23 => if 0 ≤ (1 : Int) ∧ (1 : Int) < 7 then ((T_aType 3 0 p19.1 p21.1 (ua p23.2 878 (1 : Int).toNat p23.1)).bind fun p24 => (T_aType 3 0 p18.1 p24.1 p24.2).bind fun p25 => if 0 ≤ (2 : Int) ∧ (2 : Int) < 7 then ((T_aType 3 0 p21.1 p18.1 (ua p25.2 878 (2 : Int).toNat p25.1)).bind fun p26 => if 0 ≤ (3 : Int) ∧ (3 : Int) < 7 then ((T_aType 3 0 p21.1 p19.1 (ua p26.2 878 (3 : Int).toNat p26.1)).bind fun p27 => if 0 ≤ (4 : Int) ∧ (4 : Int) < 7 then some (ua (ua (ua p27.2 878 (4 : Int).toNat p27.1) 878 5 (gs p27.2 864)) 878 6 (gs p27.2 864)) else none) else none) else none) else none
noncomputable def alT (p13 : tS) : Option tS := (om_loop (T_always_104s) (0, p13)).bind fun y14 => (om_loop (T_always_230s) (0, us (us (us y14 868 7) 872 8) 532 0)).bind fun y15 => alT2 y15
theorem al_eq (σ : tS) : T_always σ = (alN σ).bind fun p => alT p := by
  unfold T_always alN alT alT2
  simp only [Option.bind_assoc]
/-- thirteen names -/
theorem t_alN (σ : tS) : ∃ p, alN σ = some p ∧ NT p Nal ∧ fr [420, 496] [490, 494] σ p := by
  have N0 : NT (us (us σ 496 0) 420 40) [] := ⟨rfl, by decide, fun k w e => by simp at e, List.nodup_nil⟩
  obtain ⟨p1, a1, N1, F1⟩ := t_spell (l1 := 7235948) (L := [110, 105, 108]) N0 (by decide) (by decide +kernel) (by decide)
  obtain ⟨p2, a2, N2, F2⟩ := t_spell (l1 := 1668247155) (L := [99, 111, 110, 115]) N1 (by decide) (by decide +kernel) (by decide)
  obtain ⟨p3, a3, N3, F3⟩ := t_spell (l1 := 1885432178) (L := [112, 97, 105, 114]) N2 (by decide) (by decide +kernel) (by decide)
  obtain ⟨p4, a4, N4, F4⟩ := t_spell (l1 := 6714228) (L := [102, 115, 116]) N3 (by decide) (by decide +kernel) (by decide)
  obtain ⟨p5, a5, N5, F5⟩ := t_spell (l1 := 7564900) (L := [115, 110, 100]) N4 (by decide) (by decide +kernel) (by decide)
  obtain ⟨p6, a6, N6, F6⟩ := t_spell (l1 := 1953658213) (L := [116, 114, 117, 101]) N5 (by decide) (by decide +kernel) (by decide)
  obtain ⟨p7, a7, N7, F7⟩ := t_spell (l1 := 439721161573) (L := [102, 97, 108, 115, 101]) N6 (by decide) (by decide +kernel) (by decide)
  obtain ⟨p8, a8, N8, F8⟩ := t_spell (l1 := 97) (L := [97]) N7 (by decide) (by decide +kernel) (by decide)
  obtain ⟨p9, a9, N9, F9⟩ := t_spell (l1 := 98) (L := [98]) N8 (by decide) (by decide +kernel) (by decide)
  obtain ⟨p10, a10, N10, F10⟩ := t_spell (l1 := 4812404) (L := [73, 110, 116]) N9 (by decide) (by decide +kernel) (by decide)
  obtain ⟨p11, a11, N11, F11⟩ := t_spell (l1 := 1114599276) (L := [66, 111, 111, 108]) N10 (by decide) (by decide +kernel) (by decide)
  obtain ⟨p12, a12, N12, F12⟩ := t_spell (l1 := 1281979252) (L := [76, 105, 115, 116]) N11 (by decide) (by decide +kernel) (by decide)
  obtain ⟨p13, a13, N13, F13⟩ := t_spell (l1 := 1348561266) (L := [80, 97, 105, 114]) N12 (by decide) (by decide +kernel) (by decide)
  refine ⟨p13, ?_, N13, fr_trans (fr_us (fr_us (fr_refl _ _ _) (by decide)) (by decide)) (fr_mono (fr_trans (fr_trans (fr_trans (fr_trans (fr_trans (fr_trans (fr_trans (fr_trans (fr_trans (fr_trans (fr_trans (fr_trans F1 F2) F3) F4) F5) F6) F7) F8) F9) F10) F11) F12) F13) (by decide) (by decide))⟩
  unfold alN
  rw [a1, Option.bind_some, a2, Option.bind_some, a3, Option.bind_some, a4, Option.bind_some, a5, Option.bind_some, a6, Option.bind_some, a7, Option.bind_some, a8, Option.bind_some, a9, Option.bind_some, a10, Option.bind_some, a11, Option.bind_some, a12, Option.bind_some, a13]
theorem TyN_u {σ : tS} {n : Nat} {i : Nat} {x : Int} (H : TyN σ n) : TyN (ua σ 878 i x) n ∧ tx σ n (ua σ 878 i x) n := by
  have e : ∀ f ∈ TYA, ∀ j, ga (ua σ 878 i x) f j = ga σ f j := fun f hf j => by
    rw [ga_ua, if_neg (fun z => absurd hf (by rw [z.1]; decide))]
  exact ⟨TyN_same (σ := σ) rfl e H, tx_same e⟩
theorem TyN_s {σ : tS} {n f : Nat} {x : Int} (hf : f ≠ 532) (H : TyN σ n) : TyN (us σ f x) n := TyN_same (σ := σ) (by rw [gs_us, if_neg (fun z => hf z.symm)]) (fun _ _ _ => rfl) H
abbrev ATS : List Nat := [532, 860, 864]
abbrev ATA : List Nat := 878 :: TYA
set_option maxHeartbeats 1000000 in
/-- types that are there always -/
theorem t_alT {y15 : tS} (T0 : TyN y15 0) (q868 : gs y15 868 = 7) (q872 : gs y15 872 = 8) : ∃ (τ : tS) (n : Nat), alT2 y15 = some τ ∧ TyN τ n ∧ n ≤ 12 ∧ BTy τ n ∧ fr ATS ATA y15 τ := by
  have lf : ∀ (σ : tS) (n : Nat), tyT σ n .leaf (-1) := fun _ _ => rfl
  have mG : ∀ {α β : tS}, fr [532] TYA α β → fr ATS ATA α β := fun A => fr_mono A (by decide) (by decide)
  obtain ⟨ti, g1, m1, d1, T1, X1, l1, ci, G1⟩ := t_getN (k := 1) (w := 0) T0 (by decide) (lf _ _) (lf _ _) (by omega) (by unfold shZ; omega)
  obtain ⟨tb, g2, m2, d2, T2, X2, l2, cb, G2⟩ := t_getN (k := 1) (w := 1) (TyN_s (f := 860) (x := ti) (by decide) T1) (by decide) (lf _ _) (lf _ _) (by omega) (by unfold shZ; omega)
  have ci2 : tyT g2 m2 tInt ti := tyT_mono X2 ci
  have s868 : gs g2 868 = 7 := by
    rw [G2.1 868 (by decide), gs_us, if_neg (by decide), G1.1 868 (by decide)]
    exact q868
  have s872 : gs g2 872 = 8 := by
    rw [G2.1 872 (by decide), gs_us, if_neg (by decide), G1.1 872 (by decide)]
    exact q872
  have s860 : gs g2 860 = ti := by rw [G2.1 860 (by decide), gs_us, if_pos rfl]
  have F2 : fr ATS ATA y15 (us g2 864 tb) := fr_us (fr_trans (fr_us (mG G1) (by decide)) (mG G2)) (by decide)
  obtain ⟨g2', eg2⟩ : ∃ g2', g2' = us g2 864 tb := ⟨_, rfl⟩
  have T2' : TyN g2' m2 := by rw [eg2]; exact TyN_s (by decide) T2
  have ci2' : tyT g2' m2 tInt ti := by rw [eg2]; exact ci2
  have cb2' : tyT g2' m2 tBool tb := by rw [eg2]; exact cb
  have h868 : gs g2' 868 = 7 := by rw [eg2, gs_us, if_neg (by decide)]; exact s868
  have h872 : gs g2' 872 = 8 := by rw [eg2, gs_us, if_neg (by decide)]; exact s872
  have h860 : gs g2' 860 = ti := by rw [eg2, gs_us, if_neg (by decide)]; exact s860
  have h864 : gs g2' 864 = tb := by rw [eg2, gs_us, if_pos rfl]
  rw [← eg2] at F2
  obtain ⟨ta, g3, m3, d3, T3, X3, l3, ca, G3⟩ := t_getN (k := 0) (w := 7) T2' (by decide) (lf _ _) (lf _ _) (by omega) (by unfold shZ; omega)
  obtain ⟨tB, g4, m4, d4, T4, X4, l4, cB, G4⟩ := t_getN (k := 0) (w := 8) T3 (by decide) (lf _ _) (lf _ _) (by omega) (by unfold shZ; omega)
  have ca4 := tyT_mono X4 ca
  have na := ne_of_ty ca
  have nB := ne_of_ty cB
  obtain ⟨tl', g5, m5, d5, T5, X5, l5, cl, G5⟩ := t_getN (k := 1) (w := 2) T4 (by decide) ca4 (lf _ _) (by omega) (by unfold shZ; omega)
  obtain ⟨tp, g6, m6, d6, T6, X6, l6, cp, G6⟩ := t_getN (k := 1) (w := 3) T5 (by decide) (tyT_mono X5 ca4) (tyT_mono X5 cB) (by omega) (by unfold shZ; omega)
  have nl := ne_of_ty cl
  have np := ne_of_ty cp
  have U6 := TyN_u (i := 0) (x := tl') T6
  obtain ⟨g6', e6⟩ : ∃ g, g = ua g6 878 0 tl' := ⟨_, rfl⟩
  rw [← e6] at U6
  have X36 : tx g3 m3 g6' m6 := tx_trans X4 (tx_trans X5 (tx_trans X6 U6.2))
  have X46 : tx g4 m4 g6' m6 := tx_trans X5 (tx_trans X6 U6.2)
  have ca6 := tyT_mono X36 ca
  have cB6 := tyT_mono X46 cB
  have cl6 : tyT g6' m6 (tnd 1 2 (tNm 7) .leaf) tl' := tyT_mono (tx_trans X6 U6.2) cl
  have cp6 : tyT g6' m6 (tnd 1 3 (tNm 7) (tNm 8)) tp := tyT_mono U6.2 cp
  obtain ⟨t7, g7, m7, d7, T7, X7, l7, c7, G7⟩ := t_getN (k := 3) (w := 0) U6.1 (by decide) cl6 cl6 (by omega) (by unfold shZ; omega)
  have n7 := ne_of_ty c7
  obtain ⟨t8, g8, m8, d8, T8, X8, l8, c8, G8⟩ := t_getN (k := 3) (w := 0) T7 (by decide) (tyT_mono X7 ca6) c7 (by omega) (by unfold shZ; omega)
  have U8 := TyN_u (i := 1) (x := t8) T8
  obtain ⟨g8', e8⟩ : ∃ g, g = ua g8 878 1 t8 := ⟨_, rfl⟩
  rw [← e8] at U8
  have X68 : tx g6' m6 g8' m8 := tx_trans X7 (tx_trans X8 U8.2)
  obtain ⟨t9, g9, m9, d9, T9, X9, l9, c9, G9⟩ := t_getN (k := 3) (w := 0) U8.1 (by decide) (tyT_mono X68 cB6) (tyT_mono X68 cp6) (by omega) (by unfold shZ; omega)
  have n9 := ne_of_ty c9
  obtain ⟨t10, g10, m10, d10, T10, X10, l10, c10, G10⟩ := t_getN (k := 3) (w := 0) T9 (by decide) (tyT_mono X9 (tyT_mono X68 ca6)) c9 (by omega) (by unfold shZ; omega)
  have U10 := TyN_u (i := 2) (x := t10) T10
  obtain ⟨g10', e10⟩ : ∃ g, g = ua g10 878 2 t10 := ⟨_, rfl⟩
  rw [← e10] at U10
  have X610 : tx g6' m6 g10' m10 := tx_trans X68 (tx_trans X9 (tx_trans X10 U10.2))
  obtain ⟨t11, g11, m11, d11, T11, X11, l11, c11, G11⟩ := t_getN (k := 3) (w := 0) U10.1 (by decide) (tyT_mono X610 cp6) (tyT_mono X610 ca6) (by omega) (by unfold shZ; omega)
  have U11 := TyN_u (i := 3) (x := t11) T11
  obtain ⟨g11', e11⟩ : ∃ g, g = ua g11 878 3 t11 := ⟨_, rfl⟩
  rw [← e11] at U11
  have X611 : tx g6' m6 g11' m11 := tx_trans X610 (tx_trans X11 U11.2)
  obtain ⟨t12, g12, m12, d12, T12, X12, l12, c12, G12⟩ := t_getN (k := 3) (w := 0) U11.1 (by decide) (tyT_mono X611 cp6) (tyT_mono X611 cB6) (by omega) (by unfold shZ; omega)
  -- scalars
  have sg : ∀ f, f ≠ 532 → gs g12 f = gs g2' f := fun f n1 => by
    have k : f ∉ [532] := by simp [n1]
    rw [G12.1 f k, e11, gs_ua, G11.1 f k, e10, gs_ua, G10.1 f k, G9.1 f k, e8, gs_ua, G8.1 f k, G7.1 f k, e6, gs_ua, G6.1 f k, G5.1 f k, G4.1 f k, G3.1 f k]
  have g864 : gs g12 864 = tb := by rw [sg 864 (by decide)]; exact h864
  have k878 : (878 : Nat) ∉ TYA := by decide
  have w3 : ga g12 878 3 = t11 := by rw [G12.2 878 k878, e11, ga_ua, if_pos ⟨rfl, rfl⟩]
  have w2 : ga g12 878 2 = t10 := by rw [G12.2 878 k878, e11, ga_ua, if_neg (by simp), G11.2 878 k878, e10, ga_ua, if_pos ⟨rfl, rfl⟩]
  have w1 : ga g12 878 1 = t8 := by rw [G12.2 878 k878, e11, ga_ua, if_neg (by simp), G11.2 878 k878, e10, ga_ua, if_neg (by simp), G10.2 878 k878, G9.2 878 k878, e8, ga_ua, if_pos ⟨rfl, rfl⟩]
  have w0 : ga g12 878 0 = tl' := by rw [G12.2 878 k878, e11, ga_ua, if_neg (by simp), G11.2 878 k878, e10, ga_ua, if_neg (by simp), G10.2 878 k878, G9.2 878 k878, e8, ga_ua, if_neg (by simp), G8.2 878 k878, G7.2 878 k878, e6, ga_ua, if_pos ⟨rfl, rfl⟩]
  have F12 : fr ATS ATA y15 g12 := by
    refine fr_trans F2 (fr_trans (mG G3) (fr_trans (mG G4) (fr_trans (mG G5) (fr_trans (mG G6) (fr_trans (by rw [e6]; exact fr_ua (fr_refl _ _ g6) (by decide)) (fr_trans (mG G7) (fr_trans (mG G8) (fr_trans (by rw [e8]; exact fr_ua (fr_refl _ _ g8) (by decide)) (fr_trans (mG G9) (fr_trans (mG G10) (fr_trans (by rw [e10]; exact fr_ua (fr_refl _ _ g10) (by decide)) (fr_trans (mG G11) (fr_trans (by rw [e11]; exact fr_ua (fr_refl _ _ g11) (by decide)) (mG G12))))))))))))))
  obtain ⟨τ, eτ⟩ : ∃ τ, τ = ua (ua (ua g12 878 4 t12) 878 5 (gs g12 864)) 878 6 (gs g12 864) := ⟨_, rfl⟩
  have UA := TyN_u (i := 4) (x := t12) T12
  have UB := TyN_u (i := 5) (x := gs g12 864) UA.1
  have UC := TyN_u (i := 6) (x := gs g12 864) UB.1
  have Xτ : tx g12 m12 τ m12 := by rw [eτ]; exact tx_trans UA.2 (tx_trans UB.2 UC.2)
  have X6τ : tx g6' m6 τ m12 := tx_trans X611 (tx_trans X12 Xτ)
  have X2τ : tx g2' m2 τ m12 := tx_trans X3 (tx_trans X36 X6τ)
  have Sτ : ∀ f, f ≠ 532 → gs τ f = gs g2' f := fun f n1 => by rw [eτ, gs_ua, gs_ua, gs_ua, sg f n1]
  have w4 : ga τ 878 4 = t12 := by rw [eτ, ga_ua, if_neg (by simp), ga_ua, if_neg (by simp), ga_ua, if_pos ⟨rfl, rfl⟩]
  have w5 : ga τ 878 5 = tb := by rw [eτ, ga_ua, if_neg (by simp), ga_ua, if_pos ⟨rfl, rfl⟩]; exact g864
  have w6 : ga τ 878 6 = tb := by rw [eτ, ga_ua, if_pos ⟨rfl, rfl⟩]; exact g864
  have lo : ∀ j, j < 4 → ga τ 878 j = ga g12 878 j := fun j hj => by
    rw [eτ, ga_ua, if_neg (by omega), ga_ua, if_neg (by omega), ga_ua, if_neg (by omega)]
  have cbτ : tyT τ m12 tBool tb := tyT_mono X2τ cb2'
  refine ⟨τ, m12, ?_, by rw [eτ]; exact UC.1, by omega, ⟨⟨7, 8, by decide, by rw [Sτ 868 (by decide)]; exact h868, by rw [Sτ 872 (by decide)]; exact h872, fun k hk => ?_⟩, ?_, ?_⟩, ?_⟩
  · have d1' : T_aType 1 0 (-1) (-1) y15 = some (ti, g1) := d1
    have d2' : T_aType 1 1 (-1) (-1) (us g1 860 ti) = some (tb, g2) := d2
    have d3' : T_aType 0 7 (-1) (-1) g2' = some (ta, g3) := d3
    have d4' : T_aType 0 8 (-1) (-1) g3 = some (tB, g4) := d4
    have d5' : T_aType 1 2 ta (-1) g4 = some (tl', g5) := d5
    have d6' : T_aType 1 3 ta tB g5 = some (tp, g6) := d6
    have d7' : T_aType 3 0 tl' tl' g6' = some (t7, g7) := d7
    have d8' : T_aType 3 0 ta t7 g7 = some (t8, g8) := d8
    have d9' : T_aType 3 0 tB tp g8' = some (t9, g9) := d9
    have d10' : T_aType 3 0 ta t9 g9 = some (t10, g10) := d10
    have d11' : T_aType 3 0 tp ta g10' = some (t11, g11) := d11
    have d12' : T_aType 3 0 tp tB g11' = some (t12, g12) := d12
    have q3 : gs g3 872 = 8 := by rw [G3.1 872 (by decide)]; exact h872
    unfold alT2
    rw [d1', Option.bind_some]
    simp only
    rw [d2', Option.bind_some]
    simp only
    rw [s868, ← eg2, d3', Option.bind_some]
    simp only
    rw [q3, d4', Option.bind_some]
    simp only
    rw [d5', Option.bind_some]
    simp only
    rw [d6', Option.bind_some]
    simp only
    rw [← e6, d7', Option.bind_some]
    simp only
    rw [d8', Option.bind_some]
    simp only
    rw [if_pos (by decide), show ((1 : Int)).toNat = 1 from rfl, ← e8, d9', Option.bind_some]
    simp only
    rw [d10', Option.bind_some]
    simp only
    rw [if_pos (by decide), show ((2 : Int)).toNat = 2 from rfl, ← e10, d11', Option.bind_some]
    simp only
    rw [if_pos (by decide), show ((3 : Int)).toNat = 3 from rfl, ← e11, d12', Option.bind_some]
    simp only
    rw [if_pos (by decide), show ((4 : Int)).toNat = 4 from rfl, eτ]
  · have k7 : k = 0 ∨ k = 1 ∨ k = 2 ∨ k = 3 ∨ k = 4 ∨ k = 5 ∨ k = 6 := by omega
    rcases k7 with w | w | w | w | w | w | w
    · rw [w, lo 0 (by decide), w0]
      exact tyT_mono X6τ cl6
    · rw [w, lo 1 (by decide), w1]
      exact tyT_mono (tx_trans U8.2 (tx_trans X9 (tx_trans X10 (tx_trans U10.2 (tx_trans X11 (tx_trans U11.2 (tx_trans X12 Xτ))))))) c8
    · rw [w, lo 2 (by decide), w2]
      exact tyT_mono (tx_trans U10.2 (tx_trans X11 (tx_trans U11.2 (tx_trans X12 Xτ)))) c10
    · rw [w, lo 3 (by decide), w3]
      exact tyT_mono (tx_trans U11.2 (tx_trans X12 Xτ)) c11
    · rw [w, w4]
      exact tyT_mono Xτ c12
    · rw [w, w5]
      exact cbτ
    · rw [w, w6]
      exact cbτ
  · rw [Sτ 860 (by decide), h860]
    exact tyT_mono X2τ ci2'
  · rw [Sτ 864 (by decide), h864]
    exact cbτ
  · rw [eτ]
    exact fr_ua (fr_ua (fr_ua F12 (by decide)) (by decide)) (by decide)
/-- WHAT IS THERE ALWAYS -/
theorem t_always (σ : tS) : ∃ (τ : tS) (n : Nat), T_always σ = some τ ∧ NT τ Nal ∧ alS 2100 τ ∧ TyN τ n ∧ n ≤ 12 ∧ BTy τ n ∧ fr ALS ALR σ τ := by
  obtain ⟨p, a1, a2, a3⟩ := t_alN σ
  obtain ⟨y14, b1, b2, b3⟩ := t_al104 2100 0 p (by omega) (fun j hj => absurd hj (Nat.not_lt_zero _))
  obtain ⟨q0, eq0⟩ : ∃ q0, q0 = us (us (us y14 868 7) 872 8) 532 0 := ⟨_, rfl⟩
  obtain ⟨y15, c1, c2, c3⟩ := t_al230 4096 0 q0 (by omega) (fun j hj => absurd hj (Nat.not_lt_zero _))
  have T0 : TyN y15 0 := TyN_0 (by rw [c2.1 532 (by decide), eq0, gs_us, if_pos rfl]) c3
  obtain ⟨τ, n, d1, d2, d3, d4, d5⟩ := t_alT T0 (by rw [c2.1 868 (by decide), eq0, gs_us, if_neg (by decide), gs_us, if_neg (by decide), gs_us, if_pos rfl]) (by rw [c2.1 872 (by decide), eq0, gs_us, if_neg (by decide), gs_us, if_pos rfl])
  have Fq : fr [868, 872, 532] [] y14 q0 := by rw [eq0]; exact fr_us (fr_us (fr_us (fr_refl _ _ _) (by decide)) (by decide)) (by decide)
  have aq : ∀ f, f ∉ ATA → f ∉ [526] → ∀ i, ga τ f i = ga y14 f i := fun f h1 h2 i => by rw [d5.2 f h1, c2.2 f h2, Fq.2 f List.not_mem_nil]
  refine ⟨τ, n, ?_, ?_, fun j hj => ?_, d2, d3, d4, fr_trans (fr_mono a3 (by decide) (by decide)) (fr_trans (fr_mono b2 (by decide) (by decide)) (fr_trans (fr_mono Fq (by decide) (by decide)) (fr_trans (fr_mono c2 (by decide) (by decide)) (fr_mono d5 (by decide) (by decide)))))⟩
  · rw [al_eq, a1, Option.bind_some]
    unfold alT
    have b1' : om_loop T_always_104s (0, p) = some y14 := b1
    have c1' : om_loop T_always_230s (0, us (us (us y14 868 7) 872 8) 532 0) = some y15 := by rw [← eq0]; exact c1
    rw [b1', Option.bind_some, c1', Option.bind_some]
    exact d1
  · have an : ∀ f ∈ [490, 494], ∀ i, ga τ f i = ga p f i := fun f hf i => by
      rw [aq f ((by decide : ∀ f ∈ [490, 494], f ∉ ATA) f hf) ((by decide : ∀ f ∈ [490, 494], f ∉ [526]) f hf), b2.2 f ((by decide : ∀ f ∈ [490, 494], f ∉ ALA) f hf)]
    refine ⟨by rw [d5.1 496 (by decide), c2.1 496 (by decide), Fq.1 496 (by decide), b2.1 496 (by decide)]; exact a2.1, a2.2.1, fun k w e => ?_, a2.2.2.2⟩
    obtain ⟨w1, w2, w3⟩ := a2.2.2.1 k w e
    exact ⟨by rw [an 494 (by decide)]; exact w1, w2, fun i x ex => by rw [an 490 (by decide)]; exact w3 i x ex⟩
  · have y : ∀ f ∈ ALA, ga τ f j = ga y14 f j := fun f hf => aq f ((by decide : ∀ f ∈ ALA, f ∉ ATA) f hf) ((by decide : ∀ f ∈ ALA, f ∉ [526]) f hf) j
    rw [y 630 (by decide), y 770 (by decide), y 634 (by decide), y 638 (by decide), y 774 (by decide), y 642 (by decide)]
    exact b3 j hj
