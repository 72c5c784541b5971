set_option maxRecDepth 100000
/-! THE TWIN'S MACHINE: a name, as pnm says -/
theorem rem32_4 {a : Nat} (ha : a ≤ 2147483647) : rem32 (a : Int) 4 = ((a % 4 : Nat) : Int) := by
  unfold rem32
  have e1 : (Int32.ofInt (a : Int)).toInt = (a : Int) := w32_s (by omega) (by omega)
  have e2 : (Int32.ofInt 4).toInt = 4 := by decide
  have e3 : (Int32.ofInt (a : Int) / Int32.ofInt 4).toInt = (a : Int) / 4 := by
    rw [Int32.toInt_div, e1, e2, Int.tdiv_eq_ediv_of_nonneg (by omega)]
    exact bmod32 (by omega) (by omega)
  rw [Int32.toInt_sub, Int32.toInt_mul, e1, e2, e3, bmod32 (x := (a : Int) / 4 * 4) (by omega) (by omega), bmod32 (by omega) (by omega)]
  omega
section LTS
variable {M : MPg} {B : MBd} {rg : Nat → Nat × Nat} {σ0 σ τ Z : tS} {n : Nat}
/-- the givens of a function's name -/
theorem nm_gv1 (S : MtS σ0 n M rg B) {o v : Nat} {e : Et} {f : List Nat × List GVs × Ty} (hcd : cdN σ0 n M rg o e (v : Int)) (h10 : eTg e = 10) (k1 : (eLb e).2.1 = 1) (ef : M.1[(eLb e).2.2.1]? = some f) : (eEv e).length = f.2.1.length ∧ f.2.1.length ≤ 4 ∧ (∀ g, g < f.2.1.length → ∃ z, gvOf M o (QN σ0 n) (eLb e) (eEv e) g z) ∧ gMn M σ0 (eLb e) f.2.1.length ∧ ∀ gg ∈ f.2.1, ∃ T, lkT (f.1.zip ((eLb e).2.2.2.2.2.map Prod.fst)) gg.2.1 = some T := by
  obtain ⟨⟨lo, hi, v42, h42, _, _, ⟨⟨k, a4, a5, a6, a7⟩, a8, os, a9, a10, a11⟩, _⟩, hK, how, hats⟩ := cd_10 hcd h10
  obtain ⟨⟨DP, mp, jt, n9, n904⟩, _, hO, _⟩ := S
  obtain ⟨J, hgl⟩ := hO o how
  have fm := List.mem_of_getElem? ef
  obtain ⟨⟨j1, j2, _⟩, ⟨j3, j4, j5⟩, _⟩ := jt.2.1.2 _ f ef
  have fl : (eLb e).2.2.1 < 24 := by
    have := (List.getElem?_eq_some_iff.mp ef).1
    have := DP.2.2.2.1
    omega
  have gk : gvK (eW M o) (QN σ0 n) (f.1.zip ((eLb e).2.2.2.2.2.map Prod.fst)) f.2.1 (eEv e) ∧ (eLb e).2.2.2.2.2.length = f.1.length := by
    rcases hK with ⟨w, _⟩ | ⟨_, hl, ⟨_, f', ef', gk⟩ | ⟨w, _⟩ | ⟨w, _⟩⟩
    · omega
    · have eff : f' = f := Option.some.inj (ef'.symm.trans ef)
      rw [eff] at gk
      refine ⟨gk, ?_⟩
      rw [hl]
      unfold jnN
      rw [if_pos k1]
      show (M.1[(eLb e).2.2.1]?).elim 0 _ = _
      rw [ef]; rfl
    · omega
    · exact absurd k1 w
  obtain ⟨gk, hl⟩ := gk
  obtain ⟨g1, g2⟩ := gvK_at gk
  have lk : ∀ gg ∈ f.2.1, ∃ T, lkT (f.1.zip ((eLb e).2.2.2.2.2.map Prod.fst)) gg.2.1 = some T ∧ T ∈ (eLb e).2.2.2.2.2.map Prod.fst := fun gg hg => lkT_zip ((J.2.1 f fm).2.2 gg hg).1 (by rw [List.length_map, hl]; exact Nat.le_refl _)
  have eg : ∀ g gg, f.2.1[g]? = some gg → gTy M (eLb e) g = some (if gg.1 < 100 then some (gg.1, (lkT (f.1.zip ((eLb e).2.2.2.2.2.map Prod.fst)) gg.2.1).getD .leaf) else none) := fun g gg e1 => by
    unfold gTy
    rw [if_pos k1, ef, Option.bind_some, e1]; rfl
  refine ⟨g1, j4, fun g hg => ?_, ⟨⟨?_, a7, ?_⟩, .inl ⟨k1, ?_, fl, j3, fun g c T e1 => ?_⟩⟩, fun gg hg => by obtain ⟨T, t1, _⟩ := lk gg hg; exact ⟨T, t1⟩⟩
  · have e1 : f.2.1[g]? = some (f.2.1[g]) := List.getElem?_eq_getElem hg
    generalize f.2.1[g] = gg at e1
    obtain ⟨D, d1, d2, d3⟩ := g2 g gg e1
    refine ⟨_, eg g gg e1, D, d1, fun w => ?_, fun c T w => ?_⟩
    · by_cases c : gg.1 < 100
      · rw [if_pos c] at w; cases w
      · rw [(d3 (by omega)).1]; rfl
    · by_cases c' : gg.1 < 100
      · rw [if_pos c'] at w
        injection Option.some.inj w with w1 w2
        obtain ⟨q1, q2⟩ := d2 c'
        obtain ⟨T', t1, t2⟩ := lk gg (List.mem_of_getElem? e1)
        have eT : (lkT (f.1.zip ((eLb e).2.2.2.2.2.map Prod.fst)) gg.2.1).getD .leaf = T' := by rw [t1]; rfl
        rw [eT] at q1 q2 w2
        rw [← w1, ← w2]
        obtain ⟨p, p1, p2⟩ := List.mem_map.mp t2
        have ho := hats p p1
        rw [p2] at ho
        refine ⟨?_, q1, q2, ho.1, ho.2⟩
        obtain ⟨t', a', u', l', eD⟩ := dcT_nx q1
        obtain ⟨vv, ss, _, cc | cc⟩ := dcT_cs (f := 69) q1
        · obtain ⟨_, _, _, _, _, _, _, _, _, _, _, _, eD'⟩ := cc
          rw [eD']
          show (0 : Nat) ≠ 2
          decide
        · obtain ⟨_, _, _, _, _, _, _, _, _, _, _, _, eD'⟩ := cc
          rw [eD']
          show (1 : Nat) ≠ 2
          decide
      · rw [if_neg c'] at w; cases w
  · rcases a8 with ⟨w, _⟩ | ⟨_, _, _, ⟨_, w⟩ | ⟨w, _⟩ | ⟨w, _⟩⟩
    · omega
    · omega
    · omega
    · omega
  · rcases a8 with ⟨w, _⟩ | ⟨_, _, w, _⟩
    · omega
    · exact w
  · rcases a8 with ⟨w, _⟩ | ⟨_, _, _, ⟨_, w⟩ | ⟨w, _⟩ | ⟨w, _⟩⟩
    · omega
    · exact w
    · omega
    · omega
  · have e2 := e1
    unfold gTy at e2
    rw [if_pos k1, ef, Option.bind_some] at e2
    obtain ⟨gg, egg, e3⟩ := Option.map_eq_some_iff.mp e2
    by_cases c' : gg.1 < 100
    · rw [if_pos c'] at e3
      injection Option.some.inj e3 with w1 w2
      rw [← w1]
      exact (j5 g gg egg).1
    · rw [if_neg c'] at e3; cases e3
/-- the given of a method's name -/
theorem nm_gv2 (S : MtS σ0 n M rg B) {o v : Nat} {e : Et} {mm : Nat × Nat × Ty} (hcd : cdN σ0 n M rg o e (v : Int)) (h10 : eTg e = 10) (k2 : (eLb e).2.1 = 2) (em : M.2.1[(eLb e).2.2.1]? = some (some mm)) : (eEv e).length = 1 ∧ (∀ g, g < 1 → ∃ z, gvOf M o (QN σ0 n) (eLb e) (eEv e) g z) ∧ gMn M σ0 (eLb e) 1 ∧ gTy M (eLb e) 0 = some (some (mm.1, ((eLb e).2.2.2.2.2.map Prod.fst)[0]?.getD .leaf)) ∧ (eLb e).2.2.1 < 32 ∧ mm.1 = (eLb e).2.2.1 / 4 := by
  obtain ⟨⟨lo, hi, v42, h42, _, _, ⟨⟨k, a4, a5, a6, a7⟩, a8, os, a9, a10, a11⟩, _⟩, hK, how, hats⟩ := cd_10 hcd h10
  obtain ⟨⟨DP, mp, jt, n9, n904⟩, _, hO, _⟩ := S
  obtain ⟨m1, m2, m3⟩ := jt.2.2.1.2 _ mm em
  have ml : (eLb e).2.2.1 < 32 := by
    have l1 := (List.getElem?_eq_some_iff.mp em).1
    have l2 : M.2.1.length ≤ 32 := jt.2.2.1.1
    omega
  have gT : gTy M (eLb e) 0 = some (some (mm.1, ((eLb e).2.2.2.2.2.map Prod.fst)[0]?.getD .leaf)) := by
    unfold gTy
    rw [if_neg (by omega), if_pos ⟨k2, rfl⟩, em]; rfl
  have kk : ∃ D, eEv e = [D] ∧ dcT M.2.2.1 M.2.2.2 (gvW M o) 70 mm.1 (((eLb e).2.2.2.2.2.map Prod.fst)[0]?.getD .leaf) = some D ∧ dcK M.2.2.1 M.2.2.2 (gvW M o) (QN σ0 n) 70 mm.1 (((eLb e).2.2.2.2.2.map Prod.fst)[0]?.getD .leaf) ∧ (eLb e).2.2.2.2.2.length = 1 := by
    rcases hK with ⟨w, _⟩ | ⟨_, hl, ⟨w, _⟩ | ⟨_, m', D, em', d1, d2, d3⟩ | ⟨_, w, _⟩⟩
    · omega
    · omega
    · have emm : m' = mm := Option.some.inj (Option.some.inj (em'.symm.trans em))
      rw [emm] at d2 d3
      refine ⟨D, d1, d2, d3, ?_⟩
      rw [hl]
      unfold jnN
      rw [if_neg (by omega), if_pos k2]
    · exact absurd k2 w
  obtain ⟨D, d1, d2, d3, d4⟩ := kk
  obtain ⟨⟨T0, pa⟩, ea⟩ := List.length_eq_one_iff.mp d4
  have e0 : ((eLb e).2.2.2.2.2.map Prod.fst)[0]?.getD .leaf = T0 := by rw [ea]; rfl
  have ho := hats (T0, pa) (by rw [ea]; exact List.mem_singleton.mpr rfl)
  refine ⟨by rw [d1]; rfl, fun g hg => ?_, ⟨⟨?_, a7, ?_⟩, .inr ⟨k2, ?_, ml, rfl, fun g c T e1 => ?_⟩⟩, gT, ml, m1⟩
  · have g0 : g = 0 := by omega
    subst g0
    refine ⟨_, gT, D, by rw [d1]; rfl, fun w => (by cases w), fun c T w => ?_⟩
    injection Option.some.inj w with w1 w2
    rw [← w1, ← w2]
    refine ⟨?_, d2, d3, by rw [e0]; exact ho.1, by rw [e0]; exact ho.2⟩
    obtain ⟨vv, ss, _, cc | cc⟩ := dcT_cs (f := 69) d2
    · obtain ⟨_, _, _, _, _, _, _, _, _, _, _, _, eD'⟩ := cc
      rw [eD']
      show (0 : Nat) ≠ 2
      decide
    · obtain ⟨_, _, _, _, _, _, _, _, _, _, _, _, eD'⟩ := cc
      rw [eD']
      show (1 : Nat) ≠ 2
      decide
  · rcases a8 with ⟨w, _⟩ | ⟨_, _, _, ⟨w, _⟩ | ⟨_, w⟩ | ⟨w, _⟩⟩
    · omega
    · omega
    · omega
    · omega
  · rcases a8 with ⟨w, _⟩ | ⟨_, _, w, _⟩
    · omega
    · exact w
  · rcases a8 with ⟨w, _⟩ | ⟨_, _, _, ⟨w, _⟩ | ⟨_, w⟩ | ⟨w, _⟩⟩
    · omega
    · omega
    · exact w
    · omega
  · unfold gTy at e1
    rw [if_neg (by omega)] at e1
    by_cases g0 : g = 0
    · rw [if_pos ⟨k2, g0⟩, em] at e1
      injection Option.some.inj (Option.some.inj e1) with w1 w2
      omega
    · rw [if_neg (fun y => g0 y.2)] at e1; cases e1
/-- where a name goes to -/
theorem go_md {fs : List Fr} {c m : Nat} (H : mMd σ0 n M rg σ fs c m) (a b d e : Int) : mMd σ0 n M rg (us (us (us (us σ 1020 a) 1024 b) 1028 d) 1037 e) fs c m ∧ fr [1020, 1024, 1028, 1037] [] σ (us (us (us (us σ 1020 a) 1024 b) 1028 d) 1037 e) ∧ mGr σ (us (us (us (us σ 1020 a) 1024 b) 1028 d) 1037 e) := by
  have F : fr [1020, 1024, 1028, 1037] [] σ (us (us (us (us σ 1020 a) 1024 b) 1028 d) 1037 e) := fr_us (fr_us (fr_us (fr_us (fr_refl _ _ _) (by decide)) (by decide)) (by decide)) (by decide)
  have G : mGr σ (us (us (us (us σ 1020 a) 1024 b) 1028 d) 1037 e) := mGr_o F (by decide) (by decide)
  exact ⟨md_grow H F (by decide) (by decide) (by decide) (by decide) G (mCt_fr F (by decide) H.2.1), F, G⟩
set_option maxHeartbeats 1000000 in
/-- A NAME -/
theorem t_nameM (S : MtS σ0 n M rg B) {s : MS} (H : mTw σ0 n M rg σ s) (T : sTy M s) (C : chM σ0 n M rg σ) (h10 : eTg s.1 = 10) : mRs σ0 n M rg σ (T_wantedName (gs σ 1020) σ) (pnm M B (eLb s.1) (eEv s.1) s.2.1 s.2.2.1 s.2.2.2.1 s.2.2.2.2.1 s.2.2.2.2.2) := by
  obtain ⟨e, en, ow, fs, c, m⟩ := s
  obtain ⟨⟨ok, γ, hen, hw⟩, hfs, hl, hc⟩ := T
  obtain ⟨Hm, Hcd, He, Ho, Hr⟩ := H
  simp only at h10 ok hen hw hfs hl hc Hm Hcd He Ho Hr ⊢
  have SS := S
  have F := Hm.1
  obtain ⟨v, ev, v42, _⟩ := cd_node Hcd F
  rw [ev] at Hcd ⊢
  obtain ⟨⟨lo, hi, _, h42, _, _, ⟨⟨k, a4, a5, a6, a7⟩, a8, os, a9, a10, a11⟩, _⟩, hK, how, hats⟩ := cd_10 Hcd h10
  have vN : ((v : Int)).toNat = v := by omega
  have wN : (((eLb e).2.2.2.1 : Nat) : Int).toNat = (eLb e).2.2.2.1 := by omega
  have hwn : wNm (eW M ow.1) ow.2 (eLb e) (sem M.2.2.2 ow.2 (eTy e)) (eEv e) γ := by
    cases e with
    | leaf => cases h10
    | inner t a u l r =>
      have ht : t = 10 := h10
      rw [wS_e] at hw
      unfold wSB at hw
      rw [if_pos ht] at hw
      exact hw
  obtain ⟨⟨DP, mp, jt, n9, n904⟩, h638, hO, _, hFn, hIn⟩ := S
  have nmat : T_nameAt (ga σ 542 v) σ = some ((eLb e).2.2.2.1 : Int) := by
    unfold T_nameAt
    rw [F.2 542 (by decide), a4, if_pos (by omega), show ((k : Int)).toNat = k by omega, F.2 482 (by decide), a6]
  have ct := Hm.2.1
  have b924 : gs σ 924 ≤ 4000 := by have := ct.1; have := ct.2.1; have := ct.2.2.2; omega
  have b964 : gs σ 964 ≤ 4000 := by have := ct.1; have := ct.2.1; have := ct.2.2.2; omega
  unfold pnm
  rcases hwn with ⟨k0, hg⟩ | ⟨k1, f, f1, f2, f3, f4⟩ | ⟨k2, mm, D, t, m1, m2, m3, m4, _, m5, m6⟩ | ⟨k3, h7, ta, tb, eT⟩
  · -- bound
    rw [if_pos k0]
    have e50 : ga σ0 550 v = ((eLb e).2.2.1 : Int) := by
      rcases a8 with ⟨_, w⟩ | ⟨w, _⟩
      · exact w
      · exact absurd k0 w
    obtain ⟨e1, e2⟩ := vT_env hen
    have il : (eLb e).2.2.1 < (xls en).length := by rw [e1]; exact (List.getElem?_eq_some_iff.mp hg).1
    obtain ⟨y, w, y1, y2, y3, y4⟩ := t_lk (v := v) (i := (eLb e).2.2.1) (by omega) (by rw [F.2 550 (by decide)]; exact e50) He b924 il
    rw [y3]
    have un : T_wantedName (v : Int) σ = T_comes (ga σ 922 y) σ := by
      unfold T_wantedName
      rw [if_pos (by omega), vN, F.2 550 (by decide), e50, if_neg (by omega), y1, Option.bind_some, if_pos (by omega), show ((y : Int)).toNat = y by omega]
      exact bind_sm _
    rw [un]
    exact mRs_of (fr_refl _ _ _) C (t_comes fs w _ _ σ c Hm y4 hfs (e2 _ _ _ y3 hg))
  · -- a function
    rw [if_neg (by omega), if_pos k1]
    have f1' : M.1[(eLb e).2.2.1]? = some f := f1
    obtain ⟨g1, g2, g3, g4, g5⟩ := nm_gv1 SS Hcd h10 k1 f1'
    have GM := g4
    obtain ⟨⟨q0, _, q2⟩, q3⟩ := g4
    have e638 : ga σ0 638 (eLb e).2.2.2.1 = 1 := by
      rcases q3 with q3 | q3
      · exact q3.2.1
      · omega
    have fl : (eLb e).2.2.1 < 24 := by
      rcases q3 with q3 | q3
      · exact q3.2.2.1
      · omega
    have e50 : ga σ0 550 v = -1 := by
      rcases a8 with ⟨w, _⟩ | ⟨_, w, _⟩
      · omega
      · exact w
    obtain ⟨h1, h2⟩ := gvK_at f4
    obtain ⟨X, hX⟩ := cEv_tot (ab := M.2.2.1) (ins := M.2.2.2) (gv := gvW M ow.1) (θ := ow.2) (ev := eEv e) (fun D hD => by
      obtain ⟨j, jl, je⟩ := List.getElem_of_mem hD
      obtain ⟨D', e1, e2, e3⟩ := h2 j _ (List.getElem?_eq_getElem (show j < f.2.1.length by omega))
      rw [List.getElem?_eq_getElem jl, je] at e1
      rw [← Option.some.inj e1] at e2 e3
      by_cases q : (f.2.1[j]'(by omega)).1 < 100
      · exact .inr (cst_tot mp.1 ok (e2 q).1)
      · refine .inl ?_
        rw [(e3 (by omega)).1]; rfl)
    rw [f1', Option.bind_some, hX]
    have z0 : 0 ≤ gs σ 964 := ct.1.2.2
    have un : T_wantedName (v : Int) σ = (om_loop (T_wantedName_152s (v : Int) ((eLb e).2.2.2.1 : Int) ((eLb e).2.2.1 : Int) (owT ow.1) (gs σ 1037)) (-1, -1, -1, -1, 0, σ)).bind (Sum.elim (fun v2 => some v2) (fun v2 => if 0 ≤ ((eLb e).2.2.2.1 : Int) ∧ ((eLb e).2.2.2.1 : Int) < 2100 then (if (ga v2.2.2.2.2 638 (eLb e).2.2.2.1) ≠ 1 then if 0 ≤ v2.1 ∧ v2.1 < 4100 ∧ 0 ≤ w32 ((w32 (4 * (ga v2.2.2.2.2 958 v2.1.toNat))) + (rem32 ((eLb e).2.2.1 : Int) 4)) ∧ w32 ((w32 (4 * (ga v2.2.2.2.2 958 v2.1.toNat))) + (rem32 ((eLb e).2.2.1 : Int) 4)) < 80 then ((T_go (ga v2.2.2.2.2 726 (w32 ((w32 (4 * (ga v2.2.2.2.2 958 v2.1.toNat))) + (rem32 ((eLb e).2.2.1 : Int) 4))).toNat) (-1) (w32 (100 + (ga v2.2.2.2.2 958 v2.1.toNat))) (ga v2.2.2.2.2 962 v2.1.toNat) v2.2.2.2.2).bind fun p3 => some p3) else none else if 0 ≤ ((eLb e).2.2.1 : Int) ∧ ((eLb e).2.2.1 : Int) < 24 ∧ 0 ≤ ga v2.2.2.2.2 730 (eLb e).2.2.1 ∧ ga v2.2.2.2.2 730 (eLb e).2.2.1 < 700 then ((T_row v2.1 v2.2.1 v2.2.2.1 v2.2.2.2.1).bind fun p4 => (T_go (ga v2.2.2.2.2 622 (ga v2.2.2.2.2 730 (eLb e).2.2.1).toNat) (-1) ((eLb e).2.2.1 : Int) p4 v2.2.2.2.2).bind fun p5 => some p5) else none) else none)) := by
      have e642 : ga σ 642 (eLb e).2.2.2.1 = ((eLb e).2.2.1 : Int) := by rw [F.2 642 (by decide)]; exact q2
      unfold T_wantedName
      rw [if_pos (by omega), vN, F.2 550 (by decide), e50, if_pos rfl, if_pos (by omega), nmat, Option.bind_some, if_pos (by omega), wN, F.2 638 (by decide), e638, if_pos (by decide), e642, Ho, show (((eLb e).2.2.1 : Nat) : Int).toNat = (eLb e).2.2.1 by omega]
    have FZ : ∀ σ', fr SWS SWA σ σ' → fr WMS WMA σ0 σ' := fun σ' F' => fr_trans F (fr_sub F' (by decide) (by decide))
    show mRs σ0 n M rg σ (T_wantedName (v : Int) σ) (if c + X ≤ 4000 then _ else _)
    rcases t_gvM SS Hcd h10 (.inl k1) ok g1 g2 g3 GM (eEv e) 0 σ c X (fun _ => -1) rfl (Nat.zero_le _) hX Hm C Hr (fun j => ⟨by omega, by omega⟩) (fun j c' T' hj => absurd hj (Nat.not_lt_zero _)) with ⟨js, σ', r1, r2, r3, r4, r5, r6, r7, r8⟩ | ⟨σ', r1, r2, r3, r4⟩
    · rw [if_pos r2]
      obtain ⟨dd, d1, d2, d3⟩ := hFn (eLb e).2.2.1 (List.getElem?_eq_some_iff.mp f1').1
      have F' := FZ σ' r6
      have b964' : gs σ' 964 ≤ 4000 := by have := r3.2.1.1; have := r3.2.1.2.1; have := r3.2.1.2.2.2; omega
      have rkj : ∀ j, rk (js j) := fun j => ⟨(r7 j).1, by have := (r7 j).2; omega⟩
      obtain ⟨p1, p2, p3⟩ := go_md r3 (ga σ0 622 dd) (-1) ((eLb e).2.2.1 : Int) (rowN (js 0) (js 1) (js 2) (js 3))
      refine ⟨us (us (us (us σ' 1020 (ga σ0 622 dd)) 1024 (-1)) 1028 ((eLb e).2.2.1 : Int)) 1037 (rowN (js 0) (js 1) (js 2) (js 3)), ?_, ⟨p1, d3, rfl, ?_, ?_⟩, chM_fr p2 (by decide) (by simp) (tx_M (fr_sub p2 (by decide) (by simp))) r4, fr_trans r6 (fr_sub p2 (by decide) (by simp))⟩
      · rw [un]
        have r1'' : om_loop (T_wantedName_152s (v : Int) ((eLb e).2.2.2.1 : Int) ((eLb e).2.2.1 : Int) (owT ow.1) (gs σ 1037)) (-1, -1, -1, -1, 0, σ) = some (.inr (js 0, js 1, js 2, js 3, σ')) := r1
        rw [r1'', Option.bind_some]
        show (if 0 ≤ ((eLb e).2.2.2.1 : Int) ∧ ((eLb e).2.2.2.1 : Int) < 2100 then (if (ga σ' 638 (eLb e).2.2.2.1) ≠ 1 then _ else if 0 ≤ ((eLb e).2.2.1 : Int) ∧ ((eLb e).2.2.1 : Int) < 24 ∧ 0 ≤ ga σ' 730 (eLb e).2.2.1 ∧ ga σ' 730 (eLb e).2.2.1 < 700 then ((T_row (js 0) (js 1) (js 2) (js 3)).bind fun p4 => (T_go (ga σ' 622 (ga σ' 730 (eLb e).2.2.1).toNat) (-1) ((eLb e).2.2.1 : Int) p4 σ').bind fun p5 => some p5) else none) else none) = _
        rw [if_pos (by omega), F'.2 638 (by decide), e638, if_neg (fun z => z rfl), F'.2 730 (by decide), d1, if_pos ⟨by omega, by omega, by omega, by omega⟩, t_row (rkj 0) (rkj 1) (rkj 2) (rkj 3), Option.bind_some, show ((dd : Int)).toNat = dd by omega, F'.2 622 (by decide)]
        rfl
      · show ((eLb e).2.2.1 : Int) = owT (eLb e).2.2.1
        unfold owT
        rw [if_pos (by omega)]
      · show rTw M.2.2.2 _ (gvW M (eLb e).2.2.1) (thF M.2.2.2 ow.2 f.1 ((eLb e).2.2.2.2.2.map Prod.fst)) _
        have egv : gvW M (eLb e).2.2.1 = f.2.1 := by
          unfold gvW
          rw [if_pos (by omega), f1']; rfl
        rw [egv]
        refine ⟨js, r7, rfl, fun j gg ej hgc => ?_⟩
        obtain ⟨T', t1⟩ := g5 gg (List.mem_of_getElem? ej)
        have eg : gTy M (eLb e) j = some (some (gg.1, T')) := by
          unfold gTy
          rw [if_pos k1, f1', Option.bind_some, ej]
          show some (if gg.1 < 100 then _ else _) = _
          rw [if_pos hgc, t1]; rfl
        have dw := r8 j gg.1 T' (List.getElem?_eq_some_iff.mp ej).1 eg
        have et : thF M.2.2.2 ow.2 f.1 ((eLb e).2.2.2.2.2.map Prod.fst) gg.2.1 = sem M.2.2.2 ow.2 T' := by
          unfold thF
          rw [t1]; rfl
        rw [et]
        exact dcW_gr p3 dw
    · rw [if_neg (by omega)]
      refine .inr ⟨show (4 : Nat) ≠ 2 by decide, σ', ?_, r3, r4⟩
      rw [un]
      have r1'' : om_loop (T_wantedName_152s (v : Int) ((eLb e).2.2.2.1 : Int) ((eLb e).2.2.1 : Int) (owT ow.1) (gs σ 1037)) (-1, -1, -1, -1, 0, σ) = some (.inl σ') := r1
      rw [r1'', Option.bind_some]
      rfl
  · -- a method
    rw [if_neg (by omega), if_neg (by omega), if_pos k2]
    have m1' : M.2.1[(eLb e).2.2.1]? = some (some mm) := m1
    have m4' : dcT M.2.2.1 M.2.2.2 (gvW M ow.1) 70 mm.1 t = some D := m4
    obtain ⟨g1, g3, g4, gT0, fl, mm4⟩ := nm_gv2 SS Hcd h10 k2 m1'
    have GM := g4
    obtain ⟨⟨q0, _, q2⟩, q3⟩ := g4
    have e638 : ga σ0 638 (eLb e).2.2.2.1 = 2 := by
      rcases q3 with q3 | q3
      · omega
      · exact q3.2.1
    have e50 : ga σ0 550 v = -1 := by
      rcases a8 with ⟨w, _⟩ | ⟨_, w, _⟩
      · omega
      · exact w
    obtain ⟨X, hX⟩ := cEv_tot (ab := M.2.2.1) (ins := M.2.2.2) (gv := gvW M ow.1) (θ := ow.2) (ev := eEv e) (fun D' hD => by
      rw [m3] at hD
      rw [List.mem_singleton.mp hD]
      exact .inr (cst_tot mp.1 ok m4'))
    have hd := dc_had' mp.1 ok m4'
    have et : ((eLb e).2.2.2.2.2.map Prod.fst)[0]?.getD .leaf = t := by rw [m2]; rfl
    rw [et] at gT0 ⊢
    obtain ⟨i, d, uu, i1, i2, i3, ⟨i4, i4'⟩, i5, i6⟩ := iAt_had hd
    have i20 : i < 20 := by
      have := (List.getElem?_eq_some_iff.mp i3).1
      have := mp.1.2.1
      omega
    have un : T_wantedName (v : Int) σ = (om_loop (T_wantedName_152s (v : Int) ((eLb e).2.2.2.1 : Int) ((eLb e).2.2.1 : Int) (owT ow.1) (gs σ 1037)) (-1, -1, -1, -1, 0, σ)).bind (Sum.elim (fun v2 => some v2) (fun v2 => if 0 ≤ ((eLb e).2.2.2.1 : Int) ∧ ((eLb e).2.2.2.1 : Int) < 2100 then (if (ga v2.2.2.2.2 638 (eLb e).2.2.2.1) ≠ 1 then if 0 ≤ v2.1 ∧ v2.1 < 4100 ∧ 0 ≤ w32 ((w32 (4 * (ga v2.2.2.2.2 958 v2.1.toNat))) + (rem32 ((eLb e).2.2.1 : Int) 4)) ∧ w32 ((w32 (4 * (ga v2.2.2.2.2 958 v2.1.toNat))) + (rem32 ((eLb e).2.2.1 : Int) 4)) < 80 then ((T_go (ga v2.2.2.2.2 726 (w32 ((w32 (4 * (ga v2.2.2.2.2 958 v2.1.toNat))) + (rem32 ((eLb e).2.2.1 : Int) 4))).toNat) (-1) (w32 (100 + (ga v2.2.2.2.2 958 v2.1.toNat))) (ga v2.2.2.2.2 962 v2.1.toNat) v2.2.2.2.2).bind fun p3 => some p3) else none else if 0 ≤ ((eLb e).2.2.1 : Int) ∧ ((eLb e).2.2.1 : Int) < 24 ∧ 0 ≤ ga v2.2.2.2.2 730 (eLb e).2.2.1 ∧ ga v2.2.2.2.2 730 (eLb e).2.2.1 < 700 then ((T_row v2.1 v2.2.1 v2.2.2.1 v2.2.2.2.1).bind fun p4 => (T_go (ga v2.2.2.2.2 622 (ga v2.2.2.2.2 730 (eLb e).2.2.1).toNat) (-1) ((eLb e).2.2.1 : Int) p4 v2.2.2.2.2).bind fun p5 => some p5) else none) else none)) := by
      have e642 : ga σ 642 (eLb e).2.2.2.1 = ((eLb e).2.2.1 : Int) := by rw [F.2 642 (by decide)]; exact q2
      unfold T_wantedName
      rw [if_pos (by omega), vN, F.2 550 (by decide), e50, if_pos rfl, if_pos (by omega), nmat, Option.bind_some, if_pos (by omega), wN, F.2 638 (by decide), e638, if_pos (by decide), e642, Ho, show (((eLb e).2.2.1 : Nat) : Int).toNat = (eLb e).2.2.1 by omega]
    have FZ : ∀ σ', fr SWS SWA σ σ' → fr WMS WMA σ0 σ' := fun σ' F' => fr_trans F (fr_sub F' (by decide) (by decide))
    rw [m1', Option.bind_some]
    show mRs σ0 n M rg σ (T_wantedName (v : Int) σ) (Option.elim (((some mm).bind fun mm => (iAt M.2.2.2 mm.1 (sem M.2.2.2 ow.2 t)).bind fun q => (cEv M.2.2.1 M.2.2.2 (gvW M ow.1) ow.2 (eEv e)).map fun x => (q, x))) _ _)
    rw [Option.bind_some, i1, Option.bind_some, hX]
    show mRs σ0 n M rg σ (T_wantedName (v : Int) σ) (if c + X ≤ 4000 then _ else _)
    rcases t_gvM SS Hcd h10 (.inr k2) ok g1 (by decide) g3 GM (eEv e) 0 σ c X (fun _ => -1) rfl (Nat.zero_le _) hX Hm C Hr (fun j => ⟨by omega, by have := ct.1.2.2; omega⟩) (fun j c' T' hj => absurd hj (Nat.not_lt_zero _)) with ⟨js, σ', r1, r2, r3, r4, r5, r6, r7, r8⟩ | ⟨σ', r1, r2, r3, r4⟩
    · rw [if_pos r2]
      have F' := FZ σ' r6
      have dw := r8 0 mm.1 t (by decide) gT0
      have m6' : cG (sem M.2.2.2 ow.2 t) := m6
      obtain ⟨kd0, jr, jd1, jd2, jd3, jd4, jd5⟩ : ∃ (kd0 : Nat) (jr : Nat → Int), js 0 = (kd0 : Int) ∧ (kd0 : Int) < gs σ' 964 ∧ ga σ' 958 kd0 = (i : Int) ∧ ga σ' 962 kd0 = rowN (jr 0) (jr 1) (jr 2) (jr 3) ∧ ((∀ j, -1 ≤ jr j ∧ jr j < (kd0 : Int)) ∧ ∀ (j : Nat) (p : Nat × Nat), d.2.2.2.1[j]? = some p → (p.2 = 0 → dcW M.2.2.2 σ' (tL (sem M.2.2.2 ow.2 t)) p.1 (jr j)) ∧ (p.2 ≠ 0 → dcW M.2.2.2 σ' (tR' (sem M.2.2.2 ow.2 t)) p.1 (jr j))) := by
        generalize sem M.2.2.2 ow.2 t = τ0 at dw i2
        cases τ0 with
        | leaf => exact dw.elim
        | inner a b u l r =>
          obtain ⟨_, kd0, i', d', jr, h1, h2, h3, h4, h5, h6, h7, h8⟩ := dw
          have ei : i' = i := Option.some.inj (h3.symm.trans i2)
          rw [ei] at h4 h5
          have ed : d' = d := Option.some.inj (h4.symm.trans i3)
          rw [ed] at h8
          exact ⟨kd0, jr, h1, h2, h5, h7, h6, h8⟩
      have b964' : gs σ' 964 ≤ 4000 := by have := r3.2.1.1; have := r3.2.1.2.1; have := r3.2.1.2.2.2; omega
      have d3 := hIn i (eLb e).2.2.1 d mm i3 m1' i4
      have r4m : rem32 ((eLb e).2.2.1 : Int) 4 = (((eLb e).2.2.1 % 4 : Nat) : Int) := rem32_4 (by omega)
      obtain ⟨p1, p2, p3⟩ := go_md r3 (ga σ0 726 (4 * i + (eLb e).2.2.1 % 4)) (-1) ((100 + i : Nat) : Int) (ga σ' 962 kd0)
      refine ⟨us (us (us (us σ' 1020 (ga σ0 726 (4 * i + (eLb e).2.2.1 % 4))) 1024 (-1)) 1028 ((100 + i : Nat) : Int)) 1037 (ga σ' 962 kd0), ?_, ⟨p1, d3, rfl, ?_, ?_⟩, chM_fr p2 (by decide) (by simp) (tx_M (fr_sub p2 (by decide) (by simp))) r4, fr_trans r6 (fr_sub p2 (by decide) (by simp))⟩
      · rw [un]
        have r1'' : om_loop (T_wantedName_152s (v : Int) ((eLb e).2.2.2.1 : Int) ((eLb e).2.2.1 : Int) (owT ow.1) (gs σ 1037)) (-1, -1, -1, -1, 0, σ) = some (.inr (js 0, js 1, js 2, js 3, σ')) := r1
        rw [r1'', Option.bind_some]
        show (if 0 ≤ ((eLb e).2.2.2.1 : Int) ∧ ((eLb e).2.2.2.1 : Int) < 2100 then (if (ga σ' 638 (eLb e).2.2.2.1) ≠ 1 then if 0 ≤ js 0 ∧ js 0 < 4100 ∧ 0 ≤ w32 ((w32 (4 * (ga σ' 958 (js 0).toNat))) + (rem32 ((eLb e).2.2.1 : Int) 4)) ∧ w32 ((w32 (4 * (ga σ' 958 (js 0).toNat))) + (rem32 ((eLb e).2.2.1 : Int) 4)) < 80 then ((T_go (ga σ' 726 (w32 ((w32 (4 * (ga σ' 958 (js 0).toNat))) + (rem32 ((eLb e).2.2.1 : Int) 4))).toNat) (-1) (w32 (100 + (ga σ' 958 (js 0).toNat))) (ga σ' 962 (js 0).toNat) σ').bind fun p3 => some p3) else none else _) else none) = _
        have w1 : w32 (w32 (4 * (i : Int)) + (((eLb e).2.2.1 % 4 : Nat) : Int)) = ((4 * i + (eLb e).2.2.1 % 4 : Nat) : Int) := by rw [w32_s (x := 4 * (i : Int)) (by omega) (by omega), w32_s (by omega) (by omega)]; omega
        rw [if_pos (by omega), F'.2 638 (by decide), e638, if_pos (by decide), jd1, show ((kd0 : Int)).toNat = kd0 by omega, jd3, r4m, w1, if_pos ⟨by omega, by omega, by omega, by omega⟩, show (((4 * i + (eLb e).2.2.1 % 4 : Nat) : Int)).toNat = 4 * i + (eLb e).2.2.1 % 4 by omega, w32_s (x := 100 + (i : Int)) (by omega) (by omega), show 100 + (i : Int) = ((100 + i : Nat) : Int) by omega, F'.2 726 (by decide)]
        rfl
      · show ((100 + i : Nat) : Int) = owT (100 + i)
        unfold owT
        rw [if_pos (by omega)]
      · show rTw M.2.2.2 _ (gvW M (100 + i)) (thN d (tL (sem M.2.2.2 ow.2 t)) (tR' (sem M.2.2.2 ow.2 t))) _
        have egv : gvW M (100 + i) = gvI d := by
          unfold gvW
          rw [if_neg (by omega), if_pos (by omega), show 100 + i - 100 = i by omega, i3]; rfl
        rw [egv]
        refine ⟨jr, fun j => ⟨(jd5.1 j).1, by have := (jd5.1 j).2; show jr j < gs σ' 964; omega⟩, jd4, fun j gg ej _ => ?_⟩
        have ej' : (d.2.2.2.1.map (fun c => (c.1, d.2.2.1.getD c.2 0, (.leaf : Ty))))[j]? = some gg := ej
        rw [List.getElem?_map] at ej'
        obtain ⟨cd, c1, c2⟩ := Option.map_eq_some_iff.mp ej'
        have dm := List.mem_of_getElem? i3
        have ci := ((mp.1.2.2.2.1 d dm).2.2 cd (List.mem_of_getElem? c1)).1
        rw [← c2]
        show dcW M.2.2.2 _ (thN d (tL (sem M.2.2.2 ow.2 t)) (tR' (sem M.2.2.2 ow.2 t)) (d.2.2.1.getD cd.2 0)) cd.1 (jr j)
        rw [thN_at (mp.1.1 d dm).1 ci]
        obtain ⟨z1, z2⟩ := jd5.2 j cd c1
        split
        · rename_i z; exact dcW_gr p3 (z1 z)
        · rename_i z; exact dcW_gr p3 (z2 z)
    · rw [if_neg (by omega)]
      refine .inr ⟨show (4 : Nat) ≠ 2 by decide, σ', ?_, r3, r4⟩
      rw [un]
      have r1'' : om_loop (T_wantedName_152s (v : Int) ((eLb e).2.2.2.1 : Int) ((eLb e).2.2.1 : Int) (owT ow.1) (gs σ 1037)) (-1, -1, -1, -1, 0, σ) = some (.inl σ') := r1
      rw [r1'', Option.bind_some]
      rfl
  · -- one that is there always
    rw [if_neg (by omega), if_neg (by omega), if_neg (by omega)]
    obtain ⟨e50, e642, n1, n2⟩ : ga σ0 550 v = -1 ∧ ga σ0 642 (eLb e).2.2.2.1 = ((eLb e).2.2.1 : Int) ∧ ga σ0 638 (eLb e).2.2.2.1 ≠ 1 ∧ ga σ0 638 (eLb e).2.2.2.1 ≠ 2 := by
      rcases a8 with ⟨w, _⟩ | ⟨_, b1, b2, ⟨w, _⟩ | ⟨w, _⟩ | ⟨_, b3, b4⟩⟩
      · omega
      · omega
      · omega
      · exact ⟨b1, b2, b3, b4⟩
    have e638 := h638 _ a7 n1 n2 (by omega) (by omega)
    have un : ∀ x, (if ((eLb e).2.2.1 : Int) ≠ 0 then if ((eLb e).2.2.1 : Int) < 5 then (T_thing 6 ((eLb e).2.2.1 : Int)).bind fun p6 => T_wantedName_121 p6 σ else if ((eLb e).2.2.1 : Int) ≠ 5 then T_wantedName_108 1 0 σ else T_wantedName_108 1 1 σ else (T_thing 2 0).bind fun p7 => T_wantedName_121 p7 σ) = x → T_wantedName (v : Int) σ = x := fun x hx => by
      rw [← hx]
      unfold T_wantedName
      rw [if_pos (by omega), vN, F.2 550 (by decide), e50, if_pos rfl, if_pos (by omega), nmat, Option.bind_some, if_pos (by omega), wN, F.2 638 (by decide), e638, if_neg (fun z => z rfl), F.2 642 (by decide), e642]
    have fin : ∀ (w : Vt) (x : Int), T_wantedName (v : Int) σ = T_comes x σ → vTw M (cdN σ0 n M rg) σ w true x → vT M w (.inl (sem M.2.2.2 ow.2 (eTy e))) → mRs σ0 n M rg σ (T_wantedName (v : Int) σ) (pcm fs w c m) := fun w x h1 h2 h3 => by
      rw [h1]
      exact mRs_of (fr_refl _ _ _) C (t_comes fs w x _ σ c Hm h2 hfs h3)
    by_cases q5 : (eLb e).2.2.1 < 5
    · rw [if_pos q5]
      have hv : vT M (xvA ((eLb e).2.2.1 : Int)) (.inl (sem M.2.2.2 ow.2 (eTy e))) := by
        rw [eT]
        exact .inr (.inr (.inl ⟨rfl, (eLb e).2.2.1, ta, tb, q5, rfl, rfl⟩))
      by_cases q0 : (eLb e).2.2.1 = 0
      · refine fin _ (8 * 0 + 2) (un _ ?_) (.inr (.inr (.inl ⟨rfl, by show ((eLb e).2.2.1 : Int) = 0; omega, rfl⟩))) hv
        rw [if_neg (by omega), t_thing (by decide) (by decide) (by decide) (by decide), Option.bind_some]
        exact bind_sm _
      · refine fin _ (8 * ((eLb e).2.2.1 : Int) + 6) (un _ ?_) (.inr (.inr (.inr (.inl ⟨rfl, by show ((eLb e).2.2.1 : Int) ≠ 0; omega, rfl⟩)))) hv
        rw [if_pos (by omega), if_pos (by omega), t_thing (by decide) (by decide) (by omega) (by omega), Option.bind_some]
        exact bind_sm _
    · rw [if_neg q5]
      have eb : btT (eLb e).2.2.1 ta tb = tBool := by
        unfold btT
        rw [if_neg (by omega), if_neg (by omega), if_neg (by omega), if_neg (by omega), if_neg (by omega)]
      rw [eb] at eT
      by_cases q : (eLb e).2.2.1 = 5
      · rw [if_pos q]
        refine fin _ (8 * 1 + 1) (un _ ?_) (.inr (.inl ⟨rfl, rfl⟩)) (by rw [eT]; exact .inr (.inl ⟨rfl, rfl, .inr rfl⟩))
        rw [if_pos (by omega), if_neg (by omega), if_neg (by omega)]
        unfold T_wantedName_108
        rw [t_thing (by decide) (by decide) (by decide) (by decide), Option.bind_some]
        exact bind_sm _
      · rw [if_neg q]
        refine fin _ (8 * 0 + 1) (un _ ?_) (.inr (.inl ⟨rfl, rfl⟩)) (by rw [eT]; exact .inr (.inl ⟨rfl, rfl, .inl rfl⟩))
        rw [if_pos (by omega), if_neg (by omega), if_pos (by omega)]
        unfold T_wantedName_108
        rw [t_thing (by decide) (by decide) (by decide) (by decide), Option.bind_some]
        exact bind_sm _
end LTS
