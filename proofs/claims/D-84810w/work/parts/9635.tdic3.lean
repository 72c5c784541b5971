set_option maxRecDepth 100000
/-! THE TWIN'S MACHINE: all dictionaries that were found are put together -/
section LTG
variable {M : MPg} {σ0 σ τ : tS} {n : Nat} {gv : List GVs} {θ : Nat → Ty}
/-- an inst's -/
theorem ev_in (P : DcP σ0 n M) (hs : okTh M.2.2.2 gv θ) {o c w i h : Nat} {xx : Unit} {l r : Ty} {d : INs} (ow : owO M o) (eg : gvW M o = gv) (hG : gvF' M.2.2.2 gv) (ei : iOf M.2.2.2 c w = some i) (ed : M.2.2.2[i]? = some d) (okL : ∀ X, (X = l ∨ X = r) → okF M.2.2.2 X ∧ tsz X ≤ 1000000) (ls : List ((Nat × Nat) × Ty × Nat)) (el : ls.map Prod.fst = d.2.2.2.1) (H : ∀ y ∈ ls, (if y.1.2 = 0 then l else r) ≠ .leaf ∧ knT M.2.2.2 gv (QN σ0 n) 130 (if y.1.2 = 0 then l else r) y.2.1 ∧ EvT σ0 n M gv θ o y.1.1 y.2.1 y.2.2 h) (h1 : 1 ≤ h) : EvT σ0 n M gv θ o c (.inner 1 w xx l r) (1 + (ls.map (fun y => y.2.2)).sum) (h + 1) := by
  intro σ p c0 got t row B V hp ct rw'
  have bg := t_begI (o := owT o) (row := row) P.1 B.1 B.2.2.2 (by omega) ct ei
  have F1 : fr [1084] [1054, 1058, 1062, 1066, 1070, 1074, 1078, 1082] σ (begS σ p (c : Int) (-1) (i : Int) t (owT o) row (-1)) := begS_fr
  obtain ⟨a1, a2, a3, a4, a5, a6, a7, a8, a9, a10, a11, a12⟩ := begS_at (σ := σ) (p := p) (c := (c : Int)) (f := -1) (i := (i : Int)) (t := t) (o := owT o) (r := row) (g := -1)
  generalize begS σ p (c : Int) (-1) (i : Int) t (owT o) row (-1) = σ1 at *
  have G1 : mGr σ σ1 := mGr_o F1 (by decide) (by decide)
  have B1 : DcB σ0 n σ1 (p + 1) c0 := ⟨fr_trans B.1 (fr_sub F1 (by decide) (by decide)), mCt_fr F1 (by decide) B.2.1, by rw [F1.1 1000 (by decide)]; exact B.2.2.1, a1⟩
  have g64 : 0 ≤ gs σ1 964 := B1.2.1.1.2.2
  obtain ⟨a, b, σ2, got', σ', e1, e2, e3⟩ := ev_cd P hs (xx := xx) ow eg hG ei ed okL ls el H (p := p) (by omega) (by omega) ls [] σ1 c0 got (fun _ => -1) rfl B1 a4 a5 a6 a7 a8 (tyT_mono (tx_M (fr_sub F1 (by decide) (by decide))) ct) (rTw_gr G1 rw') (fun j hj => by
    by_cases q : j = 0
    · rw [q]; exact a9
    · exact a10 j (by omega) hj) (fun j => ⟨by omega, by omega⟩) (fun j y e => by cases e)
  have st : T_dictionaryOut_20s (got, 0, σ1) = some (.inl (a, b, σ2)) := by
    unfold T_dictionaryOut_20s
    simp only
    rw [a1, if_neg (by omega), show w32 (((p + 1 : Nat) : Int) - 1) = (p : Int) by rw [w32_s (by omega) (by omega)]; omega, if_pos (by omega), show ((p : Int)).toNat = p by omega, a4, if_pos (by omega), if_pos (by omega), if_pos trivial, a8]
    unfold T_dictionaryOut_241
    rw [if_pos rfl]
    exact e1
  obtain ⟨s1, s2, s3, s4, s5⟩ := e3
  exact ⟨σ1, got', σ', bg, by rw [om_loop_in st, e2], fr_trans (fr_sub F1 (by decide) (by decide)) s1, mGr_trans G1 s2, s3, eBl_trans ⟨a11, a12⟩ s4, s5⟩
/-- a name's -/
theorem ev_nm (P : DcP σ0 n M) (hg : ∀ g ∈ gv, g.1 < 100 → g.1 < M.2.2.1.length) {o c w j nn X h : Nat} {xx : Unit} {l r : Ty} {g : GVs} (ej : gCl M.2.2.1 gv c w = some j) (eg : gv[j]? = some g) (g1 : g.1 < 100 ∧ g.2.1 = w) (en : stpA M.2.2.1 9 g.1 c = some nn) (ex : cUp (cA M.2.2.1 M.2.2.2 (θ w)) M.2.2.1 nn g.1 = some X) (hw : wfT (θ w)) (A : ∀ (c1 c' i : Nat) (d : INs), cHd M.2.2.2 (θ w) c1 → iAt M.2.2.2 c1 (θ w) = some (i, d) → M.2.2.1[c1]? = some (some c') → ∀ x, cA M.2.2.1 M.2.2.2 (θ w) c1 = some x → EvT σ0 n M (gvI d) (thN d (tL (θ w)) (tR' (θ w))) (100 + i) c' (hdI d) x (2 * hgt M.2.2.2 (θ w) c1)) (hh : 1 + 2 * hgt M.2.2.2 (θ w) g.1 ≤ h ∨ 8001 ≤ h) : EvT σ0 n M gv θ o c (.inner 0 w xx l r) X h := by
  intro σ p c0 got t row B V hp ct rw'
  obtain ⟨js, j1, j2, j3⟩ := rw'
  have g64 : gs σ 964 ≤ 4000 := by have := B.2.1.1; have := B.2.1.2; omega
  have hD := j3 j g eg g1.1
  rw [g1.2] at hD
  have hl := dcW_hgt hD
  have jl := (j1 j).2
  have hq : p + 1 + 2 * hgt M.2.2.2 (θ w) g.1 ≤ 16000 := by
    rcases hh with q | q
    · omega
    · omega
  have bg := t_begN (o := owT o) P.1 B.1 V hg B.2.2.2 (by omega) ct ej eg j1 g64 j2
  have F1 : fr [1084] [1054, 1058, 1062, 1066, 1070, 1074, 1078, 1082] σ (begS σ p (c : Int) (g.1 : Int) (-1) t (owT o) row (js j)) := begS_fr
  obtain ⟨a1, a2, a3, a4, a5, a6, a7, a8, a9, a10, a11, a12⟩ := begS_at (σ := σ) (p := p) (c := (c : Int)) (f := (g.1 : Int)) (i := -1) (t := t) (o := owT o) (r := row) (g := js j)
  generalize begS σ p (c : Int) (g.1 : Int) (-1) t (owT o) row (js j) = σ1 at *
  have G1 : mGr σ σ1 := mGr_o F1 (by decide) (by decide)
  have B1 : DcB σ0 n σ1 (p + 1) c0 := ⟨fr_trans B.1 (fr_sub F1 (by decide) (by decide)), mCt_fr F1 (by decide) B.2.1, by rw [F1.1 1000 (by decide)]; exact B.2.2.1, a1⟩
  obtain ⟨got', σ', e2, e3⟩ := ev_up P hw A 9 g.1 nn X en ex σ1 p c0 got 0 (js j) B1 (.inl ⟨rfl, a9⟩) a4 a3 a2 (dcW_gr G1 hD) hq
  obtain ⟨s1, s2, s3, s4, s5⟩ := e3
  have es : sem M.2.2.2 θ (.inner 0 w xx l r) = θ w := rfl
  rw [es]
  exact ⟨σ1, got', σ', bg, e2, fr_trans (fr_sub F1 (by decide) (by decide)) s1, mGr_trans G1 s2, s3, eBl_trans ⟨a11, a12⟩ s4, s5⟩
/-- what a row of dictionaries costs, one by one -/
theorem dcL_cost {ab : List (Option Nat)} {ins : List INs} {f : Nat} {u : Ty} {R : Nat → Nat → Option Nat} : ∀ {l : List (Nat × Nat)} {cs : Dc} {X : Nat}, dcL (dcT ab ins gv f) u l = some cs → cDc ab gv R cs = some X → ∃ xs : List Nat, xs.length = l.length ∧ xs.sum = X ∧ ∀ (k : Nat) (p : Nat × Nat) (x : Nat), l[k]? = some p → xs[k]? = some x → ∃ D, dcT ab ins gv f p.1 (if p.2 = 0 then tL u else tR' u) = some D ∧ cDc ab gv R D = some x
  | [], cs, X, e, ex => by
    rw [← Option.some.inj e] at ex
    exact ⟨[], rfl, Option.some.inj ex, fun k p x z => by cases z⟩
  | q :: l, cs, X, e, ex => by
    unfold dcL at e
    obtain ⟨a, ea, e2⟩ := Option.bind_eq_some_iff.mp e
    obtain ⟨b, eb, e3⟩ := Option.map_eq_some_iff.mp e2
    obtain ⟨t', a', u', l', ea'⟩ := dcT_nx ea
    rw [← e3, ea', cDc_nx, ← ea'] at ex
    obtain ⟨x1, hx1, ex2⟩ := Option.bind_eq_some_iff.mp ex
    obtain ⟨x2, hx2, ex3⟩ := Option.map_eq_some_iff.mp ex2
    obtain ⟨xs, s1, s2, s3⟩ := dcL_cost eb hx2
    refine ⟨x1 :: xs, by rw [List.length_cons, List.length_cons, s1], by rw [List.sum_cons, s2, ex3], fun k p x ep ex => ?_⟩
    cases k with
    | zero =>
      rw [← Option.some.inj ep, ← Option.some.inj ex]
      exact ⟨a, ea, hx1⟩
    | succ k => exact s3 k p x ep ex
theorem zip_sum : ∀ {a : List ((Nat × Nat) × Ty × Nat)} {xs : List Nat}, a.length = xs.length → (∀ (k : Nat) (y : (Nat × Nat) × Ty × Nat) (x : Nat), a[k]? = some y → xs[k]? = some x → y.2.2 = x) → (a.map (fun y => y.2.2)).sum = xs.sum
  | [], [], _, _ => rfl
  | [], _ :: _, h, _ => by cases h
  | _ :: _, [], h, _ => by cases h
  | y :: a, x :: xs, h, g => by
    rw [List.map_cons, List.sum_cons, List.sum_cons, g 0 y x rfl rfl, zip_sum (by rw [List.length_cons, List.length_cons] at h; omega) (fun k y' x' e1 e2 => g (k + 1) y' x' e1 e2)]
theorem map_fst {a : List ((Nat × Nat) × Ty × Nat)} {l : List (Nat × Nat)} (h : a.length = l.length) (g : ∀ (k : Nat) (y : (Nat × Nat) × Ty × Nat), a[k]? = some y → l[k]? = some y.1) : a.map Prod.fst = l := by
  refine List.ext_getElem? (fun k => ?_)
  rw [List.getElem?_map]
  by_cases q : k < a.length
  · rw [List.getElem?_eq_getElem q]
    exact (g k _ (List.getElem?_eq_getElem q)).symm
  · rw [List.getElem?_eq_none (by omega), List.getElem?_eq_none (by omega)]
    rfl
set_option maxHeartbeats 1000000 in
/-- THE ONE ABOVE A DICTIONARY IS PUT TOGETHER -/
theorem ev_A (P : DcP σ0 n M) : ∀ {τw : Ty}, wfT τw → ∀ (c1 c' i : Nat) (d : INs), cHd M.2.2.2 τw c1 → iAt M.2.2.2 c1 τw = some (i, d) → M.2.2.1[c1]? = some (some c') → ∀ x, cA M.2.2.1 M.2.2.2 τw c1 = some x → EvT σ0 n M (gvI d) (thN d (tL τw) (tR' τw)) (100 + i) c' (hdI d) x (2 * hgt M.2.2.2 τw c1)
  | .leaf, _, _, _, _, _, hh, _, _, _, _ => hh.elim
  | .inner k w u l r, hw, c1, c', i, d, hh, ii, ha, x, hx => by
    have Pg := P.2.2.2.2.1
    obtain ⟨i0, d0, u0, z1, z2, z3, ⟨z4, z4'⟩, z5, z6⟩ := iAt_had hh
    have ep := Option.some.inj (z1.symm.trans ii)
    injection ep with ep1 ep2
    subst ep1 ep2
    have dm := List.mem_of_getElem? z3
    injection z5 with y1 y2 y3 y4 y5
    subst y1
    rw [y2] at hx z2 hw
    obtain ⟨D, hD⟩ := Pg.2.2.2.2.2.2 d0 dm c' (by rw [z4]; exact ha)
    have eD : avD M.2.2.1 M.2.2.2 i0 = some D := by
      unfold avD
      rw [z3, Option.bind_some, z4, ha, Option.bind_some, Option.bind_some]
      exact hD
    have z2' : iOf M.2.2.2 c1 d0.2.1 = some i0 := by rw [z4']; rw [← y2] at z2; exact z2
    rw [cA_eq Pg z2' z3 eD] at hx
    obtain ⟨i2, d2, cs, e1, e2, ⟨e3, e3'⟩, e4, e5, e6⟩ := avD_cs Pg z3 (by rw [z4]; exact ha) eD
    rw [e4, cDc_inner, if_neg (by decide)] at hx
    obtain ⟨x1, hx1, hx2⟩ := Option.bind_eq_some_iff.mp hx
    obtain ⟨X, hX, hX2⟩ := Option.map_eq_some_iff.mp hx1
    have hx3 : x1 + 0 = x := by
      obtain ⟨z, hz, hz2⟩ := Option.map_eq_some_iff.mp hx2
      have : z = 0 := (Option.some.inj hz).symm
      rw [this] at hz2
      exact hz2
    obtain ⟨xs, s1, s2, s3⟩ := dcL_cost e5 hX
    have O : okTh M.2.2.2 (gvI d0) (thN d0 l r) := okTh_in (u := u) Pg dm hw z6
    have hin := (List.getElem?_eq_some_iff.mp z3).1
    have i20 := Pg.2.1
    have eg : gvW M (100 + i0) = gvI d0 := by
      unfold gvW
      rw [if_neg (by omega), if_pos (by omega), show 100 + i0 - 100 = i0 by omega, z3]; rfl
    have hp1 : 1 ≤ hgt M.2.2.2 (.inner 1 w u l r) c1 := by
      rw [hgt_in (k := 1) (u := u) (l := l) (r := r) (by rw [y2]; exact z2) z3]
      omega
    have hg : ∀ g ∈ gvI d0, g.1 < 100 → g.1 < M.2.2.1.length := fun g hg _ => by
      obtain ⟨c, q1, q2⟩ := List.mem_map.mp hg
      rw [← q2]
      have pg := (P.1.2.1.2.2.2 i0 d0 z3).2.2.2.1.2.2
      obtain ⟨k', kl, ke⟩ := List.getElem_of_mem q1
      exact (pg k' c (by rw [List.getElem?_eq_getElem kl, ke])).2.2.1
    -- the conditions
    obtain ⟨ls, l1, l2⟩ := lch (P := fun k' (y : (Nat × Nat) × Ty × Nat) => d2.2.2.2.1[k']? = some y.1 ∧ xs[k']? = some y.2.2 ∧ (if y.1.2 = 0 then hdN d0.2.2.1 0 else hdN d0.2.2.1 1) ≠ .leaf ∧ knT M.2.2.2 (gvI d0) (QN σ0 n) 130 (if y.1.2 = 0 then hdN d0.2.2.1 0 else hdN d0.2.2.1 1) y.2.1 ∧ EvT σ0 n M (gvI d0) (thN d0 l r) (100 + i0) y.1.1 y.2.1 y.2.2 (2 * hgt M.2.2.2 (.inner 1 w u l r) c1 - 1)) d2.2.2.2.1.length (fun k' hk => by
      have epk : d2.2.2.2.1[k']? = some (d2.2.2.2.1[k']) := List.getElem?_eq_getElem hk
      generalize d2.2.2.2.1[k'] = p at epk
      have exk : xs[k']? = some (xs[k']'(by omega)) := List.getElem?_eq_getElem (by omega)
      generalize xs[k']'(by omega) = xk at exk
      obtain ⟨Dp, dp1, dp2⟩ := s3 k' p xk epk exk
      obtain ⟨j, nn, cd, w', f1, f2, f3, f4, f5, f6, f7⟩ := e6 p (List.mem_of_getElem? epk)
      have eDp := Option.some.inj (f7.symm.trans dp1)
      rw [← eDp, cDc_inner, if_pos rfl] at dp2
      obtain ⟨q1, hq1, hq2⟩ := Option.bind_eq_some_iff.mp dp2
      have hq3 : q1 + 0 = xk := by
        obtain ⟨z, hz, hz2⟩ := Option.map_eq_some_iff.mp hq2
        have : z = 0 := (Option.some.inj hz).symm
        rw [this] at hz2
        exact hz2
      have egj : (gvI d0)[j]? = some (cd.1, d0.2.2.1.getD cd.2 0, .leaf) := by
        show (d0.2.2.2.1.map _)[j]? = _
        rw [List.getElem?_map, f4]; rfl
      have hq4 : cUp (cA M.2.2.1 M.2.2.2 (thN d0 l r (d0.2.2.1.getD cd.2 0))) M.2.2.1 nn cd.1 = some q1 := by
        have : ((gvI d0)[j]?).bind (fun g => cUp (cA M.2.2.1 M.2.2.2 (thN d0 l r g.2.1)) M.2.2.1 nn g.1) = some q1 := hq1
        rw [egj, Option.bind_some] at this
        exact this
      have cm := List.mem_of_getElem? f4
      have ci := ((Pg.2.2.2.1 d0 dm).2.2 cd cm).1
      have ewn : d0.2.2.1.getD cd.2 0 = w' := by rw [f5, List.getD_eq_getElem?_getD, f2]; rfl
      have eθ : thN d0 l r w' = if p.2 = 0 then l else r := by
        rw [← ewn, thN_at (Pg.1 d0 dm).1 ci, f5]
      rw [ewn] at hq4 egj
      have eh : (if p.2 = 0 then hdN d0.2.2.1 0 else hdN d0.2.2.1 1) = tNm w' := f1
      have hlt := hgt_lt (k := 1) (u := u) (l := l) (r := r) (c := c1) (w := w) (by rw [y2]; exact z2) z3 cm
      rw [f5] at hlt
      have wfp : wfT (thN d0 l r w') := (O.1 w').2
      refine ⟨(p, tNm w', xk), epk, exk, ?_, ?_, ?_⟩
      · show (if p.2 = 0 then hdN d0.2.2.1 0 else hdN d0.2.2.1 1) ≠ .leaf
        rw [eh]
        exact fun z => by cases z
      · show knT M.2.2.2 (gvI d0) (QN σ0 n) 130 (if p.2 = 0 then hdN d0.2.2.1 0 else hdN d0.2.2.1 1) (tNm w')
        rw [eh]
        exact kn_nf rfl (by show w32 (w32 (1 + 0) + 0) ≤ 60; decide)
      · show EvT σ0 n M (gvI d0) (thN d0 l r) (100 + i0) p.1 (tNm w') xk _
        rw [← hq3, Nat.add_zero]
        refine ev_nm P hg f3 egj ⟨Pg.2.2.2.2.2.1 d0 dm cd cm, rfl⟩ f6 hq4 wfp ?_ (.inl ?_)
        · rw [eθ]
          by_cases q : p.2 = 0
          · rw [if_pos q]; exact ev_A P hw.2.1
          · rw [if_neg q]; exact ev_A P hw.2.2
        · show 1 + 2 * hgt M.2.2.2 (thN d0 l r w') cd.1 ≤ _
          rw [eθ]
          by_cases q : p.2 = 0
          · rw [if_pos q] at hlt ⊢
            omega
          · rw [if_neg q] at hlt ⊢
            omega)
    have el : ls.map Prod.fst = d2.2.2.2.1 := map_fst l1 (fun k' y e => (l2 k' y e).1)
    have es : (ls.map (fun y => y.2.2)).sum = xs.sum := zip_sum (by omega) (fun k' y x' ey ex' => Option.some.inj ((l2 k' y ey).2.1.symm.trans ex'))
    have fin := ev_in (σ0 := σ0) (n := n) (xx := ()) (l := hdN d0.2.2.1 0) (r := hdN d0.2.2.1 1) (h := 2 * hgt M.2.2.2 (.inner 1 w u l r) c1 - 1) (o := 100 + i0) P O (.inr (.inl ⟨by omega, by omega⟩)) eg (gvI_F' Pg dm) e1 e2 (fun X hX => by
      rcases hX with e | e
      · rw [e]; exact ⟨okF_nf (hdN_nf _ _).1, by have := (hdN_nf d0.2.2.1 0).2.2.2; omega⟩
      · rw [e]; exact ⟨okF_nf (hdN_nf _ _).1, by have := (hdN_nf d0.2.2.1 1).2.2.2; omega⟩) ls el (fun y hy => by
      obtain ⟨k', kl, ke⟩ := List.getElem_of_mem hy
      exact (l2 k' y (by rw [List.getElem?_eq_getElem kl, ke])).2.2) (by omega)
    rw [es, s2, show 2 * hgt M.2.2.2 (.inner 1 w u l r) c1 - 1 + 1 = 2 * hgt M.2.2.2 (.inner 1 w u l r) c1 by omega, show 1 + X = x by omega] at fin
    exact fin
end LTG
