set_option maxRecDepth 100000
/-! THE TWIN: one given of a name -/
section LGN
variable {σ τ : tS} {n n' : Nat} {E : JE} {B : Nat}
abbrev PFS : List Nat := [532, 836, 880, 884, 888]
theorem fr_PN (F : fr PFS NFA σ τ) : fr NFS NFA σ τ := ⟨fun f hf => F.1 f (fun h => hf (by
  simp only [List.mem_cons, List.not_mem_nil, or_false] at h ⊢
  omega)), F.2⟩
theorem WkC_mv {ab : List (Option Nat)} {ins : List INs} {gv : List GVs} {s : WS} (F : fr PFS NFA σ τ) (X : tx σ n τ n') (S : TyS τ n') (W : WkC σ n ab ins gv 2 0 s) : WkC τ n' ab ins gv 2 0 s := by
  obtain ⟨_, a2, a3, a4, a5, a6, a7⟩ := W
  have FJ := fr_NJ (fr_PN F)
  refine ⟨S, PGT_keep FJ X a2, GVT_keep FJ X a3, by rw [F.1 816 (by decide)]; exact a4, by rw [F.1 823 (by decide)]; exact a5, fun z => ?_, fun z => by omega⟩
  rw [F.1 827 (by decide), F.1 808 (by decide), F.1 812 (by decide)]
  exact a6 z
theorem fr_one {f : Nat} {x : Int} : fr [f] [] σ (us σ f x) := ⟨fun g hg => by rw [gs_us, if_neg (by simpa using hg)], fun _ _ _ => rfl⟩
theorem fr_sub {fs as fs' as' : List Nat} (F : fr fs as σ τ) (h1 : ∀ f ∈ fs, f ∈ fs') (h2 : ∀ f ∈ as, f ∈ as') : fr fs' as' σ τ := ⟨fun f hf => F.1 f (fun h => hf (h1 f h)), fun f hf => F.2 f (fun h => hf (h2 f h))⟩
/-- its things are put -/
theorem zip_lk {ns : List Nat} {ts : List Ty} (hl : ts.length = ns.length) {w k : Nat} (e : ixF (fun x => x == w) ns = some k) : ∃ T, ts[k]? = some T ∧ lkT (ns.zip ts) w = some T ∧ k < ns.length := by
  have kl := ixF_lt e
  have et : ts[k]? = some ts[k] := List.getElem?_eq_getElem (by omega)
  refine ⟨_, et, ?_, kl⟩
  have ez : (ns.zip ts)[k]? = some (ns[k], ts[k]) := List.getElem?_zip_eq_some.mpr ⟨List.getElem?_eq_getElem kl, et⟩
  rw [lk_ix, List.map_fst_zip (by omega), e, Option.bind_some, ez]
  rfl
/-- A GIVEN of a function's name -/
theorem t_given1 (J : JOk E B) (hg : ∀ g ∈ E.2.2.2.2, g.1 < 100 → g.1 < E.2.2.1.length) (S : TyS σ n) (JT : JTE σ n E) {lb : XL} {hi v : Nat} (v84 : v < 4200 ∧ hi ≤ 4200) (H : nmTw σ n lb hi v) (k1 : lb.2.1 = 1) {f : List Nat × List GVs × Ty} (ef : E.1[lb.2.2.1]? = some f) (hok : ∀ a ∈ lb.2.2.2.2.2, tyOk E.2.2.2.1 a.1 ∧ tsz a.1 ≤ 2700) (hl : lb.2.2.2.2.2.length = f.1.length) {j : Nat} {g : GVs} (eg : f.2.1[j]? = some g) {pl : Nat} {s : JS} {z : (Nat × Nat) ⊕ (Dc × JS)} (e : (if g.1 < 100 then jcl E pl g.1 ((lkT (f.1.zip (lb.2.2.2.2.2.map Prod.fst)) g.2.1).getD .leaf) s else jeq E pl (tnd 2 (g.1 - 100) ((lkT (f.1.zip (lb.2.2.2.2.2.map Prod.fst)) g.2.1).getD .leaf) .leaf) (sbT (f.1.zip (lb.2.2.2.2.2.map Prod.fst)) g.2.2) s) = some z) (e812 : gs σ 812 = (s.1 : Int)) (h300 : s.1 ≤ 300) (R : n + 9000 < 126000) (f0 : gs σ 452 = 0) : ∃ σ' n', T_given (v : Int) (lb.2.2.2.1 : Int) (j : Int) (pl : Int) σ = some σ' ∧ GvO σ n s z (if g.1 < 100 then 0 else 2) 9000 σ' n' := by
  obtain ⟨σ1, a1, F1, S1, X1, W1⟩ := asks_W S JT (s := s) e812
  have FJ1 : fr JFS JFA σ σ1 := fr_sub F1 (by decide) (by decide)
  have JT1 := JTE_keep FJ1 X1 JT
  have H1 := nmT_keep FJ1 X1 H
  obtain ⟨wa, wb, wab, w1, w2, _⟩ := id JT1.2.2.2.1
  have eS : jnS E wa wb lb.2.1 lb.2.2.1 = f.1 := by
    unfold jnS
    rw [if_pos k1, ef]; rfl
  have il := (List.getElem?_eq_some_iff.mp ef).1
  obtain ⟨⟨b1, b2, b3⟩, ⟨b4, b5, b6⟩, b7⟩ := JT1.2.1.2 _ f ef
  obtain ⟨σ2, p1, F2, PT⟩ := t_putAts JT1 v84 H1 (by omega) ⟨w1, w2⟩ ⟨fun _ => il, fun z => by omega⟩ (by rw [eS]; exact hl) (by rw [eS]; exact b2)
  rw [eS] at PT
  have fm := List.mem_of_getElem? ef
  have gm := List.mem_of_getElem? eg
  obtain ⟨_, _, Jg⟩ := J.2.1 f fm
  obtain ⟨c1, c2, ⟨k, c3, c4⟩, c5⟩ := b6 j g eg
  have jl := (List.getElem?_eq_some_iff.mp eg).1
  have i24 : lb.2.2.1 < 24 := by have := JT1.2.1.1; omega
  obtain ⟨Tf, t1, t2, t3⟩ := zip_lk (ns := f.1) (ts := lb.2.2.2.2.2.map Prod.fst) (by rw [List.length_map]; exact hl) c4
  rw [t2] at e
  have e' : (if g.1 < 100 then jcl E pl g.1 Tf s else jeq E pl (tnd 2 (g.1 - 100) Tf .leaf) (sbT (f.1.zip (lb.2.2.2.2.2.map Prod.fst)) g.2.2) s) = some z := e
  have okTf : tyOk E.2.2.2.1 Tf ∧ tsz Tf ≤ 2700 := by
    rw [List.getElem?_map] at t1
    cases qa : lb.2.2.2.2.2[k]? with
    | none => rw [qa] at t1; cases t1
    | some a =>
      rw [qa] at t1
      rw [← Option.some.inj t1]
      exact hok a (List.mem_of_getElem? qa)
  have X2 : tx σ1 n σ2 n := ⟨Nat.le_refl _, fun f hf _ x _ => F2.2 f (fun z => by
    simp only [List.mem_cons, List.not_mem_nil, or_false] at hf z
    omega) x⟩
  have S2 : TyS σ2 n := TyS_same (F2.1 532 (by decide)) (fun f hf i => F2.2 f (fun z => by
    simp only [List.mem_cons, List.not_mem_nil, or_false] at hf z
    omega) i) S1
  have cTf : tyT σ2 n Tf (ga σ2 834 k) := by
    have el : (f.1.zip (lb.2.2.2.2.2.map Prod.fst))[k]? = some (f.1[k], Tf) := List.getElem?_zip_eq_some.mpr ⟨List.getElem?_eq_getElem t3, t1⟩
    exact (PT.2.2 k _ el).2
  have FP2 : fr PFS NFA σ1 σ2 := fr_sub F2 (by decide) (by decide)
  have W2 := WkC_mv FP2 X2 S2 W1
  -- what is put
  obtain ⟨ix, eix⟩ : ∃ ix : Nat, ix = 4 * lb.2.2.1 + j := ⟨_, rfl⟩
  have i4 : w32 (w32 (4 * (lb.2.2.1 : Int)) + (j : Int)) = (ix : Int) := by rw [w32_s (x := 4 * (lb.2.2.1 : Int)) (by omega) (by omega), w32_s (by omega) (by omega)]; omega
  have ixN : ((ix : Int)).toNat = ix := by omega
  obtain ⟨kn, nm1, nm2, nm3⟩ : ∃ kn : Nat, lb.2.2.2.1 < 2100 ∧ ga σ1 642 lb.2.2.2.1 = (lb.2.2.1 : Int) ∧ ga σ1 638 lb.2.2.2.1 = 1 := by
    obtain ⟨⟨k', _, _, _, y4⟩, y5, _⟩ := H1
    rcases y5 with y | ⟨_, _, y6, y7⟩
    · omega
    · refine ⟨0, y4, y6, ?_⟩
      rcases y7 with y | y | y
      · exact y.2
      · omega
      · omega
  have nmN : ((lb.2.2.2.1 : Int)).toNat = lb.2.2.2.1 := by omega
  have e750 : ga σ2 750 ix = (g.1 : Int) := by rw [F2.2 750 (by decide), eix]; exact c1
  have e754 : ga σ2 754 ix = (k : Int) := by rw [F2.2 754 (by decide), eix]; exact c3
  have e638 : ga σ2 638 lb.2.2.2.1 = 1 := by rw [F2.2 638 (by decide)]; exact nm3
  generalize eσ3 : us (us (us σ2 880 (g.1 : Int)) 884 (ga σ2 834 k)) 888 (-1) = σ3
  have gp : T_givenPut (v : Int) (lb.2.2.2.1 : Int) (j : Int) σ1 = (if (g.1 : Int) < 100 then some σ3 else T_givenPut_96 (j : Int) (lb.2.2.1 : Int) σ3) := by
    unfold T_givenPut
    rw [if_pos (by omega), p1, Option.bind_some, if_pos (by omega), nmN, e638, if_pos (by decide), nm2, i4, ixN, e754, if_pos (by have : k < f.1.length := t3; omega), e750, show ((k : Int)).toNat = k by omega, eσ3]
  have F3 : fr [880, 884, 888] [] σ2 σ3 := by
    rw [← eσ3]
    exact fr_trans (fr_trans (fr_sub fr_one (by decide) (by decide)) (fr_sub fr_one (by decide) (by decide))) (fr_sub fr_one (by decide) (by decide))
  have S3 : TyS σ3 n := by rw [← eσ3]; exact TyS_u (TyS_u (TyS_u S2 (by decide)) (by decide)) (by decide)
  have X3 : tx σ2 n σ3 n := by rw [← eσ3]; exact ⟨Nat.le_refl _, fun _ _ _ _ _ => rfl⟩
  have W3 := WkC_mv (fr_sub F3 (by decide) (by decide)) X3 S3 W2
  have g880 : gs σ3 880 = (g.1 : Int) := by rw [← eσ3, gs_us, if_neg (by decide), gs_us, if_neg (by decide), gs_us, if_pos rfl]
  have g884 : gs σ3 884 = ga σ2 834 k := by rw [← eσ3, gs_us, if_neg (by decide), gs_us, if_pos rfl]
  have N13 : fr NFS NFA σ σ3 := fr_trans (fr_trans (fr_sub F1 (by decide) (by decide)) (fr_PN FP2)) (fr_sub F3 (by decide) (by decide))
  have X13 := tx_trans (tx_trans X1 X2) X3
  have f3 : gs σ3 452 = 0 := by rw [F3.1 452 (by decide), F2.1 452 (by decide), F1.1 452 (by decide)]; exact f0
  unfold T_given
  rw [a1, Option.bind_some, gp]
  by_cases q : g.1 < 100
  · rw [if_pos (by omega), Option.bind_some, g880, if_neg (by omega)]
    rw [if_pos q] at e' ⊢
    obtain ⟨σ', n', r1, r2, r3, r4, r5, r6⟩ := t_jcl J hg e' W3 (t := gs σ3 884) (by rw [g884]; exact tyT_mono X3 cTf) okTf.1 (by omega) h300 (by omega) f3
    refine ⟨σ', n', r1, fr_trans N13 r2, r3, tx_trans X13 r4, fun k' p' q' => ?_, r6⟩
    obtain ⟨y1, y2, y3, y4⟩ := r5 k' p' q'
    exact ⟨y1, y2, y3, by omega⟩
  · rw [if_neg (by omega)]
    rw [if_neg q] at e' ⊢
    obtain ⟨_, d2⟩ := Jg g gm
    obtain ⟨d3, d4, d5, d6, d7⟩ := d2 (by omega)
    -- the type
    have hθ : ∀ p ∈ f.1.zip (lb.2.2.2.2.2.map Prod.fst), tyOk E.2.2.2.1 p.2 ∧ tsz p.2 ≤ 2700 := fun p hp => by
      obtain ⟨a, x1, x2⟩ := List.mem_map.mp (List.of_mem_zip hp).2
      rw [← x2]; exact hok a x1
    have wS : wfS (f.1.zip (lb.2.2.2.2.2.map Prod.fst)) := fun p hp => ⟨(hθ p hp).1.2.1, (hθ p hp).1.1⟩
    have PT3 : PutT σ3 n (f.1.zip (lb.2.2.2.2.2.map Prod.fst)) := by
      refine ⟨by rw [F3.1 836 (by decide)]; exact PT.1, PT.2.1, fun i p e => ?_⟩
      rw [F3.2 830 (by decide), F3.2 834 (by decide)]
      exact ⟨(PT.2.2 i p e).1, tyT_mono X3 (PT.2.2 i p e).2⟩
    have c758 : tyT σ3 n g.2.2 (ga σ3 758 ix) := by
      rw [F3.2 758 (by decide), F2.2 758 (by decide), eix]
      exact tyT_mono (tx_trans X2 X3) c5
    obtain ⟨tt, σ4, n4, q1, q2, q3, q4, q5, q6, q7, _, q9⟩ := t_put wS S3 PT3 c758 d6 (by omega)
    have q1' : T_put (ga σ3 758 ix) σ3 = some (tt, σ4) := q1
    -- the family
    have F4 : fr PFS NFA σ3 σ4 := fr_sub q4 (by decide) (by decide)
    generalize eσ5 : us σ4 888 tt = σ5
    have F5 : fr PFS NFA σ4 σ5 := by rw [← eσ5]; exact fr_sub fr_one (by decide) (by decide)
    have X5 : tx σ4 n4 σ5 n4 := by rw [← eσ5]; exact ⟨Nat.le_refl _, fun _ _ _ _ _ => rfl⟩
    have S5 : TyS σ5 n4 := by rw [← eσ5]; exact TyS_u q2 (by decide)
    have g5 : gs σ5 880 = (g.1 : Int) ∧ gs σ5 884 = ga σ2 834 k ∧ gs σ5 888 = tt := by
      rw [← eσ5]
      refine ⟨by rw [gs_us, if_neg (by decide), q4.1 880 (by decide)]; exact g880, by rw [gs_us, if_neg (by decide), q4.1 884 (by decide)]; exact g884, by rw [gs_us, if_pos rfl]⟩
    have cTf5 : tyT σ5 n4 Tf (ga σ2 834 k) := tyT_mono (tx_trans q3 X5) (tyT_mono X3 cTf)
    have hzs : tsz (sbT (f.1.zip (lb.2.2.2.2.2.map Prod.fst)) g.2.2) ≤ 2700 * 2700 := by
      have := sbT_tsz (B := 2700) (by decide) (fun p hp => (hθ p hp).2) d4.2.1
      have h2 : 2700 * tsz g.2.2 ≤ 2700 * 2700 := Nat.mul_le_mul_left _ d5
      omega
    obtain ⟨ft, σ6, n6, h1, h2, h3, h6, h5, h4, _⟩ := t_get (k := 2) (w := g.1 - 100) (r := .leaf) (u := -1) S5 (by decide) cTf5 rfl (by omega) (.inr (.inr (.inl ⟨rfl, fun z => okTf.1.1 ((tyT_0 cTf5).mpr z), rfl⟩)))
    have w100 : w32 (gs σ5 880 - 100) = ((g.1 - 100 : Nat) : Int) := by rw [g5.1, w32_s (by omega) (by omega)]; omega
    have e96 : T_givenPut_96 (j : Int) (lb.2.2.1 : Int) σ3 = some (us σ6 884 ft) := by
      unfold T_givenPut_96
      rw [i4, if_pos (by omega), ixN, q1', Option.bind_some]
      simp only
      rw [eσ5]
      have : w32 (gs σ4 880 - 100) = ((g.1 - 100 : Nat) : Int) := by
        have e : gs σ4 880 = gs σ5 880 := by rw [← eσ5, gs_us, if_neg (by decide)]
        rw [e]; exact w100
      have e84 : gs σ4 884 = ga σ2 834 k := by rw [q4.1 884 (by decide)]; exact g884
      have h1' : T_aType 2 ((g.1 - 100 : Nat) : Int) (ga σ2 834 k) (-1) σ5 = some (ft, σ6) := h1
      rw [this, e84, h1', Option.bind_some]
    rw [e96, Option.bind_some]
    have S7 : TyS (us σ6 884 ft) n6 := TyS_u h2 (by decide)
    have X7 : tx σ6 n6 (us σ6 884 ft) n6 := ⟨Nat.le_refl _, fun _ _ _ _ _ => rfl⟩
    have F6 : fr PFS NFA σ5 σ6 := fr_sub h4 (by decide) (by decide)
    have F7 : fr PFS NFA σ6 (us σ6 884 ft) := fr_sub fr_one (by decide) (by decide)
    have FF : fr PFS NFA σ3 (us σ6 884 ft) := fr_trans (fr_trans (fr_trans F4 F5) F6) F7
    have XX : tx σ3 n (us σ6 884 ft) n6 := tx_trans (tx_trans (tx_trans q3 X5) h3) X7
    have W7 := WkC_mv FF XX S7 W3
    have v880 : gs (us σ6 884 ft) 880 = (g.1 : Int) := by rw [gs_us, if_neg (by decide), h4.1 880 (by decide)]; exact g5.1
    have v884 : gs (us σ6 884 ft) 884 = ft := by rw [gs_us, if_pos rfl]
    have v888 : gs (us σ6 884 ft) 888 = tt := by rw [gs_us, if_neg (by decide), h4.1 888 (by decide)]; exact g5.2.2
    rw [v880, if_pos (by omega)]
    have okU : tyOk E.2.2.2.1 (sbT (f.1.zip (lb.2.2.2.2.2.map Prod.fst)) g.2.2) := tyOk_sb (fun p hp => (hθ p hp).1) d4
    have okT : tyOk E.2.2.2.1 (tnd 2 (g.1 - 100) Tf .leaf) := ⟨(by intro z; cases z), ⟨.inr (.inr (.inl ⟨rfl, okTf.1.1, rfl⟩)), okTf.1.2.1, trivial⟩, ⟨fun _ => ⟨by omega, d7⟩, okTf.1.2.2, trivial⟩⟩
    have fz : gs (us σ6 884 ft) 452 = 0 := by rw [FF.1 452 (by decide)]; exact f3
    have sbw := tszW_eq (T := sbT (f.1.zip (lb.2.2.2.2.2.map Prod.fst)) g.2.2) (by omega)
    obtain ⟨σ', n', r1, ⟨r2, r3, r4, r5, r6⟩, r7, r8⟩ := t_jeq J e' W7 (by rw [v884]; exact tyT_mono X7 h5) (by rw [v888]; exact tyT_mono (tx_trans (tx_trans X5 h3) X7) q5) okT okU (by show 1 + tsz Tf + 0 ≤ _; omega) (by omega) h300 (fun _ w => by omega) fz
    refine ⟨σ', n', r1, fr_trans (fr_trans N13 (fr_PN FF)) r2, r3, tx_trans (tx_trans X13 XX) r4, fun k' p' q' => ?_, fun a s' q' => ?_⟩
    · obtain ⟨y1, y2, y3, y4⟩ := r5 k' p' q'
      refine ⟨y1, y2, y3, ?_⟩
      by_cases w : tszW (sbT (f.1.zip (lb.2.2.2.2.2.map Prod.fst)) g.2.2) ≤ 60
      · omega
      · have := r8 (fun v => w v.2)
        omega
    · obtain ⟨y1, y2, y3, y4, y5⟩ := r6 a s' q'
      refine ⟨y1, y2, y3, ?_, y5⟩
      have y6 := r7 a s' q'
      rw [q'] at e'
      obtain ⟨j1, f60⟩ := jeq_id e'
      have := tszW_eq (T := sbT (f.1.zip (lb.2.2.2.2.2.map Prod.fst)) g.2.2) (by omega)
      rcases j1 with j1 | j1
      · have := q9 ⟨_, by rw [← j1]; exact tyT_mono X3 cTf⟩ ⟨_, by rw [← j1]; exact rfl⟩
        omega
      · omega
end LGN
