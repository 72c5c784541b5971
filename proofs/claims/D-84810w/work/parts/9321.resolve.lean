set_option maxRecDepth 100000
/-! RESOLVE as a whole: all becomes known alike, or the same place breaks a rule of names -/
/-- what resolve writes in the twin -/
abbrev RFS : List Nat := [452, 456, 532, 644, 648, 652, 764, 784, 788, 812, 856]
abbrev RFA : List Nat := ZA ++ [686, 694, 698, 702, 706, 710, 714, 718, 722, 738, 742, 746, 750, 754, 758, 762, 778, 550, 782, 850] ++ TYA
section LRA
variable {G : om_G} {A : Nat} {S : List Int} {b m : Nat} {N : List (List Int)} {pr tb : Nat} {hr : om_H} {fl : List Nat} {σr : tS} {n : Nat}
theorem hU_V {alo ahi : Nat} {h h' : om_H} (H : hU alo ahi h h') : hkV alo ahi h h' := fun y c d => by
  obtain ⟨x1, x2, x3, x4, x5, x6, x7, x8⟩ := H y c d
  exact ⟨x1, fun f hf => x2 f (fun z => hf (List.mem_append_left _ z)), fun f _ => x3 f, x7, x8, x4, x6⟩
theorem hU_hs {alo ahi : Nat} {h h' : om_H} (H : hU alo ahi h h') : hs alo ahi h h' := fun y c d => by
  obtain ⟨x1, x2, x3, x4, x5, x6, x7, x8⟩ := H y c d
  exact ⟨x1, fun f hf => x2 f (fun z => hf (by simp only [List.cons_append, List.nil_append, List.mem_cons, List.not_mem_nil, or_false] at z ⊢; omega)), fun f _ => x3 f, x7⟩
theorem cRs_tok {kk : Nat} : ∀ {ps : List PD} {s : PS} {y : Int}, y ∈ cRs S kk s ps → ∃ j, y = (tokq S j : Int)
  | [], _, _, h => absurd h List.not_mem_nil
  | p :: ps, s, y, h => by
    rcases List.mem_append.mp h with h | h
    · split at h
      · unfold cR at h
        split at h
        · rcases List.mem_append.mp h with h | h
          · rcases List.mem_append.mp h with h | h
            · split at h
              · exact absurd h List.not_mem_nil
              · exact ⟨_, List.mem_singleton.mp h⟩
            · obtain ⟨a, _, e⟩ := abB_mem h
              exact ⟨a, e⟩
          · obtain ⟨a, _, e⟩ := m4_mem h
            exact ⟨a, e⟩
        · split at h
          · split at h
            · exact absurd h List.not_mem_nil
            · exact ⟨_, List.mem_singleton.mp h⟩
          · split at h
            · exact absurd h List.not_mem_nil
            · exact ⟨_, List.mem_singleton.mp h⟩
      · exact absurd h List.not_mem_nil
    · exact cRs_tok h
theorem cHA_tok {ps : List PD} {s : PS} {y : Int} (h : y ∈ cHA S s ps) : ∃ j, y = (tokq S j : Int) := by
  unfold cHA at h
  simp only [List.mem_append] at h
  rcases h with h | h | h | h | h
  · obtain ⟨j, _, e⟩ := toB_mem h; exact ⟨j, e⟩
  · obtain ⟨j, _, e⟩ := toB_mem h; exact ⟨j, e⟩
  · exact cRs_tok h
  · exact cRs_tok h
  · exact cRs_tok h
/-- no break at the heads: none at all -/
theorem psA_nil {ps : List PD} {s : PS} (hS : S.length ≤ 2000) (H : ∀ p ∈ ps, (p.1 = 5 ∨ p.1 = 6 ∨ p.1 = 2) ∧ oK p) (hB : ∀ y ∈ psA S s ps, 2147483647 ≤ y) : psA S s ps = [] := by
  obtain ⟨h1, h2⟩ := cHA_lb (S := S) ps s H
  have c0 : ∀ z ∈ cHA S s ps, False := fun z hz => by
    obtain ⟨y, y1, y2⟩ := h1 z hz
    obtain ⟨j, e⟩ := cHA_tok hz
    have := hB y y1
    have := tok_le S j
    omega
  refine List.eq_nil_iff_forall_not_mem.mpr (fun y hy => ?_)
  obtain ⟨z, z1, _⟩ := h2 y hy
  exact c0 z z1
set_option maxHeartbeats 4000000 in
/-- RESOLVE -/
theorem resolve_all {t : Nat} {Z : Nat → Prop} {σ0 : tS} {h0 : om_H} {HZ HU j M : Nat} {qs : List dcl} (hm : m ≤ 1300) (H : At G A t N S b m j 0 M σr hr) (B : PB G A t S b m Z pr σ0 h0 HZ HU j M σr hr qs) (h00 : 0 < hz h0) (nd : ndN N) (P0 : PT1 S N b m σr ([], [], [], [], [], 0)) (Ty : ∀ K, TyK K σr n) (hn : n + 3 * M ≤ 126000) (T0 : ∀ cl, TB G hr N cl tb [] fl []) (hfl : fl.length ≤ 149990) (e78 : fR hr 78 pr = tb) (dD : ∀ y, DT hr tb fl y → y < hz h0) (hpr : pr < hz h0) (hZ : ∀ a, Z a → a < hz h0) (hL : ∀ f ∈ PFs, fR hr f pr ≠ fR hr 122 tb) :
    ∃ (ps : List PD) (rs : List (Nat × Nat × Nat × Nat)) (h' : om_H) (ul' fl' : List Nat) (y1 y2 y3 τ' : tS) (n' : Nat),
      (ps.length = qs.length ∧ qs.length ≤ 650 ∧ prR G A S b hr σr M (hz hr) 0 qs rs (fun _ => []) 0 (hz h0) ∧ prC A S hr qs ps (fun _ => []) (hz h0) (hz hr) ∧ ∀ (i : Nat) (p : PD), ps[i]? = some p → dTw S b m σr i p) ∧
      C_1_resolve G pr hr = some h' ∧
      (om_loop T_isProgram_159s (0, σr) = some y1 ∧ om_loop T_isProgram_195s (0, us (us (us y1 788 0) 856 0) 812 0) = some y2 ∧ om_loop T_isProgram_216s (0, y2) = some y3 ∧ om_loop T_isProgram_237s (0, y3) = some τ') ∧
      (RX G A S N (prgL hr qs (fun _ => []) 82) (pss S ps).1 pr tb [] (prgL hr qs (fun _ => []) 90) (pss S ps).2.1 ((prgL hr qs (fun _ => []) 82).map (fun c => ll hr (fR hr 1230 c))) (pss S ps).2.2.1 h' ul' fl' ∧
        hs (hz h0) (hz hr) hr h' ∧ (∀ y, y < hz h0 → ¬ DT hr tb fl y → y ≠ pr → eqA y hr h') ∧ (hz hr ≤ hz h' ∧ ∀ y, y < hz hr → kd h' y = kd hr y) ∧ ((∀ f, f ≠ 112 → fI h' f pr = fI hr f pr) ∧ ∀ f, fR h' f pr = fR hr f pr) ∧ ((∀ f, f ≠ 124 → fI h' f tb = fI hr f tb) ∧ ∀ f, fR h' f tb = fR hr f tb) ∧ CPl tb hr [] fl h' ul' fl' (16 * M) (600 * M) ∧ ul'.length ≤ 3 * M + 3 * qs.length ∧ (dj h' tb fl' pr (hz h0) (hz hr) ∧ ∀ y ∈ fl', y ∈ fl ∨ hz h0 ≤ y) ∧ ∀ y, ink 5 y qs rs → an h' y = an hr y ∧ ∀ k, aR h' y k = aR hr y k) ∧
      (TU S b m N (pss S ps).1 (pss S ps).2.1 (pss S ps).2.2.1 τ' n' ∧ n' ≤ n + 3 * M ∧ tx σr n τ' n' ∧ fr RFS RFA σr τ' ∧ (∀ g ∈ PA, g ≠ 550 → ∀ i, ga τ' g i = ga σr g i) ∧ rwT S N τ' 0 ps ([], [], [], [], [], 0) ∧ PT1 S N b m y1 (pss S ps) ∧ gs τ' 644 = gs y1 644 ∧ gs τ' 648 = gs y1 648 ∧ gs τ' 652 = gs y1 652 ∧ gs τ' 812 = 0 ∧ TM τ' N (pss S ps).2.1 (pss S ps).2.2.1) ∧
      (fI h' 112 pr = bp τ' ∧ (bp τ' = 2147483647 ∨ bp τ' ≤ 2000)) ∧
      (bp τ' = 2147483647 → psA S ([], [], [], [], [], 0) ps = [] ∧ clT S N (prgL hr qs (fun _ => []) 82) [] hr h' ul' τ' n' qs ps ([], [], [], [], [], 0) ∧ inT G A S b N (prgL hr qs (fun _ => []) 82) (pss S ps).1 [] (prgL hr qs (fun _ => []) 90) (pss S ps).2.1 ((prgL hr qs (fun _ => []) 82).map (fun c => ll hr (fR hr 1230 c))) (pss S ps).2.2.1 hr h' ul' τ' n' (hz hr) qs ps rs 0 ([], [], [], [], [], 0) ∧ fnT G A S b N (prgL hr qs (fun _ => []) 82) (pss S ps).1 [] (prgL hr qs (fun _ => []) 90) (pss S ps).2.1 ((prgL hr qs (fun _ => []) 82).map (fun c => ll hr (fR hr 1230 c))) (pss S ps).2.2.1 hr h' ul' τ' n' (hz hr) qs ps rs 0 ([], [], [], [], [], 0)) := by
  obtain ⟨B1, B2, B3, B4, B5, B6, B7, B8, B9⟩ := id B
  have hA : A < hz hr := by rw [← H.2.2]; exact H.2.1.2.2.2
  obtain ⟨ps, lps, lqs, Dt, PC0, CB⟩ := CB_of hm H B hA h00
  have X : txC hr A S := CB.1.1
  have hS : S.length ≤ 2000 := X.2.2.1
  have em : tokk S m = 0 := H.1.1.2.2.1
  have z0 : hz h0 ≤ hz hr := B2.1
  have kp : kd hr pr = 2 := CB.2.1.1
  have M42 : M ≤ 2700 := by have := B4.2.2; omega
  obtain ⟨hx, s1, s2, s3, s4, s5⟩ := c_stands (G := G) (h := sI hr 112 pr 2147483647) CB (Nat.le_refl _) h00 PC0 (hF_sI (by decide)) (fun a _ => fI_ne (by decide))
  have Fx : hF FD hr hx := hF_trans (hF_sI (by decide)) (hF_mono s2 (by decide))
  have x112 : fI hx 112 pr = 2147483647 := by
    rw [s3.1 112 pr (by rw [kp]; decide) (by rw [kp]; decide) (by rw [kp]; decide)]
    exact fI_eq
  obtain ⟨wl1, wl2⟩ := prC_wL qs ps (fun _ => []) (hz h0) [] [] PC0 trivial trivial
  rw [List.nil_append] at wl1 wl2
  obtain ⟨pj1, pj2⟩ := pss_J (S := S) ps ([], [], [], [], [], 0)
  have g1 := b_greats (G := G) CB (jlG ps) 0 [] hx Fx pj1 rfl (fun i k e => by rw [Nat.zero_add]; exact wL_get wl1 e) (by rw [Nat.zero_add]; exact wL_len wl1)
  have g2 := b_names (G := G) CB (jlN ps) 0 [] (ruH hx pr (toB S cnI [] (jlG ps))) (ruH_FD Fx) pj2 rfl (fun i k e => by rw [Nat.zero_add]; exact wL_get wl2 e) (by rw [Nat.zero_add]; exact wL_len wl2)
  rw [ruH_app] at g2
  -- what is known at the start
  have fRx : ∀ f a, fR hx f a = fR hr f a := fun f a => (Fx.2 a).2.2.1 f
  have hTx : hT (fun y => kd hr y = 18 ∨ kd hr y = 19 ∨ kd hr y = 33 ∨ y = pr) hr hx := ⟨Nat.le_of_eq Fx.1.1.symm, Nat.le_of_eq Fx.1.2.symm, fun a _ => (Fx.2 a).1, fun a _ np => ⟨(Fx.2 a).1, fun f => by
    rw [s3.1 f a (fun z => np (.inl z)) (fun z => np (.inr (.inl z))) (fun z => np (.inr (.inr (.inl z))))]
    exact fI_na (fun z => np (.inr (.inr (.inr z)))), (Fx.2 a).2.2⟩⟩
  have T0c := T0 (clF (prgL hr qs (fun _ => []) 82))
  have k42 : kd hr (fR hr 122 tb) = 42 := T0c.2.1.1.2.1
  have TBx : TB G hx N (clF (prgL hr qs (fun _ => []) 82)) tb [] fl [] := TB_hT T0c nd hTx (fun y hy _ => by
      have k4 : kd hr y = 18 ∨ kd hr y = 19 ∨ kd hr y = 33 ∨ kd hr y = 2 := by
        rcases hy with e | e | e | e
        · exact .inl e
        · exact .inr (.inl e)
        · exact .inr (.inr (.inl e))
        · exact .inr (.inr (.inr (by rw [e]; exact kp)))
      exact ⟨by omega, by omega, by omega, fun z => by rw [z] at k4; omega⟩) (fun y hy => by
      have k4 : kd hr y = 18 ∨ kd hr y = 19 ∨ kd hr y = 33 ∨ kd hr y = 2 := by
        rcases hy with e | e | e | e
        · exact .inl e
        · exact .inr (.inl e)
        · exact .inr (.inr (.inl e))
        · exact .inr (.inr (.inr (by rw [e]; exact kp)))
      exact ⟨by omega, by omega, fun _ => (Fx.2 y).2.1 1200 (by decide)⟩)
  have Xx : txC hx A S := ⟨by rw [(Fx.2 A).1]; exact X.1, by rw [(Fx.2 A).2.2.2.1]; exact X.2.1, X.2.2.1, fun i x e => by rw [(Fx.2 A).2.2.2.2.1]; exact X.2.2.2.1 i x e, X.2.2.2.2⟩
  have d22 : fR hr 122 tb < hz h0 := dD _ (.inr (.inl rfl))
  have RXx : RX G A S N (prgL hr qs (fun _ => []) 82) (pss S ps).1 pr tb [] (prgL hr qs (fun _ => []) 90) (pss S ps).2.1 ((prgL hr qs (fun _ => []) 82).map (fun c => ll hr (fR hr 1230 c))) (pss S ps).2.2.1 hx [] fl := by
    refine ⟨⟨⟨TBx, nd⟩, ⟨Xx, by rw [Fx.1.1]; exact hA⟩, ⟨s4, by rw [fRx, fRx]; exact hL 82 (by simp), by rw [x112]; exact Int.le_refl _⟩⟩, s5, by rw [fRx, fRx]; exact hL 90 (by simp), fun c hc => ?_⟩
    rw [fRx, fRx]
    rcases prC_82 qs ps (fun _ => []) (hz h0) PC0 c hc with e | e
    · exact absurd e List.not_mem_nil
    · omega
  have RSx := RS_ruH (alo := hz h0) (ahi := hz hr) RXx (toB S cnI [] (jlG ps) ++ toB S btI [] (jlN ps))
  generalize ey : ruH hx pr (toB S cnI [] (jlG ps) ++ toB S btI [] (jlN ps)) = hy at *
  have kdy : ∀ a, kd hy a = kd hr a := fun a => by rw [← ey]; exact (Fx.2 a).1
  have fRy : ∀ f a, fR hy f a = fR hr f a := fun f a => by rw [← ey]; exact fRx f a
  have hzy : hz hy = hz hr := by rw [← ey]; exact Fx.1.1
  have huy : hu hy = hu hr := by rw [← ey]; exact Fx.1.2
  have oth : ∀ a, an hy a = an hr a ∧ (∀ k, aI hy a k = aI hr a k) ∧ (∀ k, aR hy a k = aR hr a k) ∧ ll hy a = ll hr a ∧ lc hy a = lc hr a := fun a => by rw [← ey]; exact (Fx.2 a).2.2.2
  have fIy : ∀ f a, a ≠ pr → f ∉ GD ++ ND → fI hy f a = fI hr f a := fun f a ha hf => by
    rw [← ey]
    have e1 : fI (ruH hx pr (toB S cnI [] (jlG ps) ++ toB S btI [] (jlN ps))) f a = fI hx f a := fI_na ha
    rw [e1, (s2.2 a).2.1 f hf]
    exact fI_na ha
  have Uy : hU (hz h0) (hz hr) hr hy := fun y c d => ⟨kdy y, fun f hf => fIy f y (by omega) hf, fun f => fRy f y, (oth y).1, (oth y).2.1, (oth y).2.2.1, (oth y).2.2.2.1, (oth y).2.2.2.2⟩
  have dj0 : dj hy tb fl pr (hz h0) (hz hr) := fun y hy' => by
    rcases hy' with (e | e | e | e) | e
    · exact .inl (dD y (.inl e))
    · rw [fRy] at e; exact .inl (dD y (.inr (.inl e)))
    · rw [fRy] at e; exact .inl (dD y (.inr (.inr (.inl e))))
    · exact .inl (dD y (.inr (.inr (.inr e))))
    · rw [e]; exact .inl hpr
  have lf0 : tl [] fl = 0 := tl_0 hfl
  have KR0 : KR S 0 M (hz h0) (hz hr) pr tb hy [] fl n := ⟨⟨h00, by omega, by omega, hS⟩, dj0, by omega, by rw [lf0]; omega⟩
  -- the twin's phase one
  obtain ⟨y1, p1, p2, p3, p4, p5⟩ := t_phase1 nd hS (by omega) ps.length 0 σr (by omega) (by rw [List.take_zero]; exact P0) (fun d' q' hd => absurd hd (Nat.not_lt_zero _)) Dt (by rw [lps]; exact B5)
  have b0 : bp σr = 2147483647 := by
    unfold bp
    rw [if_pos H.1.2.2.2.2.1]
  rw [b0, List.take_zero, List.drop_zero] at p4
  have p4' : bp y1 = mnl 2147483647 (psA S ([], [], [], [], [], 0) ps) := p4
  generalize eta : us (us (us y1 788 0) 856 0) 812 0 = τa at *
  have Ra : fr [788, 856, 812] [] y1 τa := by
    rw [← eta]
    exact fr_us (fr_us (fr_us (fr_refl _ _ _) (by simp)) (by simp)) (by simp)
  have ba : bp τa = bp y1 := bp_eq (Ra.1 452 (by decide)) (Ra.1 456 (by decide))
  have Rs0 : fr RFS RFA σr τa := fr_trans (fr_wide p2 (by decide) (by decide)) (fr_wide Ra (by decide) (by simp))
  have gaa : ∀ f i, ga τa f i = ga y1 f i := fun f i => Ra.2 f (by simp) i
  have TUa : TU S b m N (pss S ps).1 (pss S ps).2.1 (pss S ps).2.2.1 τa n := by
    refine ⟨⟨TyK_same (by rw [Ra.1 532 (by decide)]; exact p2.1 532 (by decide)) (fun f hf i => by rw [gaa]; exact p2.2 f (fun z => by simp only [List.mem_cons, List.not_mem_nil, or_false] at z hf; omega) i) (Ty _), TT_fr2 Ra (by simp) p3.1, ?_, by rw [Ra.1 452 (by decide)]; exact p3.2.2.2.2.2.2.2.2, ?_⟩, ⟨?_, ?_⟩, ?_⟩
    · rw [← eta]; exact p3.2.2.2.2.2.2.1.1
    · rw [ba, p4']; exact mnl_le.1
    · rw [← eta]; rfl
    · rw [← eta]; rfl
    · rw [← eta]; exact TM_TLk p3.2.2.2.2.2.2.2.1.1
  have a812 : gs τa 812 = 0 := by rw [← eta]; rfl
  have Rw : rwT S N τa 0 ps ([], [], [], [], [], 0) := rwT_fr Ra (by simp) (rwT_of ps [] 0 rfl (fun i q e => by
    have := p5 i q e
    rw [Nat.zero_add, List.nil_append]
    exact this))
  have Dt' : ∀ (i : Nat) (p : PD), ps[i]? = some p → dTw S b m σr (0 + i) p := fun i p e => by rw [Nat.zero_add]; exact Dt i p e
  have nla : nall 0 M σr τa := fun f hf i _ _ => by rw [gaa]; exact p2.2 f (fun z => by simp only [List.mem_cons, List.not_mem_nil, or_false] at z hf; omega) i
  have Hda : ∀ f ∈ DA, ∀ i, ga τa f i = ga σr f i := fun f hf i => by rw [gaa]; exact p2.2 f (fun z => by simp only [List.mem_cons, List.not_mem_nil, or_false] at z hf; omega) i
  have oKs := prC_oK qs ps (fun _ => []) (hz h0) PC0
  have g644 : gs τa 644 = ((min 8 (pss S ps).1.length : Nat) : Int) := by rw [Ra.1 644 (by decide)]; exact p3.2.2.1
  -- classes
  obtain ⟨h1, ul1, fl1, τ1, n1, BC5, B5', c1, c2, c3, c4, c5, c6, c7, c8, c9, c9b, c10, c11, c12⟩ := cl_loop (K := (pss S ps).1) (cs := prgL hr qs (fun _ => []) 82) X hA (Nat.le_refl _) qs ps 0 (fun _ => []) 0 (hz h0) ([], [], [], [], [], 0) hy [] fl τa n B7 ⟨_, PC0⟩ LS_nil Dt' Rw rfl rfl (CB.2.2.1 110 (by simp)).2.2.2 Uy nla Hda RSx.1 TUa KR0 (by rw [fRy]; exact e78) g644 (by omega)
  have z1 := c3.2.1.1.1
  have l1 := c3.2.1.2.2.2.1
  rw [lf0] at l1
  obtain ⟨rs, P⟩ := prows_R qs 0 (fun _ => []) 0 (hz h0) B7
  have V1 := hkV_trans (hU_V Uy) c4
  have nl1 : nall 0 M σr τ1 := fun f hf i q1 q2 => (c6.2 f (fun z => by simp only [List.mem_cons, List.not_mem_nil, or_false] at z hf; omega) i).trans (nla f hf i q1 q2)
  have Hd1 : ∀ f ∈ DA, ∀ i, ga τ1 f i = ga σr f i := fun f hf i => (c6.2 f (fun z => by simp only [List.mem_cons, List.not_mem_nil, or_false] at z hf; omega) i).trans (Hda f hf i)
  have cb86 := CB.2.2.1 86 (by simp)
  have Iy : LI hy pr tb (hz h0) (prgL hr qs (fun _ => []) 86) := ⟨⟨by rw [fRy, hzy]; exact cb86.1, by rw [fRy]; exact hZ _ (B3.2.1 86 (by simp)).2, by rw [fRy, fRy]; exact hL 86 (by simp)⟩, by rw [fRy, kdy]; exact cb86.2.1, by rw [fRy, (oth _).2.2.2.1]; exact cb86.2.2.1, cb86.2.2.2⟩
  have I1 := LI_RS RSx.1 Iy c3 (Nat.le_refl _)
  have dj1 := dj_CS dj0 c3.2.1 (by omega)
  have KR1 : KR S 0 M (hz h0) (hz hr) pr tb h1 ul1 fl1 n1 := ⟨⟨h00, by omega, by omega, hS⟩, dj1, by omega, by omega⟩
  have LL := LS_fold X hA (Nat.le_refl _) qs ps (fun _ => []) (hz h0) ([], [], [], [], [], 0) PC0 LS_nil
  have g648 : gs τ1 648 = ((min 20 (prgL hr qs (fun _ => []) 86).length : Nat) : Int) := by
    rw [c6.1 648 (by decide), Ra.1 648 (by decide), LL.2.2.1.2.2.2]
    exact p3.2.2.2.1
  have Rw1 := rwT_fr c6 (by decide) Rw
  have e122 : fR h1 122 tb = fR hr 122 tb := (c3.2.1.2.2.2.2.1.2 122).trans (fRy 122 tb)
  -- insts
  obtain ⟨h2, ul2, fl2, τ2, n2, BC6, B6', i1, i2, i3, i4, i5, ia, ib, i6, i6e, ⟨i7, i7', i7''⟩, i8, i9, i10, i10b, i11, i13⟩ := in_loop (K := (pss S ps).1) (Z := hz hr) (bnd := hz h0) (li := prgL hr qs (fun _ => []) 86) em hm X hA (Nat.le_refl _) qs ps rs 0 (fun _ => []) 0 (hz h0) ([], [], [], [], [], 0) h1 ul1 fl1 τ1 n1 P ⟨_, PC0⟩ LS_nil Dt' Rw1 rfl (rdy_all P V1 nl1) Hd1 c3.1 I1 (Nat.le_refl _) c5 KR1 (by omega) (by rw [c3.2.2.1.2 78, fRy]; exact e78) g648 (by omega) (by omega) ⟨by rw [e122]; omega, Nat.le_refl _, by omega⟩
  have z2 := i3.2.1.1.1
  have l2 := i3.2.1.2.2.2.1
  have dj2 := dj_CS dj1 i3.2.1 (by omega)
  have KR2 : KR S 0 M (hz h0) (hz hr) pr tb h2 ul2 fl2 n2 := ⟨⟨h00, by omega, by omega, hS⟩, dj2, by omega, by omega⟩
  have Rw2 := rwT_fr i5 (by decide) Rw1
  have Hd2 : ∀ f ∈ DA, ∀ i, ga τ2 f i = ga σr f i := fun f hf i => (i5.2 f (fun z => by simp only [List.mem_append, List.mem_cons, List.not_mem_nil, or_false] at z hf; omega) i).trans (Hd1 f hf i)
  have e122' : fR h2 122 tb = fR hr 122 tb := (i3.2.1.2.2.2.2.1.2 122).trans e122
  have g652 : gs τ2 652 = (cntS (pss S ps).2.1 (pss S ps).2.1.length : Int) := by
    rw [i5.1 652 (by decide), c6.1 652 (by decide), Ra.1 652 (by decide)]
    exact p3.2.2.2.2.2.1
  -- functions
  obtain ⟨h3, ul3, fl3, τ3, n3, BC2, B2', f1, f2, f3, f4, f5, f6, ⟨f6e, f6n⟩, f7, f8, f9, f10, f10b, f11, f12, f13⟩ := fn_loop (K := (pss S ps).1) (Z := hz hr) em hm X hA (Nat.le_refl _) qs ps rs 0 (fun _ => []) 0 (hz h0) ([], [], [], [], [], 0) h2 ul2 fl2 τ2 n2 P ⟨_, PC0⟩ LS_nil Dt' Rw2 rfl rfl (ib 2 (by decide) h2 (ia 2 (by decide) τ1 (rdy_all P V1 nl1))) Hd2 i3.1 i4 KR2 (by rw [i3.2.2.1.2 78, c3.2.2.1.2 78, fRy]; exact e78) g652 (by omega) (by omega) ⟨by rw [e122']; omega, Nat.le_refl _, by omega⟩
  have z3 := f3.2.1.1.1
  have l3 := f3.2.1.2.2.2.1
  have Rall := RS_trans (RS_trans c3 i3) f3
  have least : fI h3 112 pr = mnl 2147483647 (toB S cnI [] (jlG ps) ++ (toB S btI [] (jlN ps) ++ (BC5 ++ (BC6 ++ BC2)))) := by
    rw [f3.2.2.2.1, i3.2.2.2.1, c3.2.2.2.1, RSx.2.2.2.1, x112, ← mnl_app, ← mnl_app, ← mnl_app]
    simp only [List.append_assoc]
  have bpl : bp τ3 = mnl 2147483647 (psA S ([], [], [], [], [], 0) ps ++ (B5' ++ (B6' ++ B2'))) := by
    rw [f10, i10, c9, ba, p4', ← mnl_app, ← mnl_app, ← mnl_app]
  have al : fI h3 112 pr = bp τ3 := by
    rw [least, bpl]
    exact all_least (S := S) (s := ([], [], [], [], [], 0)) oKs c10 i11 f11 f12
  have hs3 : hs (hz h0) (hz hr) hr h3 := hs_trans (hU_hs Uy) (Rall.2.2.2.2 dj0 (by omega))
  have hs2 : hs (hz h0) (hz hr) hr h2 := hs_trans (hU_hs Uy) ((RS_trans c3 i3).2.2.2.2 dj0 (by omega))
  have bd : bp τ3 = 2147483647 ∨ bp τ3 ≤ 2000 := by
    have ml := mnl_le (A := psA S ([], [], [], [], [], 0) ps ++ (B5' ++ (B6' ++ B2'))) (x := 2147483647)
    have tk : ∀ j : Nat, (tokq S j : Int) ≤ 2000 := fun j => by have := tok_le S j; omega
    rw [bpl]
    by_cases hp : psA S ([], [], [], [], [], 0) ps = []
    · rcases mnl_in (A := psA S ([], [], [], [], [], 0) ps ++ (B5' ++ (B6' ++ B2'))) (x := 2147483647) with e | e
      · exact .inl e
      · have ub : ∀ B, bj S 0 B → ∀ y ∈ B, y = 2147483647 ∨ y ≤ 2000 := fun B hB y hy' => (hB y hy').imp id (fun ⟨j, _, e⟩ => by rw [e]; exact tk j)
        rcases List.mem_append.mp e with e | e
        · rw [hp] at e; exact absurd e List.not_mem_nil
        · rcases List.mem_append.mp e with e | e
          · exact ub _ c9b _ e
          · rcases List.mem_append.mp e with e | e
            · exact ub _ i10b _ e
            · exact ub _ f10b _ e
    · obtain ⟨y, hy'⟩ := List.exists_mem_of_ne_nil _ hp
      obtain ⟨l1, l2⟩ := cHA_lb (S := S) ps ([], [], [], [], [], 0) oKs
      obtain ⟨z, z1, z2⟩ := l2 y hy'
      obtain ⟨y', y1', y2'⟩ := l1 z z1
      obtain ⟨j', e⟩ := cHA_tok z1
      have := ml.2 y' (List.mem_append_left _ y1')
      have := tk j'
      exact .inr (by omega)
  refine ⟨ps, rs, h3, ul3, fl3, y1, τ1, τ2, τ3, n3, ⟨lps, lqs, P, PC0, Dt⟩, ?_, ⟨p1, by rw [eta]; exact c2, i2, f2⟩, ⟨f3.1, hs3, fun y y1 y2 y3 => ?_, ⟨by omega, fun y hy' => ?_⟩, ⟨fun f hf => ?_, fun f => ?_⟩, ⟨fun f hf => ?_, fun f => ?_⟩, ?_, ?_, ⟨dj_CS dj2 f3.2.1 (by omega), fun y hy' => (Rall.2.1.2.2.1 y hy').imp id (fun w => by omega)⟩, fun y hy' => ?_⟩, ⟨f4, by omega, ?_, ?_, fun g hg hne i => ?_, rwT_fr f5 (by decide) Rw2, p3, ?_, ?_, ?_, ?_, fun w L e => ?_⟩, ⟨al, bd⟩, fun hb => ?_⟩
  · unfold C_1_resolve
    rw [gd_pos kp, s1, Option.bind_some, show (0 : Int) = ((0 : Nat) : Int) from rfl, g1, Option.bind_some, g2, Option.bind_some]
    have c1' : om_loop (C_1_resolve_139s G pr) (((0 : Nat) : Int), hy) = some h1 := c1
    have i1' : om_loop (C_1_resolve_174s G pr) (((0 : Nat) : Int), h1) = some h2 := i1
    have f1' : om_loop (C_1_resolve_209s G pr) (((0 : Nat) : Int), h2) = some h3 := f1
    rw [c1', Option.bind_some, i1', Option.bind_some, f1', Option.bind_some]
  · have e1 : eqA y hr hy := by
      refine ⟨kdy y, fun f => ?_, fun f => fRy f y, oth y⟩
      rw [← ey]
      have e1 : fI (ruH hx pr (toB S cnI [] (jlG ps) ++ toB S btI [] (jlN ps))) f y = fI hx f y := fI_na y3
      rw [e1, s3.2 f y y1]
      exact fI_na y3
    refine eqA_trans e1 (Rall.2.1.1.2.2.2 y (by omega) (fun e => ?_))
    rcases e with (e | e | e | e) | e | e
    · exact y2 (.inl e)
    · rw [fRy] at e; exact y2 (.inr (.inl e))
    · rw [fRy] at e; exact y2 (.inr (.inr (.inl e)))
    · exact y2 (.inr (.inr (.inr e)))
    · exact y3 e
    · omega
  · rw [Rall.2.1.1.2.2.1 y (by omega)]; exact kdy y
  · rw [Rall.2.2.1.1 f hf, ← ey]
    have e1 : fI (ruH hx pr (toB S cnI [] (jlG ps) ++ toB S btI [] (jlN ps))) f pr = fI hx f pr := fI_ne hf
    rw [e1, s3.1 f pr (by rw [kp]; decide) (by rw [kp]; decide) (by rw [kp]; decide)]
    exact fI_ne hf
  · rw [Rall.2.2.1.2 f]; exact fRy f pr
  · have kt : kd hr tb = 3 := (TB_3 T0c).1
    have nt : tb ≠ pr := fun z => by rw [z, kp] at kt; omega
    rw [Rall.2.1.2.2.2.2.1.1 f hf, ← ey]
    have e1 : fI (ruH hx pr (toB S cnI [] (jlG ps) ++ toB S btI [] (jlN ps))) f tb = fI hx f tb := fI_na nt
    rw [e1, s3.1 f tb (by rw [kt]; decide) (by rw [kt]; decide) (by rw [kt]; decide)]
    exact fI_na nt
  · rw [Rall.2.1.2.2.2.2.1.2 f]; exact fRy f tb
  · obtain ⟨q1, q2, q3, q4⟩ := Rall.2.1.2.2.2.2.2.2.2.2
    rw [fRy, (oth _).2.2.2.2] at q4
    exact ⟨q1, q2, by omega, by omega⟩
  · obtain ⟨d, d1, d2⟩ := Rall.2.1.2.1
    rw [d1, List.nil_append]
    omega
  · obtain ⟨a1, a2⟩ := ink_in P hy'
    have e := eqA_trans (i6e y a1 a2 (ink_not (by decide) P hy')) (f6e y a1 a2 (ink_not (by decide) P hy'))
    have v := V1 y a1 a2
    exact ⟨e.2.2.2.1.trans v.2.2.2.2.2.1, fun k => (e.2.2.2.2.2.1 k).trans (v.2.2.2.2.2.2 k)⟩
  · exact tx_trans (tx_same (fun f hf i => by rw [gaa]; exact p2.2 f (fun z => by simp only [List.mem_cons, List.not_mem_nil, or_false] at z hf; omega) i)) (tx_trans c7 (tx_trans i8 f8))
  · exact fr_trans Rs0 (fr_trans (fr_wide c6 (by decide) (by decide)) (fr_trans (fr_wide i5 (by decide) (by decide)) (fr_wide f5 (by decide) (by decide))))
  · have hg' := hg
    simp only [List.mem_cons, List.not_mem_nil, or_false] at hg'
    rw [f5.2 g (fun z => by simp only [List.mem_append, List.mem_cons, List.not_mem_nil, or_false] at z; omega) i, i5.2 g (fun z => by simp only [List.mem_append, List.mem_cons, List.not_mem_nil, or_false] at z; omega) i, c6.2 g (fun z => by simp only [List.mem_cons, List.not_mem_nil, or_false] at z; omega) i, gaa]
    exact p2.2 g (fun z => by simp only [List.mem_cons, List.not_mem_nil, or_false] at z; omega) i
  · rw [f5.1 644 (by decide), i5.1 644 (by decide), c6.1 644 (by decide), Ra.1 644 (by decide)]
  · rw [f5.1 648 (by decide), i5.1 648 (by decide), c6.1 648 (by decide), Ra.1 648 (by decide)]
  · rw [f5.1 652 (by decide), i5.1 652 (by decide), c6.1 652 (by decide), Ra.1 652 (by decide)]
  · rw [f5.1 812 (by decide), i5.1 812 (by decide), c6.1 812 (by decide)]; exact a812
  · have e38 : ∀ f ∈ [638, 642], ∀ i, ga τ3 f i = ga y1 f i := fun f hf i => by
      simp only [List.mem_cons, List.not_mem_nil, or_false] at hf
      rcases hf with hf | hf <;> rw [hf]
      · rw [f5.2 638 (by decide), i5.2 638 (by decide), c6.2 638 (by decide), gaa]
      · rw [f5.2 642 (by decide), i5.2 642 (by decide), c6.2 642 (by decide), gaa]
    have q := p3.2.2.2.2.2.2.2.1.1 w L e
    rw [e38 638 (by simp), e38 642 (by simp)]
    exact q
  · rw [bpl] at hb
    have ge : ∀ y ∈ psA S ([], [], [], [], [], 0) ps ++ (B5' ++ (B6' ++ B2')), 2147483647 ≤ y := fun y hy' => by
      have := (mnl_le (A := psA S ([], [], [], [], [], 0) ps ++ (B5' ++ (B6' ++ B2'))) (x := 2147483647)).2 y hy'
      omega
    have m5 := bj_max hS c9b (fun y hy' => ge y (List.mem_append_right _ (List.mem_append_left _ hy')))
    have m6 := bj_max hS i10b (fun y hy' => ge y (List.mem_append_right _ (List.mem_append_right _ (List.mem_append_left _ hy'))))
    have m2 := bj_max hS f10b (fun y hy' => ge y (List.mem_append_right _ (List.mem_append_right _ (List.mem_append_right _ hy'))))
    have mx3 : fI h3 112 pr = 2147483647 := by rw [al, bpl]; exact hb
    have mx1 : fI h1 112 pr = 2147483647 := by
      have a1 := f3.2.2.2.1
      have a2 := i3.2.2.2.1
      have a3 := (mnl_le (A := BC2) (x := fI h2 112 pr)).1
      have a4 := (mnl_le (A := BC6) (x := fI h1 112 pr)).1
      have a5 := c3.1.1.2.2.2.2
      omega
    refine ⟨psA_nil hS oKs (fun y hy' => ge y (List.mem_append_left _ hy')), ?_, ?_, f13 m2⟩
    · refine clT_keep (fun T y c => f3.2.1.2.2.2.2.2.1 T y (i3.2.1.2.2.2.2.2.1 T y c)) (tx_trans i8 f8) (fun i => by rw [f5.2 686 (by decide), i5.2 686 (by decide)]) (fun e => by have b1 := (mnl_le (A := B2') (x := bp τ2)).1; have b2 := i4.1.2.2.2.2; have b3 := (mnl_le (A := B6') (x := bp τ1)).1; have b4 := c5.1.2.2.2.2; omega) P ⟨_, PC0⟩ (c11 m5) (fun y hy' => ?_)
      obtain ⟨a1, a2⟩ := ink_in P hy'
      exact eqA_trans (i6e y a1 a2 (ink_not (by decide) P hy')) (f6e y a1 a2 (ink_not (by decide) P hy'))
    · refine inT_keep (fun o => f5.2 546 (by decide) o) (fun o => f5.2 562 (by decide) o) (fun o => f5.2 602 (by decide) o) (fun o => f5.2 614 (by decide) o) (fun e => by have b1 := (mnl_le (A := B2') (x := bp τ2)).1; have b2 := i4.1.2.2.2.2; omega) (fun T y c => f3.2.1.2.2.2.2.2.1 T y c) f8 z3 (RS_kl i3.1 f3 (by rw [e122']; omega) (Nat.le_refl _)) (fun g hg i => f5.2 g (fun z => by simp only [List.mem_append, List.mem_cons, List.not_mem_nil, or_false] at z hg; omega) i) P ⟨_, PC0⟩ (i13 m6 mx1) hs2 (fun y hy' => ?_) (fun g hg i hi' => ?_)
      · obtain ⟨a1, a2⟩ := ink_in P hy'
        exact f6e y a1 a2 (ink_not (by decide) P hy')
      · by_cases e5 : g = 550
        · rw [e5]
          rcases f6n i with e | e
          · exact absurd e (inkN_not (by decide) P hi')
          · exact e
        · exact f5.2 g (fun z => by simp only [List.mem_append, List.mem_cons, List.not_mem_nil, or_false] at z hg; omega) i
end LRA
