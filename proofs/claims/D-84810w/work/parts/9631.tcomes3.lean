set_option maxRecDepth 100000
/-! THE TWIN'S MACHINE: a thing comes back, as pcm says (all frames) -/
theorem bind_sm {α : Type} (o : Option α) : (o.bind fun p => some p) = o := by cases o <;> rfl
section LTE
variable {M : MPg} {σ0 : tS} {n m : Nat} {rg : Nat → Nat × Nat}
/-- what is to be done next is known -/
theorem mk_inl {σ σ' : tS} {s : MS} {fs : List Fr} {c : Nat} {y : Int} (r : Option tS) (er : r = some (us σ' 1020 y)) (H : mMd σ0 n M rg σ' fs c m) (e4 : s.2.2.2.1 = fs) (e5 : s.2.2.2.2.1 = c) (e6 : s.2.2.2.2.2 = m) (hcd : cdN σ0 n M rg s.2.2.1.1 s.1 y) (he : vTw M (cdN σ0 n M rg) σ' s.2.1 false (gs σ' 1024)) (ho : gs σ' 1028 = owT s.2.2.1.1) (hr : rTw M.2.2.2 σ' (gvW M s.2.2.1.1) s.2.2.1.2 (gs σ' 1037)) (FZ : fr CWS CWA σ σ') : mRw σ0 n M rg σ r (.inl s) := by
  obtain ⟨h1, h2⟩ := md_1020 (x := y) H
  refine ⟨_, er, ⟨by rw [e4, e5, e6]; exact h1, hcd, vTw_gr h2 he, ho, rTw_gr h2 hr⟩, fr_us FZ (by decide)⟩
theorem mk_full {σ σ' : tS} {fs : List Fr} {c : Nat} (r : Option tS) (er : r = some (us σ' 1000 4)) (H : mMd σ0 n M rg σ' fs c m) (hc : ¬ c < 4000) (FZ : fr CWS CWA σ σ') : mRw σ0 n M rg σ r (.inr (4, .leaf, 4000, m)) := .inr ⟨(show (4 : Nat) ≠ 2 by decide), _, er, full_md H hc, fr_us FZ (by decide)⟩
/-- A THING COMES BACK -/
theorem t_comes : ∀ (fs : List Fr) (v : Vt) (x : Int) (T : Ty) (σ : tS) (c : Nat), mMd σ0 n M rg σ fs c m → vTw M (cdN σ0 n M rg) σ v true x → fTy M fs T → vT M v (.inl T) → mRw σ0 n M rg σ (T_comes x σ) (pcm fs v c m)
  | [], v, x, T, σ, c, H, hx, _, _ => by
    refine .inl ⟨rfl, x, σ, ?_, ⟨H.1, H.2.1, H.2.2.2.1, H.2.2.2.2.1, H.2.2.1.1, hx⟩, fr_refl _ _ _⟩
    have st : T_comes_2s (x, σ) = some (.inr (.inl (x, σ))) := by
      unfold T_comes_2s
      simp only
      rw [H.2.2.2.2.1, if_neg (fun z => z rfl), H.2.2.1.1, if_neg (fun z => z rfl)]
    unfold T_comes
    rw [om_loop_out st]
    exact bind_sm _
  | f :: fs, v, x, T, σ, c, H, hx, hT, hv => by
    have sh := pcm_sh hT hv
    obtain ⟨pm, pF, pG, pe, po, pr⟩ := pop_md H
    have F0 := H.1
    have tc := tc_eq (x := x) H
    have hlen := H.2.2.1.2
    rw [List.length_cons] at hlen
    have c4 : c ≤ 4000 := H.2.1.2.2.2
    obtain ⟨⟨k70, kcd, kenv, kow, krow, kth⟩, _⟩ := H.2.2.2.2.2
    obtain ⟨nd, end', nd42, _⟩ := cd_node kcd F0
    rw [end'] at kcd
    have pZ : fr CWS CWA σ (popT σ fs.length) := fr_sub pF (by decide) (by decide)
    have xP := vTw_gr pG hx
    have nn : ((nd : Int)).toNat = nd := by omega
    unfold pcm
    rcases sh with ⟨h1, h2⟩ | ⟨h1, h2, h3, h4⟩ | ⟨h1, h2, h3⟩ | ⟨h1, h2, ⟨h3, h3a, h3b⟩, ⟨h4, h4a, h4b⟩, T', h5, h6⟩ | ⟨h1, h2⟩
    · -- an argument, a right side, a body
      rcases h1 with q | q | q
      · rw [if_pos q]
        have st : T_comes_2s (x, σ) = some (.inr (.inr (.inl (x, (nd : Int), popT σ fs.length)))) := by
          rw [tc]
          unfold tcB
          rw [k70, q, if_pos (by decide), end']
        obtain ⟨σ', s1, s2, s3, s4⟩ := t_frM (f := (112, f.2.1, f.2.2.1, f.2.2.2.1, v)) (v := (nd : Int)) (x := x) pm (by omega) kcd pe po pr (fun _ => xP)
        rw [show max m (fs.length + 1) = m by omega] at s2
        have F' := s2.1
        refine mk_inl (σ' := σ') (y := ga σ0 550 nd) (c := c) (fs := (112, f.2.1, f.2.2.1, f.2.2.2.1, v) :: fs) _ ?_ s2 rfl rfl rfl (cd_12 kcd (.inl (by omega))).2 (by rw [s3.1 1024 (by decide)]; exact vTw_gr s4 pe) (by rw [s3.1 1028 (by decide)]; exact po) (by rw [s3.1 1037 (by decide)]; exact rTw_gr s4 pr) (fr_trans pZ (fr_sub s3 (by decide) (by decide)))
        unfold T_comes
        rw [om_loop_out st]
        show ((T_frame ((112 : Nat) : Int) (nd : Int) x (popT σ fs.length)).bind fun p3 => if p3.1 = 0 then some p3.2 else if 0 ≤ (nd : Int) ∧ (nd : Int) < 8400 then (some (us p3.2 1020 (ga p3.2 550 ((nd : Int)).toNat))) else none) = _
        rw [s1, Option.bind_some, if_neg (show ¬ (1 : Int) = 0 by decide), if_pos (by omega), nn, F'.2 550 (by decide)]
      · rw [if_neg (by omega), if_pos q]
        have st : T_comes_2s (x, σ) = some (.inr (.inr (.inr (.inl (x, (nd : Int), popT σ fs.length))))) := by
          rw [tc]
          unfold tcB
          rw [k70, q, if_neg (by decide), if_neg (by decide), if_neg (by decide), if_neg (by decide), if_pos (by decide), end']
        obtain ⟨σ', s1, s2, s3, s4⟩ := t_frM (f := (118, f.2.1, f.2.2.1, f.2.2.2.1, v)) (v := (nd : Int)) (x := x) pm (by omega) kcd pe po pr (fun _ => xP)
        rw [show max m (fs.length + 1) = m by omega] at s2
        have F' := s2.1
        refine mk_inl (σ' := σ') (y := ga σ0 550 nd) (c := c) (fs := (118, f.2.1, f.2.2.1, f.2.2.2.1, v) :: fs) _ ?_ s2 rfl rfl rfl (cd_12 kcd (.inr (by omega))).2 (by rw [s3.1 1024 (by decide)]; exact vTw_gr s4 pe) (by rw [s3.1 1028 (by decide)]; exact po) (by rw [s3.1 1037 (by decide)]; exact rTw_gr s4 pr) (fr_trans pZ (fr_sub s3 (by decide) (by decide)))
        unfold T_comes
        rw [om_loop_out st]
        show ((T_frame ((118 : Nat) : Int) (nd : Int) x (popT σ fs.length)).bind fun p3 => if p3.1 = 0 then some p3.2 else if 0 ≤ (nd : Int) ∧ (nd : Int) < 8400 then (some (us p3.2 1020 (ga p3.2 550 ((nd : Int)).toNat))) else none) = _
        rw [s1, Option.bind_some, if_neg (show ¬ (1 : Int) = 0 by decide), if_pos (by omega), nn, F'.2 550 (by decide)]
      · rw [if_neg (by omega), if_neg (by omega), if_pos q]
        have st : T_comes_2s (x, σ) = some (.inr (.inr (.inr (.inr (.inl (x, (nd : Int), popT σ fs.length)))))) := by
          rw [tc]
          unfold tcB
          rw [k70, q, if_neg (by decide), if_pos (by decide), end']
        have un : T_comes x σ = (T_bind x (popT σ fs.length)).bind fun p5 => if p5.1 = 0 then some p5.2 else if 0 ≤ (nd : Int) ∧ (nd : Int) < 8400 then (some (us p5.2 1020 (ga p5.2 558 ((nd : Int)).toNat))) else none := by
          unfold T_comes
          rw [om_loop_out st]
          rfl
        by_cases hc : c < 4000
        · rw [if_pos hc]
          obtain ⟨σ', s1, s3, s4, s5, s6⟩ := t_bindM pm.2.1 hc pe xP
          have s2 := md_grow pm s3 (by decide) (by decide) (by decide) (by decide) s4 s5
          refine mk_inl (σ' := σ') (y := ga σ0 558 nd) (c := c + 1) (fs := fs) _ ?_ s2 rfl rfl rfl (cd_15 kcd (by omega)).2 s6 (by rw [s3.1 1028 (by decide)]; exact po) (by rw [s3.1 1037 (by decide)]; exact rTw_gr s4 pr) (fr_trans pZ (fr_sub s3 (by decide) (by decide)))
          rw [un, s1, Option.bind_some, if_neg (show ¬ (1 : Int) = 0 by decide), if_pos (by omega), nn, s2.1.2 558 (by decide)]
        · rw [if_neg hc]
          refine mk_full (σ' := popT σ fs.length) _ ?_ pm hc pZ
          rw [un, t_bindF pm.2.1 hc, Option.bind_some, if_pos rfl]
    · -- a choice
      rw [if_neg (by omega), if_neg (by omega), if_neg (by omega), if_pos h1]
      have st : T_comes_2s (x, σ) = some (.inr (.inr (.inr (.inr (.inr (.inl (x, (nd : Int), popT σ fs.length))))))) := by
        rw [tc]
        unfold tcB
        rw [k70, h1, if_neg (by decide), if_neg (by decide), if_pos (by decide), end']
      have un : T_comes x σ = if (shr64 x 3) ≠ 1 then if 0 ≤ (nd : Int) ∧ (nd : Int) < 8400 then (some (us (popT σ fs.length) 1020 (ga (popT σ fs.length) 554 ((nd : Int)).toNat))) else none else if 0 ≤ (nd : Int) ∧ (nd : Int) < 8400 then (some (us (popT σ fs.length) 1020 (ga (popT σ fs.length) 550 ((nd : Int)).toNat))) else none := by
        unfold T_comes
        rw [om_loop_out st]
        rfl
      have ex := vTw_2 hx h3
      have es : shr64 x 3 = xnm v := by rw [ex, th_shr (by decide) (by decide) (by omega) (by omega)]
      obtain ⟨_, d2, d3, _⟩ := cd_16 kcd (.inl h2)
      rcases h4 with z | z
      · rw [if_neg (by omega)]
        refine mk_inl (σ' := popT σ fs.length) (y := ga σ0 554 nd) (c := c) (fs := fs) _ ?_ pm rfl rfl rfl (d3 h2) pe po pr pZ
        rw [un, es, if_pos (by omega), if_pos (by omega), nn, pm.1.2 554 (by decide)]
      · rw [if_pos z]
        refine mk_inl (σ' := popT σ fs.length) (y := ga σ0 550 nd) (c := c) (fs := fs) _ ?_ pm rfl rfl rfl d2 pe po pr pZ
        rw [un, es, if_neg (by omega), if_pos (by omega), nn, pm.1.2 550 (by decide)]
    · -- a case
      rw [if_neg (by omega), if_neg (by omega), if_neg (by omega), if_neg (by omega), if_pos h1]
      have st : T_comes_2s (x, σ) = some (.inr (.inr (.inr (.inr (.inr (.inr (.inl (x, (nd : Int), popT σ fs.length)))))))) := by
        rw [tc]
        unfold tcB
        rw [k70, h1, if_neg (by decide), if_neg (by decide), if_neg (by decide), if_pos (by decide), end']
      have un : T_comes x σ = T_chooses (nd : Int) x (popT σ fs.length) := by
        unfold T_comes
        rw [om_loop_out st]
        exact bind_sm _
      obtain ⟨_, d2, _, d3⟩ := cd_16 kcd (.inr h2)
      rcases h3 with ⟨z1, z2⟩ | z
      · rw [if_pos z1]
        rcases vTw_3 hx z1 with ⟨_, ex⟩ | ⟨w, _⟩
        · refine mk_inl (σ' := popT σ fs.length) (y := ga σ0 550 nd) (c := c) (fs := fs) _ ?_ pm rfl rfl rfl d2 pe po pr pZ
          rw [un]
          unfold T_chooses
          rw [ex, th_and (by decide) (by decide) (by decide) (by decide), if_neg (fun z => z rfl), if_pos (by omega), nn, pm.1.2 550 (by decide)]
        · exact absurd z2 w
      · rw [if_neg (by omega)]
        obtain ⟨k, hk, ex, v1, v2⟩ := vTw_45 xP (.inl z)
        have ex' : x = 8 * (k : Int) + 3 := by omega
        have ct := pm.2.1
        have k4 : (k : Int) < 4000 := by have := ct.1; have := ct.2.1; omega
        have en : l2i (shr64 x 3) = (k : Int) := by rw [ex', th_num (by decide) (by decide) (by omega) (by omega)]
        have ea : and64 x 7 = 3 := by rw [ex', th_and (by decide) (by decide) (by omega) (by omega)]
        have un2 : T_comes x σ = ((T_bind (ga (popT σ fs.length) 930 k) (popT σ fs.length)).bind fun p1 => if p1.1 = 0 then some p1.2 else ((T_bind (ga p1.2 934 k) p1.2).bind fun p2 => if p2.1 = 0 then some p2.2 else (some (us p2.2 1020 (ga p2.2 558 nd))))) := by
          rw [un]
          unfold T_chooses
          have hk41 : 0 ≤ (k : Int) ∧ (k : Int) < 4100 := by omega
          have hn84 : 0 ≤ (nd : Int) ∧ (nd : Int) < 8400 := by omega
          rw [ea, if_pos (by decide), en, if_pos (by omega), show ((k : Int)).toNat = k by omega]
          simp only [if_pos hk41, if_pos hn84, nn]
        by_cases hc : c + 1 < 4000
        · rw [if_pos hc]
          obtain ⟨σ1, s1, s3, s4, s5, s6⟩ := t_bindM pm.2.1 (by omega) pe v1
          have m1 := md_grow pm s3 (by decide) (by decide) (by decide) (by decide) s4 s5
          obtain ⟨σ2, r1, r3, r4, r5, r6⟩ := t_bindM m1.2.1 (by omega) s6 (vTw_gr s4 v2)
          have m2 := md_grow m1 r3 (by decide) (by decide) (by decide) (by decide) r4 r5
          refine mk_inl (σ' := σ2) (y := ga σ0 558 nd) (c := c + 2) (fs := fs) _ ?_ m2 rfl rfl rfl (d3 h2) r6 (by rw [r3.1 1028 (by decide), s3.1 1028 (by decide)]; exact po) (by rw [r3.1 1037 (by decide), s3.1 1037 (by decide)]; exact rTw_gr r4 (rTw_gr s4 pr)) (fr_trans pZ (fr_trans (fr_sub s3 (by decide) (by decide)) (fr_sub r3 (by decide) (by decide))))
          rw [un2, s1, Option.bind_some, if_neg (show ¬ (1 : Int) = 0 by decide)]
          show ((T_bind (ga σ1 934 k) σ1).bind _) = _
          rw [s3.2 934 (by decide), r1, Option.bind_some, if_neg (show ¬ (1 : Int) = 0 by decide)]
          show some (us σ2 1020 (ga σ2 558 nd)) = _
          rw [m2.1.2 558 (by decide)]
        · rw [if_neg hc]
          by_cases hc1 : c < 4000
          · obtain ⟨σ1, s1, s3, s4, s5, s6⟩ := t_bindM pm.2.1 hc1 pe v1
            have m1 := md_grow pm s3 (by decide) (by decide) (by decide) (by decide) s4 s5
            refine mk_full (σ' := σ1) _ ?_ m1 (by omega) (fr_trans pZ (fr_sub s3 (by decide) (by decide)))
            rw [un2, s1, Option.bind_some, if_neg (show ¬ (1 : Int) = 0 by decide), t_bindF m1.2.1 (by omega), Option.bind_some, if_pos rfl]
          · refine mk_full (σ' := popT σ fs.length) _ ?_ pm hc1 pZ
            rw [un2, t_bindF pm.2.1 hc1, Option.bind_some, if_pos rfl]
    · -- a sign
      rw [if_neg (by omega), if_neg (by omega), if_neg (by omega), if_neg (by omega), if_neg (by omega), if_pos h1]
      obtain ⟨k, d1, d2, d3, d4⟩ := cd_18 kcd h2
      have hw := kth (by omega)
      have ew := vTw_1 hw h4
      have ex := vTw_1 hx h3
      obtain ⟨y, y1, y2⟩ := t_result (M := M) (cd := cdN σ0 n M rg) (σ := popT σ fs.length) (a := xnm f.2.2.2.2) (b := xnm v) d3 d4 rfl
      have st : T_comes_2s (x, σ) = some (.inl (y, popT σ fs.length)) := by
        rw [tc]
        unfold tcB
        rw [k70, h1, if_neg (by decide), if_neg (by decide), if_neg (by decide), if_neg (by decide), if_neg (by decide), if_pos (by decide), end', nn, F0.2 542 (by decide), d1, if_pos ⟨by omega, by omega, by omega, by omega⟩, show ((k : Int)).toNat = k by omega, F0.2 470 (by decide), ew, ex, th_num (by decide) (by decide) (by omega) (by omega), th_num (by decide) (by decide) (by omega) (by omega), y1]
        rfl
      have un : T_comes x σ = T_comes y (popT σ fs.length) := by
        unfold T_comes
        rw [om_loop_in st]
      rw [un]
      exact mRw_tr pZ (t_comes fs _ y T' (popT σ fs.length) c pm y2 h5 h6)
    · -- a use
      rw [if_neg (by omega), if_neg (by omega), if_neg (by omega), if_neg (by omega), if_neg (by omega), if_neg (by omega)]
      have hw := kth (by omega)
      have hwP := vTw_gr pG hw
      have ct := pm.2.1
      have lp : ∀ y σ', T_applied (ga σ 986 fs.length) x (popT σ fs.length) = some (y, σ') → and64 (ga σ 986 fs.length) 7 ≠ 5 → T_comes x σ = T_comes y σ' := fun y σ' e1 e2 => by
        have st : T_comes_2s (x, σ) = some (.inl (y, σ')) := by
          rw [tc]
          unfold tcB
          rw [k70, h1, if_neg (by decide), if_neg (by decide), if_neg (by decide), if_neg (by decide), if_neg (by decide), if_neg (by decide), if_pos e2, e1]
          rfl
        unfold T_comes
        rw [om_loop_in st]
      have fl : ∀ σ', T_applied (ga σ 986 fs.length) x (popT σ fs.length) = some (0, us σ' 1000 4) → and64 (ga σ 986 fs.length) 7 ≠ 5 → T_comes x σ = some (us σ' 1000 4) := fun σ' e1 e2 => by
        rw [lp 0 _ e1 e2]
        have st : T_comes_2s (0, us σ' 1000 4) = some (.inr (.inr (.inr (.inr (.inr (.inr (.inr (.inr (us σ' 1000 4))))))))) := by
          unfold T_comes_2s
          simp only
          rw [if_pos (by show (4 : Int) ≠ 1; decide)]
        unfold T_comes
        rw [om_loop_out st]
        rfl
      rcases h2 with ⟨w7, w14⟩ | ⟨w6, wn, T', h5, h6⟩ | ⟨w3, wn, v5, T', h5, h6⟩ | ⟨w3, wn, v5, T', h5, h6⟩ | ⟨w3, wn, T', h5, h6⟩
      · -- a function
        rw [if_pos w7]
        obtain ⟨k, hk, ew, q1, q2, q3, q4⟩ := vTw_7 hwP w7
        have k4 : (k : Int) < 4000 := by have := ct.1; have := ct.2.1; omega
        have ea : and64 (ga σ 986 fs.length) 7 = 5 := by rw [ew, th_and (by decide) (by decide) (by omega) (by omega)]
        have en : l2i (shr64 (ga σ 986 fs.length) 3) = (k : Int) := by rw [ew, th_num (by decide) (by decide) (by omega) (by omega)]
        have st : T_comes_2s (x, σ) = some (.inr (.inr (.inr (.inr (.inr (.inr (.inr (.inl (x, ga σ 986 fs.length, popT σ fs.length))))))))) := by
          rw [tc]
          unfold tcB
          rw [k70, h1, if_neg (by decide), if_neg (by decide), if_neg (by decide), if_neg (by decide), if_neg (by decide), if_neg (by decide), if_neg (fun z => z ea)]
        obtain ⟨Q, eQ⟩ : ∃ Q, Q = us (us (us (us (popT σ fs.length) 1020 (-1)) 1024 (ga (popT σ fs.length) 942 k)) 1028 (ga (popT σ fs.length) 946 k)) 1037 (ga (popT σ fs.length) 950 k) := ⟨_, rfl⟩
        have FQ : fr [1020, 1024, 1028, 1037] [] (popT σ fs.length) Q := by
          rw [eQ]
          exact fr_us (fr_us (fr_us (fr_us (fr_refl _ _ _) (by decide)) (by decide)) (by decide)) (by decide)
        have GQ : mGr (popT σ fs.length) Q := mGr_o FQ (by decide) (by decide)
        have mQ := md_grow pm FQ (by decide) (by decide) (by decide) (by decide) GQ (mCt_fr FQ (by decide) ct)
        have e24 : gs Q 1024 = ga (popT σ fs.length) 942 k := by rw [eQ]; rfl
        have e28 : gs Q 1028 = ga (popT σ fs.length) 946 k := by rw [eQ]; rfl
        have e37 : gs Q 1037 = ga (popT σ fs.length) 950 k := by rw [eQ]; rfl
        have un : T_comes x σ = T_calls (k : Int) x (popT σ fs.length) := by
          unfold T_comes
          rw [om_loop_out st]
          show (T_calls (l2i (shr64 (ga σ 986 fs.length) 3)) x (popT σ fs.length)).bind (fun p7 => some p7) = _
          rw [bind_sm, en]
        obtain ⟨nd2, en2, nd2l, _⟩ := cd_node q1 pm.1
        have qcd := q1
        rw [en2] at qcd
        have un2 : T_comes x σ = ((T_bind x Q).bind fun p2 => if p2.1 = 0 then some p2.2 else if 0 ≤ (k : Int) ∧ (k : Int) < 4100 ∧ 0 ≤ ga p2.2 938 k ∧ ga p2.2 938 k < 8400 then (some (us p2.2 1020 (ga p2.2 554 (ga p2.2 938 k).toNat))) else none) := by
          rw [un]
          unfold T_calls T_go
          rw [if_pos (by omega), show ((k : Int)).toNat = k by omega, Option.bind_some, eQ]
        by_cases hc : c < 4000
        · rw [if_pos hc]
          obtain ⟨σ', s1, s3, s4, s5, s6⟩ := t_bindM mQ.2.1 hc (by rw [e24]; exact vTw_gr GQ q2) (vTw_gr GQ xP)
          have s2 := md_grow mQ s3 (by decide) (by decide) (by decide) (by decide) s4 s5
          refine mk_inl (σ' := σ') (y := ga σ0 554 nd2) (c := c + 1) (fs := fs) _ ?_ s2 rfl rfl rfl (cd_14 qcd w14) s6 (by rw [s3.1 1028 (by decide), e28]; exact q3) (by rw [s3.1 1037 (by decide), e37]; exact rTw_gr s4 (rTw_gr GQ q4)) (fr_trans pZ (fr_trans (fr_sub FQ (by decide) (by decide)) (fr_sub s3 (by decide) (by decide))))
          have e38 : ga σ' 938 k = (nd2 : Int) := by rw [s3.2 938 (by decide), FQ.2 938 (by decide)]; exact en2
          rw [un2, s1, Option.bind_some, if_neg (show ¬ (1 : Int) = 0 by decide)]
          simp only
          rw [e38, if_pos ⟨by omega, by omega, by omega, by omega⟩, show ((nd2 : Int)).toNat = nd2 by omega, s2.1.2 554 (by decide)]
        · rw [if_neg hc]
          refine mk_full (σ' := Q) _ ?_ mQ hc (fr_trans pZ (fr_sub FQ (by decide) (by decide)))
          rw [un2, t_bindF mQ.2.1 hc, Option.bind_some, if_pos rfl]
      · -- a half one
        rw [if_neg (by omega), if_pos w6]
        obtain ⟨k, hk, ew, q1, q2⟩ := vTw_6 hwP w6
        have k4 : (k : Int) < 4000 := by have := ct.1; have := ct.2.1; omega
        have ea : and64 (ga σ 986 fs.length) 7 = 7 := by rw [ew, th_and (by decide) (by decide) (by omega) (by omega)]
        have en : l2i (shr64 (ga σ 986 fs.length) 3) = (k : Int) := by rw [ew, th_num (by decide) (by decide) (by omega) (by omega)]
        have ap : T_applied (ga σ 986 fs.length) x (popT σ fs.length) = T_two (if xnm f.2.2.2.2 = 1 then 3 else 4) (ga (popT σ fs.length) 930 k) x (popT σ fs.length) := by
          unfold T_applied
          rw [ea, if_neg (fun z => z rfl), en, if_pos (by omega), show ((k : Int)).toNat = k by omega, q2]
          rcases wn with z | z
          · rw [if_neg (fun y => y z), if_pos z]
            unfold T_applied_36
            rw [if_pos (by omega), show ((k : Int)).toNat = k by omega]; exact bind_sm _
          · have z' : ¬ xnm f.2.2.2.2 = 1 := by omega
            rw [if_pos z', if_neg z']
            unfold T_applied_36
            rw [if_pos (by omega), show ((k : Int)).toNat = k by omega]; exact bind_sm _
        by_cases hc : c < 4000
        · rw [if_pos hc]
          have hs : 0 ≤ (if xnm f.2.2.2.2 = 1 then (3 : Int) else 4) ∧ (if xnm f.2.2.2.2 = 1 then (3 : Int) else 4) < 8 := by
            split
            · decide
            · decide
          obtain ⟨j, σ', s1, s3, s4, s5, s6, s7, s8⟩ := t_twoM (kk := if xnm f.2.2.2.2 = 1 then 3 else 4) (x := ga (popT σ fs.length) 930 k) (y := x) hs.1 hs.2 ct hc
          have s2 := md_grow pm s3 (by decide) (by decide) (by decide) (by decide) s4 s5
          rw [lp _ σ' (ap.trans s1) (by rw [ea]; decide)]
          refine mRw_tr (fr_trans pZ (fr_sub s3 (by decide) (by decide))) (t_comes fs _ _ T' σ' (c + 1) s2 ?_ h5 h6)
          rcases wn with z | z
          · rw [if_pos z, if_pos z]
            exact .inr (.inr (.inr (.inr ⟨j, s6, .inl ⟨rfl, rfl, by rw [s7]; exact vTw_gr s4 q1, by rw [s8]; exact vTw_gr s4 xP⟩⟩)))
          · rw [if_neg (by omega), if_neg (by omega)]
            exact .inr (.inr (.inr (.inr ⟨j, s6, .inr (.inl ⟨rfl, rfl, by rw [s7]; exact vTw_gr s4 q1, by rw [s8]; exact vTw_gr s4 xP⟩)⟩)))
        · rw [if_neg hc]
          refine mk_full (σ' := popT σ fs.length) _ ?_ pm hc pZ
          exact fl _ (ap.trans (t_twoF ct hc)) (by rw [ea]; decide)
      · -- fst
        rw [if_neg (by omega), if_neg (by omega), if_pos wn]
        rcases vTw_3 hwP w3 with ⟨z, _⟩ | ⟨_, ew⟩
        · omega
        · rw [wn] at ew
          have ea : and64 (ga σ 986 fs.length) 7 = 6 := by rw [ew, th_and (by decide) (by decide) (by decide) (by decide)]
          have en : l2i (shr64 (ga σ 986 fs.length) 3) = 3 := by rw [ew, th_num (by decide) (by decide) (by decide) (by decide)]
          obtain ⟨k, hk, ex, u1, u2⟩ := vTw_45 xP (.inr v5)
          have k4 : (k : Int) < 4000 := by have := ct.1; have := ct.2.1; omega
          have ex' : x = 8 * (k : Int) + 4 := by omega
          have ap : T_applied (ga σ 986 fs.length) x (popT σ fs.length) = some (ga (popT σ fs.length) 930 k, popT σ fs.length) := by
            unfold T_applied
            rw [ea, if_pos (by decide), en, if_neg (by decide), if_pos (by decide), if_neg (fun z => z rfl), ex', th_num (by decide) (by decide) (by omega) (by omega), if_pos (by omega), show ((k : Int)).toNat = k by omega]
          rw [lp _ _ ap (by rw [ea]; decide)]
          exact mRw_tr pZ (t_comes fs _ _ T' (popT σ fs.length) c pm u1 h5 h6)
      · -- snd
        rw [if_neg (by omega), if_neg (by omega), if_neg (by omega), if_pos wn]
        rcases vTw_3 hwP w3 with ⟨z, _⟩ | ⟨_, ew⟩
        · omega
        · rw [wn] at ew
          have ea : and64 (ga σ 986 fs.length) 7 = 6 := by rw [ew, th_and (by decide) (by decide) (by decide) (by decide)]
          have en : l2i (shr64 (ga σ 986 fs.length) 3) = 4 := by rw [ew, th_num (by decide) (by decide) (by decide) (by decide)]
          obtain ⟨k, hk, ex, u1, u2⟩ := vTw_45 xP (.inr v5)
          have k4 : (k : Int) < 4000 := by have := ct.1; have := ct.2.1; omega
          have ex' : x = 8 * (k : Int) + 4 := by omega
          have ap : T_applied (ga σ 986 fs.length) x (popT σ fs.length) = some (ga (popT σ fs.length) 934 k, popT σ fs.length) := by
            unfold T_applied
            rw [ea, if_pos (by decide), en, if_neg (by decide), if_pos (by decide), if_pos (by decide), ex', th_num (by decide) (by decide) (by omega) (by omega), if_pos (by omega), show ((k : Int)).toNat = k by omega]
          rw [lp _ _ ap (by rw [ea]; decide)]
          exact mRw_tr pZ (t_comes fs _ _ T' (popT σ fs.length) c pm u2 h5 h6)
      · -- cons, pair
        rw [if_neg (by omega), if_neg (by omega), if_neg (by omega), if_neg (by omega)]
        rcases vTw_3 hwP w3 with ⟨z, _⟩ | ⟨_, ew⟩
        · omega
        · have ea : and64 (ga σ 986 fs.length) 7 = 6 := by rw [ew, th_and (by decide) (by decide) (by omega) (by omega)]
          have en : l2i (shr64 (ga σ 986 fs.length) 3) = xnm f.2.2.2.2 := by rw [ew, th_num (by decide) (by decide) (by omega) (by omega)]
          have ap : T_applied (ga σ 986 fs.length) x (popT σ fs.length) = T_two 7 x (xnm f.2.2.2.2) (popT σ fs.length) := by
            unfold T_applied
            rw [ea, if_pos (by decide), en]
            unfold T_applied_66
            rcases wn with z | z
            · rw [if_pos z]; exact bind_sm _
            · rw [if_neg (by omega), if_neg (fun y => y z)]; exact bind_sm _
          by_cases hc : c < 4000
          · rw [if_pos hc]
            obtain ⟨j, σ', s1, s3, s4, s5, s6, s7, s8⟩ := t_twoM (kk := 7) (x := x) (y := xnm f.2.2.2.2) (by decide) (by decide) ct hc
            have s2 := md_grow pm s3 (by decide) (by decide) (by decide) (by decide) s4 s5
            rw [lp _ σ' (ap.trans s1) (by rw [ea]; decide)]
            refine mRw_tr (fr_trans pZ (fr_sub s3 (by decide) (by decide))) (t_comes fs _ _ T' σ' (c + 1) s2 ?_ h5 h6)
            exact .inr (.inr (.inr (.inr ⟨j, s6, .inr (.inr (.inl ⟨rfl, rfl, by rw [s7]; exact vTw_gr s4 xP, s8⟩))⟩)))
          · rw [if_neg hc]
            refine mk_full (σ' := popT σ fs.length) _ ?_ pm hc pZ
            exact fl _ (ap.trans (t_twoF ct hc)) (by rw [ea]; decide)
end LTE
