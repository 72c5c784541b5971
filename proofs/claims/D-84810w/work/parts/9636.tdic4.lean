set_option maxRecDepth 100000
/-! THE TWIN'S MACHINE: dictionaryOut -/
section LTH
variable {M : MPg} {σ0 σ τ : tS} {n : Nat} {gv : List GVs} {θ : Nat → Ty}
set_option maxHeartbeats 1000000 in
/-- WHAT WAS FOUND IS PUT TOGETHER -/
theorem ev_dc (P : DcP σ0 n M) (hs : okTh M.2.2.2 gv θ) {o : Nat} (ow : owO M o) (eg : gvW M o = gv) (hG : gvF' M.2.2.2 gv) (hg : ∀ g ∈ gv, g.1 < 100 → g.1 < M.2.2.1.length) : ∀ (f c : Nat) (T : Ty) (D : Dc), dcT M.2.2.1 M.2.2.2 gv f c T = some D → dcK M.2.2.1 M.2.2.2 gv (QN σ0 n) f c T → T ≠ .leaf → wfT T → okF M.2.2.2 T → tsz T ≤ 1000000 → ∀ X, cst M.2.2.1 M.2.2.2 gv θ D = some X → ∃ u, knT M.2.2.2 gv (QN σ0 n) 130 T u ∧ sem M.2.2.2 θ u = sem M.2.2.2 θ T ∧ EvT σ0 n M gv θ o c u X (f + 8001)
  | 0, _, _, _, e, _, _, _, _, _, _, _ => by cases e
  | f + 1, c, T, D, e, K, hT, wT, okT, zT, X, hX => by
    have Pg := P.2.2.2.2.1
    have hl : M.2.2.2.length ≤ 100 := by have := Pg.2.1; omega
    obtain ⟨u, k1, _, k3⟩ := K
    obtain ⟨v, s1, hv, cs⟩ := dcT_cs e
    obtain ⟨Dl, bg, w1, _⟩ := id k1
    obtain ⟨_, _, _, w0⟩ := wk_st (w1 (0, 0, []))
    have w0' := w0 0 0 (0, 0, []) (by decide) (by decide) (Nat.zero_le _)
    rw [w0'] at hv
    have ev : u = v := (Prod.mk.inj (Option.some.inj (Option.some.inj hv))).1
    subst ev
    obtain ⟨⟨wu, nu, oku⟩, zu⟩ := wk_tsz (Nat.le_refl 2700) Pg.2.2.1 hG hl Pg.2.2.2.2.1 zT wT hT okT (w1 (0, 0, []))
    rw [if_neg (by decide)] at zu
    have se : sem M.2.2.2 θ u = sem M.2.2.2 θ T := wk_sem Pg.1 hs.2.1 hl (w1 (0, 0, []))
    refine ⟨u, k1, se, ?_⟩
    rcases cs with ⟨w, x, l, t, j, nn, g, e1, e2, e3, e4, e5, e6⟩ | ⟨w, x, l, t, i, d, cs, e1, e2, e3, ⟨e4, e4'⟩, e5, e6⟩
    · have hX' : cDc M.2.2.1 gv (fun x => cA M.2.2.1 M.2.2.2 (θ x)) D = some X := hX
      rw [e6, cDc_inner, if_pos rfl] at hX'
      obtain ⟨q1, hq1, hq2⟩ := Option.bind_eq_some_iff.mp hX'
      have hq3 : q1 + 0 = X := by
        obtain ⟨z, hz, hz2⟩ := Option.map_eq_some_iff.mp hq2
        have : z = 0 := (Option.some.inj hz).symm
        rw [this] at hz2
        exact hz2
      have hq4 : cUp (cA M.2.2.1 M.2.2.2 (θ w)) M.2.2.1 nn g.1 = some q1 := by
        have : (gv[j]?).bind (fun g => cUp (cA M.2.2.1 M.2.2.2 (θ g.2.1)) M.2.2.1 nn g.1) = some q1 := hq1
        rw [e3, Option.bind_some, e4.2] at this
        exact this
      rw [← hq3, Nat.add_zero, e1]
      exact ev_nm P hg e2 e3 e4 e5 hq4 (hs.1 w).2 (ev_A P (hs.1 w).2) (.inr (by omega))
    · have hX' : cDc M.2.2.1 gv (fun x => cA M.2.2.1 M.2.2.2 (θ x)) D = some X := hX
      rw [e6, cDc_inner, if_neg (by decide)] at hX'
      obtain ⟨x1, hx1, hx2⟩ := Option.bind_eq_some_iff.mp hX'
      obtain ⟨Y, hY, hY2⟩ := Option.map_eq_some_iff.mp hx1
      have hx3 : x1 + 0 = X := by
        obtain ⟨z, hz, hz2⟩ := Option.map_eq_some_iff.mp hx2
        have : z = 0 := (Option.some.inj hz).symm
        rw [this] at hz2
        exact hz2
      obtain ⟨xs, s1', s2, s3⟩ := dcL_cost e5 hY
      have dm := List.mem_of_getElem? e3
      rw [e1] at wu zu oku
      obtain ⟨w3, sl, _, sr, _⟩ := sh_1 wu.1 rfl
      have zu' : 1 + tsz l + tsz t ≤ 60 := zu
      obtain ⟨ls, l1, l2⟩ := lch (P := fun k' (y : (Nat × Nat) × Ty × Nat) => d.2.2.2.1[k']? = some y.1 ∧ xs[k']? = some y.2.2 ∧ (if y.1.2 = 0 then l else t) ≠ .leaf ∧ knT M.2.2.2 gv (QN σ0 n) 130 (if y.1.2 = 0 then l else t) y.2.1 ∧ EvT σ0 n M gv θ o y.1.1 y.2.1 y.2.2 (f + 8001)) d.2.2.2.1.length (fun k' hk => by
        have epk : d.2.2.2.1[k']? = some (d.2.2.2.1[k']) := List.getElem?_eq_getElem hk
        generalize d.2.2.2.1[k'] = p at epk
        have exk : xs[k']? = some (xs[k']'(by omega)) := List.getElem?_eq_getElem (by omega)
        generalize xs[k']'(by omega) = xk at exk
        have pm := List.mem_of_getElem? epk
        obtain ⟨Dp, dp1, dp2⟩ := s3 k' p xk epk exk
        have kp := k3 1 w x l t e1 rfl i d e2 e3 p pm
        have ci := ((Pg.2.2.2.1 d dm).2.2 p pm).1
        rw [Pg.2.2.2.2.1 d dm, e4'] at ci
        rw [e1] at dp1 kp
        have dp1' : dcT M.2.2.1 M.2.2.2 gv f p.1 (if p.2 = 0 then l else t) = some Dp := dp1
        have kp' : dcK M.2.2.1 M.2.2.2 gv (QN σ0 n) f p.1 (if p.2 = 0 then l else t) := kp
        have nl : (if p.2 = 0 then l else t) ≠ .leaf := by
          by_cases q : p.2 = 0
          · rw [if_pos q]; exact sl (pN_1 w3 (by omega))
          · rw [if_neg q]; exact sr (pN_2 w3 (by omega))
        have ok3 : wfT (if p.2 = 0 then l else t) ∧ okF M.2.2.2 (if p.2 = 0 then l else t) ∧ tsz (if p.2 = 0 then l else t) ≤ 1000000 := by
          by_cases q : p.2 = 0
          · rw [if_pos q]; exact ⟨wu.2.1, oku.2.1, by omega⟩
          · rw [if_neg q]; exact ⟨wu.2.2, oku.2.2, by omega⟩
        obtain ⟨u', h1, _, h2⟩ := ev_dc P hs ow eg hG hg f p.1 _ Dp dp1' kp' nl ok3.1 ok3.2.1 ok3.2.2 xk dp2
        exact ⟨(p, u', xk), epk, exk, nl, h1, h2⟩)
      have el : ls.map Prod.fst = d.2.2.2.1 := map_fst l1 (fun k' y e => (l2 k' y e).1)
      have es : (ls.map (fun y => y.2.2)).sum = xs.sum := zip_sum (by omega) (fun k' y x' ey ex' => Option.some.inj ((l2 k' y ey).2.1.symm.trans ex'))
      have fin := ev_in (xx := x) (h := f + 8001) (o := o) P hs ow eg hG e2 e3 (l := l) (r := t) (fun X hX => by
        rcases hX with e | e
        · rw [e]; exact ⟨oku.2.1, by omega⟩
        · rw [e]; exact ⟨oku.2.2, by omega⟩) ls el (fun y hy => by
        obtain ⟨k', kl, ke⟩ := List.getElem_of_mem hy
        exact (l2 k' y (by rw [List.getElem?_eq_getElem kl, ke])).2.2) (by omega)
      rw [es, s2, show 1 + Y = X by omega, show f + 8001 + 1 = f + 1 + 8001 by omega] at fin
      rw [e1]
      exact fin
/-- a dictionary, as the machine asks for it -/
theorem t_dict {c o X h c0 : Nat} {u : Ty} {t row : Int} (E : EvT σ0 n M gv θ o c u X h) (hh : h ≤ 16000) (F : fr WMS WMA σ0 σ) (V : GVT σ n gv) (I : mCt σ c0) (g1 : gs σ 1000 = 1) (ct : tyT σ n u t) (rw' : rTw M.2.2.2 σ gv θ row) : ∃ got σ', T_dictionaryOut (c : Int) t (owT o) row σ = some (got, σ') ∧ fr DFS DFA σ σ' ∧ mGr σ σ' ∧ ((c0 + X ≤ 4000 ∧ mCt σ' (c0 + X) ∧ gs σ' 1000 = 1 ∧ dcW M.2.2.2 σ' (sem M.2.2.2 θ u) c got) ∨ (4000 < c0 + X ∧ got = -1 ∧ gs σ' 1000 = 4 ∧ gs σ' 1008 = 4000)) := by
  have F1 : fr [1084] [] σ (us σ 1084 0) := fr_one
  have G1 : mGr σ (us σ 1084 0) := mGr_o F1 (by decide) (by decide)
  obtain ⟨σ1, got, σ', e1, e2, s1, s2, s3, s4, s5⟩ := E (us σ 1084 0) 0 c0 (-1) t row ⟨fr_trans F (fr_sub F1 (by decide) (by decide)), mCt_fr F1 (by decide) I, g1, rfl⟩ (GVT_f2 (σ := σ) (τ := us σ 1084 0) rfl (fun _ _ _ => rfl) (tx_M (fr_sub F1 (by decide) (by decide))) V) (by omega) (tyT_mono (tx_M (fr_sub F1 (by decide) (by decide))) ct) (rTw_gr G1 rw')
  refine ⟨got, σ', ?_, fr_trans (fr_sub F1 (by decide) (by decide)) s1, mGr_trans G1 s2, s5⟩
  unfold T_dictionaryOut
  have st : T_dictionaryOut_20s (got, 1, σ') = some (.inr (got, σ')) := by
    unfold T_dictionaryOut_20s
    simp only
    rw [s3, if_pos (by decide)]
  rw [e1, Option.bind_some, e2, om_loop_out st, Option.bind_some]
end LTH
