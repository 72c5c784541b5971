set_option maxRecDepth 100000
/-! THE MACHINE NEVER GOES WRONG: states as they must be stay so -/
section LSD
variable {M : MPg} {B : MBd}
theorem full_ok {m : Nat} : rTy M (.inr (4, .leaf, 4000, m)) := .inr (.inr rfl)
/-- A THING COMES BACK -/
theorem pcm_ok : ∀ (fs : List Fr) (τ : Ty) (v : Vt) (c m : Nat), fTy M fs τ → vT M v (.inl τ) → fs.length ≤ 300 → c ≤ 4000 → rTy M (pcm fs v c m)
  | [], τ, v, c, m, _, hv, _, _ => .inl ⟨rfl, τ, hv⟩
  | f :: fs, τ, v, c, m, hf, hv, hl, hc => by
    have hl' : fs.length + 1 ≤ 300 := hl
    obtain ⟨⟨ok, γ, hen, hw⟩, hfs, hk⟩ := hf
    unfold pcm
    rcases hk with ⟨k1, k2, k3⟩ | ⟨k1, k2, k3, k4⟩ | ⟨k1, k2, k3, k4⟩
    · cases he : f.2.1 with
      | leaf =>
        rw [he] at hw
        rw [wS] at hw
        exact hw.elim
      | inner t a u l r =>
        have hw0 := hw
        rw [he] at hw k1 k3
        rw [he] at hfs
        have k1' : f.1 = t := k1
        have k3' : τ = sem M.2.2.2 f.2.2.2.1.2 (eTy l) := k3
        have hfs' : fTy M fs (sem M.2.2.2 f.2.2.2.1.2 a.2.1) := hfs
        rw [wS_e] at hw
        unfold wSB at hw
        rw [k3'] at hv
        rcases k2 with e | e | e | e | e
        · have et : t = 12 := by omega
          subst et
          rw [if_neg (by decide), if_neg (by decide), if_pos rfl] at hw
          rw [if_pos e]
          refine ⟨⟨ok, γ, hen, hw.2.2⟩, ⟨⟨ok, γ, hen, by show wS _ _ (.inner 12 a u l r) γ; rw [← he]; exact hw0⟩, hfs', .inr (.inl ⟨rfl, rfl, hv, rfl⟩)⟩, by show fs.length + 1 ≤ 300; omega, hc⟩
        · have et : t = 18 := by omega
          subst et
          rw [if_neg (by decide), if_neg (by decide), if_neg (by decide), if_neg (by decide), if_neg (by decide), if_pos rfl] at hw
          rw [if_neg (by omega), if_pos e]
          have hw1 : sem M.2.2.2 f.2.2.2.1.2 (eTy l) = tInt := hw.1
          rw [hw1] at hv
          refine ⟨⟨ok, γ, hen, hw.2.2.2.2⟩, ⟨⟨ok, γ, hen, by show wS _ _ (.inner 18 a u l r) γ; rw [← he]; exact hw0⟩, hfs', .inr (.inr ⟨rfl, rfl, hv, rfl⟩)⟩, by show fs.length + 1 ≤ 300; omega, hc⟩
        · have et : t = 15 := by omega
          subst et
          rw [if_neg (by decide), if_neg (by decide), if_neg (by decide), if_neg (by decide), if_pos rfl] at hw
          rw [if_neg (by omega), if_neg (by omega), if_pos e]
          have hw1 : sem M.2.2.2 f.2.2.2.1.2 (eTy l) = sem M.2.2.2 f.2.2.2.1.2 (lbT a.1) := hw.1
          have hw2 : sem M.2.2.2 f.2.2.2.1.2 a.2.1 = sem M.2.2.2 f.2.2.2.1.2 (eTy r) := hw.2.1
          rw [hw1] at hv
          rw [hw2] at hfs'
          by_cases q : c < 4000
          · rw [if_pos q]
            exact ⟨⟨ok, _, vT_more hen hv, hw.2.2.2⟩, hfs', by show fs.length ≤ 300; omega, by show c + 1 ≤ 4000; omega⟩
          · rw [if_neg q]; exact full_ok
        · have et : t = 16 := by omega
          subst et
          rw [if_neg (by decide), if_neg (by decide), if_neg (by decide), if_neg (by decide), if_neg (by decide), if_neg (by decide)] at hw
          rw [if_neg (by omega), if_neg (by omega), if_neg (by omega), if_pos e]
          cases hr : r with
          | leaf => rw [hr] at hw; exact hw.elim
          | inner t' a' u' r1 r2 =>
            rw [hr] at hw
            simp only at hw
            rw [if_pos trivial] at hw
            obtain ⟨h1, h2, h3, h4, h5, h6⟩ := hw
            have h2' : sem M.2.2.2 f.2.2.2.1.2 (eTy r1) = sem M.2.2.2 f.2.2.2.1.2 a.2.1 := h2
            have h3' : sem M.2.2.2 f.2.2.2.1.2 (eTy r2) = sem M.2.2.2 f.2.2.2.1.2 a.2.1 := h3
            by_cases q : xnm v = 1
            · rw [if_pos q]
              exact ⟨⟨ok, γ, hen, h5⟩, by show fTy M fs (sem M.2.2.2 f.2.2.2.1.2 (eTy r1)); rw [h2']; exact hfs', by show fs.length ≤ 300; omega, hc⟩
            · rw [if_neg q]
              exact ⟨⟨ok, γ, hen, h6⟩, by show fTy M fs (sem M.2.2.2 f.2.2.2.1.2 (eTy r2)); rw [h3']; exact hfs', by show fs.length ≤ 300; omega, hc⟩
        · have et : t = 17 := by omega
          subst et
          rw [if_neg (by decide), if_neg (by decide), if_neg (by decide), if_neg (by decide), if_neg (by decide), if_neg (by decide)] at hw
          rw [if_neg (by omega), if_neg (by omega), if_neg (by omega), if_neg (by omega), if_pos e]
          cases hr : r with
          | leaf => rw [hr] at hw; exact hw.elim
          | inner t' a' u' r1 r2 =>
            rw [hr] at hw
            simp only at hw
            rw [if_neg (by decide), if_pos trivial] at hw
            obtain ⟨h2, h3, h4, h5, x, h1, h6⟩ := hw
            have h2' : sem M.2.2.2 f.2.2.2.1.2 (eTy r1) = sem M.2.2.2 f.2.2.2.1.2 a.2.1 := h2
            have h3' : sem M.2.2.2 f.2.2.2.1.2 (eTy r2) = sem M.2.2.2 f.2.2.2.1.2 a.2.1 := h3
            have h1' : sem M.2.2.2 f.2.2.2.1.2 (eTy l) = tnd 1 2 x .leaf := h1
            rw [h1'] at hv
            rcases vT_list hv with ⟨q1, q2⟩ | ⟨q1, q2, q3⟩
            · rw [if_pos q1]
              exact ⟨⟨ok, γ, hen, h5⟩, by show fTy M fs (sem M.2.2.2 f.2.2.2.1.2 (eTy r1)); rw [h2']; exact hfs', by show fs.length ≤ 300; omega, hc⟩
            · rw [if_neg (by omega)]
              by_cases q : c + 1 < 4000
              · rw [if_pos q]
                refine ⟨⟨ok, _, vT_more (vT_more hen q2) q3, ?_⟩, by show fTy M fs (sem M.2.2.2 f.2.2.2.1.2 (eTy r2)); rw [h3']; exact hfs', by show fs.length ≤ 300; omega, by show c + 2 ≤ 4000; omega⟩
                rw [List.append_assoc]
                exact h6
              · rw [if_neg q]; exact full_ok
    · rw [if_neg (by omega), if_neg (by omega), if_neg (by omega), if_neg (by omega), if_neg (by omega), if_neg (by omega)]
      cases he : f.2.1 with
      | leaf => rw [he] at k2; cases k2
      | inner t a u l r =>
        rw [he] at hw k2 k3 k4 hfs
        have et : t = 12 := k2
        subst et
        rw [wS_e] at hw
        unfold wSB at hw
        rw [if_neg (by decide), if_neg (by decide), if_pos rfl] at hw
        have hw1 : sem M.2.2.2 f.2.2.2.1.2 (eTy l) = tArr (sem M.2.2.2 f.2.2.2.1.2 (eTy r)) (sem M.2.2.2 f.2.2.2.1.2 a.2.1) := hw.1
        have k3' : vT M f.2.2.2.2 (.inl (sem M.2.2.2 f.2.2.2.1.2 (eTy l))) := k3
        have k4' : τ = sem M.2.2.2 f.2.2.2.1.2 (eTy r) := k4
        have hfs' : fTy M fs (sem M.2.2.2 f.2.2.2.1.2 a.2.1) := hfs
        rw [hw1, ← k4'] at k3'
        generalize sem M.2.2.2 f.2.2.2.1.2 a.2.1 = y at k3' hfs'
        rcases vT_arr k3' with ⟨t3, z⟩ | ⟨t6, z, hz, q⟩ | ⟨t7, ok', γ', hg, hb, hy, _⟩
        · rw [if_neg (by omega), if_neg (by omega)]
          rcases z with ⟨n1, ey⟩ | ⟨n2, z, ey⟩ | ⟨n3, z, ex⟩ | ⟨n4, z, ex⟩
          · rw [if_neg (by omega), if_neg (by omega)]
            by_cases q : c < 4000
            · rw [if_pos q]
              exact pcm_ok fs y _ (c + 1) m hfs' (.inr (.inr (.inr (.inr (.inr (.inl ⟨rfl, τ, hv, .inl ⟨n1, ey⟩⟩)))))) (by omega) (by omega)
            · rw [if_neg q]; exact full_ok
          · rw [if_neg (by omega), if_neg (by omega)]
            by_cases q : c < 4000
            · rw [if_pos q]
              exact pcm_ok fs y _ (c + 1) m hfs' (.inr (.inr (.inr (.inr (.inr (.inl ⟨rfl, τ, hv, .inr ⟨n2, z, ey⟩⟩)))))) (by omega) (by omega)
            · rw [if_neg q]; exact full_ok
          · rw [if_pos n3]
            rw [ex] at hv
            exact pcm_ok fs y _ c m hfs' (vT_pair hv).2.1 (by omega) hc
          · rw [if_neg (by omega), if_pos n4]
            rw [ex] at hv
            exact pcm_ok fs y _ c m hfs' (vT_pair hv).2.2 (by omega) hc
        · rw [if_neg (by omega), if_pos t6]
          by_cases q' : c < 4000
          · rw [if_pos q']
            rcases q with ⟨n1, ex, ey⟩ | ⟨n2, ey⟩
            · rw [if_pos n1]
              rw [ex] at hv
              exact pcm_ok fs y _ (c + 1) m hfs' (.inr (.inr (.inr (.inl ⟨rfl, z, ey, hz, hv⟩)))) (by omega) (by omega)
            · rw [if_neg (by omega)]
              exact pcm_ok fs y _ (c + 1) m hfs' (.inr (.inr (.inr (.inr (.inl ⟨rfl, z, τ, ey, hz, hv⟩))))) (by omega) (by omega)
          · rw [if_neg q']; exact full_ok
        · rw [if_pos t7]
          by_cases q' : c < 4000
          · rw [if_pos q']
            refine ⟨⟨ok', _, vT_more hg hv, hb⟩, ?_, by show fs.length ≤ 300; omega, by show c + 1 ≤ 4000; omega⟩
            show fTy M fs (sem M.2.2.2 (xow f.2.2.2.2).2 (eTy (eLf (xcd f.2.2.2.2))))
            rw [hy]; exact hfs'
          · rw [if_neg q']; exact full_ok
    · rw [if_neg (by omega), if_neg (by omega), if_neg (by omega), if_neg (by omega), if_neg (by omega), if_pos k1]
      cases he : f.2.1 with
      | leaf => rw [he] at k2; cases k2
      | inner t a u l r =>
        rw [he] at hw k2 k4 hfs
        have et : t = 18 := k2
        subst et
        rw [wS_e] at hw
        unfold wSB at hw
        rw [if_neg (by decide), if_neg (by decide), if_neg (by decide), if_neg (by decide), if_neg (by decide), if_pos rfl] at hw
        have hw1 : sem M.2.2.2 f.2.2.2.1.2 a.2.1 = (if a.1.2.1 = 60 ∨ a.1.2.1 = 61 then tBool else tInt) := hw.2.2.1
        have hfs' : fTy M fs (sem M.2.2.2 f.2.2.2.1.2 a.2.1) := hfs
        rw [hw1] at hfs'
        exact pcm_ok fs _ _ c m hfs' (xsg_ty _ _ _) (by omega) hc
/-- what an inst gives of a class for a closed type -/
theorem iAt_had {ins : List INs} {τ : Ty} {c : Nat} (h : cHd ins τ c) : ∃ (i : Nat) (d : INs) (u : Unit), iAt ins c τ = some (i, d) ∧ iOf ins c (tWh τ) = some i ∧ ins[i]? = some d ∧ (d.1 = c ∧ d.2.1 = tWh τ) ∧ τ = .inner 1 d.2.1 u (tL τ) (tR' τ) ∧ ∀ p ∈ d.2.2.2.1, (p.2 = 0 → cHd ins (tL τ) p.1) ∧ (p.2 ≠ 0 → cHd ins (tR' τ) p.1) := by
  cases τ with
  | leaf => exact h.elim
  | inner k w u l r =>
    obtain ⟨k1, i, d, e1, e2, hc⟩ := h
    obtain ⟨d', d1, d2⟩ := ixF_some e1
    have ed : d' = d := Option.some.inj (d1.symm.trans e2)
    rw [ed] at d2
    have d2' : d.1 = c ∧ d.2.1 = w := by simpa using d2
    refine ⟨i, d, u, ?_, e1, e2, d2', ?_, hc⟩
    · unfold iAt
      show (iOf ins c w).bind _ = _
      rw [e1, Option.bind_some, e2]; rfl
    · show Std.DTreeMap.Internal.Impl.inner k w u l r = .inner 1 d.2.1 u l r
      rw [k1, d2'.2]
theorem cEv_tot {ab : List (Option Nat)} {ins : List INs} {gv : List GVs} {θ : Nat → Ty} : ∀ {ev : List Dc}, (∀ D ∈ ev, dTg D = 2 ∨ ∃ x, cst ab ins gv θ D = some x) → ∃ x, cEv ab ins gv θ ev = some x
  | [], _ => ⟨0, rfl⟩
  | D :: l, h => by
    obtain ⟨y, hy⟩ := cEv_tot (ev := l) (fun D' hD => h D' (List.mem_cons_of_mem _ hD))
    unfold cEv
    rcases h D List.mem_cons_self with e | ⟨x, e⟩
    · rw [if_pos e, Option.bind_some, hy]; exact ⟨_, rfl⟩
    · by_cases q : dTg D = 2
      · rw [if_pos q, Option.bind_some, hy]; exact ⟨_, rfl⟩
      · rw [if_neg q, e, Option.bind_some, hy]; exact ⟨_, rfl⟩
theorem nmIn_sem {ins : List INs} {ns : List Nat} {θ θ' : Nat → Ty} (h : ∀ w ∈ ns, θ w = θ' w) : ∀ {T : Ty}, nmIn ns T → sem ins θ T = sem ins θ' T
  | .leaf, _ => rfl
  | .inner k w u l r, c => by
    unfold sem
    rw [nmIn_sem h c.2.1, nmIn_sem h c.2.2]
    by_cases k0 : k = 0
    · rw [if_pos k0, if_pos k0, h w (c.1 k0)]
    · rw [if_neg k0, if_neg k0]
/-- A NAME -/
theorem pnm_ok (P : mPO M) (Bo : bTy M B) {lb : XL} {T : Ty} {ev : List Dc} {γ : List Ty} {en : Vt} {o : Ow} {fs : List Fr} {c m : Nat} (ok : okTh M.2.2.2 (gvW M o.1) o.2) (hen : vT M en (.inr γ)) (hw : wNm (eW M o.1) o.2 lb T ev γ) (hfs : fTy M fs T) (hl : fs.length ≤ 300) (hc : c ≤ 4000) : rTy M (pnm M B lb ev en o fs c m) := by
  unfold pnm
  rcases hw with ⟨k0, hg⟩ | ⟨k1, f, f1, f2, f3, f4⟩ | ⟨k2, mm, D, t, m1, m2, m3, m4, _, m5, m6⟩ | ⟨k3, h7, a, b, eT⟩
  · rw [if_pos k0]
    obtain ⟨e1, e2⟩ := vT_env hen
    have il : lb.2.2.1 < (xls en).length := by rw [e1]; exact (List.getElem?_eq_some_iff.mp hg).1
    rw [List.getElem?_eq_getElem il]
    exact pcm_ok fs T _ c m hfs (e2 _ _ T (List.getElem?_eq_getElem il) hg) hl hc
  · rw [if_neg (by omega), if_pos k1]
    have f1' : M.1[lb.2.2.1]? = some f := f1
    obtain ⟨g1, g2⟩ := gvK_at f4
    obtain ⟨x, hx⟩ := cEv_tot (ab := M.2.2.1) (ins := M.2.2.2) (gv := gvW M o.1) (θ := o.2) (ev := ev) (fun D hD => by
      obtain ⟨j, jl, je⟩ := List.getElem_of_mem hD
      have jl' : j < f.2.1.length := by omega
      obtain ⟨D', e1, e2, e3⟩ := g2 j _ (List.getElem?_eq_getElem jl')
      rw [List.getElem?_eq_getElem jl, je] at e1
      rw [← Option.some.inj e1] at e2 e3
      by_cases q : (f.2.1[j]).1 < 100
      · exact .inr (cst_tot P.1 ok (e2 q).1)
      · refine .inl ?_
        rw [(e3 (by omega)).1]; rfl)
    rw [f1', Option.bind_some, hx]
    show rTy M (if c + x ≤ 4000 then _ else _)
    by_cases q : c + x ≤ 4000
    · rw [if_pos q]
      have fl : lb.2.2.1 < 100 := by
        have := (List.getElem?_eq_some_iff.mp f1').1
        have := P.2.1
        omega
      have eg : gvW M lb.2.2.1 = f.2.1 := by
        unfold gvW
        rw [if_pos fl, f1']; rfl
      have f3' : okTh M.2.2.2 f.2.1 (thF M.2.2.2 o.2 f.1 (lb.2.2.2.2.2.map Prod.fst)) := f3
      obtain ⟨b1, b2⟩ := Bo.1 _ f f1' _ f3'
      refine ⟨⟨?_, [], rfl, b1⟩, ?_, hl, q⟩
      · show okTh M.2.2.2 (gvW M lb.2.2.1) _
        rw [eg]; exact f3'
      · show fTy M fs (sem M.2.2.2 (thF M.2.2.2 o.2 f.1 (lb.2.2.2.2.2.map Prod.fst)) (eTy (B.1 lb.2.2.1)))
        rw [b2]
        have f2' : T = sem M.2.2.2 (thF M.2.2.2 o.2 f.1 (lb.2.2.2.2.2.map Prod.fst)) f.2.2 := f2
        rw [← f2']; exact hfs
    · rw [if_neg q]; exact full_ok
  · rw [if_neg (by omega), if_neg (by omega), if_pos k2]
    have m1' : M.2.1[lb.2.2.1]? = some (some mm) := m1
    have m4' : dcT M.2.2.1 M.2.2.2 (gvW M o.1) 70 mm.1 t = some D := m4
    obtain ⟨x, hx⟩ := cEv_tot (ab := M.2.2.1) (ins := M.2.2.2) (gv := gvW M o.1) (θ := o.2) (ev := ev) (fun D' hD => by
      rw [m3] at hD
      rw [List.mem_singleton.mp hD]
      exact .inr (cst_tot P.1 ok m4'))
    have hd := dc_had' P.1 ok m4'
    have et : (lb.2.2.2.2.2.map Prod.fst)[0]?.getD .leaf = t := by rw [m2]; rfl
    rw [et]
    obtain ⟨i, d, u, i1, i2, i3, ⟨i4, i4'⟩, i5, i6⟩ := iAt_had hd
    have m6' : cG (sem M.2.2.2 o.2 t) := m6
    have m5' : T = sem M.2.2.2 (thF M.2.2.2 o.2 [mm.2.1] [t]) mm.2.2 := m5
    have e0 : ∃ τ0, sem M.2.2.2 o.2 t = τ0 := ⟨_, rfl⟩
    obtain ⟨τ0, e0⟩ := e0
    rw [e0] at hd i1 i2 i4' i5 i6 m6' ⊢
    rw [m1', Option.bind_some]
    show rTy M (Option.elim (((some mm).bind fun mm => (iAt M.2.2.2 mm.1 τ0).bind fun q => (cEv M.2.2.1 M.2.2.2 (gvW M o.1) o.2 ev).map fun x => (q, x))) _ _)
    rw [Option.bind_some, i1, Option.bind_some, hx]
    show rTy M (if c + x ≤ 4000 then _ else _)
    by_cases q : c + x ≤ 4000
    · rw [if_pos q]
      have dm := List.mem_of_getElem? i3
      have il : i < 20 := by
        have := (List.getElem?_eq_some_iff.mp i3).1
        have := P.1.2.1
        omega
      have eg : gvW M (100 + i) = gvI d := by
        unfold gvW
        rw [if_neg (by omega), if_pos (by omega), show 100 + i - 100 = i by omega, i3]; rfl
      have wf : wfT (.inner 1 d.2.1 u (tL τ0) (tR' τ0)) := by rw [← i5]; exact m6'.2
      have O := okTh_in (ab := M.2.2.1) P.1 dm wf i6
      obtain ⟨b1, b2⟩ := Bo.2 i lb.2.2.1 d mm i3 m1' i4 _ O
      refine ⟨⟨?_, [], rfl, b1⟩, ?_, hl, q⟩
      · show okTh M.2.2.2 (gvW M (100 + i)) _
        rw [eg]; exact O
      · show fTy M fs (sem M.2.2.2 (thN d (tL τ0) (tR' τ0)) (eTy (B.2 i (lb.2.2.1 % 4))))
        rw [b2, sem_sb]
        have eT : T = sem M.2.2.2 (fun w => (lkT [(mm.2.1, hdI d)] w).elim (thN d (tL τ0) (tR' τ0) w) (sem M.2.2.2 (thN d (tL τ0) (tR' τ0)))) mm.2.2 := by
          rw [m5']
          refine nmIn_sem (ns := [mm.2.1]) (fun w hw => ?_) (P.2.2 _ mm m1')
          have ew := List.mem_singleton.mp hw
          subst ew
          unfold thF
          have e1 : lkT ([mm.2.1].zip [t]) mm.2.1 = some t := by
            show lkT ((mm.2.1, t) :: []) mm.2.1 = some t
            rw [lkT_cons, if_pos rfl]
          have e2 : lkT [(mm.2.1, hdI d)] mm.2.1 = some (hdI d) := by rw [lkT_cons, if_pos rfl]
          rw [e1, e2]
          show sem M.2.2.2 o.2 t = sem M.2.2.2 (thN d (tL τ0) (tR' τ0)) (hdI d)
          rw [hdI_sem (P.1.1 d dm).1 (P.1.2.2.2.2.1 d dm) wf, ← i5]
          exact e0
        rw [← eT]; exact hfs
    · rw [if_neg q]; exact full_ok
  · rw [if_neg (by omega), if_neg (by omega), if_neg (by omega)]
    refine pcm_ok fs T _ c m hfs ?_ hl hc
    rw [eT]
    by_cases q : lb.2.2.1 < 5
    · rw [if_pos q]
      exact .inr (.inr (.inl ⟨rfl, lb.2.2.1, a, b, q, rfl, rfl⟩))
    · rw [if_neg q]
      have eb : btT lb.2.2.1 a b = tBool := by
        unfold btT
        rw [if_neg (by omega), if_neg (by omega), if_neg (by omega), if_neg (by omega), if_neg (by omega)]
      rw [eb]
      refine .inr (.inl ⟨rfl, rfl, ?_⟩)
      show (if lb.2.2.1 = 5 then (1 : Int) else 0) = 0 ∨ (if lb.2.2.1 = 5 then (1 : Int) else 0) = 1
      split
      · exact .inr rfl
      · exact .inl rfl
/-- ONE STEP: a state as it must be stays so, or comes to its end -/
theorem pstp_ok (P : mPO M) (Bo : bTy M B) {s : MS} (h : sTy M s) : rTy M (pstp M B s) := by
  obtain ⟨⟨ok, γ, hen, hw⟩, hfs, hl, hc⟩ := h
  obtain ⟨e, en, o, fs, c, m⟩ := s
  unfold pstp
  simp only at ok hen hw hfs hl hc ⊢
  cases he : e with
  | leaf =>
    rw [he] at hw
    rw [wS] at hw
    exact hw.elim
  | inner t a u l r =>
    have hw0 := hw
    rw [he] at hw hfs hw0
    have hfs' : fTy M fs (sem M.2.2.2 o.2 a.2.1) := hfs
    show rTy M (if t = 10 then pnm M B a.1 a.2.2.2 en o fs c m else if t = 11 then pcm fs (xvI (w32 (a.1.2.1 : Int))) c m else if t = 14 then (if c < 4000 then pcm fs (xvF o (.inner t a u l r) en) (c + 1) m else .inr (4, .leaf, 4000, m)) else if fs.length < 300 then .inl (l, en, o, (t, .inner t a u l r, en, o, .leaf) :: fs, c, max m (fs.length + 1)) else .inr (3, .leaf, c, m))
    rw [wS_e] at hw
    unfold wSB at hw
    by_cases t10 : t = 10
    · rw [if_pos t10] at hw ⊢
      exact pnm_ok P Bo ok hen hw hfs' hl hc
    rw [if_neg t10] at hw ⊢
    by_cases t11 : t = 11
    · rw [if_pos t11] at hw ⊢
      have hw' : sem M.2.2.2 o.2 a.2.1 = tInt := hw
      rw [hw'] at hfs'
      exact pcm_ok fs tInt _ c m hfs' (.inl ⟨rfl, rfl, w32_in _⟩) hl hc
    rw [if_neg t11] at hw ⊢
    by_cases t14 : t = 14
    · rw [if_pos t14]
      by_cases q : c < 4000
      · rw [if_pos q]
        exact pcm_ok fs _ _ (c + 1) m hfs' (.inr (.inr (.inr (.inr (.inr (.inr ⟨rfl, ok, ⟨γ, hen, hw0⟩, t14, rfl⟩)))))) hl (by omega)
      · rw [if_neg q]; exact full_ok
    rw [if_neg t14]
    by_cases q : fs.length < 300
    · rw [if_pos q]
      have key : wS (eW M o.1) o.2 l γ ∧ (t = 12 ∨ t = 18 ∨ t = 15 ∨ t = 16 ∨ t = 17) := by
        by_cases t12 : t = 12
        · rw [if_pos t12] at hw; exact ⟨hw.2.1, .inl t12⟩
        rw [if_neg t12, if_neg t14] at hw
        by_cases t15 : t = 15
        · rw [if_pos t15] at hw; exact ⟨hw.2.2.1, .inr (.inr (.inl t15))⟩
        rw [if_neg t15] at hw
        by_cases t18 : t = 18
        · rw [if_pos t18] at hw; exact ⟨hw.2.2.2.1, .inr (.inl t18)⟩
        rw [if_neg t18] at hw
        cases r with
        | leaf => exact hw.elim
        | inner t' a' u' r1 r2 =>
          simp only at hw
          by_cases t16 : t = 16
          · rw [if_pos t16] at hw; exact ⟨hw.2.2.2.1, .inr (.inr (.inr (.inl t16)))⟩
          rw [if_neg t16] at hw
          by_cases t17 : t = 17
          · rw [if_pos t17] at hw; exact ⟨hw.2.2.1, .inr (.inr (.inr (.inr t17)))⟩
          rw [if_neg t17] at hw
          exact hw.elim
      refine ⟨⟨ok, γ, hen, key.1⟩, ⟨⟨ok, γ, hen, hw0⟩, hfs', .inl ⟨rfl, key.2, rfl⟩⟩, by show fs.length + 1 ≤ 300; omega, hc⟩
    · rw [if_neg q]; exact .inr (.inl rfl)
end LSD
