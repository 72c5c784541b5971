set_option maxRecDepth 100000
/-! THE TWIN'S MACHINE: the givens of a name, one after another -/
theorem knT_fn {ins : List INs} {gv : List GVs} {Q Q' : Ty → Prop} {f : Nat} {T u u' : Ty} (H : knT ins gv Q f T u) (H' : knT ins gv Q' f T u') : u = u' := by
  obtain ⟨D, bg, h1, _⟩ := H
  obtain ⟨D', bg', h2, _⟩ := H'
  obtain ⟨_, _, _, w1⟩ := wk_st (h1 (0, 0, []))
  obtain ⟨_, _, _, w2⟩ := wk_st (h2 (0, 0, []))
  have e1 := w1 0 0 (0, 0, []) (by decide) (by decide) (Nat.zero_le _)
  have e2 := w2 0 0 (0, 0, []) (by decide) (by decide) (Nat.zero_le _)
  rw [e1] at e2
  exact (Prod.mk.inj (Option.some.inj (Option.some.inj e2))).1
section LTQ
variable {M : MPg} {B : MBd} {rg : Nat → Nat × Nat} {σ0 σ τ Z : tS} {n : Nat}
/-- how many givens, which class: as the twin has it -/
def gMn (M : MPg) (σ0 : tS) (lb : XL) (len : Nat) : Prop := (0 ≤ ga σ0 638 lb.2.2.2.1 ∧ lb.2.2.2.1 < 2100 ∧ ga σ0 642 lb.2.2.2.1 = (lb.2.2.1 : Int)) ∧ ((lb.2.1 = 1 ∧ ga σ0 638 lb.2.2.2.1 = 1 ∧ lb.2.2.1 < 24 ∧ ga σ0 746 lb.2.2.1 = (len : Int) ∧ ∀ (g c : Nat) (T : Ty), gTy M lb g = some (some (c, T)) → ga σ0 750 (4 * lb.2.2.1 + g) = (c : Int)) ∨ (lb.2.1 = 2 ∧ ga σ0 638 lb.2.2.2.1 = 2 ∧ lb.2.2.1 < 32 ∧ len = 1 ∧ ∀ (g c : Nat) (T : Ty), gTy M lb g = some (some (c, T)) → c = lb.2.2.1 / 4))
set_option maxHeartbeats 1000000 in
theorem t_gvM (S : MtS σ0 n M rg B) {o v mm len : Nat} {e : Et} {θ : Nat → Ty} {row : Int} {fs : List Fr} (hcd : cdN σ0 n M rg o e (v : Int)) (h10 : eTg e = 10) (hk : (eLb e).2.1 = 1 ∨ (eLb e).2.1 = 2) (ok : okTh M.2.2.2 (gvW M o) θ) (hlen : (eEv e).length = len) (l4 : len ≤ 4) (GA : ∀ g, g < len → ∃ z, gvOf M o (QN σ0 n) (eLb e) (eEv e) g z) (GM : gMn M σ0 (eLb e) len) : ∀ (l : List Dc) (g : Nat) (σ : tS) (c0 X : Nat) (js : Nat → Int), (eEv e).drop g = l → g ≤ len → cEv M.2.2.1 M.2.2.2 (gvW M o) θ l = some X → mMd σ0 n M rg σ fs c0 mm → chM σ0 n M rg σ → rTw M.2.2.2 σ (gvW M o) θ row → (∀ j, -1 ≤ js j ∧ js j < gs σ 964) → (∀ j c T, j < g → gTy M (eLb e) j = some (some (c, T)) → dcW M.2.2.2 σ (sem M.2.2.2 θ T) c (js j)) →
    (∃ (js' : Nat → Int) (σ' : tS), om_loop (T_wantedName_152s (v : Int) ((eLb e).2.2.2.1 : Int) ((eLb e).2.2.1 : Int) (owT o) row) (js 0, js 1, js 2, js 3, (g : Int), σ) = some (.inr (js' 0, js' 1, js' 2, js' 3, σ')) ∧ c0 + X ≤ 4000 ∧ mMd σ0 n M rg σ' fs (c0 + X) mm ∧ chM σ0 n M rg σ' ∧ mGr σ σ' ∧ fr SWS SWA σ σ' ∧ (∀ j, -1 ≤ js' j ∧ js' j < gs σ' 964) ∧ ∀ j c T, j < len → gTy M (eLb e) j = some (some (c, T)) → dcW M.2.2.2 σ' (sem M.2.2.2 θ T) c (js' j)) ∨ (∃ σ', om_loop (T_wantedName_152s (v : Int) ((eLb e).2.2.2.1 : Int) ((eLb e).2.2.1 : Int) (owT o) row) (js 0, js 1, js 2, js 3, (g : Int), σ) = some (.inl σ') ∧ 4000 < c0 + X ∧ mFw σ0 σ' 4 4000 mm ∧ fr SWS SWA σ σ')
  | [], g, σ, c0, X, js, el, hg, hX, H, C, rw', hj, hd => by
    have eX : X = 0 := (Option.some.inj hX).symm
    have eg : g = len := by
      have := List.drop_eq_nil_iff.mp el
      omega
    have F := H.1
    have hgo : T_givensOf ((eLb e).2.2.2.1 : Int) σ = some (len : Int) := by
      obtain ⟨⟨m0, m1, m2⟩, m3⟩ := GM
      unfold T_givensOf
      rw [if_pos (by omega), show (((eLb e).2.2.2.1 : Nat) : Int).toNat = (eLb e).2.2.2.1 by omega, F.2 638 (by decide), F.2 642 (by decide), m2]
      rcases m3 with ⟨_, q1, q2, q3, _⟩ | ⟨_, q1, q2, q3, _⟩
      · rw [q1, if_neg (fun z => z rfl), if_pos ⟨by omega, by omega, by omega, by omega⟩, show (((eLb e).2.2.1 : Nat) : Int).toNat = (eLb e).2.2.1 by omega, F.2 746 (by decide), q3]
      · rw [q1, if_pos (by decide), if_pos (by omega), if_neg (fun z => z rfl), q3]; rfl
    have st : T_wantedName_152s (v : Int) ((eLb e).2.2.2.1 : Int) ((eLb e).2.2.1 : Int) (owT o) row (js 0, js 1, js 2, js 3, (g : Int), σ) = some (.inr (.inr (js 0, js 1, js 2, js 3, σ))) := by
      unfold T_wantedName_152s
      simp only
      rw [hgo, Option.bind_some, if_pos (by omega)]
    refine .inl ⟨js, σ, om_loop_out st, by rw [eX]; exact H.2.1.2.2.2, by rw [eX]; exact H, C, mGr_refl _, fr_refl _ _ _, hj, fun j c T hjl e1 => hd j c T (by omega) e1⟩
  | D :: l, g, σ, c0, X, js, el, hg, hX, H, C, rw', hj, hd => by
    have gl : g < len := by
      have := congrArg List.length el
      rw [List.length_drop, List.length_cons] at this
      omega
    have eD : (eEv e)[g]? = some D := by
      have := congrArg (fun x => x[0]?) el
      simp only [List.getElem?_drop, Nat.add_zero] at this
      exact this
    have el2 : (eEv e).drop (g + 1) = l := by
      rw [← List.drop_drop, el]; rfl
    have F := H.1
    obtain ⟨⟨lo, hi, v42, h42, _, _, _, _⟩, _, how, _⟩ := cd_10 hcd h10
    have SS := S
    obtain ⟨⟨DP, mp, jt, n9, n904⟩, _, hO, _⟩ := S
    obtain ⟨J, hgl⟩ := hO o how
    have hgo : T_givensOf ((eLb e).2.2.2.1 : Int) σ = some (len : Int) := by
      obtain ⟨⟨m0, m1, m2⟩, m3⟩ := GM
      unfold T_givensOf
      rw [if_pos (by omega), show (((eLb e).2.2.2.1 : Nat) : Int).toNat = (eLb e).2.2.2.1 by omega, F.2 638 (by decide), F.2 642 (by decide), m2]
      rcases m3 with ⟨_, q1, q2, q3, _⟩ | ⟨_, q1, q2, q3, _⟩
      · rw [q1, if_neg (fun z => z rfl), if_pos ⟨by omega, by omega, by omega, by omega⟩, show (((eLb e).2.2.1 : Nat) : Int).toNat = (eLb e).2.2.1 by omega, F.2 746 (by decide), q3]
      · rw [q1, if_pos (by decide), if_pos (by omega), if_neg (fun z => z rfl), q3]; rfl
    obtain ⟨z, G⟩ := GA g gl
    obtain ⟨σa, a1, a2, a3⟩ := t_byO DP.1 F DP.2.1 DP.2.2.1 how DP.2.2.2.1
    have Fa := fr_trans F (fr_sub a2 (by decide) (by decide) : fr WMS WMA σ σa)
    have Ca := chM_fr a2 (by decide) (by decide) (tx_M (fr_sub a2 (by decide) (by decide))) C
    obtain ⟨σ1, k1, k2, k3, k4, k5⟩ := t_cach SS Fa Ca hcd h10 hk (by omega) G a3
    have F1 := fr_trans Fa (fr_sub k2 (by decide) (by decide) : fr WMS WMA σa σ1)
    have F01 : fr SWS SWA σ σ1 := fr_trans (fr_sub a2 (by decide) (by decide)) (fr_sub k2 (by decide) (by decide))
    have V1 : GVT σ1 n (gvW M o) := GVT_f2 (k2.1 792 (by decide)) (fun f hf i => k2.2 f (by simp only [List.mem_cons, List.not_mem_nil, or_false] at hf ⊢; omega) i) (tx_M (fr_sub k2 (by decide) (by decide))) a3
    have G01 : mGr σ σ1 := mGr_trans (mGr_o a2 (by decide) (by decide)) (mGr_o k2 (by decide) (by decide))
    have keepM : mMd σ0 n M rg σ1 fs c0 mm := md_grow (md_grow H a2 (by decide) (by decide) (by decide) (by decide) (mGr_o a2 (by decide) (by decide)) (mCt_fr a2 (by decide) H.2.1)) k2 (by decide) (by decide) (by decide) (by decide) (mGr_o k2 (by decide) (by decide)) (mCt_fr k2 (by decide) (mCt_fr a2 (by decide) H.2.1))
    have at4 : w32 (w32 (4 * (v : Int)) + (g : Int)) = ((4 * v + g : Nat) : Int) := by rw [w32_s (x := 4 * (v : Int)) (by omega) (by omega), w32_s (by omega) (by omega)]; omega
    have atN : (((4 * v + g : Nat) : Int)).toNat = 4 * v + g := by omega
    -- the step comes to what is behind
    have st0 : T_wantedName_152s (v : Int) ((eLb e).2.2.2.1 : Int) ((eLb e).2.2.1 : Int) (owT o) row (js 0, js 1, js 2, js 3, (g : Int), σ) = T_wantedName_237 (v : Int) ((eLb e).2.2.2.1 : Int) ((eLb e).2.2.1 : Int) (owT o) row (js 0) (js 1) (js 2) (js 3) (g : Int) ((4 * v + g : Nat) : Int) σ1 := by
      unfold T_wantedName_152s
      simp only
      rw [hgo, Option.bind_some, if_neg (by omega), a1, Option.bind_some, at4, if_pos (by omega), atN]
      rcases k1 with ⟨q1, q2⟩ | ⟨q1, σc, q2, q3⟩
      · rw [if_pos q1, q2]
      · rw [if_neg q1, if_pos (by omega), q2, Option.bind_some]
        rcases q3 with ⟨q4, t, σd, q5, q6⟩ | ⟨q4, q6⟩
        · rw [if_pos q4, q5, Option.bind_some]
          unfold T_wantedName_236
          rw [if_pos (by omega), atN, q6]
        · rw [if_neg q4]
          unfold T_wantedName_236
          rw [if_pos (by omega), atN, q6]
    unfold cEv at hX
    obtain ⟨x1, hx1, hX2⟩ := Option.bind_eq_some_iff.mp hX
    obtain ⟨x2, hx2, hX3⟩ := Option.map_eq_some_iff.mp hX2
    obtain ⟨G1, D', G2, G3, G4⟩ := G
    have eDD : D' = D := Option.some.inj (G2.symm.trans eD)
    rw [eDD] at G3 G4
    have w1 : w32 ((g : Int) + 1) = ((g + 1 : Nat) : Int) := by rw [w32_s (by omega) (by omega)]; rfl
    cases hz : z with
    | none =>
      have x10 : x1 = 0 := by
        rw [if_pos (G3 hz)] at hx1
        exact (Option.some.inj hx1).symm
      have st : T_wantedName_152s (v : Int) ((eLb e).2.2.2.1 : Int) ((eLb e).2.2.1 : Int) (owT o) row (js 0, js 1, js 2, js 3, (g : Int), σ) = some (.inl (js 0, js 1, js 2, js 3, ((g + 1 : Nat) : Int), σ1)) := by
        rw [st0]
        unfold T_wantedName_237
        rw [if_pos (by omega), atN, k4 hz, if_neg (fun w => w rfl), w1]
      rw [om_loop_in st]
      rcases t_gvM SS hcd h10 hk ok hlen l4 GA GM l (g + 1) σ1 c0 x2 js el2 (by omega) hx2 keepM k3 (rTw_gr G01 rw') (fun j => ⟨(hj j).1, by have := (hj j).2; have := G01.2.2.1; omega⟩) (fun j c T hjl e1 => by
          by_cases q : j = g
          · rw [q] at e1
            have := Option.some.inj (e1.symm.trans G1)
            rw [hz] at this
            cases this
          · exact dcW_gr G01 (hd j c T (by omega) e1)) with ⟨js', σ', r1, r2, r3, r4, r5, r6, r7, r8⟩ | ⟨σ', r1, r2, r3, r4⟩
      · refine .inl ⟨js', σ', r1, by omega, by rw [show c0 + X = c0 + x2 by omega]; exact r3, r4, mGr_trans G01 r5, fr_trans F01 r6, r7, r8⟩
      · exact .inr ⟨σ', r1, by omega, r3, fr_trans F01 r4⟩
    | some cT =>
      obtain ⟨c, T⟩ := cT
      obtain ⟨d1, d2, d3, d4, d5⟩ := G4 c T hz
      rw [if_neg d1] at hx1
      obtain ⟨u, u1, u2, u3⟩ := k5 c T hz
      have nt : ga σ1 1046 (4 * v + g) ≠ -1 := fun w => u2 ((tyT_0 u1).mpr w)
      obtain ⟨u', e1, e2, e3⟩ := ev_dc DP ok how rfl J.1.2.2.1 hgl 70 c T D d2 d3 d4.1 d4.2.1 d4.2.2 (by omega) x1 hx1
      have euu : u' = u := knT_fn e1 u3
      rw [euu] at e2 e3
      obtain ⟨got, σ2, f1, f2, f3, f4⟩ := t_dict e3 (by omega) F1 V1 keepM.2.1 keepM.2.2.2.2.1 u1 (rTw_gr G01 rw')
      have F02 : fr SWS SWA σ σ2 := fr_trans F01 (fr_sub f2 (by decide) (by decide))
      have C2 := chM_fr f2 (by decide) (by decide) (tx_M (fr_DM f2)) k3
      have un : T_wantedName_152s (v : Int) ((eLb e).2.2.2.1 : Int) ((eLb e).2.2.1 : Int) (owT o) row (js 0, js 1, js 2, js 3, (g : Int), σ) = T_wantedName_279 (v : Int) ((eLb e).2.2.2.1 : Int) ((eLb e).2.2.1 : Int) (owT o) row (js 0) (js 1) (js 2) (js 3) (g : Int) ((4 * v + g : Nat) : Int) (c : Int) σ1 := by
        rw [st0]
        obtain ⟨⟨m0, m1, m2⟩, m3⟩ := GM
        unfold T_wantedName_237
        rw [if_pos (by omega), atN, if_pos nt, if_pos (by omega), show (((eLb e).2.2.2.1 : Nat) : Int).toNat = (eLb e).2.2.2.1 by omega, F1.2 638 (by decide)]
        rw [hz] at G1
        rcases m3 with ⟨_, q1, q2, _, q3⟩ | ⟨_, q1, q2, _, q3⟩
        · rw [q1, if_pos (by decide), w32_s (x := 4 * ((eLb e).2.2.1 : Int)) (by omega) (by omega), w32_s (by omega) (by omega), if_pos (by omega), show (4 * ((eLb e).2.2.1 : Int) + (g : Int)).toNat = 4 * (eLb e).2.2.1 + g by omega, F1.2 750 (by decide), q3 g c T G1]
        · rw [q1, if_neg (fun w => w rfl)]
          have ec := q3 g c T G1
          have ed : div32 ((eLb e).2.2.1 : Int) 4 = (c : Int) := by
            rw [show (4 : Int) = ((4 : Nat) : Int) from rfl, div32_n (by omega) (by decide), ec]
          rw [ed]
      rcases f4 with ⟨h1, h2, h3, h4⟩ | ⟨h1, h2, h3, h4⟩
      · have gotk : 0 ≤ got ∧ got < gs σ2 964 := by
          generalize sem M.2.2.2 θ u = T0 at h4
          cases T0 with
          | leaf => exact h4.elim
          | inner a b x l' r' =>
            obtain ⟨_, kg, _, _, _, z1, z2, _⟩ := h4
            omega
        have st : T_wantedName_152s (v : Int) ((eLb e).2.2.2.1 : Int) ((eLb e).2.2.1 : Int) (owT o) row (js 0, js 1, js 2, js 3, (g : Int), σ) = some (.inl ((fun j => if j = g then got else js j) 0, (fun j => if j = g then got else js j) 1, (fun j => if j = g then got else js j) 2, (fun j => if j = g then got else js j) 3, ((g + 1 : Nat) : Int), σ2)) := by
          rw [un]
          unfold T_wantedName_279
          rw [if_pos (by omega), atN, f1, Option.bind_some, if_pos (by omega), w1]
          have : g = 0 ∨ g = 1 ∨ g = 2 ∨ g = 3 := by omega
          rcases this with q | q | q | q
          · subst q
            rw [if_neg (fun w => w rfl)]
            rfl
          · subst q
            rw [if_pos (by decide), if_neg (fun w => w rfl)]
            rfl
          · subst q
            rw [if_pos (by decide), if_pos (by decide), if_neg (fun w => w rfl)]
            rfl
          · subst q
            rw [if_pos (by decide), if_pos (by decide), if_pos (by decide)]
            rfl
        rw [om_loop_in st]
        have M2 : mMd σ0 n M rg σ2 fs (c0 + x1) mm := by
          obtain ⟨H1, H2, H3, H4, H5, H6⟩ := keepM
          exact ⟨fr_trans F1 (fr_DM f2), h2, by rw [f2.1 992 (by decide)]; exact H3, by rw [f2.1 996 (by decide)]; exact H4, h3, fTw_gr f3 (fun g' hg' k _ => f2.2 g' (by simp only [List.mem_cons, List.not_mem_nil, or_false] at hg' ⊢; omega) k) H6⟩
        rcases t_gvM SS hcd h10 hk ok hlen l4 GA GM l (g + 1) σ2 (c0 + x1) x2 (fun j => if j = g then got else js j) el2 (by omega) hx2 M2 C2 (rTw_gr (mGr_trans G01 f3) rw') (fun j => by
            by_cases q : j = g
            · simp only [q, if_true]; omega
            · simp only [q, if_false]
              have := hj j
              have := G01.2.2.1
              have := f3.2.2.1
              omega) (fun j c' T' hjl e1' => by
            by_cases q : j = g
            · subst q
              simp only [if_true]
              have := Option.some.inj (e1'.symm.trans G1)
              rw [hz] at this
              injection Option.some.inj this with y1 y2
              rw [y1, y2, ← e2]
              exact h4
            · simp only [q, if_false]
              exact dcW_gr (mGr_trans G01 f3) (hd j c' T' (by omega) e1')) with ⟨js', σ', r1, r2, r3, r4, r5, r6, r7, r8⟩ | ⟨σ', r1, r2, r3, r4⟩
        · refine .inl ⟨js', σ', r1, by omega, by rw [show c0 + X = c0 + x1 + x2 by omega]; exact r3, r4, mGr_trans (mGr_trans G01 f3) r5, fr_trans F02 r6, r7, r8⟩
        · exact .inr ⟨σ', r1, by omega, r3, fr_trans F02 r4⟩
      · have st : T_wantedName_152s (v : Int) ((eLb e).2.2.2.1 : Int) ((eLb e).2.2.1 : Int) (owT o) row (js 0, js 1, js 2, js 3, (g : Int), σ) = some (.inr (.inl σ2)) := by
          rw [un]
          unfold T_wantedName_279
          rw [if_pos (by omega), atN, f1, Option.bind_some, h2, if_neg (fun w => w rfl)]
        exact .inr ⟨σ2, om_loop_out st, by omega, ⟨fr_trans F1 (fr_DM f2), h3, h4, by rw [f2.1 996 (by decide)]; exact keepM.2.2.2.1⟩, F02⟩
end LTQ
