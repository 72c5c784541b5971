set_option maxRecDepth 100000
/-! THE TWIN'S MACHINE: what a given of a name is for, kept or found anew -/
section LTP
variable {M : MPg} {B : MBd} {rg : Nat → Nat × Nat} {σ0 σ τ Z : tS} {n : Nat}
theorem svw_eq {σ σ' : tS} (h : svw σ' = svw σ) : gs σ' 904 = gs σ 904 ∧ gs σ' 1116 = gs σ 1116 ∧ ∀ i, ga σ' 894 i = ga σ 894 i := by
  unfold svw at h
  injection h with h1 h2
  injection h2 with h2 h3
  injection h3 with h3 h4
  injection h4 with h4 h5
  injection h5 with h5 h6
  exact ⟨h1, h5, fun i => congrFun h6 i⟩
/-- saying nothing: what may be written -/
theorem SyZ_M {σ' : tS} (hs : gs σ 904 ≤ gs σ 908) (A : SyZ σ [] σ') : fr [808, 812, 816, 823, 827, 836, 856, 880, 884, 888] [830, 834, 850] σ σ' := by
  obtain ⟨a1, _, _, a4, _⟩ := A
  have sv := (a1 (by rw [List.length_nil]; omega)).1
  have sv' : svw σ' = svw σ := sv
  obtain ⟨s1, s2, s3⟩ := svw_eq sv'
  refine ⟨fun f hf => ?_, fun f hf i => ?_⟩
  · by_cases q1 : f = 904
    · rw [q1, s1]
    · by_cases q2 : f = 1116
      · rw [q2, s2]
      · exact a4.1 f (fun z => hf (by simp only [List.mem_append, List.mem_cons, List.not_mem_nil, or_false] at z ⊢; omega))
  · by_cases q1 : f = 894
    · rw [q1, s3]
    · exact a4.2 f (fun z => hf (by simp only [List.mem_append, List.mem_cons, List.not_mem_nil, or_false] at z ⊢; omega)) i
theorem frN_M (F : fr WMS WMA σ0 σ) : frN σ0 σ := ⟨trivial, fun f hf i => F.2 f ((by decide : ∀ f ∈ NDA, f ∉ WMA) f hf) i⟩
theorem jt_M (F : fr WMS WMA σ0 σ) {E : JE} (H : JT0 σ0 n E) : JT0 σ n E := JT0_keep (fun f hf => F.1 f ((by decide : ∀ f ∈ JTSc, f ∉ WMS) f hf)) (fun f hf i => F.2 f ((by decide : ∀ f ∈ JTAr, f ∉ WMA) f hf) i) (tx_M F) H
theorem QN_M (F : fr WMS WMA σ0 σ) {X : Ty} (H : QN σ0 n X) : QN σ n X := by
  obtain ⟨t, c⟩ := H
  exact ⟨t, tyT_mono (tx_M F) c⟩
theorem gvK_Q {E : JE} {Q : Ty → Prop} {θ : List (Nat × Ty)} : ∀ {l : List GVs} {Ds : List Dc}, gvK E Q θ l Ds → ∀ (j : Nat) (g : GVs), l[j]? = some g → 100 ≤ g.1 → Q (tnd 2 (g.1 - 100) ((lkT θ g.2.1).getD .leaf) .leaf) ∧ Q (sbT θ g.2.2)
  | [], _, _, _, _, e, _ => by cases e
  | _ :: _, [], h, _, _, _, _ => h.elim
  | g :: l, D :: Ds, h, j, g', e, c => by
    cases j with
    | zero =>
      have eg : g = g' := Option.some.inj e
      rw [← eg] at c ⊢
      have h1 := h.1
      rw [if_neg (by omega)] at h1
      exact h1.2.2.1
    | succ j => exact gvK_Q h.2 j g' e c
/-- what is to be found for a given of a name -/
def gvOf (M : MPg) (o : Nat) (Q : Ty → Prop) (lb : XL) (ev : List Dc) (g : Nat) (z : Option (Nat × Ty)) : Prop := gTy M lb g = some z ∧ ∃ D, ev[g]? = some D ∧ (z = none → dTg D = 2) ∧ ∀ c T, z = some (c, T) → dTg D ≠ 2 ∧ dcT M.2.2.1 M.2.2.2 (gvW M o) 70 c T = some D ∧ dcK M.2.2.1 M.2.2.2 (gvW M o) Q 70 c T ∧ tyOk M.2.2.2 T ∧ tsz T ≤ 2700
set_option maxHeartbeats 1000000 in
/-- a given of a name -/
theorem t_cach (S : MtS σ0 n M rg B) (F : fr WMS WMA σ0 σ) (C : chM σ0 n M rg σ) {o v g : Nat} {e : Et} {z : Option (Nat × Ty)} (hcd : cdN σ0 n M rg o e (v : Int)) (h10 : eTg e = 10) (hk : (eLb e).2.1 = 1 ∨ (eLb e).2.1 = 2) (hg : g < 4) (G : gvOf M o (QN σ0 n) (eLb e) (eEv e) g z) (V : GVT σ n (gvW M o)) : ∃ σ1, ((ga σ 1042 (4 * v + g) = gs σ 1048 ∧ σ1 = σ) ∨ (ga σ 1042 (4 * v + g) ≠ gs σ 1048 ∧ ∃ σc, T_givenPut (v : Int) ((eLb e).2.2.2.1 : Int) (g : Int) (ua σ 1042 (4 * v + g) (gs σ 1048)) = some σc ∧ ((gs σc 880 < 100 ∧ ∃ t σd, T_outNow (gs σc 884) σc = some (t, σd) ∧ σ1 = ua σd 1046 (4 * v + g) t) ∨ (¬ gs σc 880 < 100 ∧ σ1 = ua σc 1046 (4 * v + g) (-1))))) ∧ fr [808, 812, 816, 823, 827, 836, 856, 880, 884, 888] [830, 834, 850, 1042, 1046] σ σ1 ∧ chM σ0 n M rg σ1 ∧ (z = none → ga σ1 1046 (4 * v + g) = -1) ∧ ∀ c T, z = some (c, T) → ∃ u, tyT σ1 n u (ga σ1 1046 (4 * v + g)) ∧ u ≠ .leaf ∧ knT M.2.2.2 (gvW M o) (QN σ0 n) 130 T u := by
  obtain ⟨⟨lo, hi, v42, h42, l1, l2, hnm, hrg⟩, hK, how, hats⟩ := cd_10 hcd h10
  by_cases q : ga σ 1042 (4 * v + g) = gs σ 1048
  · obtain ⟨c1, c2⟩ := C v g v42 hg q o e hcd h10 z G.1
    exact ⟨σ, .inl ⟨q, rfl⟩, fr_refl _ _ _, C, c1, c2⟩
  · have SS := S
    obtain ⟨⟨DP, mp, jt, n9, n904⟩, _, hO, _⟩ := S
    obtain ⟨J, hgl⟩ := hO o how
    have Pg := DP.2.2.2.2.1
    obtain ⟨σb, eb⟩ : ∃ σb, σb = ua σ 1042 (4 * v + g) (gs σ 1048) := ⟨_, rfl⟩
    have Fb : fr [] [1042] σ σb := by rw [eb]; exact fr_ua (fr_refl _ _ _) (by decide)
    have Fb0 := fr_trans F (fr_sub Fb (by simp) (by decide) : fr WMS WMA σ σb)
    have Sb := tyS_M Fb0 DP.1.1
    have Vb : GVT σb n (gvW M o) := GVT_f2 (Fb.1 792 (by simp)) (fun f hf i => Fb.2 f (by simp only [List.mem_cons, List.not_mem_nil, or_false] at hf ⊢; omega) i) (tx_M (fr_sub Fb (by simp) (by decide))) V
    have JTb : JTE σb n (eW M o) := JTE_0 (jt_M Fb0 jt) Vb
    have nmb := nmT_keepN (frN_M Fb0) (tx_M Fb0) hnm
    have g904 : gs σb 904 ≤ gs σb 908 := by rw [Fb0.1 904 (by decide), Fb0.1 908 (by decide)]; exact n904
    obtain ⟨G1, D, G2, G3, G4⟩ := G
    -- the class and the type
    have key : ∃ σc, T_givenPut (v : Int) ((eLb e).2.2.2.1 : Int) (g : Int) σb = some σc ∧ SyZ σb [] σc ∧ (z = none → ¬ gs σc 880 < 100) ∧ ∀ c T, z = some (c, T) → gs σc 880 < 100 ∧ tyT σc n T (gs σc 884) := by
      rcases hk with k1 | k2
      · unfold gTy at G1
        rw [if_pos k1] at G1
        obtain ⟨f, ef, G1'⟩ := Option.bind_eq_some_iff.mp G1
        obtain ⟨gg, egg, G1''⟩ := Option.map_eq_some_iff.mp G1'
        have hl : (eLb e).2.2.2.2.2.length = f.1.length := by
          rcases hK with ⟨w, _⟩ | ⟨_, w, _⟩
          · omega
          · rw [w]
            unfold jnN
            rw [if_pos k1]
            show (M.1[(eLb e).2.2.1]?).elim 0 _ = _
            rw [ef]; rfl
        have hQ : 100 ≤ gg.1 → QN σb n (tnd 2 (gg.1 - 100) ((lkT (f.1.zip ((eLb e).2.2.2.2.2.map Prod.fst)) gg.2.1).getD .leaf) .leaf) ∧ QN σb n (sbT (f.1.zip ((eLb e).2.2.2.2.2.map Prod.fst)) gg.2.2) := fun w => by
          rcases hK with ⟨w', _⟩ | ⟨_, _, ⟨_, f', ef', gk⟩ | ⟨w', _⟩ | ⟨w', _⟩⟩
          · omega
          · have eff : f' = f := Option.some.inj (ef'.symm.trans ef)
            rw [eff] at gk
            obtain ⟨q1, q2⟩ := gvK_Q gk g gg egg w
            exact ⟨QN_M Fb0 q1, QN_M Fb0 q2⟩
          · omega
          · exact absurd k1 w'
        obtain ⟨σc, s1, s2, s3, s4, s5, _⟩ := t_gput1 J Sb JTb ⟨v42, h42⟩ nmb k1 ef hats hl egg (by omega) hQ
        refine ⟨σc, s1, s2, fun w => ?_, fun c T w => ?_⟩
        · rw [w] at G1''
          by_cases c : gg.1 < 100
          · rw [if_pos c] at G1''; cases G1''
          · rw [s3]; omega
        · rw [w] at G1''
          by_cases c' : gg.1 < 100
          · rw [if_pos c'] at G1''
            injection Option.some.inj G1'' with w1 w2
            rw [← w2]
            exact ⟨by rw [s3]; omega, s4 c'⟩
          · rw [if_neg c'] at G1''; cases G1''
      · unfold gTy at G1
        rw [if_neg (by omega)] at G1
        by_cases g0 : g = 0
        · rw [if_pos ⟨k2, g0⟩] at G1
          obtain ⟨mm, emm, G1'⟩ := Option.map_eq_some_iff.mp G1
          have em : (eW M o).2.1[(eLb e).2.2.1]? = some (some mm) := by
            obtain ⟨y, y1, y2⟩ := Option.bind_eq_some_iff.mp emm
            have y2' : y = some mm := y2
            rw [y2'] at y1
            exact y1
          have hl : (eLb e).2.2.2.2.2.length = 1 := by
            rcases hK with ⟨w, _⟩ | ⟨_, w, _⟩
            · omega
            · rw [w]
              unfold jnN
              rw [if_neg (by omega), if_pos k2]
          obtain ⟨⟨T0, pa⟩, ea⟩ := List.length_eq_one_iff.mp hl
          subst g0
          obtain ⟨σc, s1, s2, s3, s4⟩ := t_gput2 JTb ⟨v42, h42⟩ nmb k2 em ea
          have m8 : mm.1 < 100 := by
            have := (jt.2.2.1.2 _ mm em).1
            have l1 := (List.getElem?_eq_some_iff.mp em).1
            have l2 : M.2.1.length ≤ 32 := jt.2.2.1.1
            have l3 : (eLb e).2.2.1 < M.2.1.length := l1
            omega
          refine ⟨σc, s1, s2, fun w => ?_, fun c T w => ?_⟩
          · rw [w] at G1'; cases G1'
          · rw [w] at G1'
            injection Option.some.inj G1' with w1 w2
            have e0 : ((eLb e).2.2.2.2.2.map Prod.fst)[0]?.getD .leaf = T0 := by rw [ea]; rfl
            rw [e0] at w2
            rw [← w2]
            exact ⟨by rw [s3]; omega, s4⟩
        · rw [if_neg (fun y => g0 y.2)] at G1; cases G1
    obtain ⟨σc, s1, s2, s3, s4⟩ := key
    have Fc := SyZ_M g904 s2
    have Fc0 := fr_trans Fb0 (fr_sub Fc (by decide) (by decide) : fr WMS WMA σb σc)
    have fin : ∀ (σd : tS) (t : Int), fr [808, 812, 816, 823, 827, 836, 856, 880, 884, 888] [830, 834, 850] σb σd → (z = none → t = -1) → (∀ c T, z = some (c, T) → ∃ u, tyT σd n u t ∧ u ≠ .leaf ∧ knT M.2.2.2 (gvW M o) (QN σ0 n) 130 T u) → fr [808, 812, 816, 823, 827, 836, 856, 880, 884, 888] [830, 834, 850, 1042, 1046] σ (ua σd 1046 (4 * v + g) t) ∧ chM σ0 n M rg (ua σd 1046 (4 * v + g) t) ∧ (z = none → ga (ua σd 1046 (4 * v + g) t) 1046 (4 * v + g) = -1) ∧ ∀ c T, z = some (c, T) → ∃ u, tyT (ua σd 1046 (4 * v + g) t) n u (ga (ua σd 1046 (4 * v + g) t) 1046 (4 * v + g)) ∧ u ≠ .leaf ∧ knT M.2.2.2 (gvW M o) (QN σ0 n) 130 T u := fun σd t Fd h1 h2 => by
      have at46 : ga (ua σd 1046 (4 * v + g) t) 1046 (4 * v + g) = t := by rw [ga_ua, if_pos ⟨rfl, rfl⟩]
      have X : tx σd n (ua σd 1046 (4 * v + g) t) n := tx_M (fr_ua (fr_refl _ _ _) (by decide))
      have Fe : fr [808, 812, 816, 823, 827, 836, 856, 880, 884, 888] [830, 834, 850, 1042, 1046] σ (ua σd 1046 (4 * v + g) t) := fr_ua (fr_trans (fr_sub Fb (by simp) (by decide)) (fr_sub Fd (fun _ h => h) (by decide))) (by decide)
      refine ⟨Fe, fun v' g' hv' hg' ec o' e' hcd' h10' z' hz' => ?_, fun w => by rw [at46]; exact h1 w, fun c T w => by
        obtain ⟨u, u1, u2⟩ := h2 c T w
        rw [at46]
        exact ⟨u, tyT_mono X u1, u2⟩⟩
      by_cases same : v' = v ∧ g' = g
      · obtain ⟨ev, eg⟩ := same
        subst ev eg
        obtain ⟨eo, et⟩ := cd_one SS hcd hcd' h10 h10' (by omega)
        rw [et] at hz'
        have ez : z' = z := Option.some.inj (hz'.symm.trans G1)
        rw [ez, eo, at46]
        exact ⟨h1, fun c T w => by
          obtain ⟨u, u1, u2⟩ := h2 c T w
          exact ⟨u, tyT_mono X u1, u2⟩⟩
      · have ne : 4 * v' + g' ≠ 4 * v + g := by omega
        have e42 : ga (ua σd 1046 (4 * v + g) t) 1042 (4 * v' + g') = ga σ 1042 (4 * v' + g') := by
          rw [ga_ua, if_neg (by omega), Fd.2 1042 (by decide), eb, ga_ua, if_neg (by omega)]
        have e48 : gs (ua σd 1046 (4 * v + g) t) 1048 = gs σ 1048 := Fe.1 1048 (by decide)
        have e46 : ga (ua σd 1046 (4 * v + g) t) 1046 (4 * v' + g') = ga σ 1046 (4 * v' + g') := by
          rw [ga_ua, if_neg (by omega), Fd.2 1046 (by decide), Fb.2 1046 (by decide)]
        rw [e42, e48] at ec
        obtain ⟨c1, c2⟩ := C v' g' hv' hg' ec o' e' hcd' h10' z' hz'
        rw [e46]
        exact ⟨c1, fun c T w => by
          obtain ⟨u, u1, u2⟩ := c2 c T w
          exact ⟨u, tyT_mono (tx_M (fr_sub Fe (by decide) (by decide))) u1, u2⟩⟩
    cases hz : z with
    | none =>
      obtain ⟨f1, f2, f3, f4⟩ := fin σc (-1) Fc (fun _ => rfl) (fun c T w => by rw [hz] at w; cases w)
      rw [hz] at f3 f4
      exact ⟨_, .inr ⟨q, σc, by rw [← eb]; exact s1, .inr ⟨s3 hz, rfl⟩⟩, f1, f2, f3, f4⟩
    | some cT =>
      obtain ⟨c, T⟩ := cT
      obtain ⟨g1, g2⟩ := s4 c T hz
      obtain ⟨d1, d2, d3, d4, d5⟩ := G4 c T hz
      obtain ⟨u, k1, _, _⟩ := d3
      have Vc : GVT σc n (gvW M o) := GVT_f2 (Fc.1 792 (by decide)) (fun f hf i => Fc.2 f (by simp only [List.mem_cons, List.not_mem_nil, or_false] at hf ⊢; omega) i) (tx_M (fr_sub Fc (by decide) (by decide))) Vb
      obtain ⟨t, σd, o1, o2, o3, o4⟩ := t_outM DP.1 Fc0 Vc Pg.2.2.1 J.1.2.2.1 k1 g2 d4.1 d4.2.2 (by omega)
      obtain ⟨f1, f2, f3, f4⟩ := fin σd t (fr_trans Fc (fr_sub o2 (by decide) (by decide))) (fun w => by rw [hz] at w; cases w) (fun c' T' w => by
        rw [hz] at w
        injection Option.some.inj w with w1 w2
        rw [← w2]
        exact ⟨u, o3, o4, k1⟩)
      rw [hz] at f3 f4
      exact ⟨_, .inr ⟨q, σc, by rw [← eb]; exact s1, .inl ⟨g1, t, σd, o1, rfl⟩⟩, f1, f2, f3, f4⟩
end LTP
