set_option maxRecDepth 100000
/-! THE TWIN SAYS what a term begins with: names, givens -/
/-- what is given can be said -/
def gvO (σ : tS) (ins : List INs) (nm con fam cnm : Nat → List Int) (gv : List GVs) : Prop := ∀ g ∈ gv, (g.2.1 < 2100 ∧ nmT σ g.2.1 (nm g.2.1)) ∧ (g.1 < 100 → clN σ cnm g.1) ∧ (100 ≤ g.1 → hdO nm con fam σ 2 (g.1 - 100) ∧ tyOk ins g.2.2 ∧ tdp g.2.2 < 70 ∧ tOn nm con fam σ g.2.2)
section LHD
variable {ins : List INs} {gv : List GVs} {B n : Nat} {σ σ0 τ : tS} {nm con fam cnm : Nat → List Int}
theorem gvO_Z (F : fr WZS WZA σ τ) (H : gvO σ ins nm con fam cnm gv) : gvO τ ins nm con fam cnm gv := fun g hg => by
  obtain ⟨⟨a1, a2⟩, a3, a4⟩ := H g hg
  refine ⟨⟨a1, nmT_Z F a2⟩, fun w => clN_Z F (a3 w), fun w => ?_⟩
  obtain ⟨b1, b2, b3, b4⟩ := a4 w
  exact ⟨hdO_Z F b1, b2, b3, tOn_Z F b4⟩
theorem t_sayAll {w t : Nat} (H : nmT σ w (nm w)) (hw : w < 2100) (S : SkT σ t) (ht : t + (nm w).length < 1700000000) : T_sayAll (w : Int) σ = some (sayL ([47, 92] ++ nm w ++ [46]) σ) ∧ SyZ σ ([47, 92] ++ nm w ++ [46]) (sayL ([47, 92] ++ nm w ++ [46]) σ) ∧ SkT (sayL ([47, 92] ++ nm w ++ [46]) σ) (t + (nm w).length + 3) := by
  obtain ⟨a1, a2, a3⟩ := sz_b S (by omega) 47
  obtain ⟨b1, b2, b3⟩ := sz_b a3 (by omega) 92
  have F2 := fr_trans a2.2.2.2.1 b2.2.2.2.1
  obtain ⟨c1, c2, c3⟩ := sz_N (nmT_Z F2 H) hw b3 (by omega)
  obtain ⟨d1, d2, d3⟩ := sz_b c3 (by omega) 46
  have e : say1 (sayL (nm w) (say1 (say1 σ 47) 92)) 46 = sayL ([47, 92] ++ nm w ++ [46]) σ := by
    rw [sayL_app, sayL_app]
    rfl
  rw [e] at d1 d2 d3
  refine ⟨?_, SyZ_of (SyW_of (SyO_L S (by simp only [List.length_append, List.length_cons, List.length_nil]; omega))), ?_⟩
  · unfold T_sayAll
    rw [a1, Option.bind_some, b1, Option.bind_some, c1, Option.bind_some, d1, Option.bind_some]
  · have : t + 1 + 1 + (nm w).length + 1 = t + (nm w).length + 3 := by omega
    rw [← this]
    exact d3
theorem allB_c {w : Nat} {l : List Nat} : allB nm (w :: l) = [47, 92] ++ nm w ++ [46] ++ allB nm l := by
  unfold allB
  rw [List.map_cons, List.flatten_cons]
/-- the names of a function -/
theorem t_55 {f : Nat} {ns : List Nat} (hf : f < 24) (h4 : ns.length ≤ 4) (e1 : ga σ0 738 f = (ns.length : Int)) (e2 : ∀ (j w : Nat), ns[j]? = some w → ga σ0 742 (4 * f + j) = (w : Int) ∧ w < 2100 ∧ nmT σ0 w (nm w)) : ∀ (l : List Nat) (k : Nat) (σ : tS) (t : Nat), ns.drop k = l → k ≤ ns.length → fr WZS WZA σ0 σ → SkT σ t → t + (allB nm l).length < 1000000000 → ∃ σ', om_loop (T_sayProgram_55s (f : Int)) ((k : Int), σ) = some σ' ∧ SyZ σ (allB nm l) σ'
  | [], k, σ, t, el, hk, F, S, ht => by
    have kl : ns.length ≤ k := List.drop_eq_nil_iff.mp el
    refine ⟨σ, om_loop_out ?_, SyZ_of (SyW_of SyO_nil)⟩
    unfold T_sayProgram_55s
    simp only
    rw [if_pos (by omega), show ((f : Int)).toNat = f by omega, F.2 738 (by decide), e1, if_pos (by omega)]
  | w :: l, k, σ, t, el, hk, F, S, ht => by
    have kl : k < ns.length := Classical.byContradiction (fun z => by
      rw [List.drop_eq_nil_iff.mpr (by omega)] at el
      cases el)
    have ek := List.drop_eq_getElem_cons kl
    rw [el] at ek
    injection ek with ek1 ek2
    obtain ⟨g1, g2, g3⟩ := e2 k w (by rw [List.getElem?_eq_getElem kl, ek1])
    rw [allB_c] at ht ⊢
    simp only [List.length_append, List.length_cons, List.length_nil] at ht
    obtain ⟨a1, a2, a3⟩ := t_sayAll (nm := nm) (nmT_Z F g3) g2 S (by omega)
    have F1 := fr_trans F a2.2.2.2.1
    have ix : w32 (w32 (4 * (f : Int)) + (k : Int)) = ((4 * f + k : Nat) : Int) := by rw [w32_s (x := 4 * (f : Int)) (by omega) (by omega), w32_s (by omega) (by omega)]; omega
    have st : T_sayProgram_55s (f : Int) ((k : Int), σ) = some (.inl (((k + 1 : Nat) : Int), sayL ([47, 92] ++ nm w ++ [46]) σ)) := by
      unfold T_sayProgram_55s
      simp only
      rw [if_pos (by omega), show ((f : Int)).toNat = f by omega, F.2 738 (by decide), e1, if_neg (by omega), ix, if_pos (by omega), show (((4 * f + k : Nat) : Int)).toNat = 4 * f + k by omega, F.2 742 (by decide), g1, a1, Option.bind_some, w32_s (by omega) (by omega)]
      rfl
    obtain ⟨σ3, b1, b2⟩ := t_55 hf h4 e1 e2 l (k + 1) _ _ ek2.symm (by omega) F1 a3 (by omega)
    exact ⟨σ3, by rw [om_loop_in st]; exact b1, SyZ_trans a2 b2⟩
/-- the names of an inst -/
theorem t_h7 {f : Nat} {ns : List Nat} (hf : f < 20) (h4 : ns.length ≤ 2) (e1 : ga σ0 702 f = (ns.length : Int)) (e2 : ∀ (j w : Nat), ns[j]? = some w → ga σ0 706 (2 * f + j) = (w : Int) ∧ w < 2100 ∧ nmT σ0 w (nm w)) : ∀ (l : List Nat) (k : Nat) (σ : tS) (t : Nat), ns.drop k = l → k ≤ ns.length → fr WZS WZA σ0 σ → SkT σ t → t + (allB nm l).length < 1000000000 → ∃ σ', om_loop (T_sayHead_7s (f : Int)) ((k : Int), σ) = some σ' ∧ SyZ σ (allB nm l) σ'
  | [], k, σ, t, el, hk, F, S, ht => by
    have kl : ns.length ≤ k := List.drop_eq_nil_iff.mp el
    refine ⟨σ, om_loop_out ?_, SyZ_of (SyW_of SyO_nil)⟩
    unfold T_sayHead_7s
    simp only
    rw [if_pos (by omega), show ((f : Int)).toNat = f by omega, F.2 702 (by decide), e1, if_pos (by omega)]
  | w :: l, k, σ, t, el, hk, F, S, ht => by
    have kl : k < ns.length := Classical.byContradiction (fun z => by
      rw [List.drop_eq_nil_iff.mpr (by omega)] at el
      cases el)
    have ek := List.drop_eq_getElem_cons kl
    rw [el] at ek
    injection ek with ek1 ek2
    obtain ⟨g1, g2, g3⟩ := e2 k w (by rw [List.getElem?_eq_getElem kl, ek1])
    rw [allB_c] at ht ⊢
    simp only [List.length_append, List.length_cons, List.length_nil] at ht
    obtain ⟨a1, a2, a3⟩ := t_sayAll (nm := nm) (nmT_Z F g3) g2 S (by omega)
    have F1 := fr_trans F a2.2.2.2.1
    have ix : w32 (w32 (2 * (f : Int)) + (k : Int)) = ((2 * f + k : Nat) : Int) := by rw [w32_s (x := 2 * (f : Int)) (by omega) (by omega), w32_s (by omega) (by omega)]; omega
    have st : T_sayHead_7s (f : Int) ((k : Int), σ) = some (.inl (((k + 1 : Nat) : Int), sayL ([47, 92] ++ nm w ++ [46]) σ)) := by
      unfold T_sayHead_7s
      simp only
      rw [if_pos (by omega), show ((f : Int)).toNat = f by omega, F.2 702 (by decide), e1, if_neg (by omega), ix, if_pos (by omega), show (((2 * f + k : Nat) : Int)).toNat = 2 * f + k by omega, F.2 706 (by decide), g1, a1, Option.bind_some, w32_s (by omega) (by omega)]
      rfl
    obtain ⟨σ3, b1, b2⟩ := t_h7 hf h4 e1 e2 l (k + 1) _ _ ek2.symm (by omega) F1 a3 (by omega)
    exact ⟨σ3, by rw [om_loop_in st]; exact b1, SyZ_trans a2 b2⟩
/-- what is given -/
theorem t_sayGiv (hn : n ≤ 126000) (V : GVT σ0 n gv) (O : gvO σ0 ins nm con fam cnm gv) : ∀ (l : List GVs) (k : Nat) (σ : tS) (t : Nat), gv.drop k = l → k ≤ gv.length → fr WZS WZA σ0 σ → SkT σ t → t + (givB nm con fam cnm k l).length < 1000000000 → ∃ σ', om_loop T_sayGivens_2s ((k : Int), σ) = some σ' ∧ SyZ σ (givB nm con fam cnm k l) σ'
  | [], k, σ, t, el, hk, F, S, ht => by
    have kl : gv.length ≤ k := List.drop_eq_nil_iff.mp el
    refine ⟨σ, om_loop_out ?_, SyZ_of (SyW_of SyO_nil)⟩
    unfold T_sayGivens_2s
    simp only
    rw [F.1 792 (by decide), V.1, if_pos (by omega)]
  | g :: l, k, σ, t, el, hk, F, S, ht => by
    have kl : k < gv.length := Classical.byContradiction (fun z => by
      rw [List.drop_eq_nil_iff.mpr (by omega)] at el
      cases el)
    have ek := List.drop_eq_getElem_cons kl
    rw [el] at ek
    injection ek with ek1 ek2
    have eg : gv[k]? = some g := by rw [List.getElem?_eq_getElem kl, ek1]
    have g4 := V.2.1
    obtain ⟨v1, v2, v3, v4⟩ := V.2.2 k g eg
    obtain ⟨⟨o1, o2⟩, o3, o4⟩ := O g (List.mem_of_getElem? eg)
    have kb : (0 : Int) ≤ (k : Int) ∧ (k : Int) < 4 := by omega
    have kN : ((k : Int)).toNat = k := by omega
    have l12 := numBD_len (f := 12) (v := k)
    have eB : givB nm con fam cnm k (g :: l) = [92] ++ [if g.1 < 100 then 100 else 99] ++ numB k ++ [58] ++ (if g.1 < 100 then cnm g.1 else fam (g.1 - 100)) ++ [40] ++ nm g.2.1 ++ [41] ++ (if g.1 < 100 then [] else 126 :: tyB nm con fam g.2.2) ++ [46] ++ givB nm con fam cnm (k + 1) l := rfl
    rw [eB] at ht ⊢
    simp only [List.length_append, List.length_cons, List.length_nil] at ht
    obtain ⟨a1, a2, a3⟩ := sz_b S (by omega) 92
    have F1 := fr_trans F a2.2.2.2.1
    obtain ⟨b1, b2, b3⟩ := sz_b a3 (by omega) (if g.1 < 100 then 100 else 99)
    have n1 := t_sayNum (v := k) (by omega) b3 (by omega)
    have N1 := SyZ_of (SyW_of (SyO_L (L := numB k) b3 (by omega)))
    have S2 := sayL_t (L := numB k) b3 (by omega)
    obtain ⟨c1, c2, c3⟩ := sz_b S2 (by omega) 58
    have F2 := fr_trans F1 (fr_trans b2.2.2.2.1 (fr_trans N1.2.2.2.1 c2.2.2.2.1))
    generalize say1 (sayL (numB k) (say1 (say1 σ 92) (if g.1 < 100 then 100 else 99))) 58 = σ2 at c1 c2 c3 F2
    -- the class's name, or its family's
    obtain ⟨w, w1, w2, w3, w4⟩ : ∃ w : Nat, (if 100 ≤ (g.1 : Int) then (if 0 ≤ (k : Int) ∧ (k : Int) < 4 ∧ 0 ≤ w32 ((g.1 : Int) - 100) ∧ w32 ((g.1 : Int) - 100) < 8 then (T_sayGivens_89 (k : Int) (ga σ2 674 (w32 ((g.1 : Int) - 100)).toNat) σ2) else none) else if 0 ≤ (k : Int) ∧ (k : Int) < 4 ∧ 0 ≤ (g.1 : Int) ∧ (g.1 : Int) < 8 then (T_sayGivens_89 (k : Int) (ga σ2 662 ((g.1 : Int)).toNat) σ2) else none) = T_sayGivens_89 (k : Int) (w : Int) σ2 ∧ w < 2100 ∧ nmT σ2 w (if g.1 < 100 then cnm g.1 else fam (g.1 - 100)) ∧ True := by
      by_cases c : g.1 < 100
      · obtain ⟨q1, v, q2, q3, q4⟩ := o3 c
        refine ⟨v, ?_, q3, by rw [if_pos c]; exact nmT_Z F2 q4, trivial⟩
        rw [if_neg (by omega), if_pos (by omega), show ((g.1 : Int)).toNat = g.1 by omega, F2.2 662 (by decide), q2]
      · obtain ⟨q0, _⟩ := o4 (by omega)
        obtain ⟨q1, v, q2, q3, q4⟩ := q0.2.2 rfl
        have wz : w32 ((g.1 : Int) - 100) = ((g.1 - 100 : Nat) : Int) := (w32_s (by omega) (by omega)).trans (by omega)
        refine ⟨v, ?_, q3, by rw [if_neg c]; exact nmT_Z F2 q4, trivial⟩
        rw [if_pos (by omega), wz, if_pos (by omega), show (((g.1 - 100 : Nat) : Int)).toNat = g.1 - 100 by omega, F2.2 674 (by decide), q2]
    generalize hcl : (if g.1 < 100 then cnm g.1 else fam (g.1 - 100)) = Cn at w3 ht
    have m1 := t_sayName w3 w2 c3 (by omega)
    have M1 := SyZ_of (SyW_of (SyO_L (L := Cn) c3 (by omega)))
    have S3 := sayL_t (L := Cn) c3 (by omega)
    obtain ⟨d1, d2, d3⟩ := sz_b S3 (by omega) 40
    have F3 := fr_trans F2 (fr_trans M1.2.2.2.1 d2.2.2.2.1)
    obtain ⟨e1, e2, e3⟩ := sz_N (nmT_Z F3 o2) o1 d3 (by omega)
    obtain ⟨f1, f2, f3⟩ := sz_b e3 (by omega) 41
    have F4 := fr_trans F3 (fr_trans e2.2.2.2.1 f2.2.2.2.1)
    generalize say1 (sayL (nm g.2.1) (say1 (sayL Cn σ2) 40)) 41 = σ4 at f1 f2 f3 F4
    -- the type, if there is one
    obtain ⟨σ5, t5, h1, h2, h3, h4⟩ : ∃ σ5 t5, (if (g.1 : Int) < 100 then T_sayGivens_141 (k : Int) σ4 else (T_say 126 σ4).bind fun p5 => if 0 ≤ (k : Int) ∧ (k : Int) < 4 then ((T_sayType (ga p5 806 ((k : Int)).toNat) p5).bind fun p6 => T_sayGivens_141 (k : Int) p6) else none) = T_sayGivens_141 (k : Int) σ5 ∧ SyZ σ4 (if g.1 < 100 then [] else 126 :: tyB nm con fam g.2.2) σ5 ∧ SkT σ5 t5 ∧ t5 ≤ t + 1 + 1 + (numB k).length + 1 + Cn.length + 1 + (nm g.2.1).length + 1 + (if g.1 < 100 then [] else 126 :: tyB nm con fam g.2.2).length := by
      by_cases c : g.1 < 100
      · rw [if_pos (by omega), if_pos c]
        exact ⟨σ4, _, rfl, SyZ_of (SyW_of SyO_nil), f3, by simp⟩
      · rw [if_neg (by omega)]
        rw [if_neg c] at ht ⊢
        rw [List.length_cons] at ht ⊢
        obtain ⟨_, q1, q2, q3⟩ := o4 (by omega)
        obtain ⟨i1, i2, i3⟩ := sz_b f3 (by omega) 126
        have F5 := fr_trans F4 i2.2.2.2.1
        rw [i1, Option.bind_some, if_pos kb, kN, F5.2 806 (by decide)]
        obtain ⟨σ5, t5, j1, j2, j3, j4⟩ := sz_T hn F5 v3 ⟨q1, q2⟩ q3 i3 (by omega)
        exact ⟨σ5, t5, by rw [j1, Option.bind_some], SyZ_trans i2 j2, j3, by omega⟩
    obtain ⟨i1, i2, i3⟩ := sz_b h3 (by omega) 46
    have F5 := fr_trans F4 (fr_trans h2.2.2.2.1 i2.2.2.2.1)
    have st : T_sayGivens_2s ((k : Int), σ) = some (.inl (((k + 1 : Nat) : Int), say1 σ5 46)) := by
      have go : T_sayGivens_35 (k : Int) (if g.1 < 100 then 100 else 99) (say1 σ 92) = some (.inl (((k + 1 : Nat) : Int), say1 σ5 46)) := by
        unfold T_sayGivens_35
        rw [b1, Option.bind_some, n1, Option.bind_some, c1, Option.bind_some, if_pos kb, kN, F2.2 798 (by decide), v1, w1]
        unfold T_sayGivens_89
        rw [m1, Option.bind_some, d1, Option.bind_some, if_pos kb, kN, F3.2 802 (by decide), v2, e1, Option.bind_some, f1, Option.bind_some, if_pos kb, F4.2 798 (by decide), v1]
        have h1' := h1
        rw [kN] at h1'
        rw [h1']
        unfold T_sayGivens_141
        rw [i1, Option.bind_some, w32_s (by omega) (by omega)]
        rfl
      unfold T_sayGivens_2s
      simp only
      rw [F.1 792 (by decide), V.1, if_neg (by omega), a1, Option.bind_some, if_pos kb, kN, F1.2 798 (by decide), v1]
      by_cases c : g.1 < 100
      · rw [if_pos c] at go
        rw [if_neg (by omega)]
        exact go
      · rw [if_neg c] at go
        rw [if_pos (by omega)]
        exact go
    obtain ⟨σ6, j1, j2⟩ := t_sayGiv hn V O l (k + 1) _ _ ek2.symm (by omega) F5 i3 (by omega)
    refine ⟨σ6, by rw [om_loop_in st]; exact j1, ?_⟩
    exact SyZ_trans (SyZ_trans (SyZ_trans (SyZ_trans (SyZ_trans (SyZ_trans (SyZ_trans (SyZ_trans (SyZ_trans (SyZ_trans a2 b2) N1) c2) M1) d2) e2) f2) h2) i2) j2
end LHD
