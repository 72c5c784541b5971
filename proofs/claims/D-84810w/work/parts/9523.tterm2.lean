set_option maxRecDepth 100000
/-! THE TWIN SAYS TERMS: of functions, of insts -/
/-- what there is between terms -/
def TeB (σ : tS) (n : Nat) (fn : List (List Nat × List GVs × Ty)) (mt : List (Option (Nat × Nat × Ty))) (ab : List (Option Nat)) (ins : List INs) (nm con fam cnm : Nat → List Int) : Prop := (TyS σ n ∧ JT0 σ n (fn, mt, ab, ins, [])) ∧ n + 9000 < 126000 ∧ (∀ d ∈ ins, tOn nm con fam σ d.2.2.2.2) ∧ (∀ k, k < ab.length → clN σ cnm k) ∧ (∀ f ∈ fn, ∀ g ∈ f.2.1, (g.1 < 100 → g.1 < ab.length) ∧ (100 ≤ g.1 → tOn nm con fam σ g.2.2 ∧ hdO nm con fam σ 2 (g.1 - 100))) ∧ ∀ m, some m ∈ mt → m.1 < ab.length
/-- a judged ex that can be told, in an environment -/
def ExO (σ : tS) (n : Nat) (E : JE) (nm con fam : Nat → List Int) (e : Et) (v : Nat) : Prop := ∃ (t : Xt) (lo hi : Nat), eSm e t ∧ xrd t < 130 ∧ XTf σ n e lo hi v ∧ eK E (QN σ n) e ∧ eO σ E.2.2.2.1 nm con fam e ∧ eTy e ≠ .leaf
/-- what is given -/
def GvA (σ : tS) (fn : List (List Nat × List GVs × Ty)) (mt : List (Option (Nat × Nat × Ty))) (ab : List (Option Nat)) (ins : List INs) (nm con fam cnm : Nat → List Int) (B : Nat) (gv : List GVs) : Prop := JOk (fn, mt, ab, ins, gv) B ∧ gvO σ ins nm con fam cnm gv ∧ ∀ g ∈ gv, g.1 < 100 → g.1 < ab.length
section LT2
variable {σ σ1 σ2 τ : tS} {n : Nat} {fn : List (List Nat × List GVs × Ty)} {mt : List (Option (Nat × Nat × Ty))} {ab : List (Option Nat)} {ins : List INs} {gv : List GVs} {nm con fam cnm : Nat → List Int} {B : Nat} {E : JE}
theorem TeB_P (F : fr WPS WPA σ τ) (H : TeB σ n fn mt ab ins nm con fam cnm) : TeB τ n fn mt ab ins nm con fam cnm := by
  obtain ⟨⟨h1, h2⟩, h3, h4, h5, h6, h7⟩ := H
  have N := eqN_P F
  refine ⟨⟨TyS_same (F.1 532 (by decide)) (fun g hg i => F.2 g ((by decide : ∀ g ∈ TYA, g ∉ WPA) g hg) i) h1, JT0_keep (fun f hf => F.1 f ((by decide : ∀ f ∈ JTSc, f ∉ WPS) f hf)) (fun f hf i => F.2 f ((by decide : ∀ f ∈ JTAr, f ∉ WPA) f hf) i) (tx_N N) h2⟩, h3, fun d hd => tOn_N N (h4 d hd), fun k hk => clN_N N (h5 k hk), fun f hf g hg => ⟨(h6 f hf g hg).1, fun w => ⟨tOn_N N ((h6 f hf g hg).2 w).1, hdO_N N ((h6 f hf g hg).2 w).2⟩⟩, h7⟩
theorem ExO_N {e : Et} {v : Nat} (F : eqN σ τ) (H : ExO σ n E nm con fam e v) : ExO τ n E nm con fam e v := by
  obtain ⟨t, lo, hi, h1, h2, h3, h4, h5, h6⟩ := H
  exact ⟨t, lo, hi, h1, h2, XTf_N F h3, eK_mono (fun X hX => QN_N F hX) h4, eO_N F h5, h6⟩
theorem GvA_N (F : eqN σ τ) (H : GvA σ fn mt ab ins nm con fam cnm B gv) : GvA τ fn mt ab ins nm con fam cnm B gv := ⟨H.1, gvO_N F H.2.1, H.2.2⟩
theorem env_of (H : TeB σ n fn mt ab ins nm con fam cnm) (V : GVT σ n gv) (A : GvA σ fn mt ab ins nm con fam cnm B gv) : EnvT σ n (fn, mt, ab, ins, gv) B nm con fam cnm := by
  obtain ⟨⟨h1, h2⟩, h3, h4, h5, h6, h7⟩ := H
  obtain ⟨J, O, hg⟩ := A
  exact ⟨⟨h1, JTE_0 h2 V⟩, ⟨⟨J.1.1, J.1.2.1, J.1.2.2.1⟩, ⟨J.1.2.2.2.1, V.2.1, J.1.2.2.2.2⟩, h4, fun g hg w => ((O g hg).2.2 w).2.2.2⟩, ⟨J, h3⟩, ⟨hg, h5⟩, h6, h7⟩
/-- an ex in its environment -/
theorem t_exT (V : EnvT σ n E B nm con fam cnm) {e : Et} {v t : Nat} (X : ExO σ n E nm con fam e v) (S : SkT σ t) (e856 : gs σ 856 = 0) (ht : t + (exB nm con fam cnm E.2.2.1 E.2.2.2.1 E.2.2.2.2 e []).length < 1000000000) : ∃ σ', T_sayEx (v : Int) σ = some σ' ∧ SyZ σ (exB nm con fam cnm E.2.2.1 E.2.2.2.1 E.2.2.2.2 e []) σ' := by
  obtain ⟨x, lo, hi, h1, h2, h3, h4, h5, h6⟩ := X
  have i84 := XTg_in h3
  obtain ⟨σ', a1, a2⟩ := t_sayExD V 130 x e lo hi v h1 h2 h3 h4 h5 h6 σ t (fr_refl _ _ _) S ⟨by omega, by rw [e856]; omega⟩ ht
  exact ⟨σ', a1, a2⟩
/-- a term begins, ends -/
theorem t_begT {k : Nat} (hk : k < 125) : T_begins_2 (k : Int) σ = some (ua σ 898 k (gs σ 904)) ∧ fr [] [898] σ (ua σ 898 k (gs σ 904)) := by
  refine ⟨?_, fr_ua (fr_refl _ _ _) (by simp)⟩
  unfold T_begins_2
  rw [if_pos (by omega)]
  rfl
theorem t_endT {k : Nat} (hk : k < 125) : T_endsTerm (k : Int) σ = some (ua σ 902 k (w32 (gs σ 904 - ga σ 898 k))) := by
  unfold T_endsTerm
  rw [if_pos (by omega)]
  rfl
/-- what a term leaves: its start and size -/
def TmK (σ : tS) (k : Nat) (L : List Int) (σ' : tS) : Prop := SyP σ L σ' ∧ (gs σ 904 + (L.length : Int) ≤ gs σ 908 → ga σ' 898 k = gs σ 904 ∧ ga σ' 902 k = (L.length : Int)) ∧ ∀ i, i ≠ k → ga σ' 898 i = ga σ 898 i ∧ ga σ' 902 i = ga σ 902 i
theorem TmK_of {k t : Nat} {L : List Int} (S : SkT σ t) (hL : t + L.length < 1000000000) (A : SyP (ua σ 898 k (gs σ 904)) L σ2) (h898 : ∀ i, ga σ2 898 i = ga (ua σ 898 k (gs σ 904)) 898 i) (h902 : ∀ i, ga σ2 902 i = ga σ 902 i) : TmK σ k L (ua σ2 902 k (w32 (gs σ2 904 - ga σ2 898 k))) := by
  have B1 : SyP σ [] (ua σ 898 k (gs σ 904)) := SyP_fr (fr_ua (fs := []) (as := [898]) (fr_refl _ _ _) (by simp)) (by decide) (by decide) (by decide) (by decide)
  have B3 : SyP σ2 [] (ua σ2 902 k (w32 (gs σ2 904 - ga σ2 898 k))) := SyP_fr (fr_ua (fs := []) (as := [902]) (fr_refl _ _ _) (by simp)) (by decide) (by decide) (by decide) (by decide)
  have e8 : ga σ2 898 k = gs σ 904 := by rw [h898, ga_ua, if_pos ⟨rfl, rfl⟩]
  refine ⟨?_, fun w => ?_, fun i hi => ?_⟩
  · have := SyP_trans (SyP_trans B1 A) B3
    rw [List.nil_append, List.append_nil] at this
    exact this
  · have a1 := (A.1 w).2
    have a1' : gs σ2 904 = gs σ 904 + (L.length : Int) := a1
    have s1 := S.1
    refine ⟨by rw [ga_ua, if_neg (fun z => by omega)]; exact e8, ?_⟩
    rw [ga_ua, if_pos ⟨rfl, rfl⟩, e8, a1', w32_s (by omega) (by omega)]
    omega
  · rw [ga_ua, if_neg (fun z => by omega), ga_ua, if_neg (fun z => hi z.2), h898, h902, ga_ua, if_neg (fun z => hi z.2)]
    exact ⟨rfl, rfl⟩
/-- A FUNCTION'S TERM -/
theorem t_fterm (H : TeB σ n fn mt ab ins nm con fam cnm) {f w dd v t : Nat} {x : List Nat × List GVs × Ty} {e : Et} (hf : f < 24) (P : FnT σ n f w x) (A : GvA σ fn mt ab ins nm con fam cnm B x.2.1) (hN : ∀ w ∈ x.1, w < 2100 ∧ nmT σ w (nm w)) (e730 : ga σ 730 f = (dd : Int) ∧ dd < 700) (e622 : ga σ 622 dd = (v : Int)) (X : ExO σ n (fn, mt, ab, ins, x.2.1) nm con fam e v) (S : SkT σ t) (e856 : gs σ 856 = 0) (h652 : (f : Int) < gs σ 652) (ht : t + (fnB nm con fam cnm ab ins x.2.1 x.1 e).length < 1000000000) : ∃ σ', T_sayProgram_35s ((f : Int), σ) = some (.inl (((f + 1 : Nat) : Int), σ')) ∧ TmK σ f (fnB nm con fam cnm ab ins x.2.1 x.1 e) σ' := by
  unfold fnB at ht ⊢
  simp only [List.length_append] at ht
  obtain ⟨a1, a2⟩ := t_begT (σ := σ) (k := f) (by omega)
  have P1 : FnT (ua σ 898 f (gs σ 904)) n f w x := FnT_keepA (fun a ha i => a2.2 a ((by decide : ∀ a ∈ [734, 738, 742, 746, 750, 754, 758, 762], a ∉ [898]) a ha) i) (tx_same (fun g hg i => a2.2 g ((by decide : ∀ g ∈ TYA, g ∉ [898]) g hg) i)) P
  obtain ⟨σ2, b1, b2, b3⟩ := t_byF hf P1
  have G0 : SyP (ua σ 898 f (gs σ 904)) [] σ2 := SyP_fr b2 (by decide) (by decide) (by decide) (by decide)
  have F2 : fr WPS WPA σ σ2 := fr_trans (fr_sub a2 (by decide) (by decide)) G0.2.2.2.1
  have N2 := eqN_P F2
  have S2 : SkT σ2 t := ⟨by rw [b2.1 904 (by decide)]; exact S.1, by rw [b2.1 908 (by decide)]; exact S.2⟩
  have e2 : gs σ2 856 = 0 := by rw [b2.1 856 (by decide)]; exact e856
  have V2 := env_of (TeB_P F2 H) b3 (GvA_N N2 A)
  obtain ⟨_, ⟨p1, p2, p3⟩, _⟩ := id P
  have n126 : n ≤ 126000 := by have := H.2.1; omega
  obtain ⟨σ3, c1, c2⟩ := t_55 (σ0 := σ2) (nm := nm) hf p2 (by rw [F2.2 738 (by decide)]; exact p1) (fun j w' ej => ⟨by rw [F2.2 742 (by decide)]; exact p3 j w' ej, (hN w' (List.mem_of_getElem? ej)).1, nmT_N N2 (hN w' (List.mem_of_getElem? ej)).2⟩) x.1 0 σ2 t rfl (Nat.zero_le _) (fr_refl _ _ _) S2 (by omega)
  obtain ⟨t3, S3, t3a, t3b⟩ := SyZ_t S2 c2
  obtain ⟨σ4, d1, d2⟩ := t_sayGiv (cnm := cnm) n126 b3 (gvO_N N2 A.2.1) x.2.1 0 σ3 t3 rfl (Nat.zero_le _) c2.2.2.2.1 S3 (by omega)
  obtain ⟨t4, S4, t4a, t4b⟩ := SyZ_t S3 d2
  have Z4 := SyZ_trans c2 d2
  have F4 := fr_trans F2 (SyP_of Z4).2.2.2.1
  have V4 := EnvT_Z Z4.2.2.2.1 V2
  have e4 : gs σ4 856 = 0 := by rw [Z4.2.2.2.2.1]; exact e2
  obtain ⟨σ5, f1, f2⟩ := t_exT V4 (ExO_N (eqN_P F4) X) S4 e4 (by show t4 + (exB nm con fam cnm ab ins x.2.1 e []).length < 1000000000; omega)
  have A5 : SyP (ua σ 898 f (gs σ 904)) (allB nm x.1 ++ givB nm con fam cnm 0 x.2.1 ++ exB nm con fam cnm ab ins x.2.1 e []) σ5 := by
    have := SyP_trans (SyP_trans G0 (SyP_of Z4)) (SyP_of f2)
    rw [List.nil_append] at this
    exact this
  have k898 : ∀ g ∈ [898, 902], ∀ i, ga σ5 g i = ga (ua σ 898 f (gs σ 904)) g i := fun g hg i => by
    rw [f2.2.2.2.1.2 g ((by decide : ∀ g ∈ [898, 902], g ∉ WZA) g hg), Z4.2.2.2.1.2 g ((by decide : ∀ g ∈ [898, 902], g ∉ WZA) g hg), b2.2 g ((by decide : ∀ g ∈ [898, 902], g ∉ [798, 802, 806]) g hg)]
  refine ⟨_, ?_, TmK_of S (by simp only [List.length_append]; omega) A5 (k898 898 (by simp)) (fun i => by rw [k898 902 (by simp)]; rfl)⟩
  unfold T_sayProgram_35s
  simp only
  have c1' : om_loop (T_sayProgram_55s (f : Int)) (0, σ2) = some σ3 := c1
  have d1' : om_loop T_sayGivens_2s (0, σ3) = some σ4 := d1
  rw [if_neg (by omega), a1, Option.bind_some, b1, Option.bind_some, c1', Option.bind_some]
  unfold T_sayGivens
  rw [d1', Option.bind_some, Option.bind_some, show ((f : Int)).toNat = f by omega, F4.2 730 (by decide), e730.1, if_pos (by have := e730.2; omega), show ((dd : Int)).toNat = dd by omega, F4.2 622 (by decide), e622, f1, Option.bind_some, t_endT (by omega), Option.bind_some, w32_s (by omega) (by omega)]
  rfl
end LT2
