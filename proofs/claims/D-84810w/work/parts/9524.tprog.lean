set_option maxRecDepth 100000
/-! THE TWIN SAYS A PROGRAM: all terms, one after another -/
/-- where terms lie -/
def tmAt (σ : tS) : Int → List (Nat × List Int) → Prop
  | _, [] => True
  | s, p :: l => (ga σ 898 p.1 = s ∧ ga σ 902 p.1 = (p.2.length : Int)) ∧ tmAt σ (s + (p.2.length : Int)) l
def tmB (l : List (Nat × List Int)) : List Int := (l.map Prod.snd).flatten
/-- terms are said, one after another -/
def TmsK (σ : tS) (l : List (Nat × List Int)) (σ' : tS) : Prop := SyP σ (tmB l) σ' ∧ (gs σ 904 + ((tmB l).length : Int) ≤ gs σ 908 → tmAt σ' (gs σ 904) l) ∧ ∀ i, i ∉ l.map Prod.fst → ga σ' 898 i = ga σ 898 i ∧ ga σ' 902 i = ga σ 902 i
section LTG3
variable {σ σ1 σ2 τ : tS} {n : Nat} {fn : List (List Nat × List GVs × Ty)} {mt : List (Option (Nat × Nat × Ty))} {ab : List (Option Nat)} {ins : List INs} {gv : List GVs} {nm con fam cnm : Nat → List Int} {B : Nat}
theorem SyP_nil : SyP σ [] σ := ⟨fun _ => ⟨rfl, by simp⟩, fun w => by simpa using w, ⟨Int.le_refl _, by simp⟩, fr_refl _ _ _, rfl⟩
theorem TmsK_nil : TmsK σ [] σ := ⟨SyP_nil, fun _ => trivial, fun _ _ => ⟨rfl, rfl⟩⟩
theorem TmsK_one {k : Nat} {L : List Int} (H : TmK σ k L σ1) : TmsK σ [(k, L)] σ1 := by
  have e : tmB [(k, L)] = L := by unfold tmB; simp
  unfold TmsK
  rw [e]
  refine ⟨H.1, fun w => ⟨H.2.1 w, trivial⟩, fun i hi => H.2.2 i (fun z => hi (by rw [z]; simp))⟩
theorem tmB_app {l m : List (Nat × List Int)} : tmB (l ++ m) = tmB l ++ tmB m := by unfold tmB; rw [List.map_append, List.flatten_append]
theorem tmAt_keep : ∀ {l : List (Nat × List Int)} {s : Int}, (∀ i ∈ l.map Prod.fst, ga τ 898 i = ga σ 898 i ∧ ga τ 902 i = ga σ 902 i) → tmAt σ s l → tmAt τ s l
  | [], _, _, _ => trivial
  | p :: l, s, h, ⟨⟨a1, a2⟩, b⟩ => ⟨⟨by rw [(h p.1 (by simp)).1]; exact a1, by rw [(h p.1 (by simp)).2]; exact a2⟩, tmAt_keep (fun i hi => h i (by rw [List.map_cons]; exact List.mem_cons_of_mem _ hi)) b⟩
theorem tmAt_app : ∀ {l m : List (Nat × List Int)} {s : Int}, tmAt σ s l → tmAt σ (s + ((tmB l).length : Int)) m → tmAt σ s (l ++ m)
  | [], m, s, _, b => by
    have e : s + ((tmB []).length : Int) = s := by unfold tmB; simp
    rw [e] at b
    exact b
  | p :: l, m, s, ⟨a, a'⟩, b => by
    refine ⟨a, tmAt_app a' ?_⟩
    have e : (tmB (p :: l)).length = p.2.length + (tmB l).length := by unfold tmB; rw [List.map_cons, List.flatten_cons, List.length_append]
    rw [show s + (p.2.length : Int) + ((tmB l).length : Int) = s + ((tmB (p :: l)).length : Int) by rw [e]; omega]
    exact b
theorem TmsK_app {l m : List (Nat × List Int)} (A : TmsK σ l σ1) (B : TmsK σ1 m σ2) (dj : ∀ i ∈ l.map Prod.fst, i ∉ m.map Prod.fst) : TmsK σ (l ++ m) σ2 := by
  obtain ⟨a1, a2, a3⟩ := A
  obtain ⟨b1, b2, b3⟩ := B
  have e8 : gs σ1 908 = gs σ 908 := a1.2.2.2.1.1 908 (by decide)
  refine ⟨by rw [tmB_app]; exact SyP_trans a1 b1, fun w => ?_, fun i hi => ?_⟩
  · rw [tmB_app, List.length_append] at w
    have e4 := (a1.1 (by omega)).2
    have b2' := b2 (by rw [e8, e4]; omega)
    rw [e4] at b2'
    exact tmAt_app (tmAt_keep (fun i hi => b3 i (dj i hi)) (a2 (by omega))) b2'
  · rw [List.map_append, List.mem_append, not_or] at hi
    have x := a3 i hi.1
    have y := b3 i hi.2
    exact ⟨y.1.trans x.1, y.2.trans x.2⟩
theorem TmsK_t {l : List (Nat × List Int)} {t : Nat} (S : SkT σ t) (A : TmsK σ l σ1) : ∃ t1, SkT σ1 t1 ∧ t ≤ t1 ∧ t1 ≤ t + (tmB l).length := SyP_t S A.1
/-- the head of an inst's terms -/
theorem t_sayHd (H : TeB σ n fn mt ab ins nm con fam cnm) {i t : Nat} {d : INs} (hi : i < 20) (P : InTw σ n ab.length i d) (A : GvA σ fn mt ab ins nm con fam cnm B (gvI d)) (hN : ∀ w ∈ d.2.2.1, w < 2100 ∧ nmT σ w (nm w)) (S : SkT σ t) (ht : t + (allB nm d.2.2.1).length + (givB nm con fam cnm 0 (gvI d)).length < 1000000000) : ∃ σ' t', T_sayHead (i : Int) σ = some σ' ∧ SyP σ (allB nm d.2.2.1 ++ givB nm con fam cnm 0 (gvI d)) σ' ∧ (SkT σ' t' ∧ t' ≤ t + (allB nm d.2.2.1).length + (givB nm con fam cnm 0 (gvI d)).length) ∧ EnvT σ' n (fn, mt, ab, ins, gvI d) B nm con fam cnm ∧ ∀ g ∈ [898, 902], ∀ k, ga σ' g k = ga σ g k := by
  have l8 : ab.length ≤ 8 := H.1.2.1.1.1
  obtain ⟨σ2, b1, b2, b3⟩ := t_byI hi l8 P
  have G0 : SyP σ [] σ2 := SyP_fr b2 (by decide) (by decide) (by decide) (by decide)
  have F2 := G0.2.2.2.1
  have N2 := eqN_P F2
  have S2 : SkT σ2 t := ⟨by rw [b2.1 904 (by decide)]; exact S.1, by rw [b2.1 908 (by decide)]; exact S.2⟩
  have V2 := env_of (TeB_P F2 H) b3 (GvA_N N2 A)
  obtain ⟨_, _, ⟨p1, p2, p3⟩, _⟩ := id P
  have l2 : d.2.2.1.length ≤ 2 := by rw [p2]; unfold pN; split <;> (have := P.2.1.2; omega)
  have n126 : n ≤ 126000 := by have := H.2.1; omega
  obtain ⟨σ3, c1, c2⟩ := t_h7 (σ0 := σ2) (nm := nm) hi l2 (by rw [F2.2 702 (by decide)]; exact p1) (fun j w' ej => ⟨by rw [F2.2 706 (by decide)]; exact p3 j w' ej, (hN w' (List.mem_of_getElem? ej)).1, nmT_N N2 (hN w' (List.mem_of_getElem? ej)).2⟩) d.2.2.1 0 σ2 t rfl (Nat.zero_le _) (fr_refl _ _ _) S2 (by omega)
  obtain ⟨t3, S3, t3a, t3b⟩ := SyZ_t S2 c2
  obtain ⟨σ4, d1, d2⟩ := t_sayGiv (cnm := cnm) n126 b3 (gvO_N N2 A.2.1) (gvI d) 0 σ3 t3 rfl (Nat.zero_le _) c2.2.2.2.1 S3 (by omega)
  obtain ⟨t4, S4, t4a, t4b⟩ := SyZ_t S3 d2
  have Z4 := SyZ_trans c2 d2
  have c1' : om_loop (T_sayHead_7s (i : Int)) (0, σ2) = some σ3 := c1
  have d1' : om_loop T_sayGivens_2s (0, σ3) = some σ4 := d1
  refine ⟨σ4, t4, ?_, ?_, ⟨S4, by omega⟩, EnvT_Z Z4.2.2.2.1 V2, fun g hg k => ?_⟩
  · unfold T_sayHead T_sayGivens
    rw [b1, Option.bind_some, c1', Option.bind_some, d1', Option.bind_some, Option.bind_some]
  · have := SyP_trans G0 (SyP_of Z4)
    rw [List.nil_append] at this
    exact this
  · rw [Z4.2.2.2.1.2 g ((by decide : ∀ g ∈ [898, 902], g ∉ WZA) g hg), b2.2 g ((by decide : ∀ g ∈ [898, 902], g ∉ [778, 798, 802, 806]) g hg)]
/-- the term of a line -/
def lnTB (nm con fam cnm : Nat → List Int) (ab : List (Option Nat)) (ins : List INs) (d : INs) (e : Et) : List Int := fnB nm con fam cnm ab ins (gvI d) d.2.2.1 e
theorem t_lterm (H : TeB σ n fn mt ab ins nm con fam cnm) {i m v t mm : Nat} {d : INs} {e : Et} (hi : i < 20) (P : InTw σ n ab.length i d) (A : GvA σ fn mt ab ins nm con fam cnm B (gvI d)) (hN : ∀ w ∈ d.2.2.1, w < 2100 ∧ nmT σ w (nm w)) (e678 : ga σ 678 d.1 = (mm : Int)) (hm : m < mm ∧ mm ≤ 4) (e726 : ga σ 726 (4 * i + m) = (v : Int)) (X : ExO σ n (fn, mt, ab, ins, gvI d) nm con fam e v) (S : SkT σ t) (e856 : gs σ 856 = 0) (ht : t + (lnTB nm con fam cnm ab ins d e).length < 1000000000) : ∃ σ', T_sayProgram_127s (i : Int) ((m : Int), σ) = some (.inl (((m + 1 : Nat) : Int), σ')) ∧ TmK σ (24 + 4 * i + m) (lnTB nm con fam cnm ab ins d e) σ' := by
  unfold lnTB fnB at ht ⊢
  simp only [List.length_append] at ht
  have l8 : ab.length ≤ 8 := H.1.2.1.1.1
  obtain ⟨⟨p1, p1'⟩, _⟩ := id P
  obtain ⟨a1, a2⟩ := t_begT (σ := σ) (k := 24 + 4 * i + m) (by omega)
  have FA : fr WPS WPA σ (ua σ 898 (24 + 4 * i + m) (gs σ 904)) := fr_sub a2 (by decide) (by decide)
  have NA := eqN_P FA
  have PA : InTw (ua σ 898 (24 + 4 * i + m) (gs σ 904)) n ab.length i d := InTw_keep (fun a ha i => a2.2 a ((by decide : ∀ a ∈ [694, 698, 702, 706, 710, 714, 718, 722], a ∉ [898]) a ha) i) (tx_N NA) P
  obtain ⟨σ2, t2, b1, b2, ⟨b3, b4⟩, V2, b6⟩ := t_sayHd (TeB_P FA H) hi PA (GvA_N NA A) (fun w hw => ⟨(hN w hw).1, nmT_N NA (hN w hw).2⟩) (t := t) ⟨S.1, S.2⟩ (by omega)
  have F2 := fr_trans FA b2.2.2.2.1
  have e2 : gs σ2 856 = 0 := by rw [b2.2.2.2.2]; exact e856
  obtain ⟨σ5, f1, f2⟩ := t_exT V2 (ExO_N (eqN_P F2) X) b3 e2 (by show _ + (exB nm con fam cnm ab ins (gvI d) e []).length < 1000000000; omega)
  have A5 := SyP_trans b2 (SyP_of f2)
  have k898 : ∀ g ∈ [898, 902], ∀ k, ga σ5 g k = ga (ua σ 898 (24 + 4 * i + m) (gs σ 904)) g k := fun g hg k => by
    rw [f2.2.2.2.1.2 g ((by decide : ∀ g ∈ [898, 902], g ∉ WZA) g hg), b6 g hg]
  have ix : w32 (w32 (24 + w32 (4 * (i : Int))) + (m : Int)) = ((24 + 4 * i + m : Nat) : Int) := by
    rw [w32_s (x := 4 * (i : Int)) (by omega) (by omega), w32_s (x := 24 + 4 * (i : Int)) (by omega) (by omega), w32_s (by omega) (by omega)]
    omega
  have ix2 : w32 (w32 (4 * (i : Int)) + (m : Int)) = ((4 * i + m : Nat) : Int) := by
    rw [w32_s (x := 4 * (i : Int)) (by omega) (by omega), w32_s (by omega) (by omega)]
    omega
  refine ⟨_, ?_, TmK_of S (by simp only [List.length_append]; omega) A5 (k898 898 (by simp)) (fun k => by rw [k898 902 (by simp)]; rfl)⟩
  unfold T_sayProgram_127s
  simp only
  rw [show ((i : Int)).toNat = i by omega, p1, if_pos (by omega), show ((d.1 : Int)).toNat = d.1 by omega, e678, if_neg (by omega), ix, a1, Option.bind_some, b1, Option.bind_some, ix2, if_pos (by omega), show (((4 * i + m : Nat) : Int)).toNat = 4 * i + m by omega, F2.2 726 (by decide), e726, f1, Option.bind_some, t_endT (by omega), Option.bind_some, w32_s (x := (m : Int) + 1) (by omega) (by omega)]
  rfl
/-- the terms of an inst's lines -/
def lnsB (nm con fam cnm : Nat → List Int) (ab : List (Option Nat)) (ins : List INs) (d : INs) (i : Nat) : Nat → List Et → List (Nat × List Int)
  | _, [] => []
  | m, e :: l => (24 + 4 * i + m, lnTB nm con fam cnm ab ins d e) :: lnsB nm con fam cnm ab ins d i (m + 1) l
theorem lnsB_k {d : INs} {i k : Nat} : ∀ {l : List Et} {m : Nat}, k ∈ (lnsB nm con fam cnm ab ins d i m l).map Prod.fst → 24 + 4 * i + m ≤ k ∧ k < 24 + 4 * i + m + l.length
  | [], m, h => by cases h
  | e :: l, m, h => by
    rcases List.mem_cons.mp h with h | h
    · rw [List.length_cons]
      have h' : k = 24 + 4 * i + m := h
      omega
    · have := lnsB_k h
      rw [List.length_cons]
      omega
theorem t_lloop (H : TeB σ n fn mt ab ins nm con fam cnm) {i : Nat} {d : INs} {es : List Et} (hi : i < 20) (P : InTw σ n ab.length i d) (A : GvA σ fn mt ab ins nm con fam cnm B (gvI d)) (hN : ∀ w ∈ d.2.2.1, w < 2100 ∧ nmT σ w (nm w)) (e678 : ga σ 678 d.1 = (es.length : Int)) (h4 : es.length ≤ 4) (hX : ∀ (m : Nat) (e : Et), es[m]? = some e → ∃ v : Nat, ga σ 726 (4 * i + m) = (v : Int) ∧ ExO σ n (fn, mt, ab, ins, gvI d) nm con fam e v) : ∀ (l : List Et) (m : Nat) (σ1 : tS) (t : Nat), es.drop m = l → m ≤ es.length → fr WPS WPA σ σ1 → SkT σ1 t → gs σ1 856 = 0 → t + (tmB (lnsB nm con fam cnm ab ins d i m l)).length < 1000000000 → ∃ σ', om_loop (T_sayProgram_127s (i : Int)) ((m : Int), σ1) = some σ' ∧ TmsK σ1 (lnsB nm con fam cnm ab ins d i m l) σ'
  | [], m, σ1, t, el, hm, F, S, e856, ht => by
    have kl : es.length ≤ m := List.drop_eq_nil_iff.mp el
    have l8 : ab.length ≤ 8 := H.1.2.1.1.1
    obtain ⟨⟨p1, p1'⟩, _⟩ := id P
    refine ⟨σ1, om_loop_out ?_, TmsK_nil⟩
    unfold T_sayProgram_127s
    simp only
    rw [show ((i : Int)).toNat = i by omega, F.2 694 (by decide), p1, if_pos (by omega), show ((d.1 : Int)).toNat = d.1 by omega, F.2 678 (by decide), e678, if_pos (by omega)]
  | e :: l, m, σ1, t, el, hm, F, S, e856, ht => by
    have kl : m < es.length := Classical.byContradiction (fun z => by
      rw [List.drop_eq_nil_iff.mpr (by omega)] at el
      cases el)
    have ek := List.drop_eq_getElem_cons kl
    rw [el] at ek
    injection ek with ek1 ek2
    obtain ⟨v, v1, v2⟩ := hX m e (by rw [List.getElem?_eq_getElem kl, ek1])
    have N1 := eqN_P F
    have eB : tmB (lnsB nm con fam cnm ab ins d i m (e :: l)) = lnTB nm con fam cnm ab ins d e ++ tmB (lnsB nm con fam cnm ab ins d i (m + 1) l) := by
      unfold tmB
      show (((24 + 4 * i + m, lnTB nm con fam cnm ab ins d e) :: lnsB nm con fam cnm ab ins d i (m + 1) l).map Prod.snd).flatten = _
      rw [List.map_cons, List.flatten_cons]
    rw [eB, List.length_append] at ht
    obtain ⟨σ2, a1, a2⟩ := t_lterm (TeB_P F H) (mm := es.length) hi (InTw_keep (fun a ha i => F.2 a ((by decide : ∀ a ∈ [694, 698, 702, 706, 710, 714, 718, 722], a ∉ WPA) a ha) i) (tx_N N1) P) (GvA_N N1 A) (fun w hw => ⟨(hN w hw).1, nmT_N N1 (hN w hw).2⟩) (by rw [F.2 678 (by decide)]; exact e678) ⟨kl, h4⟩ (by rw [F.2 726 (by decide)]; exact v1) (ExO_N N1 v2) S e856 (by omega)
    have K2 := TmsK_one a2
    obtain ⟨t2, S2, t2a, t2b⟩ := SyP_t S a2.1
    have F2 := fr_trans F a2.1.2.2.2.1
    have e2 : gs σ2 856 = 0 := by rw [a2.1.2.2.2.2]; exact e856
    obtain ⟨σ3, b1, b2⟩ := t_lloop H hi P A hN e678 h4 hX l (m + 1) σ2 t2 ek2.symm (by omega) F2 S2 e2 (by omega)
    refine ⟨σ3, by rw [om_loop_in a1]; exact b1, ?_⟩
    refine TmsK_app K2 b2 (fun k hk hk2 => ?_)
    have h1 : k = 24 + 4 * i + m := by simpa using hk
    have := lnsB_k hk2
    omega
end LTG3
