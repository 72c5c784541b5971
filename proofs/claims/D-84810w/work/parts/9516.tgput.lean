set_option maxRecDepth 100000
/-! THE TWIN SAYS EXS: what may be written; what is put for a given of a name (all types are there) -/
abbrev WZS : List Nat := [856, 880, 884, 888] ++ WYS
abbrev WZA : List Nat := 850 :: WYA
/-- saying, with exs -/
def SyZ (σ : tS) (L : List Int) (σ' : tS) : Prop := (gs σ 904 + (L.length : Int) ≤ gs σ 908 → svw σ' = svL L (svw σ) ∧ gs σ' 904 = gs σ 904 + (L.length : Int)) ∧ (gs σ 908 < gs σ 904 + (L.length : Int) → gs σ 908 < gs σ' 904) ∧ (gs σ 904 ≤ gs σ' 904 ∧ gs σ' 904 ≤ gs σ 904 + (L.length : Int)) ∧ fr WZS WZA σ σ' ∧ gs σ' 856 = gs σ 856 ∧ ∀ i : Nat, (i : Int) < gs σ 856 → ga σ' 850 i = ga σ 850 i
section LSZ
variable {σ σ1 σ2 τ : tS} {t n n' : Nat} {E : JE} {ab : List (Option Nat)} {ins : List INs} {gv : List GVs} {B : Nat} {nm con fam cnm : Nat → List Int}
theorem SyZ_of {L : List Int} (A : SyW σ L σ1) : SyZ σ L σ1 := by
  obtain ⟨a1, a2, a3, a4⟩ := A
  exact ⟨a1, a2, a3, fr_sub a4 (fun f h => List.mem_append_right _ h) (fun f h => List.mem_cons_of_mem _ h), a4.1 856 (by decide), fun i _ => a4.2 850 (by decide) i⟩
theorem SyZ_trans {L M : List Int} (A : SyZ σ L σ1) (B : SyZ σ1 M σ2) : SyZ σ (L ++ M) σ2 := by
  obtain ⟨a1, a2, ⟨a3, a4⟩, a5, a6, a7⟩ := A
  obtain ⟨b1, b2, ⟨b3, b4⟩, b5, b6, b7⟩ := B
  have e : gs σ1 908 = gs σ 908 := a5.1 908 (by decide)
  rw [e] at b1 b2
  have l : ((L ++ M).length : Int) = (L.length : Int) + (M.length : Int) := by rw [List.length_append]; omega
  unfold SyZ
  rw [l]
  refine ⟨fun w => ?_, fun w => ?_, ⟨by omega, by omega⟩, fr_trans a5 b5, by rw [b6, a6], fun i hi => by rw [b7 i (by rw [a6]; exact hi), a7 i hi]⟩
  · obtain ⟨c1, c2⟩ := a1 (by omega)
    obtain ⟨d1, d2⟩ := b1 (by omega)
    exact ⟨by rw [d1, c1, svL_app], by omega⟩
  · by_cases v : gs σ 908 < gs σ 904 + (L.length : Int)
    · have := a2 v
      omega
    · have := (a1 (by omega)).2
      exact b2 (by omega)
theorem SyZ_t {L : List Int} (S : SkT σ t) (A : SyZ σ L σ1) : ∃ t1, SkT σ1 t1 ∧ t ≤ t1 ∧ t1 ≤ t + L.length := by
  obtain ⟨_, _, ⟨a3, a4⟩, a5, _⟩ := A
  have e := S.1
  refine ⟨(gs σ1 904).toNat, ⟨by omega, by rw [a5.1 908 (by decide)]; exact S.2⟩, by omega, by omega⟩
theorem SyZ_skip {L : List Int} (h : ¬ gs σ 904 ≤ gs σ 908) : SyZ σ L σ := ⟨fun w => by omega, fun _ => by omega, ⟨Int.le_refl _, by omega⟩, fr_refl _ _ _, rfl, fun _ _ => rfl⟩
/-- nothing is said -/
theorem SyZ_no (F : fr WZS WZA σ σ1) (s : svw σ1 = svw σ) (e1 : gs σ1 856 = gs σ 856) (e2 : ∀ i : Nat, (i : Int) < gs σ 856 → ga σ1 850 i = ga σ 850 i) : SyZ σ [] σ1 := by
  have e : gs σ1 904 = gs σ 904 := congrArg (fun v : SV => v.1) s
  exact ⟨fun _ => ⟨s, by rw [e]; simp⟩, fun w => by rw [e]; simpa using w, ⟨by omega, by rw [e]; simp⟩, F, e1, e2⟩
theorem sz_b (S : SkT σ t) (ht : t < 1999999999) (c : Int) : T_say c σ = some (say1 σ c) ∧ SyZ σ [c] (say1 σ c) ∧ SkT (say1 σ c) (t + 1) := ⟨(sw_b S ht c).1, SyZ_of (sw_b S ht c).2.1, (sw_b S ht c).2.2⟩
/-- what stays -/
theorem tx_Z (F : fr WZS WZA σ τ) : tx σ n τ n := tx_same (fun g hg i => F.2 g ((by decide : ∀ g ∈ TYA, g ∉ WZA) g hg) i)
theorem tyT_Z {T : Ty} {x : Int} (F : fr WZS WZA σ τ) (H : tyT σ n T x) : tyT τ n T x := tyT_mono (tx_Z F) H
theorem nmT_Z {k : Nat} {w : List Int} (F : fr WZS WZA σ τ) (H : nmT σ k w) : nmT τ k w := ⟨by rw [F.2 494 (by decide)]; exact H.1, H.2.1, fun i x e => by rw [F.2 490 (by decide)]; exact H.2.2 i x e⟩
theorem hdO_Z {k w : Nat} (F : fr WZS WZA σ τ) (H : hdO nm con fam σ k w) : hdO nm con fam τ k w := by
  refine ⟨fun e => ⟨(H.1 e).1, nmT_Z F (H.1 e).2⟩, fun e => ⟨(H.2.1 e).1, nmT_Z F (H.2.1 e).2⟩, fun e => ?_⟩
  obtain ⟨h1, v, h2, h3, h4⟩ := H.2.2 e
  exact ⟨h1, v, by rw [F.2 674 (by decide)]; exact h2, h3, nmT_Z F h4⟩
theorem tOn_Z (F : fr WZS WZA σ τ) : ∀ {T : Ty}, tOn nm con fam σ T → tOn nm con fam τ T
  | .leaf, _ => trivial
  | .inner _ _ _ _ _, ⟨a, d, e⟩ => ⟨hdO_Z F a, tOn_Z F d, tOn_Z F e⟩
theorem GTy_Z {T : Ty} (F : fr WZS WZA σ τ) (H : GTy σ ins nm con fam T) : GTy τ ins nm con fam T := ⟨H.1, H.2.1, H.2.2.1, tOn_Z F H.2.2.2⟩
theorem InO_Z (F : fr WZS WZA σ τ) (H : InO σ nm con fam ins gv B) : InO τ nm con fam ins gv B := ⟨H.1, H.2.1, fun d hd => tOn_Z F (H.2.2.1 d hd), fun g hg h => tOn_Z F (H.2.2.2 g hg h)⟩
theorem clN_Z {c : Nat} (F : fr WZS WZA σ τ) (H : clN σ cnm c) : clN τ cnm c := by
  obtain ⟨h1, v, h2, h3, h4⟩ := H
  exact ⟨h1, v, by rw [F.2 662 (by decide)]; exact h2, h3, nmT_Z F h4⟩
theorem QN_Z {X : Ty} (F : fr WZS WZA σ τ) (H : QN σ n X) : QN τ n X := by
  obtain ⟨t, c⟩ := H
  exact ⟨t, tyT_Z F c⟩
theorem TyS_Z (F : fr WZS WZA σ τ) (H : TyS σ n) : TyS τ n := TyS_same (F.1 532 (by decide)) (fun g hg i => F.2 g ((by decide : ∀ g ∈ TYA, g ∉ WZA) g hg) i) H
theorem JTE_Z (F : fr WZS WZA σ τ) (H : JTE σ n E) : JTE τ n E := by
  have J0 : JT0 τ n E := JT0_keep (fun f hf => F.1 f ((by decide : ∀ f ∈ JTSc, f ∉ WZS) f hf)) (fun f hf i => F.2 f ((by decide : ∀ f ∈ JTAr, f ∉ WZA) f hf) i) (tx_Z F) ⟨H.1.1, H.2⟩
  exact ⟨⟨J0.1, GVT_f2 (F.1 792 (by decide)) (fun g hg i => F.2 g ((by decide : ∀ g ∈ [798, 802, 806], g ∉ WZA) g hg) i) (tx_Z F) H.1.2⟩, J0.2⟩
theorem KW_J (S : TyS σ n) (H : JTE σ n E) : KW σ n E.2.2.1 E.2.2.2.1 E.2.2.2.2 := ⟨S, H.1.1, H.1.2⟩
theorem frN_Z (F : fr WZS WZA σ τ) : frN σ τ := ⟨trivial, fun f hf i => F.2 f ((by decide : ∀ f ∈ NDA, f ∉ WZA) f hf) i⟩
theorem nmTw_Z {lb : XL} {hi v : Nat} (F : fr WZS WZA σ τ) (H : nmTw σ n lb hi v) : nmTw τ n lb hi v := nmT_keepN (frN_Z F) (tx_Z F) H
/-- the sink is left alone -/
theorem svw_fr {fs as : List Nat} (F : fr fs as σ τ) (h1 : ∀ f ∈ [904, 908, 1111, 1112, 1116], f ∉ fs) (h2 : 894 ∉ as) : svw τ = svw σ := by
  unfold svw
  rw [F.1 904 (h1 _ (by simp)), F.1 908 (h1 _ (by simp)), F.1 1111 (h1 _ (by simp)), F.1 1112 (h1 _ (by simp)), F.1 1116 (h1 _ (by simp)), show (fun k => ga τ 894 k) = (fun k => ga σ 894 k) from funext (fun k => F.2 894 h2 k)]
theorem SyZ_fr {fs as : List Nat} (F : fr fs as σ τ) (h1 : ∀ f ∈ fs, f ∈ WZS) (h2 : ∀ f ∈ as, f ∈ WZA) (h3 : ∀ f ∈ [856, 904, 908, 1111, 1112, 1116], f ∉ fs) (h4 : 894 ∉ as ∧ 850 ∉ as) : SyZ σ [] τ := SyZ_no (fr_sub F h1 h2) (svw_fr F (fun f hf => h3 f (List.mem_cons_of_mem _ hf)) h4.1) (F.1 856 (h3 _ (by simp))) (fun i _ => F.2 850 h4.2 i)
/-- what is put: a function's given -/
theorem t_gput1 (J : JOk E B) (S : TyS σ n) (JT : JTE σ n E) {lb : XL} {hi v : Nat} (v84 : v < 4200 ∧ hi ≤ 4200) (H : nmTw σ n lb hi v) (k1 : lb.2.1 = 1) {f : List Nat × List GVs × Ty} (ef : E.1[lb.2.2.1]? = some f) (hok : ∀ a ∈ lb.2.2.2.2.2, tyOk E.2.2.2.1 a.1 ∧ tsz a.1 ≤ 2700) (hl : lb.2.2.2.2.2.length = f.1.length) {j : Nat} {g : GVs} (eg : f.2.1[j]? = some g) (R : n + 9000 < 126000) (hQ : 100 ≤ g.1 → QN σ n (tnd 2 (g.1 - 100) ((lkT (f.1.zip (lb.2.2.2.2.2.map Prod.fst)) g.2.1).getD .leaf) .leaf) ∧ QN σ n (sbT (f.1.zip (lb.2.2.2.2.2.map Prod.fst)) g.2.2)) : ∃ σ', T_givenPut (v : Int) (lb.2.2.2.1 : Int) (j : Int) σ = some σ' ∧ SyZ σ [] σ' ∧ gs σ' 880 = (g.1 : Int) ∧ (g.1 < 100 → tyT σ' n ((lkT (f.1.zip (lb.2.2.2.2.2.map Prod.fst)) g.2.1).getD .leaf) (gs σ' 884)) ∧ (100 ≤ g.1 → tyT σ' n (tnd 2 (g.1 - 100) ((lkT (f.1.zip (lb.2.2.2.2.2.map Prod.fst)) g.2.1).getD .leaf) .leaf) (gs σ' 884) ∧ tyT σ' n (sbT (f.1.zip (lb.2.2.2.2.2.map Prod.fst)) g.2.2) (gs σ' 888)) ∧ ∃ Tf, lkT (f.1.zip (lb.2.2.2.2.2.map Prod.fst)) g.2.1 = some Tf ∧ Tf ∈ lb.2.2.2.2.2.map Prod.fst := by
  obtain ⟨wa, wb, wab, w1, w2, _⟩ := id JT.2.2.2.1
  have eS : jnS E wa wb lb.2.1 lb.2.2.1 = f.1 := by
    unfold jnS
    rw [if_pos k1, ef]; rfl
  have il := (List.getElem?_eq_some_iff.mp ef).1
  obtain ⟨⟨b1, b2, b3⟩, ⟨b4, b5, b6⟩, b7⟩ := JT.2.1.2 _ f ef
  obtain ⟨σ2, p1, F2, PT⟩ := t_putAts JT v84 H (by omega) ⟨w1, w2⟩ ⟨fun _ => il, fun z => by omega⟩ (by rw [eS]; exact hl) (by rw [eS]; exact b2)
  rw [eS] at PT
  have fm := List.mem_of_getElem? ef
  have gm := List.mem_of_getElem? eg
  obtain ⟨_, _, Jg⟩ := J.2.1 f fm
  obtain ⟨c1, c2, ⟨k, c3, c4⟩, c5⟩ := b6 j g eg
  have jl := (List.getElem?_eq_some_iff.mp eg).1
  have i24 : lb.2.2.1 < 24 := by have := JT.2.1.1; omega
  obtain ⟨Tf, t1, t2, t3⟩ := zip_lk (ns := f.1) (ts := lb.2.2.2.2.2.map Prod.fst) (by rw [List.length_map]; exact hl) c4
  rw [t2] at hQ ⊢
  have hQ' : 100 ≤ g.1 → QN σ n (tnd 2 (g.1 - 100) Tf .leaf) ∧ QN σ n (sbT (f.1.zip (lb.2.2.2.2.2.map Prod.fst)) g.2.2) := hQ
  have okTf : tyOk E.2.2.2.1 Tf ∧ tsz Tf ≤ 2700 := by
    rw [List.getElem?_map] at t1
    cases qa : lb.2.2.2.2.2[k]? with
    | none => rw [qa] at t1; cases t1
    | some a =>
      rw [qa] at t1
      rw [← Option.some.inj t1]
      exact hok a (List.mem_of_getElem? qa)
  have X2 : tx σ n σ2 n := tx_same (fun g hg i => F2.2 g ((by decide : ∀ g ∈ TYA, g ∉ [830, 834]) g hg) i)
  have S2 : TyS σ2 n := TyS_same (F2.1 532 (by decide)) (fun g hg i => F2.2 g ((by decide : ∀ g ∈ TYA, g ∉ [830, 834]) g hg) i) S
  have cTf : tyT σ2 n Tf (ga σ2 834 k) := by
    have el : (f.1.zip (lb.2.2.2.2.2.map Prod.fst))[k]? = some (f.1[k], Tf) := List.getElem?_zip_eq_some.mpr ⟨List.getElem?_eq_getElem t3, t1⟩
    exact (PT.2.2 k _ el).2
  obtain ⟨ix, eix⟩ : ∃ ix : Nat, ix = 4 * lb.2.2.1 + j := ⟨_, rfl⟩
  have i4 : w32 (w32 (4 * (lb.2.2.1 : Int)) + (j : Int)) = (ix : Int) := by rw [w32_s (x := 4 * (lb.2.2.1 : Int)) (by omega) (by omega), w32_s (by omega) (by omega)]; omega
  have ixN : ((ix : Int)).toNat = ix := by omega
  obtain ⟨_, nm2, nm3⟩ := nmT_638 H (by omega)
  have nm3' : ga σ 638 lb.2.2.2.1 = 1 := by
    rcases nm3 with y | y | y
    · exact y.2
    · omega
    · omega
  have nm1 : lb.2.2.2.1 < 2100 := by obtain ⟨k', _, _, _, y4⟩ := H.1; exact y4
  have nmN : ((lb.2.2.2.1 : Int)).toNat = lb.2.2.2.1 := by omega
  have e750 : ga σ2 750 ix = (g.1 : Int) := by rw [F2.2 750 (by decide), eix]; exact c1
  have e754 : ga σ2 754 ix = (k : Int) := by rw [F2.2 754 (by decide), eix]; exact c3
  have e638 : ga σ2 638 lb.2.2.2.1 = 1 := by rw [F2.2 638 (by decide)]; exact nm3'
  generalize eσ3 : us (us (us σ2 880 (g.1 : Int)) 884 (ga σ2 834 k)) 888 (-1) = σ3
  have gp : T_givenPut (v : Int) (lb.2.2.2.1 : Int) (j : Int) σ = (if (g.1 : Int) < 100 then some σ3 else T_givenPut_96 (j : Int) (lb.2.2.1 : Int) σ3) := by
    unfold T_givenPut
    rw [if_pos (by omega), p1, Option.bind_some, if_pos (by omega), nmN, e638, if_pos (by decide), nm2, i4, ixN, e754, if_pos (by have : k < f.1.length := t3; omega), e750, show ((k : Int)).toNat = k by omega, eσ3]
  have F3 : fr [880, 884, 888] [] σ2 σ3 := by
    rw [← eσ3]
    exact fr_trans (fr_trans (fr_sub fr_one (by decide) (by decide)) (fr_sub fr_one (by decide) (by decide))) (fr_sub fr_one (by decide) (by decide))
  have S3 : TyS σ3 n := by rw [← eσ3]; exact TyS_u (TyS_u (TyS_u S2 (by decide)) (by decide)) (by decide)
  have X3 : tx σ2 n σ3 n := by rw [← eσ3]; exact ⟨Nat.le_refl _, fun _ _ _ _ _ => rfl⟩
  have g880 : gs σ3 880 = (g.1 : Int) := by rw [← eσ3, gs_us, if_neg (by decide), gs_us, if_neg (by decide), gs_us, if_pos rfl]
  have g884 : gs σ3 884 = ga σ2 834 k := by rw [← eσ3, gs_us, if_neg (by decide), gs_us, if_pos rfl]
  have Y3 : SyZ σ [] σ3 := SyZ_trans (L := []) (M := []) (SyZ_fr F2 (by decide) (by decide) (by decide) (by decide)) (SyZ_fr F3 (by decide) (by decide) (by decide) (by decide))
  have mem : Tf ∈ lb.2.2.2.2.2.map Prod.fst := List.mem_of_getElem? t1
  rw [gp]
  by_cases q : g.1 < 100
  · rw [if_pos (by omega)]
    exact ⟨σ3, rfl, Y3, g880, fun _ => by rw [g884]; exact tyT_mono X3 cTf, fun z => by omega, Tf, rfl, mem⟩
  · rw [if_neg (by omega)]
    obtain ⟨q1, q2⟩ := hQ' (by omega)
    obtain ⟨_, d2⟩ := Jg g gm
    obtain ⟨d3, d4, d5, d6, d7⟩ := d2 (by omega)
    have hθ : ∀ p ∈ f.1.zip (lb.2.2.2.2.2.map Prod.fst), tyOk E.2.2.2.1 p.2 ∧ tsz p.2 ≤ 2700 := fun p hp => by
      obtain ⟨a, x1, x2⟩ := List.mem_map.mp (List.of_mem_zip hp).2
      rw [← x2]; exact hok a x1
    have wS : wfS (f.1.zip (lb.2.2.2.2.2.map Prod.fst)) := fun p hp => ⟨(hθ p hp).1.2.1, (hθ p hp).1.1⟩
    have PT3 : PutT σ3 n (f.1.zip (lb.2.2.2.2.2.map Prod.fst)) := by
      refine ⟨by rw [F3.1 836 (by decide)]; exact PT.1, PT.2.1, fun i p e => ?_⟩
      rw [F3.2 830 (by decide), F3.2 834 (by decide)]
      exact ⟨(PT.2.2 i p e).1, tyT_mono X3 (PT.2.2 i p e).2⟩
    have c758 : tyT σ3 n g.2.2 (ga σ3 758 ix) := by
      rw [F3.2 758 (by decide), F2.2 758 (by decide), eix]
      exact tyT_mono (tx_trans X2 X3) c5
    obtain ⟨tt, σ4, n4, h1, h2, h3, h4, h5, h6, h7, h8, h9⟩ := t_put wS S3 PT3 c758 d6 (by omega)
    have h1' : T_put (ga σ3 758 ix) σ3 = some (tt, σ4) := h1
    obtain ⟨e4, en4⟩ := h8 (QN_Z Y3.2.2.2.1 q2)
    subst e4
    rw [en4] at h5
    generalize eσ5 : us σ4 888 tt = σ5
    have F5 : fr [888] [] σ4 σ5 := by rw [← eσ5]; exact fr_one
    have Y5 : SyZ σ4 [] σ5 := SyZ_fr F5 (by decide) (by decide) (by decide) (by decide)
    have Y05 : SyZ σ [] σ5 := SyZ_trans (L := []) (M := []) Y3 Y5
    have X5 : tx σ4 n σ5 n := by rw [← eσ5]; exact ⟨Nat.le_refl _, fun _ _ _ _ _ => rfl⟩
    have S5 : TyS σ5 n := by rw [← eσ5]; exact TyS_u S3 (by decide)
    have cTf5 : tyT σ5 n Tf (ga σ2 834 k) := tyT_mono X5 (tyT_mono X3 cTf)
    obtain ⟨ft, σ6, n6, r1, r2, r3, r6, r5, r4, _, r7⟩ := t_get (k := 2) (w := g.1 - 100) (r := .leaf) (u := -1) S5 (by decide) cTf5 rfl (by omega) (.inr (.inr (.inl ⟨rfl, fun z => okTf.1.1 ((tyT_0 cTf5).mpr z), rfl⟩)))
    obtain ⟨e6, en6⟩ := r7 (QN_Z Y05.2.2.2.1 q1)
    subst e6
    rw [en6] at r5
    have e96 : T_givenPut_96 (j : Int) (lb.2.2.1 : Int) σ4 = some (us σ6 884 ft) := by
      unfold T_givenPut_96
      rw [i4, if_pos (by omega), ixN, h1', Option.bind_some]
      simp only
      rw [eσ5]
      have : w32 (gs σ4 880 - 100) = ((g.1 - 100 : Nat) : Int) := by
        rw [g880, w32_s (by omega) (by omega)]; omega
      have r1' : T_aType 2 ((g.1 - 100 : Nat) : Int) (ga σ2 834 k) (-1) σ6 = some (ft, σ6) := r1
      rw [this, g884, r1', Option.bind_some]
    refine ⟨us σ6 884 ft, e96, SyZ_trans (L := []) (M := []) Y05 (SyZ_fr (fr_one (f := 884) (x := ft)) (by decide) (by decide) (by decide) (by decide)), ?_, fun z => by omega, fun _ => ⟨?_, ?_⟩, Tf, rfl, mem⟩
    · rw [gs_us, if_neg (by decide), F5.1 880 (by decide)]; exact g880
    · rw [gs_us, if_pos rfl]
      exact tyT_mono (σ := σ6) (n := n) (τ := us σ6 884 ft) ⟨Nat.le_refl _, fun _ _ _ _ _ => rfl⟩ r5
    · have e888 : gs (us σ6 884 ft) 888 = tt := by rw [gs_us, if_neg (by decide), ← eσ5, gs_us, if_pos rfl]
      rw [e888]
      exact tyT_mono (σ := σ6) (n := n) (τ := us σ6 884 ft) ⟨Nat.le_refl _, fun _ _ _ _ _ => rfl⟩ (tyT_mono X5 h5)
/-- what is put: a method's -/
theorem t_gput2 (JT : JTE σ n E) {lb : XL} {hi v : Nat} (v84 : v < 4200 ∧ hi ≤ 4200) (H : nmTw σ n lb hi v) (k2 : lb.2.1 = 2) {m : Nat × Nat × Ty} (em : E.2.1[lb.2.2.1]? = some (some m)) {T : Ty} {pa : Nat} (ea : lb.2.2.2.2.2 = [(T, pa)]) : ∃ σ', T_givenPut (v : Int) (lb.2.2.2.1 : Int) 0 σ = some σ' ∧ SyZ σ [] σ' ∧ gs σ' 880 = (m.1 : Int) ∧ tyT σ' n T (gs σ' 884) := by
  obtain ⟨wa, wb, wab, w1, w2, _⟩ := id JT.2.2.2.1
  have eS : jnS E wa wb lb.2.1 lb.2.2.1 = [m.2.1] := by
    unfold jnS
    rw [if_neg (by omega), if_pos k2, em]; rfl
  have il := (List.getElem?_eq_some_iff.mp em).1
  have i32 := JT.2.2.1.1
  obtain ⟨m1, m2, m3⟩ := JT.2.2.1.2 _ m em
  obtain ⟨σ2, p1, F2, PT⟩ := t_putAts JT v84 H (by omega) ⟨w1, w2⟩ ⟨fun z => by omega, fun _ => ⟨m, em⟩⟩ (by rw [eS, ea]; rfl) (by rw [eS]; show 1 ≤ 4; decide)
  rw [eS, ea] at PT
  have cT : tyT σ2 n T (ga σ2 834 0) := (PT.2.2 0 (m.2.1, T) rfl).2
  obtain ⟨_, nm2, nm3⟩ := nmT_638 H (by omega)
  have nm3' : ga σ 638 lb.2.2.2.1 = 2 := by
    rcases nm3 with y | y | y
    · omega
    · exact y.2
    · omega
  have nm1 : lb.2.2.2.1 < 2100 := by obtain ⟨k', _, _, _, y4⟩ := H.1; exact y4
  have e638 : ga σ2 638 lb.2.2.2.1 = 2 := by rw [F2.2 638 (by decide)]; exact nm3'
  have d4 : div32 (lb.2.2.1 : Int) 4 = ((lb.2.2.1 / 4 : Nat) : Int) := by
    unfold div32
    have a1 : (Int32.ofInt (lb.2.2.1 : Int)).toInt = (lb.2.2.1 : Int) := w32_s (by omega) (by omega)
    have a2 : (Int32.ofInt 4).toInt = 4 := by decide
    rw [Int32.toInt_div, a1, a2, Int.tdiv_eq_ediv_of_nonneg (by omega), bmod32 (by omega) (by omega)]
    omega
  generalize eσ3 : us (us (us σ2 880 ((lb.2.2.1 / 4 : Nat) : Int)) 884 (ga σ2 834 0)) 888 (-1) = σ3
  have gp : T_givenPut (v : Int) (lb.2.2.2.1 : Int) 0 σ = some σ3 := by
    unfold T_givenPut
    rw [if_pos (by omega), p1, Option.bind_some, if_pos (by omega), show ((lb.2.2.2.1 : Int)).toNat = lb.2.2.2.1 by omega, e638, if_neg (fun z => z rfl), nm2, d4, eσ3]
  have F3 : fr [880, 884, 888] [] σ2 σ3 := by
    rw [← eσ3]
    exact fr_trans (fr_trans (fr_sub fr_one (by decide) (by decide)) (fr_sub fr_one (by decide) (by decide))) (fr_sub fr_one (by decide) (by decide))
  refine ⟨σ3, gp, SyZ_trans (L := []) (M := []) (SyZ_fr F2 (by decide) (by decide) (by decide) (by decide)) (SyZ_fr F3 (by decide) (by decide) (by decide) (by decide)), ?_, ?_⟩
  · rw [← eσ3, gs_us, if_neg (by decide), gs_us, if_neg (by decide), gs_us, if_pos rfl, m1]
  · have g884 : gs σ3 884 = ga σ2 834 0 := by rw [← eσ3, gs_us, if_neg (by decide), gs_us, if_pos rfl]
    rw [g884]
    exact tyT_mono (σ := σ2) (n := n) (τ := σ3) (by rw [← eσ3]; exact ⟨Nat.le_refl _, fun _ _ _ _ _ => rfl⟩) cT
end LSZ
