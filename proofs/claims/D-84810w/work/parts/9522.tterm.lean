set_option maxRecDepth 100000
/-! THE TWIN SAYS TERMS: between terms; the head of an inst -/
abbrev WPS : List Nat := [784, 792] ++ WZS
abbrev WPA : List Nat := [778, 798, 802, 806, 898, 902] ++ WZA
/-- what telling reads -/
abbrev TNA : List Nat := [490, 494, 662, 674, 842, 846] ++ TYA ++ NDA
def eqN (σ τ : tS) : Prop := ∀ f ∈ TNA, ∀ i, ga τ f i = ga σ f i
/-- terms said -/
def SyP (σ : tS) (L : List Int) (σ' : tS) : Prop := (gs σ 904 + (L.length : Int) ≤ gs σ 908 → svw σ' = svL L (svw σ) ∧ gs σ' 904 = gs σ 904 + (L.length : Int)) ∧ (gs σ 908 < gs σ 904 + (L.length : Int) → gs σ 908 < gs σ' 904) ∧ (gs σ 904 ≤ gs σ' 904 ∧ gs σ' 904 ≤ gs σ 904 + (L.length : Int)) ∧ fr WPS WPA σ σ' ∧ gs σ' 856 = gs σ 856
section LTT
variable {σ σ1 σ2 τ : tS} {n : Nat} {ins : List INs} {gv : List GVs} {nm con fam cnm : Nat → List Int}
theorem eqN_P (F : fr WPS WPA σ τ) : eqN σ τ := fun f hf i => F.2 f ((by decide : ∀ f ∈ TNA, f ∉ WPA) f hf) i
theorem tx_N (F : eqN σ τ) : tx σ n τ n := tx_same (fun g hg i => F g ((by decide : ∀ g ∈ TYA, g ∈ TNA) g hg) i)
theorem nmT_N {k : Nat} {w : List Int} (F : eqN σ τ) (H : nmT σ k w) : nmT τ k w := ⟨by rw [F 494 (by decide)]; exact H.1, H.2.1, fun i x e => by rw [F 490 (by decide)]; exact H.2.2 i x e⟩
theorem hdO_N {k w : Nat} (F : eqN σ τ) (H : hdO nm con fam σ k w) : hdO nm con fam τ k w := by
  refine ⟨fun e => ⟨(H.1 e).1, nmT_N F (H.1 e).2⟩, fun e => ⟨(H.2.1 e).1, nmT_N F (H.2.1 e).2⟩, fun e => ?_⟩
  obtain ⟨h1, v, h2, h3, h4⟩ := H.2.2 e
  exact ⟨h1, v, by rw [F 674 (by decide)]; exact h2, h3, nmT_N F h4⟩
theorem tOn_N (F : eqN σ τ) : ∀ {T : Ty}, tOn nm con fam σ T → tOn nm con fam τ T
  | .leaf, _ => trivial
  | .inner _ _ _ _ _, ⟨a, d, e⟩ => ⟨hdO_N F a, tOn_N F d, tOn_N F e⟩
theorem clN_N {c : Nat} (F : eqN σ τ) (H : clN σ cnm c) : clN τ cnm c := by
  obtain ⟨h1, v, h2, h3, h4⟩ := H
  exact ⟨h1, v, by rw [F 662 (by decide)]; exact h2, h3, nmT_N F h4⟩
theorem lbO_N {lb : XL} (F : eqN σ τ) (H : lbO σ ins nm con fam lb) : lbO τ ins nm con fam lb := ⟨nmT_N F H.1, fun p hp => ⟨(H.2 p hp).1, tOn_N F (H.2 p hp).2⟩⟩
theorem eO_N (F : eqN σ τ) : ∀ {e : Et}, eO σ ins nm con fam e → eO τ ins nm con fam e
  | .leaf, _ => trivial
  | .inner _ _ _ _ _, ⟨a1, b, b', c, d, e⟩ => ⟨fun z w => ⟨tOn_N F (a1 z w).1, tOn_N F (a1 z w).2⟩, fun w => lbO_N F (b w), b', fun w => ⟨nmT_N F (c w).1, nmT_N F (c w).2⟩, fun z1 z2 => eO_N F (d z1 z2), fun z1 z2 z3 => eO_N F (e z1 z2 z3)⟩
theorem gvO_N (F : eqN σ τ) (H : gvO σ ins nm con fam cnm gv) : gvO τ ins nm con fam cnm gv := fun g hg => by
  obtain ⟨⟨a1, a2⟩, a3, a4⟩ := H g hg
  refine ⟨⟨a1, nmT_N F a2⟩, fun w => clN_N F (a3 w), fun w => ?_⟩
  obtain ⟨b1, b2, b3, b4⟩ := a4 w
  exact ⟨hdO_N F b1, b2, b3, tOn_N F b4⟩
theorem QN_N {X : Ty} (F : eqN σ τ) (H : QN σ n X) : QN τ n X := by
  obtain ⟨t, c⟩ := H
  exact ⟨t, tyT_mono (tx_N F) c⟩
theorem XTf_N {e : Et} {lo hi v : Nat} (F : eqN σ τ) (H : XTf σ n e lo hi v) : XTf τ n e lo hi v := by
  have fN : frN σ τ := ⟨trivial, fun f hf i => F f ((by decide : ∀ f ∈ NDA, f ∈ TNA) f hf) i⟩
  exact XTg_keepN fN (tx_N F) (lo0 := lo) (hi0 := hi) (fun a x _ _ p => ⟨⟨by rw [F 842 (by decide)]; exact tyT_mono (tx_N F) p.1.1, by rw [F 846 (by decide)]; exact tyT_mono (tx_N F) p.1.2⟩, Fx_keepN fN p.2⟩) e lo hi v (Nat.le_refl _) (Nat.le_refl _) H
theorem SyP_of {L : List Int} (A : SyZ σ L σ1) : SyP σ L σ1 := by
  obtain ⟨a1, a2, a3, a4, a5, _⟩ := A
  exact ⟨a1, a2, a3, fr_sub a4 (fun f h => List.mem_append_right _ h) (fun f h => List.mem_append_right _ h), a5⟩
theorem SyP_trans {L M : List Int} (A : SyP σ L σ1) (B : SyP σ1 M σ2) : SyP σ (L ++ M) σ2 := by
  obtain ⟨a1, a2, ⟨a3, a4⟩, a5, a6⟩ := A
  obtain ⟨b1, b2, ⟨b3, b4⟩, b5, b6⟩ := B
  have e : gs σ1 908 = gs σ 908 := a5.1 908 (by decide)
  rw [e] at b1 b2
  have l : ((L ++ M).length : Int) = (L.length : Int) + (M.length : Int) := by rw [List.length_append]; omega
  unfold SyP
  rw [l]
  refine ⟨fun w => ?_, fun w => ?_, ⟨by omega, by omega⟩, fr_trans a5 b5, by rw [b6, a6]⟩
  · obtain ⟨c1, c2⟩ := a1 (by omega)
    obtain ⟨d1, d2⟩ := b1 (by omega)
    exact ⟨by rw [d1, c1, svL_app], by omega⟩
  · by_cases v : gs σ 908 < gs σ 904 + (L.length : Int)
    · have := a2 v
      omega
    · have := (a1 (by omega)).2
      exact b2 (by omega)
theorem SyP_t {L : List Int} {t : Nat} (S : SkT σ t) (A : SyP σ L σ1) : ∃ t1, SkT σ1 t1 ∧ t ≤ t1 ∧ t1 ≤ t + L.length := by
  obtain ⟨_, _, ⟨a3, a4⟩, a5, _⟩ := A
  have e := S.1
  refine ⟨(gs σ1 904).toNat, ⟨by omega, by rw [a5.1 908 (by decide)]; exact S.2⟩, by omega, by omega⟩
theorem SyP_fr {fs as : List Nat} (F : fr fs as σ τ) (h1 : ∀ f ∈ fs, f ∈ WPS) (h2 : ∀ f ∈ as, f ∈ WPA) (h3 : ∀ f ∈ [856, 904, 908, 1111, 1112, 1116], f ∉ fs) (h4 : 894 ∉ as) : SyP σ [] τ := by
  have s := svw_fr F (fun f hf => h3 f (List.mem_cons_of_mem _ hf)) h4
  have e : gs τ 904 = gs σ 904 := congrArg (fun v : SV => v.1) s
  exact ⟨fun _ => ⟨s, by rw [e]; simp⟩, fun w => by rw [e]; simpa using w, ⟨by omega, by rw [e]; simp⟩, fr_sub F h1 h2, F.1 856 (h3 _ (by simp))⟩
/-- a type that is there -/
theorem t_there {k w : Nat} {l r : Ty} {o u t0 : Int} (S : TyS σ n) (hk : k ≤ 3) (hn : n < 126000) (c : tyT σ n (tnd k w l r) t0) (co : tyT σ n l o) (cu : tyT σ n r u) : T_aType (k : Int) (w : Int) o u σ = some (t0, σ) := by
  obtain ⟨m, e, hm, e1, e2, cl, cr⟩ := id c
  have sh := S.2.2 m hm
  rw [e1, e2, tyT_inj S.1 cl co, tyT_inj S.1 cr cu] at sh
  obtain ⟨t, τ, n', g1, g2, g3, g4, g5, g6, g7, g8⟩ := t_get S hk co cu hn sh
  obtain ⟨h1, h2⟩ := g8 ⟨t0, c⟩
  subst h1
  rw [h2] at g5
  rw [g1, tyT_inj S.1 g5 c]
/-- the head of an inst, when it is there -/
theorem t_hdI2 {C f : Nat} {d : INs} {t0 : Int} (hf : f < 20) (S : TyS σ n) (hn : n < 126000) (P : InTw σ n C f d) (ct : tyT σ n (hdI d) t0) : T_head (f : Int) σ = some (t0, σ) := by
  obtain ⟨⟨a1, a1'⟩, ⟨a2, a2'⟩, ⟨a3, a4, a5⟩, _⟩ := P
  have fN : ((f : Int)).toNat = f := by omega
  have ct' : tyT σ n (tnd 1 d.2.1 (hdN d.2.2.1 0) (hdN d.2.2.1 1)) t0 := ct
  obtain ⟨m, e, hm, e1, e2, cl, cr⟩ := id ct'
  have l2 : d.2.2.1.length ≤ 2 := by rw [a4]; unfold pN; split <;> omega
  have fin : ∀ (o u : Int), tyT σ n (hdN d.2.2.1 0) o → tyT σ n (hdN d.2.2.1 1) u → T_head_60 (f : Int) o u σ = some (t0, σ) := fun o u co cu => by
    have g := t_there S (by decide) hn ct' co cu
    unfold T_head_60
    have g' : T_aType 1 (d.2.1 : Int) o u σ = some (t0, σ) := g
    rw [if_pos (by omega), fN, a2, g', Option.bind_some]
  cases q : d.2.2.1 with
  | nil =>
    rw [q] at a3 cl cr fin
    unfold T_head
    rw [if_pos (by omega), fN, a3, if_pos (by decide)]
    unfold T_head_28
    rw [if_pos (by omega), fN, a3, if_pos (by decide)]
    exact fin (-1) (-1) rfl rfl
  | cons w0 ws =>
    have e0 : d.2.2.1[0]? = some w0 := by rw [q]; rfl
    have g0 := a5 0 w0 e0
    rw [q] at a3 cl cr fin l2
    have cl' : tyT σ n (tnd 0 w0 .leaf .leaf) (ga σ 510 m) := cl
    have n0 : T_aType 0 (w0 : Int) (-1) (-1) σ = some (ga σ 510 m, σ) := t_there S (by decide) hn cl' rfl rfl
    have i0 : w32 (2 * (f : Int)) = ((2 * f + 0 : Nat) : Int) := (w32_s (by omega) (by omega)).trans (by omega)
    unfold T_head
    rw [if_pos (by omega), fN, a3, if_neg (by rw [List.length_cons]; omega), i0, if_pos (by omega), show (((2 * f + 0 : Nat) : Int)).toNat = 2 * f + 0 by omega, g0, n0, Option.bind_some]
    unfold T_head_28
    rw [if_pos (by omega), fN, a3]
    cases ws with
    | nil =>
      rw [if_pos (by rw [List.length_singleton]; decide)]
      exact fin _ (-1) cl rfl
    | cons w1 ws2 =>
      have e1' : d.2.2.1[1]? = some w1 := by rw [q]; rfl
      have g1 := a5 1 w1 e1'
      have cr' : tyT σ n (tnd 0 w1 .leaf .leaf) (ga σ 514 m) := cr
      have n1 : T_aType 0 (w1 : Int) (-1) (-1) σ = some (ga σ 514 m, σ) := t_there S (by decide) hn cr' rfl rfl
      have i1 : w32 (w32 (2 * (f : Int)) + 1) = ((2 * f + 1 : Nat) : Int) := by rw [i0]; exact (w32_s (by omega) (by omega)).trans (by omega)
      rw [if_neg (by rw [List.length_cons, List.length_cons]; omega), i1, if_pos (by omega), show (((2 * f + 1 : Nat) : Int)).toNat = 2 * f + 1 by omega, g1, n1, Option.bind_some]
      exact fin _ _ cl cr
end LTT
