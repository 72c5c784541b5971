set_option maxRecDepth 100000
/-! THE COMPONENT PROVES why a type is what it is worked out to -/
/-- a proof, or none -/
def POC (G : om_G) (N : List (List Int)) (cl : Nat → Nat) (U : Nat → Prop) (nm con fam : Nat → List Int) (Lp u : Nat) (h : om_H) (k p : Nat) (w : Option (List Int)) : Prop := (w = none ∧ p = 0) ∨ ∃ L, w = some L ∧ p ≠ 0 ∧ PrC G N cl U nm con fam Lp u h k p L
/-- a type that is there -/
def QC (h : om_H) (N : List (List Int)) (cl : Nat → Nat) (U : Nat → Prop) (X : Ty) : Prop := ∃ y, tyC h N cl U X y
section LCW3
variable {G : om_G} {h h1 h2 : om_H} {N : List (List Int)} {cl : Nat → Nat} {tb l0 sc pv Lp u u1 u2 B : Nat} {us fs : List Nat} {rest : List (Nat × List Nat)} {Sl U : Nat → Prop} {io : Nat → Nat} {ab : List (Option Nat)} {ins : List INs} {gv : List GVs} {nm con fam : Nat → List Int}
theorem POC_KV (E : PvE G h N cl tb l0 sc us fs rest Sl io ab ins gv pv Lp u) (A : KV N cl tb l0 pv Lp rest us fs h u h1 u1) {k p : Nat} {w : Option (List Int)} (H : POC G N cl (UU us rest) nm con fam Lp u h k p w) : POC G N cl (UU us rest) nm con fam Lp u1 h1 k p w := by
  rcases H with H | ⟨L, a, b, c⟩
  · exact .inl H
  · exact .inr ⟨L, a, b, PrC_KV E A c⟩
theorem POC_more {k k' p : Nat} {w : Option (List Int)} (hk : k ≤ k') (H : POC G N cl U nm con fam Lp u h k p w) : POC G N cl U nm con fam Lp u h k' p w := by
  rcases H with H | ⟨L, a, b, c⟩
  · exact .inl H
  · exact .inr ⟨L, a, b, PrC_more hk c⟩
/-- one after the other -/
theorem c_thenP (nd : ndN N) (E : PvE G h N cl tb l0 sc us fs rest Sl io ab ins gv pv Lp u) (h8 : u ≤ 20000) (hl : (ll h Lp).length ≤ 20000) {k p q : Nat} {wp wq : Option (List Int)} (P : POC G N cl (UU us rest) nm con fam Lp u h k p wp) (Q : POC G N cl (UU us rest) nm con fam Lp u h k q wq) {T X V : Ty} (PD : POD G N cl (UU us rest) io ins gv Lp u h k p T X) (QD : POD G N cl (UU us rest) io ins gv Lp u h k q X V) : ∃ y h1 u1, C_5_then G pv p q h = some (y, h1) ∧ PvE G h1 N cl tb l0 sc us fs rest Sl io ab ins gv pv Lp u1 ∧ KV N cl tb l0 pv Lp rest us fs h u h1 u1 ∧ u1 ≤ u + 1 ∧ POC G N cl (UU us rest) nm con fam Lp u1 h1 (k + 1) y (thnB wp wq) ∧ POD G N cl (UU us rest) io ins gv Lp u1 h1 (k + 1) y T V := by
  unfold C_5_then
  rcases P with ⟨a1, a2⟩ | ⟨L1, a1, a2, a3⟩
  · rw [if_neg (fun z => z a2), a1]
    have eX : T = X := by
      rcases PD with ⟨_, z⟩ | ⟨z, _⟩
      · exact z
      · exact absurd a2 z
    rw [eX]
    exact ⟨q, h, u, rfl, E, KV_refl, by omega, POC_more (by omega) Q, POD_more (by omega) QD⟩
  · rw [if_pos a2]
    rcases id Q with ⟨b1, b2⟩ | ⟨L2, b1, b2, b3⟩
    · rw [if_neg (fun z => z b2), a1, b1]
      have eX : X = V := by
        rcases QD with ⟨_, z⟩ | ⟨z, _⟩
        · exact z
        · exact absurd b2 z
      rw [← eX]
      exact ⟨p, h, u, rfl, E, KV_refl, by omega, .inr ⟨L1, rfl, a2, PrC_more (by omega) a3⟩, POD_more (by omega) PD⟩
    · rw [if_pos b2, a1, b1]
      obtain ⟨y, h1, c1, E1, K1, c2, ⟨c3, c4, c5⟩, ⟨c6, c7, c8, c9, c10⟩⟩ := PvE_prf (why := om_cA G 11) (t := 0) (a := p) (b := q) nd E h8 hl
      have pd : PrD G N cl (UU us rest) io ins gv Lp u h k p T X := by
        rcases PD with ⟨z, _⟩ | ⟨_, z⟩
        · exact absurd z a2
        · exact z
      have qd : PrD G N cl (UU us rest) io ins gv Lp u h k q X V := by
        rcases QD with ⟨z, _⟩ | ⟨_, z⟩
        · exact absurd z b2
        · exact z
      have pd1 := PrD_KV (u1 := u + 1) K1 pd
      have qd1 := PrD_KV (u1 := u + 1) K1 qd
      refine ⟨y, h1, u + 1, by rw [gd_pos E.2.1.1.1.1, c1, Option.bind_some], E1, K1, by omega, .inr ⟨_, rfl, c3, ⟨u, by omega, c2⟩, c4, .inr (.inr (.inr (.inr (.inl ⟨c6, L1, L2, ?_, ?_, rfl⟩))))⟩, .inr ⟨c3, ⟨u, by omega, c2⟩, c4, ⟨(PrD_Q pd1).1, (PrD_Q qd1).2⟩, .inr (.inr (.inr (.inr (.inl ⟨c6, X, ?_, ?_⟩))))⟩⟩
      · rw [c8]; exact PrC_KV E K1 a3
      · rw [c9]; exact PrC_KV E K1 b3
      · rw [c8]; exact pd1
      · rw [c9]; exact qd1
/-- how deep proofs are -/
def dPf (f : Nat) : Nat := 3 * f / 2 + 2
theorem QC_KV (A : KV N cl tb l0 pv Lp rest us fs h u h1 u1) {X : Ty} (H : QC h N cl (UU us rest) X) : QC h1 N cl (UU us rest) X := by
  obtain ⟨y, c⟩ := H
  exact ⟨y, A.2.1 _ _ c⟩
theorem GTH_KV (E : PvE G h N cl tb l0 sc us fs rest Sl io ab ins gv pv Lp u) (A : KV N cl tb l0 pv Lp rest us fs h u h1 u1) {T : Ty} (H : GTH ins (hdC N cl nm con fam h) T) : GTH ins (hdC N cl nm con fam h1) T := ⟨H.1, H.2.1, H.2.2.1, tOc_KV E A H.2.2.2⟩
theorem InH_KV (E : PvE G h N cl tb l0 sc us fs rest Sl io ab ins gv pv Lp u) (A : KV N cl tb l0 pv Lp rest us fs h u h1 u1) (H : InH (hdC N cl nm con fam h) ins gv B) : InH (hdC N cl nm con fam h1) ins gv B := ⟨H.1, H.2.1, fun d hd => tOc_KV E A (H.2.2.1 d hd), fun g hg w => tOc_KV E A (H.2.2.2 g hg w)⟩
theorem KV_len (A : KV N cl tb l0 pv Lp rest us fs h u h1 u1) : (ll h1 Lp).length ≤ max (ll h Lp).length u1 := by
  obtain ⟨_, ⟨d, a4, a5⟩, _⟩ := A.2.2.1
  rw [a4, List.length_append]
  exact a5
/-- what a proof's maker does -/
def PWk (G : om_G) (N : List (List Int)) (cl : Nat → Nat) (tb l0 sc : Nat) (us fs : List Nat) (rest : List (Nat × List Nat)) (Sl : Nat → Prop) (io : Nat → Nat) (ab : List (Option Nat)) (ins : List INs) (gv : List GVs) (nm con fam : Nat → List Int) (pv Lp : Nat) (f1 f2 f : Nat) (T uT : Ty) : Prop := ∀ (h : om_H) (u a B : Nat), PvE G h N cl tb l0 sc us fs rest Sl io ab ins gv pv Lp u → InH (hdC N cl nm con fam h) ins gv B → knT ins gv (QC h N cl (UU us rest)) f T uT → tyC h N cl (UU us rest) T a → GTH ins (hdC N cl nm con fam h) T → u + nP ins gv f2 T ≤ 9000 → (ll h Lp).length ≤ 9000 → tl us fs + 2700 ≤ 149000 → ∃ y h1 u1, C_5_workedD G f1 pv a h = some (.inr y, h1) ∧ PvE G h1 N cl tb l0 sc us fs rest Sl io ab ins gv pv Lp u1 ∧ KV N cl tb l0 pv Lp rest us fs h u h1 u1 ∧ u1 ≤ u + nP ins gv f2 T ∧ POC G N cl (UU us rest) nm con fam Lp u1 h1 (dPf f) y (whyB nm con fam ins gv f2 T) ∧ POD G N cl (UU us rest) io ins gv Lp u1 h1 (dPf f) y T uT
/-- that a part is what it is worked out to, or why -/
theorem c_orA (nd : ndN N) {f1 f2 f : Nat} {T uT : Ty} (W : PWk G N cl tb l0 sc us fs rest Sl io ab ins gv nm con fam pv Lp f1 f2 f T uT) {a : Nat} (E : PvE G h N cl tb l0 sc us fs rest Sl io ab ins gv pv Lp u) (I : InH (hdC N cl nm con fam h) ins gv B) (kn : knT ins gv (QC h N cl (UU us rest)) f T uT) (hf : f ≤ 130) (hf2 : f ≤ f2) (c : tyC h N cl (UU us rest) T a) (hT : T ≠ .leaf) (g : GTH ins (hdC N cl nm con fam h) T) (hu : u + nP ins gv f2 T ≤ 9000) (hl : (ll h Lp).length ≤ 9000) (ht : tl us fs + 2700 ≤ 149000) : ∃ y h1 u1, C_5_orAlike G (C_5_workedD G f1) pv a h = some (.inr y, h1) ∧ PvE G h1 N cl tb l0 sc us fs rest Sl io ab ins gv pv Lp u1 ∧ KV N cl tb l0 pv Lp rest us fs h u h1 u1 ∧ u1 ≤ u + nP ins gv f2 T + 1 ∧ y ≠ 0 ∧ PrC G N cl (UU us rest) nm con fam Lp u1 h1 (dPf f) y ((whyB nm con fam ins gv f2 T).getD (altB nm con fam T)) ∧ PrD G N cl (UU us rest) io ins gv Lp u1 h1 (dPf f) y T uT := by
  obtain ⟨y, h1, u1, a1, E1, K1, a2, P1, PD1⟩ := W h u a B E I kn c g hu hl ht
  unfold C_5_orAlike
  rw [gd_pos E.2.1.1.1.1, a1, xc_v]
  rcases P1 with ⟨b1, b2⟩ | ⟨L, b1, b2, b3⟩
  · rw [if_neg (fun z => z b2), b1]
    have l1 := KV_len K1
    obtain ⟨y2, h2, c1, E2, K2, c2, ⟨c3, c4, c5⟩, ⟨c6, c7, c8, c9, c10⟩⟩ := PvE_prf (why := om_cA G 7) (t := a) (a := 0) (b := 0) nd E1 (by omega) (by omega)
    have KK := KV_trans E K1 K2
    have eT : uT = T := (why_none hf hf2 kn).mp b1
    have fit := knT_fit I kn hT g
    rw [eT] at fit
    refine ⟨y2, h2, u1 + 1, by rw [gd_pos E1.2.1.1.1.1, c1, Option.bind_some], E2, KK, by omega, c3, ?_⟩
    have e0 : dPf f = (3 * f / 2 + 1) + 1 := rfl
    rw [e0]
    have cT := KK.2.1 _ _ c
    refine ⟨⟨⟨u1, by omega, c2⟩, c4, .inl ⟨c6, T, ⟨hT, g.1, fit.2.2⟩, tOc_KV E KK g.2.2.2, by rw [c7]; exact cT, rfl⟩⟩, ⟨u1, by omega, c2⟩, c4, ?_, .inl ⟨c6, eT.symm, by rw [c7]; exact cT⟩⟩
    rw [eT]
    exact ⟨⟨a, cT⟩, a, cT⟩
  · rw [if_pos b2, b1]
    refine ⟨y, h1, u1, rfl, E1, K1, by omega, b2, b3, ?_⟩
    rcases PD1 with ⟨z, _⟩ | ⟨_, z⟩
    · exact absurd z b2
    · exact z
end LCW3
