set_option maxRecDepth 100000
/-! WHAT WAS JUDGED CAN BE TOLD, in the component: reasons, types -/
/-- a reason that can be told -/
def evT (N : List (List Int)) (cl : Nat → Nat) (U : Nat → Prop) (ab : List (Option Nat)) (ins : List INs) (gv : List GVs) (nm con fam : Nat → List Int) (h : om_H) (D : Dc) : Prop := (∃ (c : Nat) (T : Ty), dcK ab ins gv (QC h N cl U) 70 c T ∧ dcT ab ins gv 70 c T = some D ∧ c < ab.length ∧ T ≠ .leaf ∧ GTH ins (hdC N cl nm con fam h) T) ∨ ∃ T V : Ty, D = .inner 2 (0, 0, T, V) () .leaf .leaf ∧ oneK ins gv (QC h N cl U) T V ∧ (T ≠ .leaf ∧ V ≠ .leaf) ∧ (GTH ins (hdC N cl nm con fam h) T ∧ GTH ins (hdC N cl nm con fam h) V) ∧ (T = V → tdp T < 70)
section LHE
variable {G : om_G} {h0 : om_H} {N : List (List Int)} {cl : Nat → Nat} {U : Nat → Prop} {ins : List INs} {gv : List GVs} {ab : List (Option Nat)} {io : Nat → Nat} {nm con fam cnm : Nat → List Int} {B : Nat}
/-- two types that are one -/
theorem kn2_one {T V : Ty} {b : Nat} (k : oneK ins gv (QC h0 N cl U) T V) (hT : T ≠ .leaf) (hV : V ≠ .leaf) (gT : GTH ins (hdC N cl nm con fam h0) T) (gV : GTH ins (hdC N cl nm con fam h0) V) (cV : tyC h0 N cl U V b) (dT : T = V → tdp T < 70) : kn2C h0 N cl U ins gv nm con fam T V := by
  by_cases e : T = V
  · exact ⟨⟨hT, hV⟩, ⟨gT, gV⟩, dT, fun z => absurd e z, fun z => absurd e z⟩
  · obtain ⟨w, k1, k2, k3, k4⟩ := k e
    by_cases ew : V = w
    · subst ew
      refine ⟨⟨hT, hV⟩, ⟨gT, gV⟩, dT, fun _ => ⟨V, k1, knT_selfC k1 cV⟩, fun _ => ?_⟩
      have n0 := nP_nf (by decide) k1 130
      omega
    · have k3' := k3.resolve_left ew
      exact ⟨⟨hT, hV⟩, ⟨gT, gV⟩, dT, fun _ => ⟨w, k1, k2 ew⟩, fun _ => by omega⟩
/-- REASONS CAN BE TOLD -/
theorem HEV_of {rest : List (Nat × List Nat)} {E : JE} {lo dm te s : Nat} {us ds : List Nat} {Dk Sx : Nat → Prop} {Ep : om_H → Prop} {K : om_H → om_H → Prop} (I0 : TI G N cl (UU us rest) E.2.2.2.1 E.2.2.2.2 nm con fam te s Ep K h0 Sx (kn2C h0 N cl (UU us rest) E.2.2.2.1 E.2.2.2.2 nm con fam)) (I : InH (hdC N cl nm con fam h0) E.2.2.2.1 E.2.2.2.2 B) (hio : ∀ (i : Nat) (d : INs), E.2.2.2.1[i]? = some d → ioC io h0 i) (hcn : ∀ c, c < E.2.2.1.length → cnC cl cnm h0 c) (hg : ∀ g ∈ E.2.2.2.2, g.1 < 100 → g.1 < E.2.2.1.length) (hab : ∀ k k' : Nat, E.2.2.1[k]? = some (some k') → k' < E.2.2.1.length) (hpc : ∀ d ∈ E.2.2.2.1, ∀ p ∈ d.2.2.2.1, p.1 < E.2.2.1.length ∧ (p.2 = 0 → 2 ≤ d.2.1) ∧ (p.2 ≠ 0 → d.2.1 = 3)) (gc : ∀ (c w j : Nat) (g : GVs), gCl E.2.2.1 E.2.2.2.2 c w = some j → E.2.2.2.2[j]? = some g → g.1 < 100) (HLv : ∀ d, Dl3 Dk ds lo dm d → (fR h0 1630 d ≠ 0 → Sx (fR h0 1630 d)) ∧ (fR h0 1634 d ≠ 0 → Sx (fR h0 1634 d))) (D : Dc) (y : Nat) (t : evT N cl (UU us rest) E.2.2.1 E.2.2.2.1 E.2.2.2.2 nm con fam h0 D) (c : evC N cl rest io E lo h0 us Dk ds dm D y) : evD G N cl (UU us rest) E.2.2.1 E.2.2.2.1 E.2.2.2.2 nm con fam cnm te s Ep K h0 (kn2C h0 N cl (UU us rest) E.2.2.2.1 E.2.2.2.2 nm con fam) D y := by
  obtain ⟨y12, c3⟩ := c
  refine ⟨y12, ?_⟩
  rcases c3 with ⟨d, d0, d1, _, _, X, n2⟩ | ⟨T, V, e1, e2, e3, e4⟩
  · rcases t with ⟨c, T, k1, k2, k3, k4, k5⟩ | ⟨T, V, e, _⟩
    · obtain ⟨u, kn, _⟩ := id k1
      have fit := knT_fit I kn k4 k5
      have dk := dK_of (cnm := cnm) (Lv := Dl3 Dk ds lo dm) I hio hcn hg hab hpc gc 70 c T D 70 u [d] k1 k2 k3 k4 k5 kn (by omega) X
      obtain ⟨_, run⟩ := c_dicT I0 HLv D [d] 70 X dk
      cases D with
      | leaf =>
        have : [d] = [] := X
        cases this
      | inner t a x cs nx =>
        obtain ⟨_, r⟩ := run 0 d _ rfl rfl
        exact .inl ⟨d, d0, d1, fun h M o => r 70 (Nat.le_refl _) h M o⟩
    · subst e
      exact absurd rfl n2
  · rcases t with ⟨c, T', k1, k2, _⟩ | ⟨T', V', e, k, ⟨hT, hV⟩, ⟨gT, gV⟩, dT⟩
    · rw [e1] at k2
      exact absurd rfl (dcT_nT2 k2)
    · rw [e1] at e
      injection e with _ e _ _ _
      injection e with _ e
      injection e with _ e
      injection e with eT eV
      subst eT eV
      exact .inr ⟨T, V, e1, e2, e3, e4, kn2_one k hT hV gT gV e4 dT⟩
/-- types that are there can be told -/
theorem tOc_of {H : Nat → Nat → Prop} (hnm : ∀ (w : Nat) (L : List Int), N[w]? = some L → nm w = L) (hcon : ∀ w, w ≤ 3 → om_sb[24 + w]? = some (con w) ∧ (con w).length ≤ 100000) (hfam : ∀ w, clO h0 cl w → H 2 w → (cl w < hz h0 ∧ kd h0 (cl w) = 18 ∧ fR h0 1214 (cl w) < hz h0 ∧ fR h0 1186 (fR h0 1214 (cl w)) < hz h0) ∧ wb h0 (fR h0 1214 (cl w)) (fam w)) : ∀ {T : Ty} {a : Nat}, tyC h0 N cl U T a → wfT T → allH H T → tOc N cl nm con fam h0 T
  | .leaf, _, _, _, _ => trivial
  | .inner k w u l r, a, c, wf, aH => by
    obtain ⟨c0, c1, c2, c3, c4, c5, c6⟩ := c
    refine ⟨⟨fun z => ?_, fun z => ?_, fun z => ?_⟩, tOc_of hnm hcon hfam c4 wf.2.1 aH.2.1, tOc_of hnm hcon hfam c5 wf.2.2 aH.2.2⟩
    · rcases c3 with ⟨_, _, _, _, _, L, e6, _⟩ | e | e | e
      · rw [hnm w L e6]
        exact e6
      · omega
      · omega
      · omega
    · have w3 : w ≤ 3 := by
        rcases wf.1 with q | q | q | q
        · omega
        · exact q.2.1
        · omega
        · omega
      exact ⟨w3, hcon w w3⟩
    · rcases c3 with e | e | ⟨d1, d2, d3, d4, d5, d6, d7, d8⟩ | e
      · omega
      · omega
      · rw [d6] at d4 d5 d7 d8
        exact hfam w ⟨d4, d5, d7, d8⟩ (by rw [← z]; exact aH.1)
      · omega
end LHE
