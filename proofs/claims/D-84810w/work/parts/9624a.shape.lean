set_option maxRecDepth 100000
/-! WHAT A FRAME AND THE THING THAT COMES TO IT LOOK LIKE -/
section LSH
variable {M : MPg}
/-- the cases of a thing that comes to a frame -/
def fSh (M : MPg) (f : Fr) (fs : List Fr) (v : Vt) : Prop :=
  ((f.1 = 12 ∨ f.1 = 18 ∨ f.1 = 15) ∧ f.1 = eTg f.2.1)
  ∨ (f.1 = 16 ∧ eTg f.2.1 = 16 ∧ xtg v = 2 ∧ (xnm v = 0 ∨ xnm v = 1))
  ∨ (f.1 = 17 ∧ eTg f.2.1 = 17 ∧ ((xtg v = 3 ∧ xnm v = 0) ∨ xtg v = 4))
  ∨ (f.1 = 118 ∧ eTg f.2.1 = 18 ∧ (xtg v = 1 ∧ -2147483648 ≤ xnm v ∧ xnm v ≤ 2147483647) ∧ (xtg f.2.2.2.2 = 1 ∧ -2147483648 ≤ xnm f.2.2.2.2 ∧ xnm f.2.2.2.2 ≤ 2147483647) ∧ ∃ T, fTy M fs T ∧ vT M (xsg (eLb f.2.1).2.1 (xnm f.2.2.2.2) (xnm v)) (.inl T))
  ∨ (f.1 = 112 ∧ ((xtg f.2.2.2.2 = 7 ∧ eTg (xcd f.2.2.2.2) = 14)
    ∨ (xtg f.2.2.2.2 = 6 ∧ (xnm f.2.2.2.2 = 1 ∨ xnm f.2.2.2.2 = 2) ∧ ∃ T, fTy M fs T ∧ vT M (if xnm f.2.2.2.2 = 1 then xvL (xl f.2.2.2.2) v else xvP (xl f.2.2.2.2) v) (.inl T))
    ∨ (xtg f.2.2.2.2 = 3 ∧ xnm f.2.2.2.2 = 3 ∧ xtg v = 5 ∧ ∃ T, fTy M fs T ∧ vT M (xl v) (.inl T))
    ∨ (xtg f.2.2.2.2 = 3 ∧ xnm f.2.2.2.2 = 4 ∧ xtg v = 5 ∧ ∃ T, fTy M fs T ∧ vT M (xr v) (.inl T))
    ∨ (xtg f.2.2.2.2 = 3 ∧ (xnm f.2.2.2.2 = 1 ∨ xnm f.2.2.2.2 = 2) ∧ ∃ T, fTy M fs T ∧ vT M (xvH (xnm f.2.2.2.2) v) (.inl T))))
theorem pcm_sh {f : Fr} {fs : List Fr} {τ : Ty} {v : Vt} (hf : fTy M (f :: fs) τ) (hv : vT M v (.inl τ)) : fSh M f fs v := by
  obtain ⟨⟨ok, γ, hen, hw⟩, hfs, hk⟩ := hf
  rcases hk with ⟨k1, k2, k3⟩ | ⟨k1, k2, k3, k4⟩ | ⟨k1, k2, k3, k4⟩
  · cases he : f.2.1 with
    | leaf =>
      rw [he] at hw
      rw [wS] at hw
      exact hw.elim
    | inner t a u l r =>
      have k1'' := k1
      rw [he] at hw k1 k3
      have k1' : f.1 = t := k1
      have k3' : τ = sem M.2.2.2 f.2.2.2.1.2 (eTy l) := k3
      rw [wS_e] at hw
      unfold wSB at hw
      rw [k3'] at hv
      rcases k2 with e | e | e | e | e
      · exact .inl ⟨.inl e, k1''⟩
      · exact .inl ⟨.inr (.inl e), k1''⟩
      · exact .inl ⟨.inr (.inr e), k1''⟩
      · have et : t = 16 := by omega
        subst et
        rw [if_neg (by decide), if_neg (by decide), if_neg (by decide), if_neg (by decide), if_neg (by decide), if_neg (by decide)] at hw
        cases hr : r with
        | leaf => rw [hr] at hw; exact hw.elim
        | inner t' a' u' r1 r2 =>
          rw [hr] at hw
          simp only at hw
          rw [if_pos trivial] at hw
          have h1 : sem M.2.2.2 f.2.2.2.1.2 (eTy l) = tBool := hw.1
          rw [h1] at hv
          exact .inr (.inl ⟨e, by rw [← k1'', e], vT_bool hv⟩)
      · have et : t = 17 := by omega
        subst et
        rw [if_neg (by decide), if_neg (by decide), if_neg (by decide), if_neg (by decide), if_neg (by decide), if_neg (by decide)] at hw
        cases hr : r with
        | leaf => rw [hr] at hw; exact hw.elim
        | inner t' a' u' r1 r2 =>
          rw [hr] at hw
          simp only at hw
          rw [if_neg (by decide), if_pos trivial] at hw
          obtain ⟨h2, h3, h4, h5, x, h1, h6⟩ := hw
          have h1' : sem M.2.2.2 f.2.2.2.1.2 (eTy l) = tnd 1 2 x .leaf := h1
          rw [h1'] at hv
          refine .inr (.inr (.inl ⟨e, by rw [← k1'', e], ?_⟩))
          rcases vT_list hv with q | q
          · exact .inl q
          · exact .inr q.1
  · refine .inr (.inr (.inr (.inr ⟨k1, ?_⟩)))
    cases he : f.2.1 with
    | leaf => rw [he] at k2; cases k2
    | inner t a u l r =>
      rw [he] at hw k2 k3 k4 hfs
      have et : t = 12 := k2
      subst et
      rw [wS_e] at hw
      unfold wSB at hw
      rw [if_neg (by decide), if_neg (by decide), if_pos rfl] at hw
      have hw1 : sem M.2.2.2 f.2.2.2.1.2 (eTy l) = tArr (sem M.2.2.2 f.2.2.2.1.2 (eTy r)) (sem M.2.2.2 f.2.2.2.1.2 a.2.1) := hw.1
      have k3' : vT M f.2.2.2.2 (.inl (sem M.2.2.2 f.2.2.2.1.2 (eTy l))) := k3
      have k4' : τ = sem M.2.2.2 f.2.2.2.1.2 (eTy r) := k4
      have hfs' : fTy M fs (sem M.2.2.2 f.2.2.2.1.2 a.2.1) := hfs
      rw [hw1, ← k4'] at k3'
      generalize sem M.2.2.2 f.2.2.2.1.2 a.2.1 = y at k3' hfs'
      rcases vT_arr k3' with ⟨t3, z⟩ | ⟨t6, z, hz, q⟩ | ⟨t7, ok', γ', hg, hb, hy, h14⟩
      · rcases z with ⟨n1, ey⟩ | ⟨n2, z, ey⟩ | ⟨n3, z, ex⟩ | ⟨n4, z, ex⟩
        · exact .inr (.inr (.inr (.inr ⟨t3, .inl n1, y, hfs', .inr (.inr (.inr (.inr (.inr (.inl ⟨rfl, τ, hv, .inl ⟨n1, ey⟩⟩)))))⟩)))
        · exact .inr (.inr (.inr (.inr ⟨t3, .inr n2, y, hfs', .inr (.inr (.inr (.inr (.inr (.inl ⟨rfl, τ, hv, .inr ⟨n2, z, ey⟩⟩)))))⟩)))
        · rw [ex] at hv
          obtain ⟨q1, q2, _⟩ := vT_pair hv
          exact .inr (.inr (.inl ⟨t3, n3, q1, y, hfs', q2⟩))
        · rw [ex] at hv
          obtain ⟨q1, _, q2⟩ := vT_pair hv
          exact .inr (.inr (.inr (.inl ⟨t3, n4, q1, y, hfs', q2⟩)))
      · rcases q with ⟨n1, ex, ey⟩ | ⟨n2, ey⟩
        · refine .inr (.inl ⟨t6, .inl n1, y, hfs', ?_⟩)
          rw [if_pos n1]
          rw [ex] at hv
          exact .inr (.inr (.inr (.inl ⟨rfl, z, ey, hz, hv⟩)))
        · refine .inr (.inl ⟨t6, .inr n2, y, hfs', ?_⟩)
          rw [if_neg (by omega)]
          exact .inr (.inr (.inr (.inr (.inl ⟨rfl, z, τ, ey, hz, hv⟩))))
      · exact .inl ⟨t7, h14⟩
  · refine .inr (.inr (.inr (.inl ⟨k1, k2, ?_, ?_, ?_⟩)))
    all_goals
      cases he : f.2.1 with
      | leaf => rw [he] at k2; cases k2
      | inner t a u l r =>
        rw [he] at hw k2 k4 hfs
        have et : t = 18 := k2
        subst et
        rw [wS_e] at hw
        unfold wSB at hw
        rw [if_neg (by decide), if_neg (by decide), if_neg (by decide), if_neg (by decide), if_neg (by decide), if_pos rfl] at hw
        have hw1 : sem M.2.2.2 f.2.2.2.1.2 a.2.1 = (if a.1.2.1 = 60 ∨ a.1.2.1 = 61 then tBool else tInt) := hw.2.2.1
        have hw2 : sem M.2.2.2 f.2.2.2.1.2 (eTy r) = tInt := hw.2.1
        have hfs' : fTy M fs (sem M.2.2.2 f.2.2.2.1.2 a.2.1) := hfs
        have k4' : τ = sem M.2.2.2 f.2.2.2.1.2 (eTy r) := k4
        first
          | (rw [k4', hw2] at hv; exact vT_int hv)
          | exact vT_int k3
          | (rw [hw1] at hfs'; exact ⟨_, hfs', xsg_ty _ _ _⟩)
end LSH
