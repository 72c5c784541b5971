set_option maxRecDepth 100000
/-! THE TWIN puts things for names -/
/-- what is to be put -/
def PutT (σ : tS) (n : Nat) (θ : List (Nat × Ty)) : Prop := gs σ 836 = (θ.length : Int) ∧ θ.length ≤ 4 ∧ ∀ (i : Nat) (p : Nat × Ty), θ[i]? = some p → ga σ 830 i = (p.1 : Int) ∧ tyT σ n p.2 (ga σ 834 i)
section LTP
variable {σ τ : tS} {n n' : Nat} {θ : List (Nat × Ty)} {r : Int → tS → Option (Int × tS)}
theorem PutT_tx (H : PutT σ n θ) (R : fr [532] TYA σ τ) (X : tx σ n τ n') : PutT τ n' θ := by
  refine ⟨by rw [R.1 836 (by decide)]; exact H.1, H.2.1, fun i p e => ?_⟩
  rw [R.2 830 (by decide), R.2 834 (by decide)]
  exact ⟨(H.2.2 i p e).1, tyT_mono X (H.2.2 i p e).2⟩
theorem shT_Z {k w : Nat} {l r : Ty} {o u : Int} (A : tyT σ n l o) (B : tyT σ n r u) (h : shT k w l r) : shZ (k : Int) (w : Int) o u := by
  unfold shT at h
  simp only [ne_eq, tyT_0 A, tyT_0 B] at h
  unfold shZ
  omega
theorem put_find {m w : Nat} (H : PutT σ n θ) (hm : m < 126000) (hw : ga σ 506 m = (w : Int)) : ∀ (l : List (Nat × Ty)) (i : Nat), θ.drop i = l → (∃ (j : Nat) (X : Ty), lkT l w = some X ∧ om_loop (T_put_18s r (m : Int) σ) (i : Int) = some (.inl (j : Int)) ∧ j < 4 ∧ tyT σ n X (ga σ 834 j)) ∨ (lkT l w = none ∧ om_loop (T_put_18s r (m : Int) σ) (i : Int) = some (.inr ()))
  | [], i, e => by
    refine .inr ⟨rfl, om_loop_out ?_⟩
    have : θ.length ≤ i := List.drop_eq_nil_iff.mp e
    unfold T_put_18s
    rw [H.1, if_pos (by omega)]
  | p :: l, i, e => by
    have ei : θ[i]? = some p := by
      have := congrArg (fun z => z[0]?) e
      simpa using this
    have il := (List.getElem?_eq_some_iff.mp ei).1
    have h4 := H.2.1
    obtain ⟨h1, h2⟩ := H.2.2 i p ei
    rw [lkT_cons]
    have g : 0 ≤ (i : Int) ∧ (i : Int) < 4 ∧ 0 ≤ (m : Int) ∧ (m : Int) < 126000 := by omega
    by_cases c : p.1 = w
    · refine .inl ⟨i, p.2, by rw [if_pos c], om_loop_out ?_, by omega, h2⟩
      unfold T_put_18s
      rw [H.1, if_neg (by omega), if_pos g, show ((i : Int)).toNat = i by omega, show ((m : Int)).toNat = m by omega, h1, hw, if_neg (by omega)]
    · rw [if_neg c]
      have st : T_put_18s r (m : Int) σ (i : Int) = some (.inl ((i + 1 : Nat) : Int)) := by
        unfold T_put_18s
        rw [H.1, if_neg (by omega), if_pos g, show ((i : Int)).toNat = i by omega, show ((m : Int)).toNat = m by omega, h1, hw, if_pos (by omega), w32_s (by omega) (by omega)]
        rfl
      rw [om_loop_in st]
      exact put_find H hm hw l (i + 1) (by rw [← List.tail_drop, e]; rfl)
/-- THINGS ARE PUT -/
theorem t_put (hθ : wfS θ) : ∀ {T : Ty} {f : Nat} {σ : tS} {n : Nat} {t : Int}, TyS σ n → PutT σ n θ → tyT σ n T t → tdp T < f → n + tsz T ≤ 126000 → ∃ (t' : Int) (τ : tS) (n' : Nat), T_putD f t σ = some (t', τ) ∧ TyS τ n' ∧ tx σ n τ n' ∧ fr [532] TYA σ τ ∧ tyT τ n' (sbT θ T) t' ∧ n' ≤ n + tsz (sbT θ T) ∧ n' ≤ n + tsz T ∧ ((∃ t0, tyT σ n (sbT θ T) t0) → τ = σ ∧ n' = n) ∧ ((∃ t0, tyT σ n (tL (sbT θ T)) t0) → (∃ t0, tyT σ n (tR' (sbT θ T)) t0) → n' ≤ n + 1)
  | T, 0, _, _, _, _, _, _, h, _ => by omega
  | .leaf, f + 1, σ, n, t, S, P, c, _, _ => by
    refine ⟨-1, σ, n, ?_, S, tx_refl _ _, fr_refl _ _ _, rfl, by omega, by omega, fun _ => ⟨rfl, rfl⟩, fun _ _ => by omega⟩
    have e : t = -1 := c
    show T_putB (T_putD f) t σ = _
    unfold T_putB
    rw [if_neg (fun z => z e)]
  | .inner k w u l rr, f + 1, σ, n, t, S, P, c, hf, hn => by
    have wf := tyT_wf S c
    obtain ⟨m, c1, c2, c3, c4, c5, c6⟩ := id c
    have hm : m < 126000 := by have := S.1.2.1; omega
    have tm : t.toNat = m := by omega
    have gm : 0 ≤ t ∧ t < 126000 := by omega
    have hf' : 1 + max (tdp l) (tdp rr) < f + 1 := hf
    have hn' : n + (1 + tsz l + tsz rr) ≤ 126000 := hn
    show ∃ (t' : Int) (τ : tS) (n' : Nat), T_putB (T_putD f) t σ = some (t', τ) ∧ _
    unfold T_putB
    rw [if_pos (by omega), if_pos gm, tm, c3]
    by_cases k0 : k = 0
    · rw [if_neg (by omega)]
      have eT : sbT θ (.inner k w u l rr) = (lkT θ w).getD (.inner k w u l rr) := by
        show (if k = 0 then _ else _) = _
        rw [if_pos k0]
      rcases put_find (r := T_putD f) P hm c4 θ 0 rfl with ⟨j, X, e1, e2, e3, e4⟩ | ⟨e1, e2⟩
      · refine ⟨ga σ 834 j, σ, n, ?_, S, tx_refl _ _, fr_refl _ _ _, by rw [eT, e1]; exact e4, by omega, by omega, fun _ => ⟨rfl, rfl⟩, fun _ _ => by omega⟩
        have e2' : om_loop (T_put_18s (T_putD f) t σ) 0 = some (.inl (j : Int)) := by rw [c1]; exact e2
        rw [e2', Option.bind_some]
        show (if 0 ≤ (j : Int) ∧ (j : Int) < 4 then some (ga σ 834 ((j : Int)).toNat, σ) else none) = _
        rw [if_pos (by omega), show ((j : Int)).toNat = j by omega]
      · refine ⟨t, σ, n, ?_, S, tx_refl _ _, fr_refl _ _ _, by rw [eT, e1]; exact c, by omega, by omega, fun _ => ⟨rfl, rfl⟩, fun _ _ => by omega⟩
        have e2' : om_loop (T_put_18s (T_putD f) t σ) 0 = some (.inr ()) := by rw [c1]; exact e2
        rw [e2', Option.bind_some]
        rfl
    · rw [if_pos (by omega), if_pos gm]
      have eT : sbT θ (.inner k w u l rr) = .inner k w u (sbT θ l) (sbT θ rr) := by
        show (if k = 0 then _ else _) = _
        rw [if_neg k0]
      rw [eT]
      obtain ⟨t1, τ1, n1, a1, a2, a3, a4, a5, a6, a7, a8, a9⟩ := t_put hθ (f := f) S P c5 (by omega) (by omega)
      rw [a1, Option.bind_some]
      simp only
      rw [if_pos gm, a3.2 514 (by decide) (by decide) m c2]
      obtain ⟨t2, τ2, n2, b1, b2, b3, b4, b5, b6, b7, b8, b9⟩ := t_put hθ (f := f) a2 (PutT_tx P a4 a3) (tyT_mono a3 c6) (by omega) (by omega)
      rw [b1, Option.bind_some]
      simp only
      have X2 := tx_trans a3 b3
      have R2 : fr [532] TYA σ τ2 := fr_trans a4 b4
      rw [if_pos gm, X2.2 510 (by decide) (by decide) m c2, X2.2 514 (by decide) (by decide) m c2]
      have c5' := tyT_mono X2 c5
      have c6' := tyT_mono X2 c6
      have d5 : tyT τ2 n2 (sbT θ l) t1 := tyT_mono b3 a5
      have sh : shT k w (sbT θ l) (sbT θ rr) := by
        have := (sbT_wf hθ wf)
        rw [eT] at this
        exact this.1
      have k3 : k ≤ 3 := by
        have := (S.1.2.2.1 m c2).1
        rw [c3] at this
        omega
      have szT : tsz (.inner k w u (sbT θ l) (sbT θ rr)) = 1 + tsz (sbT θ l) + tsz (sbT θ rr) := rfl
      have szO : tsz (.inner k w u l rr) = 1 + tsz l + tsz rr := rfl
      have new : ∃ (t' : Int) (τ : tS) (n' : Nat), T_put_102 (T_putD f) t t1 t2 τ2 = some (t', τ) ∧ TyS τ n' ∧ tx σ n τ n' ∧ fr [532] TYA σ τ ∧ tyT τ n' (.inner k w u (sbT θ l) (sbT θ rr)) t' ∧ n' ≤ n + tsz (.inner k w u (sbT θ l) (sbT θ rr)) ∧ n' ≤ n + tsz (.inner k w u l rr) ∧ ((∃ t0, tyT σ n (.inner k w u (sbT θ l) (sbT θ rr)) t0) → τ = σ ∧ n' = n) ∧ ((∃ t0, tyT σ n (sbT θ l) t0) → (∃ t0, tyT σ n (sbT θ rr) t0) → n' ≤ n + 1) := by
        obtain ⟨t', τ, n', g1, g2, g3, g4, g5, g6, g6n, g7⟩ := t_get (k := k) (w := w) b2 k3 d5 b5 (by omega) (shT_Z d5 b5 sh)
        refine ⟨t', τ, n', ?_, g2, tx_trans X2 g3, fr_trans R2 g6, g5, by omega, by omega, fun ⟨t0, z⟩ => ?_, fun z5 ⟨t0, z6⟩ => ?_⟩
        · unfold T_put_102
          rw [if_pos gm, tm, X2.2 502 (by decide) (by decide) m c2, X2.2 506 (by decide) (by decide) m c2, c3, c4, g1]
          rfl
        · have z' := z
          obtain ⟨m0, _, _, _, _, z5, z6⟩ := z
          obtain ⟨y1, y2⟩ := a8 ⟨_, z5⟩
          obtain ⟨y3, y4⟩ := b8 ⟨_, by rw [y1, y2]; exact z6⟩
          obtain ⟨y5, y6⟩ := g7 ⟨_, by rw [y3, y1, y4, y2]; exact z'⟩
          exact ⟨y5.trans (y3.trans y1), y6.trans (y4.trans y2)⟩
        · obtain ⟨y1, y2⟩ := a8 z5
          obtain ⟨y3, y4⟩ := b8 ⟨_, by rw [y1, y2]; exact z6⟩
          omega
      by_cases q1 : t1 = ga σ 510 m
      · rw [if_neg (fun z => z q1), if_pos gm]
        by_cases q2 : t2 = ga σ 514 m
        · rw [if_neg (fun z => z q2)]
          have e1 : sbT θ l = l := tyT_fun d5 (by rw [q1]; exact c5')
          have e2 : sbT θ rr = rr := tyT_fun b5 (by rw [q2]; exact c6')
          refine ⟨t, τ2, n2, rfl, b2, X2, R2, by rw [e1, e2]; exact tyT_mono X2 c, by omega, by omega, fun ⟨t0, z⟩ => ?_, fun z5 ⟨t0, z6⟩ => ?_⟩
          · obtain ⟨m0, _, _, _, _, z5, z6⟩ := z
            obtain ⟨y1, y2⟩ := a8 ⟨_, z5⟩
            obtain ⟨y3, y4⟩ := b8 ⟨_, by rw [y1, y2]; exact z6⟩
            exact ⟨y3.trans y1, y4.trans y2⟩
          · obtain ⟨y1, y2⟩ := a8 z5
            obtain ⟨y3, y4⟩ := b8 ⟨_, by rw [y1, y2]; exact z6⟩
            omega
        · rw [if_pos q2]
          exact new
      · rw [if_pos q1]
        exact new
end LTP
