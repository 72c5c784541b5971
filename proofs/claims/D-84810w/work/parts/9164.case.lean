set_option maxRecDepth 100000
section LX5
variable {G : om_G} {A t : Nat} {N : List (List Int)} {S : List Int} {b m i i0 : Nat} {nc nE p : Int} {M M0 c : Nat} {σ σ0 : tS} {h h0 : om_H} {γ δ : Type} {P : Nat → Nat → tS → om_H → γ → δ → Prop}
/-- the number of a name -/
theorem t_isNamed (H : Tst σ N S b m i nc M) {x : Int} : T_isNamed ((b + i : Nat) : Int) x σ = some (if tokk S i = 2 ∧ tVal N (tokk S i) (tokw S i) = x then 1 else 0) := by
  obtain ⟨T, ha, hi, hn, hf, hM⟩ := H
  have h4 := T.2.1
  unfold T_isNamed T_isNamed_25
  rw [if_pos ⟨by omega, by omega⟩, show (((b + i : Nat) : Int)).toNat = b + i by omega, (T.1 i hi).1, (T.1 i hi).2.2.2.1]
  by_cases c1 : tokk S i = 2
  · rw [if_neg (fun z => z c1), if_pos ⟨by omega, by omega⟩]
    by_cases c2 : tVal N (tokk S i) (tokw S i) = x
    · rw [if_neg (fun z => z c2), if_pos (.inr rfl), if_pos ⟨c1, c2⟩]
    · rw [if_pos c2, if_pos (.inl rfl), if_neg (fun z => c2 z.2)]
  · rw [if_pos c1, if_pos (.inl rfl), if_neg (fun z => c1 z.1)]
theorem t_isNamedF (H : Tfl σ N S b m p nc M) {x : Int} : ∃ v, T_isNamed (gs σ 432) x σ = some v := by
  obtain ⟨T, ⟨i, hi, ha⟩, hn, hf, hp, hM⟩ := H
  have h4 := T.2.1
  unfold T_isNamed T_isNamed_25
  rw [ha, if_pos ⟨by omega, by omega⟩]
  by_cases c1 : ga σ 470 (((b + i : Nat) : Int)).toNat ≠ 2
  · rw [if_pos c1]; exact ⟨0, rfl⟩
  · rw [if_neg c1, if_pos ⟨by omega, by omega⟩]
    by_cases c2 : ga σ 482 (((b + i : Nat) : Int)).toNat ≠ x
    · rw [if_pos c2]; exact ⟨0, rfl⟩
    · rw [if_neg c2]; exact ⟨1, rfl⟩
theorem TF_nm {F F' : tS → Option (γ × tS)} {x : Int} {Mc : Nat} (H : Tfl σ N S b m p nc Mc) (hF : F σ = F' σ) (R : TFo N S b m p nE M0 σ0 M c (F' σ)) : TFo N S b m p nE M0 σ0 M c ((T_isNamed (gs σ 432) x σ).bind fun p4 => if p4 ≠ 0 then F σ else (T_wrong σ).bind fun p5 => F p5) := by
  obtain ⟨v, e⟩ := t_isNamedF (x := x) H
  rw [e, Option.bind_some, t_wrongF H, Option.bind_some, hF]
  split
  · exact R
  · exact R
/-- a name that has to be nil, or cons -/
theorem RO_nm (hG : om_okG G) (hN : ∃ N', N = [110, 105, 108] :: [99, 111, 110, 115] :: N') {F F' : tS → Option (γ × tS)} {g : Unit → om_H → Option ((Nat ⊕ δ) × om_H)} (c : Nat) (H : At G A t N S b m i nc M σ h) (L : lnk t i0 M0 σ0 h0 i M σ h) (hc : M + c ≤ M0 + 3 * (i - i0) + 20) (h84 : M0 + 3 * (m - i0) + 60 ≤ 8400) {x : Int} {j : Nat} (hj : (j = 21 ∧ x = 0) ∨ (j = 22 ∧ x = 1)) (hF : F = fun σ => (T_need 2 σ).bind F')
    (ok : tokk S i = 2 → ∀ (τ : tS) (h' : om_H), At G A t N S b m (i + 1) nc M τ h' → nd σ τ M → onlyT t h h' → lnk t i0 M0 σ0 h0 (i + 1) M τ h' → RO G A t N S b m i0 nE M0 σ0 h0 P (F' τ) (g () h'))
    (tf : ∀ (p : Int) (τ : tS) (M' : Nat), Tfl τ N S b m p nc M' → nd σ0 τ M0 → M0 ≤ M' → M' + c ≤ 8400 → TFo N S b m p nE M0 σ0 M' c (F' τ)) :
    RO G A t N S b m i0 nE M0 σ0 h0 P ((T_isNamed (gs σ 432) x σ).bind fun p4 => if p4 ≠ 0 then F σ else (T_wrong σ).bind fun p5 => F p5) (xc (C_14_needName G t j h) (fun t h => some (.inl t, h)) g) := by
  obtain ⟨N', hN⟩ := hN
  have hw : ∃ bs, om_sb[j]? = some bs ∧ (tokk S i = 2 → (tVal N (tokk S i) (tokw S i) = x ↔ tokw S i = bs)) := by
    rcases hj with ⟨rfl, rfl⟩ | ⟨rfl, rfl⟩
    · refine ⟨[110, 105, 108], rfl, fun k2 => ?_⟩
      unfold tVal
      rw [if_pos (.inl k2), hN, List.idxOf_cons]
      by_cases c : tokw S i = [110, 105, 108]
      · simp [c]
      · have : ([110, 105, 108] == tokw S i) = false := by simp; exact fun z => c z.symm
        simp [this, c]
        omega
    · refine ⟨[99, 111, 110, 115], rfl, fun k2 => ?_⟩
      unfold tVal
      rw [if_pos (.inl k2), hN, List.idxOf_cons, List.idxOf_cons]
      by_cases c : tokw S i = [110, 105, 108]
      · simp [c]
      · have : ([110, 105, 108] == tokw S i) = false := by simp; exact fun z => c z.symm
        by_cases c2 : tokw S i = [99, 111, 110, 115]
        · simp [c2]
        · have : ([99, 111, 110, 115] == tokw S i) = false := by simp; exact fun z => c2 z.symm
          simp [*]
          omega
  obtain ⟨bs, hb, hv⟩ := hw
  have h432 : gs σ 432 = ((b + i : Nat) : Int) := H.1.2.1
  obtain ⟨c1, c2⟩ := c_needName hG H.2.1 hb
  have hi := At_i H
  rw [h432, t_isNamed H.1, Option.bind_some]
  by_cases q : tokk S i = 2 ∧ tokw S i = bs
  · have hv1 : (if tokk S i = 2 ∧ tVal N (tokk S i) (tokw S i) = x then (1 : Int) else 0) = 1 := if_pos ⟨q.1, (hv q.1).mpr q.2⟩
    rw [hv1, if_pos (by decide), hF]
    obtain ⟨τ, u1, u2, u3⟩ := (t_need H.1 (k := 2) (by decide)).1 q.1
    obtain ⟨h', v1, v2, v3⟩ := c1 q
    simp only
    rw [u1, v1]
    exact ok q.1 τ h' (At_onlyT H v3 v2 u2) u3 v3 (lnk_only L v3 u3)
  · have hv1 : (if tokk S i = 2 ∧ tVal N (tokk S i) (tokw S i) = x then (1 : Int) else 0) = 0 := if_neg (fun z => q ⟨z.1, (hv z.1).mp z.2⟩)
    rw [hv1, if_neg (by decide)]
    obtain ⟨τ, u1, u2, u3⟩ := t_wrong H.1
    obtain ⟨e, h', v1, v2, v3, v4, v5⟩ := c2 q
    clear c1 c2
    rw [u1, v1, Option.bind_some, hF]
    simp only
    rw [t_needF u2]
    exact RO_fault L (Nat.le_refl _) hi (Nat.le_refl _) (by omega) (tf _ τ M u2 (nd_trans L.2.1 u3 L.2.2.1) L.2.2.1 (by have := L.1; omega)) rfl v2 v3 (by omega) (by omega)
end LX5
