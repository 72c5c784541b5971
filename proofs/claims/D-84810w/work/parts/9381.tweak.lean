set_option maxRecDepth 100000
/-! THE TWIN'S TABLE OF TYPES BEHIND A FAULT: only that it is a table -/
def TyW (σ : tS) (n : Nat) : Prop := gs σ 532 = (n : Int) ∧ n ≤ 126000 ∧ ∀ hh : Nat, hh < 4096 → ∃ l : List Nat, chT σ (ga σ 526 hh) l ∧ ∀ t ∈ l, t < n
section LTW
variable {σ τ : tS} {n : Nat} {k w o u : Int}
theorem TyW_of (T : TyT σ n) : TyW σ n := ⟨T.1, T.2.1, fun hh hl => by
  obtain ⟨l, l1, l2⟩ := T.2.2.2.2 hh hl
  exact ⟨l, l1, fun t ht => ((l2 t).mp ht).1⟩⟩
/-- its writes -/
theorem aType_newW (hn : gs σ 532 = (n : Int)) (h126 : n < 126000) (ho : o = -1 ∨ (0 ≤ o ∧ o < 126000)) (hu : u = -1 ∨ (0 ≤ u ∧ u < 126000)) (hh : Int) (hr : 0 ≤ hh ∧ hh < 4096) :
    (if 0 ≤ gs σ 532 ∧ gs σ 532 < 126000 then (if o ≠ (-1) then T_aType_168 k o u hh (gs σ 532) (gs σ 532) 1 (ua (ua (ua (ua (us σ 532 (w32 ((gs σ 532) + 1))) 502 (gs σ 532).toNat k) 506 (gs σ 532).toNat w) 510 (gs σ 532).toNat o) 514 (gs σ 532).toNat u) else T_aType_174 k o u hh (gs σ 532) (gs σ 532) 1 0 (ua (ua (ua (ua (us σ 532 (w32 ((gs σ 532) + 1))) 502 (gs σ 532).toNat k) 506 (gs σ 532).toNat w) 510 (gs σ 532).toNat o) 514 (gs σ 532).toNat u)) else none) = some ((n : Int), tyN σ n k w o u hh) := by
  have nn : ((n : Int)).toNat = n := by omega
  rw [hn, if_pos (by omega), nn]
  have g : ∀ x, ga (ua (ua (ua (ua (us σ 532 (w32 ((n : Int) + 1))) 502 n k) 506 n w) 510 n o) 514 n u) 518 x = ga σ 518 x := fun x => by rw [ga_ua, if_neg (by omega), ga_ua, if_neg (by omega), ga_ua, if_neg (by omega), ga_ua, if_neg (by omega)]; rfl
  have g2 : ∀ x v, ga (ua (ua (ua (ua (ua (us σ 532 (w32 ((n : Int) + 1))) 502 n k) 506 n w) 510 n o) 514 n u) 518 n v) 530 x = ga σ 530 x := fun x v => by rw [ga_ua, if_neg (by omega), ga_ua, if_neg (by omega), ga_ua, if_neg (by omega), ga_ua, if_neg (by omega), ga_ua, if_neg (by omega)]; rfl
  have g3 : ∀ v x, ga (ua (ua (ua (ua (ua (us σ 532 (w32 ((n : Int) + 1))) 502 n k) 506 n w) 510 n o) 514 n u) 518 n v) 526 x = ga σ 526 x := fun v x => by rw [ga_ua, if_neg (by omega), ga_ua, if_neg (by omega), ga_ua, if_neg (by omega), ga_ua, if_neg (by omega), ga_ua, if_neg (by omega)]; rfl
  have e240 : ∀ (v y : Int), (y = 0 ∨ y = 1) → T_aType_240 hh (n : Int) (n : Int) y (ua (ua (ua (ua (ua (us σ 532 (w32 ((n : Int) + 1))) 502 n k) 506 n w) 510 n o) 514 n u) 518 n v) = some ((n : Int), ua (ua (ua (ua (ua (ua (ua (ua (us σ 532 (w32 ((n : Int) + 1))) 502 n k) 506 n w) 510 n o) 514 n u) 518 n v) 530 n y) 522 n (ga σ 526 hh.toNat)) 526 hh.toNat (n : Int)) := by
    intro v y hy
    unfold T_aType_240
    rw [if_pos ⟨by omega, by omega, hy, hr.1, hr.2, by omega, by omega⟩, nn, g3]
  have e192 : ∀ (s2 s3 : Int), T_aType_192 k o u hh (n : Int) (n : Int) s2 s3 (ua (ua (ua (ua (us σ 532 (w32 ((n : Int) + 1))) 502 n k) 506 n w) 510 n o) 514 n u) = some ((n : Int), ua (ua (ua (ua (ua (ua (ua (ua (us σ 532 (w32 ((n : Int) + 1))) 502 n k) 506 n w) 510 n o) 514 n u) 518 n (w32 (s2 + s3))) 530 n (tyHs σ k o u)) 522 n (ga σ 526 hh.toNat)) 526 hh.toNat (n : Int)) := by
    intro s2 s3
    unfold T_aType_192 T_aType_205 T_aType_219
    rw [if_pos (by omega), nn]
    by_cases k2 : k = 2
    · rw [if_pos k2, e240 _ 1 (.inr rfl)]
      unfold tyHs
      rw [if_pos (.inl k2)]
    · rw [if_neg k2, g2, g2]
      by_cases o1 : o = -1
      · rw [if_pos o1]
        by_cases u1 : u = -1
        · rw [if_pos u1, e240 _ 0 (.inl rfl)]
          unfold tyHs
          rw [if_neg (by rintro (z | z | z) <;> omega)]
        · rw [if_neg u1, if_pos (by omega)]
          by_cases u2 : ga σ 530 u.toNat = 0
          · rw [if_pos u2, e240 _ 0 (.inl rfl)]
            unfold tyHs
            rw [if_neg (by rintro (z | z | z); exact k2 z; exact z.1 o1; exact z.2 u2)]
          · rw [if_neg u2, e240 _ 1 (.inr rfl)]
            unfold tyHs
            rw [if_pos (.inr (.inr ⟨u1, u2⟩))]
      · rw [if_neg o1, if_pos (by omega)]
        by_cases o2 : ga σ 530 o.toNat = 0
        · rw [if_neg (fun z => z o2)]
          by_cases u1 : u = -1
          · rw [if_pos u1, e240 _ 0 (.inl rfl)]
            unfold tyHs
            rw [if_neg (by rintro (z | z | z); exact k2 z; exact z.2 o2; exact z.1 u1)]
          · rw [if_neg u1, if_pos (by omega)]
            by_cases u2 : ga σ 530 u.toNat = 0
            · rw [if_pos u2, e240 _ 0 (.inl rfl)]
              unfold tyHs
              rw [if_neg (by rintro (z | z | z); exact k2 z; exact z.2 o2; exact z.2 u2)]
            · rw [if_neg u2, e240 _ 1 (.inr rfl)]
              unfold tyHs
              rw [if_pos (.inr (.inr ⟨u1, u2⟩))]
        · rw [if_pos o2, e240 _ 1 (.inr rfl)]
          unfold tyHs
          rw [if_pos (.inr (.inl ⟨o1, o2⟩))]
  have e174 : ∀ (s3 : Int), s3 = (if o = -1 then 0 else ga σ 518 o.toNat) → T_aType_174 k o u hh (n : Int) (n : Int) 1 s3 (ua (ua (ua (ua (us σ 532 (w32 ((n : Int) + 1))) 502 n k) 506 n w) 510 n o) 514 n u) = some ((n : Int), tyN σ n k w o u hh) := by
    intro s3 e3
    unfold T_aType_174 tyN tySz
    rw [g, ← e3]
    by_cases u1 : u = -1
    · rw [if_neg (fun z => z u1), e192, if_pos u1]
    · rw [if_pos u1, if_pos (by omega), e192, if_neg u1]
  by_cases o1 : o = -1
  · rw [if_neg (fun z => z o1)]
    exact e174 0 (by rw [if_pos o1])
  · rw [if_pos o1]
    unfold T_aType_168
    rw [if_pos (by omega), g]
    exact e174 _ (by rw [if_neg o1])
/-- A TYPE, behind a fault -/
theorem t_aTypeW (T : TyW σ n) (ho : o = -1 ∨ (0 ≤ o ∧ o < 126000)) (hu : u = -1 ∨ (0 ≤ u ∧ u < 126000)) (h126 : n < 126000) : ∃ (t : Nat) (τ : tS) (n' : Nat), T_aType k w o u σ = some ((t : Int), τ) ∧ TyW τ n' ∧ t < n' ∧ tx σ n τ n' ∧ n' ≤ n + 1 ∧ fr [532] TYA σ τ := by
  obtain ⟨T1, T2, T5⟩ := T
  have hr := tyH_r k w o u
  have hh : (tyH k w o u).toNat < 4096 := by omega
  obtain ⟨l, c1, c2⟩ := T5 _ hh
  have eT : T_aType k w o u σ = (om_loop (T_aType_37s k w o u (tyH k w o u) σ) (ga σ 526 (tyH k w o u).toNat)).bind (Sum.elim (fun v1 => some (v1, σ)) (fun v1 => if 0 ≤ gs σ 532 ∧ gs σ 532 < 126000 then (if o ≠ (-1) then T_aType_168 k o u (tyH k w o u) (gs σ 532) (gs σ 532) 1 (ua (ua (ua (ua (us σ 532 (w32 ((gs σ 532) + 1))) 502 (gs σ 532).toNat k) 506 (gs σ 532).toNat w) 510 (gs σ 532).toNat o) 514 (gs σ 532).toNat u) else T_aType_174 k o u (tyH k w o u) (gs σ 532) (gs σ 532) 1 0 (ua (ua (ua (ua (us σ 532 (w32 ((gs σ 532) + 1))) 502 (gs σ 532).toNat k) 506 (gs σ 532).toNat w) 510 (gs σ 532).toNat o) 514 (gs σ 532).toNat u)) else none)) := by
    unfold T_aType
    exact if_pos hr
  rcases ty_find (k := k) (w := w) (o := o) (u := u) (hh := tyH k w o u) c1 with ⟨t, m, f, e⟩ | ⟨m, e⟩
  · exact ⟨t, σ, n, by rw [eT, e]; rfl, ⟨T1, T2, T5⟩, c2 t m, tx_refl _ _, by omega, fr_refl _ _ _⟩
  · have eN := aType_newW (w := w) T1 h126 ho hu (tyH k w o u) hr (k := k)
    obtain ⟨⟨a1, a2, a3, a4, a5, a6, a7, a8⟩, b1, b2, b3, b4, b5⟩ := tyN_ga (σ := σ) (n := n) (k := k) (w := w) (o := o) (u := u) (tyH k w o u)
    refine ⟨n, tyN σ n k w o u (tyH k w o u), n + 1, by rw [eT, e]; exact eN, ⟨?_, by omega, fun hv hlt => ?_⟩, by omega, ⟨by omega, fun f hf c x hx => b1 f x c (by omega)⟩, by omega, ⟨fun f hf => b4 f (by simpa using hf), fun f hf x => b3 f hf x⟩⟩
    · rw [b5, w32_s (by omega) (by omega)]; rfl
    · by_cases q : hv = (tyH k w o u).toNat
      · refine ⟨n :: l, ⟨by rw [q, a8], ⟨by omega, fun x hx => c2 x hx⟩, ?_⟩, fun t ht => ?_⟩
        · rw [a7]
          exact chT_keep c1 (fun t ht => b1 522 t (by decide) (by have := c2 t ht; omega))
        · rcases List.mem_cons.mp ht with e | e
          · omega
          · have := c2 t e; omega
      · obtain ⟨l', d1, d2⟩ := T5 hv hlt
        refine ⟨l', ?_, fun t ht => by have := d2 t ht; omega⟩
        rw [b2 hv q]
        exact chT_keep d1 (fun t ht => b1 522 t (by decide) (by have := d2 t ht; omega))
end LTW
