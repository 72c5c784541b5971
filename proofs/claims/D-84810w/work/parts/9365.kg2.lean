set_option maxRecDepth 100000
/-! A STEP WITH DICTIONARIES, as a whole -/
/-- the pool's list and the table's list, as room -/
def rmG (tb : Nat) (h : om_H) (us fs : List Nat) (h' : om_H) (us' fs' : List Nat) (z u : Nat) : Prop := (us' ++ fs').length ≤ max (us ++ fs).length us'.length ∧ (us ++ fs).length ≤ (us' ++ fs').length ∧ hz h' + 2 * (us ++ fs).length ≤ hz h + 2 * (us' ++ fs').length + z ∧ hu h' + 4 * lc h (fR h 122 tb) + 4 * lc h (fR h 138 tb) + 10 * (us ++ fs).length ≤ hu h + 10 * (us' ++ fs').length + u + 4 * lc h' (fR h 122 tb) + 4 * lc h' (fR h 138 tb)
/-- all else stays: what is of no table, pool, given, ex -/
def frO (tb l0 : Nat) (h : om_H) (fs : List Nat) (Dk : Nat → Prop) (h' : om_H) : Prop := ∀ a, a < hz h → (kd h a = 3 → a ≠ tb) → (kd h a = 9 → a ≠ l0) → (kd h a = 34 → a ∉ fs) → (kd h a = 56 → a ≠ fR h 134 tb) → (kd h a = 36 → ¬ Dk a) → (kd h a < 22 ∨ (32 < kd h a ∧ kd h a ≠ 37 ∧ kd h a ≠ 38 ∧ kd h a ≠ 42 ∧ kd h a ≠ 57)) → eqA a h h'
theorem frO_trans {tb l0 : Nat} {h h1 h2 : om_H} {fs fs1 : List Nat} {Dk Dk1 : Nat → Prop} (hl : hz h ≤ hz h1) (kk : ∀ a, a < hz h → kd h1 a = kd h a) (f1 : ∀ y ∈ fs1, y ∈ fs ∨ hz h ≤ y) (d1 : ∀ y, Dk1 y → Dk y ∨ hz h ≤ y) (e : fR h1 134 tb = fR h 134 tb) (A : frO tb l0 h fs Dk h1) (B : frO tb l0 h1 fs1 Dk1 h2) : frO tb l0 h fs Dk h2 := fun a ha c3 c9 c34 c56 c36 ck => by
  have k := kk a ha
  refine eqA_trans (A a ha c3 c9 c34 c56 c36 ck) (B a (by omega) (fun w => c3 (by rw [← k]; exact w)) (fun w => c9 (by rw [← k]; exact w)) (fun w m => ?_) (fun w => ?_) (fun w m => ?_) (by rw [k]; exact ck))
  · rcases f1 a m with v | v
    · exact c34 (by rw [← k]; exact w) v
    · omega
  · rw [e]; exact c56 (by rw [← k]; exact w)
  · rcases d1 a m with v | v
    · exact c36 (by rw [← k]; exact w) v
    · omega
def KG (N : List (List Int)) (cl : Nat → Nat) (tb l0 : Nat) (rest : List (Nat × List Nat)) (Sl : Nat → Prop) (h : om_H) (us fs : List Nat) (Dk : Nat → Prop) (ds : List Nat) (dm : Nat) (h' : om_H) (us' fs' : List Nat) (Dk' : Nat → Prop) (ds' : List Nat) (dm' q z u : Nat) : Prop := hS Sl h h' ∧ (∀ a, Dlv h Dk ds dm a → a < hz h ∧ eqA a h h') ∧ dkG h Dk ds dm Dk' ds' dm' ∧ (∃ d, us' = us ++ d ∧ d.length ≤ q) ∧ ((∀ y ∈ fs', y ∈ fs ∨ hz h ≤ y) ∧ frO tb l0 h fs Dk h') ∧ tl us' fs' ≤ tl us fs + q ∧ ((∀ f, f ≠ 124 → f ≠ 128 → f ≠ 140 → fI h' f tb = fI h f tb) ∧ ∀ f, fR h' f tb = fR h f tb) ∧ ((∀ f, f ≠ 216 → f ≠ 220 → fI h' f l0 = fI h f l0) ∧ ∀ f, fR h' f l0 = fR h f l0) ∧ (∀ T a, tyC h N cl (UU us rest) T a → tyC h' N cl (UU us' rest) T a) ∧ rmG tb h us fs h' us' fs' z u
section LKH
variable {G : om_G} {N : List (List Int)} {cl : Nat → Nat} {tb l0 : Nat} {rest : List (Nat × List Nat)} {Sl : Nat → Prop} {h h1 h2 : om_H} {us fs us1 fs1 us2 fs2 : List Nat} {Dk Dk1 Dk2 : Nat → Prop} {ds ds1 ds2 : List Nat} {dm dm1 dm2 q z u q' z' u' : Nat}
theorem KG_trans (A : KG N cl tb l0 rest Sl h us fs Dk ds dm h1 us1 fs1 Dk1 ds1 dm1 q z u) (B : KG N cl tb l0 rest Sl h1 us1 fs1 Dk1 ds1 dm1 h2 us2 fs2 Dk2 ds2 dm2 q' z' u') : KG N cl tb l0 rest Sl h us fs Dk ds dm h2 us2 fs2 Dk2 ds2 dm2 (q + q') (z + z') (u + u') := by
  obtain ⟨a1, a0, ad, ⟨d, a2, a2'⟩, a3, a4, a5, a6, a7, p1, p2, p3, p4⟩ := A
  obtain ⟨b1, b0, bd, ⟨e, b2, b2'⟩, b3, b4, b5, b6, b7, q1, q2, q3, q4⟩ := B
  have hz' := a1.1
  refine ⟨hS_trans a1 b1, fun a L => ⟨(a0 a L).1, eqA_trans (a0 a L).2 (b0 a (Dlv_next ad a0 L)).2⟩, dkG_trans hz' ad bd, ⟨d ++ e, by rw [b2, a2, List.append_assoc], by rw [List.length_append]; omega⟩, ⟨fun y hy => ?_, frO_trans hz' a1.2.1 a3.1 ad.2.1 (a5.2 134) a3.2 b3.2⟩, by omega, ⟨fun f hf hf' hf2 => (b5.1 f hf hf' hf2).trans (a5.1 f hf hf' hf2), fun f => (b5.2 f).trans (a5.2 f)⟩, ⟨fun f hf hf' => (b6.1 f hf hf').trans (a6.1 f hf hf'), fun f => (b6.2 f).trans (a6.2 f)⟩, fun T a c => b7 T a (a7 T a c), ?_, by omega, by omega, ?_⟩
  · rcases b3.1 y hy with w | w
    · exact a3.1 y w
    · exact .inr (by omega)
  · have l2 : us1.length ≤ us2.length := by rw [b2, List.length_append]; omega
    omega
  · have e2 := a5.2 122
    have e3 := a5.2 138
    rw [e2, e3] at q4
    omega
theorem KG_le (A : KG N cl tb l0 rest Sl h us fs Dk ds dm h1 us1 fs1 Dk1 ds1 dm1 q z u) (h3 : q ≤ q') (h4 : z ≤ z') (h5 : u ≤ u') : KG N cl tb l0 rest Sl h us fs Dk ds dm h1 us1 fs1 Dk1 ds1 dm1 q' z' u' := by
  obtain ⟨a1, a0, ad, ⟨d, a2, a2'⟩, a3, a4, a5, a6, a7, p1, p2, p3, p4⟩ := A
  exact ⟨a1, a0, ad, ⟨d, a2, by omega⟩, a3, by omega, a5, a6, a7, p1, p2, by omega, by omega⟩
/-- types are worked out -/
theorem KG_KF (T : TB G h N cl tb us fs rest) (k9 : kd h l0 = 9) (P : PoolC G h tb Sl Dk ds dm) (nS : ¬ Sl (fR h 122 tb)) (hl : ∀ a, Sl a → kd h a = 42) (K : KF N cl tb l0 rest h us fs h1 us1 fs1 q z u) : KG N cl tb l0 rest Sl h us fs Dk ds dm h1 us1 fs1 Dk ds dm q z u := by
  have X := hS_KF T k9 K nS hl
  have P' := PoolC_KF T k9 K P
  have e138 : lc h1 (fR h 138 tb) = lc h (fR h 138 tb) := by
    refine (K.1.2.2.2 _ P.1.1.1 (fun w => ?_)).2.2.2.2.2.2.2
    have k42 := P.1.1.2.1
    rcases w with w | w
    · rcases w with w | w | w | w
      · rw [w, (TB_3 T).1] at k42; omega
      · exact P.1.2.2 w
      · have k2 := T.1.2.1.2.1.2.1
        rw [w, k2] at k42; omega
      · have := (T.2.1.2.2.2.2 _ (List.mem_append_right _ w)).1
        omega
    · rw [w, k9] at k42; omega
  have FO : frO tb l0 h fs Dk h1 := fun a ha c3 c9 c34 c56 c36 ck => K.1.2.2.2 a ha (fun w => by
    rcases w with w | w
    · rcases w with w | w | w | w
      · exact c3 (by rw [w]; exact (TB_3 T).1) w
      · have k42 := T.2.1.1.2.1
        rw [← w] at k42; omega
      · exact c56 (by rw [w]; exact T.1.2.1.2.1.2.1) w
      · exact c34 (T.2.1.2.2.2.2 a (List.mem_append_right _ w)).1 w
    · exact c9 (by rw [w]; exact k9) w)
  obtain ⟨a1, a2, a3, a4, a5, a6, a7, p1, p2, p3, p4⟩ := id K
  exact ⟨X, fun a L => Dlv_KF T k9 K P L, dkG_refl, a2, ⟨a3, FO⟩, a4, ⟨fun f h3 h4 _ => a5.1 f h3 h4, a5.2⟩, a6, a7, p1, p2, p3, by rw [e138]; omega⟩
end LKH
