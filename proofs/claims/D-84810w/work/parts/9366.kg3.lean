set_option maxRecDepth 100000
/-! ONE OUT OF THE POOL, as a step -/
section LKI
variable {G : om_G} {N : List (List Int)} {cl : Nat → Nat} {tb l0 : Nat} {rest : List (Nat × List Nat)} {Sl : Nat → Prop} {h h1 : om_H} {us fs : List Nat} {Dk Dk1 : Nat → Prop} {ds ds1 : List Nat} {dm z u : Nat}
theorem KG_pl (T : TB G h N cl tb us fs rest) (k9 : kd h l0 = 9 ∧ l0 < hz h) (P : PoolC G h tb Sl Dk ds dm) (hl : ∀ a, Sl a → kd h a = 42) (X : hT (DPl h tb ds dm) h h1) (tb1 : (∀ f, f ≠ 140 → fI h1 f tb = fI h f tb) ∧ ∀ f, fR h1 f tb = fR h f tb) (kp : ∀ X a, tyC h N cl (UU us rest) X a → tyC h1 N cl (UU us rest) X a) (R : hz h1 ≤ hz h + z ∧ hu h1 + 4 * lc h (fR h 138 tb) ≤ hu h + u + 4 * lc h1 (fR h 138 tb)) (D1 : ds1 = ds ∨ (dm = ds.length ∧ ds1 = ds ++ [hz h])) (D2 : ∀ y, Dk y → Dk1 y) (D3 : ∀ y, Dk1 y → Dk y ∨ hz h ≤ y) : KG N cl tb l0 rest Sl h us fs Dk ds dm h1 us fs Dk1 ds1 (dm + 1) 0 z u := by
  have t3 := (TB_3 T).1
  have k42 := P.1.1.2.1
  have mem : ∀ y, y ∈ ds.drop dm → Dk y := fun y hy => P.2.2.2.2.1 y (List.mem_of_mem_drop hy)
  have kD : ∀ y, DPl h tb ds dm y → (kd h y = 3 ∨ kd h y = 36 ∨ kd h y = 42) ∧ ¬ Sl y ∧ y ≠ fR h 122 tb := fun y w => by
    have k122 := T.2.1.1.2.1
    rcases w with w | w | w | ⟨d, m, n, w⟩
    · rw [w]
      exact ⟨.inl t3, fun s => (by have := hl _ s; omega), fun e => by rw [← e, t3] at k122; omega⟩
    · rw [w]; exact ⟨.inr (.inr k42), P.1.2.1, P.1.2.2⟩
    · have k := (P.2.2.2.2.2.1 y (mem y w)).1.2.2
      exact ⟨.inr (.inl k), fun s => (by have := hl _ s; omega), fun e => by rw [← e, k] at k122; omega⟩
    · obtain ⟨_, w3, w4⟩ := P.2.2.2.2.2.1 d (mem d m)
      rcases w with w | w
      · have l := w3.resolve_left (by rw [← w]; exact n)
        rw [w]; exact ⟨.inr (.inr l.1.2), l.2.2.1, l.2.2.2.2⟩
      · have l := w4.resolve_left (by rw [← w]; exact n)
        rw [w]; exact ⟨.inr (.inr l.1.2), l.2.2.1, l.2.2.2.2⟩
  have e0 : eqA l0 h h1 := X.2.2.2 l0 k9.2 (fun w => by have := (kD _ w).1; omega)
  have e122 : eqA (fR h 122 tb) h h1 := X.2.2.2 _ T.2.1.1.1 (fun w => (kD _ w).2.2 rfl)
  have FO : frO tb l0 h fs Dk h1 := fun a ha c3 _ _ _ c36 ck => X.2.2.2 a ha (fun w => by
    have k := (kD a w).1
    rcases w with w | w | w | ⟨d, m, n, w⟩
    · exact c3 (by rw [w]; exact t3) w
    · rw [← w] at k42; omega
    · exact c36 (P.2.2.2.2.2.1 a (mem a w)).1.2.2 (mem a w)
    · obtain ⟨_, w3, w4⟩ := P.2.2.2.2.2.1 d (mem d m)
      rcases w with w | w
      · have l := (w3.resolve_left (by rw [← w]; exact n)).1.2
        rw [← w] at l; omega
      · have l := (w4.resolve_left (by rw [← w]; exact n)).1.2
        rw [← w] at l; omega)
  refine ⟨hS_hT X (fun a _ w => ?_), fun a L => Dlv_pl t3 P X L, ⟨D2, D3, by omega, ?_⟩, ⟨[], by simp, by simp⟩, ⟨fun y hy => .inl hy, FO⟩, by omega, ⟨fun f _ _ h3 => tb1.1 f h3, tb1.2⟩, ⟨fun f _ _ => e0.2.1 f, e0.2.2.1⟩, kp, by omega, by omega, by omega, by rw [e122.2.2.2.2.2.2.2]; omega⟩
  · have k := (kD a w).1
    refine ⟨fun m => ?_, by omega, by omega, by omega, (kD a w).2.1⟩
    simp only [List.mem_cons, List.not_mem_nil, or_false] at m
    omega
  · rcases D1 with e | ⟨_, e⟩
    · exact ⟨[], by rw [e, List.append_nil], fun _ q => absurd q List.not_mem_nil⟩
    · exact ⟨[hz h], e, fun y q => by rw [List.mem_singleton.mp q]; exact Nat.le_refl _⟩
end LKI
