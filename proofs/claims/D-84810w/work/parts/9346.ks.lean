set_option maxRecDepth 100000
/-! WHAT THE COMPONENT'S FINDER DOES to its table, and to itself -/
abbrev TBf : List Nat := [124, 1188, 1192, 1200, 1556, 1560, 1564, 1568, 1591]
/-- a finder's step -/
def KF (N : List (List Int)) (cl : Nat → Nat) (tb l0 : Nat) (rest : List (Nat × List Nat)) (h : om_H) (us fs : List Nat) (h' : om_H) (us' fs' : List Nat) (q z u : Nat) : Prop :=
  hT (fun y => DT h tb fs y ∨ y = l0) h h' ∧ (∃ d, us' = us ++ d ∧ d.length ≤ q) ∧ (∀ y ∈ fs', y ∈ fs ∨ hz h ≤ y) ∧ tl us' fs' ≤ tl us fs + q ∧ ((∀ f, f ≠ 124 → f ≠ 128 → fI h' f tb = fI h f tb) ∧ ∀ f, fR h' f tb = fR h f tb) ∧ ((∀ f, f ≠ 216 → f ≠ 220 → fI h' f l0 = fI h f l0) ∧ ∀ f, fR h' f l0 = fR h f l0) ∧ (∀ T a, tyC h N cl (UU us rest) T a → tyC h' N cl (UU us' rest) T a) ∧ CPl tb h us fs h' us' fs' z u
section LKF
variable {G : om_G} {h h' h1 h2 : om_H} {N : List (List Int)} {cl : Nat → Nat} {tb l0 : Nat} {us fs us' fs' us1 fs1 us2 fs2 : List Nat} {rest : List (Nat × List Nat)} {q z u q' z' u' : Nat}
theorem tyC_sI {f0 b : Nat} {x : Int} (hf : f0 ∉ TBf) {U : Nat → Prop} : ∀ {T : Ty} {a : Nat}, tyC (sI h f0 b x) N cl U T a ↔ tyC h N cl U T a
  | .leaf, _ => Iff.rfl
  | .inner k w u l r, a => by
    have e : ∀ g ∈ TBf, ∀ y, fI (sI h f0 b x) g y = fI h g y := fun g hg y => fI_ne (fun z => hf (z ▸ hg))
    have wbE : ∀ (y : Nat) (L : List Int), wb (sI h f0 b x) y L ↔ wb h y L := fun y L => by
      unfold wb
      rw [e 1192 (by decide), e 1188 (by decide)]
      exact Iff.rfl
    have wE : ∀ (con : Int) (nm fam : Nat), tyW (sI h f0 b x) N cl k w con nm fam ↔ tyW h N cl k w con nm fam := fun con nm fam => by
      unfold tyW
      simp only [wbE]
      rw [e 1200 (by decide)]
      exact Iff.rfl
    show ((U a ∧ a ≠ 0 ∧ a < hz h) ∧ kd h a = 34 ∧ fI (sI h f0 b x) 1556 a = (k : Int) ∧ tyW (sI h f0 b x) N cl k w (fI (sI h f0 b x) 1560 a) (fR h 1574 a) (fR h 1578 a) ∧ tyC (sI h f0 b x) N cl U l (fR h 1582 a) ∧ tyC (sI h f0 b x) N cl U r (fR h 1586 a) ∧ fI (sI h f0 b x) 1564 a = tszW (tnd k w l r) ∧ fI (sI h f0 b x) 1591 a = thI (tnd k w l r) ∧ tmk N (tnd k w l r) = some (fI (sI h f0 b x) 1568 a)) ↔ _
    rw [e 1556 (by decide), e 1560 (by decide), e 1564 (by decide), e 1591 (by decide), e 1568 (by decide), wE, tyC_sI hf, tyC_sI hf]
    exact Iff.rfl
theorem chC_sI {f0 b : Nat} {x : Int} : ∀ {a : Nat} {l : List Nat}, chC (sI h f0 b x) a l ↔ chC h a l
  | _, [] => Iff.rfl
  | a, y :: l => by
    show (a = y ∧ y ≠ 0 ∧ kd h y = 34 ∧ chC (sI h f0 b x) (fR h 1594 y) l) ↔ _
    rw [chC_sI]
    exact Iff.rfl
/-- the tables, when a field of no weight is written -/
theorem TB_sI {f0 b : Nat} {x : Int} (hf : f0 ∉ TBf) (T : TB G h N cl tb us fs rest) : TB G (sI h f0 b x) N cl tb us fs rest := by
  have e : ∀ g ∈ TBf, ∀ y, fI (sI h f0 b x) g y = fI h g y := fun g hg y => fI_ne (fun z => hf (z ▸ hg))
  obtain ⟨t1, ⟨p1, p2, p3, p4, p5⟩, t3, t4, t5⟩ := T
  have c1 : ∀ (t : Nat) (vs : List Nat), CT1 h N cl (UU us rest) t vs → CT1 (sI h f0 b x) N cl (UU us rest) t vs := fun t vs ⟨a1, a2, a3, a4⟩ => by
    refine ⟨a1, a2, fun hh hl => ?_, fun y hy => ?_⟩
    · obtain ⟨l, l1, l2⟩ := a3 hh hl
      exact ⟨l, chC_sI.mpr l1, fun y => by rw [e 1568 (by decide)]; exact l2 y⟩
    · obtain ⟨b1, T, b2⟩ := a4 y hy
      exact ⟨b1, T, (tyC_sI hf).mpr b2⟩
  have cs : ∀ (ps : List (Nat × List Nat)) (a : Nat), CTs h N cl (UU us rest) ps a → CTs (sI h f0 b x) N cl (UU us rest) ps a := fun ps => by
    induction ps with
    | nil => exact fun a h => h
    | cons p ps ih => exact fun a ⟨a1, a2, a3⟩ => ⟨a1, c1 _ _ a2, ih _ a3⟩
  refine ⟨cs _ _ t1, ⟨p1, p2, p3, by rw [e 124 (by decide)]; exact p4, p5⟩, fun T a b' c d => t3 T a b' ((tyC_sI hf).mp c) ((tyC_sI hf).mp d), t4, t5⟩
theorem KF_refl : KF N cl tb l0 rest h us fs h us fs q z u := ⟨hT_refl _ h, ⟨[], by simp, by simp⟩, fun y hy => .inl hy, by omega, ⟨fun _ _ _ => rfl, fun _ => rfl⟩, ⟨fun _ _ _ => rfl, fun _ => rfl⟩, fun _ _ c => c, by omega, by omega, by omega, by omega⟩
theorem KF_le (A : KF N cl tb l0 rest h us fs h' us' fs' q z u) (h1 : q ≤ q') (h2 : z ≤ z') (h3 : u ≤ u') : KF N cl tb l0 rest h us fs h' us' fs' q' z' u' := by
  obtain ⟨a1, ⟨d, a2, a2'⟩, a3, a4, a5, a6, a7, p1, p2, p3, p4⟩ := A
  exact ⟨a1, ⟨d, a2, by omega⟩, a3, by omega, a5, a6, a7, p1, p2, by omega, by omega⟩
theorem KF_trans (A : KF N cl tb l0 rest h us fs h1 us1 fs1 q z u) (B : KF N cl tb l0 rest h1 us1 fs1 h2 us2 fs2 q' z' u') : KF N cl tb l0 rest h us fs h2 us2 fs2 (q + q') (z + z') (u + u') := by
  obtain ⟨a1, ⟨d, a2, a2'⟩, a3, a4, a5, a6, a7, p1, p2, p3, p4⟩ := A
  obtain ⟨b1, ⟨e, b2, b2'⟩, b3, b4, b5, b6, b7, q1, q2, q3, q4⟩ := B
  have hz' := a1.1
  refine ⟨hT_trans a1 b1 (fun y hy z => ?_), ⟨d ++ e, by rw [b2, a2, List.append_assoc], by rw [List.length_append]; omega⟩, fun y hy => ?_, by omega, ⟨fun f hf hf' => (b5.1 f hf hf').trans (a5.1 f hf hf'), fun f => (b5.2 f).trans (a5.2 f)⟩, ⟨fun f hf hf' => (b6.1 f hf hf').trans (a6.1 f hf hf'), fun f => (b6.2 f).trans (a6.2 f)⟩, fun T a c => b7 T a (a7 T a c), ?_, by omega, by omega, ?_⟩
  · rcases z with z | z
    · refine .inl ?_
      rcases z with z | z | z | z
      · exact .inl z
      · rw [a5.2] at z; exact .inr (.inl z)
      · rw [a5.2] at z; exact .inr (.inr (.inl z))
      · rcases a3 y z with z | z
        · exact .inr (.inr (.inr z))
        · omega
    · exact .inr z
  · rcases b3 y hy with z | z
    · exact a3 y z
    · exact .inr (by omega)
  · have l2 : us1.length ≤ us2.length := by rw [b2, List.length_append]; omega
    omega
  · have e2 := a5.2 122
    rw [e2] at q4
    omega
theorem KF_CS (T : TB G h N cl tb us fs rest) (k9 : kd h l0 = 9 ∧ l0 < hz h) (C : CS (fun _ => False) N cl tb rest h us fs h' us' fs' q z u) : KF N cl tb l0 rest h us fs h' us' fs' q z u := by
  obtain ⟨a1, a2, a3, a4, a5, a6, a7, a8, a9⟩ := C
  have e := a1.2.2.2 l0 k9.2 (fun z => z.elim (fun z => by have := DT_kd T z; omega) id)
  exact ⟨hT_mono a1 (fun y _ z => z.elim .inl (fun z => z.elim)), a2, a3, a4, ⟨fun f h1 _ => a5.1 f h1, a5.2⟩, ⟨fun f _ _ => e.2.1 f, e.2.2.1⟩, a6, a9⟩
theorem CPl_same {a b : Nat} (h1 : hz h' ≤ hz h + a) (h2 : hu h' ≤ hu h + b) (h3 : lc h' (fR h 122 tb) = lc h (fR h 122 tb)) : CPl tb h us fs h' us fs a b := ⟨by omega, by omega, by omega, by rw [h3]; omega⟩
/-- the finder's own numbers -/
theorem KF_sI (k9 : kd h l0 = 9) (k3 : kd h tb = 3) {f0 : Nat} {x : Int} (hf : f0 = 216 ∨ f0 = 220) : KF N cl tb l0 rest h us fs (sI h f0 l0 x) us fs 0 0 0 := by
  have ne : tb ≠ l0 := fun z => by rw [z] at k3; omega
  refine ⟨hT_mono hT_sI (fun y _ z => .inr z), ⟨[], by simp, by simp⟩, fun y hy => .inl hy, by omega, ⟨fun f _ _ => fI_na ne, fun _ => rfl⟩, ⟨fun f h1 h2 => fI_ne (by omega), fun _ => rfl⟩, fun T a c => (tyC_sI (by rcases hf with e | e <;> rw [e] <;> decide)).mpr c, CPl_same (Nat.le_refl _) (Nat.le_refl _) rfl⟩
/-- the table's count -/
theorem KF_128 (k9 : kd h l0 = 9) (k3 : kd h tb = 3) {x : Int} : KF N cl tb l0 rest h us fs (sI h 128 tb x) us fs 0 0 0 := by
  have ne : l0 ≠ tb := fun z => by rw [← z] at k3; omega
  exact ⟨hT_mono hT_sI (fun y _ z => .inl (.inl z)), ⟨[], by simp, by simp⟩, fun y hy => .inl hy, by omega, ⟨fun f _ h2 => fI_ne h2, fun _ => rfl⟩, ⟨fun f h1 h2 => fI_na ne, fun _ => rfl⟩, fun T a c => (tyC_sI (by decide)).mpr c, CPl_same (Nat.le_refl _) (Nat.le_refl _) rfl⟩
/-- a Fault -/
theorem c_fault (T : TB G h N cl tb us fs rest) (nd : ndN N) (k9 : kd h l0 = 9 ∧ l0 < hz h) (k p : Int) : ∃ h', C_15_init G (hz h) k p (nO h 16 8) = some h' ∧ kd (nO h 16 8) (hz h) = 16 ∧ hz h ≠ 0 ∧ flt h' (hz h) k p ∧ TB G h' N cl tb us fs rest ∧ KF N cl tb l0 rest h us fs h' us fs 0 1 8 ∧ (∀ a, a < hz h → eqA a h h') := by
  have k2 : kd (nO h 16 8) (hz h) = 16 := by rw [kd_nO, if_pos rfl]
  have zr : ∀ f, fR (nO h 16 8) f (hz h) = 0 := fun f => by rw [fR_nO, if_pos rfl]
  have nz : hz h ≠ 0 := by omega
  have all : ∀ a, a < hz h → eqA a h (sI (sI (nO h 16 8) 1176 (hz h) k) 1180 (hz h) p) := fun a ha => by
    refine ⟨?_, fun f => ?_, fun f => ?_, ?_, fun i => ?_, fun i => ?_, ?_, ?_⟩
    · show kd (nO h 16 8) a = _
      rw [kd_nO, if_neg (by omega)]
    · rw [fI_na (by omega), fI_na (by omega), fI_nO, if_neg (by omega)]
    · show fR (nO h 16 8) f a = _
      rw [fR_nO, if_neg (by omega)]
    · rfl
    · rfl
    · rfl
    · rfl
    · rfl
  have X : hT (fun _ => False) h (sI (sI (nO h 16 8) 1176 (hz h) k) 1180 (hz h) p) := ⟨by show hz h ≤ hz h + 1; omega, by show hu h ≤ hu h + 8; omega, fun a ha => (all a ha).1, fun a ha _ => all a ha⟩
  have T' := TB_hT T nd X (fun _ z => z.elim) (fun _ z => z.elim)
  refine ⟨sI (sI (nO h 16 8) 1176 (hz h) k) 1180 (hz h) p, ?_, k2, nz, ⟨k2, ?_, ?_, nz⟩, T', KF_CS T k9 (CS_write T X (fun _ z => z.elim) (fun _ z => z.elim) (Nat.le_refl _) (Nat.le_refl _)), all⟩
  · unfold C_15_init P_J10_init
    rw [gd_pos k2, gd_pos ⟨k2, rfl, rfl, rfl, rfl, zr _, zr _, zr _, zr _⟩, Option.bind_some, gd_pos k2]
  · rw [fI_ne (by decide), fI_eq]
  · rw [fI_eq]
theorem hS_KF {Sl : Nat → Prop} (T : TB G h N cl tb us fs rest) (k9 : kd h l0 = 9) (C : KF N cl tb l0 rest h us fs h' us' fs' q z u) (nS : ¬ Sl (fR h 122 tb)) (hl : ∀ a, Sl a → kd h a = 42) : hS Sl h h' := by
  refine hS_hT C.1 (fun a ha z => ?_)
  rcases z with z | z
  · have k := DT_kd T z
    refine ⟨fun m => ?_, by omega, by omega, by omega, fun hs => ?_⟩
    · simp only [List.mem_cons, List.not_mem_nil, or_false] at m
      omega
    · have k42 := hl a hs
      rcases z with z | z | z | z
      · rw [z, (TB_3 T).1] at k42; omega
      · rw [z] at hs; exact nS hs
      · have k2 := T.1.2.1.2.1.2.1
        rw [z, k2] at k42; omega
      · have := (T.2.1.2.2.2.2 a (List.mem_append_right _ z)).1
        omega
  · rw [z, k9]
    exact ⟨by decide, by decide, by decide, by decide, fun hs => by have := hl _ hs; omega⟩
end LKF
