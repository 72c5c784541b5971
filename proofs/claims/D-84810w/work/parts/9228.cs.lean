set_option maxRecDepth 100000
/-! WHAT THE COMPONENT'S TABLES GO THROUGH -/
section LCS
variable {G : om_G} {h h' h1 h2 : om_H} {N : List (List Int)} {cl : Nat → Nat} {k w : Nat} {con : Int} {nm fam a b tb x : Nat} {l r : Ty} {us fs us' fs' us1 fs1 us2 fs2 : List Nat} {rest : List (Nat × List Nat)} {P P' : Nat → Prop} {q z u q' z' u' : Nat}
theorem okV_hT {L : Nat} (O : okV G h L) (X : hT P h h') (nP : ¬ P L) : okV G h' L := by
  have e := X.2.2.2 L O.1 nP
  exact ⟨Nat.lt_of_lt_of_le O.1 X.1, by rw [e.1]; exact O.2.1, by rw [e.2.2.2.2.2.2.1, e.2.2.2.2.2.2.2]; exact O.2.2.1, by rw [e.2.2.2.2.2.2.1, e.2.2.2.2.2.2.2]; exact O.2.2.2.1, fun y hy => by rw [e.2.2.2.2.2.2.1] at hy; exact objY_mono X.1 X.2.2.1 (O.2.2.2.2 y hy)⟩
/-- a table when something else is written -/
theorem TB_hT (T : TB G h N cl tb us fs rest) (hN : ndN N) (X : hT P h h') (pk : ∀ y, P y → y < hz h → kd h y ≠ 3 ∧ kd h y ≠ 34 ∧ kd h y ≠ 56 ∧ y ≠ fR h 122 tb) (d : dOK P h h') : TB G h' N cl tb us fs rest := by
  obtain ⟨⟨_, ⟨c1, c2, c3, c4⟩, c5⟩, ⟨p1, p2, p3, p4, p5⟩, o1, r1, r2⟩ := id T
  simp only at c1 c2 c3 c4 c5
  have ntb : ¬ P tb := fun z => (pk tb z c1.2.1).1 c1.2.2
  have nL : ¬ P (fR h 122 tb) := fun z => (pk _ z p1.1).2.2.2 rfl
  have etb := X.2.2.2 tb c1.2.1 ntb
  have eL := X.2.2.2 _ p1.1 nL
  have dU : ∀ y, UU us rest y → ¬ P y := fun y hy q => by
    have u := TB_U34 T hy
    exact (pk y q u.2.2.1).2.1 u.1
  have keep : ∀ {T' : Ty} {y : Nat}, tyC h N cl (UU us rest) T' y → tyC h' N cl (UU us rest) T' y := fun c => tyC_hT X d dU (fun y hy => hy) (fun _ _ z => z) c
  refine ⟨CTs_keep X d dU (fun y hy => hy) T.1 (fun p hp => ?_), ⟨?_, ?_, p3, ?_, ?_⟩, cOne_keep hN (fun y hy => TB_tree T hy) keep o1, ?_, r2⟩
  · obtain ⟨t1, t2, _, _⟩ := CTs_mem T.1 p hp
    exact ⟨fun q => (pk _ q t1.2.1).1 t1.2.2, fun q => (pk _ q t2.1).2.2.1 t2.2.1⟩
  · rw [etb.2.2.1]; exact okV_hT p1 X nL
  · rw [etb.2.2.1, eL.2.2.2.2.2.2.1]; exact p2
  · rw [etb.2.1]; exact p4
  · intro y hy
    have := p5 y hy
    exact ⟨by rw [X.2.2.1 y this.2.2]; exact this.1, this.2.1, Nat.lt_of_lt_of_le this.2.2 X.1⟩
  · intro p hp
    obtain ⟨s1, s2, s3⟩ := r1 p hp
    obtain ⟨t1, t2, _, _⟩ := CTs_mem c5 p hp
    have e1 := X.2.2.2 p.1 t1.2.1 (fun q => (pk _ q t1.2.1).1 t1.2.2)
    exact ⟨s1, by rw [e1.2.2.1, etb.2.2.1]; exact s2, s3⟩
/-- how full a table is: what is in use counts (the pool alone must not be too big) -/
def tl (us fs : List Nat) : Nat := us.length + (if (us ++ fs).length ≤ 149990 then 0 else 1000000)
theorem tl_0 (h : fs.length ≤ 149990) : tl [] fs = 0 := by
  unfold tl
  rw [if_pos (by simpa using h)]; rfl
theorem tl_tot (h : tl us fs ≤ 149000) : (us ++ fs).length ≤ 149990 ∧ us.length ≤ 149000 := by
  unfold tl at h
  split at h <;> omega
theorem tl_step (h : tl us fs ≤ 149000) (h1 : us'.length ≤ us.length + q) (h2 : (us' ++ fs').length ≤ max (us ++ fs).length us'.length) (hq : q ≤ 900) : tl us' fs' ≤ tl us fs + q := by
  have := tl_tot h
  unfold tl
  rw [if_pos (by omega), if_pos (by omega)]
  omega
/-- the pool: new objects alone when those of the pool do not do -/
def CPl (tb : Nat) (h : om_H) (us fs : List Nat) (h' : om_H) (us' fs' : List Nat) (z u : Nat) : Prop := (us' ++ fs').length ≤ max (us ++ fs).length us'.length ∧ (us ++ fs).length ≤ (us' ++ fs').length ∧ hz h' + 2 * (us ++ fs).length ≤ hz h + 2 * (us' ++ fs').length + z ∧ hu h' + 4 * lc h (fR h 122 tb) + 10 * (us ++ fs).length ≤ hu h + 10 * (us' ++ fs').length + u + 4 * lc h' (fR h 122 tb)
/-- what is done to a table and besides (P), with q new types at most -/
def CS (P : Nat → Prop) (N : List (List Int)) (cl : Nat → Nat) (tb : Nat) (rest : List (Nat × List Nat)) (h : om_H) (us fs : List Nat) (h' : om_H) (us' fs' : List Nat) (q z u : Nat) : Prop :=
  hT (fun y => DT h tb fs y ∨ P y) h h' ∧ (∃ d, us' = us ++ d ∧ d.length ≤ q) ∧ (∀ y ∈ fs', y ∈ fs ∨ hz h ≤ y) ∧ tl us' fs' ≤ tl us fs + q ∧ ((∀ f, f ≠ 124 → fI h' f tb = fI h f tb) ∧ ∀ f, fR h' f tb = fR h f tb) ∧ (∀ T a, tyC h N cl (UU us rest) T a → tyC h' N cl (UU us' rest) T a) ∧ hz h' ≤ hz h + 2 * q + z ∧ hu h' + 4 * lc h (fR h 122 tb) ≤ hu h + 10 * q + u + 4 * lc h' (fR h 122 tb) ∧ CPl tb h us fs h' us' fs' z u
theorem CS_refl : CS P N cl tb rest h us fs h us fs q z u := ⟨hT_refl _ h, ⟨[], by simp, by simp⟩, fun y hy => .inl hy, by omega, ⟨fun _ _ => rfl, fun _ => rfl⟩, fun _ _ c => c, by omega, by omega, by omega, by omega, by omega, by omega⟩
theorem CS_le (A : CS P N cl tb rest h us fs h' us' fs' q z u) (h1 : q ≤ q') (h2 : z ≤ z') (h3 : u ≤ u') : CS P N cl tb rest h us fs h' us' fs' q' z' u' := by
  obtain ⟨a1, ⟨d, a2, a2'⟩, a3, a4, a5, a6, a7, a8, p1, p2, p3, p4⟩ := A
  exact ⟨a1, ⟨d, a2, by omega⟩, a3, by omega, a5, a6, by omega, by omega, p1, p2, by omega, by omega⟩
theorem CS_mono (A : CS P N cl tb rest h us fs h' us' fs' q z u) (s : ∀ y, y < hz h → P y → P' y) : CS P' N cl tb rest h us fs h' us' fs' q z u := by
  obtain ⟨a1, a2⟩ := A
  refine ⟨hT_mono a1 (fun y hy z => ?_), a2⟩
  rcases z with z | z
  · exact .inl z
  · exact .inr (s y hy z)
theorem CS_trans (A : CS P N cl tb rest h us fs h1 us1 fs1 q z u) (B : CS P' N cl tb rest h1 us1 fs1 h2 us2 fs2 q' z' u') (s : ∀ y, y < hz h → P' y → P y) : CS P N cl tb rest h us fs h2 us2 fs2 (q + q') (z + z') (u + u') := by
  obtain ⟨a1, ⟨d, a2, a2'⟩, a3, a4, a5, a6, a7, a8, p1, p2, p3, p4⟩ := A
  obtain ⟨b1, ⟨e, b2, b2'⟩, b3, b4, b5, b6, b7, b8, q1, q2, q3, q4⟩ := B
  have hz' := a1.1
  refine ⟨hT_trans a1 b1 (fun y hy z => ?_), ⟨d ++ e, by rw [b2, a2, List.append_assoc], by rw [List.length_append]; omega⟩, fun y hy => ?_, by omega, ⟨fun f hf => (b5.1 f hf).trans (a5.1 f hf), fun f => (b5.2 f).trans (a5.2 f)⟩, fun T a c => b6 T a (a6 T a c), by omega, ?_, ?_, by omega, by omega, ?_⟩
  · rcases z with z | z
    · refine .inl ?_
      rcases z with z | z | z | z
      · exact .inl z
      · rw [a5.2] at z; exact .inr (.inl z)
      · rw [a5.2] at z; exact .inr (.inr (.inl z))
      · rcases a3 y z with z | z
        · exact .inr (.inr (.inr z))
        · omega
    · exact .inr (s y hy z)
  · rcases b3 y hy with z | z
    · exact a3 y z
    · exact .inr (by omega)
  · have e2 := a5.2 122
    rw [e2] at b8
    omega
  · have l2 : us1.length ≤ us2.length := by rw [b2, List.length_append]; omega
    omega
  · have e2 := a5.2 122
    rw [e2] at q4
    omega
theorem DT_kd (T : TB G h N cl tb us fs rest) {y : Nat} (hy : DT h tb fs y) : kd h y = 3 ∨ kd h y = 42 ∨ kd h y = 56 ∨ kd h y = 34 := by
  obtain ⟨⟨_, ⟨c1, c2, c3, c4⟩, c5⟩, ⟨p1, p2, p3, p4, p5⟩, _⟩ := id T
  simp only at c1 c2
  rcases hy with z | z | z | z
  · rw [z]; exact .inl c1.2.2
  · rw [z]; exact .inr (.inl p1.2.1)
  · rw [z]; exact .inr (.inr (.inl c2.2.1))
  · exact .inr (.inr (.inr (p5 y (List.mem_append_right _ z)).1))
theorem DT_ok (T : TB G h N cl tb us fs rest) : dOK (DT h tb fs) h h' := fun y hy => by
  have k3 := DT_kd T hy
  exact ⟨by omega, by omega, fun z => by omega⟩
theorem DT_U (T : TB G h N cl tb us fs rest) : ∀ y, UU us rest y → ¬ DT h tb fs y := fun y hy q => by
  obtain ⟨⟨_, ⟨c1, c2, c3, c4⟩, c5⟩, ⟨p1, p2, p3, p4, p5⟩, _⟩ := id T
  simp only at c1 c2
  obtain ⟨u1, u2, u3, u4⟩ := TB_U34 T hy
  rcases q with z | z | z | z
  · rw [z, c1.2.2] at u1; omega
  · rw [z, p1.2.1] at u1; omega
  · rw [z, c2.2.1] at u1; omega
  · exact u4 z
/-- Table.get, as a step -/
theorem c_getS (T : TB G h N cl tb us fs rest) (hN : ndN N) (W : tyW h N cl k w con nm fam) (A : tyC h N cl (UU us rest) l a) (B : tyC h N cl (UU us rest) r b) (hn : tl us fs ≤ 149000) : ∃ x h' us' fs', C_2_get G tb (k : Int) con nm fam a b h = some (x, h') ∧ TB G h' N cl tb us' fs' rest ∧ CS (fun _ => False) N cl tb rest h us fs h' us' fs' 1 0 0 ∧ tyC h' N cl (UU us' rest) (tnd k w l r) x ∧ ((∃ y, tyC h N cl (UU us rest) (tnd k w l r) y) → h' = h ∧ us' = us ∧ fs' = fs) := by
  rcases c_getT T hN W A B (tl_tot hn).1 with ⟨x, e1, e2⟩ | ⟨np, x, h', fs', e1, e2, e3, e4, e5, e6, e7, e8, e9⟩
  · exact ⟨x, h, us, fs, e1, T, CS_refl, e2, fun _ => ⟨rfl, rfl, rfl⟩⟩
  · refine ⟨x, h', us ++ [x], fs', e1, e2, ⟨hT_mono e4 (fun y _ z => .inl z), ⟨[x], rfl, by simp⟩, fun y hy => ?_, ?_, ⟨e6, e7⟩, fun T' y c => tyC_hT e4 (DT_ok T) (DT_U T) (fun y hy => UU_more hy) (fun _ _ z => z) c, by omega, by omega, ?_⟩, e3, fun ⟨y, c⟩ => absurd c (np y)⟩
    · rcases e5 with e5 | e5
      · exact .inl (by rw [e5.1]; exact List.mem_cons_of_mem _ hy)
      · rw [e5.2.1] at hy; cases hy
    · refine tl_step hn (by simp) ?_ (by omega)
      rcases e5 with e5 | e5
      · rw [e5.1]; simp
      · rw [e5.1, e5.2.1]; simp
    · rcases e5 with e5 | e5
      · have l1 : (us ++ [x] ++ fs').length = (us ++ fs).length := by rw [e5.1]; simp
        unfold CPl
        rw [l1, e5.2.1]
        exact ⟨by omega, by omega, by omega, by omega⟩
      · have l1 : (us ++ [x] ++ fs').length = (us ++ fs).length + 1 := by rw [e5.1, e5.2.1]; simp
        have l2 : (us ++ fs).length = us.length := by rw [e5.1]; simp
        unfold CPl
        rw [l1, List.length_append (as := us) (bs := [x]), List.length_singleton]
        exact ⟨by omega, by omega, by omega, by omega⟩
/-- something else is written -/
theorem CS_write (T : TB G h N cl tb us fs rest) (X : hT P h h') (pk : ∀ y, P y → y < hz h → kd h y ≠ 3 ∧ kd h y ≠ 34 ∧ kd h y ≠ 56 ∧ y ≠ fR h 122 tb) (d : dOK P h h') (hz1 : hz h' ≤ hz h + z) (hu1 : hu h' ≤ hu h + u) : CS P N cl tb rest h us fs h' us fs 0 z u := by
  obtain ⟨⟨_, ⟨c1, c2, c3, c4⟩, c5⟩, ⟨p1, p2, p3, p4, p5⟩, o1, r1, r2⟩ := id T
  simp only at c1 c2 c3 c4 c5
  have etb := X.2.2.2 tb c1.2.1 (fun z => (pk tb z c1.2.1).1 c1.2.2)
  have eL := X.2.2.2 _ p1.1 (fun z => (pk _ z p1.1).2.2.2 rfl)
  have dU : ∀ y, UU us rest y → ¬ P y := fun y hy q => by
    have u := TB_U34 T hy
    exact (pk y q u.2.2.1).2.1 u.1
  refine ⟨hT_mono X (fun y _ z => .inr z), ⟨[], by simp, by simp⟩, fun y hy => .inl hy, by omega, ⟨fun f _ => etb.2.1 f, etb.2.2.1⟩, fun T' y c => tyC_hT X d dU (fun y hy => hy) (fun _ _ z => z) c, by omega, ?_, by omega, by omega, by omega, ?_⟩ <;> (rw [eL.2.2.2.2.2.2.2]; omega)
theorem TB_3 (T : TB G h N cl tb us fs rest) : kd h tb = 3 ∧ tb ≠ 0 ∧ tb < hz h := ⟨T.1.2.1.1.2.2, T.1.2.1.1.1, T.1.2.1.1.2.1⟩
theorem c_arrow (T : kd h tb = 3) (e : C_2_get G tb 3 0 0 0 a b h = some (x, h')) : C_2_arrow G tb a b h = some (x, h') := by
  unfold C_2_arrow
  rw [gd_pos T, e]; rfl
theorem c_nameT (T : kd h tb = 3) (e : C_2_get G tb 0 0 nm 0 0 0 h = some (x, h')) : C_2_name G tb nm h = some (x, h') := by
  unfold C_2_name
  rw [gd_pos T, e]; rfl
theorem c_con (T : kd h tb = 3) (e : C_2_get G tb 1 con 0 0 a b h = some (x, h')) : C_2_con G tb con a b h = some (x, h') := by
  unfold C_2_con
  rw [gd_pos T, e]; rfl
theorem c_family (T : kd h tb = 3) (e : C_2_get G tb 2 0 0 fam a 0 h = some (x, h')) : C_2_family G tb fam a h = some (x, h') := by
  unfold C_2_family
  rw [gd_pos T, e]; rfl
end LCS
