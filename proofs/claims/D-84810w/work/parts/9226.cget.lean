set_option maxRecDepth 100000
/-! THE COMPONENT'S Table.get -/
theorem v_add2 {G : om_G} {h : om_H} {L x : Nat} (O : okV G h L) (hx' : objY G h x) (hn : (ll h L).length ≤ 149990) : P_J2_add G L x h = some (1, addL h L x) ∧ hxL L h (addL h L x) ∧ okV G (addL h L x) L ∧ ll (addL h L x) L = ll h L ++ [x] ∧ hz (addL h L x) ≤ hz h + 1 ∧ hu (addL h L x) + 4 * lc h L ≤ hu h + 4 * lc (addL h L x) L := by
  have O1 := okV_okL O
  have ad : P_J2_add G L x h = some (1, addL h L x) := by
    unfold P_J2_add
    exact gd_pos ⟨O1.1, O1.2.1, by have := O1.2.2.1; omega, objY_obj hx', O1.2.2.2⟩
  obtain ⟨a1, a2, a3, a4, a5, a6, a7⟩ := addL_room h L x O1.2.1 O1.2.2.1
  have k1 : ∀ a, kd (addL h L x) a = kd h a := fun a => addL_kd _ _ _ _ O1.1
  have l1 : ll (addL h L x) L = ll h L ++ [x] := by rw [addL_ll _ _ _ _ O1.2.1, if_pos rfl]
  refine ⟨ad, ⟨a4, a6, fun a _ => k1 a, fun f a _ => addL_fI _ _ _ _ _, fun f a _ => addL_fR _ _ _ _ _, fun a _ => addL_an _ _ _ _, fun a i _ => addL_aI _ _ _ _ _, fun a i _ => addL_aR _ _ _ _ _, fun a _ c => by rw [addL_ll _ _ _ _ O1.2.1, if_neg c], fun a _ c => addL_lc _ _ _ _ c⟩, ⟨by have := O.1; omega, by rw [k1]; exact O.2.1, by rw [l1]; simp; omega, by rw [l1]; simp; omega, ?_⟩, l1, a5, a7⟩
  intro y hy
  rw [l1] at hy
  rcases List.mem_append.mp hy with hy | hy
  · exact objY_mono a4 (fun a _ => k1 a) (O.2.2.2.2 y hy)
  · simp at hy; rw [hy]; exact objY_mono a4 (fun a _ => k1 a) hx'
/-- the types in the tables -/
def UU (us : List Nat) (rest : List (Nat × List Nat)) (y : Nat) : Prop := y ∈ us ∨ ∃ p ∈ rest, y ∈ p.2
/-- the pool of a table: those in use, those that are free -/
def PT (G : om_G) (h : om_H) (tb : Nat) (us fs : List Nat) : Prop := okV G h (fR h 122 tb) ∧ ll h (fR h 122 tb) = us ++ fs ∧ (us ++ fs).Nodup ∧ fI h 124 tb = (us.length : Int) ∧ ∀ x ∈ us ++ fs, kd h x = 34 ∧ x ≠ 0 ∧ x < hz h
/-- a table with what is behind it -/
def TB (G : om_G) (h : om_H) (N : List (List Int)) (cl : Nat → Nat) (tb : Nat) (us fs : List Nat) (rest : List (Nat × List Nat)) : Prop := CTs h N cl (UU us rest) ((tb, us) :: rest) tb ∧ PT G h tb us fs ∧ cOne h N cl (UU us rest) ∧ (∀ p ∈ rest, p.1 ≠ tb ∧ fR h 134 p.1 ≠ fR h 134 tb ∧ ∀ x ∈ p.2, x ∉ fs) ∧ rest.length ≤ 3
/-- what a table may write -/
def DT (h : om_H) (tb : Nat) (fs : List Nat) (y : Nat) : Prop := y = tb ∨ y = fR h 122 tb ∨ y = fR h 134 tb ∨ y ∈ fs
section LG1
variable {G : om_G} {h h' : om_H} {N : List (List Int)} {cl : Nat → Nat} {k w : Nat} {con : Int} {nm fam a b tb : Nat} {l r : Ty} {us fs : List Nat} {rest : List (Nat × List Nat)}
theorem CTs_mem {U : Nat → Prop} : ∀ {ps : List (Nat × List Nat)} {a : Nat}, CTs h N cl U ps a → ∀ p ∈ ps, CT1 h N cl U p.1 p.2
  | [], _, _, p, hp => by cases hp
  | p :: q, a, ⟨_, c2, c3⟩, p', hp' => by
    rcases List.mem_cons.mp hp' with rfl | hp'
    · exact c2
    · exact CTs_mem c3 p' hp'
theorem TB_tree (T : TB G h N cl tb us fs rest) {y : Nat} (hy : UU us rest y) : ∃ T, tyC h N cl (UU us rest) T y := by
  rcases hy with hy | ⟨p, hp, hy⟩
  · exact ((CTs_mem T.1 _ List.mem_cons_self).2.2.2 y hy).2
  · exact ((CTs_mem T.1 _ (List.mem_cons_of_mem _ hp)).2.2.2 y hy).2
theorem TB_U34 (T : TB G h N cl tb us fs rest) {y : Nat} (hy : UU us rest y) : kd h y = 34 ∧ y ≠ 0 ∧ y < hz h ∧ y ∉ fs := by
  have nf : y ∉ fs := by
    rcases hy with hy | ⟨p, hp, hy⟩
    · intro z
      have := List.nodup_append.mp T.2.1.2.2.1
      exact this.2.2 y hy y z rfl
    · exact (T.2.2.2.1 p hp).2.2 y hy
  have hy0 : y ≠ 0 := by
    rcases hy with hy | ⟨p, hp, hy⟩
    · exact (T.2.1.2.2.2.2 y (List.mem_append_left _ hy)).2.1
    · obtain ⟨T', c⟩ := ((CTs_mem T.1 _ (List.mem_cons_of_mem _ hp)).2.2.2 y hy).2
      intro z
      have uu := ((CTs_mem T.1 _ (List.mem_cons_of_mem _ hp)).2.2.1)
      have r := and32_1023 (fI h 1568 y)
      obtain ⟨q, q1, q2⟩ := uu (and32 (fI h 1568 y) 1023).toNat (by omega)
      have ym := (q2 y).mpr ⟨hy, by omega⟩
      exact chC_ne q1 y ym z
  obtain ⟨T', c⟩ := TB_tree T hy
  rcases T' with ⟨k', w', u', l', r'⟩ | _
  · exact ⟨c.2.1, hy0, c.1.2.2, nf⟩
  · exact absurd c hy0
where chC_ne : ∀ {a : Nat} {q : List Nat}, chC h a q → ∀ y ∈ q, y ≠ 0
  | _, [], _, y, hy => by cases hy
  | _, x :: q, ⟨_, c2, _, c4⟩, y, hy => by
    rcases List.mem_cons.mp hy with rfl | hy
    · exact c2
    · exact chC_ne c4 y hy
/-- kept: a table of another -/
theorem CT1_keep {U U' D : Nat → Prop} {tb : Nat} {us : List Nat} (C : CT1 h N cl U tb us) (X : hT D h h') (d : dOK D h h') (dU : ∀ a, U a → ¬ D a) (sU : ∀ a, U a → U' a) (d1 : ¬ D tb) (d2 : ¬ D (fR h 134 tb)) : CT1 h' N cl U' tb us := by
  obtain ⟨c1, c2, c3, c4⟩ := C
  have e1 := X.2.2.2 tb c1.2.1 d1
  have e2 := X.2.2.2 _ c2.1 d2
  have eu : ∀ x ∈ us, x ≠ 0 → eqA x h h' := fun x hx x0 => by
    obtain ⟨u, T, c⟩ := c4 x hx
    rcases T with ⟨k', w', u', l', r'⟩ | _
    · exact X.2.2.2 x c.1.2.2 (dU x u)
    · exact absurd c x0
  refine ⟨⟨c1.1, Nat.lt_of_lt_of_le c1.2.1 X.1, by rw [e1.1]; exact c1.2.2⟩, ⟨by rw [e1.2.2.1]; exact Nat.lt_of_lt_of_le c2.1 X.1, by rw [e1.2.2.1, e2.1]; exact c2.2.1, by rw [e1.2.2.1, e2.2.2.2.1]; exact c2.2.2⟩, fun hh hlt => ?_, fun x hx => ?_⟩
  · obtain ⟨q, q1, q2⟩ := c3 hh hlt
    have q0 := TB_U34.chC_ne q1
    refine ⟨q, ?_, fun x => ?_⟩
    · rw [e1.2.2.1, e2.2.2.2.2.2.1]
      exact chC_keep q1 (fun x hx => by have := eu x ((q2 x).mp hx).1 (q0 x hx); exact ⟨this.1, this.2.2.1 1594⟩)
    · rw [q2 x]
      by_cases x0 : x = 0
      · constructor
        · intro z
          exact absurd x0 (q0 x ((q2 x).mpr z))
        · intro z
          obtain ⟨u, T, c⟩ := c4 x z.1
          have r := and32_1023 (fI h 1568 x)
          obtain ⟨q', q1', q2'⟩ := c3 (and32 (fI h 1568 x) 1023).toNat (by omega)
          exact absurd x0 (TB_U34.chC_ne q1' x ((q2' x).mpr ⟨z.1, by omega⟩))
      · constructor
        · intro z; rw [(eu x z.1 x0).2.1]; exact z
        · intro z; rw [(eu x z.1 x0).2.1] at z; exact z
  · obtain ⟨u, T, c⟩ := c4 x hx
    exact ⟨sU x u, T, tyC_hT X d dU sU (fun _ _ z => z) c⟩
theorem CTs_keep {U U' D : Nat → Prop} (X : hT D h h') (d : dOK D h h') (dU : ∀ a, U a → ¬ D a) (sU : ∀ a, U a → U' a) : ∀ {ps : List (Nat × List Nat)} {a : Nat}, CTs h N cl U ps a → (∀ p ∈ ps, ¬ D p.1 ∧ ¬ D (fR h 134 p.1)) → CTs h' N cl U' ps a
  | [], _, c, _ => c
  | p :: q, a, ⟨c1, c2, c3⟩, nd => by
    have n := nd p List.mem_cons_self
    have e1 := X.2.2.2 p.1 c2.1.2.1 n.1
    refine ⟨c1, CT1_keep c2 X d dU sU n.1 n.2, ?_⟩
    rw [e1.2.2.1]
    exact CTs_keep X d dU sU c3 (fun p hp => nd p (List.mem_cons_of_mem _ hp))
end LG1
