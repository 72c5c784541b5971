set_option maxRecDepth 100000
/-! THE COMPONENT: Table.dictionary -/
section LPN
variable {G : om_G} {h : om_H} {N : List (List Int)} {cl : Nat → Nat} {tb c dm : Nat} {us fs ds : List Nat} {rest : List (Nat × List Nat)} {Sl Dk : Nat → Prop}
/-- what may be written while one is taken out of the pool -/
def DPl (h : om_H) (tb : Nat) (ds : List Nat) (dm y : Nat) : Prop := y = tb ∨ y = fR h 138 tb ∨ y ∈ ds.drop dm ∨ ∃ d ∈ ds.drop dm, y ≠ 0 ∧ (y = fR h 1630 d ∨ y = fR h 1634 d)
/-- A DICTIONARY OUT OF THE TABLE -/
theorem c_dictC (nd : ndN N) (T : TB G h N cl tb us fs rest) (P : PoolC G h tb Sl Dk ds dm) (hsl : ∀ a, Sl a → a < hz h) (hl : ds.length < 50000) : ∃ d h' ds' Dk', C_2_dictionary G tb c h = some (d, h') ∧ TB G h' N cl tb us fs rest ∧ PoolC G h' tb Sl Dk' ds' (dm + 1) ∧ ((ds' = ds ∨ (dm = ds.length ∧ ds' = ds ++ [hz h])) ∧ (∀ y, Dk y → Dk' y) ∧ (∀ y, Dk' y → Dk y ∨ hz h ≤ y) ∧ ds'[dm]? = some d) ∧ (∀ X a, tyC h N cl (UU us rest) X a → tyC h' N cl (UU us rest) X a) ∧ hT (DPl h tb ds dm) h h' ∧ ((∀ f, f ≠ 140 → fI h' f tb = fI h f tb) ∧ ∀ f, fR h' f tb = fR h f tb) ∧ (hz h' + 2 * ds.length ≤ hz h + 2 * ds'.length ∧ hu h' + 4 * lc h (fR h 138 tb) + 8 * ds.length ≤ hu h + 8 * ds'.length + 4 * lc h' (fR h 138 tb)) ∧ (fR h' 1614 d = c ∧ fI h' 1616 d = -1 ∧ fR h' 1622 d = 0 ∧ fR h' 1626 d = 0 ∧ fR h' 1638 d = 0 ∧ fR h' 1642 d = 0) ∧ (∀ L, L ≠ 0 → L = fR h' 1630 d ∨ L = fR h' 1634 d → ll h' L = []) ∧ ∀ y, y < hz h → kd h y = 36 → fR h' 1630 y = fR h 1630 y ∧ fR h' 1634 y = fR h 1634 y := by
  have t1 := (TB_3 T).1
  have k42 := P.1.1.2.1
  have sz : P_J2_size G (fR h 138 tb) h = some ((ds.length : Nat) : Int) := by
    unfold P_J2_size
    rw [gd_pos k42, P.2.1]
  have un : C_2_dictionary G tb c h = (if (dm : Int) ≠ ((ds.length : Nat) : Int) then C_2_dictionary_30 G tb c h else gd (kd h tb = 3 ∧ kd (nO h 36 8) (hz h) = 36) ((C_36_init G (hz h) c (nO h 36 8)).bind fun p2 => gd (kd p2 (fR h 138 tb) = 42) ((P_J2_add G (fR h 138 tb) (hz h) p2).bind fun p3 => C_2_dictionary_30 G tb c p3.2))) := by
    unfold C_2_dictionary
    rw [gd_pos ⟨t1, k42⟩, sz, Option.bind_some, P.2.2.1.1]
  rw [un]
  have dl := P.2.2.1.2.1
  by_cases q : dm = ds.length
  · rw [if_neg (fun z => z (by omega))]
    obtain ⟨h1, e1, T1, P1, c1, X1, ⟨z0, z1, z2⟩, l1, l2⟩ := c_poolNew (c := c) nd T P hsl q hl
    rw [e1]
    obtain ⟨d, h2, f1, f2, f3, f4, f5, f6, ⟨f7, f8⟩, ⟨f9, f10, f11⟩, ⟨g1, g2, g3, g4, g5, g6, g7, g8⟩, g9, g10⟩ := c_pool30 (c := c) nd T1 P1 (by rw [List.length_append, List.length_singleton]; omega)
    have ed : d = hz h := by
      rw [List.getElem?_append_right (by omega), show dm - ds.length = 0 by omega] at f2
      exact (Option.some.inj f2).symm
    have etb : eqA tb h h1 := X1.2.2.2 tb (TB_3 T).2.2 (fun z => by rw [← z, t1] at k42; omega)
    refine ⟨d, h2, ds ++ [hz h], _, f1, f3, f4, ⟨.inr ⟨q, rfl⟩, fun y hy => .inl hy, fun y hy => hy.imp id (fun z => by omega), f2⟩, fun X a cX => f5 X a (c1 X a cX), hT_trans (hT_mono X1 (fun y _ z => .inr (.inl z))) f6 (fun y hy z => ?_), ⟨fun f hf => (f7 f hf).trans (etb.2.1 f), fun f => (f8 f).trans (etb.2.2.1 f)⟩, ⟨by rw [List.length_append, List.length_singleton]; omega, by rw [f10, f11, List.length_append, List.length_singleton]; omega⟩, ⟨g1, g2, g3, g4, g5, g6⟩, fun L hL eL => g9 L hL (by rw [g7, g8] at eL; exact eL), fun y hy ky => ?_⟩
    rotate_left
    · have e := X1.2.2.2 y hy (fun z => by rw [← z, ky] at k42; omega)
      rw [(g10 y).1, (g10 y).2]
      exact ⟨e.2.2.1 _, e.2.2.1 _⟩
    rcases z with z | z | z
    · exact .inl z
    · omega
    · rw [ed, l1, l2] at z
      exact absurd (z.2.elim id id) z.1
  · rw [if_pos (by omega)]
    obtain ⟨d, h2, f1, f2, f3, f4, f5, f6, ⟨f7, f8⟩, ⟨f9, f10, f11⟩, ⟨g1, g2, g3, g4, g5, g6, g7, g8⟩, g9, g10⟩ := c_pool30 (c := c) nd T P (by omega)
    have dmem : d ∈ ds.drop dm := by
      refine List.mem_of_getElem? (i := 0) ?_
      rw [List.getElem?_drop]
      exact f2
    refine ⟨d, h2, ds, Dk, f1, f3, f4, ⟨.inl rfl, fun y hy => hy, fun y hy => .inl hy, f2⟩, f5, hT_mono f6 (fun y _ z => ?_), ⟨f7, f8⟩, ⟨by omega, by rw [f10, f11]; omega⟩, ⟨g1, g2, g3, g4, g5, g6⟩, fun L hL eL => g9 L hL (by rw [g7, g8] at eL; exact eL), fun y _ _ => g10 y⟩
    rcases z with z | z | z
    · exact .inl z
    · exact .inr (.inr (.inl (by rw [z]; exact dmem)))
    · exact .inr (.inr (.inr ⟨d, dmem, z⟩))
end LPN
