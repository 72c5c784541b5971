set_option maxRecDepth 100000
/-! THE COMPONENT: a dictionary of the pool begins anew -/
section LDB
variable {G : om_G} {h : om_H} {d c : Nat}
/-- the writes of a beginning -/
def wDb (h : om_H) (d c : Nat) : om_H := sR (sR (sR (sR (sI (sR h 1614 d c) 1616 d (-1)) 1622 d 0) 1626 d 0) 1638 d 0) 1642 d 0
theorem wDb_hT : hT (fun y => y = d) h (wDb h d c) := by
  unfold wDb
  refine ⟨Nat.le_refl _, Nat.le_refl _, fun _ _ => rfl, fun y _ nd => ⟨rfl, fun g => ?_, fun g => ?_, rfl, fun g => rfl, fun g => rfl, rfl, rfl⟩⟩
  · exact fI_na (h := sR h 1614 d c) nd
  · rw [fR_na nd, fR_na nd, fR_na nd, fR_na nd, fR_sI, fR_na nd]
theorem wDb_f : fR (wDb h d c) 1614 d = c ∧ fI (wDb h d c) 1616 d = -1 ∧ fR (wDb h d c) 1622 d = 0 ∧ fR (wDb h d c) 1626 d = 0 ∧ fR (wDb h d c) 1638 d = 0 ∧ fR (wDb h d c) 1642 d = 0 ∧ fR (wDb h d c) 1630 d = fR h 1630 d ∧ fR (wDb h d c) 1634 d = fR h 1634 d := by
  unfold wDb
  refine ⟨?_, fI_eq (h := sR h 1614 d c), ?_, ?_, ?_, fR_eq, ?_, ?_⟩
  · rw [fR_ne (by decide), fR_ne (by decide), fR_ne (by decide), fR_ne (by decide), fR_sI, fR_eq]
  · rw [fR_ne (by decide), fR_ne (by decide), fR_ne (by decide), fR_eq]
  · rw [fR_ne (by decide), fR_ne (by decide), fR_eq]
  · rw [fR_ne (by decide), fR_eq]
  · rw [fR_ne (by decide), fR_ne (by decide), fR_ne (by decide), fR_ne (by decide), fR_sI, fR_ne (by decide)]
  · rw [fR_ne (by decide), fR_ne (by decide), fR_ne (by decide), fR_ne (by decide), fR_sI, fR_ne (by decide)]
/-- a list is cleared, if there is one -/
def clL (h : om_H) (L : Nat) : om_H := if L = 0 then h else sL h L []
theorem clL_hT {L : Nat} : hT (fun y => y ≠ 0 ∧ y = L) h (clL h L) := by
  unfold clL
  split
  · exact hT_refl _ _
  · rename_i n
    exact hT_mono hT_sL (fun y _ z => ⟨fun e => n (by rw [← z]; exact e), z⟩)
theorem clL_f {L : Nat} : (∀ f y, fI (clL h L) f y = fI h f y) ∧ (∀ f y, fR (clL h L) f y = fR h f y) ∧ (∀ y, kd (clL h L) y = kd h y) ∧ (∀ y, lc (clL h L) y = lc h y) ∧ hz (clL h L) = hz h ∧ hu (clL h L) = hu h ∧ (L ≠ 0 → ll (clL h L) L = []) ∧ ∀ y, y ≠ L → ll (clL h L) y = ll h y := by
  unfold clL
  split
  · rename_i n
    exact ⟨fun _ _ => rfl, fun _ _ => rfl, fun _ => rfl, fun _ => rfl, rfl, rfl, fun z => absurd n z, fun _ _ => rfl⟩
  · exact ⟨fun _ _ => rfl, fun _ _ => rfl, fun _ => rfl, fun _ => rfl, rfl, rfl, fun _ => by rw [ll_sL, if_pos rfl], fun y hy => by rw [ll_sL, if_neg hy]⟩
/-- A DICTIONARY BEGINS -/
theorem c_dBegin (k36 : kd h d = 36) (L1 : fR h 1630 d = 0 ∨ kd h (fR h 1630 d) = 42) (L2 : fR h 1634 d = 0 ∨ kd h (fR h 1634 d) = 42) : C_36_begin G d c h = some (d, clL (clL (wDb h d c) (fR h 1630 d)) (fR h 1634 d)) := by
  obtain ⟨w1, w2, w3, w4, w5, w6, w7, w8⟩ := wDb_f (h := h) (d := d) (c := c)
  have e44 : ∀ h1 : om_H, kd h1 d = 36 → fR h1 1634 d = fR h 1634 d → (fR h 1634 d = 0 ∨ kd h1 (fR h 1634 d) = 42) → C_36_begin_44 G d h1 = some (d, clL h1 (fR h 1634 d)) := fun h1 k e l => by
    unfold C_36_begin_44 clL
    rw [gd_pos k, e]
    by_cases z : fR h 1634 d = 0
    · rw [if_pos z, if_pos z]
    · have l' := l.resolve_left z
      rw [if_neg z, if_neg z, gd_pos ⟨k, l'⟩]
      unfold P_J2_clear
      rw [gd_pos l']
      rfl
  have un : C_36_begin G d c h = (if fR h 1630 d = 0 then C_36_begin_44 G d (wDb h d c) else C_36_begin_37 G d (wDb h d c)) := by
    unfold C_36_begin
    rw [gd_pos k36]
    rfl
  rw [un]
  by_cases z : fR h 1630 d = 0
  · rw [if_pos z, e44 (wDb h d c) k36 w8 L2]
    have : clL (wDb h d c) (fR h 1630 d) = wDb h d c := by unfold clL; rw [if_pos z]
    rw [this]
  · rw [if_neg z]
    have l' := L1.resolve_left z
    have c1 : clL (wDb h d c) (fR h 1630 d) = sL (wDb h d c) (fR h 1630 d) [] := by unfold clL; rw [if_neg z]
    unfold C_36_begin_37 P_J2_clear
    rw [w7, gd_pos ⟨show kd (wDb h d c) d = 36 from k36, show kd (wDb h d c) (fR h 1630 d) = 42 from l'⟩, gd_pos (show kd (wDb h d c) (fR h 1630 d) = 42 from l'), Option.bind_some, ← c1]
    refine e44 _ ?_ ?_ ?_
    · rw [clL_f.2.2.1]; exact k36
    · rw [clL_f.2.1]; exact w8
    · rw [clL_f.2.2.1]; exact L2
/-- what it is then -/
theorem c_dBegun : hT (fun y => y = d ∨ (y ≠ 0 ∧ (y = fR h 1630 d ∨ y = fR h 1634 d))) h (clL (clL (wDb h d c) (fR h 1630 d)) (fR h 1634 d)) ∧ hz (clL (clL (wDb h d c) (fR h 1630 d)) (fR h 1634 d)) = hz h ∧ hu (clL (clL (wDb h d c) (fR h 1630 d)) (fR h 1634 d)) = hu h ∧ (∀ f y, fR (clL (clL (wDb h d c) (fR h 1630 d)) (fR h 1634 d)) f y = fR (wDb h d c) f y) ∧ (∀ f y, fI (clL (clL (wDb h d c) (fR h 1630 d)) (fR h 1634 d)) f y = fI (wDb h d c) f y) ∧ (∀ y, kd (clL (clL (wDb h d c) (fR h 1630 d)) (fR h 1634 d)) y = kd h y) ∧ (∀ y, lc (clL (clL (wDb h d c) (fR h 1630 d)) (fR h 1634 d)) y = lc h y) ∧ (∀ L, L ≠ 0 → L = fR h 1630 d ∨ L = fR h 1634 d → ll (clL (clL (wDb h d c) (fR h 1630 d)) (fR h 1634 d)) L = []) ∧ ∀ L, L ≠ fR h 1630 d → L ≠ fR h 1634 d → ll (clL (clL (wDb h d c) (fR h 1630 d)) (fR h 1634 d)) L = ll h L := by
  obtain ⟨a1, a2, a3, a4, a5, a6, a7, a8⟩ := clL_f (h := wDb h d c) (L := fR h 1630 d)
  obtain ⟨b1, b2, b3, b4, b5, b6, b7, b8⟩ := clL_f (h := clL (wDb h d c) (fR h 1630 d)) (L := fR h 1634 d)
  refine ⟨hT_trans (hT_trans (hT_mono wDb_hT (fun y _ z => .inl z)) clL_hT (fun y _ z => .inr ⟨z.1, .inl z.2⟩)) clL_hT (fun y _ z => .inr ⟨z.1, .inr z.2⟩), by rw [b5, a5]; rfl, by rw [b6, a6]; rfl, fun f y => by rw [b2, a2], fun f y => by rw [b1, a1], fun y => by rw [b3, a3]; rfl, fun y => by rw [b4, a4]; rfl, fun L hL e => ?_, fun L h1 h2 => by rw [b8 L h2, a8 L h1]; rfl⟩
  by_cases q : L = fR h 1634 d
  · rw [q]; exact b7 (by rw [← q]; exact hL)
  · rw [b8 L q]
    have e1 := e.resolve_right q
    rw [e1]; exact a7 (by rw [← e1]; exact hL)
end LDB
