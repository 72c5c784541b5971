set_option maxRecDepth 100000
theorem gd_bind {α β : Type} (c : Prop) (x : Option α) (F : α → Option β) : (gd c x).bind F = gd c (x.bind F) := by
  by_cases q : c
  · rw [gd_pos q, gd_pos q]
  · unfold gd; rw [if_neg q, if_neg q]; rfl
theorem xc_bind {α β γ : Type} (x : Option ((Nat ⊕ α) × om_H)) (f : Nat → om_H → Option β) (g : α → om_H → Option β) (F : β → Option γ) : (xc x f g).bind F = xc x (fun t h => (f t h).bind F) (fun v h => (g v h).bind F) := by
  rcases x with _ | ⟨t | v, h⟩ <;> rfl
section LU2
variable {G : om_G} {A t : Nat} {N : List (List Int)} {S : List Int} {b m K : Nat} {nc p : Int} {i M : Nat} {h : om_H} {σ : tS} {rT : tS → Option (Int × tS)} {rC : Nat → om_H → Option ((Nat ⊕ Nat) × om_H)}
/-- the rest of a use -/
noncomputable def TL (r : tS → Option (Int × tS)) (l1 : Int) (x : Int × Int × Int × tS) : Option (Int × tS) := (om_loop (T_use_19s r l1) x).bind fun y3 => some (y3.1, y3.2)
noncomputable def CL (G : om_G) (r : Nat → om_H → Option ((Nat ⊕ Nat) × om_H)) (t hd u : Nat) (x : Int × om_H) : Option ((Nat ⊕ Nat) × om_H) := (om_loop (C_0_readUse_55s G r t hd u) x).bind (Sum.elim (fun v2 => gd (∃ k ∈ om_exk, kd v2 hd = k + 1) ((C_0_at G u (fI v2 1372 hd) v2).bind fun p3 => some (.inr p3.1, p3.2))) (fun v3 => some v3))
abbrev isA (S : List Int) (i : Nat) : Prop := tokk S i = 2 ∨ tokk S i = 4 ∨ tokk S i = 40
theorem TL_atom (H : Tst σ N S b m i nc M) (c : isA S i) (l1 f top o : Int) : TL rT l1 (f, top, o, σ) = (T_atom rT σ).bind fun p5 => (T_node 12 l1 top p5.1 (-1) (-1) p5.2).bind fun p6 => TL rT l1 (0, p6.1, o, p6.2) := by
  have e : T_isAtom σ = some 1 := by rw [t_isAtom H, if_pos c]
  unfold TL
  rw [om_loop_eq]
  unfold T_use_19s T_use_42
  simp only [e, Option.bind_some]
  rw [if_pos (by decide), if_neg (by decide)]
  simp only [Option.bind_assoc, Option.bind_some, Sum.elim_inl]
theorem TL_end (H : Tst σ N S b m i nc M) (c : ¬ isA S i) (d : tokk S i ≠ 64) (l1 f top o : Int) : TL rT l1 (f, top, o, σ) = some (top, σ) := by
  have e : T_isAtom σ = some 0 := by rw [t_isAtom H, if_neg c]
  unfold TL
  rw [om_loop_eq]
  unfold T_use_19s
  simp only [e, Option.bind_some]
  rw [if_neg (by decide), H.2.2.2.2.1, if_neg (by decide), t_is H, if_neg d]
  rfl
theorem TL_F (H : Tfl σ N S b m p nc M) (l1 f top o : Int) : TL rT l1 (f, top, o, σ) = some (top, σ) := by
  unfold TL
  rw [om_loop_eq]
  unfold T_use_19s
  simp only [t_isAtomF H, Option.bind_some]
  rw [if_neg (by decide), H.2.2.2.1, if_pos (by decide)]
  rfl
theorem TL_at (H : Tst σ N S b m i nc M) (c : tokk S i = 64) (l1 f top o : Int) : TL rT l1 (f, top, o, σ) = (T_piece T_readType (us σ 432 ((b + (i + 1) : Nat) : Int))).bind fun p2 => if f ≠ 0 then (T_node 19 ((b + i : Nat) : Int) p2.1 (-1) (-1) (-1) p2.2).bind fun p3 => (if o ≠ (-1) then if 0 ≤ o ∧ o < 8400 then some (ua p3.2 562 o.toNat p3.1) else none else if 0 ≤ top ∧ top < 8400 then some (ua p3.2 546 top.toNat p3.1) else none).bind fun s => TL rT l1 (f, top, p3.1, s) else (T_node 13 ((b + i : Nat) : Int) top p2.1 l1 (-1) p2.2).bind fun p4 => TL rT l1 (f, p4.1, o, p4.2) := by
  have e : T_isAtom σ = some 0 := by rw [t_isAtom H, if_neg (by rintro (z | z | z) <;> omega)]
  have h4 := H.1.2.1
  have hi := H.2.2.1
  unfold TL
  rw [om_loop_eq]
  unfold T_use_19s T_use_42
  simp only [e, Option.bind_some]
  rw [if_neg (by decide), H.2.2.2.2.1, if_neg (by decide), t_is H, if_pos c]
  simp only [Option.bind_some]
  rw [if_neg (by decide), if_pos trivial, H.2.1, w32_s (by omega) (by omega), show ((b + i : Nat) : Int) + 1 = ((b + (i + 1) : Nat) : Int) by omega]
  simp only [Option.bind_assoc]
  congr 1
  funext p2
  by_cases q : f ≠ 0
  · rw [if_pos q, if_pos q]
    simp only [Option.bind_assoc]
    congr 1
    funext p3
    by_cases q1 : o ≠ -1
    · rw [if_pos q1, if_pos q1]
      by_cases q2 : 0 ≤ o ∧ o < 8400
      · rw [if_pos q2, if_pos q2]; rfl
      · rw [if_neg q2, if_neg q2]; rfl
    · rw [if_neg q1, if_neg q1]
      by_cases q2 : 0 ≤ top ∧ top < 8400
      · rw [if_pos q2, if_pos q2]; rfl
      · rw [if_neg q2, if_neg q2]; rfl
  · rw [if_neg q, if_neg q]
    simp only [Option.bind_assoc]
    rfl
theorem CL_atom (hG : om_okG G) (H : Cst G h t S i nc) (c : isA S i) (hd u : Nat) (f : Int) : CL G rC t hd u (f, h) = xc (C_0_readAtom G rC t h) (fun t h => some (.inl t, h)) (fun p2 h2 => gd (kd h2 u = 30 ∧ (∃ k ∈ om_exk, kd (nO h2 31 5) p2 = k + 1) ∧ kd (nO h2 31 5) (hz h2) = 31) ((C_31_init G (hz h2) p2 0 (fI (nO h2 31 5) 1372 p2) (nO h2 31 5)).bind fun p3 => gd (kd p3 (fR h2 1494 u) = 42) ((P_J2_add G (fR h2 1494 u) (hz h2) p3).bind fun p4 => CL G rC t hd u (0, p4.2)))) := by
  have e : C_0_isAtom G t h = some 1 := by rw [c_isAtom hG H, if_pos c]
  have e2 := (c_passes2 hG H (v := 64) (by omega)).2 (by rw [show sc 64 = 64 by decide]; rcases c with z | z | z <;> omega)
  unfold CL
  rw [om_loop_eq]
  unfold C_0_readUse_55s C_0_readUse_71
  simp only [e, Option.bind_some]
  rw [if_pos (by decide), gd_pos (Cst_kd H), e2]
  simp only [Option.bind_some]
  rw [if_pos trivial]
  simp only [xc_bind, gd_bind, Option.bind_assoc, Option.bind_some, Sum.elim_inl, Sum.elim_inr]
theorem CL_end (hG : om_okG G) (H : Cst G h t S i nc) (c : ¬ isA S i) (d : tokk S i ≠ 64) (hd u : Nat) (f : Int) (k1 : ∃ k ∈ om_exk, kd h hd = k + 1) (k2 : kd h u = 30) : CL G rC t hd u (f, h) = some (.inr u, sI h 1372 u (fI h 1372 hd)) := by
  have e : C_0_isAtom G t h = some 0 := by rw [c_isAtom hG H, if_neg c]
  unfold CL
  rw [om_loop_eq]
  unfold C_0_readUse_55s C_0_at
  simp only [e, Option.bind_some]
  rw [if_neg (by decide), gd_pos (Cst_kd H), c_isSign hG H (by omega), show sc 64 = 64 by decide, if_neg d]
  simp only [Option.bind_some]
  rw [if_pos trivial]
  simp only [Option.bind_some, Sum.elim_inl, Sum.elim_inr]
  rw [gd_pos k1, gd_pos ⟨29, by decide, k2⟩]
  rfl
theorem CL_at (hG : om_okG G) (H : Cst G h t S i nc) (c : tokk S i = 64) (hd u : Nat) (f : Int) {h1 : om_H} (e2 : C_14_passes_2 G t 64 h = some (1, h1)) : CL G rC t hd u (f, h) = xc (C_0_readPiece G (C_0_readType G) t h1) (fun t h => some (.inl t, h)) (fun p5 h5 => if f = 0 then gd (kd h5 u = 30 ∧ kd (nO h5 31 5) (hz h5) = 31) ((C_31_init G (hz h5) 0 p5 (tokq S i : Int) (nO h5 31 5)).bind fun p6 => gd (kd p6 (fR h5 1494 u) = 42) ((P_J2_add G (fR h5 1494 u) (hz h5) p6).bind fun p7 => CL G rC t hd u (f, p7.2))) else gd ((hd = 0 ∨ kd h5 hd = 28) ∧ kd h5 hd = 28) ((C_28_at G hd p5 h5).bind fun p8 => gd (kd p8 u = 30 ∧ kd (nO p8 31 5) (hz p8) = 31) ((C_31_init G (hz p8) 0 0 (tokq S i : Int) (nO p8 31 5)).bind fun p9 => gd (kd p9 (fR p8 1494 u) = 42) ((P_J2_add G (fR p8 1494 u) (hz p8) p9).bind fun p10 => CL G rC t hd u (f, p10.2))))) := by
  have e : C_0_isAtom G t h = some 0 := by rw [c_isAtom hG H, if_neg (by rintro (z | z | z) <;> omega)]
  unfold CL
  rw [om_loop_eq]
  unfold C_0_readUse_55s C_0_readUse_71 C_0_readUse_148
  simp only [e, Option.bind_some]
  rw [if_neg (by decide), gd_pos (Cst_kd H), c_isSign hG H (by omega), show sc 64 = 64 by decide, if_pos c]
  simp only [Option.bind_some]
  rw [if_neg (by decide), gd_pos (Cst_kd H), e2]
  simp only [Option.bind_some]
  rw [if_neg (by decide), Cst_q H]
  simp only [xc_bind]
  congr 1
  funext p5 h5
  by_cases q : f = 0
  · rw [if_pos q, if_pos q]
    simp only [xc_bind, gd_bind, Option.bind_assoc, Option.bind_some, Sum.elim_inl, Sum.elim_inr]
  · rw [if_neg q, if_neg q]
    simp only [xc_bind, gd_bind, Option.bind_assoc, Option.bind_some, Sum.elim_inl, Sum.elim_inr]
end LU2
