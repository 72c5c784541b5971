set_option maxRecDepth 100000
/-! JUDGING AS A WHOLE: what is needed on the way -/
/-- the component's judge, behind resolve -/
noncomputable def cJ3 (G : om_G) (l0 : Nat) (h : om_H) : Option ((Nat ⊕ Unit) × om_H) := (om_loop (C_1_judge_129s G l0) (0, 0, h)).bind (Sum.elim (fun v7 => some (.inr (), v7)) (fun v7 => some v7))
noncomputable def cJ1 (G : om_G) (v5 : Nat × om_H) : Option ((Nat ⊕ Unit) × om_H) := gd (kd (nO v5.2 16 8) v5.1 = 21 ∧ kd (nO v5.2 16 8) (fR (nO v5.2 16 8) 1290 v5.1) = 17 ∧ kd (nO v5.2 16 8) (hz v5.2) = 16) ((C_15_init G (hz v5.2) 3 (fI (nO v5.2 16 8) 1188 (fR (nO v5.2 16 8) 1290 v5.1)) (nO v5.2 16 8)).bind fun p6 => gd ((hz v5.2) ≠ 0) (some (.inl (hz v5.2), p6)))
noncomputable def cJ2 (G : om_G) (l0 : Nat) (h4 : om_H) : Option ((Nat ⊕ Unit) × om_H) := (om_loop (C_1_judge_20s G l0) (0, h4)).bind (Sum.elim (fun v5 => cJ1 G v5) (Sum.elim (fun v6 => cJ3 G l0 v6) (fun v7 => some v7)))
noncomputable def cJ (G : om_G) (l0 : Nat) (h2 : om_H) : Option ((Nat ⊕ Unit) × om_H) := gd (kd h2 l0 = 2) ((C_1_judgeInstances G l0 h2).bind fun p3 => gd (kd p3 l0 = 2) (xc (C_1_fail G l0 3 p3) (fun t h => some (.inl t, h)) (fun _ h4 => cJ2 G l0 h4)))
theorem C_1_judge_eq {G : om_G} {l0 : Nat} {h : om_H} : C_1_judge G l0 h = gd (kd h l0 = 2) ((C_1_resolve G l0 h).bind fun p1 => gd (kd p1 l0 = 2) (xc (C_1_fail G l0 2 p1) (fun t h => some (.inl t, h)) (fun _ h2 => cJ G l0 h2))) := rfl
theorem sum_zero {α : Type} {f : α → Nat} : ∀ {l : List α}, (∀ x ∈ l, f x = 0) → (l.map f).sum = 0
  | [], _ => rfl
  | x :: l, H => by rw [List.map_cons, List.sum_cons, H x List.mem_cons_self, sum_zero (fun y hy => H y (List.mem_cons_of_mem _ hy))]
section LNW
variable {G : om_G} {N : List (List Int)} {cl : Nat → Nat} {tb pr : Nat} {rest : List (Nat × List Nat)} {ss : List (Nat × List GVs)} {Sl Gx W : Nat → Prop} {io : Nat → Nat} {ab : List (Option Nat)} {ins : List INs} {h h1 : om_H} {us fs us1 fs1 : List Nat} {Dk Dk1 : Nat → Prop} {ds ds1 : List Nat} {dm dm1 q z u : Nat}
theorem rwZ_0 (H : ∀ s ∈ ss, ∀ x ∈ ll h (fR h 166 s.1), fR h 1358 x = 0) : rwZ h ss = 0 := sum_zero (fun s hs => sum_zero (fun x hx => by unfold rwN; rw [if_pos (H s hs x hx)]))
/-- new objects alone -/
theorem KB_new (nd : ndN N) (T : TB G h N cl tb us fs rest) (P : PoolC G h tb Sl Dk ds dm) (X : hT (fun _ => False) h h1) (sm : rwZ h ss ≤ rwZ h1 ss) (r : hz h1 ≤ hz h + z ∧ hu h1 ≤ hu h + u) : TB G h1 N cl tb us fs rest ∧ PoolC G h1 tb Sl Dk ds dm ∧ KB N cl tb rest ss Sl Gx W h us fs Dk ds dm h1 us fs Dk ds dm 0 z u := by
  have eq : ∀ a, a < hz h → eqA a h h1 := fun a ha => X.2.2.2 a ha id
  have et := eq tb (TB_3 T).2.2
  have T' := TB_hT T nd X (fun y w _ => False.elim w) (fun y w => False.elim w)
  have C := (CS_write (N := N) (cl := cl) (z := z) (u := u) T X (fun y w _ => False.elim w) (fun y w => False.elim w) r.1 r.2).2.2.2.2.2.1
  have S : hS Sl h h1 := hS_hT X (fun a ha w => False.elim w)
  have P' := PoolC_hT P X (fun y w _ => False.elim w) (et.2.1 140) et.2.2.1
  have E : ∀ a, Dlv h Dk ds dm a → a < hz h ∧ eqA a h h1 := fun a L => by
    have lt : a < hz h := (Dlv_kd P L).elim (fun w => w.1) (fun w => w.1)
    exact ⟨lt, eq a lt⟩
  have nlm : nlN h ds ≤ nlN h1 ds := by
    have := nl_mono (h := h) (h1 := h1) (ds := ds) (e := []) (fun d hd => by
      have w := (P.2.2.2.2.2.1 d (P.2.2.2.2.1 d hd)).1
      have e := eq d w.2.1
      rw [e.2.2.1, e.2.2.1]; exact ⟨id, id⟩)
    rw [List.append_nil] at this; exact this
  have e138 := eq _ P.1.1.1
  have e122 := eq _ T.2.1.1.1
  exact ⟨T', P', S, E, dkG_refl, ⟨[], by simp, by simp⟩, ⟨fun y hy => .inl hy, fun a ha _ _ _ _ _ _ _ => eq a ha, rwB_eq (fun y hy _ => eq y hy), fun a ha _ => eq a ha⟩, by omega, ⟨fun f _ _ _ => et.2.1 f, et.2.2.1⟩, C, ⟨by omega, by omega, by omega⟩, by omega, by rw [e138.2.2.2.2.2.2.2, e122.2.2.2.2.2.2.2]; omega⟩
/-- a new fault -/
theorem new_flt (h0 : 0 < hz h) (k p : Int) : ∃ h', C_15_init G (hz h) k p (nO h 16 8) = some h' ∧ flt h' (hz h) k p ∧ hT (fun _ => False) h h' ∧ (hz h' = hz h + 1 ∧ hu h' = hu h + 8) := by
  have k2 : kd (nO h 16 8) (hz h) = 16 := by rw [kd_nO, if_pos rfl]
  have zr : ∀ f, fR (nO h 16 8) f (hz h) = 0 := fun f => by rw [fR_nO, if_pos rfl]
  have all : ∀ a, a < hz h → eqA a h (sI (sI (nO h 16 8) 1176 (hz h) k) 1180 (hz h) p) := fun a ha => by
    refine ⟨?_, fun f => ?_, fun f => ?_, ?_, fun i => ?_, fun i => ?_, ?_, ?_⟩
    · show kd (nO h 16 8) a = _
      rw [kd_nO, if_neg (by omega)]
    · rw [fI_na (by omega), fI_na (by omega), fI_nO, if_neg (by omega)]
    · show fR (nO h 16 8) f a = _
      rw [fR_nO, if_neg (by omega)]
    · rfl
    · rfl
    · rfl
    · rfl
    · rfl
  refine ⟨sI (sI (nO h 16 8) 1176 (hz h) k) 1180 (hz h) p, ?_, ⟨k2, ?_, ?_, by omega⟩, ⟨by show hz h ≤ hz h + 1; omega, by show hu h ≤ hu h + 8; omega, fun a ha => (all a ha).1, fun a ha _ => all a ha⟩, rfl, rfl⟩
  · unfold C_15_init P_J10_init
    rw [gd_pos k2, gd_pos ⟨k2, rfl, rfl, rfl, rfl, zr _, zr _, zr _, zr _⟩, Option.bind_some, gd_pos k2]
  · rw [fI_ne (by decide), fI_eq]
  · rw [fI_eq]
theorem cJ1_run {a : Nat} {p : Int} (ka : kd h a = 21 ∧ a < hz h) (kw : kd h (fR h 1290 a) = 17 ∧ fR h 1290 a < hz h ∧ fI h 1188 (fR h 1290 a) = p) : ∃ h', cJ1 G (a, h) = some (.inl (hz h), h') ∧ flt h' (hz h) 3 p ∧ hT (fun _ => False) h h' ∧ (hz h' = hz h + 1 ∧ hu h' = hu h + 8) := by
  obtain ⟨h', f1, f2, f3, f4⟩ := new_flt (G := G) (h := h) (by omega) 3 p
  have e1 : fR (nO h 16 8) 1290 a = fR h 1290 a := by rw [fR_nO, if_neg (by omega)]
  refine ⟨h', ?_, f2, f3, f4⟩
  unfold cJ1
  dsimp only
  rw [e1, gd_pos ⟨by rw [kd_nO, if_neg (by omega)]; exact ka.1, by rw [kd_nO, if_neg (by omega)]; exact kw.1, by rw [kd_nO, if_pos rfl]⟩, fI_nO, if_neg (by omega), kw.2.2, f1, Option.bind_some, gd_pos (by omega)]
end LNW
