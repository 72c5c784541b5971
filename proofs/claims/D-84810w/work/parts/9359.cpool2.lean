set_option maxRecDepth 100000
/-! THE COMPONENT: a dictionary out of the pool, or a new one -/
section LPM
variable {G : om_G} {h : om_H} {N : List (List Int)} {cl : Nat → Nat} {tb c dm : Nat} {us fs ds : List Nat} {rest : List (Nat × List Nat)} {Sl Dk : Nat → Prop}
/-- a new one -/
theorem c_poolNew (nd : ndN N) (T : TB G h N cl tb us fs rest) (P : PoolC G h tb Sl Dk ds dm) (hsl : ∀ a, Sl a → a < hz h) (hd : dm = ds.length) (hl : ds.length < 50000) : ∃ h', (gd (kd h tb = 3 ∧ kd (nO h 36 8) (hz h) = 36) ((C_36_init G (hz h) c (nO h 36 8)).bind fun p2 => gd (kd p2 (fR h 138 tb) = 42) ((P_J2_add G (fR h 138 tb) (hz h) p2).bind fun p3 => C_2_dictionary_30 G tb c p3.2)) = C_2_dictionary_30 G tb c h') ∧ TB G h' N cl tb us fs rest ∧ PoolC G h' tb Sl (fun y => Dk y ∨ y = hz h) (ds ++ [hz h]) dm ∧ (∀ X a, tyC h N cl (UU us rest) X a → tyC h' N cl (UU us rest) X a) ∧ hT (fun y => y = fR h 138 tb) h h' ∧ (hz h < hz h' ∧ hz h' ≤ hz h + 2 ∧ hu h' + 4 * lc h (fR h 138 tb) ≤ hu h + 8 + 4 * lc h' (fR h 138 tb)) ∧ (fR h' 1630 (hz h) = 0 ∧ fR h' 1634 (hz h) = 0) := by
  obtain ⟨⟨p1, p2, p3⟩, p4, ⟨p5, p6, p7⟩, p8, p9, p10, p11⟩ := P
  obtain ⟨t1, t2, t3⟩ := TB_3 T
  have kn : kd (nO h 36 8) (hz h) = 36 := by rw [kd_nO, if_pos rfl]
  generalize eh1 : sR (sI (nO h 36 8) 1616 (hz h) (-1)) 1614 (hz h) c = h1
  have k1 : ∀ y, y < hz h → kd h1 y = kd h y := fun y hy => by
    rw [← eh1]
    show kd (nO h 36 8) y = _
    rw [kd_nO, if_neg (by omega)]
  have z1 : hz h1 = hz h + 1 := by rw [← eh1]; rfl
  have u1 : hu h1 = hu h + 8 := by rw [← eh1]; rfl
  have E1 : ∀ y, y < hz h → eqA y h h1 := fun y hy => by
    refine ⟨k1 y hy, fun f => ?_, fun f => ?_, by rw [← eh1]; rfl, fun i => by rw [← eh1]; rfl, fun i => by rw [← eh1]; rfl, by rw [← eh1]; rfl, by rw [← eh1]; rfl⟩
    · rw [← eh1]
      show fI (sI (nO h 36 8) 1616 (hz h) (-1)) f y = _
      rw [fI_na (by omega), fI_nO, if_neg (by omega)]
    · rw [← eh1, fR_na (by omega)]
      show fR (nO h 36 8) f y = _
      rw [fR_nO, if_neg (by omega)]
  have X1 : hT (fun _ => False) h h1 := ⟨by omega, by omega, k1, fun y hy _ => E1 y hy⟩
  have kn1 : kd h1 (hz h) = 36 := by rw [← eh1]; exact kn
  have L1 := okV_hT p1 X1 (fun z => z)
  have el := E1 _ p1.1
  obtain ⟨a1, a2, a3, a4, a5, a6⟩ := v_add (x := hz h) L1 (.inl ⟨by omega, by omega, by omega⟩) (by rw [el.2.2.2.2.2.2.1, p4]; omega)
  generalize eh2 : addL h1 (fR h 138 tb) (hz h) = h2 at *
  obtain ⟨b0, b1, b2, b3, b4, b5, b6, b7, b8, b9⟩ := a2
  have X2 : hT (fun y => y = fR h 138 tb) h h2 := ⟨by omega, by omega, fun y hy => (b2 y (by omega)).trans (k1 y hy), fun y hy ny => eqA_trans (E1 y hy) ⟨b2 y (by omega), fun f => b3 f y (by omega), fun f => b4 f y (by omega), b5 y (by omega), fun i => b6 y i (by omega), fun i => b7 y i (by omega), b8 y (by omega) ny, b9 y (by omega) ny⟩⟩
  have k42 := p1.2.1
  have pk : ∀ y, y = fR h 138 tb → y < hz h → kd h y ≠ 3 ∧ kd h y ≠ 34 ∧ kd h y ≠ 56 ∧ y ≠ fR h 122 tb := fun y z _ => by
    rw [z, k42]; exact ⟨by decide, by decide, by decide, p3⟩
  have dk : dOK (fun y => y = fR h 138 tb) h h2 := fun y z => by
    rw [z, k42]; exact ⟨by decide, by decide, fun e => by omega⟩
  have T2 := TB_hT T nd X2 pk dk
  have C2 := CS_write (N := N) (cl := cl) (z := 2) (u := hu h2) T X2 pk dk (by omega) (by omega)
  have etb : eqA tb h h2 := X2.2.2.2 tb t3 (fun z => by rw [← z, t1] at k42; omega)
  have eR := etb.2.2.1
  have zr : ∀ f, f ≠ 1614 → fR h2 f (hz h) = 0 := fun f hf => by
    rw [b4 f _ (by omega), ← eh1, fR_ne hf]
    show fR (nO h 36 8) f (hz h) = 0
    rw [fR_nO, if_pos rfl]
  have kn2 : kd h2 (hz h) = 36 := by rw [b2 _ (by omega)]; exact kn1
  have ef : ∀ d, Dk d → (fR h2 1630 d = fR h 1630 d ∧ fR h2 1634 d = fR h 1634 d) := fun d hd' => by
    have q := (p10 d hd').1
    have e := X2.2.2.2 d q.2.1 (fun z => by rw [← z, q.2.2] at k42; omega)
    exact ⟨e.2.2.1 _, e.2.2.1 _⟩
  have lsk : ∀ {L cap : Nat}, lsD h tb Sl L cap → lsD h2 tb Sl L cap := fun {L cap} z => by
    obtain ⟨⟨c1, c2⟩, ⟨c3, c4⟩, c5, c6, c7⟩ := z
    have e := X2.2.2.2 L c1 c6
    exact ⟨⟨by omega, by rw [e.1]; exact c2⟩, ⟨by rw [e.2.2.2.2.2.2.2]; exact c3, by rw [e.2.2.2.2.2.2.1]; exact c4⟩, c5, by rw [eR]; exact c6, by rw [eR]; exact c7⟩
  refine ⟨h2, ?_, T2, ⟨⟨by rw [eR]; exact a3, by rw [eR]; exact p2, by rw [eR, eR]; exact p3⟩, by rw [eR, a4, el.2.2.2.2.2.2.1, p4], ⟨by rw [etb.2.1]; exact p5, by rw [List.length_append]; omega, by rw [List.length_append, List.length_singleton]; omega⟩, ?_, fun d hd' => ?_, fun d hd' => ?_, fun d d' f f' h3 h4 o1 o2 n1 e3 => ?_⟩, fun X a cX => C2.2.2.2.2.2.1 X a cX, X2, ⟨by omega, by omega, by rw [el.2.2.2.2.2.2.2] at a6; omega⟩, zr _ (by decide), zr _ (by decide)⟩
  · rw [gd_pos ⟨t1, kn⟩]
    unfold C_36_init
    rw [gd_pos kn, Option.bind_some, eh1, gd_pos (by rw [el.1]; exact k42), a1]
    rfl
  · refine List.nodup_append.mpr ⟨p8, by simp, fun a ha b hb => ?_⟩
    have := (p10 a (p9 a ha)).1.2.1
    rw [List.mem_singleton.mp hb]
    omega
  · rcases List.mem_append.mp hd' with q | q
    · exact .inl (p9 d q)
    · exact .inr (List.mem_singleton.mp q)
  · rcases hd' with q | q
    · obtain ⟨⟨y0, y1, y2⟩, y3, y4⟩ := p10 d q
      rw [(ef d q).1, (ef d q).2]
      exact ⟨⟨y0, by omega, by rw [X2.2.2.1 d y1]; exact y2⟩, y3.imp id lsk, y4.imp id lsk⟩
    · rw [q]
      exact ⟨⟨by omega, by omega, kn2⟩, .inl (zr _ (by decide)), .inl (zr _ (by decide))⟩
  · have efd : ∀ d f, Dk d → (f = 1630 ∨ f = 1634) → fR h2 f d = fR h f d := fun d f q o => by
      rcases o with o | o
      · rw [o]; exact (ef d q).1
      · rw [o]; exact (ef d q).2
    have efn : ∀ f, (f = 1630 ∨ f = 1634) → fR h2 f (hz h) = 0 := fun f o => by
      rcases o with o | o
      · rw [o]; exact zr _ (by decide)
      · rw [o]; exact zr _ (by decide)
    rcases h3 with h3 | h3
    · rcases h4 with h4 | h4
      · rw [efd d f h3 o1] at n1 e3
        rw [efd d' f' h4 o2] at e3
        exact p11 d d' f f' h3 h4 o1 o2 n1 e3
      · rw [h4, efn f' o2] at e3
        exact absurd e3 n1
    · rw [h3] at n1
      exact absurd (efn f o1) n1
end LPM
