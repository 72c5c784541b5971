set_option maxRecDepth 100000
/-! THE TELLER STAYS while a program is judged -/
/-- the teller's things -/
def TvQ (G : om_G) (h : om_H) (l0 pv Lp te s : Nat) : Prop := (kd h l0 = 9 ∧ l0 < hz h ∧ fI h 220 l0 = 0) ∧ ((kd h pv = 6 ∧ pv < hz h) ∧ fR h 170 pv = Lp) ∧ (okV G h Lp ∧ (ll h Lp).Nodup ∧ (∀ y ∈ ll h Lp, y ≠ 0 ∧ y < hz h ∧ kd h y = 39) ∧ (ll h Lp).length ≤ 9000) ∧ ((kd h te = 7 ∧ te < hz h) ∧ fR h 182 te = s ∧ fR h 186 te = pv ∧ fR h 190 te = l0) ∧ (kd h s = 8 ∧ s < hz h)
section LTQ
variable {G : om_G} {h h' h3 : om_H} {l0 pv Lp te s : Nat}
theorem TvQ_eq (hz' : hz h ≤ hz h') (kk : ∀ a, a < hz h → kd h' a = kd h a) (e : ∀ a, a = l0 ∨ a = pv ∨ a = te ∨ a = s ∨ a = Lp → eqA a h h') (H : TvQ G h l0 pv Lp te s) : TvQ G h' l0 pv Lp te s := by
  obtain ⟨⟨a1, a2, a3⟩, ⟨⟨b1, b2⟩, b3⟩, ⟨c1, c2, c3, c4⟩, ⟨⟨d1, d2⟩, d3, d4, d5⟩, f1, f2⟩ := H
  have e0 := e l0 (.inl rfl)
  have e1 := e pv (.inr (.inl rfl))
  have e2 := e te (.inr (.inr (.inl rfl)))
  have e3 := e s (.inr (.inr (.inr (.inl rfl))))
  have e4 := e Lp (.inr (.inr (.inr (.inr rfl))))
  have eL : ll h' Lp = ll h Lp := e4.2.2.2.2.2.2.1
  refine ⟨⟨by rw [e0.1]; exact a1, by omega, by rw [e0.2.1]; exact a3⟩, ⟨⟨by rw [e1.1]; exact b1, by omega⟩, by rw [e1.2.2.1]; exact b3⟩, ⟨⟨by have := c1.1; omega, by rw [e4.1]; exact c1.2.1, by rw [eL, e4.2.2.2.2.2.2.2]; exact c1.2.2.1, by rw [eL, e4.2.2.2.2.2.2.2]; exact c1.2.2.2.1, fun y hy => ?_⟩, by rw [eL]; exact c2, fun y hy => ?_, by rw [eL]; exact c4⟩, ⟨⟨by rw [e2.1]; exact d1, by omega⟩, by rw [e2.2.2.1]; exact d3, by rw [e2.2.2.1]; exact d4, by rw [e2.2.2.1]; exact d5⟩, by rw [e3.1]; exact f1, by omega⟩
  · rw [eL] at hy
    exact objY_mono hz' kk (c1.2.2.2.2 y hy)
  · rw [eL] at hy
    obtain ⟨y1, y2, y3⟩ := c3 y hy
    exact ⟨y1, by omega, by rw [kk y y2]; exact y3⟩
theorem TvP_q {N : List (List Int)} {cl : Nat → Nat} {tb : Nat} {us fs : List Nat} {rest : List (Nat × List Nat)} (T : TB G h N cl tb us fs rest) (H : TvQ G h l0 pv Lp te s) (ne : Lp ≠ fR h 122 tb) : TvP G h N cl tb l0 us fs rest pv Lp te s := ⟨T, H.1, H.2.1, H.2.2.1, ne, H.2.2.2.1, H.2.2.2.2⟩
end LTQ
section LTR
variable {G : om_G} {A : Nat} {S : List Int} {b m : Nat} {N : List (List Int)} {pr tb z0 : Nat} {cs fo : List Nat} {mo : List (List Nat)} {K : KT} {F : FT} {Ms : List FT} {hr : om_H} {σr : tS} {M : Nat} {qs : List dcl} {ps : List PD} {rs : List (Nat × Nat × Nat × Nat)} {h h3 h' : om_H} {ul fl us' fs' : List Nat} {τ : tS} {n : Nat} {Sl Sl0 Gx W : Nat → Prop} {cl : List Cp} {il : List IX} {fl' : List FX} {Lp q z u l0 pv te s : Nat} {Dk Dk' : Nat → Prop} {ds ds' : List Nat} {dm' : Nat}
/-- scopes of the program are new -/
theorem ss_new (R : RA G A S b m N pr tb z0 cs fo mo K F Ms hr σr M qs ps rs h ul fl τ n) (X : AX G A S b m N pr tb z0 cs fo mo K F Ms hr σr M qs ps rs h ul fl τ n Sl cl il) (Xf : FXs G A S b m N pr tb z0 cs fo mo K F Ms hr σr M qs ps rs h ul fl τ n Sl fl') {t : Nat × List GVs} (ht : t ∈ ssA h il fl') : z0 ≤ t.1 := by
  rcases List.mem_append.mp ht with w | w
  · obtain ⟨x, hx, e⟩ := List.mem_map.mp w
    obtain ⟨i, hi, ei⟩ := List.getElem_of_mem hx
    have ex : il[i]? = some x := by rw [List.getElem?_eq_getElem hi, ei]
    have I := (X.2.2 i x ex).2
    obtain ⟨i1, i2, i3, i4, i5⟩ := I.1
    have r1 := I.2.2.2.2.2.2.2.2.2.1.2.2.2.2.1.2.1
    have rg := (prR_at R.2.1.1 i1 i3).1
    rw [← e]
    show z0 ≤ fR h 1286 x.2.1.2.1
    omega
  · obtain ⟨x, hx, e⟩ := List.mem_map.mp w
    obtain ⟨i, hi, ei⟩ := List.getElem_of_mem hx
    have ex : fl'[i]? = some x := by rw [List.getElem?_eq_getElem hi, ei]
    obtain ⟨_, ⟨_, _, _, _, _, eo⟩, _, _, _, _, ⟨_, _, r3, _, _, _, _, ⟨r8, _⟩, _⟩, _⟩ := Xf.2 i x ex
    rw [eo] at r8
    rw [← e]
    show z0 ≤ fR h 1542 x.2.1.2.1
    omega
/-- THE TELLER STAYS -/
theorem tvq_judge (R : RA G A S b m N pr tb z0 cs fo mo K F Ms hr σr M qs ps rs h ul fl τ n) (X : AX G A S b m N pr tb z0 cs fo mo K F Ms hr σr M qs ps rs h ul fl τ n Sl0 cl il) (Xf : FXs G A S b m N pr tb z0 cs fo mo K F Ms hr σr M qs ps rs h ul fl τ n Sl0 fl') (T3 : tF pr (tI il) (tAr K cs h) h h3) (K3 : KB N (clF cs) tb [] (ssA h il fl') Sl0 Gx W h3 ul fl Dk ds 0 h' us' fs' Dk' ds' dm' q z u) (H : TvQ G h l0 pv Lp te s) (sL : Sl0 Lp) (e210 : fR h 210 l0 < z0) : TvQ G h' l0 pv Lp te s := by
  have kp2 := R.2.2.2.1.1.2.2.1.1
  obtain ⟨⟨a1, a2, a3⟩, ⟨⟨b1, b2⟩, b3⟩, ⟨c1, c2, c3, c4⟩, ⟨⟨d1, d2⟩, d3, d4, d5⟩, f1, f2⟩ := id H
  have e3 : ∀ a, a < hz h → kd h a ≠ 2 → kd h a ≠ 21 → kd h a ≠ 58 → eqA a h h3 := fun a ha k2 k21 k58 => by
    have e := T3.2 a ha
    exact ⟨e.1, fun f => e.2.1 f (fun w => k2 (by rw [w.2]; exact kp2.1)), fun f => e.2.2.1 f (fun w => k21 (il_rg R X w.2).2), e.2.2.2.1, e.2.2.2.2.1, e.2.2.2.2.2.1 (fun w => k58 (tar_58 X w)), e.2.2.2.2.2.2.1, e.2.2.2.2.2.2.2⟩
  have kin : ∀ a, a = l0 ∨ a = pv ∨ a = te ∨ a = s ∨ a = Lp → a < hz h ∧ (kd h a = 9 ∨ kd h a = 6 ∨ kd h a = 7 ∨ kd h a = 8 ∨ kd h a = 42) := fun a w => by
    rcases w with w | w | w | w | w
    · rw [w]; exact ⟨a2, .inl a1⟩
    · rw [w]; exact ⟨b2, .inr (.inl b1)⟩
    · rw [w]; exact ⟨d2, .inr (.inr (.inl d1))⟩
    · rw [w]; exact ⟨f2, .inr (.inr (.inr (.inl f1)))⟩
    · rw [w]; exact ⟨c1.1, .inr (.inr (.inr (.inr c1.2.1)))⟩
  have H3 : TvQ G h3 l0 pv Lp te s := TvQ_eq T3.1.1 (fun a ha => (T3.2 a ha).1) (fun a w => by
    obtain ⟨k1, k2⟩ := kin a w
    exact e3 a k1 (by omega) (by omega) (by omega)) H
  have z3 := T3.1.1
  refine TvQ_eq K3.1.1 K3.1.2.1 (fun a w => ?_) H3
  obtain ⟨k1, k2⟩ := kin a w
  have ea := e3 a k1 (by omega) (by omega) (by omega)
  have k2' : kd h3 a = 9 ∨ kd h3 a = 6 ∨ kd h3 a = 7 ∨ kd h3 a = 8 ∨ kd h3 a = 42 := by rw [ea.1]; exact k2
  by_cases q : a = Lp
  · rw [q]
    exact K3.2.2.2.2.1.2.2.2 Lp (by have := c1.1; omega) sL
  · have k42 : kd h3 a ≠ 42 := fun z => by
      rw [ea.1] at z
      rcases w with w | w | w | w | w
      · rw [w, a1] at z; cases z
      · rw [w, b1] at z; cases z
      · rw [w, d1] at z; cases z
      · rw [w, f1] at z; cases z
      · exact q w
    refine K3.2.2.2.2.1.2.1 a (by omega) (fun z => by omega) (fun z t ht => ?_) (fun z => by omega) (fun z => by omega) (fun z => by omega) (fun z => by unfold dyK at z; omega) ⟨by omega, by omega, by omega⟩
    have nz := ss_new R X Xf ht
    have al : a = l0 := by
      rw [ea.1] at z
      rcases w with w | w | w | w | w
      · exact w
      · rw [w, b1] at z; cases z
      · rw [w, d1] at z; cases z
      · rw [w, f1] at z; cases z
      · exact absurd w q
    rw [ea.2.2.1, al]
    omega
end LTR
