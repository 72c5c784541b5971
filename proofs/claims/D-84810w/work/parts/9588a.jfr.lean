set_option maxRecDepth 100000
/-! WHAT JUDGING LEAVES OF ALL THAT WAS THERE BEFORE -/
/-- what a program's judging may write of what was there before -/
def wJ (h : om_H) (pr tb : Nat) (fl : List Nat) (Dk OldL : Nat → Prop) (z0 a : Nat) : Prop := a = pr ∨ a = tb ∨ a = fR h 134 tb ∨ a ∈ fl ∨ Dk a ∨ (kd h a = 42 ∧ ¬ OldL a) ∨ (kd h a = 9 ∧ z0 ≤ fR h 210 a) ∨ a = 0
section LJF2
variable {G : om_G} {A : Nat} {S : List Int} {b m : Nat} {N : List (List Int)} {pr tb z0 : Nat} {cs fo : List Nat} {mo : List (List Nat)} {K : KT} {F : FT} {Ms : List FT} {hr : om_H} {σr : tS} {M : Nat} {qs : List dcl} {ps : List PD} {rs : List (Nat × Nat × Nat × Nat)} {h h3 h' : om_H} {ul fl us' fs' : List Nat} {τ : tS} {n : Nat} {Sl0 OldL : Nat → Prop} {cl : List Cp} {il : List IX} {fl' : List FX} {q z u : Nat} {Dk Dk' : Nat → Prop} {ds ds' : List Nat} {dm' : Nat}
/-- classes' arrays are new -/
theorem tar_new (R : RA G A S b m N pr tb z0 cs fo mo K F Ms hr σr M qs ps rs h ul fl τ n) {y : Nat} (w : tAr K cs h y) : z0 ≤ y := by
  obtain ⟨c, hc, e⟩ := w
  obtain ⟨i, q, p, r, s, ⟨k1, k2, k3, k4⟩, ⟨k5, k6, k7⟩, ⟨k8, k9⟩, k10, ⟨a0, amid, ⟨a1, a2, a3⟩, C⟩, W, ⟨rg1, rg2, rg3⟩, ⟨b1, b2, b3, b4⟩, ⟨T', k11⟩, cR', k12, k13, k14, k15⟩ := RA_cl R hc
  obtain ⟨w1, w2, Lm, Ln, ar, ab, fam, am, ms, ns, o1, ⟨o2, o3, o4, o5, o6⟩, _⟩ := W
  obtain ⟨_, _, ⟨p7, p8, p9⟩, _⟩ := o1
  have hzz := R.2.2.2.2.1.2.1
  obtain ⟨x1, x2, x3, x4⟩ := R.2.2.2.2.1.1 q.2.1 (by omega) (by omega)
  have ecl : clF cs c = q.2.1 := by unfold clF; rw [List.getD_eq_getElem?_getD, k10]; rfl
  have f38 : fR h 1238 q.2.1 = ar := by rw [x3 _ (by decide)]; exact p9
  rw [e, ecl, f38]
  omega
theorem fr_judge (R : RA G A S b m N pr tb z0 cs fo mo K F Ms hr σr M qs ps rs h ul fl τ n) (X : AX G A S b m N pr tb z0 cs fo mo K F Ms hr σr M qs ps rs h ul fl τ n Sl0 cl il) (Xf : FXs G A S b m N pr tb z0 cs fo mo K F Ms hr σr M qs ps rs h ul fl τ n Sl0 fl') (T3 : tF pr (tI il) (tAr K cs h) h h3) (K3 : KB N (clF cs) tb [] (ssA h il fl') (slA OldL hr qs z0 h) (fun x => ∃ t ∈ ssA h il fl', x ∈ ll h (fR h 166 t.1)) (fun a => z0 ≤ a ∧ a < hz h) h3 ul fl Dk ds 0 h' us' fs' Dk' ds' dm' q z u) {a : Nat} (ha : a < z0) (hh : a < hz h) : (¬ wJ h pr tb fl Dk OldL z0 a → kd h a ≠ 22 → eqA a h h') ∧ (kd h a = 22 → (∀ f ∈ SIf, fI h' f a = fI h f a) ∧ (∀ f ∈ SRf, fR h' f a = fR h f a) ∧ fR h' 1358 a = fR h 1358 a) := by
  have kp2 := R.2.2.2.1.1.2.2.1.1
  have e0 := T3.2 a hh
  have z3 := T3.1.1
  have nI : ¬ tI il a := fun w => by have := (il_rg R X w).1.1; omega
  have nA : ¬ tAr K cs h a := fun w => by have := tar_new R w; omega
  have e1 : a ≠ pr → eqA a h h3 := fun np => ⟨e0.1, fun f => e0.2.1 f (fun w => np w.2), fun f => e0.2.2.1 f (fun w => nI w.2), e0.2.2.2.1, e0.2.2.2.2.1, e0.2.2.2.2.2.1 nA, e0.2.2.2.2.2.2.1, e0.2.2.2.2.2.2.2⟩
  have gx : ∀ x, (∃ t ∈ ssA h il fl', x ∈ ll h (fR h 166 t.1)) → z0 ≤ x ∧ (x < hz h ∧ kd h x = 22) ∧ fR h 1358 x = 0 := fun x ⟨t, ht, hx⟩ => by
    obtain ⟨kk, i, ⟨p, rr, ⟨ep, _, er⟩, _, _, b3, V⟩, _⟩ := ss_rec R X Xf ht
    have lp := R.2.1.2.2.1
    have li := (List.getElem?_eq_some_iff.mp ep).1
    have rg := (prR_at R.2.1.1 (List.getElem?_eq_getElem (show i < qs.length by omega)) er).1
    obtain ⟨⟨b4, _⟩, b5⟩ := b3 x hx
    exact ⟨by omega, GVC_22 V hx, b5⟩
  refine ⟨fun nw k22 => ?_, fun k22 => ?_⟩
  · have np : a ≠ pr := fun z => nw (.inl z)
    have e := e1 np
    refine eqA_trans e ?_
    have ntb : fR h3 134 tb = fR h 134 tb := by
      have t3 := TB_3 R.2.2.2.1.1.1.1
      exact (T3.2 tb t3.2.2).2.2.1 134 (fun w => by have := (il_rg R X w.2).2; omega)
    by_cases k42 : kd h a = 42
    · have o : OldL a := Classical.byContradiction (fun w => nw (.inr (.inr (.inr (.inr (.inr (.inl ⟨k42, w⟩)))))))
      exact K3.2.2.2.2.1.2.2.2 a (by omega) (.inl o)
    · by_cases k57 : kd h a = 57
      · refine K3.2.2.2.2.1.2.2.1.2.2 a (by omega) (by rw [e.1]; exact k57) (fun x hx => ?_)
        obtain ⟨g1, ⟨g2, g3⟩, g4⟩ := gx x hx
        have ex := T3.2 x g2
        refine ⟨⟨by omega, by rw [ex.1]; exact g3⟩, ?_⟩
        rw [ex.2.2.1 1358 (fun w => absurd w.1 (by decide)), g4]
        intro z'
        have z0' := R.2.2.2.2.1.2.1
        exact nw (.inr (.inr (.inr (.inr (.inr (.inr (.inr z'.symm)))))))
      · refine K3.2.2.2.2.1.2.1 a (by omega) (fun w z' => nw (.inr (.inl z'))) (fun w t ht => ?_) (fun w z' => nw (.inr (.inr (.inr (.inl z'))))) (fun w z' => nw (.inr (.inr (.inl (by rw [← ntb]; exact z'))))) (fun w z' => nw (.inr (.inr (.inr (.inr (.inl z')))))) (fun w z' => by omega) ⟨by rw [e.1]; exact k22, by rw [e.1]; exact k42, by rw [e.1]; exact k57⟩
        have nz := ss_new R X Xf ht
        rw [e.2.2.1]
        rw [e.1] at w
        intro z'
        exact nw (.inr (.inr (.inr (.inr (.inr (.inr (.inl ⟨w, by omega⟩)))))))
  · have np : a ≠ pr := fun z' => by rw [z', kp2.1] at k22; omega
    have e := e1 np
    have s1 := K3.1.2.2.1 a (by omega) (by rw [e.1, k22]; decide)
    refine ⟨fun f hf => (s1.1 f hf).trans (e.2.1 f), fun f hf => (s1.2 f hf).trans (e.2.2.1 f), ?_⟩
    refine ((K3.2.2.2.2.1.2.2.1.1 a (by omega) (by rw [e.1]; exact k22) (fun hx => ?_))).trans (e.2.2.1 1358)
    have := (gx a hx).1
    omega
end LJF2
