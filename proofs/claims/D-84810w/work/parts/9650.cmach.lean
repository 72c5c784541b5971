set_option maxRecDepth 100000
/-! THE COMPONENT'S MACHINE: states -/
/-- all that is the machine's -/
def mOw (h : om_H) (m a : Nat) : Prop := cOw h m a ∨ fOw h m a ∨ a = fR h 314 m ∨ a = fR h 322 m ∨ a = fR h 326 m ∨ a = fR h 330 m ∨ a = fR h 334 m ∨ a = fR h 346 m
/-- from h0 on only what is the machine's was written -/
def mFs (m : Nat) (h0 h : om_H) : Prop := hT (mOw h0 m) h0 h ∧ (∀ f, f ≠ 290 → fR h f m = fR h0 f m) ∧ (∀ i, i < 300 → fO h m i = fO h0 m i ∧ fR h 374 (fO h0 m i) = fR h0 374 (fO h0 m i)) ∧ (∃ d, ll h (fR h0 262 m) = ll h0 (fR h0 262 m) ++ d ∧ ∀ c ∈ d, hz h0 ≤ c ∧ hz h0 ≤ fR h 1718 c) ∧ (∀ c ∈ ll h0 (fR h0 262 m), fR h 1718 c = fR h0 1718 c) ∧ (hz h + 3 * (ll h0 (fR h0 262 m)).length ≤ hz h0 + 3 * (ll h (fR h0 262 m)).length ∧ hu h + 4 * lc h0 (fR h0 262 m) + 11 * (ll h0 (fR h0 262 m)).length ≤ hu h0 + 4 * lc h (fR h0 262 m) + 11 * (ll h (fR h0 262 m)).length)
section LMS
variable {G : om_G} {io : Nat → Nat} {ins : List INs} {M : MPg} {cd cs : Nat → Et → Nat → Nat → Nat → Prop} {h0 h h1 h2 : om_H} {m nu nu1 nu2 kk A B n mx : Nat} {fs : List Nat}
theorem mFs_refl : mFs m h h := ⟨hT_refl _ _, fun _ _ => rfl, fun _ _ => ⟨rfl, rfl⟩, ⟨[], by simp, fun _ z => (by cases z)⟩, fun _ _ => rfl, Nat.le_refl _, Nat.le_refl _⟩
theorem mFs_trans (X : mFs m h0 h) (Y : mFs m h h1) : mFs m h0 h1 := by
  obtain ⟨a1, a2, a3, ⟨d, a4, a5⟩, a6, a7, a8⟩ := X
  obtain ⟨b1, b2, b3, ⟨d', b4, b5⟩, b6, b7, b8⟩ := Y
  have e62 := a2 262 (by decide)
  rw [e62] at b4 b6 b7 b8
  have z1 := a1.1
  refine ⟨hT_trans a1 b1 (fun a ha w => ?_), fun f hf => (b2 f hf).trans (a2 f hf), fun i hi => ?_, ⟨d ++ d', by rw [b4, a4, List.append_assoc], fun c hc => ?_⟩, fun c hc => (b6 c (by rw [a4]; exact List.mem_append_left _ hc)).trans (a6 c hc), by omega, by omega⟩
  · have kk := a1.2.2.1 a ha
    rcases w with w | w | w | w | w | w | w | w
    · rcases w with w | w | w | ⟨c, hc, w⟩
      · exact .inl (.inl w)
      · exact .inl (.inr (.inl (w.trans e62)))
      · exact .inl (.inr (.inr (.inl (by rw [← kk]; exact w))))
      · rw [e62, a4] at hc
        rcases List.mem_append.mp hc with hc | hc
        · exact .inl (.inr (.inr (.inr ⟨c, hc, w.trans (a6 c hc)⟩)))
        · have := (a5 c hc).2
          omega
    · rcases w with w | w | w | w | ⟨i, hi, w⟩
      · exact .inr (.inl (.inl w))
      · exact .inr (.inl (.inr (.inl (by rw [← kk]; exact w))))
      · exact .inr (.inl (.inr (.inr (.inl (w.trans (a2 302 (by decide)))))))
      · exact .inr (.inl (.inr (.inr (.inr (.inl (w.trans (a2 306 (by decide))))))))
      · exact .inr (.inl (.inr (.inr (.inr (.inr ⟨i, hi, by rw [w, (a3 i hi).1]; exact (a3 i hi).2⟩)))))
    · exact .inr (.inr (.inl (w.trans (a2 314 (by decide)))))
    · exact .inr (.inr (.inr (.inl (w.trans (a2 322 (by decide))))))
    · exact .inr (.inr (.inr (.inr (.inl (w.trans (a2 326 (by decide)))))))
    · exact .inr (.inr (.inr (.inr (.inr (.inl (w.trans (a2 330 (by decide))))))))
    · exact .inr (.inr (.inr (.inr (.inr (.inr (.inl (w.trans (a2 334 (by decide)))))))))
    · exact .inr (.inr (.inr (.inr (.inr (.inr (.inr (w.trans (a2 346 (by decide)))))))))
  · have q := b3 i hi
    rw [(a3 i hi).1] at q
    exact ⟨q.1, q.2.trans (a3 i hi).2⟩
  · rcases List.mem_append.mp hc with hc | hc
    · obtain ⟨q1, q2⟩ := a5 c hc
      have : fR h1 1718 c = fR h 1718 c := b6 c (by rw [a4]; exact List.mem_append_right _ hc)
      exact ⟨q1, by omega⟩
    · obtain ⟨q1, q2⟩ := b5 c hc
      exact ⟨by omega, by omega⟩
theorem mFs_C (I : MC G h m) (X : CSt G m nu nu1 fs h h1) : mFs m h h1 := by
  obtain ⟨a1, a2, a3, a4, ⟨a5, a6⟩, a7, a8, a9⟩ := X
  obtain ⟨q1, q2, q3⟩ := I.2.2.1.1
  have E0 : eqA (fR h 270 m) h h1 := a4.2.2.2 _ q1 (fun w => by
    rcases w with w | w | w | ⟨c, hc, w⟩
    · rw [w, I.1.1] at q2; omega
    · rw [w, I.2.1.1.1.2.1] at q2; omega
    · omega
    · rw [w, (I.2.1.2 c hc).2.1.2.1] at q2; omega)
  refine ⟨hT_mono a4 (fun _ _ w => .inl w), fun f _ => a6 f, fun i hi => ⟨?_, ?_⟩, a7, a8, a9⟩
  · unfold fO
    rw [a6 270]
    exact E0.2.2.2.2.2.1 i
  · obtain ⟨w1, _, w3, _⟩ := MC_fc I hi
    exact (a4.2.2.2 _ w3 w1).2.2.1 374
theorem mFs_W (I : MC G h m) (X : WSt m fs h h1) : mFs m h h1 := by
  obtain ⟨a1, a2, a3, a4⟩ := X
  have L := (a1.2.1 (fR h 262 m)).2.2
  refine ⟨hT_mono a2 (fun _ _ w => .inr (.inl w)), a4, fun i hi => ⟨fO_sk I a1, a1.2.2.1 374 _ (by decide)⟩, ⟨[], by rw [List.append_nil]; exact L.1, fun _ z => (by cases z)⟩, fun c _ => a1.2.2.1 1718 c (by decide), ?_, ?_⟩
  · rw [a1.1.1, L.1]; exact Nat.le_refl _
  · rw [a1.1.2, L.1, L.2]; exact Nat.le_refl _
/-- what code is like, as far as a machine asks -/
def cdP (G : om_G) (h : om_H) (m : Nat) (cd cs : Nat → Et → Nat → Nat → Nat → Prop) : Prop := ∀ o e a lv d, cd o e a lv d → (a < hz h ∧ a ≠ 0 ∧ 24 ≤ kd h a ∧ kd h a ≤ 32 ∧ kd h a ≠ 31 ∧ lv < 5000 ∧ (kd h a ≠ 30 → kd h a ≠ 32 → lv = 0))
  ∧ (eTg e = 12 → kd h a = 30 ∧ (fR h 1494 a < hz h ∧ kd h (fR h 1494 a) = 42 ∧ fR h 1494 a ≠ fR h 262 m) ∧ (lv < (ll h (fR h 1494 a)).length ∧ (ll h (fR h 1494 a)).length ≤ 4200) ∧ (∃ i, (ll h (fR h 1494 a))[(ll h (fR h 1494 a)).length - 1 - lv]? = some i ∧ (i ≠ 0 ∧ i < hz h ∧ kd h i = 31) ∧ cs o (eRt e) (fR h 1498 i) 0 d) ∧ cs o (eLf e) a (lv + 1) d)
  ∧ (eTg e = 18 → kd h a = 32 ∧ (∀ f ∈ [1522, 1526], fR h f a < hz h ∧ kd h (fR h f a) = 42 ∧ fR h f a ≠ fR h 262 m) ∧ (lv < (ll h (fR h 1522 a)).length ∧ (ll h (fR h 1522 a)).length ≤ 4200) ∧ (∃ i, (ll h (fR h 1522 a))[(ll h (fR h 1522 a)).length - 1 - lv]? = some i ∧ (i < hz h ∧ 24 ≤ kd h i ∧ kd h i ≤ 32 ∧ kd h i ≠ 31) ∧ cs o (eRt e) i 0 d) ∧ (∃ j, j < 256 ∧ (ll h (fR h 1526 a))[(ll h (fR h 1522 a)).length - 1 - lv]? = some (om_cA G (300 + j)) ∧ (j : Int) - 128 = ((eLb e).2.1 : Int) ∧ ((eLb e).2.1 = 42 ∨ (eLb e).2.1 = 43 ∨ (eLb e).2.1 = 45 ∨ (eLb e).2.1 = 60 ∨ (eLb e).2.1 = 61)) ∧ cs o (eLf e) a (lv + 1) d)
  ∧ (eTg e = 14 → lv = 0 → kd h a = 24 ∧ cs o (eLf e) (fR h 1398 a) 0 (d + 1))
  ∧ (eTg e = 15 → lv = 0 → kd h a = 25 ∧ cs o (eLf e) (fR h 1414 a) 0 d ∧ cs o (eRt e) (fR h 1418 a) 0 (d + 1))
  ∧ (eTg e = 16 → lv = 0 → kd h a = 26 ∧ cs o (eLf e) (fR h 1422 a) 0 d ∧ cs o (eLf (eRt e)) (fR h 1426 a) 0 d ∧ cs o (eRt (eRt e)) (fR h 1430 a) 0 d)
  ∧ (eTg e = 17 → lv = 0 → kd h a = 27 ∧ cs o (eLf e) (fR h 1434 a) 0 d ∧ cs o (eLf (eRt e)) (fR h 1438 a) 0 d ∧ cs o (eRt (eRt e)) (fR h 1442 a) 0 (d + 2))
theorem not_mOw (I : MC G h m) {a : Nat} (hk : kd h a ≠ 11 ∧ kd h a ≠ 12 ∧ kd h a ≠ 40 ∧ kd h a ≠ 50 ∧ kd h a ≠ 51 ∧ kd h a ≠ 52 ∧ kd h a ≠ 57) (hl : a ≠ fR h 262 m) : ¬ mOw h m a := fun w => by
  obtain ⟨k1, k2, k3, k4, k5, k6, k7⟩ := hk
  obtain ⟨⟨m1, m2⟩, ⟨_, l8⟩, ⟨_, f4⟩, ⟨a1, a2, a3⟩, ⟨a4, a5, a6⟩, ⟨a7, a8, a9⟩, b1, b2, b3, b4, b5⟩ := I
  rcases w with w | w | w | w | w | w | w | w
  · rcases w with w | w | w | ⟨c, hc, w⟩
    · rw [w] at k1; exact k1 m1
    · exact hl w
    · exact k3 w
    · rw [w] at k5; exact k5 (l8 c hc).2.1.2.1
  · rcases w with w | w | w | w | ⟨i, hi, w⟩
    · rw [w] at k1; exact k1 m1
    · exact k2 w
    · rw [w] at k5; exact k5 a1.2.1
    · rw [w] at k5; exact k5 a2.2.1
    · rw [w] at k5; exact k5 (f4 i hi).2.1.2.1
  · rw [w] at k4; exact k4 a5
  · rw [w] at k7; exact k7 a8
  · rw [w] at k5; exact k5 (b1 326 (by decide)).2.1
  · rw [w] at k5; exact k5 (b1 330 (by decide)).2.1
  · rw [w] at k5; exact k5 (b1 334 (by decide)).2.1
  · rw [w] at k6; exact k6 b4
/-- code stays -/
theorem cdP_keep (I : MC G h0 m) (F : mFs m h0 h) (P : cdP G h0 m cd cs) : cdP G h m cd cs := fun o e a lv d hc => by
  obtain ⟨⟨p1, p2, p3, p4, p5, p6, p7⟩, q12, q18, q14, q15, q16, q17⟩ := P o e a lv d hc
  have zl := F.1.1
  have E := F.1.2.2.2 a p1 (not_mOw I (by omega) (fun z => by rw [z, I.2.1.1.1.2.1] at p4; omega))
  have EL : ∀ L, L < hz h0 → kd h0 L = 42 → L ≠ fR h0 262 m → eqA L h0 h := fun L l1 l2 l3 => F.1.2.2.2 L l1 (not_mOw I (by omega) l3)
  have e62 := F.2.1 262 (by decide)
  have k := E.1
  refine ⟨⟨by omega, p2, by omega, by omega, by omega, p6, fun z1 z2 => p7 (by rw [← k]; exact z1) (by rw [← k]; exact z2)⟩, fun t => ?_, fun t => ?_, fun t l => ?_, fun t l => ?_, fun t l => ?_, fun t l => ?_⟩
  · obtain ⟨r1, ⟨r2, r3, r4⟩, r5, ⟨i, r6, ⟨r7, r8, r9⟩, r10⟩, r11⟩ := q12 t
    have EL1 := EL _ r2 r3 r4
    have Ei := F.1.2.2.2 i r8 (not_mOw I (by omega) (fun z => by rw [z, I.2.1.1.1.2.1] at r9; omega))
    rw [E.2.2.1 1494, e62, EL1.2.2.2.2.2.2.1, EL1.1]
    exact ⟨k.trans r1, ⟨by omega, r3, r4⟩, r5, ⟨i, r6, ⟨r7, by omega, Ei.1.trans r9⟩, by rw [Ei.2.2.1]; exact r10⟩, r11⟩
  · obtain ⟨r1, r2, r5, ⟨i, r6, ⟨y1, y2, y3, y4⟩, y5⟩, r7, r8⟩ := q18 t
    have ki := F.1.2.2.1 i y1
    obtain ⟨s1, s2, s3⟩ := r2 1522 (by decide)
    obtain ⟨s4, s5, s6⟩ := r2 1526 (by decide)
    have EL1 := EL _ s1 s2 s3
    have EL2 := EL _ s4 s5 s6
    rw [E.2.2.1 1522, E.2.2.1 1526, EL1.2.2.2.2.2.2.1, EL2.2.2.2.2.2.2.1]
    refine ⟨k.trans r1, fun f hf => ?_, r5, ⟨i, r6, ⟨by omega, by omega, by omega, by omega⟩, y5⟩, r7, r8⟩
    obtain ⟨g1, g2, g3⟩ := r2 f hf
    rw [E.2.2.1 f, e62, (EL _ g1 g2 g3).1]
    exact ⟨by omega, g2, g3⟩
  · rw [E.2.2.1]; obtain ⟨r1, r2⟩ := q14 t l; exact ⟨k.trans r1, r2⟩
  · rw [E.2.2.1, E.2.2.1]; obtain ⟨r1, r2⟩ := q15 t l; exact ⟨k.trans r1, r2⟩
  · rw [E.2.2.1, E.2.2.1, E.2.2.1]; obtain ⟨r1, r2⟩ := q16 t l; exact ⟨k.trans r1, r2⟩
  · rw [E.2.2.1, E.2.2.1, E.2.2.1]; obtain ⟨r1, r2⟩ := q17 t l; exact ⟨k.trans r1, r2⟩
end LMS
