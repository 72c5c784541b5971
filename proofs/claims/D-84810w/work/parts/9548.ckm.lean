set_option maxRecDepth 100000
/-! TERMS ARE TOLD ONE AFTER ANOTHER in the component: what stays -/
/-- so much is done while terms are told -/
def KM (N : List (List Int)) (cl : Nat → Nat) (tb l0 pv Lp s tm : Nat) (rest : List (Nat × List Nat)) (us fs : List Nat) (h h' : om_H) : Prop := hT (fun y => DT h tb fs y ∨ y = l0 ∨ y = pv ∨ y = Lp ∨ y = s ∨ y = tm ∨ kd h y = 39) h h' ∧ (∀ T a, tyC h N cl (UU us rest) T a → tyC h' N cl (UU us rest) T a) ∧ ((∃ d, ll h' Lp = ll h Lp ++ d) ∧ (∀ f, f ≠ 124 → f ≠ 128 → fI h' f tb = fI h f tb) ∧ ∀ f, fR h' f tb = fR h f tb) ∧ hz h' + 2 * (ll h Lp).length ≤ hz h + 2 * (ll h' Lp).length ∧ hu h' + 4 * lc h Lp + 4 * lc h (fR h 122 tb) + 6 * (ll h Lp).length ≤ hu h + 4 * lc h' Lp + 4 * lc h' (fR h 122 tb) + 6 * (ll h' Lp).length
section LKM
variable {G : om_G} {h h1 h2 : om_H} {N : List (List Int)} {cl : Nat → Nat} {tb l0 sc pv Lp te s tm : Nat} {us fs : List Nat} {rest : List (Nat × List Nat)} {Sl : Nat → Prop} {io : Nat → Nat} {ab : List (Option Nat)} {ins : List INs} {gv : List GVs}
theorem KM_refl : KM N cl tb l0 pv Lp s tm rest us fs h h := ⟨hT_refl _ _, fun _ _ c => c, ⟨⟨[], by simp⟩, fun _ _ _ => rfl, fun _ => rfl⟩, Nat.le_refl _, Nat.le_refl _⟩
theorem KM_trans (A : KM N cl tb l0 pv Lp s tm rest us fs h h1) (B : KM N cl tb l0 pv Lp s tm rest us fs h1 h2) : KM N cl tb l0 pv Lp s tm rest us fs h h2 := by
  obtain ⟨a1, a2, ⟨⟨d, a4⟩, a9, a10⟩, a13, a14⟩ := A
  obtain ⟨b1, b2, ⟨⟨d', b4⟩, b9, b10⟩, b13, b14⟩ := B
  have e122 : fR h1 122 tb = fR h 122 tb := a10 122
  have e134 : fR h1 134 tb = fR h 134 tb := a10 134
  refine ⟨hT_trans a1 b1 (fun y hy w => ?_), fun T a c => b2 T a (a2 T a c), ⟨⟨d ++ d', by rw [b4, a4, List.append_assoc]⟩, fun f g1 g2 => (b9 f g1 g2).trans (a9 f g1 g2), fun f => (b10 f).trans (a10 f)⟩, ?_, ?_⟩
  · unfold DT at w ⊢
    rw [e122, e134] at w
    rcases w with w | w | w | w | w | w | w
    · exact .inl w
    · exact .inr (.inl w)
    · exact .inr (.inr (.inl w))
    · exact .inr (.inr (.inr (.inl w)))
    · exact .inr (.inr (.inr (.inr (.inl w))))
    · exact .inr (.inr (.inr (.inr (.inr (.inl w)))))
    · exact .inr (.inr (.inr (.inr (.inr (.inr (by rw [← a1.2.2.1 y hy]; exact w))))))
  · rw [b4, a4] at b13 ⊢
    rw [a4] at a13
    simp only [List.length_append] at a13 b13 ⊢
    omega
  · rw [e122] at b14
    rw [b4, a4] at b14 ⊢
    rw [a4] at a14
    simp only [List.length_append] at a14 b14 ⊢
    omega
/-- telling is such a step -/
theorem KM_KTe (A : KTe N cl tb l0 pv Lp s rest us fs h h1) : KM N cl tb l0 pv Lp s tm rest us fs h h1 := by
  obtain ⟨a1, a2, a3, _, a13, a14⟩ := A
  refine ⟨hT_mono a1 (fun z _ w => ?_), a2, a3, a13, a14⟩
  rcases w with w | w | w | w | w | w
  · exact .inl w
  · exact .inr (.inl w)
  · exact .inr (.inr (.inl w))
  · exact .inr (.inr (.inr (.inl w)))
  · exact .inr (.inr (.inr (.inr (.inl w))))
  · exact .inr (.inr (.inr (.inr (.inr (.inr w)))))
/-- what is written to the sink, the finder and the term alone -/
theorem KM_w (nd : ndN N) (P : TvP G h N cl tb l0 us fs rest pv Lp te s) (m13 : kd h tm = 13) (X : hT (fun z => z = s ∨ z = l0 ∨ z = tm) h h1) (zz : hz h1 = hz h) (uu : hu h1 = hu h) (lcc : ∀ z, lc h1 z = lc h z) : KM N cl tb l0 pv Lp s tm rest us fs h h1 ∧ TB G h1 N cl tb us fs rest := by
  obtain ⟨T, ⟨k9, l9, i220⟩, ⟨⟨p1, p2⟩, p3⟩, ⟨p5, p6, p7, p8⟩, n1, ⟨⟨t1, t2⟩, t3, t4, t5⟩, s1, s2⟩ := P
  have X' : hT (fun z => (z = s ∨ z = l0 ∨ z = tm) ∧ z < hz h) h h1 := ⟨X.1, X.2.1, X.2.2.1, fun z hz' nz => X.2.2.2 z hz' (fun w => nz ⟨w, hz'⟩)⟩
  have dk : ∀ z, (z = s ∨ z = l0 ∨ z = tm) → kd h z = 8 ∨ kd h z = 9 ∨ kd h z = 13 := fun z w => by
    rcases w with w | w | w
    · exact .inl (by rw [w]; exact s1)
    · exact .inr (.inl (by rw [w]; exact k9))
    · exact .inr (.inr (by rw [w]; exact m13))
  have dk' : dOK (fun z => (z = s ∨ z = l0 ∨ z = tm) ∧ z < hz h) h h1 := fun z w => by
    have := dk z w.1
    exact ⟨by omega, by omega, fun e => by omega⟩
  have T1 : TB G h1 N cl tb us fs rest := TB_hT T nd X' (fun z w _ => by
    have := dk z w.1
    refine ⟨by omega, by omega, by omega, fun e => ?_⟩
    have k122 := T.2.1.1.2.1
    rw [← e] at k122
    omega) dk'
  have tbl := TB_3 T
  have etb := X.2.2.2 tb tbl.2.2 (fun w => by have := dk tb w; omega)
  have eL := X.2.2.2 Lp p5.1 (fun w => by
    have := dk Lp w
    have := p5.2.1
    omega)
  have kp : ∀ T a, tyC h N cl (UU us rest) T a → tyC h1 N cl (UU us rest) T a := fun X0 a0 c0 => tyC_hT (D := fun z => (z = s ∨ z = l0 ∨ z = tm) ∧ z < hz h) X' dk' (fun z w w' => by
    have u34 := (TB_U34 T w).1
    have := dk z w'.1
    omega) (fun _ w => w) (fun _ _ z => z) c0
  have lL := eL.2.2.2.2.2.2.1
  refine ⟨⟨hT_mono X (fun z _ w => ?_), kp, ⟨⟨[], by rw [lL]; simp⟩, fun f _ _ => etb.2.1 f, etb.2.2.1⟩, by rw [lL, zz]; exact Nat.le_refl _, by rw [lL, lcc, lcc, uu]; exact Nat.le_refl _⟩, T1⟩
  rcases w with w | w | w
  · exact .inr (.inr (.inr (.inr (.inl w))))
  · exact .inr (.inl w)
  · exact .inr (.inr (.inr (.inr (.inr (.inl w)))))
theorem KM_B (nd : ndN N) (P : TvP G h N cl tb l0 us fs rest pv Lp te s) (m13 : kd h tm = 13) (Q : PrgC h N cl tb sc us rest Sl io ab ins gv Lp) (l2 : Int) : KM N cl tb l0 pv Lp s tm rest us fs h (hBt h s l0 sc tb l2) := by
  obtain ⟨_, X, _, _, zz, uu, lcc⟩ := c_begT nd P Q l2
  exact (KM_w nd P m13 (hT_mono X (fun z _ w => by
    rcases w with w | w
    · exact .inl w
    · exact .inr (.inl w))) zz uu lcc).1
/-- the teller at rest stays so when the sink or the term is written -/
theorem TvP_w (nd : ndN N) (P : TvP G h N cl tb l0 us fs rest pv Lp te s) (m13 : kd h tm = 13) (X : hT (fun z => z = s ∨ z = tm) h h1) (zz : hz h1 = hz h) (uu : hu h1 = hu h) (lcc : ∀ z, lc h1 z = lc h z) : TvP G h1 N cl tb l0 us fs rest pv Lp te s ∧ KM N cl tb l0 pv Lp s tm rest us fs h h1 := by
  obtain ⟨KM1, T1⟩ := KM_w nd P m13 (hT_mono X (fun z _ w => by
    rcases w with w | w
    · exact .inl w
    · exact .inr (.inr w))) zz uu lcc
  obtain ⟨T, ⟨k9, l9, i220⟩, ⟨⟨p1, p2⟩, p3⟩, ⟨p5, p6, p7, p8⟩, n1, ⟨⟨t1, t2⟩, t3, t4, t5⟩, s1, s2⟩ := P
  have dk : ∀ z, (z = s ∨ z = tm) → kd h z = 8 ∨ kd h z = 13 := fun z w => by
    rcases w with w | w
    · exact .inl (by rw [w]; exact s1)
    · exact .inr (by rw [w]; exact m13)
  have el0 := X.2.2.2 l0 l9 (fun w => by have := dk l0 w; omega)
  have epv := X.2.2.2 pv p2 (fun w => by have := dk pv w; omega)
  have ete := X.2.2.2 te t2 (fun w => by have := dk te w; omega)
  have nL : ¬ (Lp = s ∨ Lp = tm) := fun w => by
    have := dk Lp w
    have := p5.2.1
    omega
  have eL := X.2.2.2 Lp p5.1 nL
  have lL := eL.2.2.2.2.2.2.1
  have ks : kd h1 s = 8 := by rw [X.2.2.1 s s2]; exact s1
  refine ⟨⟨T1, ⟨by rw [el0.1]; exact k9, by rw [zz]; exact l9, by rw [el0.2.1]; exact i220⟩, ⟨⟨by rw [epv.1]; exact p1, by rw [zz]; exact p2⟩, by rw [epv.2.2.1]; exact p3⟩, ⟨okV_hT p5 X nL, by rw [lL]; exact p6, fun y hy => ?_, by rw [lL]; exact p8⟩, by rw [KM1.2.2.1.2.2]; exact n1, ⟨⟨by rw [ete.1]; exact t1, by rw [zz]; exact t2⟩, by rw [ete.2.2.1]; exact t3, by rw [ete.2.2.1]; exact t4, by rw [ete.2.2.1]; exact t5⟩, ks, by rw [zz]; exact s2⟩, KM1⟩
  rw [lL] at hy
  obtain ⟨q1, q2, q3⟩ := p7 y hy
  exact ⟨q1, by rw [zz]; exact q2, by rw [X.2.2.1 y q2]; exact q3⟩
/-- kinds that are never written -/
theorem KM_eq (P : TvP G h N cl tb l0 us fs rest pv Lp te s) (m13 : kd h tm = 13) (A : KM N cl tb l0 pv Lp s tm rest us fs h h1) {a : Nat} (ha : a < hz h) (hk : kd h a ≠ 3 ∧ kd h a ≠ 42 ∧ kd h a ≠ 56 ∧ kd h a ≠ 34 ∧ kd h a ≠ 9 ∧ kd h a ≠ 6 ∧ kd h a ≠ 39 ∧ kd h a ≠ 8 ∧ kd h a ≠ 13) : eqA a h h1 := A.1.2.2.2 a ha (fun w => by
  obtain ⟨T, ⟨k9, l9, i220⟩, ⟨⟨p1, p2⟩, p3⟩, ⟨p5, p6, p7, p8⟩, n1, _, s1, s2⟩ := P
  rcases w with w | w | w | w | w | w | w
  · have := DT_kd T w
    omega
  · rw [w, k9] at hk; omega
  · rw [w, p1] at hk; omega
  · rw [w, p5.2.1] at hk; omega
  · rw [w, s1] at hk; omega
  · rw [w, m13] at hk; omega
  · omega)
theorem KM_ll (P : TvP G h N cl tb l0 us fs rest pv Lp te s) (m13 : kd h tm = 13) (A : KM N cl tb l0 pv Lp s tm rest us fs h h1) {a : Nat} (ha : a < hz h) (hk : kd h a = 42) (n1 : a ≠ fR h 122 tb) (n2 : a ≠ Lp) : eqA a h h1 := A.1.2.2.2 a ha (fun w => by
  obtain ⟨T, ⟨k9, l9, i220⟩, ⟨⟨p1, p2⟩, p3⟩, ⟨p5, p6, p7, p8⟩, _, _, s1, s2⟩ := P
  rcases w with w | w | w | w | w | w | w
  · exact DT_L T hk n1 w
  · rw [w, k9] at hk; omega
  · rw [w, p1] at hk; omega
  · exact n2 w
  · rw [w, s1] at hk; omega
  · rw [w, m13] at hk; omega
  · omega)
theorem KM_hS (P : TvP G h N cl tb l0 us fs rest pv Lp te s) (m13 : kd h tm = 13) (A : KM N cl tb l0 pv Lp s tm rest us fs h h1) {g : Prop} {Sl' : Nat → Prop} (hS' : ∀ a, Sl' a → kd h a = 42 ∧ a ≠ fR h 122 tb ∧ a ≠ Lp) : hSg g Sl' h h1 := hS_hT A.1 (fun z hz' w => by
  obtain ⟨T, ⟨k9, l9, i220⟩, ⟨⟨p1, p2⟩, p3⟩, ⟨p5, p6, p7, p8⟩, _, _, s1, s2⟩ := P
  have kz : kd h z = 3 ∨ kd h z = 42 ∨ kd h z = 56 ∨ kd h z = 34 ∨ kd h z = 9 ∨ kd h z = 6 ∨ kd h z = 39 ∨ kd h z = 8 ∨ kd h z = 13 := by
    rcases w with w | w | w | w | w | w | w
    · have := DT_kd T w
      omega
    · rw [w]; omega
    · rw [w]; omega
    · have := p5.2.1
      rw [w]; omega
    · rw [w]; omega
    · rw [w]; omega
    · omega
  refine ⟨fun m => ?_, by omega, by omega, by omega, fun sl => ?_⟩
  · simp only [List.mem_cons, List.not_mem_nil, or_false] at m
    omega
  · obtain ⟨q1, q2, q3⟩ := hS' z sl
    rcases w with w | w | w | w | w | w | w
    · exact DT_L T q1 q2 w
    · rw [w] at q1; omega
    · rw [w] at q1; omega
    · exact q3 w
    · rw [w] at q1; omega
    · rw [w] at q1; omega
    · omega)
/-- the program stays -/
theorem PrgC_KM (P : TvP G h N cl tb l0 us fs rest pv Lp te s) (m13 : kd h tm = 13) (A : KM N cl tb l0 pv Lp s tm rest us fs h h1) (Q : PrgC h N cl tb sc us rest Sl io ab ins gv Lp) : PrgC h1 N cl tb sc us rest Sl io ab ins gv Lp := by
  obtain ⟨⟨g1, g2, g3, hcl⟩, PG, GV, nL⟩ := Q
  have X : hS Sl h h1 := KM_hS P m13 A (fun a sa => ⟨(g3 a sa).2, fun z => g2 (by rw [← z]; exact sa), fun z => nL (by rw [← z]; exact sa)⟩)
  have e122 := A.2.2.1.2.2 122
  refine ⟨⟨by rw [e122]; exact g1, by rw [e122]; exact g2, fun a ha => ⟨Nat.lt_of_lt_of_le (g3 a ha).1 X.1, by rw [X.2.1 _ (g3 a ha).1]; exact (g3 a ha).2⟩, fun c => Nat.lt_of_lt_of_le (hcl c) X.1⟩, PGC_hS X A.2.1 PG (fun c hc => ?_), GVC_hS X A.2.1 GV, nL⟩
  obtain ⟨a1, a2, a3, a4⟩ := hc
  have k18 : kd h (cl c) = 18 := by rw [← X.2.1 _ (hcl c)]; exact a3
  exact ⟨a1, hcl c, k18, by rw [← (X.2.2.1 _ (hcl c) (by rw [k18]; decide)).1 1200 (by decide)]; exact a4⟩
end LKM
