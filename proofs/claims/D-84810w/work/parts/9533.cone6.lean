set_option maxRecDepth 100000
/-! THE COMPONENT'S TELLER: what it has, its steps; why two types are one -/
/-- what there is while terms are told -/
def TvE (G : om_G) (h : om_H) (N : List (List Int)) (cl : Nat → Nat) (tb l0 sc : Nat) (us fs : List Nat) (rest : List (Nat × List Nat)) (Sl : Nat → Prop) (io : Nat → Nat) (ab : List (Option Nat)) (ins : List INs) (gv : List GVs) (pv Lp te s : Nat) : Prop := FnC G h N cl tb l0 sc us fs rest Sl io ab ins gv 1 0 (0, 0, []) ∧ ((kd h pv = 6 ∧ pv < hz h) ∧ fR h 170 pv = Lp) ∧ (okV G h Lp ∧ (ll h Lp).Nodup ∧ (∀ y ∈ ll h Lp, y ≠ 0 ∧ y < hz h ∧ kd h y = 39) ∧ (ll h Lp).length ≤ 9000) ∧ (Lp ≠ fR h 122 tb ∧ ¬ Sl Lp) ∧ ((kd h te = 7 ∧ te < hz h) ∧ fR h 182 te = s ∧ fR h 186 te = pv ∧ fR h 190 te = l0) ∧ (kd h s = 8 ∧ s < hz h)
/-- a step of the teller: all but what was told -/
def KTe (N : List (List Int)) (cl : Nat → Nat) (tb l0 pv Lp s : Nat) (rest : List (Nat × List Nat)) (us fs : List Nat) (h h' : om_H) : Prop := hT (fun y => DT h tb fs y ∨ y = l0 ∨ y = pv ∨ y = Lp ∨ y = s ∨ kd h y = 39) h h' ∧ (∀ T a, tyC h N cl (UU us rest) T a → tyC h' N cl (UU us rest) T a) ∧ ((∃ d, ll h' Lp = ll h Lp ++ d) ∧ (∀ f, f ≠ 124 → f ≠ 128 → fI h' f tb = fI h f tb) ∧ ∀ f, fR h' f tb = fR h f tb) ∧ (fI h' 196 s = fI h 196 s ∧ fI h' 204 s = fI h 204 s) ∧ hz h' + 2 * (ll h Lp).length ≤ hz h + 2 * (ll h' Lp).length ∧ hu h' + 4 * lc h Lp + 4 * lc h (fR h 122 tb) + 6 * (ll h Lp).length ≤ hu h + 4 * lc h' Lp + 4 * lc h' (fR h 122 tb) + 6 * (ll h' Lp).length
section LTV
variable {G : om_G} {h h1 h2 : om_H} {N : List (List Int)} {cl : Nat → Nat} {tb l0 sc pv Lp te s u u1 u2 B : Nat} {us fs : List Nat} {rest : List (Nat × List Nat)} {Sl U : Nat → Prop} {io : Nat → Nat} {ab : List (Option Nat)} {ins : List INs} {gv : List GVs} {nm con fam : Nat → List Int}
theorem KTe_refl : KTe N cl tb l0 pv Lp s rest us fs h h := ⟨hT_refl _ _, fun _ _ c => c, ⟨⟨[], by simp⟩, fun _ _ _ => rfl, fun _ => rfl⟩, ⟨rfl, rfl⟩, Nat.le_refl _, Nat.le_refl _⟩
theorem KTe_trans (A : KTe N cl tb l0 pv Lp s rest us fs h h1) (B : KTe N cl tb l0 pv Lp s rest us fs h1 h2) : KTe N cl tb l0 pv Lp s rest us fs h h2 := by
  obtain ⟨a1, a2, ⟨⟨d, a4⟩, a9, a10⟩, ⟨a11, a12⟩, a13, a14⟩ := A
  obtain ⟨b1, b2, ⟨⟨d', b4⟩, b9, b10⟩, ⟨b11, b12⟩, b13, b14⟩ := B
  have e122 : fR h1 122 tb = fR h 122 tb := a10 122
  have e134 : fR h1 134 tb = fR h 134 tb := a10 134
  refine ⟨hT_trans a1 b1 (fun y hy w => ?_), fun T a c => b2 T a (a2 T a c), ⟨⟨d ++ d', by rw [b4, a4, List.append_assoc]⟩, fun f g1 g2 => (b9 f g1 g2).trans (a9 f g1 g2), fun f => (b10 f).trans (a10 f)⟩, ⟨b11.trans a11, b12.trans a12⟩, ?_, ?_⟩
  · unfold DT at w ⊢
    rw [e122, e134] at w
    rcases w with w | w | w | w | w | w
    · exact .inl w
    · exact .inr (.inl w)
    · exact .inr (.inr (.inl w))
    · exact .inr (.inr (.inr (.inl w)))
    · exact .inr (.inr (.inr (.inr (.inl w))))
    · exact .inr (.inr (.inr (.inr (.inr (by rw [← a1.2.2.1 y hy]; exact w)))))
  · rw [b4, a4] at b13 ⊢
    rw [a4] at a13
    simp only [List.length_append] at a13 b13 ⊢
    omega
  · rw [e122] at b14
    rw [b4, a4] at b14 ⊢
    rw [a4] at a14
    simp only [List.length_append] at a14 b14 ⊢
    omega
/-- a finder that looks only -/
theorem FnC_nextB {c bg : Nat} {w : WS} (F : FnC G h N cl tb l0 sc us fs rest Sl io ab ins gv c bg w) (X : hS Sl h h1) (kp : ∀ T a, tyC h N cl (UU us rest) T a → tyC h1 N cl (UU us rest) T a) (T' : TB G h1 N cl tb us fs rest) (eR : ∀ f, fR h1 f l0 = fR h f l0) (e122 : fR h1 122 tb = fR h 122 tb) (e1 : fI h1 220 l0 = 0) (e0 : fI h1 227 l0 = 0) : FnC G h1 N cl tb l0 sc us fs rest Sl io ab ins gv 0 0 (0, 0, []) := by
  obtain ⟨T, ⟨⟨f1, f2, f3⟩, f4⟩, ⟨g1, g2, g3, hcl⟩, P, V, _, k1, k2⟩ := F
  refine ⟨T', ⟨⟨by rw [X.2.1 _ f2]; exact f1, Nat.lt_of_lt_of_le f2 X.1, by rw [eR]; exact f3⟩, by rw [eR]; exact f4⟩, ⟨by rw [e122]; exact g1, by rw [e122]; exact g2, fun a ha => ⟨Nat.lt_of_lt_of_le (g3 a ha).1 X.1, by rw [X.2.1 _ (g3 a ha).1]; exact (g3 a ha).2⟩, fun c => Nat.lt_of_lt_of_le (hcl c) X.1⟩, PGC_hS X kp P (fun c hc => ?_), GVC_hS X kp V, e1, fun z => by omega, fun _ => e0⟩
  obtain ⟨a1, a2, a3, a4⟩ := hc
  have k18 : kd h (cl c) = 18 := by rw [← X.2.1 _ (hcl c)]; exact a3
  exact ⟨a1, hcl c, k18, by rw [← (X.2.2.1 _ (hcl c) (by rw [k18]; decide)).1 1200 (by decide)]; exact a4⟩
theorem FnC_1 (F : FnC G h N cl tb l0 sc us fs rest Sl io ab ins gv 0 0 (0, 0, [])) : FnC G h N cl tb l0 sc us fs rest Sl io ab ins gv 1 0 (0, 0, []) := ⟨F.1, F.2.1, F.2.2.1, F.2.2.2.1, F.2.2.2.2.1, F.2.2.2.2.2.1, fun z => by omega, fun z => by omega⟩
/-- what is written to things of the teller alone -/
theorem Tv_hT (nd : ndN N) (E : TvE G h N cl tb l0 sc us fs rest Sl io ab ins gv pv Lp te s) {D : Nat → Prop} (X : hT D h h1) (dk : ∀ z, z < hz h → D z → kd h z = 6 ∨ kd h z = 8 ∨ kd h z = 9) : TB G h1 N cl tb us fs rest ∧ (∀ T a, tyC h N cl (UU us rest) T a → tyC h1 N cl (UU us rest) T a) ∧ hS Sl h h1 ∧ eqA tb h h1 ∧ eqA Lp h h1 ∧ eqA te h h1 ∧ okV G h1 Lp := by
  obtain ⟨F, ⟨⟨p1, p2⟩, p3⟩, ⟨p5, p6, p7, p8⟩, ⟨n1, n2⟩, ⟨⟨t1, t2⟩, t3, t4, t5⟩, s1, s2⟩ := id E
  have T := F.1
  have X' : hT (fun z => D z ∧ z < hz h) h h1 := ⟨X.1, X.2.1, X.2.2.1, fun z hz' nz => X.2.2.2 z hz' (fun w => nz ⟨w, hz'⟩)⟩
  have dk' : dOK (fun z => D z ∧ z < hz h) h h1 := fun z w => by
    have := dk z w.2 w.1
    exact ⟨by omega, by omega, fun e => by omega⟩
  have T1 : TB G h1 N cl tb us fs rest := TB_hT T nd X' (fun z w _ => by
    have := dk z w.2 w.1
    refine ⟨by omega, by omega, by omega, fun e => ?_⟩
    have k122 := T.2.1.1.2.1
    rw [← e] at k122
    omega) dk'
  have tbl := TB_3 T
  have nL : ¬ D Lp := fun w => by
    have := dk Lp p5.1 w
    have := p5.2.1
    omega
  refine ⟨T1, fun X0 a0 c0 => tyC_hT (D := fun z => D z ∧ z < hz h) X' dk' (fun z w w' => by
    have u34 := (TB_U34 T w).1
    have := dk z w'.2 w'.1
    omega) (fun _ w => w) (fun _ _ z => z) c0, hS_hT X (fun z hz' w => ?_), X.2.2.2 tb tbl.2.2 (fun w => by have := dk tb tbl.2.2 w; omega), X.2.2.2 Lp p5.1 nL, X.2.2.2 te t2 (fun w => by have := dk te t2 w; omega), okV_hT p5 X nL⟩
  have q := dk z hz' w
  refine ⟨fun m => ?_, by omega, by omega, by omega, fun sl => ?_⟩
  · simp only [List.mem_cons, List.not_mem_nil, or_false] at m
    omega
  · have := (F.2.2.1.2.2.1 z sl).2
    omega
/-- bytes are put -/
theorem TvE_K (nd : ndN N) (E : TvE G h N cl tb l0 sc us fs rest Sl io ab ins gv pv Lp te s) (K : hK s h h1) : TvE G h1 N cl tb l0 sc us fs rest Sl io ab ins gv pv Lp te s ∧ KTe N cl tb l0 pv Lp s rest us fs h h1 := by
  obtain ⟨F, ⟨⟨p1, p2⟩, p3⟩, ⟨p5, p6, p7, p8⟩, ⟨n1, n2⟩, ⟨⟨t1, t2⟩, t3, t4, t5⟩, s1, s2⟩ := id E
  have X : hT (fun z => z = s) h h1 := ⟨by rw [K.1.1]; exact Nat.le_refl _, by rw [K.1.2]; exact Nat.le_refl _, fun z _ => (K.2 z).1, fun z _ nz => by
    obtain ⟨a1, a2, a3, a4, a5, a6, a7, a8⟩ := K.2 z
    exact ⟨a1, fun f => a2 f (.inl nz), a3, a4, a5, a6, a7, a8⟩⟩
  obtain ⟨T1, kp, hSS, etb, eL, ete, okL⟩ := Tv_hT nd E X (fun z _ w => .inr (.inl (by rw [w]; exact s1)))
  have el0 := X.2.2.2 l0 F.2.1.1.2.1 (fun w => by
    have := F.2.1.1.1
    rw [w] at this; omega)
  have epv := X.2.2.2 pv p2 (fun w => by rw [w] at p1; omega)
  have F1 : FnC G h1 N cl tb l0 sc us fs rest Sl io ab ins gv 1 0 (0, 0, []) := FnC_nextG F hSS kp T1 (el0.2.1 227) el0.2.2.1 (etb.2.2.1 122) (by rw [el0.2.1]; exact F.2.2.2.2.2.1) (fun z => by omega)
  have lL := eL.2.2.2.2.2.2.1
  have l122 := (K.2 (fR h 122 tb)).2.2.2.2.2.2.2
  refine ⟨⟨F1, ⟨⟨by rw [epv.1]; exact p1, by rw [K.1.1]; exact p2⟩, by rw [epv.2.2.1]; exact p3⟩, ⟨okL, by rw [lL]; exact p6, fun y hy => ?_, by rw [lL]; exact p8⟩, ⟨by rw [etb.2.2.1]; exact n1, n2⟩, ⟨⟨by rw [ete.1]; exact t1, by rw [K.1.1]; exact t2⟩, by rw [ete.2.2.1]; exact t3, by rw [ete.2.2.1]; exact t4, by rw [ete.2.2.1]; exact t5⟩, by rw [(K.2 s).1]; exact s1, by rw [K.1.1]; exact s2⟩, hT_mono X (fun z _ w => .inr (.inr (.inr (.inr (.inl w))))), kp, ⟨⟨[], by rw [lL]; simp⟩, fun f _ _ => etb.2.1 f, etb.2.2.1⟩, ⟨(K.2 s).2.1 196 (.inr ⟨by decide, by decide⟩), (K.2 s).2.1 204 (.inr ⟨by decide, by decide⟩)⟩, by rw [lL, K.1.1]; exact Nat.le_refl _, by rw [lL, eL.2.2.2.2.2.2.2, l122, K.1.2]; exact Nat.le_refl _⟩
  rw [lL] at hy
  obtain ⟨q1, q2, q3⟩ := p7 y hy
  exact ⟨q1, by rw [K.1.1]; exact q2, by rw [(K.2 y).1]; exact q3⟩
theorem TvE_Tl (E : TvE G h N cl tb l0 sc us fs rest Sl io ab ins gv pv Lp te s) : TlO h te s := ⟨E.2.2.2.2.1.1.1, E.2.2.2.2.1.2.1, E.2.2.2.2.2.1⟩
/-- the prover begins -/
theorem c_begin5 (nd : ndN N) (E : TvE G h N cl tb l0 sc us fs rest Sl io ab ins gv pv Lp te s) : ∃ h1, C_5_begin G pv l0 h = some h1 ∧ PvE G h1 N cl tb l0 sc us fs rest Sl io ab ins gv pv Lp 0 ∧ KTe N cl tb l0 pv Lp s rest us fs h h1 ∧ snk s h1 = snk s h ∧ ll h1 Lp = ll h Lp := by
  obtain ⟨F, ⟨⟨p1, p2⟩, p3⟩, ⟨p5, p6, p7, p8⟩, ⟨n1, n2⟩, ⟨⟨t1, t2⟩, t3, t4, t5⟩, s1, s2⟩ := id E
  have k9 := F.2.1.1.1
  have pl : pv ≠ l0 := fun z => by rw [z] at p1; omega
  generalize eh : sI (sI (sR h 178 pv l0) 227 l0 0) 172 pv 0 = h1
  have e1 : C_5_begin G pv l0 h = some h1 := by
    unfold C_5_begin
    rw [gd_pos ⟨p1, k9⟩, eh]
  have X : hT (fun z => z = pv ∨ z = l0) h h1 := by
    rw [← eh]
    refine ⟨Nat.le_refl _, Nat.le_refl _, fun _ _ => rfl, fun z _ nz => ⟨rfl, fun g => ?_, fun g => ?_, rfl, fun _ => rfl, fun _ => rfl, rfl, rfl⟩⟩
    · rw [fI_na (fun e => nz (.inl e)), fI_na (fun e => nz (.inr e))]
      rfl
    · exact fR_na (fun e => nz (.inl e))
  obtain ⟨T1, kp, hSS, etb, eL, ete, okL⟩ := Tv_hT nd E X (fun z _ w => by
    rcases w with w | w
    · exact .inl (by rw [w]; exact p1)
    · exact .inr (.inr (by rw [w]; exact k9)))
  have es := X.2.2.2 s s2 (fun w => by
    rcases w with w | w
    · rw [w] at s1; omega
    · rw [w] at s1; omega)
  have zz : hz h1 = hz h := by rw [← eh]; rfl
  have uu : hu h1 = hu h := by rw [← eh]; rfl
  have kk : ∀ z, kd h1 z = kd h z := fun z => by rw [← eh]; rfl
  have lL : ll h1 Lp = ll h Lp := eL.2.2.2.2.2.2.1
  have lcc : ∀ z, lc h1 z = lc h z := fun z => by rw [← eh]; rfl
  have r0 : ∀ f, fR h1 f l0 = fR h f l0 := fun f => by
    rw [← eh]
    exact fR_na (fun e => pl e.symm)
  have i220 : fI h1 220 l0 = 0 := by
    rw [← eh, fI_ne (by decide), fI_ne (by decide)]
    exact F.2.2.2.2.2.1
  have i227 : fI h1 227 l0 = 0 := by
    rw [← eh, fI_ne (by decide), fI_eq]
  have F1 := FnC_nextB F hSS kp T1 r0 (etb.2.2.1 122) i220 i227
  refine ⟨h1, e1, ⟨F1, ⟨⟨⟨by rw [kk]; exact p1, by rw [zz]; exact p2⟩, ?_, ?_⟩, ⟨okL, by rw [lL]; exact p6, fun y hy => ?_⟩, ?_, Nat.zero_le _⟩, by rw [etb.2.2.1]; exact n1, n2⟩, ⟨hT_mono X (fun z _ w => ?_), kp, ⟨⟨[], by rw [lL]; simp⟩, fun f _ _ => etb.2.1 f, etb.2.2.1⟩, ⟨es.2.1 196, es.2.1 204⟩, by rw [lL, zz]; exact Nat.le_refl _, by rw [lL, lcc, lcc, uu]; exact Nat.le_refl _⟩, ?_, lL⟩
  · rw [← eh]; exact fR_eq
  · rw [← eh]
    exact (fR_ne (by decide)).trans p3
  · rw [lL] at hy
    rw [zz, kk]
    exact p7 y hy
  · rw [← eh]; exact fI_eq
  · rcases w with w | w
    · exact .inr (.inr (.inl w))
    · exact .inr (.inl w)
  · unfold snk
    rw [es.2.1, es.2.1, es.2.1, es.2.1]
/-- and is done -/
theorem TvE_KV (E : TvE G h N cl tb l0 sc us fs rest Sl io ab ins gv pv Lp te s) (K0 : KTe N cl tb l0 pv Lp s rest us fs h h1) (E1 : PvE G h1 N cl tb l0 sc us fs rest Sl io ab ins gv pv Lp u1) (K1 : KV N cl tb l0 pv Lp rest us fs h1 u1 h2 u2) (E2 : PvE G h2 N cl tb l0 sc us fs rest Sl io ab ins gv pv Lp u2) (hte : eqA te h h1) (hl : (ll h1 Lp).length ≤ 9000) (hu : u2 ≤ 9000) : TvE G h2 N cl tb l0 sc us fs rest Sl io ab ins gv pv Lp te s ∧ KTe N cl tb l0 pv Lp s rest us fs h h2 ∧ snk s h2 = snk s h1 := by
  obtain ⟨F, ⟨⟨p1, p2⟩, p3⟩, ⟨p5, p6, p7, p8⟩, ⟨n1, n2⟩, ⟨⟨t1, t2⟩, t3, t4, t5⟩, s1, s2⟩ := id E
  have z1 := K0.1.1
  have ks1 : kd h1 s = 8 := by rw [K0.1.2.2.1 s s2]; exact s1
  have kt1 : kd h1 te = 7 := by rw [K0.1.2.2.1 te t2]; exact t1
  have es := KV_eq E1 K1 (a := s) (by omega) (by omega)
  have et := KV_eq E1 K1 (a := te) (by omega) (by omega)
  have ee := eqA_trans hte et
  have z2 := K1.1.1
  obtain ⟨F2, ⟨⟨⟨q1, q2⟩, q3, q4⟩, ⟨q5, q6, q7⟩, q8, q9⟩, m1, m2⟩ := id E2
  have len := KV_len K1
  obtain ⟨a1, a2, ⟨a3, ⟨d, a4, a5⟩, a6⟩, ⟨⟨a7, a8⟩, a9, a10, a11, a12⟩, a13, a14⟩ := id K1
  have KT1 : KTe N cl tb l0 pv Lp s rest us fs h1 h2 := ⟨hT_mono a1 (fun z _ w => by
    rcases w with w | w | w | w | w
    · exact .inl w
    · exact .inr (.inl w)
    · exact .inr (.inr (.inl w))
    · exact .inr (.inr (.inr (.inl w)))
    · exact .inr (.inr (.inr (.inr (.inr w))))), a2, ⟨⟨d, a4⟩, a9, a10⟩, ⟨es.2.1 196, es.2.1 204⟩, a13, a14⟩
  refine ⟨⟨FnC_1 F2, ⟨⟨q1, q2⟩, q4⟩, ⟨q5, q6, q7, by omega⟩, ⟨m1, m2⟩, ⟨⟨by rw [ee.1]; exact t1, by omega⟩, by rw [ee.2.2.1]; exact t3, by rw [ee.2.2.1]; exact t4, by rw [ee.2.2.1]; exact t5⟩, by rw [es.1]; exact ks1, by omega⟩, KTe_trans K0 KT1, ?_⟩
  unfold snk
  rw [es.2.1, es.2.1, es.2.1, es.2.1]
theorem KTe_eq (E : TvE G h N cl tb l0 sc us fs rest Sl io ab ins gv pv Lp te s) (A : KTe N cl tb l0 pv Lp s rest us fs h h1) {a : Nat} (ha : a < hz h) (hk : kd h a ≠ 3 ∧ kd h a ≠ 42 ∧ kd h a ≠ 56 ∧ kd h a ≠ 34 ∧ kd h a ≠ 9 ∧ kd h a ≠ 6 ∧ kd h a ≠ 39 ∧ kd h a ≠ 8) : eqA a h h1 := A.1.2.2.2 a ha (fun w => by
  obtain ⟨F, ⟨⟨p1, p2⟩, p3⟩, ⟨p5, p6, p7, p8⟩, _, _, s1, s2⟩ := E
  rcases w with w | w | w | w | w | w
  · have := DT_kd F.1 w
    omega
  · rw [w, F.2.1.1.1] at hk; omega
  · rw [w, p1] at hk; omega
  · rw [w, p5.2.1] at hk; omega
  · rw [w, s1] at hk; omega
  · omega)
/-- lists that are the teller's own alone are written -/
theorem KTe_ll (E : TvE G h N cl tb l0 sc us fs rest Sl io ab ins gv pv Lp te s) (A : KTe N cl tb l0 pv Lp s rest us fs h h1) {a : Nat} (ha : a < hz h) (hk : kd h a = 42) (n1 : a ≠ fR h 122 tb) (n2 : a ≠ Lp) : eqA a h h1 := A.1.2.2.2 a ha (fun w => by
  obtain ⟨F, ⟨⟨p1, p2⟩, p3⟩, ⟨p5, p6, p7, p8⟩, _, _, s1, s2⟩ := E
  rcases w with w | w | w | w | w | w
  · exact DT_L F.1 hk n1 w
  · rw [w, F.2.1.1.1] at hk; omega
  · rw [w, p1] at hk; omega
  · exact n2 w
  · rw [w, s1] at hk; omega
  · omega)
theorem KTe_hS (E : TvE G h N cl tb l0 sc us fs rest Sl io ab ins gv pv Lp te s) (A : KTe N cl tb l0 pv Lp s rest us fs h h1) {g : Prop} {Sl' : Nat → Prop} (hS' : ∀ a, Sl' a → kd h a = 42 ∧ a ≠ fR h 122 tb ∧ a ≠ Lp) : hSg g Sl' h h1 := hS_hT A.1 (fun z hz' w => by
  obtain ⟨F, ⟨⟨p1, p2⟩, p3⟩, ⟨p5, p6, p7, p8⟩, _, _, s1, s2⟩ := E
  have k9 := F.2.1.1.1
  have kz : kd h z = 3 ∨ kd h z = 42 ∨ kd h z = 56 ∨ kd h z = 34 ∨ kd h z = 9 ∨ kd h z = 6 ∨ kd h z = 39 ∨ kd h z = 8 := by
    rcases w with w | w | w | w | w | w
    · have := DT_kd F.1 w
      omega
    · rw [w]; omega
    · rw [w]; omega
    · have := p5.2.1
      rw [w]; omega
    · rw [w]; omega
    · omega
  refine ⟨fun m => ?_, by omega, by omega, by omega, fun sl => ?_⟩
  · simp only [List.mem_cons, List.not_mem_nil, or_false] at m
    omega
  · obtain ⟨q1, q2, q3⟩ := hS' z sl
    rcases w with w | w | w | w | w | w
    · exact DT_L F.1 q1 q2 w
    · rw [w] at q1; omega
    · rw [w] at q1; omega
    · exact q3 w
    · rw [w] at q1; omega
    · omega)
theorem hdC_KT (E : TvE G h N cl tb l0 sc us fs rest Sl io ab ins gv pv Lp te s) (A : KTe N cl tb l0 pv Lp s rest us fs h h1) {k w : Nat} (H : hdC N cl nm con fam h k w) : hdC N cl nm con fam h1 k w := ⟨H.1, H.2.1, fun z => by
  obtain ⟨⟨b1, b2, b3, b4⟩, b5⟩ := H.2.2 z
  have c1 := KTe_eq E A b1 (by omega)
  have k17 := b5.1
  have k50 := b5.2.1
  have c2 := KTe_eq E A b3 (by omega)
  have c3 := KTe_eq E A b4 (by omega)
  have hz1 := A.1.1
  rw [c1.2.2.1]
  exact ⟨⟨by omega, by rw [c1.1]; exact b2, by omega, by rw [c2.2.2.1]; omega⟩, wb_keep b5 c2.1 c3.1 c2.2.1 c2.2.2.1 c3.2.2.2.1 c3.2.2.2.2.1⟩⟩
theorem tOc_KT (E : TvE G h N cl tb l0 sc us fs rest Sl io ab ins gv pv Lp te s) (A : KTe N cl tb l0 pv Lp s rest us fs h h1) : ∀ {T : Ty}, tOc N cl nm con fam h T → tOc N cl nm con fam h1 T
  | .leaf, _ => trivial
  | .inner _ _ _ _ _, ⟨a, d, e⟩ => ⟨hdC_KT E A a, tOc_KT E A d, tOc_KT E A e⟩
theorem GTH_KT (E : TvE G h N cl tb l0 sc us fs rest Sl io ab ins gv pv Lp te s) (A : KTe N cl tb l0 pv Lp s rest us fs h h1) {T : Ty} (H : GTH ins (hdC N cl nm con fam h) T) : GTH ins (hdC N cl nm con fam h1) T := ⟨H.1, H.2.1, H.2.2.1, tOc_KT E A H.2.2.2⟩
theorem InH_KT (E : TvE G h N cl tb l0 sc us fs rest Sl io ab ins gv pv Lp te s) (A : KTe N cl tb l0 pv Lp s rest us fs h h1) (H : InH (hdC N cl nm con fam h) ins gv B) : InH (hdC N cl nm con fam h1) ins gv B := ⟨H.1, H.2.1, fun d hd => tOc_KT E A (H.2.2.1 d hd), fun g hg w => tOc_KT E A (H.2.2.2 g hg w)⟩
theorem QC_KT (A : KTe N cl tb l0 pv Lp s rest us fs h h1) {X : Ty} (H : QC h N cl (UU us rest) X) : QC h1 N cl (UU us rest) X := by
  obtain ⟨y, c⟩ := H
  exact ⟨y, A.2.1 _ _ c⟩
/-- two types that are one, and can be told to be -/
def kn2C (h : om_H) (N : List (List Int)) (cl : Nat → Nat) (U : Nat → Prop) (ins : List INs) (gv : List GVs) (nm con fam : Nat → List Int) (T V : Ty) : Prop := (T ≠ .leaf ∧ V ≠ .leaf) ∧ (GTH ins (hdC N cl nm con fam h) T ∧ GTH ins (hdC N cl nm con fam h) V) ∧ (T = V → tdp T < 70) ∧ (T ≠ V → ∃ u0, knT ins gv (QC h N cl U) 130 T u0 ∧ knT ins gv (QC h N cl U) 130 V u0) ∧ (T ≠ V → nP ins gv 130 T + nP ins gv 130 V + 2 ≤ 9000)
theorem kn2C_KT (E : TvE G h N cl tb l0 sc us fs rest Sl io ab ins gv pv Lp te s) (A : KTe N cl tb l0 pv Lp s rest us fs h h1) {T V : Ty} (H : kn2C h N cl (UU us rest) ins gv nm con fam T V) : kn2C h1 N cl (UU us rest) ins gv nm con fam T V := ⟨H.1, ⟨GTH_KT E A H.2.1.1, GTH_KT E A H.2.1.2⟩, H.2.2.1, fun e => by
  obtain ⟨u0, a, b⟩ := H.2.2.2.1 e
  exact ⟨u0, knT_mono (fun X hX => QC_KT A hX) a, knT_mono (fun X hX => QC_KT A hX) b⟩, H.2.2.2.2⟩
/-- WHY TWO TYPES ARE ONE, told -/
theorem c_one6 (nd : ndN N) (hN : gvN gv) (wo : whyO G) (E : TvE G h N cl tb l0 sc us fs rest Sl io ab ins gv pv Lp te s) (I : InH (hdC N cl nm con fam h) ins gv B) {T V : Ty} {a b t : Nat} (k2 : kn2C h N cl (UU us rest) ins gv nm con fam T V) (c : tyC h N cl (UU us rest) T a) (c' : tyC h N cl (UU us rest) V b) (S : SkC s h t) (ht : t + (oneB nm con fam ins gv T V).length < 1000000000) (htl : tl us fs + 2700 ≤ 149000) : ∃ h1, C_6_one G te a b h = some (.inr (), h1) ∧ TvE G h1 N cl tb l0 sc us fs rest Sl io ab ins gv pv Lp te s ∧ KTe N cl tb l0 pv Lp s rest us fs h h1 ∧ SyC s h (oneB nm con fam ins gv T V) h1 := by
  obtain ⟨⟨hT, hV⟩, ⟨gT, gV⟩, hd, hk, hn⟩ := k2
  obtain ⟨F, ⟨⟨p1, p2⟩, p3⟩, ⟨p5, p6, p7, p8⟩, ⟨n1, n2⟩, ⟨⟨t1, t2⟩, t3, t4, t5⟩, s1, s2⟩ := id E
  obtain ⟨h1, e1, E1, K1, sn1, l1⟩ := c_begin5 nd E
  have et := KTe_eq E K1 t2 (by omega)
  have I1 := InH_KT E K1 I
  obtain ⟨u0, kk⟩ : ∃ u0, T ≠ V → knT ins gv (QC h1 N cl (UU us rest)) 130 T u0 ∧ knT ins gv (QC h1 N cl (UU us rest)) 130 V u0 := by
    by_cases e : T = V
    · exact ⟨T, fun z => absurd e z⟩
    · obtain ⟨u0, a, b⟩ := hk e
      exact ⟨u0, fun _ => ⟨knT_mono (fun X hX => QC_KT K1 hX) a, knT_mono (fun X hX => QC_KT K1 hX) b⟩⟩
  obtain ⟨y, h2, u2, a1, E2, K2, a2, a3, P, _⟩ := c_oneP (u0 := u0) (m := 9000) nd hN E1 I1 hT hV (K1.2.1 _ _ c) (K1.2.1 _ _ c') (GTH_KT E K1 gT) (GTH_KT E K1 gV) hd kk (by decide) hn (by omega) (by rw [l1]; exact p8) htl
  obtain ⟨E3, K3, sn3⟩ := TvE_KV E K1 E1 K2 E2 et (by rw [l1]; exact p8) (by omega)
  have sn : snk s h2 = snk s h := sn3.trans sn1
  have i192 : fI h2 192 s = fI h 192 s := congrArg (fun v : SN => v.1) sn
  have i204 : fI h2 204 s = fI h 204 s := congrArg (fun v : SN => v.2.2.2) sn
  have S2 : SkC s h2 t := i192.trans S
  obtain ⟨h3, b1, b2, b3⟩ := c_tellPr wo 199 200 y _ h2 t P (by omega) (TvE_Tl E3) S2 ht
  obtain ⟨E4, K4⟩ := TvE_K nd E3 b3
  refine ⟨h3, ?_, E4, KTe_trans K3 K4, ?_⟩
  · unfold C_6_one C_6_proof
    have k61 := E1.2.1.1.1.1
    rw [t4, t5, gd_pos ⟨t1, p1⟩, e1, Option.bind_some, et.2.2.1, t4, gd_pos ⟨by rw [et.1]; exact t1, k61⟩, a1, xc_v, gd_pos E3.2.2.2.2.1.1.1, b1, Option.bind_some]
  · unfold SyC at b2 ⊢
    rw [i192, i204, sn] at b2
    exact b2
end LTV
