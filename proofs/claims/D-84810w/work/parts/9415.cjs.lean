set_option maxRecDepth 100000
/-! THE COMPONENT's judge: a step, and what there is -/
/-- other givens' rows are left, exs outside, lists that stand -/
def kJ (Sl Gx : Nat → Prop) (alo ahi : Nat) (h h' : om_H) : Prop := rwK Gx h h' ∧ (∀ a, a < hz h → dyK (kd h a) → (a < alo ∨ ahi ≤ a) → eqA a h h') ∧ ∀ a, a < hz h → Sl a → eqA a h h'
/-- a step of the judge, with the room that it takes -/
def KJ (N : List (List Int)) (cl : Nat → Nat) (tb l0 sc : Nat) (rest : List (Nat × List Nat)) (Gx : Nat → Prop) (Lb : Nat) (Sl : Nat → Prop) (alo ahi : Nat) (h : om_H) (us fs : List Nat) (Dk : Nat → Prop) (ds : List Nat) (dm : Nat) (h' : om_H) (us' fs' : List Nat) (Dk' : Nat → Prop) (ds' : List Nat) (dm' q z u : Nat) : Prop := (∃ z1 u1, KG N cl tb l0 rest Sl h us fs Dk ds dm h' us' fs' Dk' ds' dm' q z1 u1 ∧ z1 + 2 * ds.length + 2 * nlN h ds + 10 * rwS h sc ≤ 2 * ds'.length + 2 * nlN h' ds' + 10 * rwS h' sc + z ∧ u1 + 8 * ds.length + 10 * nlN h ds + 100 * rwS h sc + 4 * lc h Lb ≤ 8 * ds'.length + 10 * nlN h' ds' + 100 * rwS h' sc + 4 * lc h' Lb + u ∧ lc h' Lb ≤ max (lc h Lb) (2 * (ll h Lb).length + 20 + 2 * z) ∧ (ll h' Lb).length ≤ (ll h Lb).length + z) ∧ kJ Sl Gx alo ahi h h' ∧ ds'.length ≤ max ds.length dm'
/-- a list of no weight -/
def noW (h : om_H) (tb : Nat) (Sl Dk : Nat → Prop) (L : Nat) : Prop := L ≠ 0 ∧ ¬ Sl L ∧ L ≠ fR h 122 tb ∧ L ≠ fR h 138 tb ∧ ∀ d, Dk d → L ≠ fR h 1630 d ∧ L ≠ fR h 1634 d
/-- the types of the names bound -/
def bdC2 (G : om_G) (h : om_H) (N : List (List Int)) (cl : Nat → Nat) (U : Nat → Prop) (Lb : Nat) (Γ : List Ty) : Prop := okW G h Lb ∧ (ll h Lb).length = Γ.length ∧ ∀ (i y : Nat) (T : Ty), (ll h Lb)[i]? = some y → Γ[i]? = some T → tyC h N cl U T y
/-- what the judge has -/
def JQ (G : om_G) (N : List (List Int)) (cl : Nat → Nat) (tb l0 sc : Nat) (rest : List (Nat × List Nat)) (Gx : Nat → Prop) (io : Nat → Nat) (E : JE) (jg Lb : Nat) (h : om_H) (us fs : List Nat) (Dk : Nat → Prop) (ds : List Nat) (dm : Nat) (Sl : Nat → Prop) (Γ : List Ty) (tot : Nat) : Prop := HvQ G h N cl tb l0 sc us fs rest Sl Gx io E.2.2.1 E.2.2.2.1 E.2.2.2.2 Dk ds dm tot ∧ JgC h jg l0 tb Lb ∧ bdC2 G h N cl (UU us rest) Lb Γ ∧ noW h tb Sl Dk Lb
section LKJ
variable {G : om_G} {N : List (List Int)} {cl : Nat → Nat} {tb l0 sc jg Lb : Nat} {rest : List (Nat × List Nat)} {Sl Sl' Gx : Nat → Prop} {io : Nat → Nat} {E : JE} {Γ : List Ty} {tot tot' q z u q' z' u' alo ahi alo' ahi' : Nat} {h : om_H} {us fs : List Nat} {Dk : Nat → Prop} {ds : List Nat} {dm : Nat} {h1 : om_H} {us1 fs1 : List Nat} {Dk1 : Nat → Prop} {ds1 : List Nat} {dm1 : Nat} {h2 : om_H} {us2 fs2 : List Nat} {Dk2 : Nat → Prop} {ds2 : List Nat} {dm2 : Nat}
theorem kJ_refl : kJ Sl Gx alo ahi h h := ⟨rwK_eq (fun _ _ _ => eqA_refl _ _), fun _ _ _ _ => eqA_refl _ _, fun _ _ _ => eqA_refl _ _⟩
theorem KJ_trans (A : KJ N cl tb l0 sc rest Gx Lb Sl alo ahi h us fs Dk ds dm h1 us1 fs1 Dk1 ds1 dm1 q z u) (B : KJ N cl tb l0 sc rest Gx Lb Sl alo ahi h1 us1 fs1 Dk1 ds1 dm1 h2 us2 fs2 Dk2 ds2 dm2 q' z' u') : KJ N cl tb l0 sc rest Gx Lb Sl alo ahi h us fs Dk ds dm h2 us2 fs2 Dk2 ds2 dm2 (q + q') (z + z') (u + u') := by
  obtain ⟨⟨z1, u1, a1, a2, a3, a6, a7⟩, ⟨a4, a4b, a4c⟩, a5⟩ := A
  obtain ⟨⟨z2, u2, b1, b2, b3, b6, b7⟩, ⟨b4, b4b, b4c⟩, b5⟩ := B
  have hl := a1.1.1
  have kk := a1.1.2.1
  have d := b1.2.2.1.2.2.1
  exact ⟨⟨z1 + z2, u1 + u2, KG_trans a1 b1, by omega, by omega, by omega, by omega⟩, ⟨rwK_trans hl kk a4 b4, fun a ha k o => eqA_trans (a4b a ha k o) (b4b a (Nat.lt_of_lt_of_le ha hl) (by rw [kk a ha]; exact k) o), fun a ha k => eqA_trans (a4c a ha k) (b4c a (Nat.lt_of_lt_of_le ha hl) k)⟩, by omega⟩
theorem KJ_le (A : KJ N cl tb l0 sc rest Gx Lb Sl alo ahi h us fs Dk ds dm h1 us1 fs1 Dk1 ds1 dm1 q z u) (h3 : q ≤ q') (h4 : z ≤ z') (h5 : u ≤ u') : KJ N cl tb l0 sc rest Gx Lb Sl alo ahi h us fs Dk ds dm h1 us1 fs1 Dk1 ds1 dm1 q' z' u' := by
  obtain ⟨⟨z1, u1, a1, a2, a3, a6, a7⟩, a4, a5⟩ := A
  exact ⟨⟨z1, u1, KG_le a1 h3 (Nat.le_refl _) (Nat.le_refl _), by omega, by omega, by omega, by omega⟩, a4, a5⟩
/-- a wider range, fewer lists that stand -/
theorem KJ_mono (A : KJ N cl tb l0 sc rest Gx Lb Sl' alo' ahi' h us fs Dk ds dm h1 us1 fs1 Dk1 ds1 dm1 q z u) (m : ∀ a, Sl a → Sl' a) (h1' : alo ≤ alo') (h2' : ahi' ≤ ahi) : KJ N cl tb l0 sc rest Gx Lb Sl alo ahi h us fs Dk ds dm h1 us1 fs1 Dk1 ds1 dm1 q z u := by
  obtain ⟨⟨z1, u1, ⟨k1, k2⟩, a2, a3⟩, ⟨a4, a4b, a4c⟩, a5⟩ := A
  exact ⟨⟨z1, u1, ⟨hS_less m k1, k2⟩, a2, a3⟩, ⟨a4, fun a ha k o => a4b a ha k (by omega), fun a ha k => a4c a ha (m a k)⟩, a5⟩
theorem KJ_hS (A : KJ N cl tb l0 sc rest Gx Lb Sl alo ahi h us fs Dk ds dm h1 us1 fs1 Dk1 ds1 dm1 q z u) : hS Sl h h1 := by
  obtain ⟨⟨z1, u1, a1, _⟩, _⟩ := A
  exact a1.1
theorem KJ_ty (A : KJ N cl tb l0 sc rest Gx Lb Sl alo ahi h us fs Dk ds dm h1 us1 fs1 Dk1 ds1 dm1 q z u) : ∀ T a, tyC h N cl (UU us rest) T a → tyC h1 N cl (UU us1 rest) T a := by
  obtain ⟨⟨z1, u1, a1, _⟩, _⟩ := A
  exact a1.2.2.2.2.2.2.2.2.1
theorem KJ_n (A : KJ N cl tb l0 sc rest Gx Lb Sl alo ahi h us fs Dk ds dm h1 us1 fs1 Dk1 ds1 dm1 q z u) : tl us1 fs1 ≤ tl us fs + q ∧ dm ≤ dm1 := by
  obtain ⟨⟨z1, u1, a1, _⟩, _⟩ := A
  exact ⟨a1.2.2.2.2.2.1, a1.2.2.1.2.2.1⟩
theorem KJ_refl (P : PoolC G h tb Sl Dk ds dm) : KJ N cl tb l0 sc rest Gx Lb Sl alo ahi h us fs Dk ds dm h us fs Dk ds dm 0 0 0 := ⟨⟨0, 0, ⟨hS_refl, fun a L => ⟨(Dlv_kd P L).elim (fun w => w.1) (fun w => w.1), eqA_refl _ _⟩, dkG_refl, ⟨[], by simp, by simp⟩, ⟨fun y hy => .inl hy, fun _ _ _ _ _ _ _ _ => eqA_refl _ _⟩, by omega, ⟨fun _ _ _ _ => rfl, fun _ => rfl⟩, ⟨fun _ _ _ => rfl, fun _ => rfl⟩, fun _ _ c => c, by omega, by omega, by omega, by omega⟩, by omega, by omega, by omega, by omega⟩, kJ_refl, by omega⟩
/-- a finder's step with dictionaries -/
theorem KJ_KH (K : KH N cl tb l0 sc rest Sl Gx h us fs Dk ds dm h1 us1 fs1 Dk1 ds1 dm1 q z u) (e : eqA Lb h h1) : KJ N cl tb l0 sc rest Gx Lb Sl alo ahi h us fs Dk ds dm h1 us1 fs1 Dk1 ds1 dm1 q z u := by
  obtain ⟨⟨z1, u1, a1, a2, a3⟩, a4, a5⟩ := K
  have e1 := e.2.2.2.2.2.2.2
  have e2 := e.2.2.2.2.2.2.1
  exact ⟨⟨z1, u1, a1, a2, by omega, by omega, by rw [e2]; omega⟩, ⟨a4.1, fun a ha k _ => a4.2 a ha (.inl k), fun a ha k => a4.2 a ha (.inr k)⟩, a5⟩
theorem okW_keep (O : okW G h Lb) (e : eqA Lb h h1) (hl : hz h ≤ hz h1) (kk : ∀ a, a < hz h → kd h1 a = kd h a) : okW G h1 Lb := by
  obtain ⟨o0, o1, o2, o3, o4⟩ := O
  refine ⟨by omega, by rw [kk _ o0]; exact o1, ?_, ?_, ?_⟩
  · rw [e.2.2.2.2.2.2.1, e.2.2.2.2.2.2.2]; exact o2
  · rw [e.2.2.2.2.2.2.2]; exact o3
  · rw [e.2.2.2.2.2.2.1]; exact fun y hy => objY_mono hl kk (o4 y hy)
theorem bdC2_keep {U U' : Nat → Prop} (O : bdC2 G h N cl U Lb Γ) (e : eqA Lb h h1) (hl : hz h ≤ hz h1) (kk : ∀ a, a < hz h → kd h1 a = kd h a) (kp : ∀ T a, tyC h N cl U T a → tyC h1 N cl U' T a) : bdC2 G h1 N cl U' Lb Γ := by
  refine ⟨okW_keep O.1 e hl kk, by rw [e.2.2.2.2.2.2.1]; exact O.2.1, fun i y T e1 e2 => kp _ _ (O.2.2 i y T (by rw [← e.2.2.2.2.2.2.1]; exact e1) e2)⟩
/-- a step that is none of dictionaries -/
theorem JQ_KF (H : JQ G N cl tb l0 sc rest Gx io E jg Lb h us fs Dk ds dm Sl Γ tot) (K : KF N cl tb l0 rest h us fs h1 us1 fs1 q z u) (T' : TB G h1 N cl tb us1 fs1 rest) : KJ N cl tb l0 sc rest Gx Lb Sl alo ahi h us fs Dk ds dm h1 us1 fs1 Dk ds dm q z u ∧ ∀ tot', FnQ G h1 N cl tb l0 sc us1 fs1 rest Sl io E.2.2.1 E.2.2.2.1 E.2.2.2.2 tot' → JQ G N cl tb l0 sc rest Gx io E jg Lb h1 us1 fs1 Dk ds dm Sl Γ tot' := by
  obtain ⟨H1, J, B, W⟩ := H
  obtain ⟨KH1, P1, HQ⟩ := HvQ_KF H1 K T'
  have k9 := H1.1.2.1.1.1
  have T := H1.1.1
  have eL := KF_Sl T k9 K B.1.1 B.1.2.1 W.2.2.1
  have KJ1 : KJ N cl tb l0 sc rest Gx Lb Sl alo ahi h us fs Dk ds dm h1 us1 fs1 Dk ds dm q z u := KJ_KH KH1 eL
  have X := KJ_hS KJ1
  have et : ∀ f, fR h1 f tb = fR h f tb := K.2.2.2.2.1.2
  refine ⟨KJ1, fun tot' F => ⟨HQ tot' F, JgC_KF T k9 K J, bdC2_keep B eL X.1 X.2.1 (KJ_ty KJ1), ⟨W.1, W.2.1, by rw [et]; exact W.2.2.1, by rw [et]; exact W.2.2.2.1, fun d hd => ?_⟩⟩⟩
  have w := (H1.2.1.2.2.2.2.2.1 d hd).1
  have e := KF_kd T k9 K w.2.1 (by omega)
  rw [e.2.2.1, e.2.2.1]
  exact W.2.2.2.2 d hd
/-- the judge writes -/
theorem JQ_w {D : Nat → Prop} (nd : ndN N) (H : JQ G N cl tb l0 sc rest Gx io E jg Lb h us fs Dk ds dm Sl Γ tot) (X : hT D h h1) (hD : ∀ y, D y → y < hz h → dyW h h1 tb Sl Dk y) (hd0 : ∀ y, D y → y < hz h) (nj : ¬ D jg) (nL : ¬ D Lb) (rg : ∀ y, D y → kd h y = 42 ∨ (alo ≤ y ∧ y < ahi)) (r : hz h1 ≤ hz h + z ∧ hu h1 ≤ hu h + u) : JQ G N cl tb l0 sc rest Gx io E jg Lb h1 us fs Dk ds dm Sl Γ tot ∧ KJ N cl tb l0 sc rest Gx Lb Sl alo ahi h us fs Dk ds dm h1 us fs Dk ds dm 0 z u := by
  obtain ⟨H1, J, B, W⟩ := H
  obtain ⟨w1, w2, w3, w4, w5, w6⟩ := HvQ_w nd H1 X hD hd0 r
  have eL := X.2.2.2 Lb B.1.1 nL
  have ej := X.2.2.2 jg J.1.2 nj
  have et := w2.2.2.2.2.2.2.1.2
  have g3 := H1.1.2.2.1.2.2.1
  refine ⟨⟨w1, ⟨⟨by rw [ej.1]; exact J.1.1, Nat.lt_of_lt_of_le J.1.2 X.1⟩, by rw [ej.2.2.1]; exact J.2.1, by rw [ej.2.2.1]; exact J.2.2.1, by rw [ej.2.2.1]; exact J.2.2.2⟩, bdC2_keep B eL X.1 X.2.2.1 w6, ⟨W.1, W.2.1, by rw [et]; exact W.2.2.1, by rw [et]; exact W.2.2.2.1, fun d hd => ?_⟩⟩, ⟨⟨z, u, w2, by omega, by rw [eL.2.2.2.2.2.2.2]; omega, by rw [eL.2.2.2.2.2.2.2]; omega, by rw [eL.2.2.2.2.2.2.1]; omega⟩, ⟨rwK_eq w5, fun y hy k o => X.2.2.2 y hy (fun w => ?_), fun y hy k => X.2.2.2 y hy (fun w => ?_)⟩, by omega⟩⟩
  · have w := (H1.2.1.2.2.2.2.2.1 d hd).1
    have e := X.2.2.2 d w.2.1 (fun v => by
      rcases hD d v w.2.1 with v | v
      · have := v.1
        unfold dyK at this
        omega
      · have := v.1; omega)
    rw [e.2.2.1, e.2.2.1]
    exact W.2.2.2.2 d hd
  · rcases rg y w with v | v
    · unfold dyK at k; omega
    · omega
  · have k42 := (g3 y k).2
    rcases hD y w hy with v | v
    · have := v.1
      unfold dyK at this
      omega
    · exact v.2.1 k
/-- a field of an ex -/
theorem JQ_sR (nd : ndN N) (H : JQ G N cl tb l0 sc rest Gx io E jg Lb h us fs Dk ds dm Sl Γ tot) {f a x : Nat} (hf : f ∉ SRf) (ha : a < hz h) (hk : dyK (kd h a)) (hj : kd h a ≠ 37) : JQ G N cl tb l0 sc rest Gx io E jg Lb (sR h f a x) us fs Dk ds dm Sl Γ tot ∧ KJ N cl tb l0 sc rest Gx Lb Sl a (a + 1) h us fs Dk ds dm (sR h f a x) us fs Dk ds dm 0 0 0 := by
  refine JQ_w nd H (hT_sR (f := f) (a := a) (x := x)) (fun y w _ => ?_) (fun y w => by rw [w]; exact ha) (fun w => ?_) (fun w => ?_) (fun y w => .inr (by omega)) ⟨Nat.le_refl _, Nat.le_refl _⟩
  · rw [w]
    exact .inl ⟨hk, fun _ _ => rfl, fun g hg => fR_ne (fun e => hf (by rw [← e]; exact hg))⟩
  · have := H.2.1.1.1
    rw [w] at this; omega
  · have := H.2.2.1.1.2.1
    rw [w] at this
    unfold dyK at hk
    omega
/-- one more name is bound -/
theorem JQ_add (nd : ndN N) (H : JQ G N cl tb l0 sc rest Gx io E jg Lb h us fs Dk ds dm Sl Γ tot) {T : Ty} {y : Nat} (c : tyC h N cl (UU us rest) T y) (hTl : T ≠ .leaf) (hn : Γ.length ≤ 40000) : ∃ h1, P_J2_add G Lb y h = some (1, h1) ∧ JQ G N cl tb l0 sc rest Gx io E jg Lb h1 us fs Dk ds dm Sl (Γ ++ [T]) tot ∧ KJ N cl tb l0 sc rest Gx Lb Sl alo ahi h us fs Dk ds dm h1 us fs Dk ds dm 0 1 0 ∧ ll h1 Lb = ll h Lb ++ [y] := by
  obtain ⟨H1, J, B, W⟩ := H
  have c34 := tyC_34 c hTl
  obtain ⟨a1, a2, a3, a4, a5, a6⟩ := w_add B.1 (.inl ⟨c34.2.2.1, by have := c34.1; omega, by have := c34.1; omega⟩) (by rw [B.2.1]; exact hn)
  have lm := (addL_room2 h Lb y B.1.2.2.1).2.2.1
  have lm2 := (addL_room2 h Lb y B.1.2.2.1).2.1
  have X : hT (fun a => a = Lb) h (addL h Lb y) := ⟨a2.1, a2.2.1, a2.2.2.1, fun a ha n => ⟨a2.2.2.1 a ha, fun f => a2.2.2.2.1 f a ha, fun f => a2.2.2.2.2.1 f a ha, a2.2.2.2.2.2.1 a ha, fun i => a2.2.2.2.2.2.2.1 a i ha, fun i => a2.2.2.2.2.2.2.2.1 a i ha, a2.2.2.2.2.2.2.2.2.1 a ha n, a2.2.2.2.2.2.2.2.2.2 a ha n⟩⟩
  generalize addL h Lb y = h1 at *
  obtain ⟨w1, w2, w3, w4, w5, w6⟩ := HvQ_w (z := 1) (u := 4 * lc h1 Lb - 4 * lc h Lb) nd H1 X (fun y w _ => by rw [w]; exact .inr ⟨B.1.2.1, W.2⟩) (fun y w => by rw [w]; exact B.1.1) ⟨a5, by omega⟩
  have nj : jg ≠ Lb := fun e => by have := J.1.1; rw [e, B.1.2.1] at this; omega
  have ej := X.2.2.2 jg J.1.2 nj
  have et := w2.2.2.2.2.2.2.1.2
  have g3 := H1.1.2.2.1.2.2.1
  refine ⟨h1, a1, ⟨w1, ⟨⟨by rw [ej.1]; exact J.1.1, Nat.lt_of_lt_of_le J.1.2 X.1⟩, by rw [ej.2.2.1]; exact J.2.1, by rw [ej.2.2.1]; exact J.2.2.1, by rw [ej.2.2.1]; exact J.2.2.2⟩, ⟨a3, by rw [a4, List.length_append, List.length_append, B.2.1]; rfl, fun i x T' e1 e2 => ?_⟩, ⟨W.1, W.2.1, by rw [et]; exact W.2.2.1, by rw [et]; exact W.2.2.2.1, fun d hd => ?_⟩⟩, ⟨⟨1, 4 * lc h1 Lb - 4 * lc h Lb, w2, by omega, by omega, by omega, by rw [a4, List.length_append]; exact Nat.le_refl _⟩, ⟨rwK_eq w5, fun y hy k o => X.2.2.2 y hy (fun w => ?_), fun y hy k => X.2.2.2 y hy (fun w => ?_)⟩, by omega⟩, a4⟩
  · rw [a4] at e1
    by_cases q : i < Γ.length
    · rw [List.getElem?_append_left (by rw [B.2.1]; exact q)] at e1
      rw [List.getElem?_append_left q] at e2
      exact w6 _ _ (B.2.2 i x T' e1 e2)
    · have ei : i = Γ.length := by
        have := (List.getElem?_eq_some_iff.mp e2).1
        rw [List.length_append, List.length_singleton] at this
        omega
      rw [ei, List.getElem?_append_right (Nat.le_refl _), Nat.sub_self] at e2
      rw [ei, ← B.2.1, List.getElem?_append_right (Nat.le_refl _), Nat.sub_self] at e1
      have eT : T = T' := Option.some.inj e2
      have ey : y = x := Option.some.inj e1
      rw [← eT, ← ey]
      exact w6 _ _ c
  · have w := (H1.2.1.2.2.2.2.2.1 d hd).1
    have e := X.2.2.2 d w.2.1 (fun v => by rw [v, B.1.2.1] at w; omega)
    rw [e.2.2.1, e.2.2.1]
    exact W.2.2.2.2 d hd
  · rw [w, B.1.2.1] at k; unfold dyK at k; omega
  · rw [w] at k; exact W.2.1 k
/-- the last name is bound no more -/
theorem JQ_drop (nd : ndN N) {T : Ty} (H : JQ G N cl tb l0 sc rest Gx io E jg Lb h us fs Dk ds dm Sl (Γ ++ [T]) tot) : ∃ x h1, P_J2_size G Lb h = some ((Γ.length + 1 : Nat) : Int) ∧ P_J2_remove G Lb (Γ.length : Int) h = some (x, h1) ∧ JQ G N cl tb l0 sc rest Gx io E jg Lb h1 us fs Dk ds dm Sl Γ tot ∧ KJ N cl tb l0 sc rest Gx Lb Sl alo ahi h us fs Dk ds dm h1 us fs Dk ds dm 0 0 0 := by
  obtain ⟨H1, J, B, W⟩ := H
  have len : (ll h Lb).length = Γ.length + 1 := by rw [B.2.1, List.length_append]; rfl
  have ne : ll h Lb ≠ [] := fun w => by rw [w] at len; cases len
  have eg : (ll h Lb).getLast? = some ((ll h Lb).getLast ne) := List.getLast?_eq_getLast ne
  have X : hT (fun a => a = Lb) h (sL h Lb (ll h Lb).dropLast) := hT_sL
  have l1 : ll (sL h Lb (ll h Lb).dropLast) Lb = (ll h Lb).dropLast := by rw [ll_sL, if_pos rfl]
  have run : P_J2_remove G Lb (Γ.length : Int) h = some ((ll h Lb).getLast ne, sL h Lb (ll h Lb).dropLast) := by
    unfold P_J2_remove
    rw [gd_pos ⟨B.1.2.1, by rw [len]; omega⟩, eg]
    rfl
  have sz : P_J2_size G Lb h = some ((Γ.length + 1 : Nat) : Int) := by
    unfold P_J2_size
    rw [gd_pos B.1.2.1, len]
  have elc : lc (sL h Lb (ll h Lb).dropLast) Lb = lc h Lb := lc_sL _ _ _ _
  have ehz : hz (sL h Lb (ll h Lb).dropLast) = hz h := rfl
  have ehu : hu (sL h Lb (ll h Lb).dropLast) = hu h := rfl
  generalize sL h Lb (ll h Lb).dropLast = h1 at *
  obtain ⟨w1, w2, w3, w4, w5, w6⟩ := HvQ_w (z := 0) (u := 0) nd H1 X (fun y w _ => by rw [w]; exact .inr ⟨B.1.2.1, W.2⟩) (fun y w => by rw [w]; exact B.1.1) ⟨by omega, by omega⟩
  have nj : jg ≠ Lb := fun e => by have := J.1.1; rw [e, B.1.2.1] at this; omega
  have ej := X.2.2.2 jg J.1.2 nj
  have et := w2.2.2.2.2.2.2.1.2
  have dl : (ll h Lb).dropLast = (ll h Lb).take Γ.length := by rw [List.dropLast_eq_take, len]; rfl
  refine ⟨_, h1, sz, run, ⟨w1, ⟨⟨by rw [ej.1]; exact J.1.1, Nat.lt_of_lt_of_le J.1.2 X.1⟩, by rw [ej.2.2.1]; exact J.2.1, by rw [ej.2.2.1]; exact J.2.2.1, by rw [ej.2.2.1]; exact J.2.2.2⟩, ⟨⟨by rw [ehz]; exact B.1.1, by rw [X.2.2.1 _ B.1.1]; exact B.1.2.1, ?_, by rw [elc]; exact B.1.2.2.2.1, fun y hy => ?_⟩, by rw [l1, List.length_dropLast, len]; rfl, fun i x T' e1 e2 => ?_⟩, ⟨W.1, W.2.1, by rw [et]; exact W.2.2.1, by rw [et]; exact W.2.2.2.1, fun d hd => ?_⟩⟩, ⟨⟨0, 0, w2, by omega, by omega, by omega, by rw [l1, List.length_dropLast]; omega⟩, ⟨rwK_eq w5, fun y hy k o => X.2.2.2 y hy (fun w => ?_), fun y hy k => X.2.2.2 y hy (fun w => ?_)⟩, by omega⟩⟩
  · have := B.1.2.2.1
    rw [l1, elc, List.length_dropLast]; omega
  · rw [l1] at hy
    exact objY_mono X.1 X.2.2.1 (B.1.2.2.2.2 y (List.dropLast_subset _ hy))
  · have il := (List.getElem?_eq_some_iff.mp e2).1
    rw [l1, dl, List.getElem?_take_of_lt il] at e1
    exact w6 _ _ (B.2.2 i x T' e1 (by rw [List.getElem?_append_left il]; exact e2))
  · have w := (H1.2.1.2.2.2.2.2.1 d hd).1
    have e := X.2.2.2 d w.2.1 (fun v => by rw [v, B.1.2.1] at w; omega)
    rw [e.2.2.1, e.2.2.1]
    exact W.2.2.2.2 d hd
  · rw [w, B.1.2.1] at k; unfold dyK at k; omega
  · rw [w] at k; exact W.2.1 k
end LKJ
