set_option maxRecDepth 100000
/-! THE COMPONENT's judge: a class is asked for; room -/
/-- a step with its room: d counted, n more dictionaries -/
def KRm (N : List (List Int)) (cl : Nat → Nat) (tb l0 sc : Nat) (rest : List (Nat × List Nat)) (Gx : Nat → Prop) (Lb : Nat) (Sl : Nat → Prop) (alo ahi : Nat) (h : om_H) (us fs : List Nat) (Dk : Nat → Prop) (ds : List Nat) (dm : Nat) (h' : om_H) (us' fs' : List Nat) (Dk' : Nat → Prop) (ds' : List Nat) (dm' q z u n d : Nat) : Prop := KJ N cl tb l0 sc rest Gx Lb Sl alo ahi h us fs Dk ds dm h' us' fs' Dk' ds' dm' (q + 142 * d) z u ∧ dm' ≤ dm + 5 * d + n
/-- room for so many types and dictionaries -/
def RmJ (us fs ds : List Nat) (dm tot q n : Nat) : Prop := tl us fs + q + 142 * (464 - tot) ≤ 149000 ∧ dm + n + 5 * (464 - tot) ≤ 49000 ∧ ds.length ≤ 49000 ∧ tot ≤ 300
/-- what else is known of the program -/
def JOk2 (E : JE) : Prop := E.2.2.1.length ≤ 8 ∧ insK E.2.2.2.1 ∧ gvN E.2.2.2.2
/-- a fault -/
def JF (G : om_G) (N : List (List Int)) (cl : Nat → Nat) (tb l0 sc : Nat) (rest : List (Nat × List Nat)) (Gx : Nat → Prop) (Lb : Nat) (Sl : Nat → Prop) (alo ahi : Nat) (h : om_H) (us fs : List Nat) (Dk : Nat → Prop) (ds : List Nat) (dm : Nat) (h' : om_H) (us' fs' : List Nat) (Dk' : Nat → Prop) (ds' : List Nat) (dm' q z u n tot k p a : Nat) : Prop := (TB G h' N cl tb us' fs' rest ∧ PoolC G h' tb Sl Dk' ds' dm') ∧ flt h' a (k : Int) (p : Int) ∧ KRm N cl tb l0 sc rest Gx Lb Sl alo ahi h us fs Dk ds dm h' us' fs' Dk' ds' dm' q (z + 1) (u + 8) n (464 - tot)
/-- not an equality -/
def nT2 : Dc → Prop
  | .leaf => True
  | .inner t _ _ _ _ => t ≠ 2
theorem dcT_nT2 {ab : List (Option Nat)} {ins : List INs} {gv : List GVs} {f c : Nat} {T : Ty} {D : Dc} (e : dcT ab ins gv f c T = some D) : nT2 D := by
  cases f with
  | zero => cases e
  | succ f =>
  have e' : (wk 0 ins gv 130 false 0 (0, 0, []) T).bind (fun a => a.bind fun p' => dcU ab ins gv (dcT ab ins gv f) c T p'.1) = some D := e
  cases w1 : wk 0 ins gv 130 false 0 (0, 0, []) T with
  | none => rw [w1] at e'; cases e'
  | some a =>
  rw [w1, Option.bind_some] at e'
  cases a with
  | none => cases e'
  | some p' =>
  rw [Option.bind_some] at e'
  cases hv : p'.1 with
  | leaf => rw [hv] at e'; cases e'
  | inner k' w' z' l1 r1 =>
    rw [hv, dcU_inner] at e'
    by_cases c0 : k' = 0
    · rw [if_pos c0] at e'
      cases q1 : gCl ab gv c w' with
      | none => rw [q1] at e'; cases e'
      | some j =>
      rw [q1, Option.bind_some] at e'
      cases q2 : gv[j]? with
      | none => rw [q2] at e'; cases e'
      | some g =>
      rw [q2, Option.bind_some] at e'
      cases q3 : stpA ab 9 g.1 c with
      | none => rw [q3] at e'; cases e'
      | some s =>
        rw [q3] at e'
        rw [← Option.some.inj e']
        show (0 : Nat) ≠ 2
        decide
    · rw [if_neg c0] at e'
      by_cases c1 : k' = 1
      · rw [if_pos c1] at e'
        cases q1 : iOf ins c w' with
        | none => rw [q1] at e'; cases e'
        | some j =>
        rw [q1, Option.bind_some] at e'
        cases q2 : ins[j]? with
        | none => rw [q2] at e'; cases e'
        | some g =>
        rw [q2, Option.bind_some] at e'
        cases q3 : dcL (dcT ab ins gv f) (.inner k' w' z' l1 r1) g.2.2.2.1 with
        | none => rw [q3] at e'; cases e'
        | some s =>
          rw [q3] at e'
          rw [← Option.some.inj e']
          show (1 : Nat) ≠ 2
          decide
      · rw [if_neg c1] at e'; cases e'
/-- a reason of a name -/
def evC (N : List (List Int)) (cl : Nat → Nat) (rest : List (Nat × List Nat)) (io : Nat → Nat) (E : JE) (lo : Nat) (h : om_H) (us : List Nat) (Dk : Nat → Prop) (ds : List Nat) (dm : Nat) (D : Dc) (y : Nat) : Prop := (y < hz h ∧ kd h y = 38) ∧ ((∃ d, d ≠ 0 ∧ fR h 1658 y = d ∧ fR h 1662 y = 0 ∧ fR h 1666 y = 0 ∧ DcX h N cl (UU us rest) (Dl3 Dk ds lo dm) io E.2.2.1 E.2.2.2.2 D [d] ∧ nT2 D) ∨ ∃ T V, D = .inner 2 (0, 0, T, V) () .leaf .leaf ∧ fR h 1658 y = 0 ∧ tyC h N cl (UU us rest) T (fR h 1662 y) ∧ tyC h N cl (UU us rest) V (fR h 1666 y))
section LKA
variable {G : om_G} {N : List (List Int)} {cl : Nat → Nat} {tb l0 sc jg Lb : Nat} {rest : List (Nat × List Nat)} {Sl Gx : Nat → Prop} {io : Nat → Nat} {E : JE} {B lo : Nat} {Γ : List Ty} {tot tot' q z u n d q' z' u' n' d' alo ahi alo' ahi' : Nat} {h : om_H} {us fs : List Nat} {Dk : Nat → Prop} {ds : List Nat} {dm : Nat} {h1 : om_H} {us1 fs1 : List Nat} {Dk1 : Nat → Prop} {ds1 : List Nat} {dm1 : Nat} {h2 : om_H} {us2 fs2 : List Nat} {Dk2 : Nat → Prop} {ds2 : List Nat} {dm2 : Nat}
theorem KR_trans (A : KRm N cl tb l0 sc rest Gx Lb Sl alo ahi h us fs Dk ds dm h1 us1 fs1 Dk1 ds1 dm1 q z u n d) (B : KRm N cl tb l0 sc rest Gx Lb Sl alo ahi h1 us1 fs1 Dk1 ds1 dm1 h2 us2 fs2 Dk2 ds2 dm2 q' z' u' n' d') : KRm N cl tb l0 sc rest Gx Lb Sl alo ahi h us fs Dk ds dm h2 us2 fs2 Dk2 ds2 dm2 (q + q') (z + z') (u + u') (n + n') (d + d') := by
  obtain ⟨a1, a2⟩ := A
  obtain ⟨b1, b2⟩ := B
  exact ⟨KJ_le (KJ_trans a1 b1) (by omega) (by omega) (by omega), by omega⟩
theorem KR_le (A : KRm N cl tb l0 sc rest Gx Lb Sl alo ahi h us fs Dk ds dm h1 us1 fs1 Dk1 ds1 dm1 q z u n d) (h3 : q ≤ q') (h4 : z ≤ z') (h5 : u ≤ u') (h6 : n ≤ n') (h7 : d ≤ d') : KRm N cl tb l0 sc rest Gx Lb Sl alo ahi h us fs Dk ds dm h1 us1 fs1 Dk1 ds1 dm1 q' z' u' n' d' := ⟨KJ_le A.1 (by omega) h4 h5, by have := A.2; omega⟩
theorem KR_mono (A : KRm N cl tb l0 sc rest Gx Lb Sl alo' ahi' h us fs Dk ds dm h1 us1 fs1 Dk1 ds1 dm1 q z u n d) (h3 : alo ≤ alo') (h4 : ahi' ≤ ahi) : KRm N cl tb l0 sc rest Gx Lb Sl alo ahi h us fs Dk ds dm h1 us1 fs1 Dk1 ds1 dm1 q z u n d := ⟨KJ_mono A.1 (fun _ w => w) h3 h4, A.2⟩
theorem KR_KJ (A : KJ N cl tb l0 sc rest Gx Lb Sl alo ahi h us fs Dk ds dm h1 us1 fs1 Dk1 ds1 dm q z u) (e : q ≤ q' + 142 * d) : KRm N cl tb l0 sc rest Gx Lb Sl alo ahi h us fs Dk ds dm h1 us1 fs1 Dk1 ds1 dm q' z u 0 d := ⟨KJ_le A e (Nat.le_refl _) (Nat.le_refl _), by omega⟩
theorem RmJ_next (R : RmJ us fs ds dm tot (q + q') (n + n')) (A : KRm N cl tb l0 sc rest Gx Lb Sl alo ahi h us fs Dk ds dm h1 us1 fs1 Dk1 ds1 dm1 q z u n (tot' - tot)) (b : tot ≤ tot' ∧ tot' ≤ 300) : RmJ us1 fs1 ds1 dm1 tot' q' n' := by
  obtain ⟨r1, r2, r3, r4⟩ := R
  have a1 := (KJ_n A.1).1
  have a2 := A.2
  have a3 := A.1.2.2
  unfold RmJ
  omega
theorem RmJ_le (R : RmJ us fs ds dm tot q n) (h3 : q' ≤ q) (h4 : n' ≤ n) : RmJ us fs ds dm tot q' n' := by
  obtain ⟨r1, r2, r3, r4⟩ := R
  unfold RmJ
  omega
/-- a step, and then a fault -/
theorem JF_trans {k p a : Nat} (A : KRm N cl tb l0 sc rest Gx Lb Sl alo ahi h us fs Dk ds dm h1 us1 fs1 Dk1 ds1 dm1 q z u n (tot' - tot)) (b : tot ≤ tot' ∧ tot' ≤ 300) (C : JF G N cl tb l0 sc rest Gx Lb Sl alo ahi h1 us1 fs1 Dk1 ds1 dm1 h2 us2 fs2 Dk2 ds2 dm2 q' z' u' n' tot' k p a) : JF G N cl tb l0 sc rest Gx Lb Sl alo ahi h us fs Dk ds dm h2 us2 fs2 Dk2 ds2 dm2 (q + q') (z + z') (u + u') (n + n') tot k p a := ⟨C.1, C.2.1, KR_le (KR_trans A C.2.2) (Nat.le_refl _) (by omega) (by omega) (Nat.le_refl _) (by omega)⟩
theorem JF_le {k p a : Nat} (C : JF G N cl tb l0 sc rest Gx Lb Sl alo ahi h us fs Dk ds dm h1 us1 fs1 Dk1 ds1 dm1 q z u n tot k p a) (h3 : q ≤ q') (h4 : z ≤ z') (h5 : u ≤ u') (h6 : n ≤ n') : JF G N cl tb l0 sc rest Gx Lb Sl alo ahi h us fs Dk ds dm h1 us1 fs1 Dk1 ds1 dm1 q' z' u' n' tot k p a := ⟨C.1, C.2.1, KR_le C.2.2 h3 (by omega) (by omega) h6 (Nat.le_refl _)⟩
theorem JF_mono {k p a : Nat} (C : JF G N cl tb l0 sc rest Gx Lb Sl alo' ahi' h us fs Dk ds dm h1 us1 fs1 Dk1 ds1 dm1 q z u n tot k p a) (h3 : alo ≤ alo') (h4 : ahi' ≤ ahi) : JF G N cl tb l0 sc rest Gx Lb Sl alo ahi h us fs Dk ds dm h1 us1 fs1 Dk1 ds1 dm1 q z u n tot k p a := ⟨C.1, C.2.1, KR_mono C.2.2 h3 h4⟩
/-- a fault that is made, with what it takes -/
theorem JQ_fault0 (nd : ndN N) (H : JQ G N cl tb l0 sc rest Gx io E jg Lb h us fs Dk ds dm Sl Γ tot) (k p : Nat) : ∃ h1, C_15_init G (hz h) (k : Int) (p : Int) (nO h 16 8) = some h1 ∧ kd (nO h 16 8) (hz h) = 16 ∧ hz h ≠ 0 ∧ (TB G h1 N cl tb us fs rest ∧ PoolC G h1 tb Sl Dk ds dm) ∧ flt h1 (hz h) (k : Int) (p : Int) ∧ KRm N cl tb l0 sc rest Gx Lb Sl alo ahi h us fs Dk ds dm h1 us fs Dk ds dm 0 1 8 0 0 := by
  have F := H.1.1
  obtain ⟨h1, m1, m2, m3, m4, m5, m6, m7⟩ := c_fault F.1 nd ⟨F.2.1.1.1, F.2.1.1.2.1⟩ (k : Int) (p : Int)
  exact ⟨h1, m1, m2, m3, ⟨m5, PoolC_KF F.1 F.2.1.1.1 m6 H.1.2.1⟩, m4, KJ_le (JQ_KF H m6 m5).1 (by omega) (Nat.le_refl _) (Nat.le_refl _), by omega⟩
/-- a fault that is made -/
theorem JQ_fault (nd : ndN N) (H : JQ G N cl tb l0 sc rest Gx io E jg Lb h us fs Dk ds dm Sl Γ tot) (b : tot ≤ 300) (k p : Nat) : ∃ h1, C_15_init G (hz h) (k : Int) (p : Int) (nO h 16 8) = some h1 ∧ kd (nO h 16 8) (hz h) = 16 ∧ hz h ≠ 0 ∧ JF G N cl tb l0 sc rest Gx Lb Sl alo ahi h us fs Dk ds dm h1 us fs Dk ds dm 0 0 0 0 tot k p (hz h) := by
  have F := H.1.1
  obtain ⟨h1, m1, m2, m3, m4, m5, m6, m7⟩ := c_fault F.1 nd ⟨F.2.1.1.1, F.2.1.1.2.1⟩ (k : Int) (p : Int)
  exact ⟨h1, m1, m2, m3, ⟨m5, PoolC_KF F.1 F.2.1.1.1 m6 H.1.2.1⟩, m4, KJ_le (JQ_KF H m6 m5).1 (by omega) (Nat.le_refl _) (Nat.le_refl _), by omega⟩
/-- a finder's fault -/
theorem JF_KF {k p a : Nat} (H : JQ G N cl tb l0 sc rest Gx io E jg Lb h us fs Dk ds dm Sl Γ tot) (T' : TB G h1 N cl tb us1 fs1 rest) (f : flt h1 a (k : Int) (p : Int)) (K : KF N cl tb l0 rest h us fs h1 us1 fs1 q 1 8) (b : tot ≤ 300) (e : q ≤ q' + 142 * 164) : JF G N cl tb l0 sc rest Gx Lb Sl alo ahi h us fs Dk ds dm h1 us1 fs1 Dk ds dm q' 0 0 0 tot k p a := ⟨⟨T', PoolC_KF H.1.1.1 H.1.1.2.1.1.1 K H.1.2.1⟩, f, KJ_le (JQ_KF H K T').1 (by omega) (Nat.le_refl _) (Nat.le_refl _), by omega⟩
theorem noW_fld (W : noW h tb Sl Dk Lb) (hL : Lb < hz h ∧ kd h Lb = 42) (H : HvQ G h N cl tb l0 sc us fs rest Sl Gx io E.2.2.1 E.2.2.2.1 E.2.2.2.2 Dk ds dm tot) : HvQ G h N cl tb l0 sc us fs rest (fun a => Sl a ∨ a = Lb) Gx io E.2.2.1 E.2.2.2.1 E.2.2.2.2 Dk ds dm tot := HvQ_more H hL W.2.2.1 W.2.2.2.1 W.2.2.2.2
/-- back to the lists that stood -/
theorem JQ_back {Lr : Nat} (H : JQ G N cl tb l0 sc rest Gx io E jg Lb h us fs Dk ds dm Sl Γ tot) (H1 : HvQ G h1 N cl tb l0 sc us1 fs1 rest (fun a => (Sl a ∨ a = Lb) ∨ a = Lr) Gx io E.2.2.1 E.2.2.2.1 E.2.2.2.2 Dk1 ds1 dm1 tot') (K : KH N cl tb l0 sc rest (fun a => (Sl a ∨ a = Lb) ∨ a = Lr) Gx h us fs Dk ds dm h1 us1 fs1 Dk1 ds1 dm1 q z u) (hr : Lr < hz h ∧ Lr ≠ 0 ∧ ¬ Sl Lr) : JQ G N cl tb l0 sc rest Gx io E jg Lb h1 us1 fs1 Dk1 ds1 dm1 Sl Γ tot' ∧ noW h1 tb Sl Dk1 Lr ∧ eqA Lr h h1 := by
  obtain ⟨H0, J, Bd, W⟩ := H
  have m : ∀ a, Sl a → ((Sl a ∨ a = Lb) ∨ a = Lr) := fun a w => .inl (.inl w)
  have KL := KH_less m K
  obtain ⟨⟨z1, u1, KG1, _⟩, KR1, _⟩ := id KL
  have X := KG1.1
  have eL := K.2.1.2 Lb Bd.1.1 (.inr (.inl (.inr rfl)))
  have eLr := K.2.1.2 Lr hr.1 (.inr (.inr rfl))
  have ej := K.2.1.2 jg J.1.2 (.inl (by rw [J.1.1]; unfold dyK; omega))
  have et := KG1.2.2.2.2.2.2.1.2
  have e9 := KG1.2.2.2.2.2.2.2.1
  obtain ⟨⟨T1, f1, ⟨g1, g2, g3, hcl⟩, PG1, V1, k1, k2⟩, P1, R1, Hg1⟩ := H1
  have F1 : FnQ G h1 N cl tb l0 sc us1 fs1 rest Sl io E.2.2.1 E.2.2.2.1 E.2.2.2.2 tot' := FnQ_nextG H0.1 X KG1.2.2.2.2.2.2.2.2.1 T1 (e9.1 227 (by decide) (by decide)) e9.2 (et 122) k2
  have ls : ∀ {M cap : Nat}, lsD h1 tb (fun a => (Sl a ∨ a = Lb) ∨ a = Lr) M cap → lsD h1 tb Sl M cap ∧ M ≠ Lb ∧ M ≠ Lr := fun {M cap} w => ⟨⟨w.1, w.2.1, fun v => w.2.2.1 (.inl (.inl v)), w.2.2.2⟩, fun v => w.2.2.1 (.inl (.inr v)), fun v => w.2.2.1 (.inr v)⟩
  obtain ⟨⟨p1, p2, p3⟩, p4, p5, p8, p9, p10, p11⟩ := P1
  have nl : ∀ d, Dk1 d → (Lb ≠ fR h1 1630 d ∧ Lb ≠ fR h1 1634 d) ∧ Lr ≠ fR h1 1630 d ∧ Lr ≠ fR h1 1634 d := fun d hd => by
    obtain ⟨_, q1, q2⟩ := p10 d hd
    refine ⟨⟨fun e => ?_, fun e => ?_⟩, fun e => ?_, fun e => ?_⟩
    · rcases q1 with w | w
      · exact W.1 (e.trans w)
      · exact (ls w).2.1 e.symm
    · rcases q2 with w | w
      · exact W.1 (e.trans w)
      · exact (ls w).2.1 e.symm
    · rcases q1 with w | w
      · exact hr.2.1 (e.trans w)
      · exact (ls w).2.2 e.symm
    · rcases q2 with w | w
      · exact hr.2.1 (e.trans w)
      · exact (ls w).2.2 e.symm
  have P1' : PoolC G h1 tb Sl Dk1 ds1 dm1 := ⟨⟨p1, fun w => p2 (.inl (.inl w)), p3⟩, p4, p5, p8, p9, fun d hd => ⟨(p10 d hd).1, (p10 d hd).2.1.imp id (fun w => (ls w).1), (p10 d hd).2.2.imp id (fun w => (ls w).1)⟩, p11⟩
  refine ⟨⟨⟨F1, P1', R1, Hg1⟩, ⟨⟨by rw [ej.1]; exact J.1.1, Nat.lt_of_lt_of_le J.1.2 X.1⟩, by rw [ej.2.2.1]; exact J.2.1, by rw [ej.2.2.1]; exact J.2.2.1, by rw [ej.2.2.1]; exact J.2.2.2⟩, bdC2_keep Bd eL X.1 X.2.1 KG1.2.2.2.2.2.2.2.2.1, ⟨W.1, W.2.1, fun e => g2 (.inl (.inr e.symm)), fun e => p2 (.inl (.inr e.symm)), fun d hd => (nl d hd).1⟩⟩, ⟨hr.2.1, hr.2.2, fun e => g2 (.inr e.symm), fun e => p2 (.inr e.symm), fun d hd => (nl d hd).2⟩, eLr⟩
/-- A CLASS IS ASKED FOR, by the judge -/
theorem c_askJ (nd : ndN N) (J : JOk E B) (J2 : JOk2 E) {pl c x : Nat} {T : Ty} {s : JS} {zz : Option (Bool × WS)} (e : hd E.2.2.1 E.2.2.2.1 E.2.2.2.2 70 (0, s.1, s.2) c T = some zz) (H : JQ G N cl tb l0 sc rest Gx io E jg Lb h us fs Dk ds dm Sl Γ s.1) (hc : clO h cl c) (cx : tyC h N cl (UU us rest) T x) (ok : tyOk E.2.2.2.1 T) (hzT : tsz T ≤ 1000000) (R : RmJ us fs ds dm s.1 0 1) {Lr : Nat} (hr : Lr < hz h ∧ kd h Lr = 42 ∧ (Lr = Lb ∨ noW h tb Sl Dk Lr)) : ∃ (v : Nat ⊕ Nat) (h' : om_H) (us' fs' : List Nat) (Dk' : Nat → Prop) (ds' : List Nat) (dm' : Nat), C_8_asked G l0 (cl c) x (pl : Int) h = some (v, h') ∧ (zz = none → ∃ a, v = .inl a ∧ JF G N cl tb l0 sc rest Gx Lb Sl alo ahi h us fs Dk ds dm h' us' fs' Dk' ds' dm' 0 0 0 1 s.1 7 pl a) ∧ ∀ b s', zz = some (b, s') → (JQ G N cl tb l0 sc rest Gx io E jg Lb h' us' fs' Dk' ds' dm' Sl Γ s'.2.1 ∧ (s.1 ≤ s'.2.1 ∧ s'.2.1 ≤ 300) ∧ KRm N cl tb l0 sc rest Gx Lb Sl alo ahi h us fs Dk ds dm h' us' fs' Dk' ds' dm' 0 0 0 1 (s'.2.1 - s.1) ∧ (∃ D, s'.2.2 = s.2 ++ D ∧ ∀ X ∈ D, ∃ y, tyC h' N cl (UU us' rest) X y) ∧ noW h' tb Sl Dk' Lr ∧ eqA Lr h h') ∧ (b = false → v = .inr 0) ∧ (b = true → ∃ D x', dcT E.2.2.1 E.2.2.2.1 E.2.2.2.2 70 c T = some D ∧ v = .inr x' ∧ DcX h' N cl (UU us' rest) (Dl3 Dk' ds' dm dm') io E.2.2.1 E.2.2.2.2 D [x']) := by
  obtain ⟨H0, Jg, Bd, W⟩ := id H
  obtain ⟨r1, r2, r3, r4⟩ := R
  obtain ⟨hB, hI, hG, hI20, hN⟩ := J.1
  have hr' : Lr < hz h ∧ Lr ≠ 0 ∧ ¬ Sl Lr := by
    rcases hr.2.2 with w | w
    · rw [w]; exact ⟨Bd.1.1, W.1, W.2.1⟩
    · exact ⟨hr.1, w.1, w.2.1⟩
  have Wr : Lr ≠ fR h 122 tb ∧ Lr ≠ fR h 138 tb ∧ ∀ d, Dk d → Lr ≠ fR h 1630 d ∧ Lr ≠ fR h 1634 d := by
    rcases hr.2.2 with w | w
    · rw [w]; exact W.2.2
    · exact w.2.2
  have Hx := HvQ_more (noW_fld W ⟨Bd.1.1, Bd.1.2.1⟩ H0) ⟨hr.1, hr.2.1⟩ Wr.1 Wr.2.1 Wr.2.2
  obtain ⟨v, h', us', fs', Dk', ds', dm', a1, a2, a3⟩ := c_asked nd J2.1 J2.2.1 hI20 hN hB hI hG J2.2.2 (pl : Int) e Hx hc cx ok.1 ok.2.1 ok.2.2 hzT r4 (by omega) r3 (by omega)
  have m : ∀ a, Sl a → ((Sl a ∨ a = Lb) ∨ a = Lr) := fun a w => .inl (.inl w)
  refine ⟨v, h', us', fs', Dk', ds', dm', a1, fun q => ?_, fun b s' q => ?_⟩
  · obtain ⟨a, ea, t1, t2, t3, t4, t5⟩ := a2 q
    have eL := t4.2.1.2 Lb Bd.1.1 (.inr (.inl (.inr rfl)))
    exact ⟨a, ea, ⟨t1, PoolC_less m t3⟩, t2, KJ_le (KJ_KH (KH_less m t4) eL) (by omega) (by omega) (by omega), by omega⟩
  · obtain ⟨⟨t1, t2, t3, t4, t5⟩, t6, t7⟩ := a3 b s' q
    have eL := t3.2.1.2 Lb Bd.1.1 (.inr (.inl (.inr rfl)))
    obtain ⟨b1, b2, b3⟩ := JQ_back H t1 t3 hr'
    exact ⟨⟨b1, t2, ⟨KJ_le (KJ_KH (KH_less m t3) eL) (by omega) (by omega) (by omega), by omega⟩, t5, b2, b3⟩, t6, t7⟩
theorem evC_keep {D : Dc} {y : Nat} (P : PoolC G h tb Sl Dk ds dm) (K : KJ N cl tb l0 sc rest Gx Lb Sl alo ahi h us fs Dk ds dm h1 us1 fs1 Dk1 ds1 dm1 q z u) (o : y < alo ∨ ahi ≤ y) (hlo : lo ≤ ds.length) (C : evC N cl rest io E lo h us Dk ds dm D y) : evC N cl rest io E lo h1 us1 Dk1 ds1 dm1 D y := by
  obtain ⟨⟨c1, c2⟩, c3⟩ := C
  have e := K.2.1.2.1 y c1 (by rw [c2]; unfold dyK; omega) o
  have X := KJ_hS K
  refine ⟨⟨Nat.lt_of_lt_of_le c1 X.1, by rw [e.1]; exact c2⟩, ?_⟩
  rw [e.2.2.1, e.2.2.1, e.2.2.1]
  rcases c3 with ⟨d, d0, d1, d2, d3, d4⟩ | ⟨T, V, d1, d2, d3, d4⟩
  · obtain ⟨⟨z1, u1, KG1, _⟩, _⟩ := K
    exact .inl ⟨d, d0, d1, d2, d3, DcX_KG P KG1 hlo d4.1, d4.2⟩
  · exact .inr ⟨T, V, d1, d2, KJ_ty K _ _ d3, KJ_ty K _ _ d4⟩
end LKA
