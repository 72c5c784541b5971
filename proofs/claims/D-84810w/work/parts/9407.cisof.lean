set_option maxRecDepth 100000
/-! THE COMPONENT's judge: an ex is to be of a type; of a form -/
/-- the judge -/
def JgC (h : om_H) (jg l0 tb Lb : Nat) : Prop := (kd h jg = 37 ∧ jg < hz h) ∧ fR h 1646 jg = l0 ∧ fR h 1650 jg = tb ∧ fR h 1654 jg = Lb
/-- an ex's object -/
def exO (h : om_H) (e : Nat) (p : Nat) : Prop := e < hz h ∧ (24 ≤ kd h e ∧ kd h e ≤ 32 ∧ kd h e ≠ 31) ∧ fI h 1372 e = (p : Int)
section LCJ
variable {G : om_G} {N : List (List Int)} {cl : Nat → Nat} {tb l0 sc jg Lb : Nat} {rest : List (Nat × List Nat)} {Sl : Nat → Prop} {io : Nat → Nat} {E : JE} {B tot : Nat} {h h' : om_H} {us fs us' fs' : List Nat} {q z u : Nat}
theorem exO_k {e p : Nat} (H : exO h e p) : ∃ k ∈ om_exk, kd h e = k + 1 := by
  obtain ⟨_, ⟨h1, h2, h3⟩, _⟩ := H
  refine ⟨kd h e - 1, ?_, by omega⟩
  simp only [om_exk, List.mem_cons, List.not_mem_nil, or_false]
  omega
theorem exO_KF {e p : Nat} (T : TB G h N cl tb us fs rest) (k9 : kd h l0 = 9) (K : KF N cl tb l0 rest h us fs h' us' fs' q z u) (H : exO h e p) : exO h' e p := by
  obtain ⟨h1, h2, h3⟩ := H
  have w := KF_kd T k9 K h1 (by omega)
  exact ⟨Nat.lt_of_lt_of_le h1 K.1.1, by rw [w.1]; exact h2, by rw [w.2.1]; exact h3⟩
theorem JgC_KF (T : TB G h N cl tb us fs rest) (k9 : kd h l0 = 9) (K : KF N cl tb l0 rest h us fs h' us' fs' q z u) (H : JgC h jg l0 tb Lb) : JgC h' jg l0 tb Lb := by
  obtain ⟨⟨h1, h2⟩, h3, h4, h5⟩ := H
  have w := KF_kd T k9 K h2 (by omega)
  exact ⟨⟨by rw [w.1]; exact h1, Nat.lt_of_lt_of_le h2 K.1.1⟩, by rw [w.2.2.1]; exact h3, by rw [w.2.2.1]; exact h4, by rw [w.2.2.1]; exact h5⟩
/-- AN EX IS TO BE OF A TYPE -/
theorem c_isOf (nd : ndN N) (J : JOk E B) (hGN : gvN E.2.2.2.2) {e : Et} {s : JS} {T : Ty} {zz : (Nat × Nat) ⊕ (Et × JS)} (ez : jw E T e s = some zz) (F : FnQ G h N cl tb l0 sc us fs rest Sl io E.2.2.1 E.2.2.2.1 E.2.2.2.2 s.1) (Hj : JgC h jg l0 tb Lb) {eo x y : Nat} (He : exO h eo (ePl e)) (cx : tyC h N cl (UU us rest) (eTy e) x) (cy : tyC h N cl (UU us rest) T y) (okE : tyOk E.2.2.2.1 (eTy e)) (okT : tyOk E.2.2.2.1 T) (hzE : tsz (eTy e) ≤ 1000000) (hzT : tsz T ≤ 1000000) (h300 : s.1 ≤ 300) (R : tl us fs + 81 * 60 + B ≤ 149000) : ∃ (v : Nat ⊕ Unit) (h' : om_H) (us' fs' : List Nat), C_37_isOf G jg eo x y h = some (v, h') ∧ (∀ k p, zz = .inl (k, p) → ∃ a, v = .inl a ∧ TB G h' N cl tb us' fs' rest ∧ flt h' a (k : Int) (p : Int) ∧ KF N cl tb l0 rest h us fs h' us' fs' (81 * 60 + B) 1 8) ∧ ∀ e' s', zz = .inr (e', s') → v = .inr () ∧ ∃ h1, FnQ G h1 N cl tb l0 sc us' fs' rest Sl io E.2.2.1 E.2.2.2.1 E.2.2.2.2 s'.1 ∧ (s.1 ≤ s'.1 ∧ s'.1 ≤ 300) ∧ KF N cl tb l0 rest h us fs h1 us' fs' (81 * (s'.1 - s.1)) 0 0 ∧ (∃ D, s'.2 = s.2 ++ D ∧ ∀ X ∈ D, ∃ y, tyC h1 N cl (UU us' rest) X y) ∧ ((e' = e ∧ h' = h1 ∧ eTy e = T) ∨ (e' = eCs T e ∧ h' = sR h1 1382 eo y ∧ eTy e ≠ T)) := by
  obtain ⟨hB, hI, hG, _⟩ := J.1
  unfold jw at ez
  unfold C_37_isOf
  by_cases same : eTy e = T
  · rw [if_pos (tyE_iff.mpr same)] at ez
    have ez' : zz = .inr (e, s) := (Option.some.inj ez).symm
    have xy : x = y := F.1.2.2.1 _ _ _ cx (by rw [same]; exact cy)
    rw [if_neg (fun w => w xy)]
    refine ⟨.inr (), h, us, fs, rfl, fun k p q => (by rw [ez'] at q; cases q), fun e' s' q => ?_⟩
    rw [ez'] at q
    injection Sum.inr.inj q with q1 q2
    rw [← q1, ← q2]
    exact ⟨rfl, h, F, ⟨Nat.le_refl _, h300⟩, KF_refl, ⟨[], by rw [List.append_nil], fun X hX => absurd hX List.not_mem_nil⟩, .inl ⟨rfl, rfl, same⟩⟩
  · rw [if_neg (fun w => same (tyE_iff.mp w))] at ez
    have xy : x ≠ y := fun w => same (tyC_fun nd cx (by rw [w]; exact cy))
    obtain ⟨a, q⟩ := one_ends (ins := E.2.2.2.1) (gv := E.2.2.2.2) (0, s.1, s.2) (eTy e) T (Nat.zero_le _)
    rw [q, Option.bind_some] at ez
    obtain ⟨v1, h1, us1, fs1, g1, o1, o2⟩ := c_areOne (G := G) nd hB hI hG hGN ((ePl e : Nat) : Int) q F cx cy okE.1 okT.1 okE.2.1 okT.2.1 okE.2.2 okT.2.2 hzE hzT h300 R
    rw [if_pos xy, gd_pos ⟨Hj.1.1, exO_k He, by rw [Hj.2.1]; exact F.2.1.1.1⟩, Hj.2.1, He.2.2, g1]
    cases a with
    | none =>
      have ez' : zz = .inl (7, ePl e) := (Option.some.inj ez).symm
      obtain ⟨a, ea, t1, t2, t3⟩ := o1 rfl
      subst ea
      refine ⟨.inl a, h1, us1, fs1, rfl, fun k p q => ?_, fun e' s' q => by rw [ez'] at q; cases q⟩
      rw [ez'] at q
      injection Sum.inl.inj q with q1 q2
      rw [← q1, ← q2]
      exact ⟨a, rfl, t1, t2, t3⟩
    | some pb =>
      obtain ⟨b, s'⟩ := pb
      obtain ⟨ev, F1, b1, b2, b3, K1, D, d1, d2⟩ := o2 b s' rfl
      subst ev
      rw [xc_v]
      have He1 := exO_KF F.1 F.2.1.1.1 K1 He
      simp only at ez
      cases b with
      | true =>
        rw [if_pos rfl] at ez
        have ez' : zz = .inr (eCs T e, s'.2.1, s'.2.2) := (Option.some.inj ez).symm
        rw [if_pos rfl, if_pos (by decide), gd_pos (exO_k He1)]
        refine ⟨.inr (), sR h1 1382 eo y, us1, fs1, rfl, fun k p q => (by rw [ez'] at q; cases q), fun e' s2 q => ?_⟩
        rw [ez'] at q
        injection Sum.inr.inj q with q1 q2
        rw [← q1, ← q2]
        exact ⟨rfl, h1, F1, ⟨b1, b3⟩, K1, ⟨D, d1, d2⟩, .inr ⟨rfl, rfl, same⟩⟩
      | false =>
        rw [if_neg (by decide)] at ez
        have ez' : zz = .inl (4, ePl e) := (Option.some.inj ez).symm
        rw [if_neg (by decide)]
        obtain ⟨h2, m1, m2, m3, m4, m5, m6, m7⟩ := c_fault F1.1 nd ⟨F1.2.1.1.1, F1.2.1.1.2.1⟩ 4 ((ePl e : Nat) : Int)
        have kE : kd (nO h1 16 8) eo = kd h1 eo := by rw [kd_nO, if_neg (by have := He1.1; omega)]
        have iE : fI (nO h1 16 8) 1372 eo = ((ePl e : Nat) : Int) := by rw [fI_nO, if_neg (by have := He1.1; omega)]; exact He1.2.2
        have ex1 : ∃ k ∈ om_exk, kd (nO h1 16 8) eo = k + 1 := by rw [kE]; exact exO_k He1
        rw [gd_pos ⟨ex1, m2⟩, iE, m1, Option.bind_some, gd_pos m3]
        refine ⟨.inl (hz h1), h2, us1, fs1, rfl, fun k p q => ?_, fun e' s2 q => by rw [ez'] at q; cases q⟩
        rw [ez'] at q
        injection Sum.inl.inj q with q1 q2
        rw [← q1, ← q2]
        exact ⟨_, rfl, m5, m4, KF_le (KF_trans K1 m6) (by omega) (by omega) (by omega)⟩
end LCJ
