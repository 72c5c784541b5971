set_option maxRecDepth 100000
/-! LOADING, in the component (C_0_load) -/
/-- the end of loading -/
noncomputable def ldE (G : om_G) (m0 p : Nat) (h6 : om_H) : Option (Int × om_H) := gd (kd h6 m0 = 1) ((C_0_told G m0 0 h6).bind fun p7 => gd (kd p7 m0 = 1 ∧ kd p7 p = 2 ∧ kd p7 (fR p7 90 p) = 42) ((P_J2_size G (fR p7 90 p) (sI (sI (sI p7 20 m0 (w32 (1 - (fI p7 20 m0)))) 31 m0 1) 35 m0 0)).bind fun p8 => some (p8, sI (sI (sI p7 20 m0 (w32 (1 - (fI p7 20 m0)))) 31 m0 1) 35 m0 0)))
noncomputable def ldX (G : om_G) (m0 p t : Nat) (n : Int) (h0 : om_H) : Option (Int × om_H) := xc (C_1_read G p t h0) (fun t4x h4x => gd (kd h4x t4x = 16) (C_0_load_69 G m0 t4x h4x)) (fun _ h4 => gd (kd h4 p = 2) (xc (C_1_judge G p h4) (fun t5x h5x => gd (kd h5x t5x = 16) (C_0_load_69 G m0 t5x h5x)) (fun _ h5 => gd (kd h5 m0 = 1) (xc (C_0_measure G m0 p n h5) (fun t6x h6x => gd (kd h6x t6x = 16) (C_0_load_69 G m0 t6x h6x)) (fun _ h6 => ldE G m0 p h6)))))
theorem gd_no {α : Type} {c : Prop} {x : Option α} (q : ¬ c) : gd c x = none := if_neg q
/-- loading is what comes of reading, judging, measuring -/
theorem ldX_run {G : om_G} {m0 p t : Nat} {n : Int} {h0 h2 : om_H} {r : Nat ⊕ Unit} (e : cRun G m0 p t n h0 = some (r, h2)) : (∀ a, r = .inl a → kd h2 a = 16 → ldX G m0 p t n h0 = C_0_load_69 G m0 a h2) ∧ (r = .inr () → ldX G m0 p t n h0 = ldE G m0 p h2) := by
  unfold cRun at e
  unfold ldX
  cases q1 : C_1_read G p t h0 with
  | none => rw [q1] at e; cases e
  | some v1 =>
    obtain ⟨r1, h4⟩ := v1
    rw [q1] at e
    cases r1 with
    | inl a1 =>
      have e' : (some (.inl a1, h4) : Option ((Nat ⊕ Unit) × om_H)) = some (r, h2) := e
      injection Option.some.inj e' with e1 e2
      refine ⟨fun a w k => ?_, fun w => by rw [w] at e1; cases e1⟩
      rw [w] at e1
      injection e1 with e1
      show gd (kd h4 a1 = 16) (C_0_load_69 G m0 a1 h4) = _
      rw [e1, e2, gd_pos k]
    | inr u1 =>
      rw [xc_v] at e ⊢
      by_cases k4 : kd h4 p = 2
      · rw [gd_pos k4] at e ⊢
        cases q2 : C_1_judge G p h4 with
        | none => rw [q2] at e; cases e
        | some v2 =>
          obtain ⟨r2, h5⟩ := v2
          rw [q2] at e
          cases r2 with
          | inl a1 =>
            have e' : (some (.inl a1, h5) : Option ((Nat ⊕ Unit) × om_H)) = some (r, h2) := e
            injection Option.some.inj e' with e1 e2
            refine ⟨fun a w k => ?_, fun w => by rw [w] at e1; cases e1⟩
            rw [w] at e1
            injection e1 with e1
            show gd (kd h5 a1 = 16) (C_0_load_69 G m0 a1 h5) = _
            rw [e1, e2, gd_pos k]
          | inr u2 =>
            rw [xc_v] at e ⊢
            by_cases k5 : kd h5 m0 = 1
            · rw [gd_pos k5] at e ⊢
              rw [e]
              refine ⟨fun a w k => ?_, fun w => ?_⟩
              · rw [w]
                show gd (kd h2 a = 16) (C_0_load_69 G m0 a h2) = _
                rw [gd_pos k]
              · rw [w, xc_v]
            · rw [gd_no k5] at e; cases e
      · rw [gd_no k4] at e; cases e
section LCL
variable {G : om_G} {h : om_H} {m0 T p B tb : Nat} {ts : List Nat} {Dk OldL : Nat → Prop} {ds : List Nat} {dm l0 pv Lp te s tm : Nat} {S : List Int} {i : Nat}
/-- LOADING -/
theorem c_load (I : LdI G h m0 T p B tb ts Dk OldL ds dm l0 pv Lp te s tm) (hS : S.length ≤ 2000) (hb : ∀ x ∈ S, -128 ≤ x ∧ x ≤ 127) (hT : ∀ (i : Nat) (x : Int), S[i]? = some x → aI h T i = x) (hX : kd h (fR h 14 m0) = 54 ∧ an h (fR h 14 m0) = 2) (hi : fI h 20 m0 = (i : Int) ∧ i ≤ 1) (ep : aR h (fR h 14 m0) (1 - i) = p) (hn : (S.length : Int) ≤ fI h 8 m0) : ∃ h0, C_0_load G m0 (S.length : Int) h = ldX G m0 p (hz h) (S.length : Int) h0 ∧ PS0 G h0 m0 p tb (hz h) B S (fun a => ∃ f ∈ PFs, a = fR h f p) OldL ts Dk ds l0 pv Lp te s tm ∧ (Cst G h0 (hz h) S 0 0 ∧ fR h0 1122 (hz h) = B) ∧ PL G h0 p (hz h) (fun a => ∃ f ∈ PFs, a = fR h f p) ∧ (∀ f ∈ PFs, ll h0 (fR h0 f p) = []) ∧ (hz h0 = hz h + 1 ∧ hu h0 = hu h + 8) ∧ (∀ a, a < hz h → kd h0 a = kd h a) ∧ (fI h0 8 m0 = 0 ∧ (∀ f, f ≠ 8 → fI h0 f m0 = fI h f m0) ∧ ∀ f, fR h0 f m0 = fR h f m0) ∧ (∀ f, fR h0 f p = fR h f p) ∧ ∀ a, a < hz h → a ≠ m0 → a ≠ B → a ≠ tb → a ≠ fR h 134 tb → (∀ f ∈ PFs, a ≠ fR h f p) → eqA a h h0 := by
  obtain ⟨h1, h2, h0, c1, c2, ⟨Z2, c3⟩, rest⟩ := ld_begin I hS hb hT
  refine ⟨h0, ?_, rest⟩
  have km := I.1.2.1
  have kp := I.2.2.1.1.1
  have lp := I.2.2.1.1.2
  have lm := I.1.2.2
  have e70 := I.2.2.1.2.1
  have wi : w32 (1 - fI h 20 m0) = ((1 - i : Nat) : Int) := by
    rw [hi.1, w32_s (by omega) (by omega)]
    omega
  have K0 := rest.2.2.2.2.2.1
  have k1p : kd h1 p = 2 := by
    have := c_take (G := G) (m0 := m0) (B := B) (T := T) (S := S) (h := h) hS hb I.2.2.1.2.2.2.1 km ⟨I.2.1.1, I.2.1.2.2.1, I.2.1.2.2.2⟩ ⟨I.2.2.1.2.2.1.2.1, I.2.2.1.2.2.1.2.2⟩ hT
    obtain ⟨h1', d1, d2, _⟩ := this
    rw [c1] at d1
    rw [Option.some.inj d1, d2.2.1]
    exact kp
  have h2p : kd h2 p = 2 ∧ fR h2 70 p = B := by
    have e1 : h1 = h1 := rfl
    have tk := c_take (G := G) (m0 := m0) (B := B) (T := T) (S := S) (h := h) hS hb I.2.2.1.2.2.2.1 km ⟨I.2.1.1, I.2.1.2.2.1, I.2.1.2.2.2⟩ ⟨I.2.2.1.2.2.1.2.1, I.2.2.1.2.2.1.2.2⟩ hT
    obtain ⟨h1', d1, d2, _⟩ := tk
    rw [c1] at d1
    have eh := Option.some.inj d1
    rw [← eh] at d2
    have J := I.2.2.2.1
    obtain ⟨h2', g1, g2, _⟩ := c_clearP (G := G) (pr := p) (tb := tb) (h := h1) k1p (by rw [d2.2.2.2.1]; exact I.2.2.1.2.2.2.2) (by rw [d2.2.1]; exact J.1.2.2) ⟨by rw [d2.2.2.2.1, d2.2.1]; exact J.2.1.2.1, by rw [d2.2.2.2.1, d2.2.2.2.2.1]; exact J.2.1.2.2⟩ (fun f hf => by rw [d2.2.2.2.1, d2.2.1]; exact (I.2.2.2.2.1.2.2 _ (I.2.2.2.2.1.1 f hf).2).2)
    rw [c2] at g1
    have eh2 := Option.some.inj g1
    rw [← eh2] at g2
    have np : p ≠ tb := fun z => by rw [z, J.1.2.2] at kp; omega
    exact ⟨by rw [g2.2.1]; exact k1p, by rw [g2.2.2.2.1 70 p (fun z => np z.2), d2.2.2.2.1]; exact e70⟩
  have lp2 : p ≠ hz h2 := by omega
  have n70 : fR (nO h2 15 8) 70 p = B := by rw [fR_nO, if_neg lp2]; exact h2p.2
  have np2 : kd (nO h2 15 8) p = 2 ∧ kd (nO h2 15 8) (hz h2) = 15 := ⟨by rw [kd_nO, if_neg lp2]; exact h2p.1, by rw [kd_nO, if_pos rfl]⟩
  unfold C_0_load
  rw [if_neg (by omega), gd_pos km, if_pos hn, wi, show (((1 - i : Nat) : Int)).toNat = 1 - i by omega, ep, gd_pos ⟨km, hX.1, by omega, by rw [hX.2]; omega, kp⟩, e70, c1, Option.bind_some, gd_pos k1p, c2, Option.bind_some, gd_pos np2, n70, c3, Option.bind_some, gd_pos (by rw [K0 p lp]; exact kp), Z2]
  rfl
end LCL
theorem told_f {G : om_G} {m0 a : Nat} {k p : Int} {h : om_H} (km : kd h m0 = 1) (F : flt h a k p) : C_0_told G m0 a h = some (sI (sI (sI h 39 m0 1) 40 m0 k) 44 m0 p) := by
  obtain ⟨f1, f2, f3, f4⟩ := F
  have ne : a ≠ m0 := fun z => by rw [z, km] at f1; omega
  unfold C_0_told C_0_told_18 C_0_told_30 C_0_told_34
  rw [gd_pos km, if_pos f4, gd_pos (show kd (sI h 39 m0 1) a = 16 from f1), gd_pos (show kd (sI h 39 m0 1) m0 = 1 from km), if_pos f4]
  rw [gd_pos (show kd (sI (sI h 39 m0 1) 40 m0 (fI (sI h 39 m0 1) 1176 a)) a = 16 from f1), gd_pos (show kd (sI (sI h 39 m0 1) 40 m0 (fI (sI h 39 m0 1) 1176 a)) m0 = 1 from km), fI_sI, if_neg (fun z => ne z.2), fI_sI, if_neg (fun z => ne z.2), fI_sI, if_neg (fun z => ne z.2), f2, f3]
theorem told_0 {G : om_G} {m0 : Nat} {h : om_H} (km : kd h m0 = 1) : C_0_told G m0 0 h = some (sI (sI (sI h 39 m0 1) 40 m0 0) 44 m0 (-1)) := by
  unfold C_0_told C_0_told_18 C_0_told_34
  rw [gd_pos km, if_neg (fun z => z rfl), gd_pos (show kd (sI h 39 m0 1) m0 = 1 from km), if_neg (fun z => z rfl), gd_pos (show kd (sI (sI h 39 m0 1) 40 m0 0) m0 = 1 from km)]
/-- a fault is told -/
theorem ld_fault {G : om_G} {m0 a : Nat} {k p : Int} {h : om_H} (km : kd h m0 = 1) (F : flt h a k p) : C_0_load_69 G m0 a h = some (-1, sI (sI (sI h 39 m0 1) 40 m0 k) 44 m0 p) := by
  unfold C_0_load_69
  rw [gd_pos km, told_f km F, Option.bind_some]
/-- the program is there -/
theorem ld_right {G : om_G} {m0 p i : Nat} {h : om_H} (km : kd h m0 = 1) (kp : kd h p = 2) (k90 : kd h (fR h 90 p) = 42) (hi : fI h 20 m0 = (i : Int) ∧ i ≤ 1) : ldE G m0 p h = some (((ll h (fR h 90 p)).length : Int), sI (sI (sI (sI (sI (sI h 39 m0 1) 40 m0 0) 44 m0 (-1)) 20 m0 ((1 - i : Nat) : Int)) 31 m0 1) 35 m0 0) := by
  have e20 : fI (sI (sI (sI h 39 m0 1) 40 m0 0) 44 m0 (-1)) 20 m0 = (i : Int) := by
    rw [fI_sI, if_neg (fun z => absurd z.1 (by decide)), fI_sI, if_neg (fun z => absurd z.1 (by decide)), fI_sI, if_neg (fun z => absurd z.1 (by decide))]
    exact hi.1
  have wi : w32 (1 - (i : Int)) = ((1 - i : Nat) : Int) := by
    rw [w32_s (by omega) (by omega)]
    omega
  unfold ldE P_J2_size
  rw [gd_pos km, told_0 km, Option.bind_some, gd_pos ⟨km, kp, k90⟩, e20, wi, gd_pos (show kd (sI (sI (sI (sI (sI (sI h 39 m0 1) 40 m0 0) 44 m0 (-1)) 20 m0 ((1 - i : Nat) : Int)) 31 m0 1) 35 m0 0) (fR (sI (sI (sI h 39 m0 1) 40 m0 0) 44 m0 (-1)) 90 p) = 42 from k90), Option.bind_some]
  rfl
