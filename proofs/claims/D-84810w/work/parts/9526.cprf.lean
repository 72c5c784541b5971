set_option maxRecDepth 100000
/-! THE COMPONENT: PROOFS, made and used again -/
/-- the prover: its finder, its list of proofs, so many in use -/
def PvI (G : om_G) (h : om_H) (pv l0 Lp u : Nat) : Prop := ((kd h pv = 6 ∧ pv < hz h) ∧ fR h 178 pv = l0 ∧ fR h 170 pv = Lp) ∧ (okV G h Lp ∧ (ll h Lp).Nodup ∧ ∀ y ∈ ll h Lp, y ≠ 0 ∧ y < hz h ∧ kd h y = 39) ∧ fI h 172 pv = (u : Int) ∧ u ≤ (ll h Lp).length
/-- what a proof is -/
def pfF (h : om_H) (y why t a b : Nat) : Prop := fR h 1670 y = why ∧ fR h 1674 y = t ∧ fR h 1686 y = a ∧ fR h 1690 y = b ∧ fR h 1678 y = 0
/-- enums are known by their number -/
def whyO (G : om_G) : Prop := ∀ (h : om_H) (j : Nat), j ≤ 5 → om_Rc G h (om_cA G (7 + j)) "CoercedClasses$Why" ∧ P_J3_ordinal G (om_cA G (7 + j)) h = some ((j : Nat) : Int)
theorem gd_some {α : Type} {c : Prop} {x : Option α} {z : α} (e : gd c x = some z) : c ∧ x = some z := om_gdc e
section LCP
variable {G : om_G} {h h' : om_H} {pv l0 Lp u why t a b : Nat}
theorem c_p29 (P : PvI G h pv l0 Lp u) (hv : u < (ll h Lp).length) (h8 : u < 100000) : ∃ y h', C_5_proof_29 G pv why t a b h = some (y, h') ∧ (ll h Lp)[u]? = some y ∧ PvI G h' pv l0 Lp (u + 1) ∧ (ll h' Lp = ll h Lp ∧ lc h' Lp = lc h Lp) ∧ pfF h' y why t a b ∧ hT (fun z => z = pv ∨ z = y) h h' ∧ hz h' = hz h ∧ hu h' = hu h := by
  obtain ⟨⟨⟨p1, p2⟩, p3, p4⟩, ⟨p5, p6, p7⟩, p8, p9⟩ := P
  have ey : (ll h Lp)[u]? = some ((ll h Lp)[u]) := List.getElem?_eq_getElem hv
  generalize (ll h Lp)[u] = y at ey
  obtain ⟨y0, y1, y2⟩ := p7 y (List.mem_of_getElem? ey)
  have yp : y ≠ pv := fun z => by rw [z, p1] at y2; omega
  have yL : y ≠ Lp := fun z => by rw [z, p5.2.1] at y2; omega
  have pL : pv ≠ Lp := fun z => by rw [z, p5.2.1] at p1; omega
  have wu : w32 ((u : Int) + 1) = ((u + 1 : Nat) : Int) := (w32_s (by omega) (by omega)).trans (by omega)
  generalize eh : sR (sR (sR (sR (sR (sI h 172 pv ((u + 1 : Nat) : Int)) 1670 y why) 1674 y t) 1686 y a) 1690 y b) 1678 y 0 = h'
  have X : hT (fun z => z = pv ∨ z = y) h h' := by
    rw [← eh]
    refine ⟨Nat.le_refl _, Nat.le_refl _, fun _ _ => rfl, fun z _ nz => ⟨rfl, fun g => fI_na (fun e => nz (.inl e)), fun g => ?_, rfl, fun _ => rfl, fun _ => rfl, rfl, rfl⟩⟩
    have ny : z ≠ y := fun e => nz (.inr e)
    rw [fR_na ny, fR_na ny, fR_na ny, fR_na ny, fR_na ny]
    rfl
  have l1 : ll h' Lp = ll h Lp := by rw [← eh]; rfl
  have l2 : lc h' Lp = lc h Lp := by rw [← eh]; rfl
  have z1 : hz h' = hz h := by rw [← eh]; rfl
  have u1 : hu h' = hu h := by rw [← eh]; rfl
  have kk : ∀ z, kd h' z = kd h z := fun z => by rw [← eh]; rfl
  have fp : ∀ f, fR h' f pv = fR h f pv := fun f => by
    rw [← eh, fR_na (fun e => yp e.symm), fR_na (fun e => yp e.symm), fR_na (fun e => yp e.symm), fR_na (fun e => yp e.symm), fR_na (fun e => yp e.symm)]
    rfl
  have ip : fI h' 172 pv = ((u + 1 : Nat) : Int) := by
    rw [← eh]
    exact fI_eq
  refine ⟨y, h', ?_, ey, ⟨⟨⟨by rw [kk]; exact p1, by rw [z1]; exact p2⟩, by rw [fp]; exact p3, by rw [fp]; exact p4⟩, ⟨okV_hT p5 X (fun z => by rcases z with z | z; exact pL z.symm; exact yL z.symm), by rw [l1]; exact p6, fun z hz' => by rw [l1] at hz'; rw [z1, kk]; exact p7 z hz'⟩, ip, by rw [l1]; omega⟩, ⟨l1, l2⟩, ?_, X, z1, u1⟩
  · unfold C_5_proof_29
    rw [p4, p8, gd_pos ⟨p1, p5.2.1⟩]
    unfold P_J2_get
    rw [gd_pos ⟨p5.2.1, by omega⟩, show ((u : Int)).toNat = u by omega, ey, Option.bind_some, gd_pos ⟨.inr y2, p1, y2⟩, wu, eh]
  · rw [← eh]
    refine ⟨?_, ?_, ?_, ?_, ?_⟩
    · rw [fR_ne (by decide), fR_ne (by decide), fR_ne (by decide), fR_ne (by decide), fR_eq]
    · rw [fR_ne (by decide), fR_ne (by decide), fR_ne (by decide), fR_eq]
    · rw [fR_ne (by decide), fR_ne (by decide), fR_eq]
    · rw [fR_ne (by decide), fR_eq]
    · rw [fR_eq]
/-- A PROOF -/
theorem c_prf (P : PvI G h pv l0 Lp u) (h8 : u ≤ 20000) (hl : (ll h Lp).length ≤ 20000) : ∃ y h', C_5_proof G pv why t a b h = some (y, h') ∧ PvI G h' pv l0 Lp (u + 1) ∧ ((ll h' Lp)[u]? = some y ∧ ∃ d, ll h' Lp = ll h Lp ++ d ∧ ((ll h Lp).length + d.length ≤ max (ll h Lp).length (u + 1))) ∧ pfF h' y why t a b ∧ hT (fun z => z = pv ∨ z = Lp ∨ z = y) h h' ∧ (hz h' + 2 * (ll h Lp).length ≤ hz h + 2 * (ll h' Lp).length ∧ hu h' + 4 * lc h Lp + 6 * (ll h Lp).length ≤ hu h + 4 * lc h' Lp + 6 * (ll h' Lp).length) ∧ (y < hz h → (ll h Lp)[u]? = some y) := by
  obtain ⟨⟨⟨p1, p2⟩, p3, p4⟩, ⟨p5, p6, p7⟩, p8, p9⟩ := id P
  by_cases c : u = (ll h Lp).length
  · -- a new one
    have kn : kd (nO h 39 6) (hz h) = 39 := by rw [kd_nO, if_pos rfl]
    have X1 : hT (fun _ => False) h (nO h 39 6) := ⟨by show hz h ≤ hz h + 1; omega, by show hu h ≤ hu h + 6; omega, fun y hy => by rw [kd_nO, if_neg (by omega)], fun y hy _ => ⟨by rw [kd_nO, if_neg (by omega)], fun f => by rw [fI_nO, if_neg (by omega)], fun f => by rw [fR_nO, if_neg (by omega)], rfl, fun _ => rfl, fun _ => rfl, rfl, rfl⟩⟩
    have L1 := okV_hT p5 X1 (fun z => z)
    obtain ⟨a1, a2, a3, a4, a5, a6⟩ := v_add (x := hz h) L1 (.inl ⟨by show hz h < hz h + 1; omega, by rw [kn]; decide, by rw [kn]; decide⟩) (by show (ll h Lp).length ≤ 100000; omega)
    generalize eh2 : addL (nO h 39 6) Lp (hz h) = h2 at *
    obtain ⟨b0, b1, b2, b3, b4, b5, b6, b7, b8, b9⟩ := a2
    have z0 : hz (nO h 39 6) = hz h + 1 := rfl
    have u0 : hu (nO h 39 6) = hu h + 6 := rfl
    have X2 : hT (fun y => y = Lp) h h2 := ⟨by omega, by omega, fun y hy => (b2 y (by omega)).trans (X1.2.2.1 y hy), fun y hy ny => eqA_trans (X1.2.2.2 y hy (fun z => z)) ⟨b2 y (by omega), fun f => b3 f y (by omega), fun f => b4 f y (by omega), b5 y (by omega), fun i => b6 y i (by omega), fun i => b7 y i (by omega), b8 y (by omega) ny, b9 y (by omega) ny⟩⟩
    have pL : pv ≠ Lp := fun z => by rw [z, p5.2.1] at p1; omega
    have e2 := X2.2.2.2 pv p2 pL
    have kn2 : kd h2 (hz h) = 39 := by rw [b2 _ (by omega)]; exact kn
    have l2 : ll h2 Lp = ll h Lp ++ [hz h] := a4
    have P2 : PvI G h2 pv l0 Lp u := by
      refine ⟨⟨⟨by rw [e2.1]; exact p1, by omega⟩, by rw [e2.2.2.1]; exact p3, by rw [e2.2.2.1]; exact p4⟩, ⟨a3, ?_, fun y hy => ?_⟩, by rw [e2.2.1]; exact p8, by rw [l2, List.length_append]; omega⟩
      · rw [l2]
        refine List.nodup_append.mpr ⟨p6, by simp, fun x hx y hy => ?_⟩
        have := (p7 x hx).2.1
        rw [List.mem_singleton.mp hy]
        omega
      · rw [l2] at hy
        rcases List.mem_append.mp hy with hy | hy
        · obtain ⟨q1, q2, q3⟩ := p7 y hy
          exact ⟨q1, by omega, by rw [X2.2.2.1 y q2]; exact q3⟩
        · rw [List.mem_singleton.mp hy]
          exact ⟨by omega, by omega, kn2⟩
    obtain ⟨y, h', c1, c2, c3, ⟨c4, c4'⟩, c5, c6, c7, c8⟩ := c_p29 (why := why) (t := t) (a := a) (b := b) P2 (by rw [l2, List.length_append]; show u < _ + 1; omega) (by omega)
    have ey : y = hz h := by
      rw [l2, c, List.getElem?_append_right (Nat.le_refl _), Nat.sub_self] at c2
      exact (Option.some.inj c2).symm
    have a6' : hu h2 + 4 * lc h Lp ≤ hu h + 6 + 4 * lc h2 Lp := a6
    refine ⟨y, h', ?_, c3, ⟨by rw [c4]; exact c2, [hz h], by rw [c4, l2], by simp; omega⟩, c5, hT_trans (hT_mono X2 (fun _ _ z => .inr (.inl z))) c6 (fun z hz' w => by rcases w with w | w; exact .inl w; exact .inr (.inr w)), ⟨by rw [c4, l2, List.length_append, c7, List.length_singleton]; omega, by rw [c4, l2, List.length_append, c8, c4', List.length_singleton]; omega⟩, fun w => by omega⟩
    unfold C_5_proof P_J2_size
    rw [p4, gd_pos ⟨p1, p5.2.1⟩, gd_pos p5.2.1, Option.bind_some, p8, if_neg (fun z => z (by rw [c])), gd_pos ⟨p1, kn⟩]
    unfold C_39_init
    rw [gd_pos kn, Option.bind_some, gd_pos L1.2.1, a1, Option.bind_some]
    exact c1
  · obtain ⟨y, h', c1, c2, c3, ⟨c4, c4'⟩, c5, c6, c7, c8⟩ := c_p29 (why := why) (t := t) (a := a) (b := b) P (by omega) (by omega)
    refine ⟨y, h', ?_, c3, ⟨by rw [c4]; exact c2, [], by rw [c4, List.append_nil], by simp; omega⟩, c5, hT_mono c6 (fun z _ w => by rcases w with w | w; exact .inl w; exact .inr (.inr w)), ⟨by rw [c4, c7]; omega, by rw [c4, c8, c4']; omega⟩, fun _ => c2⟩
    unfold C_5_proof P_J2_size
    rw [p4, gd_pos ⟨p1, p5.2.1⟩, gd_pos p5.2.1, Option.bind_some, p8, if_pos (by omega)]
    exact c1
/-- of the prover itself but the count of those in use is left -/
theorem c_prf_pv {y : Nat} (P : PvI G h pv l0 Lp u) (e : C_5_proof G pv why t a b h = some (y, h')) : ∀ f, f ≠ 172 → fI h' f pv = fI h f pv := fun f hf => by
  obtain ⟨⟨⟨p1, p2⟩, p3, p4⟩, ⟨p5, p6, p7⟩, p8, p9⟩ := id P
  have go : ∀ h2 y2 h3, C_5_proof_29 G pv why t a b h2 = some (y2, h3) → fI h3 f pv = fI h2 f pv := fun h2 y2 h3 e2 => by
    unfold C_5_proof_29 at e2
    obtain ⟨_, e2⟩ := gd_some e2
    cases q : P_J2_get G (fR h2 170 pv) (fI h2 172 pv) h2 with
    | none => rw [q] at e2; cases e2
    | some p =>
      rw [q, Option.bind_some] at e2
      obtain ⟨_, e2⟩ := gd_some e2
      injection Option.some.inj e2 with e3 e4
      rw [← e4]
      show fI (sI h2 172 pv _) f pv = _
      rw [fI_ne hf]
  unfold C_5_proof at e
  obtain ⟨_, e⟩ := gd_some e
  cases q : P_J2_size G (fR h 170 pv) h with
  | none => rw [q] at e; cases e
  | some n =>
    rw [q, Option.bind_some] at e
    split at e
    · exact go _ _ _ e
    · obtain ⟨g1, e⟩ := gd_some e
      unfold C_39_init at e
      rw [gd_pos g1.2, Option.bind_some] at e
      obtain ⟨_, e⟩ := gd_some e
      cases q2 : P_J2_add G (fR h 170 pv) (hz h) (nO h 39 6) with
      | none => rw [q2] at e; cases e
      | some p =>
        rw [q2, Option.bind_some] at e
        have e5 := go _ _ _ e
        unfold P_J2_add at q2
        obtain ⟨_, q2⟩ := gd_some q2
        have q3 : p.2 = addL (nO h 39 6) (fR h 170 pv) (hz h) := by rw [← Option.some.inj q2]
        rw [e5, q3, addL_fI, fI_nO, if_neg (by omega)]
theorem c_prf_pvR {y : Nat} (P : PvI G h pv l0 Lp u) (e : C_5_proof G pv why t a b h = some (y, h')) : ∀ f, fR h' f pv = fR h f pv := fun f => by
  obtain ⟨⟨⟨p1, p2⟩, p3, p4⟩, ⟨p5, p6, p7⟩, p8, p9⟩ := id P
  have go : ∀ h2 y2 h3, kd h2 pv = 6 → C_5_proof_29 G pv why t a b h2 = some (y2, h3) → fR h3 f pv = fR h2 f pv := fun h2 y2 h3 k2 e2 => by
    unfold C_5_proof_29 at e2
    obtain ⟨_, e2⟩ := gd_some e2
    cases q : P_J2_get G (fR h2 170 pv) (fI h2 172 pv) h2 with
    | none => rw [q] at e2; cases e2
    | some p =>
      rw [q, Option.bind_some] at e2
      obtain ⟨g1, e2⟩ := gd_some e2
      have np : pv ≠ p := fun z => by have := g1.2.2; rw [← z, k2] at this; omega
      injection Option.some.inj e2 with e3 e4
      rw [← e4, fR_na np, fR_na np, fR_na np, fR_na np, fR_na np]
      rfl
  unfold C_5_proof at e
  obtain ⟨_, e⟩ := gd_some e
  cases q : P_J2_size G (fR h 170 pv) h with
  | none => rw [q] at e; cases e
  | some n =>
    rw [q, Option.bind_some] at e
    split at e
    · exact go _ _ _ p1 e
    · obtain ⟨g1, e⟩ := gd_some e
      unfold C_39_init at e
      rw [gd_pos g1.2, Option.bind_some] at e
      obtain ⟨_, e⟩ := gd_some e
      cases q2 : P_J2_add G (fR h 170 pv) (hz h) (nO h 39 6) with
      | none => rw [q2] at e; cases e
      | some p =>
        rw [q2, Option.bind_some] at e
        unfold P_J2_add at q2
        obtain ⟨g2, q2⟩ := gd_some q2
        have q3 : p.2 = addL (nO h 39 6) (fR h 170 pv) (hz h) := by rw [← Option.some.inj q2]
        have e5 := go _ _ _ (by rw [q3, addL_kd _ _ _ _ g2.1, kd_nO, if_neg (by omega)]; exact p1) e
        rw [e5, q3, addL_fR, fR_nO, if_neg (by omega)]
end LCP
