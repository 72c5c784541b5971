set_option maxRecDepth 100000
/-! THE COMPONENT PROVES why a type is what it is worked out to (3) -/
section LCW5
variable {G : om_G} {h h1 h2 : om_H} {N : List (List Int)} {cl : Nat → Nat} {tb l0 sc pv Lp u u1 u2 B : Nat} {us fs : List Nat} {rest : List (Nat × List Nat)} {Sl U : Nat → Prop} {io : Nat → Nat} {ab : List (Option Nat)} {ins : List INs} {gv : List GVs} {nm con fam : Nat → List Int}
/-- a type and its parts, proved -/
theorem c_prfP (nd : ndN N) (E : PvE G h N cl tb l0 sc us fs rest Sl io ab ins gv pv Lp u) (h8 : u ≤ 20000) (hl : (ll h Lp).length ≤ 20000) {kk w a p3 p4 m : Nat} {x : Unit} {l r : Ty} {L1 L2 : List Int} (c : tyC h N cl (UU us rest) (.inner kk w x l r) a) (hh : hdC N cl nm con fam h kk w) (P3 : PrC G N cl (UU us rest) nm con fam Lp u h m p3 L1) (P4 : (p4 = 0 ∧ L2 = []) ∨ (p4 ≠ 0 ∧ ∃ L3, PrC G N cl (UU us rest) nm con fam Lp u h m p4 L3 ∧ L2 = (if kk = 3 then [45, 62] else [44]) ++ L3)) {l' r' : Ty} (P3D : PrD G N cl (UU us rest) io ins gv Lp u h m p3 l l') (P4D : (p4 = 0 ∧ r = .leaf ∧ r' = .leaf) ∨ (p4 ≠ 0 ∧ PrD G N cl (UU us rest) io ins gv Lp u h m p4 r r')) (qv : QC h N cl (UU us rest) (.inner kk w x l' r')) : ∃ y h1, C_5_proof G pv (om_cA G 12) a p3 p4 h = some (y, h1) ∧ PvE G h1 N cl tb l0 sc us fs rest Sl io ab ins gv pv Lp (u + 1) ∧ KV N cl tb l0 pv Lp rest us fs h u h1 (u + 1) ∧ y ≠ 0 ∧ PrC G N cl (UU us rest) nm con fam Lp (u + 1) h1 (m + 1) y ((if kk = 3 then [] else hdB nm con fam kk w) ++ 40 :: L1 ++ L2 ++ [41]) ∧ PrD G N cl (UU us rest) io ins gv Lp (u + 1) h1 (m + 1) y (.inner kk w x l r) (.inner kk w x l' r') := by
  obtain ⟨y, h1, c1, E1, K1, c2, ⟨c3, c4, c5⟩, ⟨c6, c7, c8, c9, c10⟩⟩ := PvE_prf (why := om_cA G 12) (t := a) (a := p3) (b := p4) nd E h8 hl
  obtain ⟨qy, qc⟩ := qv
  refine ⟨y, h1, c1, E1, K1, c3, ⟨⟨u, by omega, c2⟩, c4, .inr (.inr (.inr (.inr (.inr ⟨c6, kk, w, x, l, r, L1, L2, by rw [c7]; exact K1.2.1 _ _ c, hdC_KV E K1 hh, by rw [c8]; exact PrC_KV E K1 P3, ?_, rfl⟩))))⟩, ⟨u, by omega, c2⟩, c4, ⟨⟨a, K1.2.1 _ _ c⟩, qy, K1.2.1 _ _ qc⟩, .inr (.inr (.inr (.inr (.inr ⟨c6, kk, w, x, l, r, l', r', by rw [c7]; exact K1.2.1 _ _ c, rfl, rfl, by rw [c8]; exact PrD_KV K1 P3D, ?_⟩))))⟩
  · rw [c9]
    rcases P4 with P4 | ⟨e, L3, e1, e2⟩
    · exact .inl P4
    · exact .inr ⟨e, L3, PrC_KV E K1 e1, e2⟩
  · rw [c9]
    rcases P4D with P4 | ⟨e, e1⟩
    · exact .inl P4
    · exact .inr ⟨e, PrD_KV K1 e1⟩
set_option maxHeartbeats 1000000 in
/-- why its parts are what they are worked out to -/
theorem c_partsP (nd : ndN N) {f1 f2 g k w a : Nat} {x : Unit} {l r' vl vr : Ty} (E : PvE G h N cl tb l0 sc us fs rest Sl io ab ins gv pv Lp u) (I : InH (hdC N cl nm con fam h) ins gv B) (hg : g ≤ 130) (hf2 : g ≤ f2) (c : tyC h N cl (UU us rest) (.inner k w x l r') a) (hl0 : l ≠ .leaf) (q : GTH ins (hdC N cl nm con fam h) (.inner k w x l r')) (kl : knT ins gv (QC h N cl (UU us rest)) g l vl) (kr : r' ≠ .leaf → knT ins gv (QC h N cl (UU us rest)) g r' vr) (Wl : PWk G N cl tb l0 sc us fs rest Sl io ab ins gv nm con fam pv Lp f1 f2 g l vl) (Wr : r' ≠ .leaf → PWk G N cl tb l0 sc us fs rest Sl io ab ins gv nm con fam pv Lp f1 f2 g r' vr) (hu : u + (1 + (nP ins gv f2 l + 1) + (if lfB r' = true then 0 else nP ins gv f2 r' + 1)) ≤ 9000) (hl : (ll h Lp).length ≤ 9000) (ht : tl us fs + 2700 ≤ 149000) (qv : QC h N cl (UU us rest) (.inner k w x vl vr)) (hv0 : r' = .leaf → vr = .leaf) : ∃ y5 h5 u5, PvE G h5 N cl tb l0 sc us fs rest Sl io ab ins gv pv Lp u5 ∧ KV N cl tb l0 pv Lp rest us fs h u h5 u5 ∧ u5 ≤ u + (1 + (nP ins gv f2 l + 1) + (if lfB r' = true then 0 else nP ins gv f2 r' + 1)) ∧ y5 ≠ 0 ∧ (PrC G N cl (UU us rest) nm con fam Lp u5 h5 (dPf g + 1) y5 (wpB nm con fam (whyB nm con fam ins gv f2) (.inner k w x l r')) ∧ PrD G N cl (UU us rest) io ins gv Lp u5 h5 (dPf g + 1) y5 (.inner k w x l r') (.inner k w x vl vr)) ∧ ∀ p2 : Nat, gd (kd h a = 34 ∧ kd h pv = 6) (xc (C_5_orAlike G (C_5_workedD G f1) pv (fR h 1582 a) h) (fun t h => some (Sum.inl t, h)) (fun p3 h3 => gd (kd h3 a = 34) (if (fR h3 1586 a) ≠ 0 then gd (kd h3 a = 34 ∧ kd h3 pv = 6) (xc (C_5_orAlike G (C_5_workedD G f1) pv (fR h3 1586 a) h3) (fun t h => some (Sum.inl t, h)) (fun p4 h4 => C_5_worked_55 G (C_5_workedD G f1) pv p2 pv (om_cA G 12) a p3 p4 h4)) else C_5_worked_55 G (C_5_workedD G f1) pv p2 pv (om_cA G 12) a p3 0 h3))) = C_5_worked_59 G (C_5_workedD G f1) pv p2 y5 h5 := by
  obtain ⟨ql, qr⟩ := GTy_l q
  have ca : kd h a = 34 := c.2.1
  have cl' : tyC h N cl (UU us rest) l (fR h 1582 a) := c.2.2.2.2.1
  obtain ⟨y3, h3, u3, a1, E3, K3, a2, a3, P3, P3D⟩ := c_orA nd Wl E I kl hg hf2 cl' hl0 ql (by omega) hl ht
  have c3 := K3.2.1 _ _ c
  have ca3 : kd h3 a = 34 := c3.2.1
  have cr3 : tyC h3 N cl (UU us rest) r' (fR h3 1586 a) := c3.2.2.2.2.2.1
  have l3 := KV_len K3
  have st : ∀ p2 : Nat, gd (kd h a = 34 ∧ kd h pv = 6) (xc (C_5_orAlike G (C_5_workedD G f1) pv (fR h 1582 a) h) (fun t h => some (Sum.inl t, h)) (fun p3 h3 => gd (kd h3 a = 34) (if (fR h3 1586 a) ≠ 0 then gd (kd h3 a = 34 ∧ kd h3 pv = 6) (xc (C_5_orAlike G (C_5_workedD G f1) pv (fR h3 1586 a) h3) (fun t h => some (Sum.inl t, h)) (fun p4 h4 => C_5_worked_55 G (C_5_workedD G f1) pv p2 pv (om_cA G 12) a p3 p4 h4)) else C_5_worked_55 G (C_5_workedD G f1) pv p2 pv (om_cA G 12) a p3 0 h3))) = (if (fR h3 1586 a) ≠ 0 then gd (kd h3 a = 34 ∧ kd h3 pv = 6) (xc (C_5_orAlike G (C_5_workedD G f1) pv (fR h3 1586 a) h3) (fun t h => some (Sum.inl t, h)) (fun p4 h4 => C_5_worked_55 G (C_5_workedD G f1) pv p2 pv (om_cA G 12) a y3 p4 h4)) else C_5_worked_55 G (C_5_workedD G f1) pv p2 pv (om_cA G 12) a y3 0 h3) := fun p2 => by
    rw [gd_pos ⟨ca, E.2.1.1.1.1⟩, a1, xc_v, gd_pos ca3]
  have e55 : ∀ {h4 h5 : om_H} {p4 y5 u4 : Nat} (p2 : Nat), PvE G h4 N cl tb l0 sc us fs rest Sl io ab ins gv pv Lp u4 → C_5_proof G pv (om_cA G 12) a y3 p4 h4 = some (y5, h5) → C_5_worked_55 G (C_5_workedD G f1) pv p2 pv (om_cA G 12) a y3 p4 h4 = C_5_worked_59 G (C_5_workedD G f1) pv p2 y5 h5 := fun {h4 h5 p4 y5 u4} p2 E4 e => by
    unfold C_5_worked_55
    rw [gd_pos E4.2.1.1.1.1, e, Option.bind_some]
  by_cases hr : r' = .leaf
  · subst hr
    rw [if_pos (show lfB .leaf = true from rfl)] at hu ⊢
    have r0 : fR h3 1586 a = 0 := cr3
    obtain ⟨y5, h5, b1, E5, K5, b2, b3⟩ := c_prfP (p4 := 0) (L2 := []) nd E3 (by omega) (by omega) c3 (hdC_KV E K3 q.2.2.2.1) P3 (.inl ⟨rfl, rfl⟩) P3D (.inl ⟨rfl, rfl, hv0 rfl⟩) (QC_KV K3 qv)
    refine ⟨y5, h5, u3 + 1, E5, KV_trans E K3 K5, by omega, b2, b3, fun p2 => ?_⟩
    rw [st, if_neg (fun z => z r0)]
    exact e55 p2 E3 b1
  · have lr : ¬ lfB r' = true := fun z => by
      rcases r' with ⟨_, _, _, _, _⟩ | _
      · cases z
      · exact hr rfl
    rw [if_neg lr] at hu ⊢
    have r0 : fR h3 1586 a ≠ 0 := fun z => hr ((tyC_0 cr3).mp z)
    obtain ⟨y4, h4, u4, d1, E4, K4, d2, d3, P4, P4D⟩ := c_orA nd (Wr hr) E3 (InH_KV E K3 I) (knT_mono (fun X hX => QC_KV K3 hX) (kr hr)) hg hf2 cr3 hr (GTH_KV E K3 qr) (by omega) (by omega) ht
    have K34 := KV_trans E K3 K4
    have l4 := KV_len K34
    obtain ⟨y5, h5, b1, E5, K5, b2, b3⟩ := c_prfP (p4 := y4) nd E4 (by omega) (by omega) (K4.2.1 _ _ c3) (hdC_KV E K34 q.2.2.2.1) (PrC_KV E3 K4 P3) (.inr ⟨d3, _, P4, rfl⟩) (PrD_KV K4 P3D) (.inr ⟨d3, P4D⟩) (QC_KV K34 qv)
    refine ⟨y5, h5, u4 + 1, E5, KV_trans E K34 K5, by omega, b2, ?_, fun p2 => ?_⟩
    · have : wpB nm con fam (whyB nm con fam ins gv f2) (.inner k w x l r') = (if k = 3 then [] else hdB nm con fam k w) ++ 40 :: (whyB nm con fam ins gv f2 l).getD (altB nm con fam l) ++ ((if k = 3 then [45, 62] else [44]) ++ (whyB nm con fam ins gv f2 r').getD (altB nm con fam r')) ++ [41] := by
        show _ ++ 40 :: _ ++ (if lfB r' = true then [] else _) ++ [41] = _
        rw [if_neg lr]
      rw [this]
      exact b3
    · rw [st, if_pos r0, gd_pos ⟨ca3, E3.2.1.1.1.1⟩, d1, xc_v]
      exact e55 p2 E4 b1
set_option maxHeartbeats 1000000 in
/-- WHY A TYPE IS WHAT IT IS WORKED OUT TO -/
theorem c_prW (nd : ndN N) (hN : gvN gv) : ∀ (f : Nat), f ≤ 130 → ∀ (T uT : Ty) (f1 f2 : Nat), f ≤ f1 → f ≤ f2 → T ≠ .leaf → PWk G N cl tb l0 sc us fs rest Sl io ab ins gv nm con fam pv Lp f1 f2 f T uT := by
  intro f
  induction f using Nat.strongRecOn with
  | ind f ih =>
  intro hf T uT f1 f2 h1 h2 hT h u a B E I kn c q hu hl ht
  have f0 : 0 < f := by
    obtain ⟨D, bg, hw, _⟩ := kn
    cases f with
    | zero => cases hw (0, 0, [])
    | succ f => omega
  obtain ⟨f1', rfl⟩ : ∃ a, f1 = a + 1 := ⟨f1 - 1, by omega⟩
  obtain ⟨f2', rfl⟩ : ∃ a, f2 = a + 1 := ⟨f2 - 1, by omega⟩
  by_cases th : thB T = true
  rotate_left
  · have ei : innT ins gv T = T := by unfold innT; rw [if_neg th]
    have gn : gby ins gv T = none := by
      cases g : gby ins gv T with
      | none => rfl
      | some b => exact absurd (gby_th g) th
    have eu : uT = T := by
      obtain ⟨D0, bg0, hw0, _⟩ := kn
      have e0 := hw0 (0, 0, [])
      obtain ⟨f', ef⟩ : ∃ a, f = a + 1 := ⟨f - 1, by omega⟩
      rw [ef] at e0
      unfold wk at e0
      rw [if_neg th] at e0
      unfold fitO at e0
      split at e0
      · exact (Prod.mk.inj (Option.some.inj (Option.some.inj e0))).1.symm
      · cases Option.some.inj e0
    refine ⟨0, h, u, ?_, E, KV_refl, by omega, .inl ⟨?_, rfl⟩, .inl ⟨rfl, eu.symm⟩⟩
    · show C_5_workedB G (C_5_workedD G f1') pv a h = _
      unfold C_5_workedB C_5_nothing
      rw [gd_pos E.2.1.1.1.1, Option.bind_some, E.2.1.1.2.1, gd_pos E.1.2.1.1.1, c_innerN c hT th, xc_v, if_pos rfl]
      exact c_p59n nd hN E I c hT q ht gn
    · rw [whyB_s, ei, gn]
      show (if tyE T T = true then none else _) = none
      rw [if_pos (tyE_iff.mpr rfl)]
  obtain ⟨g, eg⟩ := knT_2 kn th
  subst eg
  obtain ⟨_, sp, s3, s4⟩ := knT_step (by omega) kn th
  obtain ⟨⟨gv1, gv2, gv3, gv4⟩, gv5⟩ := kn_step I (by omega) kn th q
  obtain ⟨y, h1', a1, a2, E1, K1⟩ := c_innK nd hN E I (by omega) kn th c hT q ht
  rw [nP_s] at hu ⊢
  rw [whyB_s]
  generalize ev : innT ins gv T = v at *
  have c1 := K1.2.1 _ _ c
  have l1 := KV_len K1
  -- what it goes to, behind the parts
  have fin : ∀ (l3 : Nat) (h3 : om_H) (u3 : Nat) (wp : Option (List Int)), PvE G h3 N cl tb l0 sc us fs rest Sl io ab ins gv pv Lp u3 → KV N cl tb l0 pv Lp rest us fs h1' u h3 u3 → u3 ≤ u + (if tyE v T = true then 0 else 1 + (nP ins gv f2' (tL T) + 1) + (if lfB (tR' T) = true then 0 else nP ins gv f2' (tR' T) + 1)) → POC G N cl (UU us rest) nm con fam Lp u3 h3 (dPf g + 1) l3 wp → POD G N cl (UU us rest) io ins gv Lp u3 h3 (dPf g + 1) l3 T v → wp = (if tyE v T = true then none else some (wpB nm con fam (whyB nm con fam ins gv f2') T)) → ∃ y' h4 u4, C_5_worked_59 G (C_5_workedD G f1') pv y l3 h3 = some (.inr y', h4) ∧ PvE G h4 N cl tb l0 sc us fs rest Sl io ab ins gv pv Lp u4 ∧ KV N cl tb l0 pv Lp rest us fs h u h4 u4 ∧ u4 ≤ u + ((if tyE v T = true then 0 else 1 + (nP ins gv f2' (tL T) + 1) + (if lfB (tR' T) = true then 0 else nP ins gv f2' (tR' T) + 1)) + (match gby ins gv v with
    | none => 0
    | some b => 3 + nP ins gv f2' (gto ins gv b (tL v)))) ∧ POC G N cl (UU us rest) nm con fam Lp u4 h4 (dPf (g + 2)) y' (match gby ins gv v with
    | none => if tyE v T = true then none else some (wpB nm con fam (whyB nm con fam ins gv f2') T)
    | some b => thnB (thnB (if tyE v T = true then none else some (wpB nm con fam (whyB nm con fam ins gv f2') T)) (some (goB nm con fam b v))) (whyB nm con fam ins gv f2' (gto ins gv b (tL v)))) ∧ POD G N cl (UU us rest) io ins gv Lp u4 h4 (dPf (g + 2)) y' T uT := by
    intro l3 h3 u3 wp E3 K3 hu3 P3 P3D ewp
    have K13 := KV_trans E K1 K3
    have l3' := KV_len K13
    rw [← ewp]
    generalize (if tyE v T = true then 0 else 1 + (nP ins gv f2' (tL T) + 1) + (if lfB (tR' T) = true then 0 else nP ins gv f2' (tR' T) + 1)) = pn at *
    cases gb : gby ins gv v with
    | none =>
      exact ⟨l3, h3, u3, c_p59n nd hN E3 (InH_KV E K13 I) (K3.2.1 _ _ a2) gv2 (GTH_KV E K13 gv1) ht gb, E3, K13, by show u3 ≤ u + (pn + 0); omega, POC_more (by unfold dPf; omega) P3, by rw [s3 gb]; exact POD_more (by unfold dPf; omega) P3D⟩
    | some b =>
      obtain ⟨qg, kg, z60⟩ := s4 b gb
      obtain ⟨q5, q6⟩ := gv5 b gb
      rw [gb] at hu
      have hu' : u + (pn + (3 + nP ins gv f2' (gto ins gv b (tL v)))) ≤ 9000 := hu
      obtain ⟨y', h4, u4, b1, E4, K4, b2, b3⟩ := c_p59s (K := 3 * (g + 2) / 2 + 1) nd hN E3 (InH_KV E K13 I) (K3.2.1 _ _ a2) gv2 (GTH_KV E K13 gv1) gv4 ht gb P3 P3D ⟨by unfold dPf; omega, by unfold dPf; omega, by unfold dPf; omega⟩ (QC_KV K13 qg) (knT_mono (fun X hX => QC_KV K13 hX) kg) z60 (GTH_KV E K13 q5) (ih (g + 1) (by omega) (by omega) _ uT f1' f2' (by omega) (by omega) q6) (by omega) (by omega)
      exact ⟨y', h4, u4, b1, E4, KV_trans E K13 K4, by show u4 ≤ u + (pn + (3 + nP ins gv f2' (gto ins gv b (tL v)))); omega, b3⟩
  have st : C_5_workedD G (f1' + 1) pv a h = (if y = a then C_5_worked_59 G (C_5_workedD G f1') pv y 0 h1' else gd (kd h1' a = 34 ∧ kd h1' pv = 6) (xc (C_5_orAlike G (C_5_workedD G f1') pv (fR h1' 1582 a) h1') (fun t h => some (Sum.inl t, h)) (fun p3 h3 => gd (kd h3 a = 34) (if (fR h3 1586 a) ≠ 0 then gd (kd h3 a = 34 ∧ kd h3 pv = 6) (xc (C_5_orAlike G (C_5_workedD G f1') pv (fR h3 1586 a) h3) (fun t h => some (Sum.inl t, h)) (fun p4 h4 => C_5_worked_55 G (C_5_workedD G f1') pv y pv (om_cA G 12) a p3 p4 h4)) else C_5_worked_55 G (C_5_workedD G f1') pv y pv (om_cA G 12) a p3 0 h3)))) := by
    show C_5_workedB G (C_5_workedD G f1') pv a h = _
    unfold C_5_workedB C_5_nothing
    rw [gd_pos E.2.1.1.1.1, Option.bind_some, E.2.1.1.2.1, gd_pos E.1.2.1.1.1, a1, xc_v]
  rw [st]
  by_cases e : y = a
  · have evT : v = T := tyC_fun nd a2 (by rw [e]; exact c1)
    rw [if_pos e]
    exact fin 0 h1' u none E1 KV_refl (by omega) (.inl ⟨rfl, rfl⟩) (.inl ⟨rfl, evT.symm⟩) (by rw [if_pos (tyE_iff.mpr evT)])
  · have nT : ¬ tyE v T = true := fun z => e (E1.1.1.2.2.1 _ _ _ (by rw [← tyE_iff.mp z]; exact a2) c1)
    rw [if_neg e]
    have spT := sp hT
    have hu0 : u + (1 + (nP ins gv f2' (tL T) + 1) + (if lfB (tR' T) = true then 0 else nP ins gv f2' (tR' T) + 1)) ≤ 9000 := by
      rw [if_neg nT] at hu
      omega
    rcases T with ⟨k, w, xx, l, r'⟩ | _
    rotate_left
    · exact absurd rfl hT
    have hl0 := th_l q.1 th
    have kl : knT ins gv (QC h1' N cl (UU us rest)) g l (tL v) := by
      rcases spT.1 with z | z
      · exact absurd z.1 hl0
      · exact knT_mono (fun X hX => QC_KV K1 hX) z
    have kr : r' ≠ .leaf → knT ins gv (QC h1' N cl (UU us rest)) g r' (tR' v) := fun hr => by
      rcases spT.2 with z | z
      · exact absurd z.1 hr
      · exact knT_mono (fun X hX => QC_KV K1 hX) z
    obtain ⟨l', r'', esh⟩ := innT_sh (ins := ins) (gv := gv) (k := k) (w := w) (x := xx) (l := l) (r := r')
    rw [ev] at esh
    have ev2 : v = .inner k w xx (tL v) (tR' v) := by rw [esh]; rfl
    obtain ⟨y5, h5, u5, E5, K5, b1, b2, ⟨b3, b3D⟩, b4⟩ := c_partsP (f1 := f1') (f2 := f2') nd E1 (InH_KV E K1 I) (by omega) (by omega) c1 hl0 (GTH_KV E K1 q) kl kr (ih g (by omega) (by omega) l _ f1' f2' (by omega) (by omega) hl0) (fun hr => ih g (by omega) (by omega) r' _ f1' f2' (by omega) (by omega) hr) hu0 (by omega) ht (by rw [← ev2]; exact ⟨y, a2⟩) (fun z => by
      rcases spT.2 with w1 | w1
      · exact w1.2
      · rw [show tR' (.inner k w xx l r') = .leaf from z] at w1
        exact knT_leaf w1)
    rw [b4]
    refine fin y5 h5 u5 (some (wpB nm con fam (whyB nm con fam ins gv f2') (.inner k w xx l r'))) E5 K5 (by rw [if_neg nT]; exact b1) (.inr ⟨_, rfl, b2, b3⟩) (.inr ⟨b2, by rw [ev2]; exact b3D⟩) (by rw [if_neg nT])
/-- WHY TWO TYPES ARE ONE -/
theorem c_oneP (nd : ndN N) (hN : gvN gv) {T U u0 : Ty} {a b m : Nat} (E : PvE G h N cl tb l0 sc us fs rest Sl io ab ins gv pv Lp u) (I : InH (hdC N cl nm con fam h) ins gv B) (hT : T ≠ .leaf) (hU : U ≠ .leaf) (c : tyC h N cl (UU us rest) T a) (c' : tyC h N cl (UU us rest) U b) (q : GTH ins (hdC N cl nm con fam h) T) (q' : GTH ins (hdC N cl nm con fam h) U) (dT : T = U → tdp T < 70) (kn : T ≠ U → knT ins gv (QC h N cl (UU us rest)) 130 T u0 ∧ knT ins gv (QC h N cl (UU us rest)) 130 U u0) (hm : 2 ≤ m) (hnp : T ≠ U → nP ins gv 130 T + nP ins gv 130 U + 2 ≤ m) (hu : u + m ≤ 9000) (hl : (ll h Lp).length ≤ 9000) (ht : tl us fs + 2700 ≤ 149000) : ∃ y h1 u1, C_5_one G pv a b h = some (.inr y, h1) ∧ PvE G h1 N cl tb l0 sc us fs rest Sl io ab ins gv pv Lp u1 ∧ KV N cl tb l0 pv Lp rest us fs h u h1 u1 ∧ u1 ≤ u + m ∧ y ≠ 0 ∧ PrC G N cl (UU us rest) nm con fam Lp u1 h1 199 y (oneB nm con fam ins gv T U) ∧ PrD G N cl (UU us rest) io ins gv Lp u1 h1 199 y T U := by
  unfold C_5_one oneB
  by_cases e : a = b
  · have eT : T = U := tyC_fun nd c (by rw [e]; exact c')
    rw [if_neg (fun z => z e), if_pos (tyE_iff.mpr eT), gd_pos E.2.1.1.1.1]
    obtain ⟨y, h1, c1, E1, K1, c2, ⟨c3, c4, c5⟩, ⟨c6, c7, c8, c9, c10⟩⟩ := PvE_prf (why := om_cA G 7) (t := a) (a := 0) (b := 0) nd E (by omega) (by omega)
    refine ⟨y, h1, u + 1, by rw [c1, Option.bind_some], E1, K1, by omega, c3, ⟨⟨u, by omega, c2⟩, c4, .inl ⟨c6, T, ⟨hT, q.1, dT eT⟩, tOc_KV E K1 q.2.2.2, by rw [c7]; exact K1.2.1 _ _ c, rfl⟩⟩, ⟨u, by omega, c2⟩, c4, ⟨⟨a, K1.2.1 _ _ c⟩, b, K1.2.1 _ _ c'⟩, .inl ⟨c6, eT, by rw [c7]; exact K1.2.1 _ _ c⟩⟩
  · have eT : T ≠ U := fun z => e (E.1.1.2.2.1 _ _ _ c (by rw [z]; exact c'))
    rw [if_pos e, if_neg (fun z => eT (tyE_iff.mp z)), gd_pos E.2.1.1.1.1]
    obtain ⟨k1, k2⟩ := kn eT
    have hnp := hnp eT
    obtain ⟨y1, h1, u1, a1, E1, K1, a2, P1, P1D⟩ := c_prW nd hN 130 (Nat.le_refl _) T u0 130 130 (Nat.le_refl _) (Nat.le_refl _) hT h u a B E I k1 c q (by omega) hl ht
    have l1 := KV_len K1
    obtain ⟨y2, h2, u2, b1, E2, K2, b2, P2, P2D⟩ := c_prW nd hN 130 (Nat.le_refl _) U u0 130 130 (Nat.le_refl _) (Nat.le_refl _) hU h1 u1 b B E1 (InH_KV E K1 I) (knT_mono (fun X hX => QC_KV K1 hX) k2) (K1.2.1 _ _ c') (GTH_KV E K1 q') (by omega) (by omega) ht
    have K12 := KV_trans E K1 K2
    have l2 := KV_len K12
    have w1 : C_5_worked G pv a h = some (.inr y1, h1) := a1
    have w2 : C_5_worked G pv b h1 = some (.inr y2, h2) := b1
    rw [w1, xc_v, gd_pos E1.2.1.1.1.1, w2, xc_v]
    have P1' := POC_KV E1 K2 P1
    have P1D' := POD_KV K2 P1D
    -- one of them is not what it is worked out to
    have nn : ¬ (whyB nm con fam ins gv 130 T = none ∧ whyB nm con fam ins gv 130 U = none) := fun z => eT (((why_none (Nat.le_refl _) (Nat.le_refl _) k1).mp z.1).symm.trans ((why_none (Nat.le_refl _) (Nat.le_refl _) k2).mp z.2))
    have d130 : dPf 130 = 197 := rfl
    rw [d130] at P1' P2 P1D' P2D
    rcases P2 with ⟨e2, e3⟩ | ⟨L2, e2, e3, e4⟩
    · rw [if_neg (fun z => z e3), e2]
      rcases P1' with ⟨f2, f3⟩ | ⟨L1, f2, f3, f4⟩
      · exact absurd ⟨f2, e2⟩ nn
      · refine ⟨y1, h2, u2, ?_, E2, K12, by omega, f3, ?_⟩
        · unfold C_5_one_51
          rw [gd_pos E2.2.1.1.1.1]
          unfold C_5_then
          rw [if_pos f3, if_neg (fun z => z rfl), Option.bind_some]
        · have eU : U = u0 := by
            rcases P2D with ⟨_, z⟩ | ⟨z, _⟩
            · exact z
            · exact absurd e3 z
          rw [f2, eU]
          refine ⟨PrC_more (by omega) f4, ?_⟩
          rcases P1D' with ⟨z, _⟩ | ⟨_, z⟩
          · exact absurd z f3
          · exact PrD_more (by omega) z
    · rw [if_pos e3, gd_pos E2.2.1.1.1.1, e2]
      obtain ⟨y3, h3, c1, E3, K3, c2, ⟨c3, c4, c5⟩, ⟨c6, c7, c8, c9, c10⟩⟩ := PvE_prf (why := om_cA G 10) (t := 0) (a := y2) (b := 0) nd E2 (by omega) (by omega)
      rw [c1, Option.bind_some]
      have K13 := KV_trans E K12 K3
      have l3 := KV_len K13
      have P3 : PrC G N cl (UU us rest) nm con fam Lp (u2 + 1) h3 198 y3 (126 :: L2) := ⟨⟨u2, by omega, c2⟩, c4, .inr (.inr (.inr (.inl ⟨c6, L2, by rw [c8]; exact PrC_KV E2 K3 e4, rfl⟩)))⟩
      have p2d : PrD G N cl (UU us rest) io ins gv Lp u2 h2 197 y2 U u0 := by
        rcases P2D with ⟨z, _⟩ | ⟨_, z⟩
        · exact absurd z e3
        · exact z
      have p2d1 := PrD_KV (u1 := u2 + 1) K3 p2d
      have P3D : PrD G N cl (UU us rest) io ins gv Lp (u2 + 1) h3 198 y3 u0 U := ⟨⟨u2, by omega, c2⟩, c4, ⟨(PrD_Q p2d1).2, (PrD_Q p2d1).1⟩, .inr (.inr (.inr (.inl ⟨c6, by rw [c8]; exact p2d1⟩)))⟩
      obtain ⟨y4, h4, u4, d1, E4, K4, d2, P4, P4D⟩ := c_thenP (k := 198) nd E3 (by omega) (by omega) (POC_more (by omega) (POC_KV E2 K3 P1')) (.inr ⟨_, rfl, c3, P3⟩) (POD_more (by omega) (POD_KV K3 P1D')) (.inr ⟨c3, P3D⟩)
      have : ∃ L4, thnB (whyB nm con fam ins gv 130 T) (some (126 :: L2)) = some L4 := by
        cases whyB nm con fam ins gv 130 T with
        | none => exact ⟨_, rfl⟩
        | some a => exact ⟨_, rfl⟩
      obtain ⟨L4, e4'⟩ := this
      show ∃ y h1 u1, C_5_one_51 G pv y1 y3 h3 = _ ∧ _
      have em : (some L2).map (fun a => 126 :: a) = some (126 :: L2) := rfl
      rw [em, e4']
      rw [e4'] at P4
      rcases P4 with ⟨z, _⟩ | ⟨L5, f2, f3, f4⟩
      · cases z
      · refine ⟨y4, h4, u4, ?_, E4, KV_trans E K13 K4, by omega, f3, ?_⟩
        · unfold C_5_one_51
          rw [gd_pos E3.2.1.1.1.1, d1, Option.bind_some]
        · rw [← Option.some.inj f2] at f4
          refine ⟨f4, ?_⟩
          rcases P4D with ⟨z, _⟩ | ⟨_, z⟩
          · exact absurd z f3
          · exact z
end LCW5
