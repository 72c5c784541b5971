set_option maxRecDepth 100000
/-! THE COMPONENT works out a type: going on, and all of it -/
noncomputable def GoB (G : om_G) (r : Nat → Nat → Int → om_H → Option ((Nat ⊕ Nat) × om_H)) (l0 : Nat) (pl : Int) (x : Nat) (h : om_H) : Option ((Nat × om_H) ⊕ ((Nat ⊕ Nat) × om_H)) := gd (kd h l0 = 9) (xc (C_8_inner G r l0 x pl h) (fun t h => some (.inr (.inl t, h))) (fun p1 h1 => gd (kd h1 l0 = 9) (xc (C_8_goes G l0 p1 pl h1) (fun t h => some (.inr (.inl t, h))) (fun p2 h2 => om_loop (C_8_worked_65s G r l0 pl) (p1, p2, h2)))))
/-- going on -/
def CkT (G : om_G) (N : List (List Int)) (cl : Nat → Nat) (tb l0 sc : Nat) (rest : List (Nat × List Nat)) (Sl : Nat → Prop) (io : Nat → Nat) (ab : List (Option Nat)) (ins : List INs) (gv : List GVs) (c B f bg : Nat) (r : Nat → Nat → Int → om_H → Option ((Nat ⊕ Nat) × om_H)) : Prop := ∀ (s : WS) (T : Ty) (z : Option (Ty × WS)) (h : om_H) (us fs : List Nat) (x : Nat) (pl : Int), wk c ins gv f true bg s T = some z → FnC G h N cl tb l0 sc us fs rest Sl io ab ins gv c bg s → tyC h N cl (UU us rest) T x → T ≠ .leaf → wfT T → okF ins T → tsz T ≤ 1000000 → s.1 ≤ 60 → s.2.1 ≤ 300 → CkR N cl rest c B h us fs s z → ∃ ev us' fs', GoB G r l0 pl x h = some ev ∧ (z = none → (∃ a h', ev = .inr (.inl a, h') ∧ CkF G N cl tb l0 rest c B h us fs s pl a h' us' fs') ∨ (∃ y h' X, ev = .inl (y, h') ∧ TB G h' N cl tb us' fs' rest ∧ tyC h' N cl (UU us' rest) X y ∧ X ≠ .leaf ∧ ¬ tszW X ≤ 60 ∧ c = 2 ∧ KF N cl tb l0 rest h us fs h' us' fs' (81 * (60 - s.1) + B) 0 0)) ∧ ∀ u s', z = some (u, s') → ∃ y h', ev = .inl (y, h') ∧ CkS G N cl tb l0 rest c (60 + (20 - bg) + 1) bg h us fs s u s' y h' us' fs'
section LCX
variable {G : om_G} {N : List (List Int)} {cl : Nat → Nat} {tb l0 sc : Nat} {rest : List (Nat × List Nat)} {Sl : Nat → Prop} {io : Nat → Nat} {ab : List (Option Nat)} {ins : List INs} {gv : List GVs} {c B f bg Cb : Nat} {r : Nat → Nat → Int → om_H → Option ((Nat ⊕ Nat) × om_H)}
theorem xc_id2 (x : Option ((Nat ⊕ Nat) × om_H)) : xc x (fun t h => some ((Sum.inl t : Nat ⊕ Nat), h)) (fun p h => some ((Sum.inr p : Nat ⊕ Nat), h)) = x := by
  rcases x with _ | ⟨t | v, h⟩ <;> rfl
theorem go_end {pl : Int} {p : Nat} {h : om_H} : om_loop (C_8_worked_65s G r l0 pl) (p, 0, h) = some (.inl (p, h)) := om_loop_out (by unfold C_8_worked_65s; rw [if_pos rfl])
theorem go_in {pl : Int} {p n : Nat} {h : om_H} (hn : n ≠ 0) : om_loop (C_8_worked_65s G r l0 pl) (p, n, h) = GoB G r l0 pl n h := by
  rw [om_loop_eq]
  show (C_8_worked_65s G r l0 pl (p, n, h)).bind _ = _
  unfold C_8_worked_65s GoB
  simp only
  rw [if_neg hn, gd_bind, xc_bind]
  congr 1
  rcases C_8_inner G r l0 n pl h with _ | ⟨t | p1, h1⟩
  · rfl
  · rfl
  · rw [xc_v, xc_v, gd_bind, xc_bind]
    congr 1
theorem go_40 {x : Nat} {pl : Int} {h : om_H} : C_8_worked_40 G r l0 x pl h = (GoB G r l0 pl x (sI h 220 l0 (w32 ((fI h 220 l0) + 1)))).bind (Sum.elim (fun v3 => gd (kd v3.2 l0 = 9) (xc (C_8_fit G v3.1 pl (sI v3.2 220 l0 (w32 ((fI v3.2 220 l0) - 1)))) (fun t h => some (.inl t, h)) (fun p4 h4 => some (.inr p4, h4)))) (fun v4 => some v4)) := by
  unfold C_8_worked_40 GoB
  rw [gd_bind, xc_bind]
  show gd (kd h l0 = 9) _ = gd (kd h l0 = 9) _
  congr 1
  rcases C_8_inner G r l0 x pl (sI h 220 l0 (w32 ((fI h 220 l0) + 1))) with _ | ⟨t | p1, h1⟩
  · rfl
  · rfl
  · rw [xc_v, xc_v, gd_bind, xc_bind]
    congr 1
theorem ck_F {n : Nat} (nd : ndN N) (hb : c = 2 → bg ≤ 20) (hbf : bg ≤ 100000) (hc : c = 0 ∨ c = 2) (hB : B ≤ 2700) (hI : insF ins B) (hG : gvF' ins gv) (IH : (c = 2 → bg < 20) → CkT G N cl tb l0 sc rest Sl io ab ins gv c B f (bg + 1) (C_8_workedD G n)) : CkH G N cl tb l0 sc rest Sl io ab ins gv c B (f + 1) bg (60 + (20 - bg)) (C_8_workedD G (n + 1)) := by
  intro s T z h us fs x pl e F cx hT wf ok hZ h60 h300 R
  rcases T with ⟨k, w, xu, l, rr⟩ | _
  rotate_left
  · exact absurd rfl hT
  obtain ⟨c0, c1, c2, c3, c4, c5, c6, c7, c8⟩ := id cx
  have c7' : fI h 1591 x = thI (.inner k w xu l rr) := c7
  have k9 := FnC_kd F
  obtain ⟨T0, ⟨⟨f1, f2, f3⟩, f4⟩, _, P, V, g1, g2, g3⟩ := id F
  have t3 := (TB_3 T0).1
  generalize eT : (Std.DTreeMap.Internal.Impl.inner k w xu l rr : Ty) = T at *
  have znz : c = 0 → z ≠ none := fun h1 q => by
    obtain ⟨_, u, D, ez, _⟩ := R.2 h1
    rw [q] at ez; cases ez
  show ∃ v h' us' fs', C_8_workedB G (C_8_workedD G n) l0 x pl h = some (v, h') ∧ _
  unfold C_8_workedB
  rw [gd_pos c1, c7']
  unfold wk at e
  by_cases hF : thB T = true
  · rw [if_pos hF] at e
    unfold thI
    rw [if_pos hF, if_pos (by decide), gd_pos k9.1]
    by_cases hov : 1 ≤ c ∧ 20 ≤ bg
    · rw [if_pos hov] at e
      have ez : z = none := (Option.some.inj e).symm
      have c2' : c = 2 := by omega
      have := hb c2'
      rw [if_neg (g2 c2').1, gd_pos k9.1, g1, if_neg (fun q => q (by omega))]
      obtain ⟨h2, m1, m2, m3, m4, m5, m6, m7⟩ := c_fault T0 nd k9 7 pl
      refine ⟨.inl (hz h), h2, us, fs, ?_, fun _ => ⟨hz h, rfl, m5, c2', m4, KF_le m6 (by omega) (by omega) (by omega)⟩, fun u s' q => by rw [ez] at q; cases q⟩
      rw [gd_pos m2, m1, Option.bind_some, gd_pos m3]
    · rw [if_neg hov] at e
      have st : (if fI h 227 l0 = 0 then C_8_worked_40 G (C_8_workedD G n) l0 x pl h else gd (kd h l0 = 9) (if fI h 220 l0 ≠ 20 then C_8_worked_40 G (C_8_workedD G n) l0 x pl h else gd (kd (nO h 16 8) (hz h) = 16) ((C_15_init G (hz h) 7 pl (nO h 16 8)).bind fun p1 => gd (hz h ≠ 0) (some (Sum.inl (hz h), p1))))) = C_8_worked_40 G (C_8_workedD G n) l0 x pl h := by
        rcases hc with h0 | h2
        · rw [if_pos (g3 h0)]
        · rw [if_neg (g2 h2).1, gd_pos k9.1, g1, if_pos (by omega)]
      rw [st, go_40, g1]
      have e220 : w32 ((bg : Int) + 1) = ((bg + 1 : Nat) : Int) := by rw [w32_s (by omega) (by omega)]; rfl
      rw [e220]
      cases q : wk c ins gv f true (bg + 1) s T with
      | none => rw [q] at e; cases e
      | some z1 =>
      rw [q] at e
      have ez : z = z1.bind (fun p => fitO p.1 p.2) := (Option.some.inj e).symm
      have K0 : KF N cl tb l0 rest h us fs (sI h 220 l0 ((bg + 1 : Nat) : Int)) us fs 0 0 0 := KF_sI f1 t3 (.inr rfl)
      have T1 : TB G (sI h 220 l0 ((bg + 1 : Nat) : Int)) N cl tb us fs rest := TB_sI (by decide) T0
      have nt : tb ≠ l0 := fun z => by rw [z, f1] at t3; omega
      have F0 : FnC G (sI h 220 l0 ((bg + 1 : Nat) : Int)) N cl tb l0 sc us fs rest Sl io ab ins gv c (bg + 1) s := FnC_next F K0 T1 fI_eq (fun h2 => ⟨by rw [fI_ne (by decide)]; exact (g2 h2).2.1, by rw [fI_na nt]; exact (g2 h2).2.2⟩)
      have R0 : CkR N cl rest c B (sI h 220 l0 ((bg + 1 : Nat) : Int)) us fs s z1 := by
        refine ⟨R.1, fun h1 => ⟨(R.2 h1).1, ?_⟩⟩
        obtain ⟨_, u, D, ez', hD⟩ := R.2 h1
        rw [ez] at ez'
        cases z1 with
        | none => cases ez'
        | some p =>
          have ez2 : fitO p.1 p.2 = some (u, s.1, s.2.1, s.2.2 ++ D) := ez'
          unfold fitO at ez2
          split at ez2
          · injection Option.some.inj ez2 with y1 y2
            exact ⟨p.1, D, by rw [← y2], fun X hX => by obtain ⟨tX, h⟩ := hD X hX; exact ⟨tX, K0.2.2.2.2.2.2.1 _ _ h⟩⟩
          · cases ez2
      obtain ⟨ev, us1, fs1, e1, O1, O2⟩ := IH (fun h2 => by have := hb h2; omega) s T z1 _ us fs x pl q F0 (K0.2.2.2.2.2.2.1 _ _ cx) hT wf ok hZ h60 h300 R0
      rw [e1, Option.bind_some]
      -- the end: begun is as before, and what came may be too big
      have fin : ∀ (h1 : om_H) (y : Nat) (X : Ty) (qq zz uu : Nat), TB G h1 N cl tb us1 fs1 rest → tyC h1 N cl (UU us1 rest) X y → X ≠ .leaf → KF N cl tb l0 rest (sI h 220 l0 ((bg + 1 : Nat) : Int)) us fs h1 us1 fs1 qq zz uu → (TB G (sI h1 220 l0 (w32 (fI h1 220 l0 - 1))) N cl tb us1 fs1 rest ∧ KF N cl tb l0 rest h us fs (sI h1 220 l0 (w32 (fI h1 220 l0 - 1))) us1 fs1 qq zz uu ∧ kd h1 l0 = 9) ∧ (tszW X ≤ 60 → C_8_fit G y pl (sI h1 220 l0 (w32 (fI h1 220 l0 - 1))) = some (.inr y, sI h1 220 l0 (w32 (fI h1 220 l0 - 1)))) ∧ (¬ tszW X ≤ 60 → ∃ a h2, C_8_fit G y pl (sI h1 220 l0 (w32 (fI h1 220 l0 - 1))) = some (.inl a, h2) ∧ flt h2 a 7 pl ∧ TB G h2 N cl tb us1 fs1 rest ∧ KF N cl tb l0 rest h us fs h2 us1 fs1 qq (zz + 1) (uu + 8)) := fun h1 y X qq zz uu t1 cX hX K1 => by
        have k91 : kd h1 l0 = 9 ∧ l0 < hz h1 := ⟨by rw [K1.1.2.2.1 l0 f2]; exact f1, Nat.lt_of_lt_of_le f2 K1.1.1⟩
        have t31 := (TB_3 t1).1
        have T2 : TB G (sI h1 220 l0 (w32 (fI h1 220 l0 - 1))) N cl tb us1 fs1 rest := TB_sI (by decide) t1
        have K2 : KF N cl tb l0 rest h us fs (sI h1 220 l0 (w32 (fI h1 220 l0 - 1))) us1 fs1 qq zz uu := KF_le (KF_trans K0 (KF_trans K1 (KF_sI k91.1 t31 (.inr rfl)))) (by omega) (by omega) (by omega)
        obtain ⟨w1, w2⟩ := c_fit (h := sI h1 220 l0 (w32 (fI h1 220 l0 - 1))) nd T2 k91 ((tyC_sI (by decide)).mpr cX) hX pl
        refine ⟨⟨T2, K2, k91.1⟩, fun hs => w1 hs, fun hs => ?_⟩
        obtain ⟨a, h3, r1, r2, r3, r4⟩ := w2 hs
        exact ⟨a, h3, r1, r2, r3, KF_le (KF_trans K2 r4) (by omega) (by omega) (by omega)⟩
      cases z1 with
      | none =>
        have ez2 : z = none := ez
        rcases O1 rfl with ⟨a, h1, ea, b1, b2, b3, b4⟩ | ⟨y, h1, X, ea, b1, b2, b3, b4, b5, b6⟩
        · subst ea
          exact ⟨.inl a, h1, us1, fs1, rfl, fun _ => ⟨a, rfl, b1, b2, b3, KF_le (KF_trans K0 b4) (by omega) (by omega) (by omega)⟩, fun u s' y => by rw [ez2] at y; cases y⟩
        · subst ea
          obtain ⟨⟨_, _, kk⟩, _, w2⟩ := fin h1 y X _ _ _ b1 b2 b3 b6
          obtain ⟨a, h2, r1, r2, r3, r4⟩ := w2 b4
          refine ⟨.inl a, h2, us1, fs1, ?_, fun _ => ⟨a, rfl, r3, b5, r2, r4⟩, fun u s' y => by rw [ez2] at y; cases y⟩
          show gd (kd h1 l0 = 9) _ = _
          rw [gd_pos kk, xc_id2]
          exact r1
      | some p =>
        obtain ⟨v, s1⟩ := p
        obtain ⟨y, h1, ea, S1⟩ := O2 v s1 rfl
        subst ea
        have K1 := CkS_KF hc S1
        obtain ⟨o1, o2, o3, o4, o5, o6⟩ := id S1
        obtain ⟨D, d, x1, _⟩ := wk_st q
        have s1e : s1.1 = s.1 + d := by rw [x1.1]
        have s60 : s1.1 ≤ 60 := by
          by_cases h2 : c = 2
          · rw [s1e]; exact x1.2.2 h2 h60
          · rw [s1e, x1.2.1 h2]; omega
        have hv : v ≠ .leaf := (wk_tsz hB hI hG (by have := P.2.1; omega) (fun d hd => by
          obtain ⟨i, hi⟩ := List.getElem?_of_mem hd
          exact (P.2.2 i d hi).1) hZ wf hT ok q).1.2.1
        obtain ⟨⟨t2, k2, kk⟩, w1, w2⟩ := fin h1 y v _ _ _ o1 o2 hv K1
        have e220' : w32 (fI h1 220 l0 - 1) = (bg : Int) := by rw [o3, w32_s (by omega) (by omega)]; omega
        show ∃ v' h' us' fs', gd (kd h1 l0 = 9) _ = _ ∧ _
        rw [gd_pos kk, xc_id2]
        have ez2 : z = fitO v s1 := ez
        unfold fitO at ez2
        by_cases hs : tszW v ≤ 60
        · rw [if_pos hs] at ez2
          refine ⟨.inr y, _, us1, fs1, w1 hs, fun q => (by rw [ez2] at q; cases q), fun u s' q => ⟨y, rfl, ?_⟩⟩
          rw [ez2] at q
          injection Option.some.inj q with q1 q2
          subst q1 q2
          have nt1 : tb ≠ l0 := nt
          refine ⟨t2, (tyC_sI (by decide)).mpr o2, by rw [fI_eq, e220'], fun h2 => ⟨⟨by rw [fI_ne (by decide)]; exact (o4 h2).1.1, by rw [fI_na nt1]; exact (o4 h2).1.2⟩, (o4 h2).2.1, ?_⟩, fun D hD X hX => by obtain ⟨tX, h⟩ := o5 D hD X hX; exact ⟨tX, (tyC_sI (by decide)).mpr h⟩, fun h0 => ⟨(o6 h0).1, (o6 h0).2.1, ?_⟩⟩
          · rw [if_pos h2] at k2
            have b20 : bg < 20 := by have := hb h2; omega
            rw [show 60 + (20 - (bg + 1)) + 1 = 60 + (20 - bg) by omega] at k2
            exact k2
          · rw [if_neg (by omega)] at k2
            exact k2
        · rw [if_neg hs] at ez2
          have c2' : c = 2 := by
            rcases hc with h0 | h2
            · exact absurd ez2 (znz h0)
            · exact h2
          obtain ⟨a, h2, r1, r2, r3, r4⟩ := w2 hs
          refine ⟨.inl a, h2, us1, fs1, r1, fun _ => ⟨a, rfl, r3, c2', r2, KF_le r4 ?_ (by omega) (by omega)⟩, fun u s' y => by rw [ez2] at y; cases y⟩
          rw [if_pos c2']
          have h81 : (60 + (20 - (bg + 1)) + 1) * (s1.1 - s.1) ≤ 81 * (s1.1 - s.1) := Nat.mul_le_mul_right _ (by omega)
          have : 81 * (s1.1 - s.1) ≤ 81 * (60 - s.1) := Nat.mul_le_mul_left _ (by omega)
          omega
  · rw [if_neg hF] at e
    have ez : z = fitO T s := (Option.some.inj e).symm
    unfold thI
    rw [if_neg hF, if_neg (fun q => q rfl)]
    obtain ⟨w1, w2⟩ := c_fit nd T0 k9 cx hT pl
    unfold fitO at ez
    by_cases hs : tszW T ≤ 60
    · rw [if_pos hs] at ez
      refine ⟨.inr x, h, us, fs, by rw [w1 hs]; rfl, fun q => (by rw [ez] at q; cases q), fun u s' q => ⟨x, rfl, ?_⟩⟩
      rw [ez] at q
      injection Option.some.inj q with q1 q2
      subst q1 q2
      refine ⟨T0, cx, g1, fun q => ⟨(g2 q).2, h300, KF_refl⟩, fun D hD X hX => ?_, fun _ => ⟨rfl, rfl, KF_refl⟩⟩
      have : D = [] := by simpa using hD
      rw [this] at hX
      exact absurd hX List.not_mem_nil
    · rw [if_neg hs] at ez
      have c2' : c = 2 := by
        rcases hc with h0 | h2
        · exact absurd ez (znz h0)
        · exact h2
      obtain ⟨a, h2, r1, r2, r3, r4⟩ := w2 hs
      exact ⟨.inl a, h2, us, fs, by rw [r1]; rfl, fun _ => ⟨a, rfl, r3, c2', r2, KF_le r4 (by omega) (by omega) (by omega)⟩, fun u s' y => by rw [ez] at y; cases y⟩
end LCX
