set_option maxRecDepth 100000
/-! THE COMPONENT: a class is had for a type, as a whole -/
section LCI
variable {G : om_G} {N : List (List Int)} {cl : Nat → Nat} {tb l0 sc : Nat} {rest : List (Nat × List Nat)} {Sl Gx : Nat → Prop} {io : Nat → Nat} {ab : List (Option Nat)} {ins : List INs} {gv : List GVs} {B : Nat}
/-- what had does when the type is worked out -/
theorem c_hadU (nd : ndN N) (h8 : ab.length ≤ 8) (hC : insK ins) (hI20 : ins.length ≤ 20) {f : Nat} {r : Nat → Nat → Nat → Int → om_H → Option ((Nat ⊕ Nat) × om_H)} (Hr : HdC G N cl tb l0 sc rest Sl Gx io ab ins gv B f r) {s : WS} {c k w : Nat} {xu : Unit} {l t T : Ty} {z : Option (Bool × WS)} {h : om_H} {us fs : List Nat} {Dk : Nat → Prop} {ds : List Nat} {dm x y : Nat} (pl : Int) (e : (if k = 0 then some (some ((gCl ab gv c w).isSome, s)) else if k = 1 then (match iOf ins c w with
          | none => some (some (false, s))
          | some i => if 60 < s.1 + 1 ∨ 300 < s.2.1 + 1 then some none else match ins[i]? with
            | none => none
            | some d => hdL (hd ab ins gv f) (.inner k w xu l t) d.2.2.2.1 (s.1 + 1, s.2.1 + 1, s.2.2)) else some (some (false, s))) = some z) (H : HvC G h N cl tb l0 sc us fs rest Sl Gx io ab ins gv Dk ds dm s) (hc : clO h cl c) (cy : tyC h N cl (UU us rest) (.inner k w xu l t) y) (cx : tyC h N cl (UU us rest) T x) (wf : wfT (.inner k w xu l t)) (oku : okF ins (.inner k w xu l t)) (hzu : tsz (.inner k w xu l t) ≤ 60) (h60 : s.1 ≤ 60) (h300 : s.2.1 ≤ 300) (R1 : tl us fs + 81 * (60 - s.1) + B ≤ 149000) (R2 : ds.length ≤ 49000) (R3 : dm + 5 * (60 - s.1) + 1 ≤ 49000) : ∃ (v : Nat ⊕ Nat) (h' : om_H) (us' fs' : List Nat) (Dk' : Nat → Prop) (ds' : List Nat) (dm' : Nat), (gd (kd h y = 34) (if (fI h 1556 y) ≠ 0 then gd (kd h y = 34) (if (fI h 1556 y) ≠ 1 then C_8_had_50 G r l0 x y 0 h else gd (kd h l0 = 9) (xc (C_8_byInstance G r l0 (cl c) y pl h) (fun t h => some (.inl t, h)) (fun p2 h2 => C_8_had_50 G r l0 x y p2 h2))) else gd (kd h y = 34 ∧ kd h l0 = 9) ((C_8_byGiven G l0 (cl c) (fR h 1574 y) h).bind fun p3 => C_8_had_50 G r l0 x y p3.1 p3.2))) = some (v, h') ∧ (z = none → ∃ a, v = .inl a ∧ HdF G N cl tb l0 sc rest Sl Gx h us fs Dk ds dm pl a h' us' fs' Dk' ds' dm' (81 * (60 - s.1) + B) (5 * (60 - s.1) + 1)) ∧ ∀ b s', z = some (b, s') → HdS G N cl tb l0 sc rest Sl Gx io ab ins gv h us fs Dk ds dm s s' h' us' fs' Dk' ds' dm' 1 ∧ (b = false → v = .inr 0) ∧ (b = true → ∃ D x', dcU ab ins gv (dcT ab ins gv f) c T (.inner k w xu l t) = some D ∧ v = .inr x' ∧ DcX h' N cl (UU us' rest) (Dl3 Dk' ds' dm dm') io ab gv D [x']) := by
  obtain ⟨F, P, RW, Hg⟩ := id H
  obtain ⟨TT, ⟨⟨f1, f2, f3⟩, f4⟩, ⟨g1, g2, g3, hcl⟩, PG, V, k0, k1, k2⟩ := id F
  have kh0 : KH N cl tb l0 sc rest Sl Gx h us fs Dk ds dm h us fs Dk ds dm 0 0 0 := (HvC_KF (s' := s) H (KF_refl (q := 0) (z := 0) (u := 0)) TT).1
  have S0 : HdS G N cl tb l0 sc rest Sl Gx io ab ins gv h us fs Dk ds dm s s h us fs Dk ds dm 1 := ⟨H, ⟨Nat.le_refl _, h60, h300⟩, KH_le kh0 (by omega) (Nat.le_refl _) (Nat.le_refl _), by omega, [], by rw [List.append_nil], fun X hX => absurd hX List.not_mem_nil⟩
  have no : C_8_had_50 G r l0 x y 0 h = some (.inr 0, h) := by
    unfold C_8_had_50
    rw [if_pos rfl]
  have ek := cy.2.2.1
  rw [gd_pos cy.2.1, ek, dcU_inner]
  by_cases q0 : k = 0
  · rw [if_pos q0] at e ⊢
    rw [if_neg (fun z => z (by omega)), gd_pos ⟨cy.2.1, f1⟩]
    have wx : wN h N w (fR h 1574 y) := by
      rcases cy.2.2.2.1 with ⟨d1, d2, d3, d4, d5, L, d6, d7⟩ | d | d | d
      · exact ⟨d5, L, d6, d7⟩
      · omega
      · omega
      · omega
    obtain ⟨bg1, bg2⟩ := c_byGiven (G := G) (l0 := l0) nd PG V h8 ⟨f1, f4⟩ hc wx
    have ez : z = some ((gCl ab gv c w).isSome, s) := (Option.some.inj e).symm
    cases qg : gCl ab gv c w with
    | none =>
      rw [bg1 qg, Option.bind_some]
      refine ⟨.inr 0, h, us, fs, Dk, ds, dm, no, fun q => (by rw [ez] at q; cases q), fun b s' q => ?_⟩
      rw [ez, qg] at q
      injection Option.some.inj q with q1 q2
      subst q1 q2
      exact ⟨S0, fun _ => rfl, fun z => by cases z⟩
    | some j =>
      obtain ⟨g, gg1, gg2⟩ := ixF_some qg
      have gg3 : (g.1 < 100 ∧ g.2.1 = w) ∧ rchB ab 9 g.1 c = true := by simpa using gg2
      obtain ⟨xg, m, e1, em, e3⟩ := bg2 j g qg gg1
      obtain ⟨a, h1, Dk1, d1, T1, P1, R1', K1, ak, A, ⟨a38, a26, a14⟩, i1, i2, i3⟩ := c_gStep (G := G) (Gx := Gx) (l0 := l0) nd TT ⟨f1, f2⟩ P (fun a ha => (g3 a ha).2) PG V RW h8 e1 gg1 gg3.1.1 em (Hg xg (List.mem_of_getElem? e1))
      rw [e3, d1]
      simp only [Option.bind_some]
      obtain ⟨zz, uu, KG1, _⟩ := K1.1
      have H1 : HvC G h1 N cl tb l0 sc us fs rest Sl Gx io ab ins gv Dk1 ds dm s := ⟨FnC_nextG F KG1.1 KG1.2.2.2.2.2.2.2.2.1 T1 (KG1.2.2.2.2.2.2.2.1.1 227 (by decide) (by decide)) KG1.2.2.2.2.2.2.2.1.2 (KG1.2.2.2.2.2.2.1.2 122) (by rw [i1]; exact k0) (fun z => ⟨by rw [i2]; exact (k1 z).2.1, by rw [i3]; exact (k1 z).2.2⟩), P1, R1', fun x hx => by
        obtain ⟨es, el⟩ := GVC_ll V KG1.1
        rw [es, el] at hx
        exact Hg x hx⟩
      obtain ⟨d, h2, Dk2, ds2, dm2, c1, H2, K2, c3, c4⟩ := c_castG nd r H1 R2 gg1 A ⟨a38, a26⟩ (KG1.2.2.2.2.2.2.2.2.1 _ _ cy) (KG1.2.2.2.2.2.2.2.2.1 _ _ cx) (by intro z; cases z)
      refine ⟨.inr d, h2, us, fs, Dk2, ds2, dm2, c1, fun q => (by rw [ez] at q; cases q), fun b s' q => ?_⟩
      rw [ez, qg] at q
      injection Option.some.inj q with q1 q2
      subst q1 q2
      refine ⟨⟨H2, ⟨Nat.le_refl _, h60, h300⟩, KH_le (KH_trans K1 K2) (by omega) (by omega) (by omega), by omega, [], by rw [List.append_nil], fun X hX => absurd hX List.not_mem_nil⟩, fun z => (by cases z), fun _ => ⟨_, d, ?_, rfl, c4⟩⟩
      rw [gg1, Option.bind_some, em]
      rfl
  · rw [if_neg q0] at e ⊢
    rw [if_pos (by omega), gd_pos cy.2.1]
    by_cases q1 : k = 1
    · subst q1
      rw [if_pos rfl] at e ⊢
      rw [if_neg (fun z => z rfl), gd_pos f1]
      obtain ⟨v, h1, us1, fs1, Dk1, ds1, dm1, v1, v2, v3⟩ := c_byInst nd hI20 Hr hC wf oku hzu pl e H hc cy h60 h300 R1 R2 R3
      rw [v1]
      cases z with
      | none =>
        obtain ⟨a, ea, Fl⟩ := v2 rfl
        subst ea
        exact ⟨.inl a, h1, us1, fs1, Dk1, ds1, dm1, rfl, fun _ => ⟨a, rfl, Fl⟩, fun b s' q => by cases q⟩
      | some pb =>
      obtain ⟨b, s'⟩ := pb
      obtain ⟨S1, w1, w2⟩ := v3 b s' rfl
      cases b with
      | false =>
        have ev := w1 rfl
        subst ev
        rw [xc_v]
        refine ⟨.inr 0, h1, us1, fs1, Dk1, ds1, dm1, by unfold C_8_had_50; rw [if_pos rfl], fun q => (by cases q), fun b s'' q => ?_⟩
        injection Option.some.inj q with q1 q2
        subst q1 q2
        obtain ⟨t1, t2, t3, t4, t5⟩ := S1
        exact ⟨⟨t1, t2, t3, by omega, t5⟩, fun _ => rfl, fun z => by cases z⟩
      | true =>
        obtain ⟨i, dd, d, as, hA, DkA, dsA, ei, ed, ev, KA, O, cyF, L, Y, A1, A2, A3⟩ := w2 rfl
        subst ev
        rw [xc_v]
        have io0 : io i ≠ 0 := (PG.2.2 i dd ed).2.1.1
        obtain ⟨zz, uu, KGS, _⟩ := S1.2.2.1.1
        obtain ⟨h2, c1, H2, K2, t2, c4⟩ := c_castI nd r O io0 cyF (KGS.2.2.2.2.2.2.2.2.1 _ _ cx) L Y A2
        refine ⟨.inr d, h2, us1, fs1, Dk1, ds1, dm1, c1, fun q => (by cases q), fun b s'' q => ?_⟩
        injection Option.some.inj q with q1 q2
        subst q1 q2
        obtain ⟨t1, t2', t3, t4, D, t5, t6⟩ := S1
        refine ⟨⟨H2, t2', KH_le (KH_trans KA K2) (by omega) (by omega) (by omega), by omega, D, t5, fun X hX => by obtain ⟨y', hy'⟩ := t6 X hX; exact ⟨y', t2 _ _ hy'⟩⟩, fun z => (by cases z), fun _ => ⟨_, d, ?_, rfl, c4⟩⟩
        rw [ei, Option.bind_some, ed, Option.bind_some, dcL_ch (bs := as) A1.symm (fun k p b e1 e2 => A3 k p b e1 e2)]
        rfl
    · rw [if_neg q1] at e
      rw [if_neg q1, if_pos (by omega), no]
      have ez : z = some (false, s) := (Option.some.inj e).symm
      refine ⟨.inr 0, h, us, fs, Dk, ds, dm, rfl, fun q => (by rw [ez] at q; cases q), fun b s' q => ?_⟩
      rw [ez] at q
      injection Option.some.inj q with q1 q2
      subst q1 q2
      exact ⟨S0, fun _ => rfl, fun z => by cases z⟩
/-- A CLASS IS HAD, OR NOT -/
theorem c_had (nd : ndN N) (h8 : ab.length ≤ 8) (hC : insK ins) (hI20 : ins.length ≤ 20) (hN : ∀ d ∈ ins, d.2.2.1.length = pN d.2.1) (hB : B ≤ 2700) (hI : insF ins B) (hG : gvF' ins gv) (hGN : gvN gv) : ∀ f : Nat, HdC G N cl tb l0 sc rest Sl Gx io ab ins gv B f (C_8_hadD G f)
  | 0 => fun s c T z h us fs Dk ds dm x pl e => by cases e
  | f + 1 => fun s c T z h us fs Dk ds dm x pl e H hc cx hT wf ok hz h60 h300 R1 R2 R3 => by
    obtain ⟨F, P, RW, Hg⟩ := id H
    unfold hd at e
    cases q1 : wk 2 ins gv 130 false 0 s T with
    | none => rw [q1] at e; cases e
    | some a =>
    rw [q1, Option.bind_some] at e
    have k9 := FnC_kd F
    obtain ⟨v1, h1, us1, fs1, g1, o1, o2⟩ := c_worked2 nd hB hI hG hGN pl q1 F cx hT wf ok hz h60 h300 R1
    show ∃ (v : Nat ⊕ Nat) (h' : om_H) (us' fs' : List Nat) (Dk' : Nat → Prop) (ds' : List Nat) (dm' : Nat), C_8_hadB G (C_8_hadD G f) l0 (cl c) x pl h = some (v, h') ∧ _
    unfold C_8_hadB
    rw [gd_pos k9.1, g1]
    cases a with
    | none =>
      have ez : z = none := (Option.some.inj e).symm
      obtain ⟨a, ea, c1, c2, c3, c4⟩ := o1 rfl
      subst ea
      refine ⟨.inl a, h1, us1, fs1, Dk, ds, dm, rfl, fun _ => ⟨a, rfl, c1, c3, PoolC_KF F.1 k9.1 c4 P, (HvC_KF (s' := s) H c4 c1).1, by omega⟩, fun b s' q => by rw [ez] at q; cases q⟩
    | some p =>
    obtain ⟨u, s1⟩ := p
    obtain ⟨y, ey, S⟩ := o2 u s1 rfl
    subst ey
    rw [xc_v]
    have K1 : KF N cl tb l0 rest h us fs h1 us1 fs1 (80 * (s1.1 - s.1)) 0 0 := (S.2.2.2.1 rfl).2.2
    obtain ⟨KH1, HH⟩ := HvC_KF (s' := s1) H K1 S.1
    have H1 := HH S.2.2.1 (S.2.2.2.1 rfl).1.1 (S.2.2.2.1 rfl).1.2
    obtain ⟨D1, d1, x1, w0⟩ := wk_st q1
    have s1e : s1.1 = s.1 + d1 := by rw [x1.1]
    have s60 : s1.1 ≤ 60 := by rw [s1e]; exact x1.2.2 rfl h60
    have s300 := (S.2.2.2.1 rfl).2.1
    have y5 : s1.2.2 = s.2.2 ++ D1 := by rw [x1.1]
    obtain ⟨⟨wu, nu, oku⟩, zu⟩ := wk_tsz hB hI hG (by omega) hN hz wf hT ok q1
    rw [if_neg (by decide)] at zu
    have lens := K1.2.2.2.1
    have SS : HdS G N cl tb l0 sc rest Sl Gx io ab ins gv h us fs Dk ds dm s s1 h1 us1 fs1 Dk ds dm 0 := ⟨H1, ⟨by omega, s60, s300⟩, KH1, by omega, D1, y5, S.2.2.2.2.1 D1 y5⟩
    have w0' := w0 0 0 (0, 0, []) (by decide) (by decide) (by decide)
    have ed : dcT ab ins gv (f + 1) c T = dcU ab ins gv (dcT ab ins gv f) c T u := by
      show (wk 0 ins gv 130 false 0 (0, 0, []) T).bind _ = _
      rw [w0']
      rfl
    rw [ed]
    rcases u with ⟨k, w, xu, l, t⟩ | _
    rotate_left
    · exact absurd rfl nu
    simp only at e
    have hc1 : clO h1 cl c := clO_hS KH1.1.choose_spec.choose_spec.1.1 hc
    obtain ⟨v, h2, us2, fs2, Dk2, ds2, dm2, r1, r2, r3⟩ := c_hadU nd h8 hC hI20 (c_had nd h8 hC hI20 hN hB hI hG hGN f) (x := x) (T := T) pl e H1 hc1 S.2.1 (K1.2.2.2.2.2.2.1 _ _ cx) wu oku zu s60 s300 (by omega) R2 (by omega)
    refine ⟨v, h2, us2, fs2, Dk2, ds2, dm2, r1, fun q => ?_, fun b s' q => ?_⟩
    · obtain ⟨a, ea, Fl⟩ := r2 q
      obtain ⟨t1, t2, t3, t4, t5⟩ := HdF_trans SS Fl
      exact ⟨a, ea, t1, t2, t3, t4, by omega⟩
    · obtain ⟨S2, w1, w2⟩ := r3 b s' q
      obtain ⟨t1, t2, t3, t4, t5⟩ := HdS_trans SS S2
      exact ⟨⟨t1, t2, t3, by omega, t5⟩, w1, w2⟩
end LCI
