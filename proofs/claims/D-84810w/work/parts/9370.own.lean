set_option maxRecDepth 100000
/-! WRITING INTO A DICTIONARY OF ONE'S OWN -/
section LOW
variable {G : om_G} {h h0 h1 h2 : om_H} {N : List (List Int)} {cl : Nat → Nat} {tb l0 sc : Nat} {us fs us0 fs0 us1 fs1 : List Nat} {rest : List (Nat × List Nat)} {Sl Gx : Nat → Prop} {io : Nat → Nat} {ab : List (Option Nat)} {ins : List INs} {gv : List GVs} {Dk Dk0 Dk1 : Nat → Prop} {ds ds0 ds1 : List Nat} {dm dm0 dm1 d : Nat} {s : WS} {q z u : Nat}
/-- what is a dictionary's own -/
abbrev oD (h : om_H) (d y : Nat) : Prop := y = d ∨ (y ≠ 0 ∧ (y = fR h 1630 d ∨ y = fR h 1634 d))
theorem oD_kd (P : PoolC G h tb Sl Dk ds dm) (hd : Dk d) {y : Nat} (w : oD h d y) : y < hz h ∧ (kd h y = 36 ∨ (kd h y = 42 ∧ y ≠ fR h 138 tb ∧ y ≠ fR h 122 tb ∧ ¬ Sl y)) := by
  obtain ⟨⟨y0, y1, y2⟩, y3, y4⟩ := P.2.2.2.2.2.1 d hd
  rcases w with w | ⟨n, w | w⟩
  · rw [w]; exact ⟨y1, .inl y2⟩
  · rw [w] at n ⊢
    have l := y3.resolve_left n
    exact ⟨l.1.1, .inr ⟨l.1.2, l.2.2.2.1, l.2.2.2.2, l.2.2.1⟩⟩
  · rw [w] at n ⊢
    have l := y4.resolve_left n
    exact ⟨l.1.1, .inr ⟨l.1.2, l.2.2.2.1, l.2.2.2.2, l.2.2.1⟩⟩
/-- the pool, when a dictionary and its lists are written -/
theorem PoolC_own (P : PoolC G h tb Sl Dk ds dm) (t3 : kd h tb = 3 ∧ tb < hz h) (hd : Dk d) (X : hT (oD h d) h h1) (e1 : fR h1 1630 d = fR h 1630 d) (e2 : fR h1 1634 d = fR h 1634 d) (l1 : fR h 1630 d ≠ 0 → lc h1 (fR h 1630 d) = 2 ∧ (ll h1 (fR h 1630 d)).length ≤ 2) (l2 : fR h 1634 d ≠ 0 → lc h1 (fR h 1634 d) = 4 ∧ (ll h1 (fR h 1634 d)).length ≤ 4) : PoolC G h1 tb Sl Dk ds dm := by
  have kD : ∀ y, oD h d y → _ := fun y w => oD_kd P hd w
  obtain ⟨⟨p1, p2, p3⟩, p4, ⟨p5, p6, p7⟩, p8, p9, p10, p11⟩ := P
  have etb : eqA tb h h1 := X.2.2.2 tb t3.2 (fun w => by have := (kD tb w).2; omega)
  have k42 := p1.2.1
  have n138 : ¬ oD h d (fR h 138 tb) := fun w => by
    rcases (kD _ w).2 with w | w
    · omega
    · exact w.2.1 rfl
  have eR := etb.2.2.1
  have e138 := X.2.2.2 _ p1.1 n138
  have fl : ∀ y, Dk y → fR h1 1630 y = fR h 1630 y ∧ fR h1 1634 y = fR h 1634 y := fun y hy => by
    by_cases w : y = d
    · rw [w]; exact ⟨e1, e2⟩
    · have yk := (p10 y hy).1
      have e := X.2.2.2 y yk.2.1 (fun v => by
        rcases v with v | ⟨n, v⟩
        · exact w v
        · have dk := p10 d hd
          rcases v with v | v
          · have l := (dk.2.1.resolve_left (by rw [← v]; exact n)).1.2
            rw [← v] at l; omega
          · have l := (dk.2.2.resolve_left (by rw [← v]; exact n)).1.2
            rw [← v] at l; omega)
      exact ⟨e.2.2.1 _, e.2.2.1 _⟩
  have lk : ∀ y f cap, Dk y → ((f = 1630 ∧ cap = 2) ∨ (f = 1634 ∧ cap = 4)) → fR h f y ≠ 0 → lsD h tb Sl (fR h f y) cap → lsD h1 tb Sl (fR h f y) cap := fun y f cap hy o n w => by
    obtain ⟨⟨c1, c2⟩, ⟨c3, c4⟩, c5, c6, c7⟩ := w
    have cap' : lc h1 (fR h f y) = cap ∧ (ll h1 (fR h f y)).length ≤ cap := by
      by_cases v : oD h d (fR h f y)
      · rcases v with v | ⟨_, v⟩
        · have := (p10 d hd).1.2.2
          rw [v] at c2; omega
        · rcases v with v | v
          · obtain ⟨_, ef⟩ := p11 y d f 1630 hy hd (by omega) (.inl rfl) n v
            have ec : cap = 2 := by omega
            rw [v, ec]; exact l1 (by rw [← v]; exact n)
          · obtain ⟨_, ef⟩ := p11 y d f 1634 hy hd (by omega) (.inr rfl) n v
            have ec : cap = 4 := by omega
            rw [v, ec]; exact l2 (by rw [← v]; exact n)
      · have e := X.2.2.2 _ c1 v
        rw [e.2.2.2.2.2.2.1, e.2.2.2.2.2.2.2]
        exact ⟨c3, c4⟩
    exact ⟨⟨Nat.lt_of_lt_of_le c1 X.1, by rw [X.2.2.1 _ c1]; exact c2⟩, cap', c5, by rw [eR]; exact c6, by rw [eR]; exact c7⟩
  refine ⟨⟨by rw [eR]; exact okV_hT p1 X n138, by rw [eR]; exact p2, by rw [eR, eR]; exact p3⟩, by rw [eR, e138.2.2.2.2.2.2.1]; exact p4, ⟨by rw [etb.2.1]; exact p5, p6, p7⟩, p8, p9, fun y hy => ?_, fun y y' f f' h3 h4 o1 o2 n1 e3 => ?_⟩
  · obtain ⟨⟨y0, y1, y2⟩, y3, y4⟩ := p10 y hy
    rw [(fl y hy).1, (fl y hy).2]
    refine ⟨⟨y0, Nat.lt_of_lt_of_le y1 X.1, by rw [X.2.2.1 y y1]; exact y2⟩, ?_, ?_⟩
    · by_cases n : fR h 1630 y = 0
      · exact .inl n
      · exact .inr (lk y 1630 2 hy (.inl ⟨rfl, rfl⟩) n (y3.resolve_left n))
    · by_cases n : fR h 1634 y = 0
      · exact .inl n
      · exact .inr (lk y 1634 4 hy (.inr ⟨rfl, rfl⟩) n (y4.resolve_left n))
  · have ef : ∀ y f, Dk y → (f = 1630 ∨ f = 1634) → fR h1 f y = fR h f y := fun y f hy o => by
      rcases o with o | o
      · rw [o]; exact (fl y hy).1
      · rw [o]; exact (fl y hy).2
    rw [ef y f h3 o1] at n1 e3
    rw [ef y' f' h4 o2] at e3
    exact p11 y y' f f' h3 h4 o1 o2 n1 e3
/-- a step, and then one's own -/
theorem HvC_own (nd : ndN N) (H : HvC G h1 N cl tb l0 sc us1 fs1 rest Sl Gx io ab ins gv Dk1 ds1 dm1 s) (K : KH N cl tb l0 sc rest Sl Gx h0 us0 fs0 Dk0 ds0 dm0 h1 us1 fs1 Dk1 ds1 dm1 q z u) (P0 : PoolC G h0 tb Sl Dk0 ds0 dm0) (dd : Dk1 d ∧ d ∈ ds1) (nL : ¬ Dlv h0 Dk0 ds0 dm0 d) (X : hT (oD h1 d) h1 h2) (P2 : PoolC G h2 tb Sl Dk1 ds1 dm1) (k : Nat) (hk : nlN h1 ds1 + k ≤ nlN h2 ds1) (hzk : hz h2 ≤ hz h1 + 2 * k) (huk : hu h2 ≤ hu h1 + 10 * k) : HvC G h2 N cl tb l0 sc us1 fs1 rest Sl Gx io ab ins gv Dk1 ds1 dm1 s ∧ KH N cl tb l0 sc rest Sl Gx h0 us0 fs0 Dk0 ds0 dm0 h2 us1 fs1 Dk1 ds1 dm1 q z u ∧ ∀ T a, tyC h1 N cl (UU us1 rest) T a → tyC h2 N cl (UU us1 rest) T a := by
  obtain ⟨F, P, R, Hg⟩ := H
  obtain ⟨T, ⟨⟨f1, f2, f3⟩, f4⟩, ⟨g1, g2, g3, hcl⟩, PG, V, k0, k1, k2⟩ := id F
  obtain ⟨⟨z1, u1, KG1, K2, K3⟩, K4, K5⟩ := K
  have kD : ∀ y, oD h1 d y → _ := fun y w => oD_kd P dd.1 w
  obtain ⟨t1, t2, t3⟩ := TB_3 T
  have pk : ∀ y, oD h1 d y → y < hz h1 → kd h1 y ≠ 3 ∧ kd h1 y ≠ 34 ∧ kd h1 y ≠ 56 ∧ y ≠ fR h1 122 tb := fun y w _ => by
    have k122 := T.2.1.1.2.1
    rcases (kD y w).2 with v | v
    · rw [v]; exact ⟨by decide, by decide, by decide, fun e => by rw [← e, v] at k122; omega⟩
    · rw [v.1]; exact ⟨by decide, by decide, by decide, v.2.2.1⟩
  have dk : dOK (oD h1 d) h1 h2 := fun y w => by
    have := (kD y w).2
    exact ⟨by omega, by omega, fun e => by omega⟩
  have T2 : TB G h2 N cl tb us1 fs1 rest := TB_hT T nd X pk dk
  have C := (CS_write (N := N) (cl := cl) (z := 2 * k) (u := 10 * k) T X pk dk hzk huk).2.2.2.2.2.1
  have ne : ∀ y, y < hz h1 → kd h1 y ≠ 36 → kd h1 y ≠ 42 → eqA y h1 h2 := fun y hy n1 n2 => X.2.2.2 y hy (fun w => by have := (kD y w).2; omega)
  have S : hS Sl h1 h2 := hS_hT X (fun a _ w => by
    rcases (kD a w).2 with v | v
    · rw [v]; exact ⟨by decide, by decide, by decide, by decide, fun e => by have := (g3 a e).2; omega⟩
    · rw [v.1]; exact ⟨by decide, by decide, by decide, by decide, v.2.2.2⟩)
  have e138 : eqA (fR h1 138 tb) h1 h2 := X.2.2.2 _ P.1.1.1 (fun w => by
    have k := P.1.1.2.1
    rcases (kD _ w).2 with v | v
    · omega
    · exact v.2.1 rfl)
  have e122 : eqA (fR h1 122 tb) h1 h2 := X.2.2.2 _ T.2.1.1.1 (fun w => (pk _ w T.2.1.1.1).2.2.2 rfl)
  have et := ne tb t3 (by omega) (by omega)
  have e9 := ne l0 f2 (by omega) (by omega)
  have hl := KG1.1
  -- what was live at first is not one's own
  have nO : ∀ a, Dlv h0 Dk0 ds0 dm0 a → ¬ oD h1 d a := fun a L w => by
    rcases w with w | ⟨n, w⟩
    · rw [w] at L; exact nL L
    · obtain ⟨y, y1, y2, y3⟩ := id L
      obtain ⟨⟨w0, w1, w2⟩, w3, w4⟩ := P0.2.2.2.2.2.1 y y1
      have ey := (KG1.2.1 y ⟨y, y1, y2, .inl rfl⟩).2
      have yD := KG1.2.2.1.1 y y1
      rcases y3 with y3 | ⟨_, y3⟩
      · have yk := ey.1
        rw [← y3] at w2 w1 yk
        rcases w with w | w
        · have := (kD a (.inr ⟨n, .inl w⟩)).2
          have o := P.2.2.2.2.2.1 d dd.1
          have l := (o.2.1.resolve_left (by rw [← w]; exact n)).1.2
          rw [← w] at l; omega
        · have o := P.2.2.2.2.2.1 d dd.1
          have l := (o.2.2.resolve_left (by rw [← w]; exact n)).1.2
          rw [← w] at l; omega
      · have key : ∀ f f', (f = 1630 ∨ f = 1634) → (f' = 1630 ∨ f' = 1634) → a = fR h0 f y → a = fR h1 f' d → False := fun f f' o o' e e' => by
          have ef := ey.2.2.1 f
          have e3 : y = d := (P.2.2.2.2.2.2 y d f f' yD dd.1 o o' (by rw [ef, ← e]; exact n) (by rw [ef, ← e, e'])).1
          exact nL (by rw [← e3]; exact ⟨y, y1, y2, .inl rfl⟩)
        rcases y3 with y3 | y3
        · rcases w with w | w
          · exact key 1630 1630 (.inl rfl) (.inl rfl) y3 w
          · exact key 1630 1634 (.inl rfl) (.inr rfl) y3 w
        · rcases w with w | w
          · exact key 1634 1630 (.inr rfl) (.inl rfl) y3 w
          · exact key 1634 1634 (.inr rfl) (.inr rfl) y3 w
  have E0 : ∀ a, Dlv h0 Dk0 ds0 dm0 a → a < hz h0 ∧ eqA a h0 h2 := fun a L => by
    obtain ⟨b1, b2⟩ := KG1.2.1 a L
    exact ⟨b1, eqA_trans b2 (X.2.2.2 a (Nat.lt_of_lt_of_le b1 hl.1) (nO a L))⟩
  have ob : ∀ a, Dk1 a → a ∉ ds1 → a < hz h1 ∧ eqA a h1 h2 := fun a h3 h4 => by
    have w := (P.2.2.2.2.2.1 a h3).1
    refine ⟨w.2.1, X.2.2.2 a w.2.1 (fun v => ?_)⟩
    rcases v with v | v
    · rw [v] at h4; exact h4 dd.2
    · rcases (kD a (.inr v)).2 with _ | v'
      · have o := P.2.2.2.2.2.1 d dd.1
        rcases v with ⟨n, v | v⟩
        · have l := (o.2.1.resolve_left (by rw [← v]; exact n)).1.2
          rw [← v] at l; omega
        · have l := (o.2.2.resolve_left (by rw [← v]; exact n)).1.2
          rw [← v] at l; omega
      · omega
  obtain ⟨R2, rs⟩ := RwC_keep P V R S ob (dkG_refl (dm := dm1)) (fun x hx => ⟨(ne x (GVC_22 V hx).1 (by rw [(GVC_22 V hx).2]; decide) (by rw [(GVC_22 V hx).2]; decide)).2.2.1 1358, fun n => by
    have w := (R.2.2.1 x hx).resolve_left n
    exact ne _ w.1 (by omega) (by omega)⟩)
  have FO : frO tb l0 h1 fs1 Dk1 h2 := fun a ha _ _ _ _ c36 ck => X.2.2.2 a ha (fun w => by
    rcases w with w | ⟨n, w⟩
    · rw [w] at c36; exact c36 (P.2.2.2.2.2.1 d dd.1).1.2.2 dd.1
    · have o := P.2.2.2.2.2.1 d dd.1
      rcases w with w | w
      · have l := (o.2.1.resolve_left (by rw [← w]; exact n)).1.2
        rw [← w] at l; omega
      · have l := (o.2.2.resolve_left (by rw [← w]; exact n)).1.2
        rw [← w] at l; omega)
  obtain ⟨a1, a0, ad, ⟨dd', a2, a2'⟩, a3, a4, a5, a6, a7, p1, p2, p3, p4⟩ := KG1
  refine ⟨⟨FnC_nextG F S C T2 (e9.2.1 227) e9.2.2.1 (et.2.2.1 122) (by rw [e9.2.1]; exact k0) (fun z => ⟨by rw [e9.2.1]; exact (k1 z).2.1, by rw [et.2.1]; exact (k1 z).2.2⟩), P2, R2, fun x hx => ?_⟩, ⟨⟨z1 + 2 * k, u1 + 10 * k, ⟨hS_trans a1 S, E0, ad, ⟨dd', a2, a2'⟩, ⟨a3.1, frO_trans a1.1 a1.2.1 a3.1 ad.2.1 (a5.2 134) a3.2 FO⟩, a4, ⟨fun f n1 n2 n3 => (et.2.1 f).trans (a5.1 f n1 n2 n3), fun f => (et.2.2.1 f).trans (a5.2 f)⟩, ⟨fun f n1 n2 => (e9.2.1 f).trans (a6.1 f n1 n2), fun f => (e9.2.2.1 f).trans (a6.2 f)⟩, fun T a c => C T a (a7 T a c), p1, p2, by omega, ?_⟩, by omega, by omega⟩, ⟨rwK_trans a1.1 a1.2.1 K4.1 (rwK_eq (fun y hy k => ne y hy (by omega) (by omega))), fun y hy k => eqA_trans (K4.2 y hy k) (k.elim (fun k => ne y (Nat.lt_of_lt_of_le hy a1.1) (by rw [a1.2.1 y hy]; unfold dyK at k; omega) (by rw [a1.2.1 y hy]; unfold dyK at k; omega)) (fun k => X.2.2.2 y (Nat.lt_of_lt_of_le hy a1.1) (fun w => (kD y w).2.elim (fun v => by have := (g3 y k).2; omega) (fun v => v.2.2.2 k))))⟩, K5⟩, C⟩
  · obtain ⟨es, el⟩ := GVC_ll V S
    rw [es, el] at hx
    exact Hg x hx
  · have e2 := a5.2 122
    have e3 := a5.2 138
    have m1 := e122.2.2.2.2.2.2.2
    have m2 := e138.2.2.2.2.2.2.2
    rw [e2] at m1
    rw [e3] at m2
    rw [m1, m2]
    omega
end LOW
