set_option maxRecDepth 100000
/-! BETWEEN FINDERS: a finder's step, a write, a new finder -/
/-- what may be written between finders: insts, lines, exs, finders (no field that stands); a list of no weight -/
def wrB (h h1 : om_H) (tb : Nat) (Sl Dk W : Nat → Prop) (y : Nat) : Prop := (((False ∨ ((kd h y = 21 ∨ dyK (kd h y)) ∧ W y)) ∧ (∀ f ∈ SIf, fI h1 f y = fI h f y) ∧ ∀ f ∈ SRf, fR h1 f y = fR h f y) ∧ an h1 y = an h y ∧ (∀ k, aI h1 y k = aI h y k) ∧ (∀ k, aR h1 y k = aR h y k) ∧ fR h1 1330 y = fR h 1330 y) ∨ (kd h y = 42 ∧ ¬ Sl y ∧ y ≠ fR h 122 tb ∧ y ≠ fR h 138 tb ∧ ∀ d, Dk d → y ≠ fR h 1630 d ∧ y ≠ fR h 1634 d)
section LBK
variable {G : om_G} {N : List (List Int)} {cl : Nat → Nat} {tb l0 : Nat} {rest : List (Nat × List Nat)} {ss : List (Nat × List GVs)} {s : Nat × List GVs} {Sl Gx W : Nat → Prop} {io : Nat → Nat} {ab : List (Option Nat)} {ins : List INs} {h h1 : om_H} {us fs us1 fs1 : List Nat} {Dk Dk1 : Nat → Prop} {ds ds1 : List Nat} {dm dm1 q z u tot tot1 : Nat}
/-- A FINDER's STEP, for all scopes -/
theorem BQ_KH (H : BQ G h N cl tb us fs rest Sl Gx io ab ins ss Dk ds dm tot) (hs : s ∈ ss) (e210 : fR h 210 l0 = s.1) (K : KH N cl tb l0 s.1 rest Sl (fun x => x ∈ ll h (fR h 166 s.1)) h us fs Dk ds dm h1 us1 fs1 Dk1 ds1 dm1 q z u) : KB N cl tb rest ss Sl Gx (fun _ => False) h us fs Dk ds dm h1 us1 fs1 Dk1 ds1 dm1 q z u ∧ ∀ tot1, HvQ G h1 N cl tb l0 s.1 us1 fs1 rest Sl (fun x => x ∈ ll h (fR h 166 s.1)) io ab ins s.2 Dk1 ds1 dm1 tot1 → BQ G h1 N cl tb us1 fs1 rest Sl Gx io ab ins ss Dk1 ds1 dm1 tot1 := by
  obtain ⟨T, g, PG, t128, P, Sc, A⟩ := H
  obtain ⟨⟨z1, u1, KG1, rz, ru⟩, ⟨rwk, dy⟩, dl⟩ := K
  obtain ⟨a1, a0, ad, au, ⟨a3, a3'⟩, a4, a5, a6, a7, p1, p2, p3, p4⟩ := KG1
  have el : ∀ t ∈ ss, fR h1 166 t.1 = fR h 166 t.1 ∧ ll h1 (fR h 166 t.1) = ll h (fR h 166 t.1) := fun t ht => GVC_ll (Sc t ht).1 a1
  have lt : ∀ t ∈ ss, ∀ x ∈ ll h (fR h 166 t.1), x < hz h ∧ kd h x = 22 := fun t ht x hx => GVC_22 (Sc t ht).1 hx
  have ex : ∀ t ∈ ss, t ≠ s → ∀ x ∈ ll h (fR h 166 t.1), fR h1 1358 x = fR h 1358 x ∧ (fR h 1358 x ≠ 0 → eqA (fR h 1358 x) h h1) := fun t ht n x hx => by
    obtain ⟨x1, x2⟩ := lt t ht x hx
    refine ⟨rwk.1 x x1 x2 (fun w => n ((A.2 t ht s hs x hx x w).1 rfl)), fun n0 => ?_⟩
    obtain ⟨w1, w2⟩ := ((Sc t ht).2.1.2.2.1 x hx).resolve_left n0
    exact rwk.2.2.1 _ w1 w2 (fun y hy => ⟨lt s hs y hy, fun e => n ((A.2 t ht s hs x hx y hy).1 ((A.2 t ht s hs x hx y hy).2 n0 e.symm))⟩)
  have rk : ∀ t ∈ ss, t ≠ s → RwC h1 cl ab t.1 t.2 Dk1 ds1 ∧ rwS h t.1 ≤ rwS h1 t.1 := fun t ht n => RwC_keep P (Sc t ht).1 (Sc t ht).2.1 a1 (fun _ => Dlv_n a0) ad (ex t ht n)
  have sm : rwZ h ss + rwS h1 s.1 ≤ rwZ h1 ss + rwS h s.1 := sum_one (f := fun t : Nat × List GVs => rwS h t.1) (f' := fun t : Nat × List GVs => rwS h1 t.1) A.1 (fun t ht n => (rk t ht n).2) hs
  have big : ∀ t ∈ ss, ∀ x ∈ ll h (fR h 166 t.1), fR h 1358 x = 0 ∨ fR h 1358 x < hz h := fun t ht x hx => ((Sc t ht).2.1.2.2.1 x hx).imp id And.left
  refine ⟨⟨a1, a0, ad, au, ⟨a3, fun a ha c3 c9 c34 c56 c36 _ ck => ?_, ⟨fun x x1 x2 n => rwk.1 x x1 x2 (fun w => n ((Sc s hs).2.2 x w)), fun x _ x1 x2 => ?_, fun a ha k w => rwk.2.2.1 a ha k (fun x hx => w x ((Sc s hs).2.2 x hx))⟩, fun a ha w => dy a ha (.inr w)⟩, a4, a5, a7, ⟨p1, p2, dl⟩, by omega, by omega⟩, fun tot1 Q => ?_⟩
  · by_cases w : dyK (kd h a)
    · exact dy a ha (.inl w)
    · refine a3' a ha c3 (fun v e => c9 v s hs (by rw [e]; exact e210)) c34 c56 c36 ?_
      unfold dyK at w
      omega
  · by_cases w : x ∈ ll h (fR h 166 s.1)
    · exact rwk.2.1 x w x1 x2
    · exact .inl (rwk.1 x x1 x2 w)
  obtain ⟨F1, P1, R1, Hg1⟩ := Q
  refine ⟨F1.1, F1.2.2.1, F1.2.2.2.1, F1.2.2.2.2.2.2, P1, fun t ht => ⟨GVC_hS a1 a7 (Sc t ht).1, ?_, fun x hx => ?_⟩, A.1, fun t ht t' ht' x hx x' hx' => ?_⟩
  · by_cases n : t = s
    · rw [n]; exact R1
    · exact (rk t ht n).1
  · rw [(el t ht).1, (el t ht).2] at hx
    exact (Sc t ht).2.2 x hx
  · have hx0 := hx
    have hx0' := hx'
    rw [(el t ht).1, (el t ht).2] at hx
    rw [(el t' ht').1, (el t' ht').2] at hx'
    have AA := A.2 t ht t' ht' x hx x' hx'
    refine ⟨AA.1, fun n e => ?_⟩
    obtain ⟨x1, x2⟩ := lt t ht x hx
    obtain ⟨y1, y2⟩ := lt t' ht' x' hx'
    by_cases w : t = s
    · by_cases w' : t' = s
      · rw [w] at hx0
        rw [w'] at hx0'
        exact R1.2.1 x x' hx0 hx0' n e
      · have e' := (ex t' ht' w' x' hx').1
        rw [w] at hx
        rcases rwk.2.1 x hx x1 x2 with v | v
        · exact AA.2 (by rw [← v]; exact n) (by rw [← v, ← e']; exact e)
        · have := big t' ht' x' hx'
          omega
    · have e' := (ex t ht w x hx).1
      by_cases w' : t' = s
      · rw [w'] at hx'
        rcases rwk.2.1 x' hx' y1 y2 with v | v
        · exact AA.2 (by rw [← e']; exact n) (by rw [← v, ← e']; exact e)
        · have := big t ht x hx
          omega
      · have e2 := (ex t' ht' w' x' hx').1
        exact AA.2 (by rw [← e']; exact n) (by rw [← e2, ← e']; exact e)
/-- A WRITE between finders -/
theorem BQ_w {D : Nat → Prop} (nd : ndN N) (H : BQ G h N cl tb us fs rest Sl Gx io ab ins ss Dk ds dm tot) (X : hT D h h1) (hD : ∀ y, D y → y < hz h → wrB h h1 tb Sl Dk W y) (hd0 : ∀ y, D y → y < hz h) (r : hz h1 ≤ hz h + z ∧ hu h1 ≤ hu h + u) : BQ G h1 N cl tb us fs rest Sl Gx io ab ins ss Dk ds dm tot ∧ KB N cl tb rest ss Sl Gx W h us fs Dk ds dm h1 us fs Dk ds dm 0 z u := by
  obtain ⟨T, ⟨g1, g2, g3, hcl⟩, PG, k2, P, Sc, A⟩ := H
  obtain ⟨t1, t2, t3⟩ := TB_3 T
  have kD : ∀ y, D y → (kd h y = 9 ∨ kd h y = 21 ∨ (23 ≤ kd h y ∧ kd h y ≤ 32) ∨ kd h y = 37 ∨ kd h y = 38 ∨ kd h y = 42) ∧ (kd h y = 42 → ¬ Sl y ∧ y ≠ fR h 122 tb ∧ y ≠ fR h 138 tb ∧ ∀ d, Dk d → y ≠ fR h 1630 d ∧ y ≠ fR h 1634 d) := fun y w => by
    rcases hD y w (hd0 y w) with v | v
    · have v1 := v.1.1.elim False.elim And.left
      unfold dyK at v1
      exact ⟨by omega, fun e => by omega⟩
    · exact ⟨by omega, fun _ => v.2⟩
  have k122 := T.2.1.1.2.1
  have pk : ∀ y, D y → y < hz h → kd h y ≠ 3 ∧ kd h y ≠ 34 ∧ kd h y ≠ 56 ∧ y ≠ fR h 122 tb := fun y w _ => by
    have k := (kD y w).1
    refine ⟨by omega, by omega, by omega, fun e => ?_⟩
    exact ((kD y w).2 (by rw [e]; exact k122)).2.1 e
  have dk : dOK D h h1 := fun y w => by
    have k := (kD y w).1
    exact ⟨by omega, by omega, fun e => by omega⟩
  have T' : TB G h1 N cl tb us fs rest := TB_hT T nd X pk dk
  have C := (CS_write (N := N) (cl := cl) (z := z) (u := u) T X pk dk r.1 r.2).2.2.2.2.2.1
  have ne : ∀ y, y < hz h → kd h y ≠ 9 → kd h y ≠ 21 → ¬ dyK (kd h y) → kd h y ≠ 42 → eqA y h h1 := fun y hy n1 n2 n3 n4 => X.2.2.2 y hy (fun w => by
    have := (kD y w).1
    unfold dyK at n3
    omega)
  have S : hS Sl h h1 := by
    refine ⟨X.1, X.2.2.1, fun y hy hk => ?_, fun y hy hk => ?_, fun y hy hs => ?_⟩
    · by_cases w : D y
      · rcases hD y w hy with v | v
        · exact ⟨v.1.2.1, v.1.2.2⟩
        · rw [v.1] at hk; exact absurd hk (by decide)
      · have e := X.2.2.2 y hy w
        exact ⟨fun f _ => e.2.1 f, fun f _ => e.2.2.1 f⟩
    · have hk' : kd h y = 50 ∨ kd h y = 58 ∨ kd h y = 59 ∨ kd h y = 21 := hk.imp id And.right
      by_cases w : D y
      · rcases hD y w hy with v | v
        · exact ⟨⟨v.2.1, v.2.2.1, v.2.2.2.1⟩, v.2.2.2.2⟩
        · omega
      · have e := X.2.2.2 y hy w
        exact ⟨⟨e.2.2.2.1, e.2.2.2.2.1, e.2.2.2.2.2.1⟩, e.2.2.1 1330⟩
    · refine (X.2.2.2 y hy (fun w => ?_)).2.2.2.2.2.2.1
      exact ((kD y w).2 (g3 y hs).2).1 hs
  have et := ne tb t3 (by omega) (by omega) (by rw [t1]; unfold dyK; omega) (by omega)
  have k138 := P.1.1.2.1
  have n138 : ¬ D (fR h 138 tb) := fun w => ((kD _ w).2 k138).2.2.1 rfl
  have e138 := X.2.2.2 _ P.1.1.1 n138
  have e122 := X.2.2.2 _ T.2.1.1.1 (fun w => ((kD _ w).2 k122).2.1 rfl)
  have n36 : ∀ d, Dk d → ¬ D d := fun d hd w => by
    have k := (P.2.2.2.2.2.1 d hd).1.2.2
    have := (kD d w).1
    omega
  have nls : ∀ d f, Dk d → (f = 1630 ∨ f = 1634) → fR h f d ≠ 0 → ¬ D (fR h f d) := fun d f hd o n w => by
    obtain ⟨_, w3, w4⟩ := P.2.2.2.2.2.1 d hd
    have k42 : kd h (fR h f d) = 42 := by
      rcases o with o | o
      · rw [o] at n ⊢; exact (w3.resolve_left n).1.2
      · rw [o] at n ⊢; exact (w4.resolve_left n).1.2
    have := ((kD _ w).2 k42).2.2.2 d hd
    rcases o with o | o
    · rw [o] at this; exact this.1 rfl
    · rw [o] at this; exact this.2 rfl
  have P' : PoolC G h1 tb Sl Dk ds dm := PoolC_hT2 P X n138 (fun d hd => ⟨n36 d hd, nls d 1630 hd (.inl rfl), nls d 1634 hd (.inr rfl)⟩) (et.2.1 140) et.2.2.1
  have E : ∀ a, Dlv h Dk ds dm a → a < hz h ∧ eqA a h h1 := fun a L => by
    obtain ⟨d, d1, d2, d3⟩ := L
    obtain ⟨⟨y0, y1, y2⟩, y3, y4⟩ := P.2.2.2.2.2.1 d d1
    rcases d3 with e | ⟨e0, e | e⟩
    · rw [e]; exact ⟨y1, X.2.2.2 d y1 (n36 d d1)⟩
    · rw [e] at e0 ⊢
      have lt := (y3.resolve_left e0).1.1
      exact ⟨lt, X.2.2.2 _ lt (nls d 1630 d1 (.inl rfl) e0)⟩
    · rw [e] at e0 ⊢
      have lt := (y4.resolve_left e0).1.1
      exact ⟨lt, X.2.2.2 _ lt (nls d 1634 d1 (.inr rfl) e0)⟩
  have e22 : ∀ y, y < hz h → kd h y = 22 ∨ kd h y = 57 → eqA y h h1 := fun y hy k => ne y hy (by omega) (by omega) (by unfold dyK; omega) (by omega)
  have rk : ∀ t ∈ ss, RwC h1 cl ab t.1 t.2 Dk ds ∧ rwS h t.1 ≤ rwS h1 t.1 := fun t ht => RwC_keep P (Sc t ht).1 (Sc t ht).2.1 S (fun _ => Dlv_n E) (dkG_refl (dm := dm)) (fun x hx => ⟨(e22 x (GVC_22 (Sc t ht).1 hx).1 (.inl (GVC_22 (Sc t ht).1 hx).2)).2.2.1 1358, fun n => by
    have w := ((Sc t ht).2.1.2.2.1 x hx).resolve_left n
    exact e22 _ w.1 (.inr w.2)⟩)
  have nlm : nlN h ds ≤ nlN h1 ds := by
    have := nl_mono (h := h) (h1 := h1) (ds := ds) (e := []) (fun d hd => by
      have w := (P.2.2.2.2.2.1 d (P.2.2.2.2.1 d hd)).1
      have e := X.2.2.2 d w.2.1 (n36 d (P.2.2.2.2.1 d hd))
      rw [e.2.2.1, e.2.2.1]; exact ⟨id, id⟩)
    rw [List.append_nil] at this; exact this
  have el : ∀ t ∈ ss, fR h1 166 t.1 = fR h 166 t.1 ∧ ll h1 (fR h 166 t.1) = ll h (fR h 166 t.1) := fun t ht => GVC_ll (Sc t ht).1 S
  have sm : rwZ h ss ≤ rwZ h1 ss := sum_monoA (fun t ht => (rk t ht).2)
  have clk : ∀ c, clO h1 cl c → clO h cl c := fun c hc => by
    obtain ⟨a1, a2, a3, a4⟩ := hc
    have k18 : kd h (cl c) = 18 := by rw [← S.2.1 _ (hcl c)]; exact a3
    exact ⟨a1, hcl c, k18, by rw [← (S.2.2.1 _ (hcl c) (by rw [k18]; decide)).1 1200 (by decide)]; exact a4⟩
  refine ⟨⟨T', ⟨by rw [et.2.2.1]; exact g1, by rw [et.2.2.1]; exact g2, fun a ha => ⟨Nat.lt_of_lt_of_le (g3 a ha).1 S.1, by rw [S.2.1 _ (g3 a ha).1]; exact (g3 a ha).2⟩, fun c => Nat.lt_of_lt_of_le (hcl c) S.1⟩, PGC_hS S C PG clk, by rw [et.2.1]; exact k2, P', fun t ht => ⟨GVC_hS S C (Sc t ht).1, (rk t ht).1, fun x hx => ?_⟩, rwA_keep A el (fun t ht x hx => (e22 x (GVC_22 (Sc t ht).1 hx).1 (.inl (GVC_22 (Sc t ht).1 hx).2)).2.2.1 1358)⟩, ⟨S, E, dkG_refl, ⟨[], by simp, by simp⟩, ⟨fun y hy => .inl hy, fun a ha c3 c9 c34 c56 c36 cW ck => X.2.2.2 a ha (fun w => ?_), rwB_eq e22, fun a ha w => X.2.2.2 a ha (fun v => ((kD a v).2 (g3 a w).2).1 w)⟩, by omega, ⟨fun f _ _ _ => et.2.1 f, et.2.2.1⟩, C, ⟨by omega, by omega, by omega⟩, by omega, by rw [e138.2.2.2.2.2.2.2, e122.2.2.2.2.2.2.2]; omega⟩⟩
  · rw [(el t ht).1, (el t ht).2] at hx
    exact (Sc t ht).2.2 x hx
  · rcases hD a w ha with v | v
    · rcases v.1.1 with v | v
      · exact v
      · exact cW v.1 v.2
    · exact ck.2.1 v.1
/-- A NEW FINDER -/
theorem BQ_fin (nd : ndN N) (H : BQ G h N cl tb us fs rest Sl Gx io ab ins ss Dk ds dm tot) (hs : s ∈ ss) : ∃ h1, C_8_init G (hz h) s.1 tb (nO h 9 5) = some h1 ∧ kd (nO h 9 5) (hz h) = 9 ∧ (∀ a, a < hz h → eqA a h h1) ∧ (hz h1 = hz h + 1 ∧ hu h1 = hu h + 5 ∧ kd h1 (hz h) = 9 ∧ fR h1 214 (hz h) = tb) ∧ BQ G h1 N cl tb us fs rest Sl Gx io ab ins ss Dk ds dm tot ∧ KB N cl tb rest ss Sl Gx (fun _ => False) h us fs Dk ds dm h1 us fs Dk ds dm 0 1 5 ∧ HvQ G h1 N cl tb (hz h) s.1 us fs rest Sl (fun x => x ∈ ll h1 (fR h1 166 s.1)) io ab ins s.2 Dk ds dm tot := by
  have k2 : kd (nO h 9 5) (hz h) = 9 := by rw [kd_nO, if_pos rfl]
  obtain ⟨h1, e1⟩ : ∃ h1, h1 = sR (sR (sI (nO h 9 5) 227 (hz h) 1) 210 (hz h) s.1) 214 (hz h) tb := ⟨_, rfl⟩
  have all : ∀ a, a < hz h → eqA a h h1 := fun a ha => by
    rw [e1]
    refine ⟨?_, fun f => ?_, fun f => ?_, rfl, fun i => rfl, fun i => rfl, rfl, rfl⟩
    · show kd (nO h 9 5) a = _
      rw [kd_nO, if_neg (by omega)]
    · show fI (sI (nO h 9 5) 227 (hz h) 1) f a = _
      rw [fI_na (by omega), fI_nO, if_neg (by omega)]
    · rw [fR_na (by omega), fR_na (by omega)]
      show fR (nO h 9 5) f a = _
      rw [fR_nO, if_neg (by omega)]
  have z1 : hz h1 = hz h + 1 := by rw [e1]; rfl
  have u1 : hu h1 = hu h + 5 := by rw [e1]; rfl
  have k9 : kd h1 (hz h) = 9 := by rw [e1]; exact k2
  have e214 : fR h1 214 (hz h) = tb := by rw [e1]; exact fR_eq
  have e210 : fR h1 210 (hz h) = s.1 := by rw [e1, fR_ne (by decide)]; exact fR_eq
  have e227 : fI h1 227 (hz h) ≠ 0 := by
    rw [e1]
    show fI (sI (nO h 9 5) 227 (hz h) 1) 227 (hz h) ≠ 0
    rw [fI_eq]; decide
  have X : hT (fun _ => False) h h1 := ⟨by omega, by omega, fun a ha => (all a ha).1, fun a ha _ => all a ha⟩
  obtain ⟨B1, K1⟩ := BQ_w (W := fun _ => False) (z := 1) (u := 5) nd H X (fun _ w => w.elim) (fun _ w => w.elim) ⟨by omega, by omega⟩
  refine ⟨h1, ?_, k2, all, ⟨z1, u1, k9, e214⟩, B1, K1, ⟨⟨B1.1, ⟨⟨k9, by omega, e214⟩, e210⟩, B1.2.1, B1.2.2.1, (B1.2.2.2.2.2.1 s hs).1, e227, B1.2.2.2.1⟩, B1.2.2.2.2.1, (B1.2.2.2.2.2.1 s hs).2.1, fun x hx => hx⟩⟩
  unfold C_8_init C_8_is
  rw [gd_pos k2, gd_pos (show kd (sI (nO h 9 5) 227 (hz h) 1) (hz h) = 9 from k2), Option.bind_some, e1]
end LBK
