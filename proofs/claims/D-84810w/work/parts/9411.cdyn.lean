set_option maxRecDepth 100000
/-! THE COMPONENT's judge writes into exs, and into lists of reasons -/
/-- what may be written: lines, exs, judges, reasons (no field that stands); a list of no weight -/
def dyW (h h1 : om_H) (tb : Nat) (Sl Dk : Nat → Prop) (y : Nat) : Prop := (dyK (kd h y) ∧ (∀ f ∈ SIf, fI h1 f y = fI h f y) ∧ ∀ f ∈ SRf, fR h1 f y = fR h f y) ∨ (kd h y = 42 ∧ ¬ Sl y ∧ y ≠ fR h 122 tb ∧ y ≠ fR h 138 tb ∧ ∀ d, Dk d → y ≠ fR h 1630 d ∧ y ≠ fR h 1634 d)
section LCD
variable {G : om_G} {N : List (List Int)} {cl : Nat → Nat} {tb l0 sc : Nat} {rest : List (Nat × List Nat)} {Sl Gx : Nat → Prop} {io : Nat → Nat} {ab : List (Option Nat)} {ins : List INs} {gv : List GVs} {tot tot' : Nat} {h h1 : om_H} {us fs us' fs' : List Nat} {Dk : Nat → Prop} {ds : List Nat} {dm z u : Nat}
theorem FnQ_nextG (F : FnQ G h N cl tb l0 sc us fs rest Sl io ab ins gv tot) (X : hS Sl h h1) (kp : ∀ T a, tyC h N cl (UU us rest) T a → tyC h1 N cl (UU us' rest) T a) (T' : TB G h1 N cl tb us' fs' rest) (eI : fI h1 227 l0 = fI h 227 l0) (eR : ∀ f, fR h1 f l0 = fR h f l0) (e122 : fR h1 122 tb = fR h 122 tb) (e : fI h1 128 tb = (tot' : Int)) : FnQ G h1 N cl tb l0 sc us' fs' rest Sl io ab ins gv tot' := by
  obtain ⟨T, ⟨⟨f1, f2, f3⟩, f4⟩, ⟨g1, g2, g3, hcl⟩, P, V, k1, k2⟩ := F
  refine ⟨T', ⟨⟨by rw [X.2.1 _ f2]; exact f1, Nat.lt_of_lt_of_le f2 X.1, by rw [eR]; exact f3⟩, by rw [eR]; exact f4⟩, ⟨by rw [e122]; exact g1, by rw [e122]; exact g2, fun a ha => ⟨Nat.lt_of_lt_of_le (g3 a ha).1 X.1, by rw [X.2.1 _ (g3 a ha).1]; exact (g3 a ha).2⟩, fun c => Nat.lt_of_lt_of_le (hcl c) X.1⟩, PGC_hS X kp P (fun c hc => ?_), GVC_hS X kp V, by rw [eI]; exact k1, e⟩
  obtain ⟨a1, a2, a3, a4⟩ := hc
  have k18 : kd h (cl c) = 18 := by rw [← X.2.1 _ (hcl c)]; exact a3
  exact ⟨a1, hcl c, k18, by rw [← (X.2.2.1 _ (hcl c) (by rw [k18]; decide)).1 1200 (by decide)]; exact a4⟩
theorem PoolC_hT2 {D : Nat → Prop} (P : PoolC G h tb Sl Dk ds dm) (X : hT D h h1) (n138 : ¬ D (fR h 138 tb)) (nD : ∀ d, Dk d → ¬ D d ∧ (fR h 1630 d ≠ 0 → ¬ D (fR h 1630 d)) ∧ (fR h 1634 d ≠ 0 → ¬ D (fR h 1634 d))) (e1 : fI h1 140 tb = fI h 140 tb) (e2 : ∀ f, fR h1 f tb = fR h f tb) : PoolC G h1 tb Sl Dk ds dm := by
  obtain ⟨⟨p1, p2, p3⟩, p4, ⟨p5, p6, p7⟩, p8, p9, p10, p11⟩ := P
  have e138 := X.2.2.2 _ p1.1 n138
  have ef : ∀ d, Dk d → ∀ f, fR h1 f d = fR h f d := fun d hd f => (X.2.2.2 d (p10 d hd).1.2.1 (nD d hd).1).2.2.1 f
  have lsk : ∀ {L cap : Nat}, ¬ D L → lsD h tb Sl L cap → lsD h1 tb Sl L cap := fun {L cap} nL w => by
    obtain ⟨⟨c1, c2⟩, ⟨c3, c4⟩, c5, c6, c7⟩ := w
    have e := X.2.2.2 L c1 nL
    exact ⟨⟨Nat.lt_of_lt_of_le c1 X.1, by rw [e.1]; exact c2⟩, ⟨by rw [e.2.2.2.2.2.2.2]; exact c3, by rw [e.2.2.2.2.2.2.1]; exact c4⟩, c5, by rw [e2]; exact c6, by rw [e2]; exact c7⟩
  refine ⟨⟨by rw [e2]; exact okV_hT p1 X n138, by rw [e2]; exact p2, by rw [e2, e2]; exact p3⟩, by rw [e2, e138.2.2.2.2.2.2.1]; exact p4, ⟨by rw [e1]; exact p5, p6, p7⟩, p8, p9, fun d hd => ?_, fun d d' f f' h3 h4 o1 o2 n1 e3 => ?_⟩
  · obtain ⟨⟨y0, y1, y2⟩, y3, y4⟩ := p10 d hd
    rw [ef d hd, ef d hd]
    refine ⟨⟨y0, Nat.lt_of_lt_of_le y1 X.1, by rw [X.2.2.1 d y1]; exact y2⟩, ?_, ?_⟩
    · by_cases n : fR h 1630 d = 0
      · exact .inl n
      · exact .inr (lsk ((nD d hd).2.1 n) (y3.resolve_left n))
    · by_cases n : fR h 1634 d = 0
      · exact .inl n
      · exact .inr (lsk ((nD d hd).2.2 n) (y4.resolve_left n))
  · rw [ef d h3] at n1 e3
    rw [ef d' h4] at e3
    exact p11 d d' f f' h3 h4 o1 o2 n1 e3
/-- THE JUDGE WRITES -/
theorem HvQ_w {D : Nat → Prop} (nd : ndN N) (H : HvQ G h N cl tb l0 sc us fs rest Sl Gx io ab ins gv Dk ds dm tot) (X : hT D h h1) (hD : ∀ y, D y → y < hz h → dyW h h1 tb Sl Dk y) (hd0 : ∀ y, D y → y < hz h) (r : hz h1 ≤ hz h + z ∧ hu h1 ≤ hu h + u) : HvQ G h1 N cl tb l0 sc us fs rest Sl Gx io ab ins gv Dk ds dm tot ∧ KG N cl tb l0 rest Sl h us fs Dk ds dm h1 us fs Dk ds dm 0 z u ∧ nlN h ds ≤ nlN h1 ds ∧ rwS h sc ≤ rwS h1 sc ∧ (∀ x, x < hz h → kd h x = 22 ∨ kd h x = 57 ∨ kd h x = 21 → eqA x h h1) ∧ ∀ T a, tyC h N cl (UU us rest) T a → tyC h1 N cl (UU us rest) T a := by
  obtain ⟨F, P, R, Hg⟩ := H
  obtain ⟨T, ⟨⟨f1, f2, f3⟩, f4⟩, ⟨g1, g2, g3, hcl⟩, PG, V, k1, k2⟩ := id F
  obtain ⟨t1, t2, t3⟩ := TB_3 T
  have kD : ∀ y, D y → (dyK (kd h y) ∨ kd h y = 42) ∧ (kd h y = 42 → ¬ Sl y ∧ y ≠ fR h 122 tb ∧ y ≠ fR h 138 tb ∧ ∀ d, Dk d → y ≠ fR h 1630 d ∧ y ≠ fR h 1634 d) := fun y w => by
    rcases hD y w (hd0 y w) with v | v
    · refine ⟨.inl v.1, fun e => ?_⟩
      have := v.1
      unfold dyK at this
      omega
    · exact ⟨.inr v.1, fun _ => v.2⟩
  have k122 := T.2.1.1.2.1
  have pk : ∀ y, D y → y < hz h → kd h y ≠ 3 ∧ kd h y ≠ 34 ∧ kd h y ≠ 56 ∧ y ≠ fR h 122 tb := fun y w _ => by
    have k := (kD y w).1
    unfold dyK at k
    refine ⟨by omega, by omega, by omega, fun e => ?_⟩
    exact ((kD y w).2 (by rw [e]; exact k122)).2.1 e
  have dk : dOK D h h1 := fun y w => by
    have k := (kD y w).1
    unfold dyK at k
    exact ⟨by omega, by omega, fun e => by omega⟩
  have T' : TB G h1 N cl tb us fs rest := TB_hT T nd X pk dk
  have C := (CS_write (N := N) (cl := cl) (z := z) (u := u) T X pk dk r.1 r.2).2.2.2.2.2.1
  have ne : ∀ y, y < hz h → ¬ dyK (kd h y) → kd h y ≠ 42 → eqA y h h1 := fun y hy n1 n2 => X.2.2.2 y hy (fun w => by
    rcases (kD y w).1 with v | v
    · exact n1 v
    · exact n2 v)
  have S : hS Sl h h1 := by
    refine ⟨X.1, X.2.2.1, fun y hy hk => ?_, fun y hy hk => ?_, fun y hy hs => ?_⟩
    · by_cases w : D y
      · rcases hD y w hy with v | v
        · exact ⟨v.2.1, v.2.2⟩
        · rw [v.1] at hk; exact absurd hk (by decide)
      · have e := X.2.2.2 y hy w
        exact ⟨fun f _ => e.2.1 f, fun f _ => e.2.2.1 f⟩
    · have hk' : kd h y = 50 ∨ kd h y = 58 ∨ kd h y = 59 ∨ kd h y = 21 := hk.imp id And.right
      have e := ne y hy (by unfold dyK; omega) (by omega)
      exact ⟨⟨e.2.2.2.1, e.2.2.2.2.1, e.2.2.2.2.2.1⟩, e.2.2.1 1330⟩
    · refine (X.2.2.2 y hy (fun w => ?_)).2.2.2.2.2.2.1
      exact ((kD y w).2 (g3 y hs).2).1 hs
  have e9 := ne l0 f2 (by rw [f1]; unfold dyK; omega) (by omega)
  have et := ne tb t3 (by rw [t1]; unfold dyK; omega) (by omega)
  have k138 := P.1.1.2.1
  have n138 : ¬ D (fR h 138 tb) := fun w => ((kD _ w).2 k138).2.2.1 rfl
  have e138 := X.2.2.2 _ P.1.1.1 n138
  have e122 := X.2.2.2 _ T.2.1.1.1 (fun w => ((kD _ w).2 k122).2.1 rfl)
  have n36 : ∀ d, Dk d → ¬ D d := fun d hd w => by
    have k := (P.2.2.2.2.2.1 d hd).1.2.2
    have := (kD d w).1
    unfold dyK at this
    omega
  have nls : ∀ d f, Dk d → (f = 1630 ∨ f = 1634) → fR h f d ≠ 0 → ¬ D (fR h f d) := fun d f hd o n w => by
    obtain ⟨_, w3, w4⟩ := P.2.2.2.2.2.1 d hd
    have k42 : kd h (fR h f d) = 42 := by
      rcases o with o | o
      · rw [o] at n ⊢; exact (w3.resolve_left n).1.2
      · rw [o] at n ⊢; exact (w4.resolve_left n).1.2
    have := ((kD _ w).2 k42).2.2.2 d hd
    rcases o with o | o
    · rw [o] at this; exact this.1 rfl
    · rw [o] at this; exact this.2 rfl
  have P' : PoolC G h1 tb Sl Dk ds dm := PoolC_hT2 P X n138 (fun d hd => ⟨n36 d hd, nls d 1630 hd (.inl rfl), nls d 1634 hd (.inr rfl)⟩) (et.2.1 140) et.2.2.1
  have E : ∀ a, Dlv h Dk ds dm a → a < hz h ∧ eqA a h h1 := fun a L => by
    obtain ⟨d, d1, d2, d3⟩ := L
    obtain ⟨⟨y0, y1, y2⟩, y3, y4⟩ := P.2.2.2.2.2.1 d d1
    rcases d3 with e | ⟨e0, e | e⟩
    · rw [e]; exact ⟨y1, X.2.2.2 d y1 (n36 d d1)⟩
    · rw [e] at e0 ⊢
      have lt := (y3.resolve_left e0).1.1
      exact ⟨lt, X.2.2.2 _ lt (nls d 1630 d1 (.inl rfl) e0)⟩
    · rw [e] at e0 ⊢
      have lt := (y4.resolve_left e0).1.1
      exact ⟨lt, X.2.2.2 _ lt (nls d 1634 d1 (.inr rfl) e0)⟩
  have e22 : ∀ y, y < hz h → kd h y = 22 ∨ kd h y = 57 ∨ kd h y = 21 → eqA y h h1 := fun y hy k => ne y hy (by unfold dyK; omega) (by omega)
  obtain ⟨R', rs⟩ := RwC_keep P V R S (fun _ => Dlv_n E) (dkG_refl (dm := dm)) (fun x hx => ⟨(e22 x (GVC_22 V hx).1 (.inl (GVC_22 V hx).2)).2.2.1 1358, fun n => by
    have w := (R.2.2.1 x hx).resolve_left n
    exact ne _ w.1 (by rw [w.2]; unfold dyK; omega) (by omega)⟩)
  have nlm : nlN h ds ≤ nlN h1 ds := by
    have := nl_mono (h := h) (h1 := h1) (ds := ds) (e := []) (fun d hd => by
      have w := (P.2.2.2.2.2.1 d (P.2.2.2.2.1 d hd)).1
      have e := X.2.2.2 d w.2.1 (n36 d (P.2.2.2.2.1 d hd))
      rw [e.2.2.1, e.2.2.1]; exact ⟨id, id⟩)
    rw [List.append_nil] at this; exact this
  refine ⟨⟨FnQ_nextG F S C T' (e9.2.1 227) e9.2.2.1 (et.2.2.1 122) (by rw [et.2.1 128]; exact k2), P', R', fun x hx => ?_⟩, ⟨S, E, dkG_refl, ⟨[], by simp, by simp⟩, ⟨fun y hy => .inl hy, fun a ha _ _ _ _ _ ck => ne a ha (by unfold dyK; omega) (by omega)⟩, by omega, ⟨fun f _ _ _ => et.2.1 f, et.2.2.1⟩, ⟨fun f _ _ => e9.2.1 f, e9.2.2.1⟩, C, by omega, by omega, by omega, by rw [e138.2.2.2.2.2.2.2, e122.2.2.2.2.2.2.2]; omega⟩, nlm, rs, e22, C⟩
  obtain ⟨es, el⟩ := GVC_ll V S
  rw [es, el] at hx
  exact Hg x hx
end LCD
