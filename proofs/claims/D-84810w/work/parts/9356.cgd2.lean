set_option maxRecDepth 100000
/-! THE COMPONENT: the dictionary of a given -/
/-- a given's row, if there is one yet -/
def gvH (h : om_H) (cl : Nat → Nat) (ab : List (Option Nat)) (g1 j x : Nat) : Prop := fR h 1358 x = 0 ∨ gAr h cl ab g1 j (fR h 1358 x)
section LGE
variable {G : om_G} {h h2 : om_H} {N : List (List Int)} {cl : Nat → Nat} {U Sl : Nat → Prop} {io : Nat → Nat} {ab : List (Option Nat)} {ins : List INs} {g1 j A x : Nat}
theorem stpA_le (P : PGC h N cl U Sl io ab ins) {a : Nat} : ∀ {f k m : Nat}, clO h cl k → stpA ab f k a = some m → m ≤ k
  | 0, _, _, _, e => by cases e
  | f + 1, k, m, hk, e => by
    rw [stpA_s] at e
    by_cases q : k = a
    · rw [if_pos q] at e
      have m0 : 0 = m := Option.some.inj e
      omega
    · rw [if_neg q] at e
      obtain ⟨⟨o, o1, o2, o3⟩, _⟩ := P.1 k hk
      rw [o1] at e
      cases o with
      | none => cases e
      | some k' =>
        have e' : (stpA ab f k' a).map (fun n => n + 1) = some m := e
        cases qs : stpA ab f k' a with
        | none => rw [qs] at e'; cases e'
        | some m' =>
          rw [qs] at e'
          have em : m' + 1 = m := Option.some.inj e'
          obtain ⟨lt, hk'⟩ := o3 k' rfl
          have := stpA_le P hk' qs
          omega
theorem gAr_down (H : gAr h cl ab g1 j A) : ∀ {m : Nat}, m < 8 → aR h A m ≠ 0 → ∀ t, t ≤ m → aR h A t ≠ 0
  | 0, _, n, t, ht => by rw [show t = 0 by omega]; exact n
  | m + 1, hm, n, t, ht => by
    by_cases q : t = m + 1
    · rw [q]; exact n
    · rcases ((H.2 (m + 1) hm).resolve_left n).2.2.2 with w | w
      · omega
      · exact gAr_down H (by omega) w.2.2.2 t (by omega)
theorem upA_cl (P : PGC h N cl U Sl io ab ins) (hg : clO h cl g1) : ∀ {t k : Nat}, upA ab t g1 = some k → clO h cl k ∧ fR h 1226 (cl k) = ((ab[k]?).bind id).elim 0 cl := by
  have fin : ∀ {k : Nat}, clO h cl k → fR h 1226 (cl k) = ((ab[k]?).bind id).elim 0 cl := fun {k} hk => by
    obtain ⟨⟨o, o1, o2, o3⟩, _⟩ := P.1 k hk
    rw [o1]; exact o2
  have main : ∀ (t k : Nat), upA ab t g1 = some k → clO h cl k := fun t => by
    induction t with
    | zero =>
      intro k e
      have : g1 = k := Option.some.inj e
      rw [← this]; exact hg
    | succ t ih =>
      intro k e
      have e' : (upA ab t g1).bind (fun k' => (ab[k']?).bind id) = some k := e
      cases q : upA ab t g1 with
      | none => rw [q] at e'; cases e'
      | some k' =>
        rw [q, Option.bind_some] at e'
        obtain ⟨⟨o, o1, o2, o3⟩, _⟩ := P.1 k' (ih k' q)
        rw [o1] at e'
        exact (o3 k e').2
  exact fun {t k} e => ⟨main t k e, fin (main t k e)⟩
/-- THE DICTIONARY OF A GIVEN -/
theorem c_gDict (P : PGC h N cl U Sl io ab ins) (h8 : ab.length ≤ 8) (hg : clO h cl g1) {c m : Nat} (em : stpA ab 9 g1 c = some m) (Hx : kd h x = 22 ∧ x < hz h ∧ fR h 1350 x = cl g1) (H : gvH h cl ab g1 j x) : ∃ a h', C_21_dictionary G x (j : Int) (m : Int) h = some (a, h') ∧ hT (fun y => y = x ∨ (kd h y = 57 ∧ y = fR h 1358 x)) h h' ∧ ((∀ f, fI h' f x = fI h f x) ∧ ∀ f, f ≠ 1358 → fR h' f x = fR h f x) ∧ (gAr h' cl ab g1 j (fR h' 1358 x) ∧ (fR h' 1358 x = fR h 1358 x ∨ hz h ≤ fR h' 1358 x)) ∧ aR h' (fR h' 1358 x) m = a ∧ gAo h' cl ab g1 j (fR h' 1358 x) m a ∧ upA ab m g1 = some c ∧ (hz h' ≤ hz h + 10 ∧ hu h' ≤ hu h + 100) ∧ ((fR h' 1358 x = fR h 1358 x ∧ (∀ t, aR h' (fR h 1358 x) t = aR h (fR h 1358 x) t ∨ (aR h (fR h 1358 x) t = 0 ∧ hz h ≤ aR h' (fR h 1358 x) t)) ∧ (aR h (fR h 1358 x) m ≠ 0 → h' = h)) ∨ (fR h 1358 x = 0 ∧ ∀ t, aR h' (fR h' 1358 x) t = 0 ∨ hz h ≤ aR h' (fR h' 1358 x) t)) := by
  obtain ⟨x1, x2, x4⟩ := Hx
  obtain ⟨⟨oo, oo1, _⟩, _⟩ := P.1 g1 hg
  have kl := (List.getElem?_eq_some_iff.mp oo1).1
  have mle := stpA_le P hg em
  have m8 : m < 8 := by omega
  obtain ⟨u1, _, u3⟩ := stpA_up em
  -- the row
  have s1 : ∃ A h0, C_21_dictionary G x (j : Int) (m : Int) h = C_21_dictionary_16 G x (j : Int) (m : Int) h0 ∧ hT (fun y => y = x ∨ (kd h y = 57 ∧ y = fR h 1358 x)) h h0 ∧ ((∀ f, fI h0 f x = fI h f x) ∧ ∀ f, f ≠ 1358 → fR h0 f x = fR h f x) ∧ fR h0 1358 x = A ∧ gAr h0 cl ab g1 j A ∧ (A = fR h 1358 x ∨ hz h ≤ A) ∧ hz h0 ≤ hz h + 1 ∧ hu h0 ≤ hu h + 8 ∧ ((A = fR h 1358 x ∧ h0 = h) ∨ (fR h 1358 x = 0 ∧ ∀ t, aR h0 A t = 0)) := by
    unfold C_21_dictionary
    rw [gd_pos x1]
    by_cases q : fR h 1358 x = 0
    · rw [if_neg (fun z => z q)]
      have kx : kd (nA h 57 8) x = 22 := by
        show (if x = hz h then 57 else kd h x) = 22
        rw [if_neg (by omega)]; exact x1
      rw [gd_pos kx]
      refine ⟨hz h, _, rfl, ⟨by show hz h ≤ hz h + 1; omega, by show hu h ≤ hu h + 8; omega, fun y hy => ?_, fun y hy nd => ⟨?_, fun f => rfl, fun f => ?_, ?_, fun i => ?_, fun i => ?_, rfl, rfl⟩⟩, ⟨fun f => rfl, fun f hf => fR_ne hf⟩, fR_eq, ⟨⟨by omega, by show hz h < hz h + 1; omega, if_pos rfl, if_pos rfl⟩, fun s hs => .inl (if_pos rfl)⟩, .inr (Nat.le_refl _), Nat.le_refl _, Nat.le_refl _, .inr ⟨q, fun t => if_pos rfl⟩⟩
      · exact if_neg (show ¬ y = hz h by omega)
      · exact if_neg (show ¬ y = hz h by omega)
      · exact fR_na (fun z => nd (.inl z))
      · exact if_neg (show ¬ y = hz h by omega)
      · exact if_neg (show ¬ y = hz h by omega)
      · exact if_neg (show ¬ y = hz h by omega)
    · rw [if_pos q]
      exact ⟨fR h 1358 x, h, rfl, hT_refl _ _, ⟨fun _ => rfl, fun _ _ => rfl⟩, rfl, H.resolve_left q, .inl rfl, by omega, by omega, .inl ⟨rfl, rfl⟩⟩
  obtain ⟨A, h0, e0, X0, ⟨fi0, fr0⟩, eA, H0, hA, z0, w0, v0⟩ := s1
  rw [e0]
  obtain ⟨⟨a1, a2, a3, a4⟩, b⟩ := id H0
  have xk0 : kd h0 x = 22 ∧ x < hz h0 := ⟨by rw [X0.2.2.1 _ x2]; exact x1, Nat.lt_of_lt_of_le x2 X0.1⟩
  have Hc0 : ∀ t k, t ≤ m → upA ab t g1 = some k → clO h0 cl k ∧ fR h0 1226 (cl k) = ((ab[k]?).bind id).elim 0 cl := fun t k _ e => by
    obtain ⟨p1, p2⟩ := upA_cl P hg e
    have e' := X0.2.2.2 _ p1.2.1 (fun z => by
      rcases z with z | z
      · have := p1.2.2.1; rw [z, x1] at this; omega
      · have := p1.2.2.1; omega)
    exact ⟨⟨p1.1, Nat.lt_of_lt_of_le p1.2.1 X0.1, by rw [e'.1]; exact p1.2.2.1, by rw [e'.2.1]; exact p1.2.2.2⟩, by rw [e'.2.2.1]; exact p2⟩
  -- the first one
  have s2 : ∃ h1, C_21_dictionary_16 G x (j : Int) (m : Int) h0 = C_21_dictionary_52 G x (m : Int) h1 ∧ hT (fun y => y = A) h0 h1 ∧ gAr h1 cl ab g1 j A ∧ aR h1 A 0 ≠ 0 ∧ hz h1 ≤ hz h0 + 1 ∧ hu h1 ≤ hu h0 + 8 ∧ (∀ t, aR h1 A t = aR h0 A t ∨ (aR h0 A t = 0 ∧ hz h0 ≤ aR h1 A t)) ∧ (aR h0 A 0 ≠ 0 → h1 = h0) := by
    unfold C_21_dictionary_16
    rw [eA, gd_pos ⟨xk0.1, a3, by rw [a4]; decide⟩]
    by_cases q : aR h0 A 0 = 0
    · rw [if_neg (fun z => z q)]
      have kdN : ∀ y, y < hz h0 → kd (nO h0 36 8) y = kd h0 y := fun y hy => by rw [kd_nO, if_neg (by omega)]
      have frN : ∀ f y, y < hz h0 → fR (nO h0 36 8) f y = fR h0 f y := fun f y hy => by rw [fR_nO, if_neg (by omega)]
      have kn : kd (nO h0 36 8) (hz h0) = 36 := by rw [kd_nO, if_pos rfl]
      have e1350 : fR (nO h0 36 8) 1350 x = cl g1 := by rw [frN _ _ xk0.2, fr0 _ (by decide)]; exact x4
      rw [gd_pos ⟨xk0.1, by rw [kdN _ xk0.2]; exact xk0.1, kn⟩, e1350]
      unfold C_36_init
      rw [gd_pos kn, Option.bind_some]
      have f1358 : fR (sR (sI (nO h0 36 8) 1616 (hz h0) (-1)) 1614 (hz h0) (cl g1)) 1358 x = A := by rw [fR_ne (by decide)]; show fR (nO h0 36 8) 1358 x = A; rw [frN _ _ xk0.2]; exact eA
      have aRn : aR (pR (sR (sI (nO h0 36 8) 1616 (hz h0) (-1)) 1614 (hz h0) (cl g1)) A (0 : Int).toNat (hz h0)) A 0 = hz h0 := if_pos ⟨rfl, rfl⟩
      have aRo : ∀ t, t ≠ 0 → aR (pR (sR (sI (nO h0 36 8) 1616 (hz h0) (-1)) 1614 (hz h0) (cl g1)) A (0 : Int).toNat (hz h0)) A t = aR h0 A t := fun t ht => if_neg (fun z => ht z.2)
      have kA : kd (sR (sI (nO h0 36 8) 1616 (hz h0) (-1)) 1614 (hz h0) (cl g1)) A = 57 := by
        show kd (nO h0 36 8) A = 57
        rw [kdN _ a2]; exact a3
      have anA : an (sR (sI (nO h0 36 8) 1616 (hz h0) (-1)) 1614 (hz h0) (cl g1)) A = 8 := a4
      rw [f1358, aRn, gd_pos ⟨kA, by omega, by rw [anA]; decide, kn, by show kd (nO h0 36 8) x = 22; rw [kdN _ xk0.2]; exact xk0.1, kA, by rw [anA]; decide, kn⟩]
      generalize eh : sI (pR (sR (sI (nO h0 36 8) 1616 (hz h0) (-1)) 1614 (hz h0) (cl g1)) A (0 : Int).toNat (hz h0)) 1616 (hz h0) (j : Int) = h3
      have X3 : hT (fun y => y = A) h0 h3 := by
        rw [← eh]
        refine ⟨by show hz h0 ≤ hz h0 + 1; omega, by show hu h0 ≤ hu h0 + 8; omega, fun y hy => kdN y hy, fun y hy nd => ⟨kdN y hy, fun f => ?_, fun f => ?_, rfl, fun i => rfl, fun i => ?_, rfl, rfl⟩⟩
        · rw [fI_na (by omega)]
          show fI (sI (nO h0 36 8) 1616 (hz h0) (-1)) f y = _
          rw [fI_na (by omega), fI_nO, if_neg (by omega)]
        · show fR (sR (sI (nO h0 36 8) 1616 (hz h0) (-1)) 1614 (hz h0) (cl g1)) f y = _
          rw [fR_na (by omega)]
          exact frN f y hy
        · exact if_neg (fun z => nd z.1)
      have zr : ∀ f, f ≠ 1614 → fR h3 f (hz h0) = 0 := fun f q2 => by
        rw [← eh]
        show fR (sR (sI (nO h0 36 8) 1616 (hz h0) (-1)) 1614 (hz h0) (cl g1)) f (hz h0) = 0
        rw [fR_ne q2]
        show fR (nO h0 36 8) f (hz h0) = 0
        rw [fR_nO, if_pos rfl]
      have ks : aR h3 A 0 = hz h0 := by rw [← eh]; exact aRn
      have O : gAo h3 cl ab g1 j A 0 (hz h0) := by
        refine ⟨⟨by omega, by rw [← eh]; show hz h0 < hz h0 + 1; omega, by rw [← eh]; exact kn⟩, ⟨zr _ (by decide), zr _ (by decide), zr _ (by decide), zr _ (by decide), zr _ (by decide)⟩, ⟨g1, rfl, ?_⟩, .inl ⟨rfl, ?_, zr _ (by decide)⟩⟩
        · rw [← eh]
          show fR (sR (sI (nO h0 36 8) 1616 (hz h0) (-1)) 1614 (hz h0) (cl g1)) 1614 (hz h0) = _
          rw [fR_eq]
        · rw [← eh, fI_eq]
      exact ⟨h3, rfl, X3, gAr_put H0 (by decide) (Nat.le_refl _) q X3 (by rw [← eh]; exact a4) ks (fun t ht => by rw [← eh]; exact aRo t ht) O, by rw [ks]; omega, by rw [← eh]; exact Nat.le_refl _, by rw [← eh]; exact Nat.le_refl _, fun t => by
        by_cases t0 : t = 0
        · right; rw [t0, ks]; exact ⟨q, Nat.le_refl _⟩
        · left; rw [← eh]; exact aRo t t0, fun w => absurd q w⟩
    · rw [if_pos q]
      exact ⟨h0, rfl, hT_refl _ _, H0, q, by omega, by omega, fun t => .inl rfl, fun _ => rfl⟩
  obtain ⟨h1, e1, X1, H1, p1, z1, w1, v1, v2⟩ := s2
  rw [e1]
  have ex1 : eqA x h0 h1 := X1.2.2.2 x xk0.2 (fun z => by rw [z, a3] at xk0; omega)
  obtain ⟨h', r1, r2, r3, r4, r5, r6, r7, r8⟩ := c_gdLoop (G := G) (x := x) P m8 m 1 h1 (by omega) (Nat.le_refl _) (by omega) H1 ⟨by rw [ex1.1]; exact xk0.1, Nat.lt_of_lt_of_le xk0.2 X1.1, by rw [ex1.2.2.1]; exact eA⟩ p1 u3 (fun t k ht e => by
    obtain ⟨y1, y2⟩ := Hc0 t k ht e
    have e' := X1.2.2.2 _ y1.2.1 (fun z => by have := y1.2.2.1; rw [z, a3] at this; omega)
    exact ⟨⟨y1.1, Nat.lt_of_lt_of_le y1.2.1 X1.1, by rw [e'.1]; exact y1.2.2.1, by rw [e'.2.1]; exact y1.2.2.2⟩, by rw [e'.2.2.1]; exact y2⟩)
  have X12 := hT_trans X1 r2 (fun y _ z => z)
  have ex2 : eqA x h0 h' := X12.2.2.2 x xk0.2 (fun z => by rw [z, a3] at xk0; omega)
  have eA' : fR h' 1358 x = A := by rw [ex2.2.2.1]; exact eA
  have r1' : om_loop (C_21_dictionary_54s G x (m : Int)) (1, h1) = some h' := r1
  refine ⟨aR h' A m, h', ?_, hT_trans X0 X12 (fun y hy z => ?_), ⟨fun f => (ex2.2.1 f).trans (fi0 f), fun f hf => (ex2.2.2.1 f).trans (fr0 f hf)⟩, ⟨by rw [eA']; exact r3, by rw [eA']; exact hA⟩, by rw [eA'], by rw [eA']; exact (r3.2 m m8).resolve_left r4, u1, ⟨by omega, by omega⟩, ?_⟩
  · unfold C_21_dictionary_52
    rw [r1', Option.bind_some, eA', gd_pos ⟨by rw [ex2.1]; exact xk0.1, r3.1.2.2.1, by omega, by rw [r3.1.2.2.2]; omega⟩, show ((m : Int)).toNat = m by omega]
  · rcases hA with e | e
    · refine .inr ⟨?_, z.trans e⟩
      rw [z, ← X0.2.2.1 A (by rw [← z]; exact hy)]
      exact a3
    · omega
  · rw [eA']
    have zz := X0.1
    have zz1 := X1.1
    rcases v0 with ⟨e3, e4⟩ | ⟨e3, e4⟩
    · left
      rw [e4] at v1 zz zz1
      refine ⟨e3, fun t => ?_, fun nm => ?_⟩
      · rw [← e3]
        rcases r7 t with e | ⟨e, e'⟩
        · rcases v1 t with e2 | ⟨e2, e2'⟩
          · left; rw [e, e2]
          · right; rw [e]; exact ⟨e2, e2'⟩
        · right
          rcases v1 t with e2 | ⟨e2, e2'⟩
          · exact ⟨by rw [← e2]; exact e, by omega⟩
          · exact ⟨e2, by omega⟩
      · have all := gAr_down H0 m8 (by rw [e4, e3]; exact nm)
        have e5 := v2 (all 0 (Nat.zero_le _))
        rw [r8 (fun t ht => by rw [e5]; exact all t ht), e5, e4]
    · right
      refine ⟨e3, fun t => ?_⟩
      rcases r7 t with e | ⟨e, e'⟩
      · rcases v1 t with e2 | ⟨e2, e2'⟩
        · left; rw [e, e2]; exact e4 t
        · right; rw [e]; omega
      · right; omega
end LGE
