set_option maxRecDepth 100000
/-! THE COMPONENT: a given's own dictionaries -/
/-- the class so many steps above -/
def upA (ab : List (Option Nat)) : Nat → Nat → Option Nat
  | 0, k => some k
  | s + 1, k => (upA ab s k).bind fun k' => (ab[k']?).bind id
/-- a dictionary in a given's row -/
def gAo (h : om_H) (cl : Nat → Nat) (ab : List (Option Nat)) (g1 j A s a : Nat) : Prop := (a ≠ 0 ∧ a < hz h ∧ kd h a = 36) ∧ (fR h 1626 a = 0 ∧ fR h 1638 a = 0 ∧ fR h 1642 a = 0 ∧ fR h 1630 a = 0 ∧ fR h 1634 a = 0) ∧ (∃ k, upA ab s g1 = some k ∧ fR h 1614 a = cl k) ∧ ((s = 0 ∧ fI h 1616 a = (j : Int) ∧ fR h 1622 a = 0) ∨ (0 < s ∧ fI h 1616 a = -1 ∧ fR h 1622 a = aR h A (s - 1) ∧ aR h A (s - 1) ≠ 0))
/-- a given's row of dictionaries -/
def gAr (h : om_H) (cl : Nat → Nat) (ab : List (Option Nat)) (g1 j A : Nat) : Prop := (A ≠ 0 ∧ A < hz h ∧ kd h A = 57 ∧ an h A = 8) ∧ ∀ s, s < 8 → aR h A s = 0 ∨ gAo h cl ab g1 j A s (aR h A s)
section LGD
variable {G : om_G} {h h2 : om_H} {N : List (List Int)} {cl : Nat → Nat} {U Sl : Nat → Prop} {io : Nat → Nat} {ab : List (Option Nat)} {ins : List INs} {g1 j A x : Nat}
theorem upA_front {k k' : Nat} (e : ab[k]? = some (some k')) : ∀ s, upA ab (s + 1) k = upA ab s k'
  | 0 => by
    show (some k).bind (fun k' => (ab[k']?).bind id) = _
    rw [Option.bind_some, e]
    rfl
  | s + 1 => by
    show (upA ab (s + 1) k).bind _ = (upA ab s k').bind _
    rw [upA_front e s]
theorem stpA_up {a : Nat} : ∀ {f k m : Nat}, stpA ab f k a = some m → upA ab m k = some a ∧ m < f ∧ ∀ s, s ≤ m → (upA ab s k).isSome = true
  | 0, _, _, e => by cases e
  | f + 1, k, m, e => by
    rw [stpA_s] at e
    by_cases q : k = a
    · rw [if_pos q] at e
      have m0 : 0 = m := Option.some.inj e
      subst m0 q
      exact ⟨rfl, by omega, fun s hs => by rw [show s = 0 by omega]; rfl⟩
    · rw [if_neg q] at e
      cases qa : ab[k]? with
      | none => rw [qa] at e; cases e
      | some o =>
        rw [qa] at e
        cases o with
        | none => cases e
        | some k' =>
          have e' : (stpA ab f k' a).map (fun n => n + 1) = some m := e
          cases qs : stpA ab f k' a with
          | none => rw [qs] at e'; cases e'
          | some m' =>
            rw [qs] at e'
            have em : m' + 1 = m := Option.some.inj e'
            subst em
            obtain ⟨i1, i2, i3⟩ := stpA_up qs
            refine ⟨by rw [upA_front qa]; exact i1, by omega, fun s hs => ?_⟩
            cases s with
            | zero => rfl
            | succ s => rw [upA_front qa]; exact i3 s (by omega)
/-- one more dictionary in the row -/
theorem gAr_put (H : gAr h cl ab g1 j A) {s n : Nat} (hs : s < 8) (hn : hz h ≤ n) (z0 : aR h A s = 0) (X : hT (fun y => y = A) h h2) (ka : an h2 A = 8) (ks : aR h2 A s = n) (ko : ∀ t, t ≠ s → aR h2 A t = aR h A t) (O : gAo h2 cl ab g1 j A s n) : gAr h2 cl ab g1 j A := by
  obtain ⟨⟨a1, a2, a3, a4⟩, b⟩ := H
  refine ⟨⟨a1, Nat.lt_of_lt_of_le a2 X.1, by rw [X.2.2.1 A a2]; exact a3, ka⟩, fun t ht => ?_⟩
  by_cases q : t = s
  · rw [q, ks]; exact .inr O
  · rw [ko t q]
    rcases b t ht with b | ⟨⟨c1, c2, c3⟩, ⟨c4, c5, c6, c6a, c6b⟩, ⟨k, c7, c8⟩, c9⟩
    · exact .inl b
    · have e := X.2.2.2 _ c2 (fun z => by rw [z, a3] at c3; omega)
      refine .inr ⟨⟨c1, Nat.lt_of_lt_of_le c2 X.1, by rw [e.1]; exact c3⟩, ⟨by rw [e.2.2.1]; exact c4, by rw [e.2.2.1]; exact c5, by rw [e.2.2.1]; exact c6, by rw [e.2.2.1]; exact c6a, by rw [e.2.2.1]; exact c6b⟩, ⟨k, c7, by rw [e.2.2.1]; exact c8⟩, ?_⟩
      rw [e.2.1, e.2.2.1]
      rcases c9 with c9 | ⟨d1, d2, d3, d4⟩
      · exact .inl c9
      · refine .inr ⟨d1, d2, ?_, ?_⟩
        · by_cases q2 : t - 1 = s
          · rw [q2] at d4; exact absurd z0 d4
          · rw [ko _ q2]; exact d3
        · by_cases q2 : t - 1 = s
          · rw [q2] at d4; exact absurd z0 d4
          · rw [ko _ q2]; exact d4
/-- the loop: rows above -/
theorem c_gdLoop (P : PGC h N cl U Sl io ab ins) {m : Nat} (hm : m < 8) : ∀ (n s : Nat) (h1 : om_H), m + 1 - s = n → 1 ≤ s → s ≤ m + 1 → gAr h1 cl ab g1 j A → (kd h1 x = 22 ∧ x < hz h1 ∧ fR h1 1358 x = A) → aR h1 A (s - 1) ≠ 0 → (∀ t, t ≤ m → (upA ab t g1).isSome = true) → (∀ t k, t ≤ m → upA ab t g1 = some k → clO h1 cl k ∧ fR h1 1226 (cl k) = ((ab[k]?).bind id).elim 0 cl) → ∃ h', om_loop (C_21_dictionary_54s G x (m : Int)) ((s : Int), h1) = some h' ∧ hT (fun y => y = A) h1 h' ∧ gAr h' cl ab g1 j A ∧ aR h' A m ≠ 0 ∧ hz h' ≤ hz h1 + n ∧ hu h' ≤ hu h1 + 8 * n ∧ (∀ t, aR h' A t = aR h1 A t ∨ (aR h1 A t = 0 ∧ hz h1 ≤ aR h' A t)) ∧ ((∀ t, t ≤ m → aR h1 A t ≠ 0) → h' = h1)
  | 0, s, h1, en, s1, sm, H, Hx, hp, _, _ => by
    refine ⟨h1, om_loop_out ?_, hT_refl _ _, H, by rw [show m = s - 1 by omega]; exact hp, by omega, by omega, fun t => .inl rfl, fun _ => rfl⟩
    unfold C_21_dictionary_54s
    rw [if_pos (by show (m : Int) < (s : Int); omega)]
  | n + 1, s, h1, en, s1, sm, H, Hx, hp, Hu, Hc => by
    obtain ⟨⟨a1, a2, a3, a4⟩, b⟩ := id H
    obtain ⟨x1, x2, x3⟩ := Hx
    have sN : ((s : Int)).toNat = s := by omega
    have w1 : w32 ((s : Int) - 1) = ((s - 1 : Nat) : Int) := by rw [w32_s (by omega) (by omega)]; omega
    have w2 : w32 ((s : Int) + 1) = ((s + 1 : Nat) : Int) := by rw [w32_s (by omega) (by omega)]; omega
    have s1N : (((s - 1 : Nat) : Int)).toNat = s - 1 := by omega
    by_cases q : aR h1 A s = 0
    · -- a new one
      have ob := (b (s - 1) (by omega)).resolve_left hp
      obtain ⟨⟨c1, c2, c3⟩, _, ⟨k, c7, c8⟩, _⟩ := ob
      obtain ⟨hk, ek⟩ := Hc (s - 1) k (by omega) c7
      generalize ed : aR h1 A (s - 1) = d at *
      have kdN : ∀ y, y < hz h1 → kd (nO h1 36 8) y = kd h1 y := fun y hy => by rw [kd_nO, if_neg (by omega)]
      have frN : ∀ f y, y < hz h1 → fR (nO h1 36 8) f y = fR h1 f y := fun f y hy => by rw [fR_nO, if_neg (by omega)]
      have kn : kd (nO h1 36 8) (hz h1) = 36 := by rw [kd_nO, if_pos rfl]
      have e1358 : fR (nO h1 36 8) 1358 x = A := by rw [frN _ _ x2]; exact x3
      have e1614 : fR (nO h1 36 8) 1614 d = cl k := by rw [frN _ _ c2]; exact c8
      have e1226 : fR (nO h1 36 8) 1226 (cl k) = fR h1 1226 (cl k) := frN _ _ hk.2.1
      have nA : A ≠ hz h1 := by omega
      have nx : x ≠ hz h1 := by omega
      generalize eh : sR (pR (sR (sI (nO h1 36 8) 1616 (hz h1) (-1)) 1614 (hz h1) (fR h1 1226 (cl k))) A s (hz h1)) 1622 (hz h1) d = h3
      have aRn : aR (pR (sR (sI (nO h1 36 8) 1616 (hz h1) (-1)) 1614 (hz h1) (fR h1 1226 (cl k))) A s (hz h1)) A s = hz h1 := if_pos ⟨rfl, rfl⟩
      have aRo : ∀ t, t ≠ s → aR (pR (sR (sI (nO h1 36 8) 1616 (hz h1) (-1)) 1614 (hz h1) (fR h1 1226 (cl k))) A s (hz h1)) A t = aR h1 A t := fun t ht => if_neg (fun z => ht z.2)
      have st : C_21_dictionary_54s G x (m : Int) ((s : Int), h1) = some (.inl (((s + 1 : Nat) : Int), h3)) := by
        unfold C_21_dictionary_54s
        simp only
        rw [if_neg (by omega), x3, gd_pos ⟨x1, a3, by omega, by omega⟩, sN, if_pos q, e1358, w1, s1N, ed, e1614, e1226]
        rw [gd_pos ⟨x1, by rw [kdN _ x2]; exact x1, by rw [kdN _ a2]; exact a3, by omega, by omega, by rw [kdN _ c2]; exact c3, by rw [kdN _ hk.2.1]; exact hk.2.2.1, kn⟩]
        unfold C_36_init
        rw [gd_pos kn, Option.bind_some]
        have f1358 : fR (sR (sI (nO h1 36 8) 1616 (hz h1) (-1)) 1614 (hz h1) (fR h1 1226 (cl k))) 1358 x = A := by rw [fR_ne (by decide)]; exact e1358
        rw [f1358, aRn, aRo (s - 1) (by omega), ed, w2, eh]
        have kA : kd (sR (sI (nO h1 36 8) 1616 (hz h1) (-1)) 1614 (hz h1) (fR h1 1226 (cl k))) A = 57 := by
          show kd (nO h1 36 8) A = 57
          rw [kdN _ a2]; exact a3
        have anA : an (sR (sI (nO h1 36 8) 1616 (hz h1) (-1)) 1614 (hz h1) (fR h1 1226 (cl k))) A = 8 := a4
        rw [gd_pos ⟨kA, by omega, by rw [anA]; omega, kn, by show kd (nO h1 36 8) x = 22; rw [kdN _ x2]; exact x1, kA, by omega, by rw [anA]; omega, by omega, by rw [anA]; omega, kn⟩]
      have X3 : hT (fun y => y = A) h1 h3 := by
        rw [← eh]
        refine ⟨by show hz h1 ≤ hz h1 + 1; omega, by show hu h1 ≤ hu h1 + 8; omega, fun y hy => kdN y hy, fun y hy nd => ⟨kdN y hy, fun f => ?_, fun f => ?_, rfl, fun i => rfl, fun i => ?_, rfl, rfl⟩⟩
        · show fI (sI (nO h1 36 8) 1616 (hz h1) (-1)) f y = _
          rw [fI_na (by omega), fI_nO, if_neg (by omega)]
        · rw [fR_na (by omega)]
          show fR (sR (sI (nO h1 36 8) 1616 (hz h1) (-1)) 1614 (hz h1) (fR h1 1226 (cl k))) f y = _
          rw [fR_na (by omega)]
          exact frN f y hy
        · exact if_neg (fun z => nd z.1)
      have ks : aR h3 A s = hz h1 := by rw [← eh]; exact aRn
      have ko : ∀ t, t ≠ s → aR h3 A t = aR h1 A t := fun t ht => by rw [← eh]; exact aRo t ht
      obtain ⟨kk, hkk⟩ := Option.isSome_iff_exists.mp (Hu s (by omega))
      have up : upA ab s g1 = (ab[k]?).bind id := by
        have : upA ab s g1 = (upA ab (s - 1) g1).bind (fun k' => (ab[k']?).bind id) := by
          rw [show s = (s - 1) + 1 by omega]; rfl
        rw [this, c7]; rfl
      have hz3 : hz h3 = hz h1 + 1 := by rw [← eh]; rfl
      have hu3 : hu h3 = hu h1 + 8 := by rw [← eh]; rfl
      have zr : ∀ f, f ≠ 1622 → f ≠ 1614 → fR h3 f (hz h1) = 0 := fun f q1 q2 => by
        rw [← eh, fR_ne q1]
        show fR (sR (sI (nO h1 36 8) 1616 (hz h1) (-1)) 1614 (hz h1) (fR h1 1226 (cl k))) f (hz h1) = 0
        rw [fR_ne q2]
        show fR (nO h1 36 8) f (hz h1) = 0
        rw [fR_nO, if_pos rfl]
      have O : gAo h3 cl ab g1 j A s (hz h1) := by
        refine ⟨⟨by omega, by omega, by rw [← eh]; exact kn⟩, ⟨zr _ (by decide) (by decide), zr _ (by decide) (by decide), zr _ (by decide) (by decide), zr _ (by decide) (by decide), zr _ (by decide) (by decide)⟩, ⟨kk, hkk, ?_⟩, .inr ⟨by omega, ?_, ?_, ?_⟩⟩
        · rw [← eh, fR_ne (by decide)]
          show fR (sR (sI (nO h1 36 8) 1616 (hz h1) (-1)) 1614 (hz h1) (fR h1 1226 (cl k))) 1614 (hz h1) = _
          rw [fR_eq, ek, ← up, hkk]
          rfl
        · rw [← eh]
          show fI (sI (nO h1 36 8) 1616 (hz h1) (-1)) 1616 (hz h1) = _
          rw [fI_eq]
        · rw [ko _ (by omega), ed, ← eh, fR_eq]
        · rw [ko _ (by omega), ed]; exact c1
      have H3 := gAr_put H (by omega) (Nat.le_refl _) q X3 (by rw [← eh]; exact a4) ks ko O
      have x3' : eqA x h1 h3 := X3.2.2.2 x x2 (fun z => by rw [z, a3] at x1; omega)
      obtain ⟨h', r1, r2, r3, r4, r5, r6, r7, r8⟩ := c_gdLoop P hm n (s + 1) h3 (by omega) (by omega) (by omega) H3 ⟨by rw [x3'.1]; exact x1, by omega, by rw [x3'.2.2.1]; exact x3⟩ (by rw [show s + 1 - 1 = s by omega, ks]; omega) Hu (fun t k' ht hu' => by
        obtain ⟨u1, u2⟩ := Hc t k' ht hu'
        have e := X3.2.2.2 _ u1.2.1 (fun z => by have := u1.2.2.1; rw [z, a3] at this; omega)
        exact ⟨⟨u1.1, Nat.lt_of_lt_of_le u1.2.1 X3.1, by rw [e.1]; exact u1.2.2.1, by rw [e.2.1]; exact u1.2.2.2⟩, by rw [e.2.2.1]; exact u2⟩)
      refine ⟨h', by rw [om_loop_in st]; exact r1, hT_trans X3 r2 (fun y _ z => z), r3, r4, by omega, by omega, fun t => ?_, fun w => absurd q (w s (by omega))⟩
      rcases r7 t with e | e
      · by_cases ts : t = s
        · right; rw [e, ts, ks]; exact ⟨q, Nat.le_refl _⟩
        · left; rw [e, ko t ts]
      · have ts : t ≠ s := fun w => by rw [w, ks] at e; omega
        right; rw [ko t ts] at e; exact ⟨e.1, by omega⟩
    · have st : C_21_dictionary_54s G x (m : Int) ((s : Int), h1) = some (.inl (((s + 1 : Nat) : Int), h1)) := by
        unfold C_21_dictionary_54s
        simp only
        rw [if_neg (by omega), x3, gd_pos ⟨x1, a3, by omega, by omega⟩, sN, if_neg q, w2]
      obtain ⟨h', r1, r2, r3, r4, r5, r6, r7, r8⟩ := c_gdLoop P hm n (s + 1) h1 (by omega) (by omega) (by omega) H ⟨x1, x2, x3⟩ (by rw [show s + 1 - 1 = s by omega]; exact q) Hu Hc
      exact ⟨h', by rw [om_loop_in st]; exact r1, r2, r3, r4, by omega, by omega, r7, r8⟩
end LGD
