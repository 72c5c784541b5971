set_option maxRecDepth 100000
/-! THE THIRD RULE: givens of functions (plain; the twin) -/
def gvE (g g' : GVs) : Bool := g'.1 == g.1 && g'.2.1 == g.2.1
/-- breaks of the given k, at place q -/
def gv1 (gv : List GVs) (k : Nat) (q : Int) : List Int := (gv[k]?).elim [] (fun g => if 100 ≤ g.1 then (if thB g.2.2 = true then [q] else []) ++ (if (gv.take k).any (gvE g) = true then [q] else []) else [])
def gvBs (gv : List GVs) (q : Nat → Int) : Nat → List Int
  | 0 => []
  | n + 1 => gvBs gv q n ++ gv1 gv n (q n)
/-- T_hasFamily -/
theorem t_hasF {σ : tS} {n : Nat} (hn : n ≤ 126000) : ∀ {k : Nat} {T : Ty} {t : Int}, tdp T < k → tyT σ n T t → T_hasFamilyD k t σ = some (if thB T = true then 1 else 0)
  | 0, _, _, h, _ => by omega
  | k + 1, .leaf, t, _, c => by
    have e : t = -1 := c
    show T_hasFamilyB (T_hasFamilyD k) t σ = _
    unfold T_hasFamilyB
    rw [if_pos e]
    rfl
  | k + 1, .inner kk w u l r, t, h, ⟨m, c1, c2, c3, c4, c5, c6⟩ => by
    have hd : 1 + max (tdp l) (tdp r) < k + 1 := h
    have mN : ((m : Int)).toNat = m := by omega
    have il := t_hasF hn (k := k) (T := l) (by omega) c5
    have ir := t_hasF hn (k := k) (T := r) (by omega) c6
    show T_hasFamilyB (T_hasFamilyD k) t σ = some (if (kk == 2 || thB l || thB r) = true then 1 else 0)
    unfold T_hasFamilyB
    rw [c1, if_neg (by omega), if_pos (by omega), mN, c3]
    have e46 : ∀ s : Int, s = 0 ∨ s = 1 → T_hasFamily_46 (T_hasFamilyD k) s σ = some s := fun s hs => by unfold T_hasFamily_46; rw [if_pos hs]
    by_cases k2 : kk = 2
    · subst k2
      rw [if_pos (show ((2 : Nat) : Int) = 2 from rfl), e46 1 (.inr rfl)]
      simp
    · rw [if_neg (by omega), if_pos (by omega)]
      cases el : thB l with
      | true =>
        rw [el, if_pos rfl] at il
        rw [il, Option.bind_some, if_pos (by decide), e46 1 (.inr rfl)]
        simp
      | false =>
        rw [el, if_neg (by decide)] at il
        rw [il, Option.bind_some, if_neg (fun z => z rfl), if_pos (by omega)]
        cases er : thB r with
        | true =>
          rw [er, if_pos rfl] at ir
          rw [ir, Option.bind_some, if_neg (by decide), e46 1 (.inr rfl)]
          simp
        | false =>
          rw [er, if_neg (by decide)] at ir
          rw [ir, Option.bind_some, if_pos rfl, e46 0 (.inl rfl)]
          simp [k2]
theorem ixF_inj {l : List Nat} {a b i j : Nat} (h1 : ixF (fun x => x == a) l = some i) (h2 : ixF (fun x => x == b) l = some j) : i = j ↔ a = b := by
  constructor
  · intro e
    subst e
    obtain ⟨x, x1, x2⟩ := ixF_some h1
    obtain ⟨y, y1, y2⟩ := ixF_some h2
    rw [x1] at y1
    have exy := Option.some.inj y1
    have x2' : x = a := by simpa using x2
    have y2' : y = b := by simpa using y2
    omega
  · intro e
    subst e
    rw [h1] at h2
    exact Option.some.inj h2
section LTG
variable {σ τ : tS} {f n : Nat} {sc : List Nat} {gv : List GVs}
/-- the givens' row in the twin -/
def GvR (σ : tS) (n f : Nat) (sc : List Nat) (gv : List GVs) : Prop := ∀ (j : Nat) (g : GVs), gv[j]? = some g → ga σ 750 (4 * f + j) = (g.1 : Int) ∧ (∃ k : Nat, ga σ 754 (4 * f + j) = (k : Int) ∧ ixF (fun x => x == g.2.1) sc = some k) ∧ tyT σ n g.2.2 (ga σ 758 (4 * f + j)) ∧ tdp g.2.2 < 70
/-- givens ahead -/
theorem t_gdup {k o t q : Nat} {g : GVs} (hf : f < 24) (hk : k < 4) (eg : gv[k]? = some g) (V : GvR σ n f sc gv) (ho : o < 8400) (e542 : ga σ 542 o = (t : Int)) (ht : t < 4100) (e474 : ga σ 474 t = (q : Int)) (hq : q ≤ 2000) : ∀ (d j : Nat) (σ1 : tS), j + d = k → fr [452, 456] [] σ σ1 → bp σ1 = mnl (bp σ) (if (gv.take j).any (gvE g) = true then [(q : Int)] else []) → (gs σ1 452 = gs σ 452 ∨ gs σ1 452 = 3) → ∃ τ, om_loop (T_third_462s (f : Int) (o : Int) ((4 * f + k : Nat) : Int)) (((4 * f + j : Nat) : Int), σ1) = some τ ∧ fr [452, 456] [] σ τ ∧ bp τ = mnl (bp σ) (if (gv.take k).any (gvE g) = true then [(q : Int)] else []) ∧ (gs τ 452 = gs σ 452 ∨ gs τ 452 = 3)
  | 0, j, σ1, e, F, eb, e4 => by
    refine ⟨σ1, om_loop_out ?_, F, by rw [show k = j by omega]; exact eb, e4⟩
    unfold T_third_462s
    simp only
    rw [if_pos (by omega)]
  | d + 1, j, σ1, e, F, eb, e4 => by
    have kl := (List.getElem?_eq_some_iff.mp eg).1
    have ej : gv[j]? = some (gv[j]'(by omega)) := List.getElem?_eq_getElem (by omega)
    generalize gv[j]'(by omega) = g' at ej
    obtain ⟨v1, ⟨i1, v2, v3⟩, _⟩ := V k g eg
    obtain ⟨u1, ⟨i2, u2, u3⟩, _⟩ := V j g' ej
    have tk : gv.take (j + 1) = gv.take j ++ [g'] := by rw [List.take_succ, ej]; rfl
    have any1 : (gv.take (j + 1)).any (gvE g) = ((gv.take j).any (gvE g) || gvE g g') := by rw [tk, List.any_append]; simp
    have jN : (((4 * f + j : Nat) : Int)).toNat = 4 * f + j := by omega
    have kN : (((4 * f + k : Nat) : Int)).toNat = 4 * f + k := by omega
    have wk : w32 (((4 * f + j : Nat) : Int) + 1) = ((4 * f + (j + 1) : Nat) : Int) := by rw [w32_s (by omega) (by omega)]; omega
    obtain ⟨σ2, s1, F2, eb2, e42⟩ : ∃ σ2, T_third_462s (f : Int) (o : Int) ((4 * f + k : Nat) : Int) (((4 * f + j : Nat) : Int), σ1) = some (.inl (((4 * f + (j + 1) : Nat) : Int), σ2)) ∧ fr [452, 456] [] σ σ2 ∧ bp σ2 = mnl (bp σ) (if (gv.take (j + 1)).any (gvE g) = true then [(q : Int)] else []) ∧ (gs σ2 452 = gs σ 452 ∨ gs σ2 452 = 3) := by
      unfold T_third_462s
      simp only
      rw [if_neg (by omega), if_pos (by omega), jN, kN, F.2 750 (by simp), F.2 750 (by simp), u1, v1, any1]
      by_cases c1 : g'.1 = g.1
      · rw [if_neg (fun z => z (by omega)), if_pos (by omega), F.2 754 (by simp), F.2 754 (by simp), u2, v2]
        by_cases c2 : g'.2.1 = g.2.1
        · have ei := (ixF_inj u3 v3).mpr c2
          have gE : gvE g g' = true := by unfold gvE; simp [c1, c2]
          rw [if_neg (fun z => z (by omega)), if_pos (by omega), show ((o : Int)).toNat = o by omega, F.2 542 (by simp), e542]
          obtain ⟨σ2, a1, a2, a3, a4⟩ := t_brk (σ := σ1) (w := 3) ht (by rw [F.2 474 (by simp)]; exact e474) hq (by decide)
          rw [a1, Option.bind_some, wk]
          refine ⟨σ2, rfl, fr_trans F a2, ?_, .inr a3⟩
          rw [a4, eb, gE, Bool.or_true, if_pos rfl]
          split
          · show min (min (bp σ) (q : Int)) (q : Int) = min (bp σ) (q : Int)
            omega
          · rfl
        · have gE : gvE g g' = false := by unfold gvE; simp [c2]
          rw [if_pos (fun z => c2 ((ixF_inj u3 v3).mp (by omega))), wk, gE, Bool.or_false]
          exact ⟨σ1, rfl, F, eb, e4⟩
      · have gE : gvE g g' = false := by unfold gvE; simp [c1]
        rw [if_pos (by omega), wk, gE, Bool.or_false]
        exact ⟨σ1, rfl, F, eb, e4⟩
    obtain ⟨τ, r1, r2⟩ := t_gdup hf hk eg V ho e542 ht e474 hq d (j + 1) σ2 (by omega) F2 eb2 e42
    exact ⟨τ, by rw [om_loop_in s1]; exact r1, r2⟩
theorem GvR_fr {fs as : List Nat} (F : fr fs as σ τ) (d : ∀ g ∈ [750, 754, 758, 502, 506, 510, 514], g ∉ as) (V : GvR σ n f sc gv) : GvR τ n f sc gv := fun j g e => by
  obtain ⟨v1, ⟨k, v2, v3⟩, v4, v5⟩ := V j g e
  refine ⟨by rw [F.2 750 (d _ (by simp))]; exact v1, ⟨k, by rw [F.2 754 (d _ (by simp))]; exact v2, v3⟩, ?_, v5⟩
  rw [F.2 758 (d _ (by simp))]
  have : ∀ {T : Ty} {t : Int}, tyT σ n T t → tyT τ n T t := by
    intro T
    induction T with
    | leaf => intro t c; exact c
    | inner kk w u l r il ir =>
      intro t ⟨m, c1, c2, c3, c4, c5, c6⟩
      exact ⟨m, c1, c2, by rw [F.2 502 (d _ (by simp))]; exact c3, by rw [F.2 506 (d _ (by simp))]; exact c4, by rw [F.2 510 (d _ (by simp))]; exact il c5, by rw [F.2 514 (d _ (by simp))]; exact ir c6⟩
  exact this v4
set_option maxHeartbeats 1000000 in
/-- GIVENS OF A FUNCTION, IN THE TWIN -/
theorem t_gvs {q : Nat → Nat} (hn : n ≤ 126000) (hf : f < 24) (h4 : gv.length ≤ 4) (hq : ∀ k, q k ≤ 2000) : ∀ (os : List Nat) (k : Nat) (o0 : Int) (σ1 : tS), chain σ o0 os → k + os.length = gv.length → (∀ (j o : Nat), os[j]? = some o → o < 8400 ∧ ∃ t : Nat, ga σ 542 o = (t : Int) ∧ t < 4100 ∧ ga σ 474 t = (q (k + j) : Int)) → GvR σ n f sc gv → ga σ 746 f = (gv.length : Int) → fr [452, 456] [] σ σ1 → (gs σ1 452 = gs σ 452 ∨ gs σ1 452 = 3) → bp σ1 = mnl (bp σ) (gvBs gv (fun k => (q k : Int)) k) → ∃ τ, om_loop (T_third_405s (f : Int)) (o0, ((4 * f + k : Nat) : Int), σ1) = some τ ∧ fr [452, 456] [] σ τ ∧ bp τ = mnl (bp σ) (gvBs gv (fun k => (q k : Int)) gv.length) ∧ (gs τ 452 = gs σ 452 ∨ gs τ 452 = 3)
  | [], k, o0, σ1, ch, el, HL, V, e46, F, e4, eb => by
    have ek : k = gv.length := by simpa using el
    have w1 : w32 (4 * (f : Int)) = ((4 * f : Nat) : Int) := by rw [w32_s (by omega) (by omega)]; omega
    have w2 : w32 (((4 * f : Nat) : Int) + ((gv.length : Nat) : Int)) = ((4 * f + gv.length : Nat) : Int) := by rw [w32_s (by omega) (by omega)]; omega
    refine ⟨σ1, om_loop_out ?_, F, by rw [← ek]; exact eb, e4⟩
    unfold T_third_405s
    simp only
    rw [if_pos (by omega), show ((f : Int)).toNat = f by omega, F.2 746 (by simp), e46, w1, w2, if_pos (by omega)]
  | o :: os, k, o0, σ1, ch, el, HL, V, e46, F, e4, eb => by
    obtain ⟨c1, c2⟩ := ch
    have el' : k + (os.length + 1) = gv.length := el
    have w1 : w32 (4 * (f : Int)) = ((4 * f : Nat) : Int) := by rw [w32_s (by omega) (by omega)]; omega
    have w2 : w32 (((4 * f : Nat) : Int) + ((gv.length : Nat) : Int)) = ((4 * f + gv.length : Nat) : Int) := by rw [w32_s (by omega) (by omega)]; omega
    have wk : w32 (((4 * f + k : Nat) : Int) + 1) = ((4 * f + (k + 1) : Nat) : Int) := by rw [w32_s (by omega) (by omega)]; omega
    have eg : gv[k]? = some (gv[k]'(by omega)) := List.getElem?_eq_getElem (by omega)
    generalize gv[k]'(by omega) = g at eg
    obtain ⟨v1, _, v3, v4⟩ := V k g eg
    obtain ⟨ho, t, t1, t2, t3⟩ := HL 0 o rfl
    have oN : ((o : Int)).toNat = o := by omega
    have kN : (((4 * f + k : Nat) : Int)).toNat = 4 * f + k := by omega
    have e517 : ∀ σ2 : tS, fr [452, 456] [] σ σ2 → T_third_517 (f : Int) (o : Int) ((4 * f + k : Nat) : Int) σ2 = some (.inl (ga σ 562 o, ((4 * f + (k + 1) : Nat) : Int), σ2)) := fun σ2 F2 => by
      unfold T_third_517
      rw [if_pos (by omega), oN, F2.2 562 (by simp), wk]
    obtain ⟨σ3, s1, F3, b3, e43⟩ : ∃ σ3, T_third_405s (f : Int) (o0, ((4 * f + k : Nat) : Int), σ1) = some (.inl (ga σ 562 o, ((4 * f + (k + 1) : Nat) : Int), σ3)) ∧ fr [452, 456] [] σ σ3 ∧ bp σ3 = mnl (bp σ1) (gv1 gv k (q k : Int)) ∧ (gs σ3 452 = gs σ1 452 ∨ gs σ3 452 = 3) := by
      unfold T_third_405s
      simp only
      rw [if_pos (by omega), show ((f : Int)).toNat = f by omega, F.2 746 (by simp), e46, w1, w2, if_neg (by omega), if_pos (by omega), kN, F.2 750 (by simp), v1, c1]
      unfold gv1
      rw [eg]
      show ∃ σ3, _ ∧ _ ∧ bp σ3 = mnl (bp σ1) (if 100 ≤ g.1 then _ else _) ∧ _
      by_cases g100 : 100 ≤ g.1
      · have hfm : T_hasFamily (ga σ 758 (4 * f + k)) σ1 = some (if thB g.2.2 = true then 1 else 0) := by
          obtain ⟨_, _, v3', _⟩ := GvR_fr F (by simp) V k g eg
          rw [F.2 758 (by simp)] at v3'
          exact t_hasF hn (by omega) v3'
        rw [if_pos (by omega), if_pos (by omega), F.2 758 (by simp), hfm, Option.bind_some, if_pos g100]
        -- the family
        obtain ⟨σ2, a1, F2, a3, a4⟩ : ∃ σ2, (if (if thB g.2.2 = true then (1 : Int) else 0) = 0 then T_third_457 (f : Int) (o : Int) ((4 * f + k : Nat) : Int) σ1 else if 0 ≤ (o : Int) ∧ (o : Int) < 8400 then ((T_breaks 3 (ga σ1 542 ((o : Int)).toNat) σ1).bind fun p2 => T_third_457 (f : Int) (o : Int) ((4 * f + k : Nat) : Int) p2) else none) = T_third_457 (f : Int) (o : Int) ((4 * f + k : Nat) : Int) σ2 ∧ fr [452, 456] [] σ1 σ2 ∧ bp σ2 = mnl (bp σ1) (if thB g.2.2 = true then [(q k : Int)] else []) ∧ (gs σ2 452 = gs σ1 452 ∨ gs σ2 452 = 3) := by
          cases th : thB g.2.2 with
          | true =>
            rw [if_pos rfl, if_neg (by decide), if_pos (by omega), oN, F.2 542 (by simp), t1]
            obtain ⟨σ2, a1, a2, a3, a4⟩ := t_brk (σ := σ1) (w := 3) t2 (by rw [F.2 474 (by simp)]; exact t3) (hq _) (by decide)
            rw [a1, Option.bind_some]
            exact ⟨σ2, rfl, a2, by rw [if_pos rfl]; exact a4, .inr a3⟩
          | false =>
            rw [if_pos (show (if false = true then (1 : Int) else 0) = 0 by decide)]
            exact ⟨σ1, rfl, fr_refl _ _ _, by rw [if_neg (by decide)]; rfl, .inl rfl⟩
        rw [a1]
        have F02 := fr_trans F F2
        obtain ⟨σ3, d1, d2, d3, d4⟩ := t_gdup (σ := σ2) hf (by omega) eg (GvR_fr F02 (by simp) V) ho (by rw [F02.2 542 (by simp)]; exact t1) t2 (by rw [F02.2 474 (by simp)]; exact t3) (hq _) k 0 σ2 (by omega) (fr_refl _ _ _) rfl (.inl rfl)
        refine ⟨σ3, ?_, fr_trans F02 d2, by rw [d3, a3, mnl_app]; rfl, ?_⟩
        · unfold T_third_457
          rw [w1]
          have d1' : om_loop (T_third_462s (f : Int) (o : Int) ((4 * f + k : Nat) : Int)) (((4 * f : Nat) : Int), σ2) = some σ3 := d1
          rw [d1', Option.bind_some, e517 σ3 (fr_trans F02 d2)]
        · rcases d4 with e | e
          · rw [e]; exact a4
          · exact .inr e
      · rw [if_neg (by omega), e517 σ1 F, if_neg g100]
        exact ⟨σ1, rfl, F, rfl, .inl rfl⟩
    obtain ⟨τ, r1, r2⟩ := t_gvs (q := q) hn hf h4 hq os (k + 1) (ga σ 562 o) σ3 c2 (by omega) (fun j o' e => by
      have := HL (j + 1) o' e
      rw [show k + (j + 1) = k + 1 + j by omega] at this
      exact this) V e46 F3 (by
        rcases e43 with e | e
        · rw [e]; exact e4
        · exact .inr e) (by
        rw [b3, eb, ← mnl_app]
        rfl)
    exact ⟨τ, by rw [om_loop_in s1]; exact r1, r2⟩
end LTG
