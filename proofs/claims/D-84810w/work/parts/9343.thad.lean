set_option maxRecDepth 100000
/-! WHETHER A CLASS IS HAD FOR A TYPE: plainly, and in the twin -/
def rchB (ab : List (Option Nat)) : Nat → Nat → Nat → Bool
  | 0, _, _ => false
  | f + 1, k, a => k == a || (match ab[k]? with
    | some (some k') => rchB ab f k' a
    | _ => false)
/-- the given that has a class for a name -/
def gCl (ab : List (Option Nat)) (gv : List GVs) (c w : Nat) : Option Nat := ixF (fun g => decide (g.1 < 100) && g.2.1 == w && rchB ab 9 g.1 c) gv
def hdL (r : WS → Nat → Ty → Option (Option (Bool × WS))) (u : Ty) : List (Nat × Nat) → WS → Option (Option (Bool × WS))
  | [], s => some (some (true, s))
  | p :: l, s => (r s p.1 (if p.2 = 0 then tL u else tR' u)).bind fun a => match a with
    | none => some none
    | some (b, s1) => if b = true then hdL r u l s1 else some (some (false, s1))
def hd (ab : List (Option Nat)) (ins : List INs) (gv : List GVs) : Nat → WS → Nat → Ty → Option (Option (Bool × WS))
  | 0, _, _, _ => none
  | f + 1, s, c, T => (wk 2 ins gv 130 false 0 s T).bind fun a => match a with
    | none => some none
    | some (u, s1) => match u with
      | .leaf => some (some (false, s1))
      | .inner k w x l r => if k = 0 then some (some ((gCl ab gv c w).isSome, s1)) else if k = 1 then (match iOf ins c w with
          | none => some (some (false, s1))
          | some i => if 60 < s1.1 + 1 ∨ 300 < s1.2.1 + 1 then some none else match ins[i]? with
            | none => none
            | some d => hdL (hd ab ins gv f) (.inner k w x l r) d.2.2.2.1 (s1.1 + 1, s1.2.1 + 1, s1.2.2)) else some (some (false, s1))
section LTHd
variable {ab : List (Option Nat)} {ins : List INs} {gv : List GVs} {B : Nat}
theorem t_reaches {σ : tS} {n : Nat} (P : PGT σ n ab ins) {a : Nat} : ∀ (f k : Nat), k < ab.length → k < f → om_loop (T_reaches_2s (a : Int) σ) (k : Int) = some (if rchB ab f k a = true then .inl () else .inr ())
  | 0, _, _, h => by omega
  | f + 1, k, hk, hf => by
    have l8 := P.1.1
    obtain ⟨p1, p2⟩ := P.1.2 k ab[k] (List.getElem?_eq_getElem hk)
    have e0 : rchB ab (f + 1) k a = (k == a || (match ab[k]? with | some (some k') => rchB ab f k' a | _ => false)) := rfl
    rw [e0]
    by_cases q : k = a
    · rw [show (k == a) = true by simpa using q, Bool.true_or, if_pos rfl]
      refine om_loop_out ?_
      unfold T_reaches_2s
      rw [if_neg (by omega), if_neg (by omega)]
    · rw [show (k == a) = false by simpa using q, Bool.false_or]
      have st : T_reaches_2s (a : Int) σ (k : Int) = some (.inl (ga σ 670 k)) := by
        unfold T_reaches_2s
        rw [if_neg (by omega), if_pos (by omega), if_pos (by omega), show ((k : Int)).toNat = k by omega]
      rw [om_loop_in st, p1, List.getElem?_eq_getElem hk]
      cases qa : ab[k] with
      | none =>
        show om_loop _ _ = some (if false = true then _ else _)
        rw [if_neg (by decide)]
        refine om_loop_out ?_
        unfold T_reaches_2s
        rw [if_pos (show oI none = -1 from rfl)]
      | some k' =>
        have lt := p2 k' (by rw [qa]; rfl)
        exact t_reaches P f k' (by omega) (by omega)
theorem t_givenOf {σ : tS} {n : Nat} (P : PGT σ n ab ins) (V : GVT σ n gv) (hg : ∀ g ∈ gv, g.1 < 100 → g.1 < ab.length) (c w : Nat) : T_givenOf (c : Int) (w : Int) σ = some (oI (gCl ab gv c w)) := by
  obtain ⟨b1, b2, b3⟩ := V
  have l8 := P.1.1
  have rch : ∀ k, k < ab.length → T_reaches (k : Int) (c : Int) σ = some (if rchB ab 9 k c = true then 1 else 0) := fun k hk => by
    unfold T_reaches
    rw [t_reaches P 9 k hk (by omega)]
    split <;> rfl
  have key := lp_find (β := Unit) (step := T_givenOf_2s (c : Int) (w : Int) σ) (p := fun g : GVs => decide (g.1 < 100) && g.2.1 == w && rchB ab 9 g.1 c) (l0 := gv) (by omega) (fun i x e hp => by
      have il := (List.getElem?_eq_some_iff.mp e).1
      obtain ⟨c1, c2, _⟩ := b3 i x e
      have hp' : (x.1 < 100 ∧ x.2.1 = w) ∧ rchB ab 9 x.1 c = true := by simpa using hp
      unfold T_givenOf_2s
      rw [b1, if_neg (by omega), if_pos (by omega), show ((i : Int)).toNat = i by omega, c1, c2, if_neg (by omega), if_pos (by omega), if_neg (by omega), if_pos (by omega), rch x.1 (hg x (List.mem_of_getElem? e) hp'.1.1), if_pos hp'.2, Option.bind_some, if_neg (by decide)]) (fun i x e hp => by
      have il := (List.getElem?_eq_some_iff.mp e).1
      obtain ⟨c1, c2, _⟩ := b3 i x e
      have hp' : ¬ ((x.1 < 100 ∧ x.2.1 = w) ∧ rchB ab 9 x.1 c = true) := by simpa using hp
      unfold T_givenOf_2s
      rw [b1, if_neg (by omega), if_pos (by omega), show ((i : Int)).toNat = i by omega, c1, c2]
      by_cases q : x.1 < 100
      · rw [if_neg (by omega), if_pos (by omega)]
        by_cases q2 : x.2.1 = w
        · rw [if_neg (by omega), if_pos (by omega), rch x.1 (hg x (List.mem_of_getElem? e) q), if_neg (fun z => hp' ⟨⟨q, q2⟩, z⟩), Option.bind_some, if_pos rfl]
        · rw [if_pos (by omega)]
      · rw [if_pos (by omega)]) (by
      unfold T_givenOf_2s
      rw [b1, if_pos (Int.le_refl _)]) gv 0 rfl (by omega)
  unfold T_givenOf
  have k0 : om_loop (T_givenOf_2s (c : Int) (w : Int) σ) 0 = _ := key
  rw [k0]
  show (some (match gCl ab gv c w with | some j => Sum.inl ((0 + j : Nat) : Int) | none => Sum.inr ())).bind _ = _
  cases gCl ab gv c w with
  | none => rfl
  | some j =>
    show some (((0 + j : Nat) : Int)) = some ((j : Nat) : Int)
    rw [Nat.zero_add]
theorem AskO_trans {σ σ1 σ2 : tS} {n n1 n2 : Nat} {s s1 : WS} {z : Option (Bool × WS)} {v : Int} (o1 : fr OFS OFA σ σ1) (o3 : tx σ n σ1 n1) (hs : s.1 ≤ s1.1) (h60 : s1.1 ≤ 60) (hn : n1 ≤ n + 81 * (s1.1 - s.1)) {D : List Ty} (hD : s1.2.2 = s.2.2 ++ D) (hX : ∀ X ∈ D, ∃ t, tyT σ1 n1 X t) (O : AskO B σ1 n1 s1 z v σ2 n2) : AskO B σ n s z v σ2 n2 := by
  obtain ⟨r1, r2, r3, r4, r5, r6⟩ := O
  have k81 := m81 (a := s.1) (b := s1.1) (d := 60) hs h60
  refine ⟨fr_trans o1 r1, r2, tx_trans o3 r3, r4, fun q => ?_, fun b s' q => ?_⟩
  · obtain ⟨a1, a2, a3⟩ := r5 q
    exact ⟨a1, a2, by omega⟩
  · obtain ⟨a1, a2, a3, a4, a5, a6, a7, a8, D', a9, a10⟩ := r6 b s' q
    have k2 := m81 (a := s.1) (b := s1.1) (d := s'.1) hs a7
    refine ⟨a1, a2, a3, a4, a5, a6, by omega, by omega, D ++ D', by rw [a9, hD, List.append_assoc], fun X hX' => ?_⟩
    rcases List.mem_append.mp hX' with h | h
    · obtain ⟨tX, hx⟩ := hX X h
      exact ⟨tX, tyT_mono r3 hx⟩
    · exact a10 X h
/-- what the asker does -/
def HdH (ab : List (Option Nat)) (ins : List INs) (gv : List GVs) (B f : Nat) : Prop := ∀ (s : WS) (c : Nat) (T : Ty) (z : Option (Bool × WS)) (σ : tS) (n : Nat) (t : Int), hd ab ins gv f s c T = some z → WkC σ n ab ins gv 2 0 s → tyT σ n T t → T ≠ .leaf → okF ins T → tsz T ≤ 1000000 → s.1 ≤ 60 → s.2.1 ≤ 300 → n + 81 * (60 - s.1) + B < 126000 → ∃ v σ' n', T_hadD f (c : Int) t σ = some (v, σ') ∧ AskO B σ n s z v σ' n'
/-- the conditions -/
theorem t_conds {f : Nat} (Hf : HdH ab ins gv B f) {i : Nat} {d : INs} (ei : ins[i]? = some d) {u : Ty} (hu : u ≠ .leaf) (oku : okF ins u) (hzu : tsz u ≤ 60) (hp : (d.2.2.1.length ≥ 1 → tL u ≠ .leaf) ∧ (d.2.2.1.length ≥ 2 → tR' u ≠ .leaf)) : ∀ (l : List (Nat × Nat)) (j : Nat) (s : WS) (z : Option (Bool × WS)) (σ : tS) (n : Nat) (t : Int), d.2.2.2.1.drop j = l → j ≤ d.2.2.2.1.length → hdL (hd ab ins gv f) u l s = some z → WkC σ n ab ins gv 2 0 s → tyT σ n u t → s.1 ≤ 60 → s.2.1 ≤ 300 → n + 81 * (60 - s.1) + B < 126000 → ∃ (e : tS ⊕ tS) (v : Int) (σ' : tS) (n' : Nat), om_loop (T_had_90s (T_hadD f) t (i : Int)) (((4 * i + j : Nat) : Int), σ) = some e ∧ e.elim id id = σ' ∧ AskO B σ n s z v σ' n' ∧ (v = 1 ↔ ∃ x, e = .inr x)
  | [], j, s, z, σ, n, t, hd', hj, e, H, ct, h60, h300, R => by
    have il := (List.getElem?_eq_some_iff.mp ei).1
    have l20 := H.2.1.2.2.1
    obtain ⟨_, _, _, ⟨c4, c4', _⟩, _⟩ := H.2.1.2.2.2 i d ei
    have lj : d.2.2.2.1.length ≤ j := List.drop_eq_nil_iff.mp hd'
    have ez : z = some (true, s) := (Option.some.inj e).symm
    refine ⟨.inr σ, 1, σ, n, om_loop_out ?_, rfl, ⟨fr_refl _ _ _, H.1, tx_refl _ _, H.2.2.2.1, fun q => (by rw [ez] at q; cases q), fun b s' q => ?_⟩, ⟨fun _ => ⟨σ, rfl⟩, fun _ => rfl⟩⟩
    · unfold T_had_90s
      simp only
      rw [if_pos (by omega), show ((i : Int)).toNat = i by omega, c4, show w32 (w32 (4 * (i : Int)) + (d.2.2.2.1.length : Int)) = ((4 * i + d.2.2.2.1.length : Nat) : Int) by rw [w32_s (x := 4 * (i : Int)) (by omega) (by omega), w32_s (by omega) (by omega)]; omega, if_pos (by omega)]
    · rw [ez] at q
      injection Option.some.inj q with q1 q2
      subst q1 q2
      exact ⟨H.2.2.2.2.1, rfl, (H.2.2.2.2.2.1 rfl).2.1, (H.2.2.2.2.2.1 rfl).2.2, h60, h300, Nat.le_refl _, by omega, [], by rw [List.append_nil], fun X hX => absurd hX List.not_mem_nil⟩
  | p :: l, j, s, z, σ, n, t, hd', hj, e, H, ct, h60, h300, R => by
    have ej : d.2.2.2.1[j]? = some p := by
      have := congrArg (fun z => z[0]?) hd'
      simpa using this
    have jl := (List.getElem?_eq_some_iff.mp ej).1
    have il := (List.getElem?_eq_some_iff.mp ei).1
    have l20 := H.2.1.2.2.1
    obtain ⟨_, _, _, ⟨c4, c4', c4''⟩, _⟩ := H.2.1.2.2.2 i d ei
    obtain ⟨p1, p2, p3, p4⟩ := c4'' j p ej
    have ln := (H.2.1.2.2.2 i d ei).2.2.1.2.1
    have l2 : d.2.2.1.length ≤ 2 := by rw [ln]; unfold pN; have := (H.2.1.2.2.2 i d ei).2.1.2; split <;> omega
    have tp : tyT σ n (tL u) (ga σ 510 t.toNat) ∧ tyT σ n (tR' u) (ga σ 514 t.toNat) ∧ (0 ≤ t ∧ t < 126000) ∧ (okF ins (tL u) ∧ okF ins (tR' u)) ∧ tsz (tL u) ≤ 60 ∧ tsz (tR' u) ≤ 60 := by
      have n126 := H.1.1.2.1
      rcases u with ⟨k, w, x, ll, rr⟩ | _
      · obtain ⟨m, d1, d2, d3, d4, d5, d6⟩ := ct
        rw [show t.toNat = m by omega]
        have hz' : 1 + tsz ll + tsz rr ≤ 60 := hzu
        exact ⟨d5, d6, by omega, ⟨oku.2.1, oku.2.2⟩, by show tsz ll ≤ 60; omega, by show tsz rr ≤ 60; omega⟩
      · exact absurd rfl hu
    obtain ⟨t1, t2, t3, t4, t5, t6⟩ := tp
    unfold hdL at e
    have en : w32 (w32 (4 * (i : Int)) + (d.2.2.2.1.length : Int)) = ((4 * i + d.2.2.2.1.length : Nat) : Int) := by rw [w32_s (x := 4 * (i : Int)) (by omega) (by omega), w32_s (by omega) (by omega)]; omega
    have jN : (((4 * i + j : Nat) : Int)).toNat = 4 * i + j := by omega
    -- the part
    have part : ∃ (X : Ty) (x : Int), (if p.2 = 0 then tL u else tR' u) = X ∧ tyT σ n X x ∧ X ≠ .leaf ∧ okF ins X ∧ tsz X ≤ 1000000 ∧ T_had_90s (T_hadD f) t (i : Int) (((4 * i + j : Nat) : Int), σ) = T_had_147 (T_hadD f) t (i : Int) ((4 * i + j : Nat) : Int) (p.1 : Int) x σ := by
      by_cases q : p.2 = 0
      · refine ⟨_, _, if_pos q, t1, hp.1 (by omega), t4.1, by omega, ?_⟩
        unfold T_had_90s
        simp only
        rw [if_pos (by omega), show ((i : Int)).toNat = i by omega, c4, en, if_neg (by omega), H.2.2.2.2.1, if_neg (fun z => z rfl), if_pos (by omega), jN, p1, p2, if_neg (by omega), if_pos t3]
      · refine ⟨_, _, if_neg q, t2, hp.2 (by omega), t4.2, by omega, ?_⟩
        unfold T_had_90s
        simp only
        rw [if_pos (by omega), show ((i : Int)).toNat = i by omega, c4, en, if_neg (by omega), H.2.2.2.2.1, if_neg (fun z => z rfl), if_pos (by omega), jN, p1, p2, if_pos (by omega), if_pos t3]
    obtain ⟨X, x, x1, x2, x3, x4, x5, x6⟩ := part
    rw [x1] at e
    cases q1 : hd ab ins gv f s p.1 X with
    | none => rw [q1] at e; cases e
    | some a =>
    rw [q1, Option.bind_some] at e
    obtain ⟨v, σ1, n1, g1, O1⟩ := Hf s p.1 X a σ n x q1 H x2 x3 x4 x5 h60 h300 R
    obtain ⟨o1, o2, o3, o4, o5, o6⟩ := id O1
    have stp : T_had_90s (T_hadD f) t (i : Int) (((4 * i + j : Nat) : Int), σ) = if v ≠ 0 then some (.inl (w32 (((4 * i + j : Nat) : Int) + 1), σ1)) else some (.inr (.inl σ1)) := by
      rw [x6]
      unfold T_had_147
      rw [g1]
      rfl
    cases a with
    | none =>
      have ez : z = none := (Option.some.inj e).symm
      obtain ⟨a1, a2, a3⟩ := o5 rfl
      rw [a1, if_neg (fun z => z rfl)] at stp
      refine ⟨.inl σ1, 0, σ1, n1, om_loop_out stp, rfl, by rw [ez, ← a1]; exact O1, ⟨fun q => by omega, fun ⟨x, hx⟩ => by cases hx⟩⟩
    | some pb =>
    obtain ⟨b, s1⟩ := pb
    obtain ⟨a1, a2, a3, a4, a5, a6, a7, a8, D, a9, a10⟩ := o6 b s1 rfl
    simp only at e
    by_cases hb : b = true
    · rw [if_pos hb] at e
      rw [if_pos hb] at a2
      rw [a2, if_pos (by decide)] at stp
      have H1 : WkC σ1 n1 ab ins gv 2 0 s1 := WkC_next H o1 o2 o3 o4 a1 (fun _ => ⟨a3, a4⟩)
      have k81 := m81 (a := s.1) (b := s1.1) (d := 60) a7 a5
      obtain ⟨ev, v', σ', n', r1, r2, r3, r4⟩ := t_conds Hf ei hu oku hzu hp l (j + 1) s1 z σ1 n1 t (by rw [← List.tail_drop, hd']; rfl) (by omega) e H1 (tyT_mono o3 ct) a5 a6 (by omega)
      refine ⟨ev, v', σ', n', ?_, r2, AskO_trans o1 o3 a7 a5 a8 a9 a10 r3, r4⟩
      have e1 : w32 (((4 * i + j : Nat) : Int) + 1) = ((4 * i + (j + 1) : Nat) : Int) := by rw [w32_s (by omega) (by omega)]; omega
      rw [e1] at stp
      rw [om_loop_in stp]
      exact r1
    · rw [if_neg hb] at e
      rw [if_neg hb] at a2
      rw [a2, if_neg (fun z => z rfl)] at stp
      have ez : z = some (false, s1) := (Option.some.inj e).symm
      have hbf : b = false := by simpa using hb
      refine ⟨.inl σ1, 0, σ1, n1, om_loop_out stp, rfl, by rw [ez, ← hbf, ← a2]; exact O1, ⟨fun q => by omega, fun ⟨x, hx⟩ => by cases hx⟩⟩
/-- A CLASS IS HAD, OR NOT -/
theorem t_had (hB : B ≤ 2700) (hI : insF ins B) (hG : gvF' ins gv) (hg : ∀ g ∈ gv, g.1 < 100 → g.1 < ab.length) : ∀ f : Nat, HdH ab ins gv B f
  | 0 => fun s c T z σ n t e => by cases e
  | f + 1 => fun s c T z σ n t e H ct hT ok hz h60 h300 R => by
    unfold hd at e
    cases q1 : wk 2 ins gv 130 false 0 s T with
    | none => rw [q1] at e; cases e
    | some a =>
    rw [q1, Option.bind_some] at e
    obtain ⟨t1, σ1, n1, g1, o1, o2, o3, o4, o5, o6⟩ := t_out hB hI hG q1 H ct hT ok hz h60 h300 R
    show ∃ v σ' n', T_hadB (T_hadD f) (c : Int) t σ = some (v, σ') ∧ _
    unfold T_hadB
    rw [g1, Option.bind_some]
    simp only
    cases a with
    | none =>
      have ez : z = none := (Option.some.inj e).symm
      obtain ⟨_, a2, a3⟩ := o5 rfl
      rw [a2, if_neg (by decide)]
      exact ⟨0, σ1, n1, rfl, o1, o2, o3, o4, fun _ => ⟨rfl, a2, a3⟩, fun b s' q => (by rw [ez] at q; cases q)⟩
    | some p =>
    obtain ⟨u, s1⟩ := p
    obtain ⟨v1, v2, v3, v4, v5, v6, _⟩ := o6 u s1 rfl
    obtain ⟨w1, w2, w3, w4⟩ := v5 rfl
    obtain ⟨D1, d1, x1, _⟩ := wk_st q1
    have s1e : s1.1 = s.1 + d1 := by rw [x1.1]
    have s60 : s1.1 ≤ 60 := by rw [s1e]; exact x1.2.2 rfl h60
    have y5 : s1.2.2 = s.2.2 ++ D1 := by rw [x1.1]
    have hu : u ≠ .leaf := fun q => hT (v3.mp q)
    have H1 : WkC σ1 n1 ab ins gv 2 0 s1 := WkC_next H o1 o2 o3 o4 v1 (fun _ => ⟨w1, w2⟩)
    have h80 : 80 * (s1.1 - s.1) ≤ 81 * (s1.1 - s.1) := Nat.mul_le_mul_right _ (by decide)
    have k81 := m81 (a := s.1) (b := s1.1) (d := 60) (by omega) s60
    have wfu := tyT_wf o2 v2
    have n126 := o2.1.2.1
    have fin : ∀ (b : Bool) (v : Int), z = some (b, s1) → v = (if b = true then 1 else 0) → AskO B σ n s z v σ1 n1 := fun b v ez hv => by
      refine ⟨o1, o2, o3, o4, fun q => (by rw [ez] at q; cases q), fun b' s' q => ?_⟩
      rw [ez] at q
      injection Option.some.inj q with z1 z2
      subst z1 z2
      exact ⟨v1, hv, w1, w2, s60, w3, by omega, by omega, D1, y5, v6 D1 y5⟩
    rcases u with ⟨k, w, x, l, r⟩ | _
    rotate_left
    · exact absurd rfl hu
    obtain ⟨m, c1, c2, c3, c4, c5, c6⟩ := id v2
    have gm : 0 ≤ t1 ∧ t1 < 126000 := by omega
    have tm : t1.toNat = m := by omega
    rw [v1, if_pos rfl, if_pos gm, tm, c3]
    replace e : (if k = 0 then some (some ((gCl ab gv c w).isSome, s1)) else if k = 1 then (match iOf ins c w with
          | none => some (some (false, s1))
          | some i => if 60 < s1.1 + 1 ∨ 300 < s1.2.1 + 1 then some none else match ins[i]? with
            | none => none
            | some d => hdL (hd ab ins gv f) (.inner k w x l r) d.2.2.2.1 (s1.1 + 1, s1.2.1 + 1, s1.2.2)) else some (some (false, s1))) = some z := e
    by_cases k0 : k = 0
    · rw [if_pos k0] at e
      have ez : z = some ((gCl ab gv c w).isSome, s1) := (Option.some.inj e).symm
      rw [if_neg (by omega), if_pos gm, c4, t_givenOf H1.2.1 H1.2.2.1 hg c w, Option.bind_some]
      unfold T_had_44
      cases qg : gCl ab gv c w with
      | none =>
        rw [if_pos (show oI none = -1 from rfl), if_pos (.inl rfl)]
        rw [qg] at ez
        exact ⟨0, σ1, n1, rfl, fin false 0 ez rfl⟩
      | some j =>
        rw [if_neg (show ¬ oI (some j) = -1 by show ¬ ((j : Nat) : Int) = -1; omega), if_pos (.inr rfl)]
        rw [qg] at ez
        exact ⟨1, σ1, n1, rfl, fin true 1 ez rfl⟩
    · rw [if_neg k0] at e
      rw [if_pos (by omega), if_pos gm]
      by_cases k1 : k = 1
      · rw [if_pos k1] at e
        rw [if_neg (by omega), if_pos gm, c4, t_instanceOf H1.2.1 c w, Option.bind_some]
        unfold T_had_70
        cases qi : iOf ins c w with
        | none =>
          rw [qi] at e
          have ez : z = some (false, s1) := (Option.some.inj e).symm
          rw [if_neg (fun z => z rfl)]
          exact ⟨0, σ1, n1, rfl, fin false 0 ez rfl⟩
        | some i =>
          rw [qi] at e
          simp only at e
          obtain ⟨d, i1, i2⟩ := ixF_some qi
          have il := (List.getElem?_eq_some_iff.mp i1).1
          have l20 := H1.2.1.2.2.1
          have i2' : d.1 = c ∧ d.2.1 = w := by simpa using i2
          rw [show oI (some i) = (i : Int) from rfl, if_pos (by omega)]
          obtain ⟨σ2, k1', k2', k3', k4', k5', _⟩ := t_counts (c := 2) (s := s1) (fun _ => H1.2.2.2.2.2.1 rfl) (fun h => by omega) (.inr rfl) s60 w3 v1
          rw [k1', Option.bind_some]
          have F2 : fr OFS OFA σ1 σ2 := fr_wide k2' (by decide) (by simp)
          have T2 : ∀ f ∈ TYA, ∀ i, ga σ2 f i = ga σ1 f i := fun f _ i => k2'.2 f (by simp) i
          have S2 : TyS σ2 n1 := TyS_same (k2'.1 532 (by decide)) T2 o2
          have X2 : tx σ1 n1 σ2 n1 := tx_same T2
          have e4i : w32 (4 * (i : Int)) = ((4 * i + 0 : Nat) : Int) := by rw [w32_s (by omega) (by omega)]; omega
          rw [e4i]
          by_cases hov : 60 < s1.1 + 1 ∨ 300 < s1.2.1 + 1
          · rw [if_pos hov] at e
            have ez : z = none := (Option.some.inj e).symm
            have h1 := k3' ⟨rfl, hov⟩
            have O : ∀ v : Int, v = 0 → AskO B σ n s z v σ2 n1 := fun v hv => ⟨fr_trans o1 F2, S2, tx_trans o3 X2, by rw [k2'.1 816 (by decide)]; exact o4, fun _ => ⟨hv, h1, by omega⟩, fun b s' q => (by rw [ez] at q; cases q)⟩
            obtain ⟨_, _, _, ⟨c4', c4'', _⟩, _⟩ := H1.2.1.2.2.2 i d i1
            have en : w32 (w32 (4 * (i : Int)) + (d.2.2.2.1.length : Int)) = ((4 * i + d.2.2.2.1.length : Nat) : Int) := by rw [w32_s (x := 4 * (i : Int)) (by omega) (by omega), w32_s (by omega) (by omega)]; omega
            have g710 : ga σ2 710 i = (d.2.2.2.1.length : Int) := by rw [k2'.2 710 (by simp)]; exact c4'
            by_cases hl : d.2.2.2.1.length = 0
            · have st : T_had_90s (T_hadD f) t1 (i : Int) (((4 * i + 0 : Nat) : Int), σ2) = some (.inr (.inr σ2)) := by
                unfold T_had_90s
                simp only
                rw [if_pos (by omega), show ((i : Int)).toNat = i by omega, g710, en, if_pos (by omega)]
              rw [om_loop_out st, Option.bind_some]
              show ∃ v σ' n', (if gs σ2 823 ≠ 0 then T_had_173 (T_hadD f) 0 σ2 else T_had_173 (T_hadD f) 1 σ2) = some (v, σ') ∧ _
              unfold T_had_173
              rw [h1, if_pos (by decide), if_pos (.inl rfl)]
              exact ⟨0, σ2, n1, rfl, O 0 rfl⟩
            · have st : T_had_90s (T_hadD f) t1 (i : Int) (((4 * i + 0 : Nat) : Int), σ2) = some (.inr (.inl σ2)) := by
                unfold T_had_90s
                simp only
                rw [if_pos (by omega), show ((i : Int)).toNat = i by omega, g710, en, if_neg (by omega), h1, if_pos (by decide)]
              rw [om_loop_out st, Option.bind_some]
              exact ⟨0, σ2, n1, rfl, O 0 rfl⟩
          · rw [if_neg hov, i1] at e
            simp only at e
            have h0 := k4' (fun z => hov z.2)
            have H2 : WkC σ2 n1 ab ins gv 2 0 (s1.1 + 1, s1.2.1 + 1, s1.2.2) := WkC_next H1 F2 S2 X2 (by rw [k2'.1 816 (by decide)]; exact o4) h0 (fun _ => k5' rfl)
            have u60 : tsz (.inner k w x l r : Ty) ≤ 60 := by
              have hl100 : ins.length ≤ 100 := by omega
              have hN : ∀ d ∈ ins, d.2.2.1.length = pN d.2.1 := fun d hd => by
                obtain ⟨i, hi⟩ := List.getElem?_of_mem hd
                exact (H.2.1.2.2.2 i d hi).2.2.1.2.1
              have := (wk_tsz hB hI hG hl100 hN hz (tyT_wf H.1 ct) hT ok q1).2
              rwa [if_neg (by decide)] at this
            have sh := wfu.1
            unfold shT at sh
            have ln := (H1.2.1.2.2.2 i d i1).2.2.1.2.1
            have hp : (d.2.2.1.length ≥ 1 → l ≠ .leaf) ∧ (d.2.2.1.length ≥ 2 → r ≠ .leaf) := by
              rw [ln, i2'.2]
              have sh' : w ≤ 3 ∧ (l = .leaf ↔ w < 2) ∧ (r = .leaf ↔ w ≠ 3) := by
                rcases sh with s | s | s | s
                · omega
                · exact s.2
                · omega
                · omega
              unfold pN
              constructor
              · intro h q
                have := sh'.2.1.mp q
                rw [if_neg (by omega)] at h
                omega
              · intro h q
                have := sh'.2.2.mp q
                split at h <;> omega
            obtain ⟨ev, v', σ', n', r1, r2, r3, r4⟩ := t_conds (t_had hB hI hG hg f) i1 hu v4 u60 hp d.2.2.2.1 0 (s1.1 + 1, s1.2.1 + 1, s1.2.2) z σ2 n1 t1 rfl (Nat.zero_le _) e H2 (tyT_mono X2 v2) (by omega) (by show s1.2.1 + 1 ≤ 300; omega) (by show n1 + 81 * (60 - (s1.1 + 1)) + B < 126000; omega)
            have O : AskO B σ n s z v' σ' n' := AskO_trans (s1 := (s1.1 + 1, s1.2.1 + 1, s1.2.2)) (fr_trans o1 F2) (tx_trans o3 X2) (by show s.1 ≤ s1.1 + 1; omega) (by show s1.1 + 1 ≤ 60; omega) (by show n1 ≤ n + 81 * (s1.1 + 1 - s.1); omega) y5 (fun X hX => by obtain ⟨tX, h⟩ := v6 D1 y5 X hX; exact ⟨tX, tyT_mono X2 h⟩) r3
            rw [r1, Option.bind_some]
            cases ev with
            | inl y =>
              have y' : y = σ' := r2
              subst y'
              have nv : v' ≠ 1 := fun q => by obtain ⟨x, hx⟩ := r4.mp q; cases hx
              refine ⟨0, y, n', rfl, ?_⟩
              have v0 : v' = 0 := by
                cases z with
                | none => exact (O.2.2.2.2.1 rfl).1
                | some pz =>
                  have := (O.2.2.2.2.2 pz.1 pz.2 rfl).2.1
                  split at this
                  · exact absurd this nv
                  · exact this
              rw [← v0]; exact O
            | inr y =>
              have y' : y = σ' := r2
              subst y'
              have v1' : v' = 1 := r4.mpr ⟨y, rfl⟩
              have zs : ∃ s', z = some (true, s') := by
                cases z with
                | none => have := (O.2.2.2.2.1 rfl).1; omega
                | some pz =>
                  have := (O.2.2.2.2.2 pz.1 pz.2 rfl).2.1
                  refine ⟨pz.2, ?_⟩
                  have : pz.1 = true := by
                    refine Decidable.byContradiction (fun q => ?_)
                    rw [if_neg q] at this; omega
                  rw [← this]
              obtain ⟨s', es⟩ := zs
              have g0 := (O.2.2.2.2.2 true s' es).1
              show ∃ v σ' n', (if gs y 823 ≠ 0 then T_had_173 (T_hadD f) 0 y else T_had_173 (T_hadD f) 1 y) = some (v, σ') ∧ _
              unfold T_had_173
              rw [g0, if_neg (fun z => z rfl), if_pos (.inr rfl)]
              exact ⟨1, y, n', rfl, by rw [← v1']; exact O⟩
      · rw [if_neg k1] at e
        have ez : z = some (false, s1) := (Option.some.inj e).symm
        rw [if_pos (by omega)]
        unfold T_had_70
        rw [if_neg (fun z => z rfl)]
        exact ⟨0, σ1, n1, rfl, fin false 0 ez rfl⟩
end LTHd
