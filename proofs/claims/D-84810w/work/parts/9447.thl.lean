set_option maxRecDepth 100000
/-! THE THIRD RULE: lines of an inst go to methods (plain; the twin) -/
/-- a line's method: the first of that name -/
def mIx (ms : List (Nat × Ty)) (w : Nat) : Option Nat := ixF (fun y => y.1 == w) ms
def tkn (acc : List (Nat × Nat)) (m : Nat) : Bool := acc.any (fun p => p.1 == m)
/-- the method that a line takes (none: a break) -/
def lnG (ms : List (Nat × Ty)) (acc : List (Nat × Nat)) (w : Nat) : Option Nat := (mIx ms w).bind (fun m => if tkn acc m then none else some m)
def lnN (ms : List (Nat × Ty)) (acc : List (Nat × Nat)) (k w : Nat) : List (Nat × Nat) := (lnG ms acc w).elim acc (fun m => acc ++ [(m, k)])
/-- which line each method got -/
def lnA (ms : List (Nat × Ty)) : Nat → List (Nat × Nat) → List (Nat × Nat) → List (Nat × Nat)
  | _, acc, [] => acc
  | k, acc, l :: ls => lnA ms (k + 1) (lnN ms acc k l.1) ls
/-- breaks -/
def lnB (ms : List (Nat × Ty)) : Nat → List (Nat × Nat) → List (Nat × Nat) → List Int
  | _, _, [] => []
  | k, acc, l :: ls => (lnG ms acc l.1).elim [(l.2 : Int)] (fun _ => []) ++ lnB ms (k + 1) (lnN ms acc k l.1) ls
/-- what a method got -/
def lnV {α : Type} (acc : List (Nat × Nat)) (m : Nat) (v : Nat → α) (z : α) : α := (acc.find? (fun p => p.1 == m)).elim z (fun p => v p.2)
/-- methods without a line -/
def msB (acc : List (Nat × Nat)) (q : Int) : Nat → List Int
  | 0 => []
  | n + 1 => msB acc q n ++ (if tkn acc n then [] else [q])
theorem lnV_no {α : Type} {acc : List (Nat × Nat)} {m : Nat} {v : Nat → α} {z : α} (h : tkn acc m = false) : lnV acc m v z = z := by
  unfold lnV
  have : acc.find? (fun p => p.1 == m) = none := by
    rw [List.find?_eq_none]
    intro p hp c
    unfold tkn at h
    rw [List.any_eq_false] at h
    exact h p hp c
  rw [this]; rfl
theorem lnV_yes {α : Type} {acc : List (Nat × Nat)} {m : Nat} (h : tkn acc m = true) : ∃ k, (m, k) ∈ acc ∧ ∀ (v : Nat → α) (z : α), lnV acc m v z = v k := by
  unfold tkn at h
  rw [List.any_eq_true] at h
  cases e : acc.find? (fun p => p.1 == m) with
  | none =>
    rw [List.find?_eq_none] at e
    obtain ⟨p, hp, c⟩ := h
    exact absurd c (e p hp)
  | some p =>
    have hp := List.mem_of_find?_eq_some e
    have c := List.find?_some e
    have c' : p.1 = m := by simpa using c
    refine ⟨p.2, by rw [← c']; exact hp, fun v z => ?_⟩
    unfold lnV
    rw [e]; rfl
theorem lnV_add {α : Type} {acc : List (Nat × Nat)} {m k : Nat} (h : tkn acc m = false) (m' : Nat) (v : Nat → α) (z : α) : lnV (acc ++ [(m, k)]) m' v z = if m' = m then v k else lnV acc m' v z := by
  by_cases c : m' = m
  · subst c
    rw [if_pos rfl]
    unfold lnV
    have : acc.find? (fun p => p.1 == m') = none := by
      rw [List.find?_eq_none]
      intro p hp c
      unfold tkn at h
      rw [List.any_eq_false] at h
      exact h p hp c
    rw [List.find?_append, this]
    simp
  · rw [if_neg c]
    unfold lnV
    rw [List.find?_append]
    have : [(m, k)].find? (fun p => p.1 == m') = none := by
      rw [List.find?_eq_none]
      intro p hp q
      rw [List.mem_singleton.mp hp] at q
      have q' : m = m' := by simpa using q
      exact c q'.symm
    rw [this]
    simp
/-- without a break each line has a method of its own -/
theorem lnA_ok {ms : List (Nat × Ty)} : ∀ {ls : List (Nat × Nat)} {k : Nat} {acc : List (Nat × Nat)}, lnB ms k acc ls = [] → (∀ (i : Nat) (l : Nat × Nat), ls[i]? = some l → ∃ m, mIx ms l.1 = some m ∧ (m, k + i) ∈ lnA ms k acc ls) ∧ (∀ p ∈ acc, p ∈ lnA ms k acc ls) ∧ ∀ p ∈ lnA ms k acc ls, p ∈ acc ∨ ∃ (i : Nat) (l : Nat × Nat), ls[i]? = some l ∧ p.2 = k + i ∧ mIx ms l.1 = some p.1
  | [], k, acc, _ => ⟨fun i l e => (by cases e), fun p hp => hp, fun p hp => .inl hp⟩
  | l :: ls, k, acc, e => by
    obtain ⟨e1, e2⟩ := List.append_eq_nil_iff.mp e
    cases g : lnG ms acc l.1 with
    | none => rw [g] at e1; cases e1
    | some m =>
      have gm : mIx ms l.1 = some m ∧ tkn acc m = false := by
        unfold lnG at g
        cases q : mIx ms l.1 with
        | none => rw [q] at g; cases g
        | some m' =>
          rw [q] at g
          simp only [Option.bind_some] at g
          split at g
          · cases g
          · rename_i c
            rw [← Option.some.inj g]
            exact ⟨rfl, by simpa using c⟩
      have en : lnN ms acc k l.1 = acc ++ [(m, k)] := by unfold lnN; rw [g]; rfl
      obtain ⟨i1, i2, i3⟩ := lnA_ok e2
      refine ⟨fun i l' e' => ?_, fun p hp => i2 p (by rw [en]; exact List.mem_append_left _ hp), fun p hp => ?_⟩
      · cases i with
        | zero =>
          rw [← Option.some.inj e']
          exact ⟨m, gm.1, i2 _ (by rw [en]; simp)⟩
        | succ i =>
          obtain ⟨m', a1, a2⟩ := i1 i l' e'
          exact ⟨m', a1, by rw [show k + (i + 1) = k + 1 + i by omega]; exact a2⟩
      · rcases i3 p hp with c | ⟨i, l', c1, c2, c3⟩
        · rw [en] at c
          rcases List.mem_append.mp c with c | c
          · exact .inl c
          · rw [List.mem_singleton.mp c]
            exact .inr ⟨0, l, rfl, rfl, gm.1⟩
        · exact .inr ⟨i + 1, l', c1, by omega, c3⟩
theorem msB_nil {acc : List (Nat × Nat)} {q : Int} : ∀ {n : Nat}, msB acc q n = [] → ∀ m, m < n → tkn acc m = true
  | 0, _, m, h => by omega
  | n + 1, e, m, h => by
    obtain ⟨e1, e2⟩ := List.append_eq_nil_iff.mp e
    by_cases c : m = n
    · subst c
      cases z : tkn acc m with
      | true => rfl
      | false => rw [z] at e2; cases e2
    · exact msB_nil e1 m (by omega)
section LTL
variable {σ τ : tS} {f i c : Nat}
/-- a break at a token -/
theorem t_brk {t pl : Nat} {w : Int} (ht : t < 4100) (e : ga σ 474 t = (pl : Int)) (hp : pl ≤ 2000) (w0 : w ≠ 0) : ∃ τ, T_breaks w (t : Int) σ = some τ ∧ fr [452, 456] [] σ τ ∧ gs τ 452 = w ∧ bp τ = min (bp σ) (pl : Int) := by
  have tN : ((t : Int)).toNat = t := by omega
  have b20 : T_breaks_20 w (t : Int) σ = some (us (us σ 456 (pl : Int)) 452 w) := by
    unfold T_breaks_20
    rw [if_pos (by omega), tN, e]
  have F2 : fr [452, 456] [] σ (us (us σ 456 (pl : Int)) 452 w) := fr_us (fr_us (fr_refl _ _ _) (by simp)) (by simp)
  have g2 : gs (us (us σ 456 (pl : Int)) 452 w) 452 = w := by rw [gs_us, if_pos rfl]
  have p2 : gs (us (us σ 456 (pl : Int)) 452 w) 456 = (pl : Int) := by rw [gs_us, if_neg (by decide), gs_us, if_pos rfl]
  have q2 : bp (us (us σ 456 (pl : Int)) 452 w) = (pl : Int) := by
    unfold bp
    rw [g2, if_neg w0, p2]
    omega
  unfold T_breaks
  by_cases z : gs σ 452 = 0
  · rw [if_pos z, b20]
    refine ⟨_, rfl, F2, g2, ?_⟩
    rw [q2]
    unfold bp
    rw [if_pos z]
    omega
  · rw [if_neg z, if_pos (by omega), tN, e]
    have bs : bp σ = min (gs σ 456) 2147483646 := by unfold bp; rw [if_neg z]
    by_cases y : gs σ 456 ≤ (pl : Int)
    · rw [if_pos y]
      refine ⟨_, rfl, fr_us (fr_refl _ _ _) (by simp), by rw [gs_us, if_pos rfl], ?_⟩
      unfold bp
      rw [gs_us, if_pos rfl, if_neg w0, gs_us, if_neg (by decide), if_neg z]
      omega
    · rw [if_neg y, b20]
      exact ⟨_, rfl, F2, g2, by rw [q2, bs]; omega⟩
/-- a method is looked for -/
theorem t_ms {ms : List (Nat × Ty)} {o t w : Nat} (hc : c < 8) (e78 : ga σ 678 c = (ms.length : Int)) (h4 : ms.length ≤ 4) (em : ∀ (k : Nat) (y : Nat × Ty), ms[k]? = some y → ga σ 682 (4 * c + k) = (y.1 : Int)) (ho : o < 8400) (e42 : ga σ 542 o = (t : Int)) (ht : t < 4100) (e82 : ga σ 482 t = (w : Int)) : ∀ (zs : List (Nat × Ty)) (k : Nat), ms.drop k = zs → k ≤ ms.length → om_loop (T_third_194s (f : Int) (i : Int) (c : Int) (o : Int) σ) (k : Int) = some (((k + (ixF (fun y => y.1 == w) zs).getD zs.length : Nat) : Int))
  | [], k, hd, hk => by
    have lk : ms.length ≤ k := List.drop_eq_nil_iff.mp hd
    refine om_loop_out ?_
    unfold T_third_194s
    rw [if_pos (by omega), show ((c : Int)).toNat = c by omega, e78, if_pos (by omega)]
    rfl
  | z :: zs, k, hd, hk => by
    have ez : ms[k]? = some z := by
      have := congrArg (fun q => q[0]?) hd
      simpa using this
    have kl := (List.getElem?_eq_some_iff.mp ez).1
    have hd2 : ms.drop (k + 1) = zs := by rw [← List.tail_drop, hd]; rfl
    have w1 : w32 (4 * (c : Int)) = ((4 * c : Nat) : Int) := by rw [w32_s (by omega) (by omega)]; omega
    have w2 : w32 (((4 * c : Nat) : Int) + (k : Int)) = ((4 * c + k : Nat) : Int) := by rw [w32_s (by omega) (by omega)]; omega
    have na : T_nameAt (t : Int) σ = some (w : Int) := by
      unfold T_nameAt
      rw [if_pos (by omega), show ((t : Int)).toNat = t by omega, e82]
    have st : T_third_194s (f : Int) (i : Int) (c : Int) (o : Int) σ (k : Int) = if z.1 = w then some (.inr (k : Int)) else some (.inl (((k + 1 : Nat) : Int))) := by
      unfold T_third_194s
      rw [if_pos (by omega), show ((c : Int)).toNat = c by omega, e78, if_neg (by omega), w1, w2, if_pos (by omega), show ((o : Int)).toNat = o by omega, e42, na, Option.bind_some, show (((4 * c + k : Nat) : Int)).toNat = 4 * c + k by omega, em k z ez]
      by_cases q : z.1 = w
      · rw [if_pos (by omega), if_pos q]
      · rw [if_neg (by omega), if_neg q, w32_s (by omega) (by omega)]
        rfl
    by_cases q : z.1 = w
    · rw [if_pos q] at st
      rw [om_loop_out st]
      unfold ixF
      rw [if_pos (by simpa using q)]
      rfl
    · rw [if_neg q] at st
      rw [om_loop_in st, t_ms hc e78 h4 em ho e42 ht e82 zs (k + 1) hd2 (by omega)]
      have ei : ixF (fun y : Nat × Ty => y.1 == w) (z :: zs) = (ixF (fun y => y.1 == w) zs).map (fun i => i + 1) := by
        show (if (z.1 == w) = true then some 0 else _) = _
        rw [if_neg (by simpa using q)]
      rw [ei]
      cases e : ixF (fun y : Nat × Ty => y.1 == w) zs with
      | none =>
        show some (((k + 1 + zs.length : Nat) : Int)) = some (((k + (zs.length + 1) : Nat) : Int))
        rw [show k + 1 + zs.length = k + (zs.length + 1) by omega]
      | some j =>
        show some (((k + 1 + j : Nat) : Int)) = some (((k + (j + 1) : Nat) : Int))
        rw [show k + 1 + j = k + (j + 1) by omega]
/-- a line's things in the twin: its node o, its method's name w, its place pl, its ex's node p -/
def LnT (σ : tS) (o w pl p : Nat) : Prop := o < 8400 ∧ ga σ 546 o = (p : Int) ∧ ∃ t : Nat, ga σ 542 o = (t : Int) ∧ t < 4100 ∧ ga σ 482 t = (w : Int) ∧ ga σ 474 t = (pl : Int) ∧ pl ≤ 2000
theorem LnT_fr {as : List Nat} {fs : List Nat} (F : fr fs as σ τ) (d : ∀ g ∈ [542, 546, 482, 474], g ∉ as) {o w pl p : Nat} (H : LnT σ o w pl p) : LnT τ o w pl p := by
  obtain ⟨h1, h2, t, h3, h4, h5, h6, h7⟩ := H
  exact ⟨h1, by rw [F.2 546 (d _ (by simp))]; exact h2, t, by rw [F.2 542 (d _ (by simp))]; exact h3, h4, by rw [F.2 482 (d _ (by simp))]; exact h5, by rw [F.2 474 (d _ (by simp))]; exact h6, h7⟩
/-- LINES IN THE TWIN -/
theorem t_lns {ms : List (Nat × Ty)} {pv : Nat → Nat} (hf : f < 20) (hc : c < 8) (h4 : ms.length ≤ 4) : ∀ (ns : List Nat) (ls : List (Nat × Nat)) (k : Nat) (acc : List (Nat × Nat)) (o0 : Int) (σ : tS), chain σ o0 ns → ns.length = ls.length → (∀ (j o : Nat) (l : Nat × Nat), ns[j]? = some o → ls[j]? = some l → LnT σ o l.1 l.2 (pv (k + j))) → ga σ 678 c = (ms.length : Int) → (∀ (k : Nat) (y : Nat × Ty), ms[k]? = some y → ga σ 682 (4 * c + k) = (y.1 : Int)) → (∀ m, m < 4 → ga σ 726 (4 * f + m) = lnV acc m (fun k => (pv k : Int)) (-1)) → ∃ τ, om_loop (T_third_185s (f : Int) (i : Int) (c : Int)) (o0, σ) = some τ ∧ fr [452, 456] [726] σ τ ∧ (∀ j, (j < 4 * f ∨ 4 * f + 4 ≤ j) → ga τ 726 j = ga σ 726 j) ∧ (∀ m, m < 4 → ga τ 726 (4 * f + m) = lnV (lnA ms k acc ls) m (fun k => (pv k : Int)) (-1)) ∧ bp τ = mnl (bp σ) (lnB ms k acc ls) ∧ (gs τ 452 = gs σ 452 ∨ gs τ 452 = 3)
  | [], [], k, acc, o0, σ, ch, _, _, _, _, h26 => by
    have e0 : o0 = -1 := ch
    refine ⟨σ, om_loop_out ?_, fr_refl _ _ _, fun _ _ => rfl, h26, rfl, .inl rfl⟩
    unfold T_third_185s
    rw [if_pos e0]
  | o :: ns, l :: ls, k, acc, o0, σ, ch, el, HL, e78, em, h26 => by
    obtain ⟨c1, c2⟩ := ch
    obtain ⟨l1, l2, t, l3, l4, l5, l6, l7⟩ := HL 0 o l rfl rfl
    have oN : ((o : Int)).toNat = o := by omega
    have lk := t_ms (f := f) (i := i) (σ := σ) hc e78 h4 em l1 l3 l4 l5 ms 0 rfl (Nat.zero_le _)
    rw [show ((0 : Nat) : Int) = 0 from rfl, Nat.zero_add] at lk
    have w1 : w32 (4 * (f : Int)) = ((4 * f : Nat) : Int) := by rw [w32_s (by omega) (by omega)]; omega
    -- one line
    obtain ⟨σ1, s1, F1, u1, v1, b1, g1⟩ : ∃ σ1, T_third_185s (f : Int) (i : Int) (c : Int) (o0, σ) = some (.inl (ga σ 562 o, σ1)) ∧ fr [452, 456] [726] σ σ1 ∧ (∀ j, (j < 4 * f ∨ 4 * f + 4 ≤ j) → ga σ1 726 j = ga σ 726 j) ∧ (∀ m, m < 4 → ga σ1 726 (4 * f + m) = lnV (lnN ms acc k l.1) m (fun k => (pv k : Int)) (-1)) ∧ bp σ1 = mnl (bp σ) ((lnG ms acc l.1).elim [(l.2 : Int)] (fun _ => [])) ∧ (gs σ1 452 = gs σ 452 ∨ gs σ1 452 = 3) := by
      have brk : ∃ σ1, T_third_262 (f : Int) (i : Int) (c : Int) (o : Int) σ = some (.inl (ga σ 562 o, σ1)) ∧ fr [452, 456] [726] σ σ1 ∧ (∀ j, ga σ1 726 j = ga σ 726 j) ∧ bp σ1 = mnl (bp σ) [(l.2 : Int)] ∧ gs σ1 452 = 3 := by
        obtain ⟨σ1, a1, a2, a3, a4⟩ := t_brk (w := 3) l4 l6 l7 (by decide)
        refine ⟨σ1, ?_, fr_wide a2 (fun _ h => h) (by simp), fun j => a2.2 726 (by simp) j, a4, a3⟩
        unfold T_third_262
        rw [if_pos (by omega), oN, l3, a1, Option.bind_some]
        unfold T_third_295
        rw [if_pos (by omega), oN, a2.2 562 (by simp)]
      have hd : T_third_185s (f : Int) (i : Int) (c : Int) (o0, σ) = T_third_236 (f : Int) (i : Int) (c : Int) (o : Int) (((ixF (fun y => y.1 == l.1) ms).getD ms.length : Nat) : Int) σ := by
        unfold T_third_185s
        rw [c1]
        simp only
        rw [if_neg (by omega), lk, Option.bind_some]
      rw [hd]
      unfold T_third_236
      rw [if_pos (by omega), show ((c : Int)).toNat = c by omega, e78]
      cases q : ixF (fun y => y.1 == l.1) ms with
      | none =>
        have eg : lnG ms acc l.1 = none := by unfold lnG mIx; rw [q]; rfl
        have en : lnN ms acc k l.1 = acc := by unfold lnN; rw [eg]; rfl
        rw [eg, en, Option.getD_none, if_pos rfl]
        obtain ⟨σ1, a1, a2, a3, a4, a5⟩ := brk
        exact ⟨σ1, a1, a2, fun j _ => a3 j, fun m hm => by rw [a3]; exact h26 m hm, a4, .inr a5⟩
      | some m =>
        have ml := ixF_lt q
        have w2 : w32 (((4 * f : Nat) : Int) + (m : Int)) = ((4 * f + m : Nat) : Int) := by rw [w32_s (by omega) (by omega)]; omega
        rw [Option.getD_some, if_neg (by omega), w1, w2, if_pos (by omega), show (((4 * f + m : Nat) : Int)).toNat = 4 * f + m by omega, h26 m (by omega)]
        cases tk : tkn acc m with
        | true =>
          have eg : lnG ms acc l.1 = none := by unfold lnG mIx; rw [q]; simp [tk]
          have en : lnN ms acc k l.1 = acc := by unfold lnN; rw [eg]; rfl
          obtain ⟨k', _, lv⟩ := lnV_yes (α := Int) tk
          rw [eg, en, lv, if_neg (by omega)]
          obtain ⟨σ1, a1, a2, a3, a4, a5⟩ := brk
          exact ⟨σ1, a1, a2, fun j _ => a3 j, fun m hm => by rw [a3]; exact h26 m hm, a4, .inr a5⟩
        | false =>
          have eg : lnG ms acc l.1 = some m := by unfold lnG mIx; rw [q]; simp [tk]
          have en : lnN ms acc k l.1 = acc ++ [(m, k)] := by unfold lnN; rw [eg]; rfl
          rw [eg, en, lnV_no tk, if_pos rfl, if_pos (by omega), oN, l2]
          have Fu : fr [452, 456] [726] σ (ua σ 726 (4 * f + m) (pv (k + 0) : Int)) := fr_ua (fr_refl _ _ _) (by simp)
          refine ⟨ua σ 726 (4 * f + m) (pv (k + 0) : Int), ?_, Fu, fun j hj => ?_, fun m' hm => ?_, ?_, .inl rfl⟩
          · unfold T_third_295
            rw [if_pos (by omega), oN, Fu.2 562 (by simp)]
          · rw [ga_ua, if_neg (by omega)]
          · rw [lnV_add tk, ga_ua]
            by_cases z : m' = m
            · rw [if_pos ⟨rfl, by omega⟩, if_pos z]; simp
            · rw [if_neg (by omega), if_neg z]; exact h26 m' hm
          · exact bp_eq rfl rfl
    obtain ⟨τ, r1, r2, r3, r4, r5, r6⟩ := t_lns hf hc h4 ns ls (k + 1) (lnN ms acc k l.1) (ga σ 562 o) σ1 (chain_keep c2 (fun y _ => F1.2 562 (by simp) y)) (by simpa using el) (fun j o' l' e1 e2 => by
      have := HL (j + 1) o' l' e1 e2
      rw [show k + (j + 1) = k + 1 + j by omega] at this
      exact LnT_fr F1 (by simp) this) (by rw [F1.2 678 (by simp)]; exact e78) (fun k y e => by rw [F1.2 682 (by simp)]; exact em k y e) v1
    refine ⟨τ, by rw [om_loop_in s1]; exact r1, fr_trans F1 r2, fun j hj => by rw [r3 j hj, u1 j hj], r4, ?_, ?_⟩
    · show bp τ = mnl (bp σ) ((lnG ms acc l.1).elim [(l.2 : Int)] (fun _ => []) ++ lnB ms (k + 1) (lnN ms acc k l.1) ls)
      rw [r5, b1, mnl_app]
    · rcases r6 with e | e
      · rw [e]; exact g1
      · exact .inr e
  | [], _ :: _, _, _, _, _, _, e, _, _, _, _ => by simp at e
  | _ :: _, [], _, _, _, _, _, e, _, _, _, _ => by simp at e
end LTL
