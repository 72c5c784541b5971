set_option maxRecDepth 100000
/-! THE THIRD RULE: an inst in the twin -/
theorem ixF_snoc {α : Type} {p : α → Bool} {x : α} : ∀ {l : List α}, ixF p (l ++ [x]) = (ixF p l).elim (if p x = true then some l.length else none) some
  | [] => by
    show (if p x = true then some 0 else Option.map _ none) = _
    rfl
  | y :: l => by
    show (if p y = true then some 0 else (ixF p (l ++ [x])).map (fun i => i + 1)) = (if p y = true then some 0 else (ixF p l).map (fun i => i + 1)).elim _ some
    by_cases c : p y = true
    · rw [if_pos c, if_pos c]; rfl
    · rw [if_neg c, if_neg c, ixF_snoc]
      cases ixF p l with
      | none =>
        show Option.map _ (if p x = true then some l.length else none) = if p x = true then some (l.length + 1) else none
        split <;> rfl
      | some i => rfl
/-- an inst of the same class and con stands ahead -/
def dpB (ins : List INs) (f c k : Nat) (q : Int) : List Int := if iOf (ins.take f) c k = none then [] else [q]
/-- breaks of an inst (B: of its family's line) -/
def thX (ins : List INs) (f : Nat) (d : INs) (cfam fam : Option Nat) (ms : List (Nat × Ty)) (lns : List (Nat × Nat)) (q : Int) (B : List Int) : List Int := dpB ins f d.1 d.2.1 q ++ ((if fam = cfam then [] else [q]) ++ (lnB ms 0 [] lns ++ (msB (lnA ms 0 [] lns) q ms.length ++ B)))
section LTT
variable {σ τ : tS} {f i c con t q : Nat} {ins : List INs}
/-- insts ahead -/
theorem t_dup {d : INs} (hf : f < 20) (hi : i < 700) (ed : d.1 = c ∧ d.2.1 = con) (e578 : ga σ 578 i = (t : Int)) (ht : t < 4100) (e474 : ga σ 474 t = (q : Int)) (hq : q ≤ 2000) (e98 : ga σ 698 f = (con : Int)) (hI : ∀ j, j < f → ∃ d' : INs, ins[j]? = some d' ∧ ga σ 694 j = (d'.1 : Int) ∧ ga σ 698 j = (d'.2.1 : Int)) : ∀ (n j : Nat) (σ1 : tS), j + n = f → fr [452, 456] [] σ σ1 → bp σ1 = mnl (bp σ) (dpB ins j c con (q : Int)) → (gs σ1 452 = gs σ 452 ∨ gs σ1 452 = 3) → ∃ τ, om_loop (T_third_27s (f : Int) (i : Int) (c : Int)) ((j : Int), σ1) = some τ ∧ fr [452, 456] [] σ τ ∧ bp τ = mnl (bp σ) (dpB ins f c con (q : Int)) ∧ (gs τ 452 = gs σ 452 ∨ gs τ 452 = 3)
  | 0, j, σ1, e, F, eb, e4 => by
    refine ⟨σ1, om_loop_out ?_, F, by rw [show f = j by omega]; exact eb, e4⟩
    unfold T_third_27s
    simp only
    rw [if_pos (by omega)]
  | n + 1, j, σ1, e, F, eb, e4 => by
    obtain ⟨d', d1, d2, d3⟩ := hI j (by omega)
    have jN : ((j : Int)).toNat = j := by omega
    have fN : ((f : Int)).toNat = f := by omega
    have jl := (List.getElem?_eq_some_iff.mp d1).1
    have tk : ins.take (j + 1) = ins.take j ++ [d'] := by
      rw [List.take_succ, d1]; rfl
    have wk : w32 ((j : Int) + 1) = ((j + 1 : Nat) : Int) := by rw [w32_s (by omega) (by omega)]; rfl
    obtain ⟨σ2, s1, F2, eb2, e42⟩ : ∃ σ2, T_third_27s (f : Int) (i : Int) (c : Int) ((j : Int), σ1) = some (.inl (((j + 1 : Nat) : Int), σ2)) ∧ fr [452, 456] [] σ σ2 ∧ bp σ2 = mnl (bp σ) (dpB ins (j + 1) c con (q : Int)) ∧ (gs σ2 452 = gs σ 452 ∨ gs σ2 452 = 3) := by
      unfold T_third_27s
      simp only
      rw [if_neg (by omega), if_pos (by omega), jN, F.2 694 (by simp), d2]
      have no : ¬ (d'.1 = c ∧ d'.2.1 = con) → bp σ1 = mnl (bp σ) (dpB ins (j + 1) c con (q : Int)) := fun h => by
        have pf : ¬ ((d'.1 == c && d'.2.1 == con) = true) := fun z => h (by simpa using z)
        rw [eb]
        unfold dpB iOf
        rw [tk, ixF_snoc]
        cases ixF (fun i : INs => i.1 == c && i.2.1 == con) (ins.take j) with
        | none =>
          show mnl (bp σ) [] = mnl (bp σ) (if (if (d'.1 == c && d'.2.1 == con) = true then some (ins.take j).length else none) = none then [] else [(q : Int)])
          rw [if_neg pf, if_pos rfl]
        | some k0 => rfl
      by_cases c1 : d'.1 = c
      · rw [if_neg (fun z => z (by omega)), if_pos (by omega), fN, F.2 698 (by simp), F.2 698 (by simp), d3, e98]
        by_cases c2 : d'.2.1 = con
        · rw [if_neg (fun z => z (by omega)), if_pos (by omega), show ((i : Int)).toNat = i by omega, F.2 578 (by simp), e578]
          obtain ⟨σ2, a1, a2, a3, a4⟩ := t_brk (σ := σ1) (w := 3) ht (by rw [F.2 474 (by simp)]; exact e474) hq (by decide)
          rw [a1, Option.bind_some, wk]
          refine ⟨σ2, rfl, fr_trans F a2, ?_, .inr a3⟩
          have pt : (d'.1 == c && d'.2.1 == con) = true := by simp [c1, c2]
          rw [a4, eb]
          unfold dpB iOf
          rw [tk, ixF_snoc]
          cases ixF (fun i : INs => i.1 == c && i.2.1 == con) (ins.take j) with
          | none =>
            show min (bp σ) (q : Int) = mnl (bp σ) (if (if (d'.1 == c && d'.2.1 == con) = true then some (ins.take j).length else none) = none then [] else [(q : Int)])
            rw [if_pos pt, if_neg (fun z => by cases z)]
            rfl
          | some k =>
            show min (min (bp σ) (q : Int)) (q : Int) = min (bp σ) (q : Int)
            omega
        · rw [if_pos (by omega), wk]
          exact ⟨σ1, rfl, F, no (fun h => c2 h.2), e4⟩
      · rw [if_pos (by omega), wk]
        exact ⟨σ1, rfl, F, no (fun h => c1 h.1), e4⟩
    obtain ⟨τ, r1, r2⟩ := t_dup hf hi ed e578 ht e474 hq e98 hI n (j + 1) σ2 (by omega) F2 eb2 e42
    exact ⟨τ, by rw [om_loop_in s1]; exact r1, r2⟩
/-- lines are cleared -/
theorem t_clr (hf : f < 20) : ∀ (n m : Nat) (σ1 : tS), m + n = 4 → fr [452, 456] [726] σ σ1 → (∀ g, gs σ1 g = gs σ g) → (∀ j, (j < 4 * f ∨ 4 * f + 4 ≤ j) → ga σ1 726 j = ga σ 726 j) → (∀ k, k < m → ga σ1 726 (4 * f + k) = -1) → ∃ τ, om_loop (T_third_153s (f : Int) (i : Int) (c : Int)) ((m : Int), σ1) = some τ ∧ fr [452, 456] [726] σ τ ∧ (∀ g, gs τ g = gs σ g) ∧ (∀ j, (j < 4 * f ∨ 4 * f + 4 ≤ j) → ga τ 726 j = ga σ 726 j) ∧ ∀ k, k < 4 → ga τ 726 (4 * f + k) = -1
  | 0, m, σ1, e, F, g, u, v => by
    refine ⟨σ1, om_loop_out ?_, F, g, u, fun k hk => v k (by omega)⟩
    unfold T_third_153s
    simp only
    rw [if_pos (by omega)]
  | n + 1, m, σ1, e, F, g, u, v => by
    have w1 : w32 (4 * (f : Int)) = ((4 * f : Nat) : Int) := by rw [w32_s (by omega) (by omega)]; omega
    have w2 : w32 (((4 * f : Nat) : Int) + (m : Int)) = ((4 * f + m : Nat) : Int) := by rw [w32_s (by omega) (by omega)]; omega
    have st : T_third_153s (f : Int) (i : Int) (c : Int) ((m : Int), σ1) = some (.inl (((m + 1 : Nat) : Int), ua σ1 726 (4 * f + m) (-1))) := by
      unfold T_third_153s
      simp only
      rw [if_neg (by omega), w1, w2, if_pos (by omega), show (((4 * f + m : Nat) : Int)).toNat = 4 * f + m by omega, w32_s (by omega) (by omega)]
      rfl
    obtain ⟨τ, r1, r2⟩ := t_clr hf n (m + 1) (ua σ1 726 (4 * f + m) (-1)) (by omega) (fr_ua F (by simp)) g (fun j hj => by rw [ga_ua, if_neg (by omega)]; exact u j hj) (fun k hk => by
      rw [ga_ua]
      by_cases z : k = m
      · rw [if_pos ⟨rfl, by omega⟩]
      · rw [if_neg (by omega)]; exact v k (by omega))
    exact ⟨τ, by rw [om_loop_in st]; exact r1, r2⟩
/-- methods without a line -/
theorem t_miss {ms : List (Nat × Ty)} {acc : List (Nat × Nat)} {pv : Nat → Nat} (hf : f < 20) (hc : c < 8) (hi : i < 700) (h4 : ms.length ≤ 4) (e78 : ga σ 678 c = (ms.length : Int)) (e578 : ga σ 578 i = (t : Int)) (ht : t < 4100) (e474 : ga σ 474 t = (q : Int)) (hq : q ≤ 2000) (h26 : ∀ m, m < 4 → ga σ 726 (4 * f + m) = lnV acc m (fun k => (pv k : Int)) (-1)) : ∀ (n m : Nat) (σ1 : tS), m + n = ms.length → fr [452, 456] [] σ σ1 → bp σ1 = mnl (bp σ) (msB acc (q : Int) m) → (gs σ1 452 = gs σ 452 ∨ gs σ1 452 = 3) → ∃ τ, om_loop (T_third_310s (f : Int) (i : Int) (c : Int)) ((m : Int), σ1) = some τ ∧ fr [452, 456] [] σ τ ∧ bp τ = mnl (bp σ) (msB acc (q : Int) ms.length) ∧ (gs τ 452 = gs σ 452 ∨ gs τ 452 = 3)
  | 0, m, σ1, e, F, eb, e4 => by
    refine ⟨σ1, om_loop_out ?_, F, by rw [show ms.length = m by omega]; exact eb, e4⟩
    unfold T_third_310s
    simp only
    rw [if_pos (by omega), show ((c : Int)).toNat = c by omega, F.2 678 (by simp), e78, if_pos (by omega)]
  | n + 1, m, σ1, e, F, eb, e4 => by
    have w1 : w32 (4 * (f : Int)) = ((4 * f : Nat) : Int) := by rw [w32_s (by omega) (by omega)]; omega
    have w2 : w32 (((4 * f : Nat) : Int) + (m : Int)) = ((4 * f + m : Nat) : Int) := by rw [w32_s (by omega) (by omega)]; omega
    have wk : w32 ((m : Int) + 1) = ((m + 1 : Nat) : Int) := by rw [w32_s (by omega) (by omega)]; rfl
    obtain ⟨σ2, s1, F2, eb2, e42⟩ : ∃ σ2, T_third_310s (f : Int) (i : Int) (c : Int) ((m : Int), σ1) = some (.inl (((m + 1 : Nat) : Int), σ2)) ∧ fr [452, 456] [] σ σ2 ∧ bp σ2 = mnl (bp σ) (msB acc (q : Int) (m + 1)) ∧ (gs σ2 452 = gs σ 452 ∨ gs σ2 452 = 3) := by
      unfold T_third_310s
      simp only
      rw [if_pos (by omega), show ((c : Int)).toNat = c by omega, F.2 678 (by simp), e78, if_neg (by omega), w1, w2, if_pos (by omega), show (((4 * f + m : Nat) : Int)).toNat = 4 * f + m by omega, F.2 726 (by simp), h26 m (by omega)]
      show ∃ σ2, _ ∧ _ ∧ bp σ2 = mnl (bp σ) (msB acc (q : Int) m ++ (if tkn acc m then [] else [(q : Int)])) ∧ _
      cases tk : tkn acc m with
      | true =>
        obtain ⟨k', _, lv⟩ := lnV_yes (α := Int) tk
        rw [lv, if_pos (by omega), wk]
        exact ⟨σ1, rfl, F, by rw [if_pos rfl, List.append_nil]; exact eb, e4⟩
      | false =>
        rw [lnV_no tk, if_neg (fun z => z rfl), if_pos (by omega), show ((i : Int)).toNat = i by omega, F.2 578 (by simp), e578]
        obtain ⟨σ2, a1, a2, a3, a4⟩ := t_brk (σ := σ1) (w := 3) ht (by rw [F.2 474 (by simp)]; exact e474) hq (by decide)
        rw [a1, Option.bind_some, wk]
        refine ⟨σ2, rfl, fr_trans F a2, ?_, .inr a3⟩
        rw [a4, eb, if_neg (by decide), mnl_app]
        rfl
    obtain ⟨τ, r1, r2⟩ := t_miss hf hc hi h4 e78 e578 ht e474 hq h26 n (m + 1) σ2 (by omega) F2 eb2 e42
    exact ⟨τ, by rw [om_loop_in s1]; exact r1, r2⟩
set_option maxHeartbeats 1000000 in
/-- AN INST, IN THE TWIN -/
theorem t_thI {d : INs} {ms : List (Nat × Ty)} {pv : Nat → Nat} {cfam fam : Option Nat} {ns : List Nat} {lns : List (Nat × Nat)} {B : List Int} (hf : f < 20) (hi : i < 700) (ed : d.1 = c ∧ d.2.1 = con) (hc : c < 8) (g648 : (f : Int) < gs σ 648) (e90 : ga σ 690 f = (i : Int)) (e94 : ga σ 694 f = (c : Int)) (e98 : ga σ 698 f = (con : Int)) (hI : ∀ j, j < f → ∃ d' : INs, ins[j]? = some d' ∧ ga σ 694 j = (d'.1 : Int) ∧ ga σ 698 j = (d'.2.1 : Int)) (e578 : ga σ 578 i = (t : Int)) (ht : t < 4100) (e474 : ga σ 474 t = (q : Int)) (hq : q ≤ 2000) (e674 : ga σ 674 c = oI cfam) (h4 : ms.length ≤ 4) (e78 : ga σ 678 c = (ms.length : Int)) (em : ∀ (k : Nat) (y : Nat × Ty), ms[k]? = some y → ga σ 682 (4 * c + k) = (y.1 : Int)) (fw : (ga σ 610 i = -1 ∧ fam = none ∧ B = []) ∨ ∃ tf w p : Nat, fam = some w ∧ ga σ 610 i = (tf : Int) ∧ tf < 4100 ∧ ga σ 482 tf = (w : Int) ∧ w < 2100 ∧ (ga σ 634 w = (c : Int) ↔ cfam = some w) ∧ ga σ 614 i = (p : Int) ∧ naT σ 60 p B) (ch : chain σ (ga σ 602 i) ns) (ln : ns.length = lns.length) (HL : ∀ (j o : Nat) (l : Nat × Nat), ns[j]? = some o → lns[j]? = some l → LnT σ o l.1 l.2 (pv j)) : ∃ τ, T_third_2s ((f : Int), σ) = some (.inl (((f + 1 : Nat) : Int), τ)) ∧ fr [452, 456] [726] σ τ ∧ (∀ j, (j < 4 * f ∨ 4 * f + 4 ≤ j) → ga τ 726 j = ga σ 726 j) ∧ (∀ m, m < 4 → ga τ 726 (4 * f + m) = lnV (lnA ms 0 [] lns) m (fun k => (pv k : Int)) (-1)) ∧ bp τ = mnl (bp σ) (thX ins f d cfam fam ms lns (q : Int) B) ∧ (gs τ 452 = gs σ 452 ∨ gs τ 452 = 3) := by
  have fN : ((f : Int)).toNat = f := by omega
  have iN : ((i : Int)).toNat = i := by omega
  have cN : ((c : Int)).toNat = c := by omega
  have wk : w32 ((f : Int) + 1) = ((f + 1 : Nat) : Int) := by rw [w32_s (by omega) (by omega)]; rfl
  obtain ⟨σ1, a1, F1, a3, a4⟩ := t_dup hf hi ed e578 ht e474 hq e98 hI f 0 σ (by omega) (fr_refl _ _ _) rfl (.inl rfl)
  rw [show ((0 : Nat) : Int) = 0 from rfl] at a1
  -- the family's name
  obtain ⟨σ2, b1, F2, b3, b4⟩ : ∃ σ2, T_third_2s ((f : Int), σ) = T_third_150 (f : Int) (i : Int) (c : Int) σ2 ∧ fr [452, 456] [] σ1 σ2 ∧ bp σ2 = mnl (bp σ1) (if fam = cfam then [] else [(q : Int)]) ∧ (gs σ2 452 = gs σ1 452 ∨ gs σ2 452 = 3) := by
    have brk : ∃ σ2, T_third_139 (f : Int) (i : Int) (c : Int) σ1 = T_third_150 (f : Int) (i : Int) (c : Int) σ2 ∧ fr [452, 456] [] σ1 σ2 ∧ bp σ2 = mnl (bp σ1) [(q : Int)] ∧ (gs σ2 452 = gs σ1 452 ∨ gs σ2 452 = 3) := by
      obtain ⟨σ2, c1, c2, c3, c4⟩ := t_brk (σ := σ1) (w := 3) ht (by rw [F1.2 474 (by simp)]; exact e474) hq (by decide)
      refine ⟨σ2, ?_, c2, c4, .inr c3⟩
      unfold T_third_139
      rw [if_pos (by omega), iN, F1.2 578 (by simp), e578, c1, Option.bind_some]
    have hd : T_third_2s ((f : Int), σ) = if ga σ 610 i ≠ -1 then T_third_92 (f : Int) (i : Int) (c : Int) 0 σ1 else T_third_92 (f : Int) (i : Int) (c : Int) 1 σ1 := by
      unfold T_third_2s
      simp only
      rw [if_neg (by omega), if_pos (by omega), fN, e90, e94, a1, Option.bind_some, if_pos (by omega), iN, F1.2 610 (by simp)]
    have h92 : ∀ s : Int, T_third_92 (f : Int) (i : Int) (c : Int) s σ1 = T_third_107 (f : Int) (i : Int) (c : Int) s (if cfam = none then 1 else 0) σ1 := fun s => by
      unfold T_third_92
      rw [if_pos (by omega), cN, F1.2 674 (by simp), e674]
      cases cfam with
      | none => rw [if_neg (fun z => z rfl), if_pos rfl]
      | some w' =>
        have : oI (some w') = (w' : Int) := rfl
        rw [this, if_pos (by omega), if_neg (by simp)]
    rw [hd]
    rcases fw with ⟨f1, f2, _⟩ | ⟨tf, w, p, f1, f2, f3, f4, f5, f6, f7, _⟩
    · rw [f1, if_neg (fun z => z rfl), h92, f2]
      unfold T_third_107
      by_cases z : cfam = none
      · rw [if_pos z, if_neg (fun z => z rfl), if_pos (by omega), iN, F1.2 610 (by simp), f1, if_pos rfl, if_pos z.symm]
        exact ⟨σ1, rfl, fr_refl _ _ _, rfl, .inl rfl⟩
      · rw [if_neg z, if_pos (by decide), if_neg (fun y => z y.symm)]
        exact brk
    · rw [f2, if_pos (by omega), h92]
      unfold T_third_107
      by_cases z : cfam = none
      · rw [if_pos z, if_pos (by decide), if_neg (fun y => by rw [f1, z] at y; cases y)]
        exact brk
      · have na : T_nameAt (tf : Int) σ1 = some (w : Int) := by
          unfold T_nameAt
          rw [if_pos (by omega), show ((tf : Int)).toNat = tf by omega, F1.2 482 (by simp), f4]
        rw [if_neg z, if_neg (fun z => z rfl), if_pos (by omega), iN, F1.2 610 (by simp), f2, if_neg (by omega), if_pos (by omega), na, Option.bind_some, if_pos (by omega), show ((w : Int)).toNat = w by omega, F1.2 634 (by simp)]
        by_cases y : cfam = some w
        · rw [if_pos (f6.mpr y), if_pos (by rw [f1, y])]
          exact ⟨σ1, rfl, fr_refl _ _ _, rfl, .inl rfl⟩
        · rw [if_neg (fun v => y (f6.mp v)), if_neg (fun v => y (by rw [← v, f1]))]
          exact brk
  have F12 := fr_trans F1 F2
  obtain ⟨σ3, c1, F3, c3, c4, c5⟩ := t_clr (i := i) (c := c) (σ := σ2) hf 4 0 σ2 (by omega) (fr_refl _ _ _) (fun _ => rfl) (fun _ _ => rfl) (fun k hk => by omega)
  rw [show ((0 : Nat) : Int) = 0 from rfl] at c1
  have F13 := fr_trans (w26 F12) F3
  have bp3 : bp σ3 = bp σ2 := bp_eq (c3 452) (c3 456)
  obtain ⟨σ4, d1, F4, d3, d4, d5, d6⟩ := t_lns (i := i) (ms := ms) (pv := pv) hf hc h4 ns lns 0 [] (ga σ 602 i) σ3 (chain_keep ch (fun y _ => F13.2 562 (by simp) y)) ln (fun j o l e1 e2 => by
    have := LnT_fr F13 (by simp) (HL j o l e1 e2)
    rw [Nat.zero_add]; exact this) (by rw [F13.2 678 (by simp)]; exact e78) (fun k y e => by rw [F13.2 682 (by simp)]; exact em k y e) (fun m hm => by rw [c5 m hm]; rfl)
  have F14 := fr_trans F13 F4
  obtain ⟨σ5, g1, F5, g3, g4⟩ := t_miss (i := i) (ms := ms) (pv := pv) hf hc hi h4 (by rw [F14.2 678 (by simp)]; exact e78) (by rw [F14.2 578 (by simp)]; exact e578) ht (by rw [F14.2 474 (by simp)]; exact e474) hq d4 ms.length 0 σ4 (by omega) (fr_refl _ _ _) rfl (.inl rfl)
  rw [show ((0 : Nat) : Int) = 0 from rfl] at g1
  have F15 := fr_trans F14 (w26 F5)
  have g45 : gs σ5 452 = gs σ 452 ∨ gs σ5 452 = 3 := by
    rcases g4 with e | e
    · rw [e]
      rcases d6 with e | e
      · rw [e, c3]
        rcases b4 with e | e
        · rw [e]; exact a4
        · exact .inr e
      · exact .inr e
    · exact .inr e
  have bp5 : bp σ5 = mnl (bp σ) (dpB ins f d.1 d.2.1 (q : Int) ++ ((if fam = cfam then [] else [(q : Int)]) ++ (lnB ms 0 [] lns ++ msB (lnA ms 0 [] lns) (q : Int) ms.length))) := by
    rw [g3, d5, bp3, b3, a3, ed.1, ed.2, mnl_app, mnl_app, mnl_app]
  have u26 : ∀ j, (j < 4 * f ∨ 4 * f + 4 ≤ j) → ga σ5 726 j = ga σ 726 j := fun j hj => by rw [F5.2 726 (by simp), d3 j hj, c4 j hj, F12.2 726 (by simp)]
  have v26 : ∀ m, m < 4 → ga σ5 726 (4 * f + m) = lnV (lnA ms 0 [] lns) m (fun k => (pv k : Int)) (-1) := fun m hm => by rw [F5.2 726 (by simp)]; exact d4 m hm
  have h150 : T_third_2s ((f : Int), σ) = if ga σ 610 i = -1 then some (.inl (((f + 1 : Nat) : Int), σ5)) else (T_namesAlone (ga σ 614 i) σ5).bind fun p4 => some (.inl (((f + 1 : Nat) : Int), p4)) := by
    rw [b1]
    unfold T_third_150
    rw [c1, Option.bind_some, if_pos (by omega), iN, F13.2 602 (by simp), d1, Option.bind_some, g1, Option.bind_some, if_pos (by omega), F15.2 610 (by simp), F15.2 614 (by simp), wk]
    by_cases z : ga σ 610 i = -1
    · rw [if_pos z, if_pos z]
    · rw [if_neg z, if_neg z, if_pos (by omega)]
  rw [h150]
  rcases fw with ⟨f1, f2, f3⟩ | ⟨tf, w, p, f1, f2, f3, f4, f5, f6, f7, f8⟩
  · rw [if_pos f1]
    refine ⟨σ5, rfl, F15, u26, v26, ?_, g45⟩
    rw [bp5, f3]
    unfold thX
    rw [List.append_nil]
  · rw [f2, if_neg (by omega), f7]
    obtain ⟨σ6, k1, k2, k3, k4⟩ := f8 σ5 F15
    have k1' : T_namesAlone (p : Int) σ5 = some σ6 := k1
    rw [k1', Option.bind_some]
    refine ⟨σ6, rfl, fr_trans F15 (w26 k2), fun j hj => by rw [k2.2 726 (by simp)]; exact u26 j hj, fun m hm => by rw [k2.2 726 (by simp)]; exact v26 m hm, ?_, ?_⟩
    · rw [k3, bp5, ← mnl_app]
      unfold thX
      simp only [List.append_assoc]
    · rcases k4 with e | e
      · rw [e]; exact g45
      · exact .inr e
end LTT
