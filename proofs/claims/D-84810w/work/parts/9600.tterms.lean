set_option maxRecDepth 100000
/-! TERMS THAT WERE SAID, byte by byte, in the twin -/
theorem tm_pos {σ : tS} : ∀ (l : List (Nat × List Int)) (s : Nat), tmAt σ (s : Int) l → ∀ (k : Nat) (L : List Int), (k, L) ∈ l → ∃ p : Nat, ga σ 898 k = ((s + p : Nat) : Int) ∧ ga σ 902 k = (L.length : Int) ∧ p + L.length ≤ (tmB l).length ∧ ∀ (i : Nat) (x : Int), L[i]? = some x → (tmB l)[p + i]? = some x
  | [], _, _, k, L, h => absurd h List.not_mem_nil
  | q :: l, s, ⟨⟨a1, a2⟩, b⟩, k, L, h => by
    rcases List.mem_cons.mp h with w | w
    · rw [← w] at a1 a2 ⊢
      refine ⟨0, by rw [Nat.add_zero]; exact a1, a2, ?_, fun i x ex => ?_⟩
      · rw [tmB_c, List.length_append]
        show 0 + L.length ≤ L.length + _
        omega
      · rw [tmB_c, Nat.zero_add, List.getElem?_append_left (List.getElem?_eq_some_iff.mp ex).1]
        exact ex
    · have e : (s : Int) + (q.2.length : Int) = ((s + q.2.length : Nat) : Int) := by omega
      rw [e] at b
      obtain ⟨p, c1, c2, c3, c4⟩ := tm_pos l (s + q.2.length) b k L w
      refine ⟨q.2.length + p, by rw [c1, Nat.add_assoc], c2, ?_, fun i x ex => ?_⟩
      · rw [tmB_c, List.length_append]
        omega
      · rw [tmB_c, List.getElem?_append_right (by omega), show q.2.length + p + i - q.2.length = p + i by omega]
        exact c4 i x ex
/-- where a term lies, what it is -/
def TmO (σ : tS) (k : Nat) (L : List Int) : Prop := ∃ st : Nat, ga σ 898 k = (st : Int) ∧ ga σ 902 k = (L.length : Int) ∧ st + L.length ≤ 80100 ∧ ∀ (i : Nat) (x : Int), L[i]? = some x → ga σ 894 (st + i) = b8 (b8 x)
theorem tms_at {σa σ2 : tS} {l : List (Nat × List Int)} (K : TmsK σa l σ2) (e4 : gs σa 904 = 0) (e8 : gs σa 908 = 60000) (e11 : gs σa 1111 = 0) (h6 : (tmB l).length ≤ 60000) : (∀ (k : Nat) (L : List Int), (k, L) ∈ l → TmO σ2 k L) ∧ ∀ i, i ∉ l.map Prod.fst → ga σ2 902 i = ga σa 902 i := by
  obtain ⟨S, T, O⟩ := K
  refine ⟨fun k L h => ?_, fun i hi => (O i hi).2⟩
  have T' := T (by rw [e4, e8]; omega)
  rw [e4] at T'
  obtain ⟨p, c1, c2, c3, c4⟩ := tm_pos l 0 T' k L h
  obtain ⟨s1, _⟩ := S.1 (by rw [e4, e8]; omega)
  obtain ⟨_, _, _, v4, _⟩ := svL_at (tmB l) (svw σa) 0 (by show gs σa 904 = _; rw [e4]; rfl) e11 (by show ((0 : Nat) : Int) + ((tmB l).length : Int) ≤ gs σa 908; rw [e8]; omega) (by show gs σa 908 ≤ _; rw [e8]; decide)
  rw [← s1] at v4
  refine ⟨p, by rw [c1, Nat.zero_add], c2, by omega, fun i x ex => ?_⟩
  have := v4 (p + i) x (c4 i x ex)
  rw [Nat.zero_add] at this
  exact this
/-- a term of a place, its size, its bytes: in the twin -/
theorem t_sizeT {σ : tS} {a b : Int} {k : Nat} {L : List Int} (hk : k < 125) (W : T_which a b (us σ 396 0) = some (k : Int)) (T : TmO σ k L) : T_size a b σ = some ((L.length : Int), us σ 396 0) := by
  obtain ⟨st, t1, t2, t3, t4⟩ := T
  unfold T_size
  rw [W, Option.bind_some, if_pos (by omega), if_pos ⟨by omega, by omega⟩, show ((k : Int)).toNat = k by omega, ga_us, t2]
theorem t_termT {σ : tS} {a b c : Int} {k : Nat} {L : List Int} (hk : k < 125) (W : T_which a b (us σ 396 0) = some (k : Int)) (T : TmO σ k L) (hb : ∀ x ∈ L, -128 ≤ x ∧ x ≤ 127) : (∀ (i : Nat) (x : Int), c = (i : Int) → L[i]? = some x → T_term a b c σ = some (x, us σ 396 0)) ∧ ((c < 0 ∨ (L.length : Int) ≤ c) → T_term a b c σ = some (-1, us σ 396 0)) := by
  obtain ⟨st, t1, t2, t3, t4⟩ := T
  have kN : ((k : Int)).toNat = k := by omega
  refine ⟨fun i x ec ex => ?_, fun w => ?_⟩
  · have li := (List.getElem?_eq_some_iff.mp ex).1
    have bx := hb x (List.mem_of_getElem? ex)
    have ws : w32 ((st : Int) + (i : Int)) = ((st + i : Nat) : Int) := by rw [w32_s (by omega) (by omega)]; omega
    unfold T_term
    rw [W, Option.bind_some, if_neg (by omega), if_neg (by omega), if_pos ⟨by omega, by omega⟩, kN, ga_us, ga_us, t2, t1, if_pos (by omega), ec, ws, if_pos ⟨by omega, by omega, by omega, by omega⟩, show (((st + i : Nat) : Int)).toNat = st + i by omega, ga_us, t4 i x ex, b8_id bx.1 bx.2, b8_id bx.1 bx.2]
  · unfold T_term T_term_34
    rw [W, Option.bind_some, if_neg (by omega)]
    by_cases q : c < 0
    · rw [if_pos q]
    · rw [if_neg q, if_pos ⟨by omega, by omega⟩, kN, ga_us, t2, if_neg (by omega)]
