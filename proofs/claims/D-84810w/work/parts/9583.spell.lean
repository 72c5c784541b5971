set_option maxRecDepth 100000
/-! THE NAMES THAT ARE THERE ALWAYS, in the twin -/
/-- letters of a word in a long -/
def spL (l1 : Int) : Nat → List Int
  | 0 => []
  | k + 1 => if and64 (shr64 l1 ((8 * k : Nat) : Int)) 255 ≠ 0 then b8 (b8 (l2i (shr64 l1 ((8 * k : Nat) : Int)))) :: spL l1 k else spL l1 k
theorem spL_len (l1 : Int) : ∀ k, (spL l1 k).length ≤ k
  | 0 => Nat.le_refl _
  | k + 1 => by
    have := spL_len l1 k
    show (if and64 (shr64 l1 ((8 * k : Nat) : Int)) 255 ≠ 0 then b8 (b8 (l2i (shr64 l1 ((8 * k : Nat) : Int)))) :: spL l1 k else spL l1 k).length ≤ k + 1
    split
    · rw [List.length_cons]; omega
    · omega
theorem t_spellL {l1 : Int} {m : Nat} (hm : m < 2100) : ∀ (k n : Nat) (σ : tS), n + k ≤ 8 → gs σ 496 = (m : Int) → ∃ τ, om_loop (T_spell_6s l1) ((n : Int), 8 * (k : Int) - 8, σ) = some (((n + (spL l1 k).length : Nat) : Int), τ) ∧ (∀ f, gs τ f = gs σ f) ∧ (∀ f, f ≠ 490 → ∀ p, ga τ f p = ga σ f p) ∧ (∀ p, p < 10 * m + n → ga τ 490 p = ga σ 490 p) ∧ ∀ (i : Nat) (x : Int), (spL l1 k)[i]? = some x → ga τ 490 (10 * m + n + i) = x
  | 0, n, σ, _, e => by
    refine ⟨σ, om_loop_out ?_, fun _ => rfl, fun _ _ _ => rfl, fun _ _ => rfl, fun i x h => by simp [spL] at h⟩
    unfold T_spell_6s
    simp only
    rw [if_pos (by omega)]
    rfl
  | k + 1, n, σ, hn, e => by
    have ek : 8 * ((k + 1 : Nat) : Int) - 8 = ((8 * k : Nat) : Int) := by omega
    have wk : w32 (((8 * k : Nat) : Int) + (-8)) = 8 * (k : Int) - 8 := by rw [w32_s (by omega) (by omega)]; omega
    have ei : (w32 ((w32 (10 * (m : Int))) + (n : Int))) = ((10 * m + n : Nat) : Int) := by rw [w32_s (x := 10 * (m : Int)) (by omega) (by omega), w32_s (by omega) (by omega)]; omega
    rw [ek]
    by_cases c : and64 (shr64 l1 ((8 * k : Nat) : Int)) 255 ≠ 0
    · have eL : spL l1 (k + 1) = b8 (b8 (l2i (shr64 l1 ((8 * k : Nat) : Int)))) :: spL l1 k := by
        show (if and64 (shr64 l1 ((8 * k : Nat) : Int)) 255 ≠ 0 then b8 (b8 (l2i (shr64 l1 ((8 * k : Nat) : Int)))) :: spL l1 k else spL l1 k) = _
        rw [if_pos c]
      obtain ⟨v, ev⟩ : ∃ v, v = b8 (b8 (l2i (shr64 l1 ((8 * k : Nat) : Int)))) := ⟨_, rfl⟩
      have st : T_spell_6s l1 ((n : Int), ((8 * k : Nat) : Int), σ) = some (.inl (((n + 1 : Nat) : Int), 8 * (k : Int) - 8, ua σ 490 (10 * m + n) v)) := by
        unfold T_spell_6s
        simp only
        rw [if_neg (by omega), if_pos c, e, ei, if_pos ⟨by omega, by omega⟩, wk, ← ev, w32_s (x := (n : Int) + 1) (by omega) (by omega)]
        rfl
      obtain ⟨τ, a1, a2, a3, a4, a5⟩ := t_spellL hm k (n + 1) (ua σ 490 (10 * m + n) v) (by omega) e
      refine ⟨τ, ?_, a2, fun f hf p => by rw [a3 f hf, ga_ua, if_neg (fun z => hf z.1)], fun p hp => by rw [a4 p (by omega), ga_ua, if_neg (by omega)], fun i x h => ?_⟩
      · rw [om_loop_in st, a1, eL, List.length_cons]
        have e2 : n + 1 + (spL l1 k).length = n + ((spL l1 k).length + 1) := by omega
        rw [e2]
      · rw [eL, ← ev] at h
        cases i with
        | zero =>
          rw [a4 _ (by omega), ga_ua, if_pos ⟨rfl, by omega⟩]
          exact Option.some.inj h
        | succ i =>
          have := a5 i x h
          rw [show 10 * m + n + (i + 1) = 10 * m + (n + 1) + i by omega]
          exact this
    · have eL : spL l1 (k + 1) = spL l1 k := by
        show (if and64 (shr64 l1 ((8 * k : Nat) : Int)) 255 ≠ 0 then b8 (b8 (l2i (shr64 l1 ((8 * k : Nat) : Int)))) :: spL l1 k else spL l1 k) = _
        rw [if_neg c]
      have st : T_spell_6s l1 ((n : Int), ((8 * k : Nat) : Int), σ) = some (.inl ((n : Int), 8 * (k : Int) - 8, σ)) := by
        unfold T_spell_6s
        simp only
        rw [if_neg (by omega), if_neg c, wk]
      obtain ⟨τ, a1, a2, a3, a4, a5⟩ := t_spellL hm k n σ (by omega) e
      exact ⟨τ, by rw [om_loop_in st, a1, eL], a2, a3, a4, by rw [eL]; exact a5⟩
/-- a name is put behind the others -/
theorem t_spell {σ : tS} {N : List (List Int)} {l1 : Int} {L : List Int} (H : NT σ N) (hn : N.length < 2000) (eL : spL l1 8 = L) (nw : L ∉ N) : ∃ τ, T_spell l1 σ = some τ ∧ NT τ (N ++ [L]) ∧ fr [496] [490, 494] σ τ := by
  obtain ⟨τ, a1, a2, a3, a4, a5⟩ := t_spellL (l1 := l1) (m := N.length) (by omega) 8 0 σ (by omega) H.1
  have l8 := spL_len l1 8
  rw [eL] at a1 a5 l8
  have a1' : om_loop (T_spell_6s l1) (0, 56, σ) = some ((L.length : Int), τ) := by
    have e0 : ((0 + L.length : Nat) : Int) = (L.length : Int) := by rw [Nat.zero_add]
    rw [e0] at a1
    exact a1
  have g : gs τ 496 = (N.length : Int) := by rw [a2]; exact H.1
  refine ⟨us (ua τ 494 N.length (L.length : Int)) 496 ((N.length : Int) + 1), ?_, ⟨?_, ?_, fun k w ek => ?_, ?_⟩, ?_⟩
  · unfold T_spell
    rw [a1', Option.bind_some]
    simp only
    rw [g, if_pos ⟨by omega, by omega⟩, w32_s (by omega) (by omega), show ((N.length : Int)).toNat = N.length by omega]
  · rw [gs_us, if_pos rfl, List.length_append, List.length_singleton]
    omega
  · rw [List.length_append, List.length_singleton]
    omega
  · by_cases c : k < N.length
    · rw [List.getElem?_append_left c] at ek
      obtain ⟨b1, b2, b3⟩ := H.2.2.1 k w ek
      refine ⟨?_, b2, fun i x ex => ?_⟩
      · rw [ga_us, ga_ua, if_neg (by omega), a3 494 (by decide)]
        exact b1
      · have li := (List.getElem?_eq_some_iff.mp ex).1
        rw [ga_us, ga_ua, if_neg (by simp), a4 _ (by omega)]
        exact b3 i x ex
    · rw [List.getElem?_append_right (by omega)] at ek
      have k0 : k = N.length := by
        have := (List.getElem?_eq_some_iff.mp ek).1
        rw [List.length_singleton] at this
        omega
      rw [k0, Nat.sub_self] at ek
      have ew : L = w := Option.some.inj ek
      rw [← ew, k0]
      refine ⟨?_, by omega, fun i x ex => ?_⟩
      · rw [ga_us, ga_ua, if_pos ⟨rfl, rfl⟩]
      · have := a5 i x ex
        rw [ga_us, ga_ua, if_neg (by simp)]
        rw [show 10 * N.length + 0 + i = 10 * N.length + i by omega] at this
        exact this
  · refine List.nodup_append.mpr ⟨H.2.2.2, by simp, fun a ha b hb e => ?_⟩
    rw [List.mem_singleton.mp hb] at e
    exact nw (by rw [← e]; exact ha)
  · exact fr_us (fr_ua ⟨fun f _ => a2 f, fun f hf i => a3 f (fun z => hf (by rw [z]; decide)) i⟩ (by decide)) (by decide)
/-- the names that are there always -/
def Nal : List (List Int) := [[110, 105, 108], [99, 111, 110, 115], [112, 97, 105, 114], [102, 115, 116], [115, 110, 100], [116, 114, 117, 101], [102, 97, 108, 115, 101], [97], [98], [73, 110, 116], [66, 111, 111, 108], [76, 105, 115, 116], [80, 97, 105, 114]]
