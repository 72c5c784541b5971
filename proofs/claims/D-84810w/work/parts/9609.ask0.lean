set_option maxRecDepth 100000
/-! AN ASK IN THE TWIN: what is laid ahead of reading -/
theorem ask_copy (f1 : Nat) (l2 : Int) : T_isAsk_67s f1 l2 = T_isProgram_6s f1 l2 := rfl
/-- the words that the last ask brought are forgotten -/
theorem t_askW {f1 : Nat} {l2 : Int} {n : Nat} (hn : n ≤ 2100) : ∀ (d k : Nat) (σ : tS), k + d = n → gs σ 496 = (n : Int) → ∃ τ, om_loop (T_isAsk_13s f1 l2) ((k : Int), σ) = some τ ∧ fr [] [630, 638] σ τ ∧ (∀ x : Nat, k ≤ x → x < n → ga τ 630 x = 0 ∧ ga τ 638 x = 0) ∧ ∀ x : Nat, x < k ∨ n ≤ x → ga τ 630 x = ga σ 630 x ∧ ga τ 638 x = ga σ 638 x
  | 0, k, σ, e, g => by
    refine ⟨σ, om_loop_out ?_, fr_refl _ _ _, fun x h1 h2 => by omega, fun x _ => ⟨rfl, rfl⟩⟩
    unfold T_isAsk_13s
    simp only
    rw [if_pos (by rw [g]; omega)]
  | d + 1, k, σ, e, g => by
    have st : T_isAsk_13s f1 l2 ((k : Int), σ) = some (.inl (((k + 1 : Nat) : Int), ua (ua σ 630 k 0) 638 k 0)) := by
      unfold T_isAsk_13s
      simp only
      rw [if_neg (by rw [g]; omega), if_pos ⟨by omega, by omega⟩, show ((k : Int)).toNat = k by omega, w32_s (by omega) (by omega)]
      rfl
    obtain ⟨τ, a1, a2, a3, a4⟩ := t_askW hn d (k + 1) (ua (ua σ 630 k 0) 638 k 0) (by omega) (by rw [gs_ua, gs_ua]; exact g)
    refine ⟨τ, by rw [om_loop_in st]; exact a1, fr_trans (fr_ua (fr_ua (fr_refl _ _ _) (by decide)) (by decide)) a2, fun x h1 h2 => ?_, fun x h1 => ?_⟩
    · by_cases c : x = k
      · obtain ⟨b1, b2⟩ := a4 x (.inl (by omega))
        rw [b1, b2]
        refine ⟨?_, ?_⟩
        · rw [ga_ua, if_neg (fun z => absurd z.1 (by decide)), ga_ua, if_pos ⟨rfl, c⟩]
        · rw [ga_ua, if_pos ⟨rfl, c⟩]
      · exact a3 x (by omega) h2
    · obtain ⟨b1, b2⟩ := a4 x (by omega)
      have c : x ≠ k := by omega
      rw [b1, b2]
      refine ⟨?_, ?_⟩
      · rw [ga_ua, if_neg (fun z => c z.2), ga_ua, if_neg (fun z => c z.2)]
      · rw [ga_ua, if_neg (fun z => c z.2), ga_ua, if_neg (fun z => c z.2)]
/-- an ask that was right is kept -/
theorem t_askK {S : List Int} (hS : S.length ≤ 2000) (hb : ∀ x ∈ S, -128 ≤ x ∧ x ≤ 127) : ∀ (d k : Nat) (σ : tS), k + d = S.length → (∀ (i : Nat) (x : Int), S[i]? = some x → ga σ 402 i = x) → (∀ (i : Nat) (x : Int), i < k → S[i]? = some x → ga σ 414 i = x) → ∃ τ, om_loop (T_ask_69s (S.length : Int)) ((k : Int), σ) = some τ ∧ fr [] [414] σ τ ∧ ∀ (i : Nat) (x : Int), S[i]? = some x → ga τ 414 i = x
  | 0, k, σ, e, H, B => by
    refine ⟨σ, om_loop_out ?_, fr_refl _ _ _, fun i x ex => B i x (by have := (List.getElem?_eq_some_iff.mp ex).1; omega) ex⟩
    unfold T_ask_69s
    simp only
    rw [if_pos (by omega)]
  | d + 1, k, σ, e, H, B => by
    have hk : k < S.length := by omega
    have ek : S[k]? = some S[k] := List.getElem?_eq_getElem hk
    have bk := hb S[k] (List.getElem_mem hk)
    have st : T_ask_69s (S.length : Int) ((k : Int), σ) = some (.inl (((k + 1 : Nat) : Int), ua σ 414 k S[k])) := by
      unfold T_ask_69s
      simp only
      rw [if_neg (by omega), if_pos ⟨by omega, by omega⟩, show ((k : Int)).toNat = k by omega, H k _ ek, b8_id bk.1 bk.2, w32_s (by omega) (by omega)]
      rfl
    obtain ⟨τ, a1, a2, a3⟩ := t_askK hS hb d (k + 1) (ua σ 414 k S[k]) (by omega) (fun i x ex => by rw [ga_ua, if_neg (fun z => absurd z.1 (by decide))]; exact H i x ex) (fun i x hi ex => by
      rw [ga_ua]
      by_cases c : i = k
      · rw [if_pos ⟨rfl, c⟩]
        rw [c, ek] at ex
        exact Option.some.inj ex
      · rw [if_neg (fun z => c z.2)]
        exact B i x (by omega) ex)
    exact ⟨τ, by rw [om_loop_in st]; exact a1, fr_trans (fr_ua (fr_refl _ _ _) (by decide)) a2, a3⟩
