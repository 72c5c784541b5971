set_option maxRecDepth 100000
/-! A PROGRAM BEGINS, in the twin: what is there always, the text, the tokens -/
theorem t_copy {f1 : Nat} (hf : (f1, 50, 2000) ∈ tw_arr) (f6 : f1 ≠ 406) {S : List Int} (hS : S.length ≤ 2000) (hb : ∀ x ∈ S, -128 ≤ x ∧ x ≤ 127) : ∀ (d k : Nat) (σ : tS), k + d = S.length → (∀ (i : Nat) (x : Int), S[i]? = some x → ga σ f1 i = x) → (∀ (i : Nat) (x : Int), i < k → S[i]? = some x → ga σ 406 i = x) → ∃ τ, om_loop (T_isProgram_6s f1 (S.length : Int)) ((k : Int), σ) = some τ ∧ fr [] [406] σ τ ∧ ∀ (i : Nat) (x : Int), S[i]? = some x → ga τ 406 i = x
  | 0, k, σ, e, H, B => by
    refine ⟨σ, om_loop_out ?_, fr_refl _ _ _, fun i x ex => B i x (by have := (List.getElem?_eq_some_iff.mp ex).1; omega) ex⟩
    unfold T_isProgram_6s
    simp only
    rw [if_pos (by omega)]
  | d + 1, k, σ, e, H, B => by
    have hk : k < S.length := by omega
    have ek : S[k]? = some S[k] := List.getElem?_eq_getElem hk
    have bk := hb S[k] (List.getElem_mem hk)
    have st : T_isProgram_6s f1 (S.length : Int) ((k : Int), σ) = some (.inl (((k + 1 : Nat) : Int), ua σ 406 k S[k])) := by
      unfold T_isProgram_6s
      simp only
      rw [if_neg (by omega), if_pos ⟨hf, by omega, by omega⟩, show ((k : Int)).toNat = k by omega, H k _ ek, b8_id bk.1 bk.2, w32_s (by omega) (by omega)]
      rfl
    obtain ⟨τ, a1, a2, a3⟩ := t_copy hf f6 hS hb d (k + 1) (ua σ 406 k S[k]) (by omega) (fun i x ex => by rw [ga_ua, if_neg (fun z => f6 z.1)]; exact H i x ex) (fun i x hi ex => by
      rw [ga_ua]
      by_cases c : i = k
      · rw [if_pos ⟨rfl, c⟩]
        rw [c, ek] at ex
        exact Option.some.inj ex
      · rw [if_neg (fun z => c z.2)]
        exact B i x (by omega) ex)
    exact ⟨τ, by rw [om_loop_in st]; exact a1, fr_trans (fr_ua (fr_refl _ _ _) (by decide)) a2, a3⟩
abbrev PBS : List Nat := ALS ++ [452, 456, 436, 484, 564, 624, 644, 648, 652, 764, 432]
abbrev PBA : List Nat := ALR ++ [406, 470, 474, 478, 482]
theorem t_129 (y : tS) : T_isProgram_129 y = (TPe y).bind fun p => T_isProgram_148 p := by
  unfold T_isProgram_129 TPe
  by_cases c : gs y 452 ≠ 0
  · rw [if_pos c, if_pos c, Option.bind_some]
  · rw [if_neg c, if_neg c]
    cases q : T_is 0 y with
    | none => rfl
    | some p =>
      rw [Option.bind_some, Option.bind_some]
      by_cases c2 : p ≠ 0
      · rw [if_pos c2, if_pos c2, Option.bind_some]
      · rw [if_neg c2, if_neg c2]
        cases T_wrong y with
        | none => rfl
        | some v => rfl
/-- A PROGRAM BEGINS -/
theorem t_prgB {f1 : Nat} (hf : (f1, 50, 2000) ∈ tw_arr) (f6 : f1 ≠ 406) (hA : f1 ∉ ALR) {S : List Int} (hS : S.length ≤ 1300) (hb : ∀ x ∈ S, -128 ≤ x ∧ x ≤ 127) {σ : tS} (H : ∀ (i : Nat) (x : Int), S[i]? = some x → ga σ f1 i = x) : ∃ (σ0 : tS) (m n : Nat) (N : List (List Int)), T_isProgram f1 (S.length : Int) σ = ((TP σ0).bind fun p => T_isProgram_148 p) ∧ Tst σ0 N S 0 m 0 0 0 ∧ (NT σ0 N ∧ ndN N ∧ Nal <+: N ∧ ∀ L ∈ N, L.length ≤ 10 ∧ (L ∈ Nal ∨ ∃ j, L = tokw S j ∧ (tokk S j = 2 ∨ tokk S j = 3))) ∧ m ≤ S.length ∧ alS 2100 σ0 ∧ (TyN σ0 n ∧ n ≤ 12 ∧ BTy σ0 n) ∧ (gs σ0 624 = 0 ∧ gs σ0 644 = 0 ∧ gs σ0 648 = 0 ∧ gs σ0 652 = 0 ∧ gs σ0 764 = 0) ∧ gs σ0 420 = (S.length : Int) ∧ fr PBS PBA σ σ0 := by
  obtain ⟨p1, n, a1, a2, a3, a4, a5, a6, a7⟩ := t_always σ
  obtain ⟨y2, b1, b2, b3⟩ := t_copy hf f6 (by omega) hb S.length 0 p1 (by omega) (fun i x ex => by rw [a7.2 f1 hA]; exact H i x ex) (fun i x hi _ => absurd hi (Nat.not_lt_zero _))
  obtain ⟨z, ez⟩ : ∃ z, z = us (us (us (us (us (us (us (us (us (us (us y2 420 (S.length : Int)) 452 0) 456 (-1)) 436 0) 484 0) 564 0) 624 0) 644 0) 648 0) 652 0) 764 0 := ⟨_, rfl⟩
  have za : ∀ f i, ga z f i = ga y2 f i := fun f i => by rw [ez]; rfl
  have zs : ∀ f, f ∉ [420, 452, 456, 436, 484, 564, 624, 644, 648, 652, 764] → gs z f = gs y2 f := fun f hf => by
    simp only [List.mem_cons, List.not_mem_nil, or_false, not_or] at hf
    rw [ez]
    simp only [gs_us, hf, if_false]
  have tx0 : txT z S := ⟨by rw [ez]; rfl, by omega, fun i x ex => by rw [za]; exact b3 i x ex, hb⟩
  have Nz : NT z Nal := ⟨by rw [zs 496 (by decide), b2.1 496 (by decide)]; exact a2.1, a2.2.1, fun k w e => by
    obtain ⟨w1, w2, w3⟩ := a2.2.2.1 k w e
    exact ⟨by rw [za, b2.2 494 (by decide)]; exact w1, w2, fun i x ex => by rw [za, b2.2 490 (by decide)]; exact w3 i x ex⟩, a2.2.2.2⟩
  have l13 : Nal.length = 13 := rfl
  obtain ⟨m, p, N, c1, c2, c3, c4, c5, c6, c7, c8, c9, c10, c11⟩ := t_scan (b := 0) tx0 Nz (by rw [ez]; rfl) (by omega) (by omega)
  have F0 : fr PBS PBA σ z := fr_trans (fr_mono a7 (by decide) (by decide)) (fr_trans (fr_mono b2 (by decide) (by decide)) (by rw [ez]; exact fr_us (fr_us (fr_us (fr_us (fr_us (fr_us (fr_us (fr_us (fr_us (fr_us (fr_us (fr_refl _ _ _) (by decide)) (by decide)) (by decide)) (by decide)) (by decide)) (by decide)) (by decide)) (by decide)) (by decide)) (by decide)) (by decide)))
  have sp : ∀ f, f ∉ [484, 496, 432] → gs (us p 432 0) f = gs z f := fun f hf => by
    simp only [List.mem_cons, List.not_mem_nil, or_false, not_or] at hf
    rw [gs_us, if_neg hf.2.2, c10.1 f (by simp [hf.1, hf.2.1])]
  have ap : ∀ f, f ∉ [470, 474, 478, 482, 490, 494] → ∀ i, ga (us p 432 0) f i = ga z f i := fun f hf i => by
    rw [ga_us, c10.2 f hf]
  have tz : ∀ f ∈ TYA, ∀ i, ga (us p 432 0) f i = ga p1 f i := fun f hf i => by
    rw [ap f ((by decide : ∀ f ∈ TYA, f ∉ [470, 474, 478, 482, 490, 494]) f hf), za, b2.2 f ((by decide : ∀ f ∈ TYA, f ∉ [406]) f hf)]
  have s1 : ∀ f, f ∉ [484, 496, 432] → f ∉ [420, 452, 456, 436, 484, 564, 624, 644, 648, 652, 764] → gs (us p 432 0) f = gs p1 f := fun f h1 h2 => by
    rw [sp f h1, zs f h2, b2.1 f List.not_mem_nil]
  have Ty1 : TyN (us p 432 0) n := TyN_same (s1 532 (by decide) (by decide)) tz a4
  have tx1 : tx p1 n (us p 432 0) n := tx_same tz
  have a878 : ∀ i, ga (us p 432 0) 878 i = ga p1 878 i := fun i => by rw [ap 878 (by decide), za, b2.2 878 (by decide)]
  obtain ⟨⟨wa, wb, d1, d2, d3, d4⟩, d5, d6⟩ := a6
  have NTp : NT (us p 432 0) N := ⟨c2.1, c2.2.1, c2.2.2.1, c2.2.2.2⟩
  refine ⟨us p 432 0, m, n, N, ?_, ⟨⟨fun j hj => c9 j hj, by omega, c7, c8⟩, rfl, Nat.zero_le _, ?_, ?_, ?_⟩, ⟨NTp, ?_, c3.1, fun L hL => ⟨?_, c3.2 L hL⟩⟩, c6, fun j hj => ?_, ⟨Ty1, a5, ⟨wa, wb, d1, ?_, ?_, fun k hk => ?_⟩, ?_, ?_⟩, ⟨?_, ?_, ?_, ?_, ?_⟩, ?_, fr_trans F0 (fr_us (fr_mono c10 (by decide) (by decide)) (by decide))⟩
  · unfold T_isProgram
    have b1' : om_loop (T_isProgram_6s f1 (S.length : Int)) (0, p1) = some y2 := b1
    rw [a1, Option.bind_some, b1', Option.bind_some]
    unfold T_isProgram_66
    have c1' : T_scan (us (us (us (us (us (us (us (us (us (us (us y2 420 (S.length : Int)) 452 0) 456 (-1)) 436 0) 484 0) 564 0) 624 0) 644 0) 648 0) 652 0) 764 0) = some p := by rw [← ez]; exact c1
    rw [c1', Option.bind_some]
    unfold TP
    rw [Option.bind_assoc]
    refine congrArg (Option.bind _) (funext (fun y => t_129 y))
  · rw [sp 436 (by decide), ez]; rfl
  · rw [sp 452 (by decide), ez]; rfl
  · rw [sp 564 (by decide), ez]; rfl
  · intro i j L ei ej
    exact (List.getElem?_inj (List.getElem?_eq_some_iff.mp ei).1 c2.2.2.2).mp (ei.trans ej.symm)
  · obtain ⟨i, hi, ei⟩ := List.getElem_of_mem hL
    exact (c2.2.2.1 i L (by rw [List.getElem?_eq_getElem hi, ei])).2.1
  · have y : ∀ f ∈ ALA, ga (us p 432 0) f j = ga p1 f j := fun f hf => by
      rw [ap f ((by decide : ∀ f ∈ ALA, f ∉ [470, 474, 478, 482, 490, 494]) f hf), za, b2.2 f ((by decide : ∀ f ∈ ALA, f ∉ [406]) f hf)]
    rw [y 630 (by decide), y 770 (by decide), y 634 (by decide), y 638 (by decide), y 774 (by decide), y 642 (by decide)]
    exact a3 j hj
  · rw [s1 868 (by decide) (by decide)]; exact d2
  · rw [s1 872 (by decide) (by decide)]; exact d3
  · rw [a878]; exact tyT_mono tx1 (d4 k hk)
  · rw [s1 860 (by decide) (by decide)]; exact tyT_mono tx1 d5
  · rw [s1 864 (by decide) (by decide)]; exact tyT_mono tx1 d6
  · rw [sp 624 (by decide), ez]; rfl
  · rw [sp 644 (by decide), ez]; rfl
  · rw [sp 648 (by decide), ez]; rfl
  · rw [sp 652 (by decide), ez]; rfl
  · rw [sp 764 (by decide), ez]; rfl
  · rw [sp 420 (by decide), ez]; rfl
