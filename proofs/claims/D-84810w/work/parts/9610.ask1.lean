set_option maxRecDepth 100000
/-! AN ASK IN THE TWIN: its head -/
/-- what an ask does behind its head -/
noncomputable def askR (l2 : Int) (y3 : tS) : Option (Int × tS) := (T_scan (us (us (us (us y3 420 l2) 452 0) 456 (-1)) 436 0)).bind fun p4 => (T_readEx (us p4 432 (gs p4 1088))).bind fun p5 => if (gs p5.2 452) ≠ 0 then T_isAsk_143 p5.1 p5.2 else (T_is 0 p5.2).bind fun p6 => if p6 ≠ 0 then T_isAsk_143 p5.1 p5.2 else (T_wrong p5.2).bind fun p7 => T_isAsk_143 p5.1 p7
/-- its head: types and words of the last ask are forgotten, the text is laid -/
theorem t_askH {f1 : Nat} {S : List Int} {σ : tS} {n k m c : Nat} (H : TyS σ n) (hk : gs σ 1096 = (k : Int)) (hkn : k ≤ n) (hm : gs σ 496 = (m : Int)) (hm2 : m ≤ 2100) (hc : gs σ 1100 = (c : Int)) (hcm : c ≤ m) (hf : (f1, 50, 2000) ∈ tw_arr) (f6 : f1 ∉ [406, 526, 630, 638]) (hS : S.length ≤ 2000) (hb : ∀ x ∈ S, -128 ≤ x ∧ x ≤ 127) (hR : ∀ (i : Nat) (x : Int), S[i]? = some x → ga σ f1 i = x) :
    ∃ τ, T_isAsk f1 (S.length : Int) σ = askR (S.length : Int) τ ∧ TyS τ k ∧ fr [532, 496, 564, 484] [526, 630, 638, 406] σ τ ∧ (gs τ 496 = (c : Int) ∧ gs τ 564 = gs σ 1092 ∧ gs τ 484 = gs σ 1088) ∧ (∀ x : Nat, c ≤ x → x < m → ga τ 630 x = 0 ∧ ga τ 638 x = 0) ∧ (∀ x : Nat, x < c ∨ m ≤ x → ga τ 630 x = ga σ 630 x ∧ ga τ 638 x = ga σ 638 x) ∧ ∀ (i : Nat) (x : Int), S[i]? = some x → ga τ 406 i = x := by
  obtain ⟨σ1, a1, a2, a3⟩ := t_forget H hkn
  have g1 : gs σ1 496 = (m : Int) := by rw [a3.1 496 (by decide)]; exact hm
  have g2 : gs σ1 1100 = (c : Int) := by rw [a3.1 1100 (by decide)]; exact hc
  obtain ⟨σ2, b1, b2, b3, b4⟩ := t_askW (f1 := f1) (l2 := (S.length : Int)) hm2 (m - c) c σ1 (by omega) g1
  have g3 : gs σ2 1100 = (c : Int) := by rw [b2.1 1100 (by decide)]; exact g2
  have r2 : ∀ (i : Nat) (x : Int), S[i]? = some x → ga (us (us (us σ2 496 (gs σ2 1100)) 564 (gs σ2 1092)) 484 (gs σ2 1088)) f1 i = x := fun i x ex => by
    rw [ga_us, ga_us, ga_us, b2.2 f1 (fun z => f6 (by simp only [List.mem_cons, List.not_mem_nil, or_false] at z ⊢; omega)) i, a3.2 f1 (fun z => f6 (by simp only [List.mem_cons, List.not_mem_nil, or_false] at z ⊢; omega)) i]
    exact hR i x ex
  obtain ⟨σ3, c1, c2, c3⟩ := t_copy hf (fun z => f6 (by rw [z]; simp)) hS hb S.length 0 (us (us (us σ2 496 (gs σ2 1100)) 564 (gs σ2 1092)) 484 (gs σ2 1088)) (by omega) r2 (fun i x hi _ => absurd hi (Nat.not_lt_zero _))
  have c1' : om_loop (T_isProgram_6s f1 (S.length : Int)) (0, us (us (us σ2 496 (gs σ2 1100)) 564 (gs σ2 1092)) 484 (gs σ2 1088)) = some σ3 := c1
  have F2 : fr [532, 496, 564, 484] [526, 630, 638, 406] σ (us (us (us σ2 496 (gs σ2 1100)) 564 (gs σ2 1092)) 484 (gs σ2 1088)) := fr_us (fr_us (fr_us (fr_trans (fr_mono a3 (by simp) (by simp)) (fr_mono b2 (by simp) (by simp))) (by simp)) (by simp)) (by simp)
  have F3 := fr_trans F2 (fr_mono c2 (fs' := [532, 496, 564, 484]) (as' := [526, 630, 638, 406]) (by simp) (by simp))
  refine ⟨σ3, ?_, ?_, F3, ⟨?_, ?_, ?_⟩, fun x h1 h2 => ?_, fun x h1 => ?_, c3⟩
  · unfold T_isAsk askR
    rw [hk, a1, Option.bind_some, g2, b1, Option.bind_some, ask_copy, c1', Option.bind_some]
  · refine TyS_same (σ := σ1) ?_ (fun f hf i => ?_) a2
    · rw [c2.1 532 (by simp)]
      simp only [gs_us]
      rw [if_neg (by decide), if_neg (by decide), if_neg (by decide)]
      exact b2.1 532 (by simp)
    · rw [c2.2 f (fun z => by have e : f = 406 := by simpa using z
                              rw [e] at hf; exact absurd hf (by decide)) i, ga_us, ga_us, ga_us]
      refine b2.2 f (fun z => ?_) i
      simp only [List.mem_cons, List.not_mem_nil, or_false] at z
      rcases z with e | e <;> (rw [e] at hf; exact absurd hf (by decide))
  · rw [c2.1 496 (by simp)]
    rw [gs_us, if_neg (by decide), gs_us, if_neg (by decide), gs_us, if_pos rfl]
    exact g3
  · rw [c2.1 564 (by simp)]
    rw [gs_us, if_neg (by decide), gs_us, if_pos rfl, b2.1 1092 (by simp), a3.1 1092 (by decide)]
  · rw [c2.1 484 (by simp)]
    rw [gs_us, if_pos rfl, b2.1 1088 (by simp), a3.1 1088 (by decide)]
  · rw [c2.2 630 (by decide) x, c2.2 638 (by decide) x]
    exact b3 x h1 h2
  · rw [c2.2 630 (by decide) x, c2.2 638 (by decide) x]
    obtain ⟨q1, q2⟩ := b4 x h1
    refine ⟨?_, ?_⟩
    · rw [show ga (us (us (us σ2 496 (gs σ2 1100)) 564 (gs σ2 1092)) 484 (gs σ2 1088)) 630 x = ga σ2 630 x from rfl, q1, a3.2 630 (by decide) x]
    · rw [show ga (us (us (us σ2 496 (gs σ2 1100)) 564 (gs σ2 1092)) 484 (gs σ2 1088)) 638 x = ga σ2 638 x from rfl, q2, a3.2 638 (by decide) x]
