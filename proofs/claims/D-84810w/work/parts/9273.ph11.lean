set_option maxRecDepth 100000
/-! PHASE ONE in the twin: a function -/
/-- does a function stand -/
abbrev nwF (S : List Int) (tn : List (List Int)) (nf j : Nat) : Prop := btI (tokw S j) = none ∧ tokw S j ∉ tn ∧ nf < 24
section LPH2
variable {S : List Int} {N : List (List Int)} {b m j d : Nat} {σ τ υ : tS} {F : FT} {Ms : List FT} {tn : List (List Int)} {w : Nat}
theorem cnt_le (F : FT) : cntS F F.length ≤ F.length := by
  rw [cnt_eq]
  exact List.length_filter_le _ _
set_option maxHeartbeats 1000000 in
theorem t_standF (nd : ndN N) (hS : S.length ≤ 2000) (hd : d < 700) (T : TT σ N S b m) (e0 : ga σ 570 d = 2) (e4 : ga σ 574 d = ((b + j : Nat) : Int)) (en : ga σ 578 d = ((b + j : Nat) : Int)) (kn : tokk S j = 2) (ec : gs σ 764 = ((min 24 F.length : Nat) : Int)) (ef : gs σ 652 = (cntS F F.length : Int)) (H : XM σ N F Ms tn) (hf : gs σ 452 = 0 ∨ gs σ 452 = 2) :
    ∃ τ, T_stand (d : Int) σ = some τ ∧ fr [452, 456, 764, 652] [638, 642, 774, 730, 734] σ τ ∧ (gs τ 452 = 0 ∨ gs τ 452 = 2) ∧ gs τ 764 = ((min 24 (F.length + 1) : Nat) : Int) ∧ gs τ 652 = ((cntS F F.length + (if nwF S tn F.length j then 1 else 0) : Nat) : Int) ∧ bp τ = mnl (bp σ) (if nwF S tn F.length j then [] else [(tokq S j : Int)]) ∧ XM τ N (F ++ [if nwF S tn F.length j then some (tokw S j) else none]) Ms (tn ++ [tokw S j]) ∧ (∀ i, i ≠ cntS F F.length → ga τ 730 i = ga σ 730 i ∧ ga τ 734 i = ga σ 734 i) ∧ (nwF S tn F.length j → ga τ 730 (cntS F F.length) = (d : Int) ∧ ∃ w : Nat, N[w]? = some (tokw S j) ∧ ga τ 734 (cntS F F.length) = (w : Int)) := by
  have d7 : (0 : Int) ≤ (d : Int) ∧ (d : Int) < 700 := by omega
  have cl := cnt_le F
  have jm : j < m := TT_lt T (by omega)
  unfold T_stand
  rw [if_pos d7, Int.toNat_natCast, if_pos (by omega), if_pos d7, if_pos (by omega), ec]
  by_cases q : F.length < 24
  · have e : ((min 24 F.length : Nat) : Int) = (F.length : Int) := by omega
    rw [e, if_pos (by omega), if_pos d7, w32_s (by omega) (by omega), en, ef]
    have s1 : fr [764] [] σ (us σ 764 ((F.length : Int) + 1)) := ⟨fun f hf => by rw [gs_us, if_neg (fun z => hf (by rw [z]; simp))], fun f _ i => rfl⟩
    have s2 : gs (us σ 764 ((F.length : Int) + 1)) 764 = (F.length : Int) + 1 := by rw [gs_us, if_pos rfl]
    have T1 : TT (us σ 764 ((F.length : Int) + 1)) N S b m := TT_fr2 s1 (by decide) T
    have X1 : XM (us σ 764 ((F.length : Int) + 1)) N F Ms tn := XM_same (fun f _ i => rfl) H
    have b1 : bp (us σ 764 ((F.length : Int) + 1)) = bp σ := bp_eq (s1.1 452 (by decide)) (s1.1 456 (by decide))
    generalize us σ 764 ((F.length : Int) + 1) = σ1 at *
    by_cases hn : btI (tokw S j) = none ∧ tokw S j ∉ tn
    · have st : nwF S tn F.length j := ⟨hn.1, hn.2, q⟩
      obtain ⟨τ1, a1, a2, a3⟩ := t_term1 nd T1 X1 kn hn
      rw [a1]
      simp only [Option.bind_some]
      have g652 : gs τ1 652 = (cntS F F.length : Int) := by rw [a2.1 652 (by simp), s1.1 652 (by decide)]; exact ef
      have T2 : TT τ1 N S b m := TT_fr2 a2 (by decide) T1
      obtain ⟨w, w1, w2, w3⟩ := t_nameAt T2 (.inl kn)
      rw [if_pos (by decide), g652, if_pos ⟨by omega, by omega, d7⟩, Int.toNat_natCast, a2.2 578 (by decide), s1.2 578 (by simp), en]
      have nA : T_nameAt ((b + j : Nat) : Int) (ua τ1 730 (cntS F F.length) (d : Int)) = some (w : Int) := by
        rw [← w1]
        have e482 : ∀ i, ga (ua τ1 730 (cntS F F.length) (d : Int)) 482 i = ga τ1 482 i := fun i => by rw [ga_ua, if_neg (fun z => absurd z.1 (by decide))]
        unfold T_nameAt
        rw [e482]
      rw [nA]
      simp only [Option.bind_some]
      unfold T_stand_532
      rw [if_pos ⟨by omega, by omega⟩, Int.toNat_natCast, show gs (ua τ1 730 (cntS F F.length) (d : Int)) 652 = (cntS F F.length : Int) from g652, w32_s (by omega) (by omega)]
      have u := ua2 (σ := τ1) (c := cntS F F.length) (f := 730) (g := 734) (x := (d : Int)) (y := (w : Int)) (by decide)
      generalize ua (ua τ1 730 (cntS F F.length) (d : Int)) 734 (cntS F F.length) (w : Int) = τ2 at *
      have z1 : ∀ f i, ga (us τ2 652 ((cntS F F.length : Int) + 1)) f i = ga τ2 f i := fun f i => rfl
      have z2 : ∀ f, f ≠ 652 → gs (us τ2 652 ((cntS F F.length : Int) + 1)) f = gs τ1 f := fun f h => by rw [gs_us, if_neg h, u.2.2.2]
      have z3 : gs (us τ2 652 ((cntS F F.length : Int) + 1)) 652 = (cntS F F.length : Int) + 1 := by rw [gs_us, if_pos rfl]
      rw [if_pos st, if_pos st, if_pos st]
      refine ⟨us τ2 652 ((cntS F F.length : Int) + 1), rfl, ?_, ?_, ?_, ?_, ?_, ?_, fun i hi => ?_, fun _ => ⟨?_, w, w2, ?_⟩⟩
      · refine fr_trans (fr_wide s1 (by simp) (by simp)) (fr_trans (fr_wide a2 (by simp) (by simp)) ⟨fun f hf => ?_, fun f hf i => ?_⟩)
        · exact z2 f (fun z => hf (by rw [z]; simp))
        · simp only [List.mem_cons, List.not_mem_nil, or_false] at hf
          rw [z1, u.2.2.1 f (by omega) (by omega)]
      · rw [z2 452 (by decide), a2.1 452 (by simp), s1.1 452 (by decide)]; exact hf
      · rw [z2 764 (by decide), a2.1 764 (by simp), s2]; omega
      · rw [z3]; omega
      · show bp _ = bp σ
        rw [← b1]
        exact bp_eq (by rw [z2 452 (by decide), a2.1 452 (by simp)]) (by rw [z2 456 (by decide), a2.1 456 (by simp)])
      · refine XM_same (fun f hf i => ?_) a3
        rw [z1, u.2.2.1 f (fun z => by rw [z] at hf; exact absurd hf (by decide)) (fun z => by rw [z] at hf; exact absurd hf (by decide))]
      · rw [z1, z1, u.2.1 i hi, u.2.1 i hi, a2.2 730 (by decide), a2.2 734 (by decide), s1.2 730 (by simp), s1.2 734 (by simp)]
        exact ⟨rfl, rfl⟩
      · rw [z1]; exact u.1.1
      · rw [z1]; exact u.1.2
    · have st : ¬ nwF S tn F.length j := fun z => hn ⟨z.1, z.2.1⟩
      obtain ⟨τ1, a1, a2, a3, a4, a5⟩ := t_termN hS T1 X1 kn hn 1 (cntS F F.length : Int)
      rw [a1]
      simp only [Option.bind_some]
      rw [if_neg (by decide), if_neg st, if_neg st, if_neg st]
      refine ⟨τ1, rfl, fr_trans (fr_wide s1 (by simp) (by simp)) (fr_wide a2 (by simp) (by simp)), .inr a3, ?_, ?_, ?_, ?_, fun i _ => ?_, fun z => absurd z st⟩
      · rw [a2.1 764 (by decide), s2]; omega
      · rw [a2.1 652 (by decide), s1.1 652 (by decide), ef]; omega
      · show bp τ1 = min (bp σ) (tokq S j : Int)
        rw [← b1]; exact a4
      · refine XM_fn (XM_told a5 ?_)
        by_cases p : btI (tokw S j) = none
        · exact .inr (Classical.byContradiction (fun z => hn ⟨p, z⟩))
        · exact .inl p
      · rw [a2.2 730 (by simp), a2.2 734 (by simp), s1.2 730 (by simp), s1.2 734 (by simp)]
        exact ⟨rfl, rfl⟩
  · have e : ((min 24 F.length : Nat) : Int) = 24 := by omega
    have st : ¬ nwF S tn F.length j := fun z => q z.2.2
    obtain ⟨τ, e1, e2, e3, e5⟩ := t_breaks T (j := j) (by omega) hS (w := 2) (by decide)
    have T1 : TT τ N S b m := TT_fr2 e2 (by decide) T
    obtain ⟨w, w1, w2, w3⟩ := t_nameAt T1 (.inl kn)
    have X1 : XM τ N F Ms tn := XM_same (fun g _ i => e2.2 g (by simp) i) H
    have w4 := XM_w X1 w2
    rw [e, if_neg (by decide), if_pos d7, e4, e1]
    simp only [Option.bind_some]
    rw [if_pos d7, e2.2 578 (by simp), en, w1]
    simp only [Option.bind_some]
    rw [if_pos ⟨by omega, by omega⟩, Int.toNat_natCast, if_neg st, if_neg st, if_neg st]
    refine ⟨ua τ 774 w 1, rfl, fr_ua (fr_wide e2 (by simp) (by simp)) (by simp), .inr e3, ?_, ?_, e5, XM_fn (XM_mark nd X1 w2), fun i _ => ?_, fun z => absurd z st⟩
    · show gs τ 764 = _
      rw [e2.1 764 (by decide), ec]; omega
    · show gs τ 652 = _
      rw [e2.1 652 (by decide), ef]; omega
    · rw [ga_ua, if_neg (fun z => absurd z.1 (by decide)), ga_ua, if_neg (fun z => absurd z.1 (by decide)), e2.2 730 (by simp), e2.2 734 (by simp)]
      exact ⟨rfl, rfl⟩
end LPH2
