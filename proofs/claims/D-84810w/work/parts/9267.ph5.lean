set_option maxRecDepth 100000
/-! PHASE ONE in the twin: the methods of a class that stands -/
/-- the names of the methods that stand -/
def MNm (N : List (List Int)) (c : Nat) (Fm : FT) (σ : tS) : Prop := ga σ 678 c = (cntS Fm Fm.length : Int) ∧ ∀ (i : Nat) (L : List Int), (Fm.filter Option.isSome)[i]? = some (some L) → ∃ w : Nat, N[w]? = some L ∧ ga σ 682 (4 * c + i) = (w : Int)
/-- what the loop over methods leaves as it was -/
def mFr (c : Nat) (σ τ : tS) : Prop := fr [452, 456] [638, 642, 774, 678, 682] σ τ ∧ (∀ i, i ≠ c → ga τ 678 i = ga σ 678 i) ∧ ∀ i, (i < 4 * c ∨ 4 * c + 4 ≤ i) → ga τ 682 i = ga σ 682 i
section LPR2
variable {S : List Int} {N : List (List Int)} {b m j : Nat} {σ τ υ : tS} {F Fm : FT} {Ms : List FT} {tn : List (List Int)} {L : List Int} {w c : Nat}
theorem mFr_refl : mFr c σ σ := ⟨fr_refl _ _ _, fun _ _ => rfl, fun _ _ => rfl⟩
theorem mFr_trans (A : mFr c σ τ) (B : mFr c τ υ) : mFr c σ υ := ⟨fr_trans A.1 B.1, fun i h => (B.2.1 i h).trans (A.2.1 i h), fun i h => (B.2.2 i h).trans (A.2.2 i h)⟩
theorem fr_wide {fs as fs' as' : List Nat} (A : fr fs as σ τ) (h1 : ∀ f ∈ fs, f ∈ fs') (h2 : ∀ f ∈ as, f ∈ as') : fr fs' as' σ τ := ⟨fun f h => A.1 f (fun z => h (h1 f z)), fun f h => A.2 f (fun z => h (h2 f z))⟩
theorem mFr_of {fs as : List Nat} (A : fr fs as σ τ) (h1 : ∀ f ∈ fs, f ∈ [452, 456]) (h2 : ∀ f ∈ as, f ∈ [638, 642, 774]) : mFr c σ τ := ⟨fr_wide A h1 (fun f h => by have := h2 f h; simp only [List.mem_cons, List.not_mem_nil, or_false] at this ⊢; omega), fun i _ => A.2 678 (fun z => absurd (h2 _ z) (by decide)) i, fun i _ => A.2 682 (fun z => absurd (h2 _ z) (by decide)) i⟩
theorem MNm_same (g1 : ga τ 678 c = ga σ 678 c) (g2 : ∀ i, ga τ 682 i = ga σ 682 i) (H : MNm N c Fm σ) : MNm N c Fm τ := ⟨by rw [g1]; exact H.1, fun i L e => by rw [g2]; exact H.2 i L e⟩
theorem MNm_none (H : MNm N c Fm σ) : MNm N c (Fm ++ [none]) σ := by
  refine ⟨?_, fun i L e => ?_⟩
  · rw [List.length_append]
    show ga σ 678 c = (cntS (Fm ++ [none]) (Fm.length + 1) : Int)
    rw [cntS_more]
    exact H.1
  · rw [List.filter_append] at e
    simp only [List.filter_cons, List.filter_nil, Option.isSome_none, Bool.false_eq_true, if_false, List.append_nil] at e
    exact H.2 i L e
theorem cnt_eq : cntS Fm Fm.length = (Fm.filter Option.isSome).length := by
  unfold cntS
  rw [List.take_of_length_le (Nat.le_refl _)]
/-- one more stands -/
theorem MNm_some (hw : N[w]? = some L) (H : MNm N c Fm σ) : MNm N c (Fm ++ [some L]) (ua (ua σ 682 (4 * c + cntS Fm Fm.length) (w : Int)) 678 c ((cntS Fm Fm.length : Int) + 1)) := by
  refine ⟨?_, fun i L' e => ?_⟩
  · rw [ga_ua, if_pos ⟨rfl, rfl⟩, List.length_append]
    show (cntS Fm Fm.length : Int) + 1 = (cntS (Fm ++ [some L]) (Fm.length + 1) : Int)
    rw [cntS_more]
    simp
  · rw [ga_ua, if_neg (fun z => absurd z.1 (by decide)), ga_ua]
    rw [List.filter_append] at e
    by_cases q : i < (Fm.filter Option.isSome).length
    · rw [List.getElem?_append_left q] at e
      rw [if_neg (fun z => by have := z.2; rw [cnt_eq] at this; omega)]
      exact H.2 i L' e
    · rw [List.getElem?_append_right (by omega)] at e
      have i0 : i = (Fm.filter Option.isSome).length := by
        rcases Nat.lt_or_ge (Fm.filter Option.isSome).length i with z | z
        · rw [List.getElem?_eq_none (by simp; omega)] at e; cases e
        · omega
      rw [i0, Nat.sub_self] at e
      have e2 : L = L' := Option.some.inj (Option.some.inj e)
      rw [if_pos ⟨rfl, by rw [cnt_eq, i0]⟩, ← e2]
      exact ⟨w, hw, rfl⟩
theorem cnt_more1 {x : Option (List Int)} : cntS (Fm ++ [x]) (Fm ++ [x]).length ≤ cntS Fm Fm.length + 1 := by
  rw [List.length_append]
  show cntS (Fm ++ [x]) (Fm.length + 1) ≤ _
  rw [cntS_more]
  split <;> omega
theorem cnt_none : cntS (Fm ++ [none]) (Fm ++ [none]).length = cntS Fm Fm.length := by
  rw [List.length_append]
  show cntS (Fm ++ [none]) (Fm.length + 1) = _
  rw [cntS_more]
  rfl
set_option maxHeartbeats 1000000 in
theorem t_stand257 (nd : ndN N) (hS : S.length ≤ 2000) (hM : Ms.length < 8) : ∀ {ns js : List Nat} {σ : tS} {first : Int} {Fm : FT} {tn : List (List Int)}, TT σ N S b m → chain σ first ns → mT S b σ ns js → XM σ N F (Ms ++ [Fm]) tn → MNm N Ms.length Fm σ → cntS Fm Fm.length ≤ min 4 Fm.length → (gs σ 452 = 0 ∨ gs σ 452 = 2) → ∃ τ, om_loop (T_stand_257s (Ms.length : Int)) (((min 4 Fm.length : Nat) : Int), first, σ) = some τ ∧ mFr Ms.length σ τ ∧ (gs τ 452 = 0 ∨ gs τ 452 = 2) ∧ bp τ = mnl (bp σ) (mthB S tn Fm.length js) ∧ XM τ N F (Ms ++ [Fm ++ mthF S True tn Fm.length js]) (tn ++ js.map (tokw S)) ∧ MNm N Ms.length (Fm ++ mthF S True tn Fm.length js) τ
  | [], [], σ, first, Fm, tn, T, C, M, H, Mn, hc, hf => by
    have e : first = -1 := C
    refine ⟨σ, om_loop_out (by unfold T_stand_257s; simp only; rw [if_pos e]), mFr_refl, hf, rfl, ?_, ?_⟩
    · show XM σ N F (Ms ++ [Fm ++ []]) (tn ++ [])
      rw [List.append_nil, List.append_nil]; exact H
    · show MNm N Ms.length (Fm ++ []) σ
      rw [List.append_nil]; exact Mn
  | n :: ns, j :: js, σ, first, Fm, tn, T, C, M, H, Mn, hc, hf => by
    obtain ⟨e, C2⟩ := C
    obtain ⟨⟨m1, m2, m3⟩, M2⟩ := M
    obtain ⟨w, w1, w2, w3⟩ := t_nameAt T (.inl m3)
    have w4 := XM_w H w2
    have hl : ∀ x : Option (List Int), (Fm ++ [x]).length = Fm.length + 1 := fun x => by simp
    -- the rest, from a state behind this one
    have go : ∀ (x : Option (List Int)) (υ : tS) (B : List Int), om_loop (T_stand_257s (Ms.length : Int)) (((min 4 Fm.length : Nat) : Int), first, σ) = om_loop (T_stand_257s (Ms.length : Int)) (((min 4 (Fm.length + 1) : Nat) : Int), ga σ 562 n, υ) → mFr Ms.length σ υ → (gs υ 452 = 0 ∨ gs υ 452 = 2) → bp υ = mnl (bp σ) B → XM υ N F (Ms ++ [Fm ++ [x]]) (tn ++ [tokw S j]) → MNm N Ms.length (Fm ++ [x]) υ → cntS (Fm ++ [x]) (Fm ++ [x]).length ≤ min 4 (Fm.length + 1) → mthF S True tn Fm.length (j :: js) = x :: mthF S True (tn ++ [tokw S j]) (Fm.length + 1) js → mthB S tn Fm.length (j :: js) = B ++ mthB S (tn ++ [tokw S j]) (Fm.length + 1) js → ∃ τ, om_loop (T_stand_257s (Ms.length : Int)) (((min 4 Fm.length : Nat) : Int), first, σ) = some τ ∧ mFr Ms.length σ τ ∧ (gs τ 452 = 0 ∨ gs τ 452 = 2) ∧ bp τ = mnl (bp σ) (mthB S tn Fm.length (j :: js)) ∧ XM τ N F (Ms ++ [Fm ++ mthF S True tn Fm.length (j :: js)]) (tn ++ (j :: js).map (tokw S)) ∧ MNm N Ms.length (Fm ++ mthF S True tn Fm.length (j :: js)) τ := by
      intro x υ B e1 A hf' eb X Mn' hc' eF eB
      have TT' : TT υ N S b m := TT_fr2 A.1 (by decide) T
      have r := t_stand257 nd hS hM (ns := ns) (js := js) (σ := υ) (first := ga σ 562 n) (Fm := Fm ++ [x]) (tn := tn ++ [tokw S j]) TT' (chain_keep C2 (fun y _ => A.1.2 562 (by decide) y)) (mT_keep (fun y => A.1.2 542 (by decide) y) M2) X Mn' (by rw [hl]; rw [hl] at hc'; exact hc') hf'
      rw [hl] at r
      obtain ⟨τ, t1, t2, t3, t4, t5, t6⟩ := r
      refine ⟨τ, by rw [e1]; exact t1, mFr_trans A t2, t3, by rw [eB, mnl_app, ← eb]; exact t4, ?_, ?_⟩
      · rw [eF]
        simpa using t5
      · rw [eF]
        simpa using t6
    have en : ¬ (first = -1) := by omega
    have eN : first.toNat = n := by omega
    have l8 : (0 : Int) ≤ (Ms.length : Int) ∧ (Ms.length : Int) < 8 := by omega
    have n84 : 0 ≤ first ∧ first < 8400 := by omega
    have s368 : ∀ (q : Int) (ρ : tS), T_stand_368 (Ms.length : Int) q first ρ = some (.inl (q, ga ρ 562 n, ρ)) := fun q ρ => by
      unfold T_stand_368
      rw [if_pos n84, eN]
    by_cases k4 : Fm.length < 4
    · have mk : ((min 4 Fm.length : Nat) : Int) = (Fm.length : Int) := by omega
      have mk1 : ((min 4 (Fm.length + 1) : Nat) : Int) = (Fm.length : Int) + 1 := by omega
      have eix : w32 (w32 (4 * (Ms.length : Int)) + ga σ 678 ((Ms.length : Nat) : Int).toNat) = ((4 * Ms.length + cntS Fm Fm.length : Nat) : Int) := by
        rw [Int.toNat_natCast, Mn.1, w32_s (x := 4 * (Ms.length : Int)) (by omega) (by omega), w32_s (by omega) (by omega)]
        omega
      by_cases hn : btI (tokw S j) = none ∧ tokw S j ∉ tn
      · obtain ⟨τ1, a1, a2, a3⟩ := t_term2 nd T H hM m3 hn
        have T1 : TT τ1 N S b m := TT_fr2 a2 (by decide) T
        have g678 : ga τ1 678 Ms.length = (cntS Fm Fm.length : Int) := by rw [a2.2 678 (by decide)]; exact Mn.1
        have w1' : T_nameAt ((b + j : Nat) : Int) τ1 = some (w : Int) := by
          obtain ⟨w', x1, x2, x3⟩ := t_nameAt T1 (.inl m3)
          rw [x1, nd w' w _ x2 w2]
        refine go (some (tokw S j)) (ua (ua τ1 682 (4 * Ms.length + cntS Fm Fm.length) (w : Int)) 678 Ms.length ((cntS Fm Fm.length : Int) + 1)) [] ?_ ?_ ?_ ?_ ?_ ?_ ?_ ?_ ?_
        · refine om_loop_in ?_
          unfold T_stand_257s
          simp only
          rw [if_neg en, if_pos l8, if_pos (by omega), if_pos n84, eN, m2, eix, a1]
          simp only [Option.bind_some]
          rw [if_pos (by decide), if_pos n84, a2.2 542 (by decide), m2, w1']
          simp only [Option.bind_some]
          rw [if_pos (by omega), Int.toNat_natCast, Int.toNat_natCast, g678, w32_s (x := (cntS Fm Fm.length : Int) + 1) (by omega) (by omega), s368, mk, mk1, w32_s (by omega) (by omega)]
          rw [ga_ua, if_neg (fun z => absurd z.1 (by decide)), ga_ua, if_neg (fun z => absurd z.1 (by decide)), a2.2 562 (by decide)]
        · refine mFr_trans (mFr_of a2 (by simp) (by simp)) ⟨fr_ua (fr_ua (fr_refl _ _ _) (by simp)) (by simp), fun i hi => ?_, fun i hi => ?_⟩
          · rw [ga_ua, if_neg (fun z => hi z.2), ga_ua, if_neg (fun z => absurd z.1 (by decide))]
          · rw [ga_ua, if_neg (fun z => absurd z.1 (by decide)), ga_ua, if_neg (fun z => by have := z.2; omega)]
        · show gs τ1 452 = 0 ∨ gs τ1 452 = 2
          rw [a2.1 452 (by simp)]; exact hf
        · show bp τ1 = bp σ
          exact bp_eq (a2.1 452 (by simp)) (a2.1 456 (by simp))
        · refine XM_same (fun f hf i => ?_) a3
          rw [ga_ua, if_neg (fun z => by rw [z.1] at hf; exact absurd hf (by decide)), ga_ua, if_neg (fun z => by rw [z.1] at hf; exact absurd hf (by decide))]
        · exact MNm_some w2 (MNm_same (a2.2 678 (by decide) _) (fun i => a2.2 682 (by decide) i) Mn)
        · have := cnt_more1 (Fm := Fm) (x := some (tokw S j)); omega
        · show (if True ∧ _ then _ else none) :: _ = _
          rw [if_pos ⟨trivial, hn.1, hn.2, k4⟩]
        · show (if _ then _ else _) ++ _ = _
          rw [if_pos ⟨hn.1, hn.2, k4⟩]
      · obtain ⟨τ1, a1, a2, a3, a4, a5⟩ := t_termN hS T H m3 hn 2 ((4 * Ms.length + cntS Fm Fm.length : Nat) : Int)
        refine go none τ1 [(tokq S j : Int)] ?_ (mFr_of a2 (by simp) (by simp)) (.inr a3) a4 (XM_mn (XM_told a5 ?_)) (MNm_none (MNm_same (a2.2 678 (by simp) _) (fun i => a2.2 682 (by simp) i) Mn)) ?_ ?_ ?_
        · refine om_loop_in ?_
          unfold T_stand_257s
          simp only
          rw [if_neg en, if_pos l8, if_pos (by omega), if_pos n84, eN, m2, eix, a1]
          simp only [Option.bind_some]
          rw [if_neg (by decide), s368, mk, mk1, w32_s (by omega) (by omega), a2.2 562 (by simp)]
        · by_cases q : btI (tokw S j) = none
          · exact .inr (Classical.byContradiction (fun z => hn ⟨q, z⟩))
          · exact .inl q
        · rw [cnt_none]; omega
        · show (if True ∧ _ then _ else none) :: _ = _
          rw [if_neg (fun z => hn ⟨z.2.1, z.2.2.1⟩)]
        · show (if _ then _ else _) ++ _ = _
          rw [if_neg (fun z => hn ⟨z.1, z.2.1⟩)]
    · have mk : ((min 4 Fm.length : Nat) : Int) = 4 := by omega
      have mk1 : ((min 4 (Fm.length + 1) : Nat) : Int) = 4 := by omega
      obtain ⟨τ1, a1, a2, a3, a4⟩ := t_breaks T (j := j) (by omega) hS (w := 2) (by decide)
      have T1 : TT τ1 N S b m := TT_fr2 a2 (by decide) T
      have w1' : T_nameAt ((b + j : Nat) : Int) τ1 = some (w : Int) := by
        obtain ⟨w', x1, x2, x3⟩ := t_nameAt T1 (.inl m3)
        rw [x1, nd w' w _ x2 w2]
      have f2 : fr [452, 456] [774] σ (ua τ1 774 w 1) := fr_ua (fr_wide a2 (by simp) (by simp)) (by simp)
      refine go none (ua τ1 774 w 1) [(tokq S j : Int)] ?_ (mFr_of f2 (by simp) (by simp)) (.inr a3) a4 (XM_mn (XM_mark nd (XM_same (fun f _ i => a2.2 f (by simp) i) H) w2)) (MNm_none (MNm_same (f2.2 678 (by decide) _) (fun i => f2.2 682 (by decide) i) Mn)) ?_ ?_ ?_
      · refine om_loop_in ?_
        unfold T_stand_257s
        simp only
        rw [if_neg en, if_pos l8, if_neg (by omega), if_pos n84, eN, m2, a1]
        simp only [Option.bind_some]
        rw [if_pos n84, a2.2 542 (by simp), m2, w1']
        simp only [Option.bind_some]
        rw [if_pos ⟨by omega, by omega⟩, Int.toNat_natCast, s368, mk, mk1, f2.2 562 (by decide)]
      · rw [cnt_none]; omega
      · show (if True ∧ _ then _ else none) :: _ = _
        rw [if_neg (fun z => k4 z.2.2.2)]
      · show (if _ then _ else _) ++ _ = _
        rw [if_neg (fun z => k4 z.2.2)]
  | [], _ :: _, _, _, _, _, _, _, M, _, _, _, _ => M.elim
  | _ :: _, [], _, _, _, _, _, _, M, _, _, _, _ => M.elim
end LPR2
