set_option maxRecDepth 100000
/-! PHASE ONE in the twin: a class, behind its head -/
/-- what a class's row says of its great and its family -/
def clsK (S : List Int) (tg : List (List Int)) (jn : Nat) (fam : Option Nat) : Option (List Int) × Option (List Int) := if nwG S tg jn then (some (tokw S jn), famK S (tg ++ [tokw S jn]) fam) else (none, none)
/-- the breaks found there -/
def clbB (S : List Int) (tg tn : List (List Int)) (jn : Nat) (fam : Option Nat) (js : List Nat) : List Int := if nwG S tg jn then fam.elim [] (grB S (tg ++ [tokw S jn])) ++ mthB S tn 0 js else [(tokq S jn : Int)]
/-- what the class's family is told as -/
def famT (S : List Int) (N : List (List Int)) (st : Prop) (fam : Option Nat) (x : Int) : Prop := (¬ st → x = -1) ∧ (st → (fam = none → x = -1) ∧ ∀ f ∈ fam, ∃ w : Nat, N[w]? = some (tokw S f) ∧ x = (w : Int))
def cFr (c : Nat) (σ τ : tS) : Prop := fr [452, 456] CA σ τ ∧ (∀ i, i ≠ c → ga τ 678 i = ga σ 678 i ∧ ga τ 674 i = ga σ 674 i) ∧ ∀ i, (i < 4 * c ∨ 4 * c + 4 ≤ i) → ga τ 682 i = ga σ 682 i
section LPD
variable {S : List Int} {N : List (List Int)} {b m j d jn : Nat} {σ τ υ : tS} {K : KT} {F Fm : FT} {Ms : List FT} {tg tn : List (List Int)} {L : List Int} {w c : Nat} {fam : Option Nat} {ns js : List Nat}
theorem cFr_trans (A : cFr c σ τ) (B : cFr c τ υ) : cFr c σ υ := ⟨fr_trans A.1 B.1, fun i h => ⟨(B.2.1 i h).1.trans (A.2.1 i h).1, (B.2.1 i h).2.trans (A.2.1 i h).2⟩, fun i h => (B.2.2 i h).trans (A.2.2 i h)⟩
theorem cFr_of {fs as : List Nat} (A : fr fs as σ τ) (h1 : ∀ f ∈ fs, f ∈ [452, 456]) (h2 : ∀ f ∈ as, f ∈ [630, 634, 770, 638, 642, 774]) : cFr c σ τ := ⟨fr_wide A h1 (fun f h => by have := h2 f h; simp only [List.mem_cons, List.not_mem_nil, or_false] at this ⊢; omega), fun i _ => ⟨A.2 678 (fun z => absurd (h2 _ z) (by decide)) i, A.2 674 (fun z => absurd (h2 _ z) (by decide)) i⟩, fun i _ => A.2 682 (fun z => absurd (h2 _ z) (by decide)) i⟩
theorem cFr_m (A : mFr c σ τ) : cFr c σ τ := ⟨fr_wide A.1 (by simp) (by simp), fun i h => ⟨A.2.1 i h, A.1.2 674 (by decide) i⟩, A.2.2⟩
theorem mthF_yes {st : Prop} [Decidable st] (h : st) : ∀ {js : List Nat} {tn : List (List Int)} {k : Nat}, mthF S st tn k js = mthF S True tn k js
  | [], _, _ => rfl
  | j :: js, tn, k => by
    show (if st ∧ _ then _ else none) :: mthF S st _ _ js = (if True ∧ _ then _ else none) :: mthF S True _ _ js
    rw [mthF_yes h]
    by_cases q : btI (tokw S j) = none ∧ tokw S j ∉ tn ∧ k < 4
    · rw [if_pos ⟨h, q⟩, if_pos ⟨trivial, q⟩]
    · rw [if_neg (fun z => q z.2), if_neg (fun z => q z.2)]
set_option maxHeartbeats 1000000 in
theorem t_stand184 (nd : ndN N) (hS : S.length ≤ 2000) (hK : K.length = Ms.length) (hM : Ms.length < 8) (hd : d < 700) (T : TT σ N S b m) (C : chain σ (ga σ 602 d) ns) (M : mT S b σ ns js) (en : ga σ 578 d = ((b + jn : Nat) : Int)) (kn : tokk S jn = 3) (ef : ga σ 610 d = oT b fam) (kf : ∀ f ∈ fam, tokk S f = 3) (A : GT σ N K tg) (H : XM σ N F (Ms ++ [[]]) tn) (Mn : MNm N Ms.length [] σ) (g674 : ga σ 674 Ms.length = -1) (hf : gs σ 452 = 0 ∨ gs σ 452 = 2) :
    ∃ τ, T_stand_184 (d : Int) (Ms.length : Int) σ = some τ ∧ cFr Ms.length σ τ ∧ (gs τ 452 = 0 ∨ gs τ 452 = 2) ∧ bp τ = mnl (bp σ) (clbB S tg tn jn fam js) ∧ GT τ N (K ++ [clsK S tg jn fam]) (tg ++ [tokw S jn] ++ oW S fam) ∧ XM τ N F (Ms ++ [mthF S (nwG S tg jn) tn 0 js]) (tn ++ js.map (tokw S)) ∧ MNm N Ms.length (mthF S (nwG S tg jn) tn 0 js) τ ∧ famT S N (nwG S tg jn) fam (ga τ 674 Ms.length) := by
  have d7 : (0 : Int) ≤ (d : Int) ∧ (d : Int) < 700 := by omega
  have kl : (K.length : Int) = (Ms.length : Int) := by omega
  unfold T_stand_184
  rw [if_pos d7, Int.toNat_natCast, en]
  by_cases st : nwG S tg jn
  · obtain ⟨τ1, a1, a2, a3⟩ := t_great2 nd T A (by omega) kn st
    rw [kl] at a1
    rw [a1]
    simp only [Option.bind_some]
    rw [if_pos (by decide), if_pos d7, a2.2 610 (by decide), ef]
    have T1 : TT τ1 N S b m := TT_fr2 a2 (by decide) T
    have X1 : XM τ1 N F (Ms ++ [[]]) tn := XM_same (fun g hg i => a2.2 g (fun z => by simp only [List.mem_cons, List.not_mem_nil, or_false] at z hg; omega) i) H
    have Mn1 : MNm N Ms.length [] τ1 := MNm_same (a2.2 678 (by decide) _) (fun i => a2.2 682 (by decide) i) Mn
    have C1 : chain τ1 (ga τ1 602 d) ns := by rw [a2.2 602 (by decide)]; exact chain_keep C (fun x _ => a2.2 562 (by decide) x)
    have M1 : mT S b τ1 ns js := mT_keep (fun x => a2.2 542 (by decide) x) M
    have f1 : gs τ1 452 = 0 ∨ gs τ1 452 = 2 := by rw [a2.1 452 (by simp)]; exact hf
    have b1 : bp τ1 = bp σ := bp_eq (a2.1 452 (by simp)) (a2.1 456 (by simp))
    have F1 : cFr Ms.length σ τ1 := cFr_of a2 (by simp) (by simp)
    have eK : clsK S tg jn fam = (some (tokw S jn), famK S (tg ++ [tokw S jn]) fam) := if_pos st
    have eB : clbB S tg tn jn fam js = fam.elim [] (grB S (tg ++ [tokw S jn])) ++ mthB S tn 0 js := if_pos st
    rw [eK, eB, mthF_yes st]
    cases fam with
    | none =>
      obtain ⟨τ2, t1, t2, t3, t4, t5, t6⟩ := t_stand246 nd hS hM hd T1 C1 M1 X1 Mn1 f1
      refine ⟨τ2, by rw [if_pos (show oT b none = -1 from rfl)]; exact t1, cFr_trans F1 (cFr_m t2), t3, by rw [t4, b1]; rfl, ?_, t5, t6, fun z => absurd st z, fun _ => ⟨fun _ => ?_, fun f hf => absurd hf (by simp)⟩⟩
      · show GT τ2 N (K ++ [(some (tokw S jn), none)]) (tg ++ [tokw S jn] ++ [])
        rw [List.append_nil]
        exact GT_same (fun g hg i => t2.1.2 g (fun z => by simp only [List.mem_cons, List.not_mem_nil, or_false] at z hg; omega) i) a3
      · rw [t2.1.2 674 (by decide), a2.2 674 (by decide)]; exact g674
    | some f =>
      obtain ⟨w, w1, w2, w3⟩ := t_nameAt T1 (.inr (kf f rfl))
      have f2 : fr [] [674] τ1 (ua τ1 674 Ms.length (w : Int)) := fr_ua (fr_refl _ _ _) (by simp)
      have c2 : cFr Ms.length τ1 (ua τ1 674 Ms.length (w : Int)) := ⟨fr_wide f2 (by simp) (by simp), fun i hi => ⟨f2.2 678 (by decide) i, by rw [ga_ua, if_neg (fun z => hi z.2)]⟩, fun i _ => f2.2 682 (by decide) i⟩
      have T2 := TT_fr2 f2 (by decide) T1
      have G2 : GT (ua τ1 674 Ms.length (w : Int)) N (K ++ [(some (tokw S jn), none)]) (tg ++ [tokw S jn]) := GT_same (fun g hg i => f2.2 g (fun z => by rw [List.mem_singleton.mp z] at hg; exact absurd hg (by decide)) i) a3
      have g2 : ga (ua τ1 674 Ms.length (w : Int)) 674 Ms.length = (w : Int) := by rw [ga_ua, if_pos ⟨rfl, rfl⟩]
      have X2 : XM (ua τ1 674 Ms.length (w : Int)) N F (Ms ++ [[]]) tn := XM_same (fun g hg i => f2.2 g (fun z => by rw [List.mem_singleton.mp z] at hg; exact absurd hg (by decide)) i) X1
      have Mn2 : MNm N Ms.length [] (ua τ1 674 Ms.length (w : Int)) := MNm_same (f2.2 678 (by decide) _) (fun i => f2.2 682 (by decide) i) Mn1
      have C2 : chain (ua τ1 674 Ms.length (w : Int)) (ga (ua τ1 674 Ms.length (w : Int)) 602 d) ns := by rw [f2.2 602 (by decide)]; exact chain_keep C1 (fun x _ => f2.2 562 (by decide) x)
      have M2 : mT S b (ua τ1 674 Ms.length (w : Int)) ns js := mT_keep (fun x => f2.2 542 (by decide) x) M1
      have e610 : oT b (some f) = ((b + f : Nat) : Int) := rfl
      rw [e610, if_neg (by omega), if_pos d7, w1]
      simp only [Option.bind_some]
      rw [if_pos ⟨by omega, by omega, d7.1, d7.2⟩, Int.toNat_natCast]
      have b2 : bp (ua τ1 674 Ms.length (w : Int)) = bp σ := b1
      have fg2 : gs (ua τ1 674 Ms.length (w : Int)) 452 = 0 ∨ gs (ua τ1 674 Ms.length (w : Int)) 452 = 2 := f1
      generalize ua τ1 674 Ms.length (w : Int) = υ at *
      -- behind the family's great
      have go : ∀ (p : Int) (ρ : tS) (kk : Option (List Int)) (B : List Int), T_standsGreat ((b + f : Nat) : Int) 3 (Ms.length : Int) υ = some (p, ρ) → (∃ fs as, fr fs as υ ρ ∧ (∀ g ∈ fs, g ∈ [452, 456]) ∧ ∀ g ∈ as, g ∈ [630, 634, 770]) → (gs ρ 452 = 0 ∨ gs ρ 452 = 2) → bp ρ = mnl (bp σ) B → GT ρ N (K ++ [(some (tokw S jn), kk)]) (tg ++ [tokw S jn] ++ [tokw S f]) → grB S (tg ++ [tokw S jn]) f = B → famK S (tg ++ [tokw S jn]) (some f) = kk → ∃ τ, ((T_standsGreat ((b + f : Nat) : Int) 3 (Ms.length : Int) υ).bind fun p3 => T_stand_246 (d : Int) (Ms.length : Int) p3.2) = some τ ∧ cFr Ms.length σ τ ∧ (gs τ 452 = 0 ∨ gs τ 452 = 2) ∧ bp τ = mnl (bp σ) ((some f).elim [] (grB S (tg ++ [tokw S jn])) ++ mthB S tn 0 js) ∧ GT τ N (K ++ [(some (tokw S jn), famK S (tg ++ [tokw S jn]) (some f))]) (tg ++ [tokw S jn] ++ oW S (some f)) ∧ XM τ N F (Ms ++ [mthF S True tn 0 js]) (tn ++ js.map (tokw S)) ∧ MNm N Ms.length (mthF S True tn 0 js) τ ∧ famT S N (nwG S tg jn) (some f) (ga τ 674 Ms.length) := by
        rintro p ρ kk B e1 ⟨fs, as, q1, q2, q3⟩ e3 e4 e5 e6 e7
        rw [e1]
        have nin : ∀ g, g ∉ [630, 634, 770] → g ∉ as := fun g h z => h (q3 g z)
        obtain ⟨τ2, t1, t2, t3, t4, t5, t6⟩ := t_stand246 nd hS hM hd (σ := ρ) (TT_fr2 q1 (fun g hg => nin g (fun z => by simp only [List.mem_cons, List.not_mem_nil, or_false] at z hg; omega)) T2) (by rw [q1.2 602 (nin _ (by decide))]; exact chain_keep C2 (fun x _ => q1.2 562 (nin _ (by decide)) x)) (mT_keep (fun x => q1.2 542 (nin _ (by decide)) x) M2) (XM_same (fun g hg i => q1.2 g (nin g (fun z => by simp only [List.mem_cons, List.not_mem_nil, or_false] at z hg; omega)) i) X2) (MNm_same (q1.2 678 (nin _ (by decide)) _) (fun i => q1.2 682 (nin _ (by decide)) i) Mn2) e3
        have cf : cFr Ms.length υ ρ := cFr_of q1 q2 (fun g hg => by have := q3 g hg; simp only [List.mem_cons, List.not_mem_nil, or_false] at this ⊢; omega)
        refine ⟨τ2, t1, cFr_trans F1 (cFr_trans c2 (cFr_trans cf (cFr_m t2))), t3, ?_, ?_, t5, t6, fun z => absurd st z, fun _ => ⟨fun z => (by cases z), fun f' hf' => ?_⟩⟩
        · show bp τ2 = mnl (bp σ) (grB S (tg ++ [tokw S jn]) f ++ mthB S tn 0 js)
          rw [mnl_app, e6, ← e4]; exact t4
        · rw [e7]
          exact GT_same (fun g hg i => t2.1.2 g (fun z => by simp only [List.mem_cons, List.not_mem_nil, or_false] at z hg; omega) i) e5
        · have ef' : f = f' := Option.some.inj hf'
          rw [← ef', t2.1.2 674 (by decide), q1.2 674 (nin _ (by decide)), g2]
          exact ⟨w, w2, rfl⟩
      by_cases sf : nwG S (tg ++ [tokw S jn]) f
      · obtain ⟨ρ, r1, r2, r3⟩ := t_great3 nd T2 G2 (by omega) (kf f rfl) sf
        rw [kl] at r1
        exact go 1 ρ (some (tokw S f)) [] r1 ⟨_, _, r2, by simp, by simp⟩ (by rw [r2.1 452 (by simp)]; exact fg2) (by rw [← b2]; exact bp_eq (r2.1 452 (by simp)) (r2.1 456 (by simp))) r3 (if_pos sf) (if_pos sf)
      · obtain ⟨ρ, r1, r2, r3, r4, r5⟩ := t_greatN hS T2 G2 (kf f rfl) sf 3 (Ms.length : Int)
        refine go 0 ρ none [(tokq S f : Int)] r1 ⟨_, _, r2, by simp, by simp⟩ (.inr r3) (by rw [← b2]; exact r4) (GT_told r5 ?_) (if_neg sf) (if_neg sf)
        by_cases q : cnI (tokw S f) = none
        · exact .inr (Classical.byContradiction (fun z => sf ⟨q, z⟩))
        · exact .inl q
  · obtain ⟨τ1, a1, a2, a3, a4, a5⟩ := t_greatN hS T A kn st 2 (Ms.length : Int)
    rw [a1]
    simp only [Option.bind_some]
    rw [if_neg (by decide)]
    have tl : cnI (tokw S jn) ≠ none ∨ tokw S jn ∈ tg := by
      by_cases q : cnI (tokw S jn) = none
      · exact .inr (Classical.byContradiction (fun z => st ⟨q, z⟩))
      · exact .inl q
    obtain ⟨τ2, t1, t2, t3, t4⟩ := t_tells nd hd (σ := τ1) (Fm := []) (fam := fam) (TT_fr2 a2 (by decide) T) (by rw [a2.2 602 (by simp)]; exact chain_keep C (fun x _ => a2.2 562 (by simp) x)) (mT_keep (fun x => a2.2 542 (by simp) x) M) (by rw [a2.2 610 (by simp)]; exact ef) kf (GT_nn (GT_told a5 tl)) (XM_same (fun g _ i => a2.2 g (by simp) i) H)
    have eK : clsK S tg jn fam = (none, none) := if_neg st
    have eB : clbB S tg tn jn fam js = [(tokq S jn : Int)] := if_neg st
    rw [eK, eB, mthF_no st, t1]
    refine ⟨τ2, rfl, cFr_trans (cFr_of a2 (by simp) (by simp)) (cFr_of t2 (by simp) (by simp)), .inr (by rw [t2.1 452 (by simp)]; exact a3), ?_, t3, t4, ?_, fun _ => ?_, fun z => absurd z st⟩
    · rw [bp_eq (t2.1 452 (by simp)) (t2.1 456 (by simp)), a4]; rfl
    · exact MNm_nones (MNm_same (by rw [t2.2 678 (by decide), a2.2 678 (by simp)]) (fun i => by rw [t2.2 682 (by decide), a2.2 682 (by simp)]) Mn)
    · rw [t2.2 674 (by decide), a2.2 674 (by simp)]; exact g674
end LPD
