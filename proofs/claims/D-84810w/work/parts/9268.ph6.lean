set_option maxRecDepth 100000
/-! PHASE ONE in the twin: a class -/
/-- a token, or none -/
def oT (b : Nat) (o : Option Nat) : Int := o.elim (-1) (fun j => ((b + j : Nat) : Int))
/-- the words of tokens -/
def oW (S : List Int) (o : Option Nat) : List (List Int) := o.elim [] (fun j => [tokw S j])
/-- does it stand: a great that is told at token j -/
abbrev nwG (S : List Int) (tg : List (List Int)) (j : Nat) : Prop := cnI (tokw S j) = none ∧ tokw S j ∉ tg
/-- breaks at a great -/
def grB (S : List Int) (tg : List (List Int)) (j : Nat) : List Int := if nwG S tg j then [] else [(tokq S j : Int)]
/-- a class's family -/
def famK (S : List Int) (tg : List (List Int)) (o : Option Nat) : Option (List Int) := o.elim none (fun f => if nwG S tg f then some (tokw S f) else none)
section LPC
variable {S : List Int} {N : List (List Int)} {b m j d : Nat} {σ τ υ : tS} {K : KT} {F Fm : FT} {Ms : List FT} {tg tn : List (List Int)} {L : List Int} {w c : Nat} {fam : Option Nat} {ns js : List Nat}
/-- the twin's frame at a class -/
abbrev CA : List Nat := [630, 634, 770, 638, 642, 774, 674, 678, 682]
theorem t_stand246 (nd : ndN N) (hS : S.length ≤ 2000) (hM : Ms.length < 8) (hd : d < 700) (T : TT σ N S b m) (C : chain σ (ga σ 602 d) ns) (M : mT S b σ ns js) (H : XM σ N F (Ms ++ [[]]) tn) (Mn : MNm N Ms.length [] σ) (hf : gs σ 452 = 0 ∨ gs σ 452 = 2) : ∃ τ, T_stand_246 (d : Int) (Ms.length : Int) σ = some τ ∧ mFr Ms.length σ τ ∧ (gs τ 452 = 0 ∨ gs τ 452 = 2) ∧ bp τ = mnl (bp σ) (mthB S tn 0 js) ∧ XM τ N F (Ms ++ [mthF S True tn 0 js]) (tn ++ js.map (tokw S)) ∧ MNm N Ms.length (mthF S True tn 0 js) τ := by
  obtain ⟨τ, t1, t2, t3, t4, t5, t6⟩ := t_stand257 nd hS hM (Fm := []) T C M H Mn (by unfold cntS; simp) hf
  refine ⟨τ, ?_, t2, t3, t4, t5, t6⟩
  unfold T_stand_246
  rw [if_pos ⟨by omega, by omega⟩, Int.toNat_natCast]
  have e : om_loop (T_stand_257s (Ms.length : Int)) (0, ga σ 602 d, σ) = some τ := t1
  rw [e]
  rfl
theorem MNm_nones : ∀ {js : List Nat} {Fm : FT}, MNm N c Fm σ → MNm N c (Fm ++ js.map (fun _ => none)) σ
  | [], Fm, H => by simpa using H
  | j :: js, Fm, H => by
    have := MNm_nones (js := js) (MNm_none H)
    simpa using this
/-- what a class tells that stands for nothing -/
theorem t_tells (nd : ndN N) (hd : d < 700) (T : TT σ N S b m) (C : chain σ (ga σ 602 d) ns) (M : mT S b σ ns js) (ef : ga σ 610 d = oT b fam) (kf : ∀ f ∈ fam, tokk S f = 3) (A : GT σ N K tg) (H : XM σ N F (Ms ++ [Fm]) tn) : ∃ τ, T_tells (d : Int) σ = some τ ∧ fr [] [770, 774] σ τ ∧ GT τ N K (tg ++ oW S fam) ∧ XM τ N F (Ms ++ [Fm ++ js.map (fun _ => none)]) (tn ++ js.map (tokw S)) := by
  have d7 : (0 : Int) ≤ (d : Int) ∧ (d : Int) < 700 := by omega
  have c26 : ∀ {σ : tS}, TT σ N S b m → chain σ (ga σ 602 d) ns → mT S b σ ns js → XM σ N F (Ms ++ [Fm]) tn → ∃ τ, T_tells_26 (d : Int) σ = some τ ∧ fr [] [774] σ τ ∧ XM τ N F (Ms ++ [Fm ++ js.map (fun _ => none)]) (tn ++ js.map (tokw S)) := by
    intro σ T C M H
    obtain ⟨τ, t1, t2, t3⟩ := t_tells33 nd T C M H
    refine ⟨τ, ?_, t2, t3⟩
    unfold T_tells_26
    rw [if_pos d7, Int.toNat_natCast, t1]
    rfl
  unfold T_tells
  rw [if_pos d7, Int.toNat_natCast, ef]
  cases fam with
  | none =>
    obtain ⟨τ, t1, t2, t3⟩ := c26 T C M H
    refine ⟨τ, ?_, fr_wide t2 (by simp) (by simp), ?_, t3⟩
    · rw [if_pos (show oT b none = -1 from rfl)]; exact t1
    · show GT τ N K (tg ++ [])
      rw [List.append_nil]
      exact GT_same (fun f hf i => t2.2 f (fun z => by rw [List.mem_singleton.mp z] at hf; exact absurd hf (by decide)) i) A
  | some f =>
    obtain ⟨w, w1, w2, w3⟩ := t_nameAt T (.inr (kf f rfl))
    have w4 := GT_w A w2
    have f1 : fr [] [770] σ (ua σ 770 w 1) := fr_ua (fr_refl _ _ _) (by simp)
    obtain ⟨τ, t1, t2, t3⟩ := c26 (σ := ua σ 770 w 1) (TT_fr2 f1 (by decide) T) (by rw [f1.2 602 (by decide)]; exact chain_keep C (fun x _ => f1.2 562 (by decide) x)) (mT_keep (fun x => f1.2 542 (by decide) x) M) (XM_same (fun g hg i => f1.2 g (fun z => by rw [List.mem_singleton.mp z] at hg; exact absurd hg (by decide)) i) H)
    refine ⟨τ, ?_, fr_trans (fr_wide f1 (by simp) (by simp)) (fr_wide t2 (by simp) (by simp)), ?_, t3⟩
    · rw [if_neg (show ¬ (oT b (some f) = -1) by show ¬ (((b + f : Nat) : Int) = -1); omega), if_pos d7]
      show ((T_nameAt ((b + f : Nat) : Int) σ).bind fun p1 => if 0 ≤ p1 ∧ p1 < 2100 then T_tells_26 (d : Int) (ua σ 770 p1.toNat 1) else none) = some τ
      rw [w1]
      simp only [Option.bind_some]
      rw [if_pos ⟨by omega, by omega⟩, Int.toNat_natCast]
      exact t1
    · exact GT_same (fun g hg i => t2.2 g (fun z => by rw [List.mem_singleton.mp z] at hg; exact absurd hg (by decide)) i) (GT_mark nd A w2)
end LPC
