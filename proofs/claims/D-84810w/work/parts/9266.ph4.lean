set_option maxRecDepth 100000
/-! PHASE ONE in the twin: the methods of a class -/
/-- methods as they are read: nodes ns, tokens js -/
def mT (S : List Int) (b : Nat) (σ : tS) : List Nat → List Nat → Prop
  | [], [] => True
  | n :: ns, j :: js => (n < 8400 ∧ ga σ 542 n = ((b + j : Nat) : Int) ∧ tokk S j = 2) ∧ mT S b σ ns js
  | _, _ => False
/-- which of them stand, if the class does -/
def mthF (S : List Int) (st : Prop) [Decidable st] : List (List Int) → Nat → List Nat → FT
  | _, _, [] => []
  | tn, k, j :: js => (if st ∧ btI (tokw S j) = none ∧ tokw S j ∉ tn ∧ k < 4 then some (tokw S j) else none) :: mthF S st (tn ++ [tokw S j]) (k + 1) js
/-- the breaks that the twin finds at methods of a class that stands -/
def mthB (S : List Int) : List (List Int) → Nat → List Nat → List Int
  | _, _, [] => []
  | tn, k, j :: js => (if btI (tokw S j) = none ∧ tokw S j ∉ tn ∧ k < 4 then [] else [(tokq S j : Int)]) ++ mthB S (tn ++ [tokw S j]) (k + 1) js
section LPQ
variable {S : List Int} {N : List (List Int)} {b m j : Nat} {σ τ : tS} {F Fm : FT} {Ms : List FT} {tn : List (List Int)} {L : List Int} {w : Nat}
theorem mT_keep (g : ∀ n, ga τ 542 n = ga σ 542 n) : ∀ {ns js : List Nat}, mT S b σ ns js → mT S b τ ns js
  | [], [], _ => trivial
  | n :: ns, j :: js, h => ⟨⟨h.1.1, by rw [g]; exact h.1.2.1, h.1.2.2⟩, mT_keep g h.2⟩
  | [], _ :: _, h => h.elim
  | _ :: _, [], h => h.elim
theorem mthF_no {st : Prop} [Decidable st] (h : ¬ st) : ∀ {js : List Nat} {tn : List (List Int)} {k : Nat}, mthF S st tn k js = js.map (fun _ => none)
  | [], _, _ => rfl
  | j :: js, tn, k => by
    show (if st ∧ _ then _ else none) :: mthF S st _ _ js = none :: js.map (fun _ => none)
    rw [if_neg (fun z => h z.1), mthF_no h]
theorem mthF_len {st : Prop} [Decidable st] : ∀ {js : List Nat} {tn : List (List Int)} {k : Nat}, (mthF S st tn k js).length = js.length
  | [], _, _ => rfl
  | j :: js, tn, k => by
    show (_ :: mthF S st _ _ js).length = (j :: js).length
    rw [List.length_cons, List.length_cons, mthF_len]
/-- the methods of a class that stands for nothing are told -/
theorem t_tells33 (nd : ndN N) : ∀ {ns js : List Nat} {σ : tS} {first : Int} {Fm : FT} {tn : List (List Int)}, TT σ N S b m → chain σ first ns → mT S b σ ns js → XM σ N F (Ms ++ [Fm]) tn → ∃ τ, om_loop T_tells_33s (first, σ) = some τ ∧ fr [] [774] σ τ ∧ XM τ N F (Ms ++ [Fm ++ js.map (fun _ => none)]) (tn ++ js.map (tokw S))
  | [], [], σ, first, Fm, tn, T, C, M, H => by
    have e : first = -1 := C
    refine ⟨σ, om_loop_out (by unfold T_tells_33s; rw [if_pos e]), fr_refl _ _ _, ?_⟩
    simpa using H
  | n :: ns, j :: js, σ, first, Fm, tn, T, C, M, H => by
    obtain ⟨e, C2⟩ := C
    obtain ⟨⟨m1, m2, m3⟩, M2⟩ := M
    obtain ⟨w, w1, w2, w3⟩ := t_nameAt T (.inl m3)
    have w4 := XM_w H w2
    have f1 : fr [] [774] σ (ua σ 774 w 1) := fr_ua (fr_refl _ _ _) (by simp)
    obtain ⟨τ, t1, t2, t3⟩ := t_tells33 nd (ns := ns) (js := js) (σ := ua σ 774 w 1) (first := ga σ 562 n) (Fm := Fm ++ [none]) (tn := tn ++ [tokw S j]) (TT_fr2 f1 (by decide) T) (chain_keep C2 (fun x _ => f1.2 562 (by decide) x)) (mT_keep (fun x => f1.2 542 (by decide) x) M2) (XM_mn (XM_mark nd H w2))
    refine ⟨τ, ?_, fr_trans f1 t2, ?_⟩
    · rw [om_loop_eq]
      unfold T_tells_33s
      simp only
      rw [e, if_neg (by omega), if_pos ⟨by omega, by omega⟩, Int.toNat_natCast, m2, w1]
      simp only [Option.bind_some]
      rw [if_pos ⟨by omega, by omega, by omega, by omega⟩, Int.toNat_natCast]
      exact t1
    · simpa using t3
  | [], _ :: _, _, _, _, _, _, _, M, _ => M.elim
  | _ :: _, [], _, _, _, _, _, _, M, _ => M.elim
end LPQ
