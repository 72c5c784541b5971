set_option maxRecDepth 100000
/-! PHASE ONE in the twin: a great, a name of terms stands from now on -/
section LPG
variable {S : List Int} {N : List (List Int)} {b m j : Nat} {σ τ : tS} {K : KT} {tg : List (List Int)} {L : List Int} {w : Nat}
theorem GT_w (H : GT σ N K tg) (hw : N[w]? = some L) : w < 2100 := (H.1 w L hw).1
/-- it was told before: a break -/
theorem t_greatN (hS : S.length ≤ 2000) (T : TT σ N S b m) (H : GT σ N K tg) (hj : tokk S j = 3) (hn : ¬ (cnI (tokw S j) = none ∧ tokw S j ∉ tg)) (x y : Int) : ∃ τ, T_standsGreat ((b + j : Nat) : Int) x y σ = some (0, τ) ∧ fr [452, 456] [] σ τ ∧ gs τ 452 = 2 ∧ bp τ = min (bp σ) (tokq S j : Int) ∧ GT τ N K tg := by
  obtain ⟨w, w1, w2, w3⟩ := t_nameAt T (.inr hj)
  obtain ⟨τ, e1, e2, e3, e4⟩ := t_breaks T (j := j) (by omega) hS (w := 2) (by decide)
  have w4 := GT_w H w2
  have told : ga σ 770 w ≠ 0 := fun z => hn ((H.2.1 w _ w2).mp z)
  refine ⟨τ, ?_, e2, e3, e4, GT_same (fun f _ i => e2.2 f (by simp) i) H⟩
  unfold T_standsGreat
  rw [w1]
  simp only [Option.bind_some]
  rw [if_pos ⟨by omega, by omega⟩, Int.toNat_natCast, if_neg told, e1]
  rfl
/-- three writes at one place -/
theorem rd3 {f1 f2 f3 : Nat} {x1 x2 x3 : Int} (h12 : f1 ≠ f2) (h13 : f1 ≠ f3) (h23 : f2 ≠ f3) (i : Nat) : ga (ua (ua (ua σ f1 w x1) f2 w x2) f3 w x3) f1 i = (if i = w then x1 else ga σ f1 i) ∧ ga (ua (ua (ua σ f1 w x1) f2 w x2) f3 w x3) f2 i = (if i = w then x2 else ga σ f2 i) ∧ ga (ua (ua (ua σ f1 w x1) f2 w x2) f3 w x3) f3 i = (if i = w then x3 else ga σ f3 i) := by
  by_cases c : i = w
  · rw [if_pos c, if_pos c, if_pos c]
    refine ⟨?_, ?_, ?_⟩
    · rw [ga_ua, if_neg (fun z => h13 z.1), ga_ua, if_neg (fun z => h12 z.1), ga_ua, if_pos ⟨rfl, c⟩]
    · rw [ga_ua, if_neg (fun z => h23 z.1), ga_ua, if_pos ⟨rfl, c⟩]
    · rw [ga_ua, if_pos ⟨rfl, c⟩]
  · rw [if_neg c, if_neg c, if_neg c]
    refine ⟨?_, ?_, ?_⟩
    · rw [ga_ua, if_neg (fun z => c z.2), ga_ua, if_neg (fun z => c z.2), ga_ua, if_neg (fun z => c z.2)]
    · rw [ga_ua, if_neg (fun z => c z.2), ga_ua, if_neg (fun z => c z.2), ga_ua, if_neg (fun z => c z.2)]
    · rw [ga_ua, if_neg (fun z => c z.2), ga_ua, if_neg (fun z => c z.2), ga_ua, if_neg (fun z => c z.2)]
theorem t_greatY (T : TT σ N S b m) (H : GT σ N K tg) (hj : tokk S j = 3) (hn : cnI (tokw S j) = none ∧ tokw S j ∉ tg) (x y : Int) : ∃ w : Nat, N[w]? = some (tokw S j) ∧ w < 2100 ∧ T_standsGreat ((b + j : Nat) : Int) x y σ = some (1, ua (ua (ua σ 770 w 1) 630 w x) 634 w y) := by
  obtain ⟨w, w1, w2, w3⟩ := t_nameAt T (.inr hj)
  have w4 := GT_w H w2
  refine ⟨w, w2, w4, ?_⟩
  unfold T_standsGreat
  rw [w1]
  simp only [Option.bind_some]
  rw [if_pos ⟨by omega, by omega⟩, Int.toNat_natCast, if_pos ((H.2.1 w _ w2).mpr hn), if_pos ⟨by omega, by omega⟩]
/-- what is told, after a new one -/
theorem told_new (nd : ndN N) (hw : N[w]? = some L) {w' : Nat} {L' : List Int} (e : N[w']? = some L') {x y : Int} (hx : x ≠ 0) (hy : y = 0 ↔ cnI L' = none ∧ L' ∉ tg) : ((if w' = w then x else y) = 0 ↔ cnI L' = none ∧ L' ∉ tg ++ [L]) := by
  rw [List.mem_append, List.mem_singleton]
  by_cases c : w' = w
  · rw [if_pos c]
    have e2 : L' = L := by rw [c, hw] at e; exact (Option.some.inj e).symm
    constructor
    · intro z; exact absurd z hx
    · intro z; exact absurd (.inr e2) z.2
  · rw [if_neg c, hy]
    have n : L' ≠ L := fun z => c (nd w' w L (by rw [← z]; exact e) hw)
    constructor
    · intro z; exact ⟨z.1, fun q => q.elim z.2 n⟩
    · intro z; exact ⟨z.1, fun q => z.2 (.inl q)⟩
/-- a class stands from now on -/
theorem t_great2 (nd : ndN N) (T : TT σ N S b m) (H : GT σ N K tg) (hK : K.length < 8) (hj : tokk S j = 3) (hn : cnI (tokw S j) = none ∧ tokw S j ∉ tg) : ∃ τ, T_standsGreat ((b + j : Nat) : Int) 2 (K.length : Int) σ = some (1, τ) ∧ fr [] [630, 634, 770] σ τ ∧ GT τ N (K ++ [(some (tokw S j), none)]) (tg ++ [tokw S j]) := by
  obtain ⟨w, w2, w4, e⟩ := t_greatY T H hj hn 2 (K.length : Int)
  refine ⟨_, e, fr_ua (fr_ua (fr_ua (fr_refl _ _ _) (by simp)) (by simp)) (by simp), ?_⟩
  have r := fun i => rd3 (σ := σ) (w := w) (f1 := 770) (f2 := 630) (f3 := 634) (x1 := 1) (x2 := 2) (x3 := (K.length : Int)) (by decide) (by decide) (by decide) i
  generalize ua (ua (ua σ 770 w 1) 630 w 2) 634 w (K.length : Int) = τ at *
  have f1 : FI Prod.fst (tokw S j) K = none := by
    cases q : FI Prod.fst (tokw S j) K with
    | none => rfl
    | some i => exact absurd (H.2.2 _ (.inl (by rw [q]; simp))) hn.2
  have f2 : FI Prod.snd (tokw S j) K = none := by
    cases q : FI Prod.snd (tokw S j) K with
    | none => rfl
    | some i => exact absurd (H.2.2 _ (.inr (by rw [q]; simp))) hn.2
  refine ⟨fun w' L' e' => ?_, fun w' L' e' => ?_, fun L' h => ?_⟩
  · have old := H.1 w' L' e'
    rw [(r w').2.1, (r w').2.2]
    refine ⟨old.1, ?_⟩
    by_cases c : w' = w
    · rw [if_pos c, if_pos c]
      have e2 : L' = tokw S j := by rw [c, w2] at e'; exact (Option.some.inj e').symm
      rw [e2]
      exact .inr (.inr (.inl ⟨K.length, rfl, rfl, hK, hn.1, FI_new rfl f1, by rw [FI_no (by simp)]; exact f2⟩))
    · rw [if_neg c, if_neg c]
      have n : some (tokw S j) ≠ some L' := fun z => c (nd w' w L' e' (by rw [← Option.some.inj z]; exact w2))
      rw [FI_no (g := Prod.fst) (k := (some (tokw S j), none)) n, FI_no (g := Prod.snd) (k := (some (tokw S j), none)) (by simp)]
      exact old.2
  · rw [(r w').1]
    exact told_new nd w2 e' (by decide) (H.2.1 w' L' e')
  · rw [List.mem_append, List.mem_singleton]
    by_cases c : L' = tokw S j
    · exact .inr c
    · rw [FI_no (g := Prod.fst) (k := (some (tokw S j), none)) (fun z => c (Option.some.inj z).symm), FI_no (g := Prod.snd) (k := (some (tokw S j), none)) (by simp)] at h
      exact .inl (H.2.2 L' h)
/-- a family stands from now on -/
theorem t_great3 (nd : ndN N) (T : TT σ N S b m) {nm : List Int} (H : GT σ N (K ++ [(some nm, none)]) tg) (hK : K.length < 8) (hj : tokk S j = 3) (hn : cnI (tokw S j) = none ∧ tokw S j ∉ tg) : ∃ τ, T_standsGreat ((b + j : Nat) : Int) 3 (K.length : Int) σ = some (1, τ) ∧ fr [] [630, 634, 770] σ τ ∧ GT τ N (K ++ [(some nm, some (tokw S j))]) (tg ++ [tokw S j]) := by
  obtain ⟨w, w2, w4, e⟩ := t_greatY T H hj hn 3 (K.length : Int)
  refine ⟨_, e, fr_ua (fr_ua (fr_ua (fr_refl _ _ _) (by simp)) (by simp)) (by simp), ?_⟩
  have r := fun i => rd3 (σ := σ) (w := w) (f1 := 770) (f2 := 630) (f3 := 634) (x1 := 1) (x2 := 3) (x3 := (K.length : Int)) (by decide) (by decide) (by decide) i
  generalize ua (ua (ua σ 770 w 1) 630 w 3) 634 w (K.length : Int) = τ at *
  have f1 : FI Prod.fst (tokw S j) (K ++ [(some nm, none)]) = none := by
    cases q : FI Prod.fst (tokw S j) (K ++ [(some nm, none)]) with
    | none => rfl
    | some i => exact absurd (H.2.2 _ (.inl (by rw [q]; simp))) hn.2
  have f2 : FI Prod.snd (tokw S j) (K ++ [(some nm, none)]) = none := by
    cases q : FI Prod.snd (tokw S j) (K ++ [(some nm, none)]) with
    | none => rfl
    | some i => exact absurd (H.2.2 _ (.inr (by rw [q]; simp))) hn.2
  have g1 : ∀ L', FI Prod.fst L' (K ++ [(some nm, some (tokw S j))]) = FI Prod.fst L' (K ++ [(some nm, none)]) := fun L' => by rw [FI_app, FI_app]
  have g2 : ∀ L', L' ≠ tokw S j → FI Prod.snd L' (K ++ [(some nm, some (tokw S j))]) = FI Prod.snd L' (K ++ [(some nm, none)]) := fun L' n => by rw [FI_no (g := Prod.snd) (k := (some nm, some (tokw S j))) (fun z => n (Option.some.inj z).symm), FI_no (g := Prod.snd) (k := (some nm, none)) (by simp)]
  rw [FI_no (g := Prod.snd) (k := (some nm, none)) (by simp)] at f2
  refine ⟨fun w' L' e' => ?_, fun w' L' e' => ?_, fun L' h => ?_⟩
  · have old := H.1 w' L' e'
    rw [(r w').2.1, (r w').2.2]
    refine ⟨old.1, ?_⟩
    by_cases c : w' = w
    · rw [if_pos c, if_pos c]
      have e2 : L' = tokw S j := by rw [c, w2] at e'; exact (Option.some.inj e').symm
      rw [e2, g1]
      exact .inr (.inr (.inr ⟨K.length, rfl, rfl, hK, hn.1, f1, FI_new rfl f2⟩))
    · rw [if_neg c, if_neg c]
      have n : L' ≠ tokw S j := fun z => c (nd w' w L' e' (by rw [z]; exact w2))
      rw [g1, g2 L' n]
      exact old.2
  · rw [(r w').1]
    exact told_new nd w2 e' (by decide) (H.2.1 w' L' e')
  · rw [List.mem_append, List.mem_singleton]
    by_cases c : L' = tokw S j
    · exact .inr c
    · rw [g1, g2 L' c] at h
      exact .inl (H.2.2 L' h)
end LPG
