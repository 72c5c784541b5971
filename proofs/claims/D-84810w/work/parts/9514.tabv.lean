set_option maxRecDepth 100000
/-! THE TWIN SAYS the dictionary of a given, some steps above -/
section LAV
variable {ab : List (Option Nat)} {ins : List INs} {n g1 : Nat} {σ σ0 : tS} {cnm : Nat → List Int}
/-- a class's name can be said -/
def clN (σ : tS) (cnm : Nat → List Int) (c : Nat) : Prop := c < 8 ∧ ∃ v : Nat, ga σ 662 c = (v : Int) ∧ v < 2100 ∧ nmT σ v (cnm c)
theorem clN_W {τ : tS} {c : Nat} (F : fr WYS WYA σ τ) (H : clN σ cnm c) : clN τ cnm c := by
  obtain ⟨h1, v, h2, h3, h4⟩ := H
  exact ⟨h1, v, by rw [F.2 662 (by decide)]; exact h2, h3, nmT_W F h4⟩
theorem t_sayClass {c t : Nat} (H : clN σ cnm c) (S : SkT σ t) (ht : t < 1900000000) : T_sayClass (c : Int) σ = some (sayL (cnm c) σ) := by
  obtain ⟨h1, v, h2, h3, h4⟩ := H
  unfold T_sayClass
  rw [if_pos (by omega), show ((c : Int)).toNat = c by omega, h2, t_sayName h4 h3 S ht, Option.bind_some]
/-- classes on the way up -/
def ksA (ab : List (Option Nat)) (g1 i : Nat) : Nat := (upA ab i g1).getD 0
def preA (cnm : Nat → List Int) (ab : List (Option Nat)) (g1 : Nat) : Nat → List Int
  | 0 => []
  | i + 1 => cnm (ksA ab g1 (i + 1)) ++ [94, 40] ++ preA cnm ab g1 i
theorem gvBy_pre {j : Nat} : ∀ m, gvBy cnm ab g1 j m = preA cnm ab g1 m ++ (100 :: numB j) ++ List.replicate m 41
  | 0 => by
    show 100 :: numB j = [] ++ (100 :: numB j) ++ []
    simp
  | m + 1 => by
    show cnm (ksA ab g1 (m + 1)) ++ [94, 40] ++ gvBy cnm ab g1 j m ++ [41] = cnm (ksA ab g1 (m + 1)) ++ [94, 40] ++ preA cnm ab g1 m ++ (100 :: numB j) ++ List.replicate (m + 1) 41
    rw [gvBy_pre m, List.replicate_succ']
    simp only [List.append_assoc]
/-- the chain -/
def upC (ab : List (Option Nat)) (g1 m : Nat) : Prop := ∀ i, i < m → ab[ksA ab g1 i]? = some (some (ksA ab g1 (i + 1)))
theorem upC_of {c : Nat} (e : stpA ab 9 g1 c = some n) : upC ab g1 n ∧ ksA ab g1 n = c ∧ n < 9 := by
  obtain ⟨h1, h2, h3⟩ := stpA_up e
  refine ⟨fun i hi => ?_, by unfold ksA; rw [h1]; rfl, h2⟩
  obtain ⟨a, ea⟩ := Option.isSome_iff_exists.mp (h3 i (by omega))
  obtain ⟨b, eb⟩ := Option.isSome_iff_exists.mp (h3 (i + 1) (by omega))
  have e2 : upA ab (i + 1) g1 = (upA ab i g1).bind fun k' => (ab[k']?).bind id := rfl
  unfold ksA
  rw [ea, eb]
  rw [ea, eb, Option.bind_some] at e2
  show ab[a]? = some (some b)
  cases q : ab[a]? with
  | none => rw [q] at e2; cases e2
  | some o =>
    rw [q] at e2
    have e3 : some b = o := e2
    rw [← e3]
theorem upC_lt (P : PGT σ0 n ab ins) {m : Nat} (U : upC ab g1 m) : ∀ i, i < m → ksA ab g1 i < 8 ∧ ga σ0 670 (ksA ab g1 i) = (ksA ab g1 (i + 1) : Int) ∧ ksA ab g1 (i + 1) < ksA ab g1 i := fun i hi => by
  have e := U i hi
  have l := (List.getElem?_eq_some_iff.mp e).1
  obtain ⟨p1, p2⟩ := P.1.2 _ _ e
  have := P.1.1
  exact ⟨by omega, p1, p2 _ rfl⟩
theorem upC_dec (P : PGT σ0 n ab ins) {m : Nat} (U : upC ab g1 m) : ∀ j i, i < j → j ≤ m → ksA ab g1 j < ksA ab g1 i
  | 0, i, h, _ => by omega
  | j + 1, i, h, hm => by
    have a := (upC_lt P U j (by omega)).2.2
    by_cases c : i = j
    · rw [c]; exact a
    · have := upC_dec P U j i (by omega) (by omega)
      omega
/-- the one below -/
theorem t_36 (P : PGT σ0 n ab ins) {m i : Nat} (U : upC ab g1 m) (hi : i < m) (F : fr WYS WYA σ0 σ) {l1 l3 l5 : Int} : ∀ (d j : Nat), j + d = i → om_loop (T_sayAbove_36s l1 l3 ((ksA ab g1 (i + 1) : Nat) : Int) l5 σ) ((ksA ab g1 j : Nat) : Int) = some ((ksA ab g1 i : Nat) : Int)
  | 0, j, e => by
    have ej : j = i := by omega
    subst ej
    obtain ⟨a1, a2, a3⟩ := upC_lt P U j hi
    refine om_loop_out ?_
    unfold T_sayAbove_36s
    rw [if_pos (by omega), show (((ksA ab g1 j : Nat) : Int)).toNat = ksA ab g1 j by omega, F.2 670 (by decide), a2, if_pos rfl]
  | d + 1, j, e => by
    obtain ⟨a1, a2, a3⟩ := upC_lt P U j (by omega)
    have lt := upC_dec P U (i + 1) (j + 1) (by omega) (by omega)
    have st : T_sayAbove_36s l1 l3 ((ksA ab g1 (i + 1) : Nat) : Int) l5 σ ((ksA ab g1 j : Nat) : Int) = some (.inl ((ksA ab g1 (j + 1) : Nat) : Int)) := by
      unfold T_sayAbove_36s
      rw [if_pos (by omega), show (((ksA ab g1 j : Nat) : Int)).toNat = ksA ab g1 j by omega, F.2 670 (by decide), a2, if_neg (by omega), if_pos (by omega)]
    rw [om_loop_in st]
    exact t_36 P U hi F d (j + 1) (by omega)
/-- from above down -/
theorem t_6s (P : PGT σ0 n ab ins) {m : Nat} (U : upC ab g1 m) (e0 : ksA ab g1 0 = g1) (hN : ∀ i, i ≤ m → clN σ0 cnm (ksA ab g1 i)) {l3 : Int} : ∀ (i many : Nat) (σ : tS) (t : Nat), i ≤ m → many + i < 100 → fr WYS WYA σ0 σ → SkT σ t → t + (preA cnm ab g1 i).length < 1000000000 → om_loop (T_sayAbove_6s (g1 : Int) l3) ((ksA ab g1 i : Int), (many : Int), σ) = some (((many + i : Nat) : Int), sayL (preA cnm ab g1 i) σ)
  | 0, many, σ, t, _, _, F, S, _ => by
    refine om_loop_out ?_
    unfold T_sayAbove_6s
    simp only
    rw [if_pos (by rw [e0])]
    rfl
  | i + 1, many, σ, t, hi, hm, F, S, ht => by
    have ep : preA cnm ab g1 (i + 1) = cnm (ksA ab g1 (i + 1)) ++ [94, 40] ++ preA cnm ab g1 i := rfl
    rw [ep] at ht ⊢
    simp only [List.length_append, List.length_cons, List.length_nil] at ht
    have lt := upC_dec P U (i + 1) 0 (by omega) hi
    rw [e0] at lt
    have c1 := t_sayClass (clN_W F (hN (i + 1) hi)) S (by omega)
    have S1 := sayL_t (L := cnm (ksA ab g1 (i + 1))) S (by omega)
    have c2 := t_say S1 94
    have S2 := SkT_next (c := 94) S1 (by omega)
    have c3 := t_say S2 40
    have S3 := SkT_next (c := 40) S2 (by omega)
    have es : say1 (say1 (sayL (cnm (ksA ab g1 (i + 1))) σ) 94) 40 = sayL (cnm (ksA ab g1 (i + 1)) ++ [94, 40]) σ := by
      rw [sayL_app]
      rfl
    rw [es] at S3
    have F3 : fr WYS WYA σ0 (sayL (cnm (ksA ab g1 (i + 1)) ++ [94, 40]) σ) := fr_trans F (fr_sub sayL_fr (fun f h => List.mem_append_right _ h) (fun f h => List.mem_append_right _ h))
    have st : T_sayAbove_6s (g1 : Int) l3 ((ksA ab g1 (i + 1) : Int), (many : Int), σ) = some (.inl ((ksA ab g1 i : Int), ((many + 1 : Nat) : Int), sayL (cnm (ksA ab g1 (i + 1)) ++ [94, 40]) σ)) := by
      unfold T_sayAbove_6s
      simp only
      rw [if_neg (by omega), c1, Option.bind_some, c2, Option.bind_some, c3, Option.bind_some, es]
      have lp := t_36 P U (i := i) (by omega) F3 (l1 := (g1 : Int)) (l3 := l3) (l5 := w32 ((many : Int) + 1)) i 0 (by omega)
      rw [e0] at lp
      rw [lp, Option.bind_some, w32_s (by omega) (by omega)]
      rfl
    rw [om_loop_in st, t_6s P U e0 hN i (many + 1) _ _ (by omega) (by omega) F3 S3 (by omega), sayL_app (L := cnm (ksA ab g1 (i + 1)) ++ [94, 40]), show many + 1 + i = many + (i + 1) by omega]
/-- signs that close -/
theorem t_81 : ∀ (d k : Nat) (σ : tS) (t : Nat), SkT σ t → t + d < 1000000000 → k + d < 200 → om_loop (T_sayAbove_81s ((k + d : Nat) : Int)) ((k : Int), σ) = some (sayL (List.replicate d 41) σ)
  | 0, k, σ, t, S, _, _ => by
    refine om_loop_out ?_
    unfold T_sayAbove_81s
    simp only
    rw [if_pos (by omega)]
    rfl
  | d + 1, k, σ, t, S, ht, hk => by
    have st : T_sayAbove_81s ((k + (d + 1) : Nat) : Int) ((k : Int), σ) = some (.inl (((k + 1 : Nat) : Int), say1 σ 41)) := by
      unfold T_sayAbove_81s
      simp only
      rw [if_neg (by omega), t_say S, Option.bind_some, w32_s (by omega) (by omega)]
      rfl
    rw [om_loop_in st, show k + (d + 1) = k + 1 + d by omega, t_81 d (k + 1) _ (t + 1) (SkT_next S (by omega)) (by omega) (by omega)]
    rfl
/-- A GIVEN'S DICTIONARY is said -/
theorem t_sayAbove (P : PGT σ0 n ab ins) {c m j t : Nat} (e : stpA ab 9 g1 c = some m) (hc : ∀ k, k < ab.length → clN σ0 cnm k) (hl : c < ab.length) (F : fr WYS WYA σ0 σ) (S : SkT σ t) (hj : j < 100) (ht : t + (gvBy cnm ab g1 j m).length < 1000000000) : T_sayAbove (g1 : Int) (c : Int) (j : Int) σ = some (sayL (gvBy cnm ab g1 j m) σ) := by
  obtain ⟨U, ec, h9⟩ := upC_of e
  have e0 : ksA ab g1 0 = g1 := rfl
  have hN : ∀ i, i ≤ m → clN σ0 cnm (ksA ab g1 i) := fun i hi => hc _ (by
    by_cases q : i = m
    · rw [q, ec]; exact hl
    · exact (List.getElem?_eq_some_iff.mp (U i (by omega))).1)
  rw [gvBy_pre] at ht ⊢
  simp only [List.length_append, List.length_cons, List.length_replicate] at ht
  have l1 := t_6s P U e0 hN (l3 := (j : Int)) m 0 σ t (Nat.le_refl _) (by omega) F S (by omega)
  have S1 := sayL_t (L := preA cnm ab g1 m) S (by omega)
  have c1 := t_say S1 100
  have S2 := SkT_next (c := 100) S1 (by omega)
  have c2 := t_sayNum (v := j) (by omega) S2 (by omega)
  have S3 := sayL_t (L := numB j) S2 (by omega)
  have l2 := t_81 m 0 _ _ S3 (by omega) (by omega)
  unfold T_sayAbove
  rw [ec] at l1
  have l1' : om_loop (T_sayAbove_6s (g1 : Int) (j : Int)) ((c : Int), 0, σ) = some (((0 + m : Nat) : Int), sayL (preA cnm ab g1 m) σ) := l1
  rw [l1', Option.bind_some]
  simp only
  rw [c1, Option.bind_some, c2, Option.bind_some]
  have l2' : om_loop (T_sayAbove_81s ((0 + m : Nat) : Int)) (0, sayL (numB j) (say1 (sayL (preA cnm ab g1 m) σ) 100)) = some (sayL (List.replicate m 41) (sayL (numB j) (say1 (sayL (preA cnm ab g1 m) σ) 100))) := l2
  rw [l2', Option.bind_some, sayL_app, sayL_app]
  rfl
end LAV
