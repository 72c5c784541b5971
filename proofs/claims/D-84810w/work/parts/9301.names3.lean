set_option maxRecDepth 100000
/-! RESOLVE: names around, of a forall -/
/-- breaks, in the component -/
def nmBC (S : List Int) : List (List Int) → Nat → List Nat → List Int
  | _, _, [] => []
  | tn, k, j :: js => ((if k < 4 then [] else [(tokq S j : Int)]) ++ (if tokw S j ∈ tn then [(tokq S j : Int)] else [])) ++ nmBC S (tn ++ [tokw S j]) (k + 1) js
/-- and in the twin -/
def nmBT (S : List Int) : List (List Int) → Nat → List Nat → List Int
  | _, _, [] => []
  | tn, k, j :: js => if k < 4 then (if tokw S j ∈ tn then [(tokq S j : Int)] else []) ++ nmBT S (tn ++ [tokw S j]) (k + 1) js else [(tokq S j : Int)]
section LNM
variable {S : List Int} {b m : Nat} {N : List (List Int)} {K : KT} {sc sc' : List Nat} {Ls tn : List (List Int)} {σ τ υ : tS} {n j w f g o d k : Nat} {L : List Int}
theorem scA_bdL (hN : ndN N) (H : bdL N sc Ls) : scA N sc Ls := fun w L e => by
  constructor
  · intro hw
    obtain ⟨i, hi⟩ := List.getElem?_of_mem hw
    have il := (List.getElem?_eq_some_iff.mp hi).1
    have i2 : i < Ls.length := by have := H.1; omega
    have ek : Ls[i]? = some Ls[i] := List.getElem?_eq_getElem i2
    have := H.2 i w _ hi ek
    rw [e] at this
    rw [Option.some.inj this]
    exact List.getElem_mem _
  · intro hL
    obtain ⟨i, hi⟩ := List.getElem?_of_mem hL
    have il := (List.getElem?_eq_some_iff.mp hi).1
    have i2 : i < sc.length := by have := H.1; omega
    have ek : sc[i]? = some sc[i] := List.getElem?_eq_getElem i2
    have := H.2 i _ L ek hi
    rw [hN w sc[i] L e this]
    exact List.getElem_mem _
theorem bdL_more (H : bdL N sc Ls) (e : N[w]? = some L) : bdL N (sc ++ [w]) (Ls ++ [L]) := by
  refine ⟨by rw [List.length_append, List.length_append, H.1]; rfl, fun i w' L' e1 e2 => ?_⟩
  rcases snoc_get e1 with x | ⟨x, y⟩
  · rcases snoc_get e2 with u | ⟨u, v⟩
    · exact H.2 i w' L' x u
    · have := (List.getElem?_eq_some_iff.mp x).1
      have := H.1
      omega
  · rcases snoc_get e2 with u | ⟨u, v⟩
    · have := (List.getElem?_eq_some_iff.mp u).1
      have := H.1
      omega
    · rw [y, v]; exact e
/-- the names around change -/
theorem KU_re {as : List Nat} (H : KU S b m N K sc σ n) (R : fr [784] as σ τ) (d : ∀ f ∈ as, f ∉ [470, 474, 478, 482, 630, 634] ++ TYA) (C : SCt τ sc') : KU S b m N K sc' τ n ∧ bp τ = bp σ := by
  obtain ⟨h1, h2, h3, h4, h5, h6⟩ := H
  have g1 : gs τ 452 = gs σ 452 := R.1 452 (by decide)
  have g2 : gs τ 456 = gs σ 456 := R.1 456 (by decide)
  have eb := bp_eq g1 g2
  refine ⟨⟨TyK_same (R.1 532 (by decide)) (fun f hf i => R.2 f (fun z => d f z (List.mem_append_right _ hf)) i) h1, TT_fr2 R (fun f hf z => d f z (List.mem_append_left _ (by simp only [List.mem_cons, List.not_mem_nil, or_false] at hf ⊢; omega))) h2, fun w L hw => ?_, C, by rw [g1]; exact h5, by rw [eb]; exact h6⟩, eb⟩
  rw [R.2 630 (fun z => d 630 z (by simp)), R.2 634 (fun z => d 634 z (by simp))]
  exact h3 w L hw
/-- one name more stands around; it is put down as a function's -/
def pushF (τ : tS) (f k : Nat) (w : Int) : tS := ua (us (ua (ua τ 742 (4 * f + k) w) 778 k w) 784 ((k + 1 : Nat) : Int)) 738 f ((k + 1 : Nat) : Int)
theorem pushF_fr {w : Int} : fr [784] [738, 742, 778] τ (pushF τ f k w) := ⟨fun x hx => (gs_us _ 784 _ x).trans (if_neg (fun z => hx (by rw [z]; simp))), fun x hx i => by
  have hx' : x ≠ 738 ∧ x ≠ 742 ∧ x ≠ 778 := by simpa using hx
  unfold pushF
  rw [ga_ua, if_neg (fun z => hx'.1 z.1), ga_us, ga_ua, if_neg (fun z => hx'.2.2 z.1), ga_ua, if_neg (fun z => hx'.2.1 z.1)]⟩
theorem pushF_738 {w : Int} : ga (pushF τ f k w) 738 f = ((k + 1 : Nat) : Int) ∧ ∀ i, i ≠ f → ga (pushF τ f k w) 738 i = ga τ 738 i := by
  unfold pushF
  refine ⟨by rw [ga_ua, if_pos ⟨rfl, rfl⟩], fun i hi => ?_⟩
  rw [ga_ua, if_neg (fun z => hi z.2), ga_us, ga_ua, if_neg (fun z => by have := z.1; omega), ga_ua, if_neg (fun z => by have := z.1; omega)]
theorem pushF_742 {w : Int} : ga (pushF τ f k w) 742 (4 * f + k) = w ∧ ∀ i, i ≠ 4 * f + k → ga (pushF τ f k w) 742 i = ga τ 742 i := by
  unfold pushF
  refine ⟨?_, fun i hi => ?_⟩
  · rw [ga_ua, if_neg (fun z => by have := z.1; omega), ga_us, ga_ua, if_neg (fun z => by have := z.1; omega), ga_ua, if_pos ⟨rfl, rfl⟩]
  · rw [ga_ua, if_neg (fun z => by have := z.1; omega), ga_us, ga_ua, if_neg (fun z => by have := z.1; omega), ga_ua, if_neg (fun z => hi z.2)]
theorem pushF_sc {w : Nat} (C : SCt τ sc) (hk : sc.length = k) (h4 : k < 1000) : SCt (pushF τ f k (w : Int)) (sc ++ [w]) := by
  refine ⟨?_, by rw [List.length_append]; simp; omega, fun i v e => ?_⟩
  · show gs (us (ua (ua τ 742 (4 * f + k) (w : Int)) 778 k (w : Int)) 784 ((k + 1 : Nat) : Int)) 784 = _
    rw [gs_us, if_pos rfl, List.length_append, hk]
    rfl
  · unfold pushF
    rw [ga_ua, if_neg (fun z => by have := z.1; omega), ga_us, ga_ua]
    rcases snoc_get e with x | ⟨x, y⟩
    · have := (List.getElem?_eq_some_iff.mp x).1
      rw [if_neg (fun z => by have := z.2; omega), ga_ua, if_neg (fun z => by have := z.1; omega)]
      exact C.2.2 i v x
    · rw [if_pos ⟨rfl, by omega⟩, y]
set_option maxHeartbeats 1000000 in
theorem t_nmF {j1 len : Nat} (hN : ndN N) (hS : S.length ≤ 2000) (hf : f < 24) (hd : d < 700) (hl : len ≤ 1300) (tk : ∀ i, i < len → tokk S (j1 + i) = 2) : ∀ (r k : Nat) (sc : List Nat) (tn : List (List Int)) (τ : tS), r + k = len → k ≤ 4 → ((len = 0 ∨ ga τ 594 d = ((b + j1 : Nat) : Int)) ∧ ga τ 598 d = (len : Int)) → KU S b m N K sc τ n → sc.length = k → bdL N sc tn → ga τ 738 f = (k : Int) → (∀ i w : Nat, sc[i]? = some w → ga τ 742 (4 * f + i) = (w : Int)) →
    ∃ (τ' : tS) (sc' : List Nat), (∀ g : tS → Option tS, (om_loop (T_fillFunction_21s (f : Int) (d : Int)) ((k : Int), τ)).bind (Sum.elim g g) = g τ') ∧ KU S b m N K sc' τ' n ∧ fr [452, 456, 784] [738, 742, 778] τ τ' ∧ bp τ' = mnl (bp τ) (nmBT S tn k (List.range' (j1 + k) r)) ∧ sc'.length = min 4 len ∧ bdL N sc' (tn ++ ((List.range' (j1 + k) r).take (4 - k)).map (tokw S)) ∧ ga τ' 738 f = ((min 4 len : Nat) : Int) ∧ (∀ i w : Nat, sc'[i]? = some w → ga τ' 742 (4 * f + i) = (w : Int)) ∧ (∀ i, i ≠ f → ga τ' 738 i = ga τ 738 i) ∧ ∀ i, (i < 4 * f ∨ 4 * f + 4 ≤ i) → ga τ' 742 i = ga τ 742 i
  | 0, k, sc, tn, τ, hr, k4, e59, U, hk, bd, e738, e742 => by
    refine ⟨τ, sc, fun g => ?_, U, fr_refl _ _ _, rfl, by omega, by rw [show List.range' (j1 + k) 0 = [] from rfl, List.take_nil, List.map_nil, List.append_nil]; exact bd, by rw [e738]; congr 1; omega, e742, fun _ _ => rfl, fun _ _ => rfl⟩
    have st : T_fillFunction_21s (f : Int) (d : Int) ((k : Int), τ) = some (.inr (.inr τ)) := by
      unfold T_fillFunction_21s
      simp only
      rw [if_pos (by omega), show ((d : Int)).toNat = d by omega, e59.2, if_pos (by omega)]
    rw [om_loop_out st, Option.bind_some]
    rfl
  | r + 1, k, sc, tn, τ, hr, k4, e59, U, hk, bd, e738, e742 => by
    have e594 : ga τ 594 d = ((b + j1 : Nat) : Int) := e59.1.resolve_left (by omega)
    have bm := U.2.1.2.1
    have tkk := tk k (by omega)
    obtain ⟨w, w1, w2, w3⟩ := t_nameAt U.2.1 (j := j1 + k) (.inl tkk)
    have isc := t_inScope U.2.2.2.1 w
    have sA := scA_bdL hN bd w _ w2
    have ea : w32 (((b + j1 : Nat) : Int) + (k : Int)) = ((b + (j1 + k) : Nat) : Int) := by rw [w32_s (by omega) (by omega)]; omega
    have ek : w32 ((k : Int) + 1) = ((k + 1 : Nat) : Int) := by rw [w32_s (by omega) (by omega)]; rfl
    have e4 : w32 (w32 (4 * (f : Int)) + (k : Int)) = ((4 * f + k : Nat) : Int) := by rw [w32_s (x := 4 * (f : Int)) (by omega) (by omega), w32_s (by omega) (by omega)]; omega
    have rg : List.range' (j1 + k) (r + 1) = (j1 + k) :: List.range' (j1 + (k + 1)) r := by rw [List.range'_succ]; rfl
    have jm : j1 + k ≤ m := by omega
    -- 67 at a state whose names are those of τ
    have s67 : ∀ υ, KU S b m N K sc υ n → fr [452, 456] [] τ υ → k < 4 → T_fillFunction_67 (f : Int) (d : Int) (k : Int) ((b + (j1 + k) : Nat) : Int) υ = some (.inl (((k + 1 : Nat) : Int), pushF υ f k (w : Int))) := by
      intro υ Uu Ru hk4
      have nA : T_nameAt ((b + (j1 + k) : Nat) : Int) υ = some (w : Int) := by rw [T_nameAt_fr Ru (by simp)]; exact w1
      have R7 : fr [] [742] υ (ua υ 742 (4 * f + k) (w : Int)) := fr_ua (fr_refl _ _ _) (by simp)
      have nB : T_nameAt ((b + (j1 + k) : Nat) : Int) (ua υ 742 (4 * f + k) (w : Int)) = some (w : Int) := by rw [T_nameAt_fr R7 (by decide)]; exact nA
      have g84 : gs υ 784 = (k : Int) := by rw [Uu.2.2.2.1.1, hk]
      have g38 : ga υ 738 f = (k : Int) := by rw [Ru.2 738 (by simp)]; exact e738
      unfold T_fillFunction_67
      rw [if_pos (by omega), nA, Option.bind_some, e4, if_pos (by omega), show (((4 * f + k : Nat) : Int)).toNat = 4 * f + k by omega, nB, Option.bind_some, g84]
      unfold T_fillFunction_105
      rw [if_pos (by omega), show ((k : Int)).toNat = k by omega, show ((f : Int)).toNat = f by omega]
      rw [show gs (ua υ 742 (4 * f + k) (w : Int)) 784 = gs υ 784 from rfl, g84, ek, ga_ua, if_neg (fun z => by have := z.1; omega), g38, ek]
      rfl
    have un : T_fillFunction_21s (f : Int) (d : Int) ((k : Int), τ) = if (if w ∈ sc then ((sc.idxOf w : Nat) : Int) else -1) ≠ -1 then T_fillFunction_60 (f : Int) (d : Int) (k : Int) ((b + (j1 + k) : Nat) : Int) τ else if (k : Int) ≠ 4 then T_fillFunction_67 (f : Int) (d : Int) (k : Int) ((b + (j1 + k) : Nat) : Int) τ else T_fillFunction_60 (f : Int) (d : Int) (k : Int) ((b + (j1 + k) : Nat) : Int) τ := by
      unfold T_fillFunction_21s
      simp only
      rw [if_pos (by omega), show ((d : Int)).toNat = d by omega, e59.2, if_neg (by omega), if_pos (by omega), e594, ea, w1, Option.bind_some, isc, Option.bind_some]
    obtain ⟨τb, b1, b2, b3, b4⟩ := KU_break U jm hS
    by_cases h4 : k < 4
    · -- goes on
      have go : ∀ υ, KU S b m N K sc υ n → fr [452, 456] [] τ υ → bp υ = mnl (bp τ) (if tokw S (j1 + k) ∈ tn then [(tokq S (j1 + k) : Int)] else []) → T_fillFunction_21s (f : Int) (d : Int) ((k : Int), τ) = some (.inl (((k + 1 : Nat) : Int), pushF υ f k (w : Int))) → ∃ (τ' : tS) (sc' : List Nat), (∀ g : tS → Option tS, (om_loop (T_fillFunction_21s (f : Int) (d : Int)) ((k : Int), τ)).bind (Sum.elim g g) = g τ') ∧ KU S b m N K sc' τ' n ∧ fr [452, 456, 784] [738, 742, 778] τ τ' ∧ bp τ' = mnl (bp τ) (nmBT S tn k (List.range' (j1 + k) (r + 1))) ∧ sc'.length = min 4 len ∧ bdL N sc' (tn ++ ((List.range' (j1 + k) (r + 1)).take (4 - k)).map (tokw S)) ∧ ga τ' 738 f = ((min 4 len : Nat) : Int) ∧ (∀ i w : Nat, sc'[i]? = some w → ga τ' 742 (4 * f + i) = (w : Int)) ∧ (∀ i, i ≠ f → ga τ' 738 i = ga τ 738 i) ∧ ∀ i, (i < 4 * f ∨ 4 * f + 4 ≤ i) → ga τ' 742 i = ga τ 742 i := by
        intro υ Uu Ru bu st
        have C2 := pushF_sc (f := f) (w := w) Uu.2.2.2.1 hk (by omega)
        obtain ⟨U2, bb2⟩ := KU_re Uu (pushF_fr (f := f) (k := k) (w := (w : Int))) (by decide) C2
        have F2 : fr [452, 456, 784] [738, 742, 778] τ (pushF υ f k (w : Int)) := fr_trans (fr_wide Ru (by decide) (by simp)) (fr_wide pushF_fr (by decide) (fun _ h => h))
        obtain ⟨τ', sc', z1, z2, z3, z4, z5, z6, z7, z8, z9, z10⟩ := t_nmF hN hS hf hd hl tk r (k + 1) (sc ++ [w]) (tn ++ [tokw S (j1 + k)]) (pushF υ f k (w : Int)) (by omega) (by omega) (by rw [F2.2 594 (by decide), F2.2 598 (by decide)]; exact e59) U2 (by rw [List.length_append, hk]; rfl) (bdL_more bd w2) pushF_738.1 (fun i w' e => by
          rcases snoc_get e with x | ⟨x, y⟩
          · have := (List.getElem?_eq_some_iff.mp x).1
            rw [pushF_742.2 _ (by omega), Ru.2 742 (by simp)]
            exact e742 i w' x
          · rw [x, hk, y]; exact pushF_742.1)
        refine ⟨τ', sc', fun g => by rw [om_loop_in st]; exact z1 g, z2, fr_trans F2 z3, ?_, z5, ?_, z7, z8, fun i hi => ?_, fun i hi => ?_⟩
        · rw [z4, bb2, bu, rg, ← mnl_app]
          show _ = mnl (bp τ) (if k < 4 then _ else _)
          rw [if_pos h4]
        · rw [rg, show 4 - k = (4 - (k + 1)) + 1 by omega, List.take_succ_cons, List.map_cons, ← List.singleton_append, ← List.append_assoc]
          exact z6
        · rw [z9 i hi, pushF_738.2 i hi, Ru.2 738 (by simp)]
        · rw [z10 i hi, pushF_742.2 i (by omega), Ru.2 742 (by simp)]
      by_cases c : w ∈ sc
      · have i1 : (if w ∈ sc then ((sc.idxOf w : Nat) : Int) else -1) ≠ -1 := by rw [if_pos c]; omega
        refine go τb b2 b3 (by rw [if_pos (sA.mp c)]; exact b4) ?_
        rw [un, if_pos i1]
        unfold T_fillFunction_60
        rw [b1, Option.bind_some]
        exact s67 τb b2 b3 h4
      · have i1 : ¬ (if w ∈ sc then ((sc.idxOf w : Nat) : Int) else -1) ≠ -1 := by rw [if_neg c]; decide
        refine go τ U (fr_refl _ _ _) (by rw [if_neg (fun z => c (sA.mpr z))]; rfl) ?_
        rw [un, if_neg i1, if_pos (by omega)]
        exact s67 τ U (fr_refl _ _ _) h4
    · -- the fifth
      have st : T_fillFunction_21s (f : Int) (d : Int) ((k : Int), τ) = some (.inr (.inl τb)) := by
        have s60 : T_fillFunction_60 (f : Int) (d : Int) (k : Int) ((b + (j1 + k) : Nat) : Int) τ = some (.inr (.inl τb)) := by
          unfold T_fillFunction_60
          rw [b1, Option.bind_some]
          unfold T_fillFunction_67
          rw [if_neg (by omega)]
        have i4 : ¬ ((k : Int) ≠ 4) := by omega
        rw [un, s60, if_neg i4]
        exact ite_self _
      refine ⟨τb, sc, fun g => by rw [om_loop_out st, Option.bind_some]; rfl, b2, fr_wide b3 (by decide) (by simp), ?_, by omega, by rw [show 4 - k = 0 by omega, List.take_zero, List.map_nil, List.append_nil]; exact bd, by rw [b3.2 738 (by simp), e738]; congr 1; omega, fun i w' e => by rw [b3.2 742 (by simp)]; exact e742 i w' e, fun i _ => b3.2 738 (by simp) i, fun i _ => b3.2 742 (by simp) i⟩
      rw [b4, rg]
      show _ = mnl (bp τ) (if k < 4 then _ else _)
      rw [if_neg h4]
end LNM
