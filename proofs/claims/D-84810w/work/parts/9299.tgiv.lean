set_option maxRecDepth 100000
/-! RESOLVE: the head of a function's given, in the twin -/
section LTG
variable {S : List Int} {b m : Nat} {N : List (List Int)} {K : KT} {sc : List Nat} {Ls : List (List Int)} {σ τ υ : tS} {n j w f g o d : Nat} {L : List Int}
/-- tables are written -/
theorem KU_tab {as : List Nat} (H : KU S b m N K sc σ n) (R : fr [] as σ τ) (d : ∀ f ∈ as, f ∉ [470, 474, 478, 482, 630, 634, 778] ++ TYA) : KU S b m N K sc τ n ∧ bp τ = bp σ := by
  have g : ∀ f, gs τ f = gs σ f := fun f => R.1 f (by simp)
  have eb := bp_eq (g 452) (g 456)
  exact ⟨KU_step H R (by simp) (fun f hf z => d f z (List.mem_append_left _ hf)) (TyK_same (g 532) (fun f hf i => R.2 f (fun z => d f z (List.mem_append_right _ hf)) i) H.1) (by rw [g 452]; exact H.2.2.2.2.1) (Int.le_of_eq eb), eb⟩
theorem KU_break (H : KU S b m N K sc σ n) (hj : j ≤ m) (hS : S.length ≤ 2000) : ∃ τ, T_breaks 2 ((b + j : Nat) : Int) σ = some τ ∧ KU S b m N K sc τ n ∧ fr [452, 456] [] σ τ ∧ bp τ = mnl (bp σ) [(tokq S j : Int)] := by
  obtain ⟨a2, b1, c2, e2, g1, g2⟩ := id H
  obtain ⟨τ, e1, e3, e4, e5⟩ := t_breaks b1 hj hS (w := 2) (by decide)
  exact ⟨τ, e1, KU_step (B := []) H e3 (by decide) (fun f _ => by simp) (TyK_same (e3.1 532 (by decide)) (fun f _ i => e3.2 f (by simp) i) a2) (.inr e4) (by omega), e3, e5⟩
/-- what a great is -/
theorem GL_gv (H : GL σ N K) (e : N[w]? = some L) (eq : Bool) : w < 2100 ∧ (ga σ 630 w = (if eq then 3 else 2) ↔ gvF K eq L ≠ none) ∧ ∀ c, gvF K eq L = some c → ga σ 634 w = (c : Int) ∧ c < 8 := by
  obtain ⟨h1, h2⟩ := H w L e
  refine ⟨h1, ?_⟩
  unfold gvF
  cases eq with
  | false =>
    rcases h2 with ⟨x1, x2, x3, x4⟩ | ⟨c, x1, x2, x3, x4, x5, x6⟩ | ⟨c, x1, x2, x3, x4, x5, x6⟩ | ⟨c, x1, x2, x3, x4, x5, x6⟩
    · refine ⟨⟨fun z => ?_, fun z => ?_⟩, fun c z => ?_⟩
      · rw [x1] at z; exact absurd z (by decide)
      · exact absurd x3 z
      · have z : FI Prod.fst L K = some c := z; rw [x3] at z; cases z
    · refine ⟨⟨fun z => ?_, fun z => ?_⟩, fun c z => ?_⟩
      · rw [x1] at z; exact absurd z (by decide)
      · exact absurd x5 z
      · have z : FI Prod.fst L K = some c := z; rw [x5] at z; cases z
    · refine ⟨⟨fun _ z => ?_, fun _ => x1⟩, fun c' z => ?_⟩
      · have z : FI Prod.fst L K = none := z; rw [x5] at z; cases z
      · have z : FI Prod.fst L K = some c' := z; rw [x5] at z; rw [← Option.some.inj z]; exact ⟨x2, x3⟩
    · refine ⟨⟨fun z => ?_, fun z => ?_⟩, fun c z => ?_⟩
      · rw [x1] at z; exact absurd z (by decide)
      · exact absurd x5 z
      · have z : FI Prod.fst L K = some c := z; rw [x5] at z; cases z
  | true =>
    rcases h2 with ⟨x1, x2, x3, x4⟩ | ⟨c, x1, x2, x3, x4, x5, x6⟩ | ⟨c, x1, x2, x3, x4, x5, x6⟩ | ⟨c, x1, x2, x3, x4, x5, x6⟩
    · refine ⟨⟨fun z => ?_, fun z => ?_⟩, fun c z => ?_⟩
      · rw [x1] at z; exact absurd z (by decide)
      · exact absurd x4 z
      · have z : FI Prod.snd L K = some c := z; rw [x4] at z; cases z
    · refine ⟨⟨fun z => ?_, fun z => ?_⟩, fun c z => ?_⟩
      · rw [x1] at z; exact absurd z (by decide)
      · exact absurd x6 z
      · have z : FI Prod.snd L K = some c := z; rw [x6] at z; cases z
    · refine ⟨⟨fun z => ?_, fun z => ?_⟩, fun c z => ?_⟩
      · rw [x1] at z; exact absurd z (by decide)
      · exact absurd x6 z
      · have z : FI Prod.snd L K = some c := z; rw [x6] at z; cases z
    · refine ⟨⟨fun _ z => ?_, fun _ => x1⟩, fun c' z => ?_⟩
      · have z : FI Prod.snd L K = none := z; rw [x6] at z; cases z
      · have z : FI Prod.snd L K = some c' := z; rw [x6] at z; rw [← Option.some.inj z]; exact ⟨x2, x3⟩
/-- breaks at a given, in the twin -/
def gvT (S : List Int) (K : KT) (P : Prop) [Decidable P] (eq : Bool) (j : Nat) : List Int := (if gvF K eq (tokw S j) = none then [(tokq S j : Int)] else []) ++ (if P then [] else [(tokq S (j + 1) : Int)])
theorem gvT_eq {P : Prop} [Decidable P] {eq : Bool} (h : P ↔ tokw S (j + 1) ∈ Ls) : gvT S K P eq j = gvB S K Ls eq j := by
  unfold gvT gvB
  by_cases c : P
  · rw [if_pos c, if_pos (h.mp c)]
  · rw [if_neg c, if_neg (fun z => c (h.mpr z))]
abbrev bI (eq : Bool) : Int := if eq then 1 else 0
set_option maxHeartbeats 1000000 in
/-- a function's given, up to its type -/
theorem t_gfun {eq : Bool} (H : KU S b m N K sc τ n) (hS : S.length ≤ 2000) (hf : f < 24) (hg : g < 4) (ho : o < 8400) (e746 : ga τ 746 f = (g : Int)) (e542 : ga τ 542 o = ((b + j : Nat) : Int)) (tj : tokk S j = 3) (e546 : ga τ 546 o = ((b + (j + 1) : Nat) : Int)) (tj1 : tokk S (j + 1) = 2) (he : eq = true ↔ ga τ 550 o ≠ -1) :
    ∃ (υ : tS) (wn : Nat), T_fillFunction_146s (f : Int) (d : Int) ((o : Int), τ) = T_fillFunction_326 (f : Int) (d : Int) (o : Int) ((4 * f + g : Nat) : Int) (bI eq) υ ∧ N[wn]? = some (tokw S (j + 1)) ∧ KU S b m N K sc υ n ∧ fr [452, 456] [746, 750, 754] τ υ ∧ bp υ = mnl (bp τ) (gvT S K (wn ∈ sc) eq j) ∧ (ga υ 746 f = ((g + 1 : Nat) : Int) ∧ ∀ i, i ≠ f → ga υ 746 i = ga τ 746 i) ∧ (∀ i, i ≠ 4 * f + g → ga υ 750 i = ga τ 750 i ∧ ga υ 754 i = ga τ 754 i) ∧ (∀ c, gvF K eq (tokw S j) = some c → ga υ 750 (4 * f + g) = (c : Int) + (if eq then 100 else 0)) ∧ ga υ 754 (4 * f + g) = if wn ∈ sc then ((sc.idxOf wn : Nat) : Int) else -1 := by
  have jm := TT_lt H.2.1 (j := j) (by rw [tj]; decide)
  have jm1 := TT_lt H.2.1 (j := j + 1) (by rw [tj1]; decide)
  have w1 : w32 (4 * (f : Int)) = 4 * (f : Int) := w32_s (by omega) (by omega)
  have w2 : w32 (4 * (f : Int) + (g : Int)) = ((4 * f + g : Nat) : Int) := by rw [w32_s (by omega) (by omega)]; omega
  have w3 : w32 ((g : Int) + 1) = ((g + 1 : Nat) : Int) := by rw [w32_s (by omega) (by omega)]; rfl
  have fN : ((f : Int)).toNat = f := by omega
  have oN : ((o : Int)).toNat = o := by omega
  have gN : (((4 * f + g : Nat) : Int)).toNat = 4 * f + g := by omega
  -- the first write
  have R1 : fr [] [746] τ (ua τ 746 f ((g + 1 : Nat) : Int)) := fr_ua (fr_refl _ _ _) (by simp)
  obtain ⟨H1, b1⟩ := KU_tab H R1 (by decide)
  have v746 : ga (ua τ 746 f ((g + 1 : Nat) : Int)) 746 f = ((g + 1 : Nat) : Int) := by rw [ga_ua, if_pos ⟨rfl, rfl⟩]
  have v746' : ∀ i, i ≠ f → ga (ua τ 746 f ((g + 1 : Nat) : Int)) 746 i = ga τ 746 i := fun i hi => by rw [ga_ua, if_neg (fun z => hi z.2)]
  have st : T_fillFunction_146s (f : Int) (d : Int) ((o : Int), τ) = T_fillFunction_212 (f : Int) (d : Int) (o : Int) ((4 * f + g : Nat) : Int) (bI eq) (ua τ 746 f ((g + 1 : Nat) : Int)) := by
    unfold T_fillFunction_146s
    simp only
    rw [if_neg (by omega), if_pos (by omega), fN, e746, if_pos (by omega), if_pos (by omega), oN, w1, w2, w3]
    cases eq with
    | false =>
      have : ga τ 550 o = -1 := Decidable.byContradiction (fun z => by have := he.mpr z; cases this)
      rw [if_pos this]
      rfl
    | true => rw [if_neg (he.mp rfl)]; rfl
  rw [st]
  clear st
  generalize ua τ 746 f ((g + 1 : Nat) : Int) = τ1 at *
  have n1 : ∀ x i, x ≠ 746 → ga τ1 x i = ga τ x i := fun x i hx => R1.2 x (by simpa using hx) i
  obtain ⟨w, nw1, nw2, _⟩ := t_nameAt H1.2.1 (j := j) (.inr tj)
  obtain ⟨wl, gl1, gl2⟩ := GL_gv H1.2.2.1 nw2 eq
  -- the great
  obtain ⟨τ2, s2, H2, R2, b2⟩ : ∃ τ2, T_fillFunction_212 (f : Int) (d : Int) (o : Int) ((4 * f + g : Nat) : Int) (bI eq) τ1 = T_fillFunction_257 (f : Int) (d : Int) (o : Int) ((4 * f + g : Nat) : Int) (bI eq) (w : Int) τ2 ∧ KU S b m N K sc τ2 n ∧ fr [452, 456] [] τ1 τ2 ∧ bp τ2 = mnl (bp τ1) (if gvF K eq (tokw S j) = none then [(tokq S j : Int)] else []) := by
    have u : T_fillFunction_212 (f : Int) (d : Int) (o : Int) ((4 * f + g : Nat) : Int) (bI eq) τ1 = T_fillFunction_243 (f : Int) (d : Int) (o : Int) ((4 * f + g : Nat) : Int) (bI eq) (w : Int) (ga τ1 630 w) (if eq then 3 else 2) τ1 := by
      unfold T_fillFunction_212
      rw [if_pos (by omega), oN, n1 542 o (by decide), e542, nw1, Option.bind_some, if_pos (by omega), show ((w : Int)).toNat = w by omega]
      cases eq with
      | false => rw [if_pos (show bI false = 0 from rfl)]; rfl
      | true => rw [if_neg (show ¬ bI true = 0 by decide)]; rfl
    rw [u]
    unfold T_fillFunction_243
    by_cases c : gvF K eq (tokw S j) = none
    · rw [if_neg (fun z => (gl1.mp z) c), if_pos (by omega), oN, n1 542 o (by decide), e542]
      obtain ⟨τ2, e1, e2, e3, e4⟩ := KU_break H1 (j := j) (by omega) hS
      rw [e1, Option.bind_some, if_pos c]
      exact ⟨τ2, rfl, e2, e3, e4⟩
    · rw [if_pos (gl1.mpr c), if_neg c]
      exact ⟨τ1, rfl, H1, fr_refl _ _ _, rfl⟩
  rw [s2]
  clear s2
  have n2 : ∀ x i, x ≠ 746 → ga τ2 x i = ga τ x i := fun x i hx => (R2.2 x (by simp) i).trans (n1 x i hx)
  have w634 : ga τ2 634 w = ga τ1 634 w := R2.2 634 (by simp) w
  -- which, and the name
  have s3 : T_fillFunction_257 (f : Int) (d : Int) (o : Int) ((4 * f + g : Nat) : Int) (bI eq) (w : Int) τ2 = T_fillFunction_281 (f : Int) (d : Int) (o : Int) ((4 * f + g : Nat) : Int) (bI eq) ((4 * f + g : Nat) : Int) (ga τ2 634 w) (if eq then 100 else 0) τ2 := by
    unfold T_fillFunction_257
    rw [if_pos (by omega), show ((w : Int)).toNat = w by omega]
    cases eq with
    | false => rw [if_pos (show bI false = 0 from rfl)]; rfl
    | true => rw [if_neg (show ¬ bI true = 0 by decide)]; rfl
  rw [s3]
  clear s3
  have R3 : fr [] [750] τ2 (ua τ2 750 (4 * f + g) (w32 (ga τ2 634 w + (if eq then 100 else 0)))) := fr_ua (fr_refl _ _ _) (by simp)
  obtain ⟨H3, b3⟩ := KU_tab H2 R3 (by decide)
  obtain ⟨wn, nn1, nn2, _⟩ := t_nameAt H3.2.1 (j := j + 1) (.inl tj1)
  have isc := t_inScope H3.2.2.2.1 wn
  have v750 : ga (ua τ2 750 (4 * f + g) (w32 (ga τ2 634 w + (if eq then 100 else 0)))) 750 (4 * f + g) = w32 (ga τ2 634 w + (if eq then 100 else 0)) := by rw [ga_ua, if_pos ⟨rfl, rfl⟩]
  have v750' : ∀ i, i ≠ 4 * f + g → ga (ua τ2 750 (4 * f + g) (w32 (ga τ2 634 w + (if eq then 100 else 0)))) 750 i = ga τ2 750 i := fun i hi => by rw [ga_ua, if_neg (fun z => hi z.2)]
  have s4 : T_fillFunction_281 (f : Int) (d : Int) (o : Int) ((4 * f + g : Nat) : Int) (bI eq) ((4 * f + g : Nat) : Int) (ga τ2 634 w) (if eq then 100 else 0) τ2 = T_fillFunction_300 (f : Int) (d : Int) (o : Int) ((4 * f + g : Nat) : Int) (bI eq) ((4 * f + g : Nat) : Int) (wn : Int) (ua τ2 750 (4 * f + g) (w32 (ga τ2 634 w + (if eq then 100 else 0)))) := by
    unfold T_fillFunction_281
    rw [if_pos (by omega), oN, gN, n2 546 o (by decide), e546, nn1, Option.bind_some]
  rw [s4]
  clear s4
  generalize ua τ2 750 (4 * f + g) (w32 (ga τ2 634 w + (if eq then 100 else 0))) = τ3 at *
  have R4 : fr [] [754] τ3 (ua τ3 754 (4 * f + g) (if wn ∈ sc then ((sc.idxOf wn : Nat) : Int) else -1)) := fr_ua (fr_refl _ _ _) (by simp)
  obtain ⟨H4, b4⟩ := KU_tab H3 R4 (by decide)
  have v754 : ga (ua τ3 754 (4 * f + g) (if wn ∈ sc then ((sc.idxOf wn : Nat) : Int) else -1)) 754 (4 * f + g) = if wn ∈ sc then ((sc.idxOf wn : Nat) : Int) else -1 := by rw [ga_ua, if_pos ⟨rfl, rfl⟩]
  have v754' : ∀ i, i ≠ 4 * f + g → ga (ua τ3 754 (4 * f + g) (if wn ∈ sc then ((sc.idxOf wn : Nat) : Int) else -1)) 754 i = ga τ3 754 i := fun i hi => by rw [ga_ua, if_neg (fun z => hi z.2)]
  have s5 : T_fillFunction_300 (f : Int) (d : Int) (o : Int) ((4 * f + g : Nat) : Int) (bI eq) ((4 * f + g : Nat) : Int) (wn : Int) τ3 = if (if wn ∈ sc then ((sc.idxOf wn : Nat) : Int) else -1) ≠ -1 then T_fillFunction_326 (f : Int) (d : Int) (o : Int) ((4 * f + g : Nat) : Int) (bI eq) (ua τ3 754 (4 * f + g) (if wn ∈ sc then ((sc.idxOf wn : Nat) : Int) else -1)) else T_fillFunction_315 (f : Int) (d : Int) (o : Int) ((4 * f + g : Nat) : Int) (bI eq) (ua τ3 754 (4 * f + g) (if wn ∈ sc then ((sc.idxOf wn : Nat) : Int) else -1)) := by
    unfold T_fillFunction_300
    rw [isc, Option.bind_some, if_pos (by omega), gN, v754]
  rw [s5]
  clear s5
  generalize ua τ3 754 (4 * f + g) (if wn ∈ sc then ((sc.idxOf wn : Nat) : Int) else -1) = τ4 at *
  have n4 : ∀ x i, x ∉ [746, 750, 754] → ga τ4 x i = ga τ x i := fun x i hx => by
    have hx' : x ≠ 746 ∧ x ≠ 750 ∧ x ≠ 754 := by simpa using hx
    rw [R4.2 x (by simpa using hx'.2.2), R3.2 x (by simpa using hx'.2.1), n2 x i hx'.1]
  have F4 : fr [452, 456] [746, 750, 754] τ τ4 := fr_trans (fr_wide R1 (by simp) (by simp)) (fr_trans (fr_wide R2 (fun _ h => h) (by simp)) (fr_trans (fr_wide R3 (by simp) (by simp)) (fr_wide R4 (by simp) (by simp))))
  -- put together
  have fin : ∀ υ, KU S b m N K sc υ n → fr [452, 456] [] τ4 υ → bp υ = mnl (bp τ4) (if wn ∈ sc then [] else [(tokq S (j + 1) : Int)]) → N[wn]? = some (tokw S (j + 1)) ∧ KU S b m N K sc υ n ∧ fr [452, 456] [746, 750, 754] τ υ ∧ bp υ = mnl (bp τ) (gvT S K (wn ∈ sc) eq j) ∧ (ga υ 746 f = ((g + 1 : Nat) : Int) ∧ ∀ i, i ≠ f → ga υ 746 i = ga τ 746 i) ∧ (∀ i, i ≠ 4 * f + g → ga υ 750 i = ga τ 750 i ∧ ga υ 754 i = ga τ 754 i) ∧ (∀ c, gvF K eq (tokw S j) = some c → ga υ 750 (4 * f + g) = (c : Int) + (if eq then 100 else 0)) ∧ ga υ 754 (4 * f + g) = if wn ∈ sc then ((sc.idxOf wn : Nat) : Int) else -1 := by
    intro υ K5 R5 b5
    have g5 : ∀ x i, ga υ x i = ga τ4 x i := fun x i => R5.2 x (by simp) i
    refine ⟨nn2, K5, fr_trans F4 (fr_wide R5 (fun _ h => h) (by simp)), ?_, ⟨?_, fun i hi => ?_⟩, fun i hi => ⟨?_, ?_⟩, fun c hc => ?_, ?_⟩
    · rw [b5, b4, b3, b2, b1, ← mnl_app]; rfl
    · rw [g5, R4.2 746 (by decide), R3.2 746 (by decide), R2.2 746 (by decide), v746]
    · rw [g5, R4.2 746 (by decide), R3.2 746 (by decide), R2.2 746 (by decide), v746' i hi]
    · rw [g5, R4.2 750 (by decide), v750' i hi, n2 750 i (by decide)]
    · rw [g5, v754' i hi, R3.2 754 (by decide), n2 754 i (by decide)]
    · rw [g5, R4.2 750 (by decide), v750, w634, (gl2 c hc).1]
      have := (gl2 c hc).2
      cases eq with
      | false => show w32 ((c : Int) + 0) = (c : Int) + 0; rw [w32_s (by omega) (by omega)]
      | true => show w32 ((c : Int) + 100) = (c : Int) + 100; rw [w32_s (by omega) (by omega)]
    · rw [g5]; exact v754
  by_cases c : wn ∈ sc
  · have i1 : (if wn ∈ sc then ((sc.idxOf wn : Nat) : Int) else -1) ≠ -1 := by rw [if_pos c]; omega
    rw [if_pos i1]
    exact ⟨τ4, wn, rfl, fin τ4 H4 (fr_refl _ _ _) (by rw [if_pos c]; rfl)⟩
  · have i1 : ¬ (if wn ∈ sc then ((sc.idxOf wn : Nat) : Int) else -1) ≠ -1 := by rw [if_neg c]; decide
    rw [if_neg i1]
    obtain ⟨τ5, e1, e2, e3, e4⟩ := KU_break H4 (j := j + 1) (by omega) hS
    refine ⟨τ5, wn, ?_, fin τ5 e2 e3 (by rw [if_neg c]; exact e4)⟩
    unfold T_fillFunction_315
    rw [if_pos (by omega), oN, n4 546 o (by decide), e546, e1, Option.bind_some]
end LTG
