set_option maxRecDepth 100000
/-! RESOLVE: the head of an inst and its conditions, in the twin -/
section LTI
variable {S : List Int} {b m : Nat} {N : List (List Int)} {K : KT} {F : FT} {Ms : List FT} {sc : List Nat} {Ls : List (List Int)} {σ τ υ : tS} {n j w f g o d : Nat} {L : List Int}
theorem TU_tab {as : List Nat} (H : TU S b m N K F Ms σ n) (R : fr [] as σ τ) (d : ∀ f ∈ as, f ∉ [470, 474, 478, 482, 630, 634, 638] ++ TYA) : TU S b m N K F Ms τ n ∧ bp τ = bp σ := by
  have g : ∀ f, gs τ f = gs σ f := fun f => R.1 f (by simp)
  have eb := bp_eq (g 452) (g 456)
  obtain ⟨⟨h1, h2, h3, h4, h5⟩, h6, h7⟩ := H
  refine ⟨⟨⟨TyK_same (g 532) (fun f hf i => R.2 f (fun z => d f z (List.mem_append_right _ hf)) i) h1, TT_fr2 R (fun f hf z => d f z (List.mem_append_left _ (by simp only [List.mem_cons, List.not_mem_nil, or_false] at hf ⊢; omega))) h2, fun w L hw => ?_, by rw [g 452]; exact h4, by rw [eb]; exact h5⟩, ⟨by rw [g]; exact h6.1, by rw [g]; exact h6.2⟩, fun w L hw => ?_⟩, eb⟩
  · rw [R.2 630 (fun z => d 630 z (by simp)), R.2 634 (fun z => d 634 z (by simp))]
    exact h3 w L hw
  · rw [R.2 638 (fun z => d 638 z (by simp))]
    exact h7 w L hw
theorem TU_break (H : TU S b m N K F Ms σ n) (hj : j ≤ m) (hS : S.length ≤ 2000) : ∃ τ, T_breaks 2 ((b + j : Nat) : Int) σ = some τ ∧ TU S b m N K F Ms τ n ∧ fr [452, 456] [] σ τ ∧ bp τ = mnl (bp σ) [(tokq S j : Int)] := by
  obtain ⟨⟨h1, h2, h3, h4, h5⟩, h6, h7⟩ := H
  obtain ⟨τ, e1, e3, e4, e5⟩ := t_breaks h2 hj hS (w := 2) (by decide)
  refine ⟨τ, e1, ⟨⟨TyK_same (e3.1 532 (by decide)) (fun f _ i => e3.2 f (by simp) i) h1, TT_fr2 e3 (by simp) h2, fun w L hw => ?_, .inr e4, by omega⟩, ⟨by rw [e3.1 788 (by decide)]; exact h6.1, by rw [e3.1 856 (by decide)]; exact h6.2⟩, fun w L hw => ?_⟩, e3, e5⟩
  · rw [e3.2 630 (by simp), e3.2 634 (by simp)]; exact h3 w L hw
  · rw [e3.2 638 (by simp)]; exact h7 w L hw
theorem GL_cn (H : GL σ N K) (e : N[w]? = some L) : w < 2100 ∧ (ga σ 630 w = 1 ↔ cnI L ≠ none) ∧ ∀ c, cnI L = some c → ga σ 634 w = (c : Int) ∧ c ≤ 3 := by
  obtain ⟨h1, h2⟩ := H w L e
  refine ⟨h1, ?_⟩
  rcases h2 with ⟨x1, x2, x3, x4⟩ | ⟨c, x1, x2, x3, x4, x5, x6⟩ | ⟨c, x1, x2, x3, x4, x5, x6⟩ | ⟨c, x1, x2, x3, x4, x5, x6⟩
  · exact ⟨⟨fun z => by rw [x1] at z; exact absurd z (by decide), fun z => absurd x2 z⟩, fun c z => by rw [x2] at z; cases z⟩
  · exact ⟨⟨fun _ => by rw [x4]; simp, fun _ => x1⟩, fun c' z => by rw [x4] at z; rw [← Option.some.inj z]; exact ⟨x2, x3⟩⟩
  · exact ⟨⟨fun z => by rw [x1] at z; exact absurd z (by decide), fun z => absurd x4 z⟩, fun c z => by rw [x4] at z; cases z⟩
  · exact ⟨⟨fun z => by rw [x1] at z; exact absurd z (by decide), fun z => absurd x4 z⟩, fun c z => by rw [x4] at z; cases z⟩
set_option maxHeartbeats 1000000 in
/-- the class and the constructor -/
theorem t_ihead {jc jn len : Nat} (H : TU S b m N K F Ms τ n) (hS : S.length ≤ 2000) (hf : f < 20) (hd : d < 700) (e690 : ga τ 690 f = (d : Int)) (e578 : ga τ 578 d = ((b + jc : Nat) : Int)) (tc : tokk S jc = 3) (e582 : ga τ 582 d = ((b + jn : Nat) : Int)) (tn : tokk S jn = 3) (e590 : ga τ 590 d = (len : Int)) :
    ∃ υ, T_fillInstance (f : Int) τ = T_fillInstance_113 (f : Int) (d : Int) υ ∧ TU S b m N K F Ms υ n ∧ fr [452, 456] [694, 698] τ υ ∧ bp υ = mnl (bp τ) (icB S K jc ++ inB S jn len) ∧ ((∀ c, FI Prod.fst (tokw S jc) K = some c → ga υ 694 f = (c : Int)) ∧ ∀ i, i ≠ f → ga υ 694 i = ga τ 694 i) ∧ ((∀ c, cnI (tokw S jn) = some c → ga υ 698 f = (c : Int)) ∧ ∀ i, i ≠ f → ga υ 698 i = ga τ 698 i) := by
  have fN : ((f : Int)).toNat = f := by omega
  have dN : ((d : Int)).toNat = d := by omega
  obtain ⟨w, w1, w2, w3⟩ := t_nameAt H.1.2.1 (j := jc) (.inr tc)
  obtain ⟨wl, gl1, gl2⟩ := GL_gv H.1.2.2.1 w2 false
  have R1 : fr [] [694] τ (ua τ 694 f (ga τ 634 w)) := fr_ua (fr_refl _ _ _) (by simp)
  obtain ⟨H1, b1⟩ := TU_tab H R1 (by decide)
  have v94 : ga (ua τ 694 f (ga τ 634 w)) 694 f = ga τ 634 w := by rw [ga_ua, if_pos ⟨rfl, rfl⟩]
  have v94' : ∀ i, i ≠ f → ga (ua τ 694 f (ga τ 634 w)) 694 i = ga τ 694 i := fun i hi => by rw [ga_ua, if_neg (fun z => hi z.2)]
  -- the class
  obtain ⟨τ2, s2, H2, R2, b2⟩ : ∃ τ2, T_fillInstance (f : Int) τ = T_fillInstance_51 (f : Int) (d : Int) τ2 ∧ TU S b m N K F Ms τ2 n ∧ fr [452, 456] [] (ua τ 694 f (ga τ 634 w)) τ2 ∧ bp τ2 = mnl (bp τ) (icB S K jc) := by
    have u : T_fillInstance (f : Int) τ = if ga τ 630 w = 2 then T_fillInstance_51 (f : Int) (d : Int) (ua τ 694 f (ga τ 634 w)) else T_fillInstance_40 (f : Int) (d : Int) (ua τ 694 f (ga τ 634 w)) := by
      unfold T_fillInstance
      rw [fN, e690, if_pos (by omega), dN, e578, w1, Option.bind_some, if_pos (by omega), show ((w : Int)).toNat = w by omega]
    rw [u]
    unfold icB
    by_cases c : FI Prod.fst (tokw S jc) K = none
    · have i0 : ¬ ga τ 630 w = 2 := fun z => (gl1.mp z) c
      rw [if_neg i0, if_pos c]
      obtain ⟨τ2, e1, e2, e3, e4⟩ := TU_break H1 (j := jc) (by omega) hS
      refine ⟨τ2, ?_, e2, e3, by rw [e4, b1]⟩
      unfold T_fillInstance_40
      rw [if_pos (by omega), dN, R1.2 578 (by decide), e578, e1, Option.bind_some]
    · have i0 : ga τ 630 w = 2 := gl1.mpr c
      rw [if_pos i0, if_neg c]
      exact ⟨_, rfl, H1, fr_refl _ _ _, b1⟩
  rw [s2]
  clear s2
  generalize ua τ 694 f (ga τ 634 w) = τ1 at *
  have n2 : ∀ x i, x ≠ 694 → ga τ2 x i = ga τ x i := fun x i hx => (R2.2 x (by simp) i).trans (R1.2 x (by simpa using hx) i)
  obtain ⟨w', w1', w2', w3'⟩ := t_nameAt H2.1.2.1 (j := jn) (.inr tn)
  obtain ⟨wl', gc1, gc2⟩ := GL_cn H2.1.2.2.1 w2'
  have R3 : fr [] [698] τ2 (ua τ2 698 f (ga τ2 634 w')) := fr_ua (fr_refl _ _ _) (by simp)
  obtain ⟨H3, b3⟩ := TU_tab H2 R3 (by decide)
  have v98 : ga (ua τ2 698 f (ga τ2 634 w')) 698 f = ga τ2 634 w' := by rw [ga_ua, if_pos ⟨rfl, rfl⟩]
  have v98' : ∀ i, i ≠ f → ga (ua τ2 698 f (ga τ2 634 w')) 698 i = ga τ2 698 i := fun i hi => by rw [ga_ua, if_neg (fun z => hi z.2)]
  have u51 : T_fillInstance_51 (f : Int) (d : Int) τ2 = if ga τ2 630 w' ≠ 1 then T_fillInstance_102 (f : Int) (d : Int) (ua τ2 698 f (ga τ2 634 w')) else T_fillInstance_84 (f : Int) (d : Int) (w' : Int) (ua τ2 698 f (ga τ2 634 w')) := by
    unfold T_fillInstance_51
    rw [if_pos (by omega), dN, n2 582 d (by decide), e582, w1', Option.bind_some, if_pos (by omega), show ((w' : Int)).toNat = w' by omega, fN]
  rw [u51]
  clear u51
  have n3 : ∀ x i, x ≠ 694 → x ≠ 698 → ga (ua τ2 698 f (ga τ2 634 w')) x i = ga τ x i := fun x i hx hy => (R3.2 x (by simpa using hy) i).trans (n2 x i hx)
  have e634 : ga (ua τ2 698 f (ga τ2 634 w')) 634 w' = ga τ2 634 w' := R3.2 634 (by decide) w'
  generalize ua τ2 698 f (ga τ2 634 w') = τ3 at *
  have F3 : fr [452, 456] [694, 698] τ τ3 := fr_trans (fr_wide R1 (by simp) (by simp)) (fr_trans (fr_wide R2 (fun _ h => h) (by simp)) (fr_wide R3 (by simp) (by simp)))
  have fin : ∀ υ, TU S b m N K F Ms υ n → fr [452, 456] [] τ3 υ → bp υ = mnl (bp τ3) (inB S jn len) → TU S b m N K F Ms υ n ∧ fr [452, 456] [694, 698] τ υ ∧ bp υ = mnl (bp τ) (icB S K jc ++ inB S jn len) ∧ ((∀ c, FI Prod.fst (tokw S jc) K = some c → ga υ 694 f = (c : Int)) ∧ ∀ i, i ≠ f → ga υ 694 i = ga τ 694 i) ∧ ((∀ c, cnI (tokw S jn) = some c → ga υ 698 f = (c : Int)) ∧ ∀ i, i ≠ f → ga υ 698 i = ga τ 698 i) := by
    intro υ K5 R5 b5
    have g5 : ∀ x i, ga υ x i = ga τ3 x i := fun x i => R5.2 x (by simp) i
    refine ⟨K5, fr_trans F3 (fr_wide R5 (fun _ h => h) (by simp)), by rw [b5, b3, b2, ← mnl_app], ⟨fun c hc => ?_, fun i hi => ?_⟩, ⟨fun c hc => ?_, fun i hi => ?_⟩⟩
    · rw [g5, R3.2 694 (by decide), R2.2 694 (by simp), v94]; exact (gl2 c hc).1
    · rw [g5, R3.2 694 (by decide), R2.2 694 (by simp), v94' i hi]
    · rw [g5, v98]; exact (gc2 c hc).1
    · rw [g5, v98' i hi, n2 698 i (by decide)]
  have s102 : ∀ (e : inB S jn len = [(tokq S jn : Int)]), ∃ υ, T_fillInstance_102 (f : Int) (d : Int) τ3 = T_fillInstance_113 (f : Int) (d : Int) υ ∧ TU S b m N K F Ms υ n ∧ fr [452, 456] [694, 698] τ υ ∧ bp υ = mnl (bp τ) (icB S K jc ++ inB S jn len) ∧ ((∀ c, FI Prod.fst (tokw S jc) K = some c → ga υ 694 f = (c : Int)) ∧ ∀ i, i ≠ f → ga υ 694 i = ga τ 694 i) ∧ ((∀ c, cnI (tokw S jn) = some c → ga υ 698 f = (c : Int)) ∧ ∀ i, i ≠ f → ga υ 698 i = ga τ 698 i) := fun e => by
    obtain ⟨τ5, e1, e2, e3, e4⟩ := TU_break H3 (j := jn) (by omega) hS
    refine ⟨τ5, ?_, fin τ5 e2 e3 (by rw [e]; exact e4)⟩
    unfold T_fillInstance_102
    rw [if_pos (by omega), dN, n3 582 d (by decide) (by decide), e582, e1, Option.bind_some]
  cases ec : cnI (tokw S jn) with
  | none =>
    have i0 : ga τ2 630 w' ≠ 1 := fun z => (gc1.mp z) ec
    rw [if_pos i0]
    rw [ec] at s102
    exact s102 (by unfold inB; rw [ec])
  | some c' =>
    have i0 : ¬ ga τ2 630 w' ≠ 1 := fun z => z (gc1.mpr (by rw [ec]; simp))
    obtain ⟨z1, z2⟩ := gc2 c' ec
    rw [if_neg i0]
    rw [ec] at s102 fin
    unfold T_fillInstance_84
    rw [if_pos (by omega), show ((w' : Int)).toNat = w' by omega, e634, z1, t_pN z2, Option.bind_some, if_pos (by omega), dN, n3 590 d (by decide) (by decide), e590]
    by_cases y : pN c' = len
    · rw [if_pos (by omega)]
      exact ⟨τ3, rfl, fin τ3 H3 (fr_refl _ _ _) (by unfold inB; rw [ec]; show _ = mnl _ (if pN c' = len then [] else [(tokq S jn : Int)]); rw [if_pos y]; rfl)⟩
    · rw [if_neg (by omega)]
      exact s102 (by unfold inB; rw [ec]; exact if_neg y)
set_option maxHeartbeats 1000000 in
/-- a condition -/
theorem t_gins (H : KU S b m N K sc τ n) (hS : S.length ≤ 2000) (hf : f < 20) (hg : g < 4) (ho : o < 8400) (e710 : ga τ 710 f = (g : Int)) (e542 : ga τ 542 o = ((b + j : Nat) : Int)) (tj : tokk S j = 3) (e546 : ga τ 546 o = ((b + (j + 1) : Nat) : Int)) (tj1 : tokk S (j + 1) = 2) :
    ∃ (υ : tS) (wn : Nat), T_fillInstance_244s (f : Int) (d : Int) ((o : Int), τ) = some (.inl (ga υ 562 o, υ)) ∧ N[wn]? = some (tokw S (j + 1)) ∧ KU S b m N K sc υ n ∧ fr [452, 456] [710, 714, 718] τ υ ∧ bp υ = mnl (bp τ) (gvT S K (wn ∈ sc) false j) ∧ (ga υ 710 f = ((g + 1 : Nat) : Int) ∧ ∀ i, i ≠ f → ga υ 710 i = ga τ 710 i) ∧ (∀ i, i ≠ 4 * f + g → ga υ 714 i = ga τ 714 i ∧ ga υ 718 i = ga τ 718 i) ∧ (∀ c, gvF K false (tokw S j) = some c → ga υ 714 (4 * f + g) = (c : Int)) ∧ ga υ 718 (4 * f + g) = if wn ∈ sc then ((sc.idxOf wn : Nat) : Int) else -1 := by
  have jm := TT_lt H.2.1 (j := j) (by rw [tj]; decide)
  have jm1 := TT_lt H.2.1 (j := j + 1) (by rw [tj1]; decide)
  have w1 : w32 (4 * (f : Int)) = 4 * (f : Int) := w32_s (by omega) (by omega)
  have w2 : w32 (4 * (f : Int) + (g : Int)) = ((4 * f + g : Nat) : Int) := by rw [w32_s (by omega) (by omega)]; omega
  have w3 : w32 ((g : Int) + 1) = ((g + 1 : Nat) : Int) := by rw [w32_s (by omega) (by omega)]; rfl
  have fN : ((f : Int)).toNat = f := by omega
  have oN : ((o : Int)).toNat = o := by omega
  have gN : (((4 * f + g : Nat) : Int)).toNat = 4 * f + g := by omega
  have R1 : fr [] [710] τ (ua τ 710 f ((g + 1 : Nat) : Int)) := fr_ua (fr_refl _ _ _) (by simp)
  obtain ⟨H1, b1⟩ := KU_tab H R1 (by decide)
  have v746 : ga (ua τ 710 f ((g + 1 : Nat) : Int)) 710 f = ((g + 1 : Nat) : Int) := by rw [ga_ua, if_pos ⟨rfl, rfl⟩]
  have v746' : ∀ i, i ≠ f → ga (ua τ 710 f ((g + 1 : Nat) : Int)) 710 i = ga τ 710 i := fun i hi => by rw [ga_ua, if_neg (fun z => hi z.2)]
  obtain ⟨w, nw1, nw2, _⟩ := t_nameAt H1.2.1 (j := j) (.inr tj)
  have st : T_fillInstance_244s (f : Int) (d : Int) ((o : Int), τ) = T_fillInstance_308 (f : Int) (d : Int) (o : Int) ((4 * f + g : Nat) : Int) (w : Int) (ua τ 710 f ((g + 1 : Nat) : Int)) := by
    unfold T_fillInstance_244s
    simp only
    rw [if_neg (by omega), if_pos (by omega), fN, e710, if_pos (by omega), if_pos (by omega), oN, w1, w2, w3, e542, nw1, Option.bind_some]
  rw [st]
  clear st
  generalize ua τ 710 f ((g + 1 : Nat) : Int) = τ1 at *
  have n1 : ∀ x i, x ≠ 710 → ga τ1 x i = ga τ x i := fun x i hx => R1.2 x (by simpa using hx) i
  obtain ⟨wl, gl1, gl2⟩ := GL_gv H1.2.2.1 nw2 false
  obtain ⟨τ2, s2, H2, R2, b2⟩ : ∃ τ2, T_fillInstance_308 (f : Int) (d : Int) (o : Int) ((4 * f + g : Nat) : Int) (w : Int) τ1 = T_fillInstance_333 (f : Int) (d : Int) (o : Int) ((4 * f + g : Nat) : Int) (w : Int) τ2 ∧ KU S b m N K sc τ2 n ∧ fr [452, 456] [] τ1 τ2 ∧ bp τ2 = mnl (bp τ1) (if gvF K false (tokw S j) = none then [(tokq S j : Int)] else []) := by
    unfold T_fillInstance_308
    rw [if_pos (by omega), show ((w : Int)).toNat = w by omega]
    by_cases c : gvF K false (tokw S j) = none
    · have i0 : ¬ ga τ1 630 w = 2 := fun z => (gl1.mp z) c
      rw [if_neg i0, if_pos (by omega), oN, n1 542 o (by decide), e542]
      obtain ⟨τ2, e1, e2, e3, e4⟩ := KU_break H1 (j := j) (by omega) hS
      rw [e1, Option.bind_some, if_pos c]
      exact ⟨τ2, rfl, e2, e3, e4⟩
    · have i0 : ga τ1 630 w = 2 := gl1.mpr c
      rw [if_pos i0, if_neg c]
      exact ⟨τ1, rfl, H1, fr_refl _ _ _, rfl⟩
  rw [s2]
  clear s2
  have n2 : ∀ x i, x ≠ 710 → ga τ2 x i = ga τ x i := fun x i hx => (R2.2 x (by simp) i).trans (n1 x i hx)
  have w634 : ga τ2 634 w = ga τ1 634 w := R2.2 634 (by simp) w
  have R3 : fr [] [714] τ2 (ua τ2 714 (4 * f + g) (ga τ2 634 w)) := fr_ua (fr_refl _ _ _) (by simp)
  obtain ⟨H3, b3⟩ := KU_tab H2 R3 (by decide)
  obtain ⟨wn, nn1, nn2, _⟩ := t_nameAt H3.2.1 (j := j + 1) (.inl tj1)
  have isc := t_inScope H3.2.2.2.1 wn
  have v750 : ga (ua τ2 714 (4 * f + g) (ga τ2 634 w)) 714 (4 * f + g) = ga τ2 634 w := by rw [ga_ua, if_pos ⟨rfl, rfl⟩]
  have v750' : ∀ i, i ≠ 4 * f + g → ga (ua τ2 714 (4 * f + g) (ga τ2 634 w)) 714 i = ga τ2 714 i := fun i hi => by rw [ga_ua, if_neg (fun z => hi z.2)]
  have s4 : T_fillInstance_333 (f : Int) (d : Int) (o : Int) ((4 * f + g : Nat) : Int) (w : Int) τ2 = T_fillInstance_365 (f : Int) (d : Int) (o : Int) ((4 * f + g : Nat) : Int) ((4 * f + g : Nat) : Int) (wn : Int) (ua τ2 714 (4 * f + g) (ga τ2 634 w)) := by
    unfold T_fillInstance_333
    rw [if_pos (by omega), oN, gN, show ((w : Int)).toNat = w by omega, n2 546 o (by decide), e546, nn1, Option.bind_some]
  rw [s4]
  clear s4
  generalize ua τ2 714 (4 * f + g) (ga τ2 634 w) = τ3 at *
  have R4 : fr [] [718] τ3 (ua τ3 718 (4 * f + g) (if wn ∈ sc then ((sc.idxOf wn : Nat) : Int) else -1)) := fr_ua (fr_refl _ _ _) (by simp)
  obtain ⟨H4, b4⟩ := KU_tab H3 R4 (by decide)
  have v754 : ga (ua τ3 718 (4 * f + g) (if wn ∈ sc then ((sc.idxOf wn : Nat) : Int) else -1)) 718 (4 * f + g) = if wn ∈ sc then ((sc.idxOf wn : Nat) : Int) else -1 := by rw [ga_ua, if_pos ⟨rfl, rfl⟩]
  have v754' : ∀ i, i ≠ 4 * f + g → ga (ua τ3 718 (4 * f + g) (if wn ∈ sc then ((sc.idxOf wn : Nat) : Int) else -1)) 718 i = ga τ3 718 i := fun i hi => by rw [ga_ua, if_neg (fun z => hi z.2)]
  have s5 : T_fillInstance_365 (f : Int) (d : Int) (o : Int) ((4 * f + g : Nat) : Int) ((4 * f + g : Nat) : Int) (wn : Int) τ3 = if (if wn ∈ sc then ((sc.idxOf wn : Nat) : Int) else -1) ≠ -1 then T_fillInstance_392 (f : Int) (d : Int) (o : Int) (ua τ3 718 (4 * f + g) (if wn ∈ sc then ((sc.idxOf wn : Nat) : Int) else -1)) else T_fillInstance_380 (f : Int) (d : Int) (o : Int) (ua τ3 718 (4 * f + g) (if wn ∈ sc then ((sc.idxOf wn : Nat) : Int) else -1)) := by
    unfold T_fillInstance_365
    rw [isc, Option.bind_some, if_pos (by omega), gN, v754]
  rw [s5]
  clear s5
  generalize ua τ3 718 (4 * f + g) (if wn ∈ sc then ((sc.idxOf wn : Nat) : Int) else -1) = τ4 at *
  have n4 : ∀ x i, x ∉ [710, 714, 718] → ga τ4 x i = ga τ x i := fun x i hx => by
    have hx' : x ≠ 710 ∧ x ≠ 714 ∧ x ≠ 718 := by simpa using hx
    rw [R4.2 x (by simpa using hx'.2.2), R3.2 x (by simpa using hx'.2.1), n2 x i hx'.1]
  have F4 : fr [452, 456] [710, 714, 718] τ τ4 := fr_trans (fr_wide R1 (by simp) (by simp)) (fr_trans (fr_wide R2 (fun _ h => h) (by simp)) (fr_trans (fr_wide R3 (by simp) (by simp)) (fr_wide R4 (by simp) (by simp))))
  have fin : ∀ υ, KU S b m N K sc υ n → fr [452, 456] [] τ4 υ → bp υ = mnl (bp τ4) (if wn ∈ sc then [] else [(tokq S (j + 1) : Int)]) → N[wn]? = some (tokw S (j + 1)) ∧ KU S b m N K sc υ n ∧ fr [452, 456] [710, 714, 718] τ υ ∧ bp υ = mnl (bp τ) (gvT S K (wn ∈ sc) false j) ∧ (ga υ 710 f = ((g + 1 : Nat) : Int) ∧ ∀ i, i ≠ f → ga υ 710 i = ga τ 710 i) ∧ (∀ i, i ≠ 4 * f + g → ga υ 714 i = ga τ 714 i ∧ ga υ 718 i = ga τ 718 i) ∧ (∀ c, gvF K false (tokw S j) = some c → ga υ 714 (4 * f + g) = (c : Int)) ∧ ga υ 718 (4 * f + g) = if wn ∈ sc then ((sc.idxOf wn : Nat) : Int) else -1 := by
    intro υ K5 R5 b5
    have g5 : ∀ x i, ga υ x i = ga τ4 x i := fun x i => R5.2 x (by simp) i
    refine ⟨nn2, K5, fr_trans F4 (fr_wide R5 (fun _ h => h) (by simp)), ?_, ⟨?_, fun i hi => ?_⟩, fun i hi => ⟨?_, ?_⟩, fun c hc => ?_, ?_⟩
    · rw [b5, b4, b3, b2, b1, ← mnl_app]; rfl
    · rw [g5, R4.2 710 (by decide), R3.2 710 (by decide), R2.2 710 (by decide), v746]
    · rw [g5, R4.2 710 (by decide), R3.2 710 (by decide), R2.2 710 (by decide), v746' i hi]
    · rw [g5, R4.2 714 (by decide), v750' i hi, n2 714 i (by decide)]
    · rw [g5, v754' i hi, R3.2 718 (by decide), n2 718 i (by decide)]
    · rw [g5, R4.2 714 (by decide), v750, w634, (gl2 c hc).1]
    · rw [g5]; exact v754
  have s392 : ∀ ρ, T_fillInstance_392 (f : Int) (d : Int) (o : Int) ρ = some (.inl (ga ρ 562 o, ρ)) := fun ρ => by
    unfold T_fillInstance_392
    rw [if_pos (by omega), oN]
  by_cases c : wn ∈ sc
  · have i1 : (if wn ∈ sc then ((sc.idxOf wn : Nat) : Int) else -1) ≠ -1 := by rw [if_pos c]; omega
    rw [if_pos i1, s392]
    exact ⟨τ4, wn, rfl, fin τ4 H4 (fr_refl _ _ _) (by rw [if_pos c]; rfl)⟩
  · have i1 : ¬ (if wn ∈ sc then ((sc.idxOf wn : Nat) : Int) else -1) ≠ -1 := by rw [if_neg c]; decide
    rw [if_neg i1]
    obtain ⟨τ5, e1, e2, e3, e4⟩ := KU_break H4 (j := j + 1) (by omega) hS
    refine ⟨τ5, wn, ?_, fin τ5 e2 e3 (by rw [if_neg c]; exact e4)⟩
    unfold T_fillInstance_380
    rw [if_pos (by omega), oN, n4 546 o (by decide), e546, e1, Option.bind_some, s392]
end LTI
