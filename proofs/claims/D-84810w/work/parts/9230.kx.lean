set_option maxRecDepth 100000
/-! BEFORE TYPES ARE KNOWN: tokens, places of breaks, names around, all that both know -/
theorem tok_end1 {S : List Int} {m : Nat} (e : tokk S m = 0) : tokk S (m + 1) = 0 := by
  unfold tokk tK at *
  have n : (S.map u8).drop (tq (S.map u8) (tokp (S.map u8) m)) = [] := by
    cases q : (S.map u8).drop (tq (S.map u8) (tokp (S.map u8) m)) with
    | nil => rfl
    | cons c r => rw [q] at e; exact absurd e (tk_facts c r).2.1
  have t0 : tn (S.map u8) (tokp (S.map u8) m) = tq (S.map u8) (tokp (S.map u8) m) := by
    unfold tn tK
    rw [n]; rfl
  show (tk ((S.map u8).drop (tq (S.map u8) (tn (S.map u8) (tokp (S.map u8) m))))).1 = 0
  rw [t0, tq_nil n, n]
  rfl
theorem tok_end {S : List Int} {m : Nat} (e : tokk S m = 0) : ∀ j, m ≤ j → tokk S j = 0
  | 0, h => by rw [show m = 0 by omega] at e; exact e
  | j + 1, h => by
    by_cases q : m = j + 1
    · rw [← q]; exact e
    · exact tok_end1 (tok_end e j (by omega))
theorem TT_lt {σ : tS} {N : List (List Int)} {S : List Int} {b m j : Nat} (T : TT σ N S b m) (e : tokk S j ≠ 0) : j < m := by
  rcases Nat.lt_or_ge j m with z | z
  · exact z
  · exact absurd (tok_end T.2.2.1 j z) e
theorem tq_ge (U : List Int) (p : Nat) : p ≤ tq U p := by unfold tq; omega
theorem tokq_step (S : List Int) (j : Nat) : tokq S j + tokn S j ≤ tokq S (j + 1) := tq_ge _ _
theorem tokq_mono (S : List Int) {i j : Nat} (h : i ≤ j) : tokq S i ≤ tokq S j := by
  induction h with
  | refl => exact Nat.le_refl _
  | step _ ih => exact Nat.le_trans ih (Nat.le_trans (Nat.le_add_right _ _) (tokq_step S _))
/-- the least place of a break, in the twin -/
def bp (σ : tS) : Int := if gs σ 452 = 0 then 2147483647 else min (gs σ 456) 2147483646
theorem bp_0 {σ : tS} (h : bp σ = 2147483647) : gs σ 452 = 0 := Decidable.byContradiction (fun w => by unfold bp at h; rw [if_neg w] at h; omega)
theorem bp_at {σ : tS} {p : Int} (h : bp σ = p) (hp : p < 2147483646) : gs σ 452 ≠ 0 ∧ gs σ 456 = p := by
  unfold bp at h
  split at h
  · omega
  · rename_i w
    exact ⟨w, by omega⟩
theorem bp_eq {σ τ : tS} (h1 : gs τ 452 = gs σ 452) (h2 : gs τ 456 = gs σ 456) : bp τ = bp σ := by unfold bp; rw [h1, h2]
theorem TyS_same {σ τ : tS} {n : Nat} (e : gs τ 532 = gs σ 532) (g : ∀ f ∈ TYA, ∀ i, ga τ f i = ga σ f i) (H : TyS σ n) : TyS τ n := by
  obtain ⟨⟨a1, a2, a3, a4, a5⟩, b, bs⟩ := H
  have g1 := g 502 (by decide)
  have g2 := g 506 (by decide)
  have g3 := g 510 (by decide)
  have g4 := g 514 (by decide)
  have g5 := g 518 (by decide)
  have g6 := g 522 (by decide)
  have g7 := g 526 (by decide)
  have g8 := g 530 (by decide)
  refine ⟨⟨by rw [e]; exact a1, a2, fun t ht => ?_, fun t u ht hu c => ?_, fun hh hl => ?_⟩, fun t ht => ?_, fun t ht => by rw [g1, g2, g3, g4]; exact bs t ht⟩
  · have := a3 t ht
    unfold tyP at *
    simp only [g1, g3, g4, g8]
    exact this
  · refine a4 t u ht hu ?_
    unfold tyF at *
    simp only [g1, g2, g3, g4] at c
    exact c
  · obtain ⟨l, l1, l2⟩ := a5 hh hl
    refine ⟨l, by rw [g7]; exact chT_keep l1 (fun t _ => g6 t), fun t => ?_⟩
    simp only [g1, g2, g3, g4]
    exact l2 t
  · have := b t ht
    unfold tySz tyHs at *
    simp only [g1, g3, g4, g5, g8]
    exact this
/-- families of types are families of classes -/
def FamK (K : KT) (σ : tS) (n : Nat) : Prop := ∀ t, t < n → ga σ 502 t = 2 → ∃ (w : Nat) (o : Option (List Int)) (L : List Int), ga σ 506 t = (w : Int) ∧ K[w]? = some (o, some L)
def TyK (K : KT) (σ : tS) (n : Nat) : Prop := TyS σ n ∧ FamK K σ n
theorem TyK_same {K : KT} {σ τ : tS} {n : Nat} (e : gs τ 532 = gs σ 532) (g : ∀ f ∈ TYA, ∀ i, ga τ f i = ga σ f i) (H : TyK K σ n) : TyK K τ n := ⟨TyS_same e g H.1, fun t ht => by rw [g 502 (by decide), g 506 (by decide)]; exact H.2 t ht⟩
def fmK (K : KT) : Ty → Prop
  | .leaf => True
  | .inner k w _ l r => (k = 2 → ∃ (o : Option (List Int)) (L : List Int), K[w]? = some (o, some L)) ∧ fmK K l ∧ fmK K r
theorem tyT_fk {K : KT} {σ : tS} {n : Nat} (H : TyK K σ n) : ∀ {T : Ty} {t : Int}, tyT σ n T t → fmK K T
  | .leaf, _, _ => trivial
  | .inner k w _ l r, t, ⟨m, c1, c2, c3, c4, c5, c6⟩ => by
    refine ⟨fun k2 => ?_, tyT_fk H c5, tyT_fk H c6⟩
    obtain ⟨w', o, L, e1, e2⟩ := H.2 m c2 (by rw [c3, k2]; rfl)
    rw [c4] at e1
    have : w' = w := by omega
    exact ⟨o, L, by rw [← this]; exact e2⟩
section LKX
variable {G : om_G} {h h' : om_H} {σ τ : tS} {A b m n n' pr Ln tb : Nat} {S : List Int} {N Ls : List (List Int)} {cs sc us fs us' fs' : List Nat} {K : KT} {rest : List (Nat × List Nat)} {q z u : Nat}
theorem t_breaks (T : TT σ N S b m) {j : Nat} (hj : j ≤ m) (hS : S.length ≤ 2000) {w : Int} (w0 : w ≠ 0) : ∃ τ, T_breaks w ((b + j : Nat) : Int) σ = some τ ∧ fr [452, 456] [] σ τ ∧ gs τ 452 = w ∧ bp τ = min (bp σ) (tokq S j : Int) := by
  have t1 := (T.1 j hj).2.1
  have bm := T.2.1
  have tl := tok_le S j
  have e0 : (((b + j : Nat) : Int)).toNat = b + j := by omega
  have e20 : T_breaks_20 w ((b + j : Nat) : Int) σ = some (us (us σ 456 (tokq S j : Int)) 452 w) := by
    unfold T_breaks_20
    rw [if_pos (by omega), e0, t1]
  have g1 : gs (us (us σ 456 (tokq S j : Int)) 452 w) 452 = w := by rw [gs_us, if_pos rfl]
  have g2 : gs (us (us σ 456 (tokq S j : Int)) 452 w) 456 = (tokq S j : Int) := by rw [gs_us, if_neg (by decide), gs_us, if_pos rfl]
  have f1 : fr [452, 456] [] σ (us (us σ 456 (tokq S j : Int)) 452 w) := by
    refine ⟨fun f hf => ?_, fun f _ i => rfl⟩
    simp only [List.mem_cons, List.not_mem_nil, or_false, not_or] at hf
    rw [gs_us, if_neg hf.1, gs_us, if_neg hf.2]
  unfold T_breaks
  by_cases z : gs σ 452 = 0
  · rw [if_pos z, e20]
    refine ⟨_, rfl, f1, g1, ?_⟩
    unfold bp
    rw [if_neg (by rw [g1]; exact w0), if_pos z, g2]
    omega
  · rw [if_neg z, if_pos (by omega), e0, t1]
    by_cases c : gs σ 456 ≤ (tokq S j : Int)
    · rw [if_pos c]
      refine ⟨_, rfl, ⟨fun f hf => ?_, fun f _ i => rfl⟩, by rw [gs_us, if_pos rfl], ?_⟩
      · simp only [List.mem_cons, List.not_mem_nil, or_false, not_or] at hf
        rw [gs_us, if_neg hf.1]
      · unfold bp
        rw [if_neg (by rw [gs_us, if_pos rfl]; exact w0), if_neg z, gs_us, if_neg (by decide)]
        omega
    · rw [if_neg c, e20]
      refine ⟨_, rfl, f1, g1, ?_⟩
      unfold bp
      rw [if_neg (by rw [g1]; exact w0), if_neg z, g2]
      omega
/-- names of types around, in the twin -/
def SCt (σ : tS) (sc : List Nat) : Prop := gs σ 784 = (sc.length : Int) ∧ sc.length ≤ 1100 ∧ ∀ i v : Nat, sc[i]? = some v → ga σ 778 i = (v : Int)
theorem t_inScope_loop (C : SCt σ sc) {x : Nat} : ∀ d i : Nat, i + d = sc.length → om_loop (T_inScope_2s (x : Int) σ) (i : Int) = some (if x ∈ sc.drop i then .inl ((i + (sc.drop i).idxOf x : Nat) : Int) else .inr ())
  | 0, i, hd => by
    rw [List.drop_eq_nil_of_le (by omega), if_neg (by simp)]
    refine om_loop_out ?_
    unfold T_inScope_2s
    rw [if_pos (by rw [C.1]; omega)]
  | d + 1, i, hd => by
    have il : i < sc.length := by omega
    have ec : sc[i]? = some sc[i] := List.getElem?_eq_getElem il
    generalize sc[i] = v at ec
    have e1 := C.2.2 i v ec
    have l1 := C.2.1
    rw [drop_c ec]
    by_cases p : v = x
    · have st : T_inScope_2s (x : Int) σ (i : Int) = some (.inr (.inl (i : Int))) := by
        unfold T_inScope_2s
        rw [if_neg (by rw [C.1]; omega), if_pos (by omega), show ((i : Int)).toNat = i by omega, e1, if_neg (by omega)]
      rw [om_loop_out st, if_pos (by rw [p]; exact List.mem_cons_self), List.idxOf_cons, p]
      simp
    · have st : T_inScope_2s (x : Int) σ (i : Int) = some (.inl ((i + 1 : Nat) : Int)) := by
        unfold T_inScope_2s
        rw [if_neg (by rw [C.1]; omega), if_pos (by omega), show ((i : Int)).toNat = i by omega, e1, if_pos (by omega), w32_s (by omega) (by omega)]
        rfl
      rw [om_loop_in st, t_inScope_loop C d (i + 1) (by omega)]
      have iff : (x ∈ v :: sc.drop (i + 1)) ↔ x ∈ sc.drop (i + 1) := by
        rw [List.mem_cons]
        exact ⟨fun z => z.elim (fun z => absurd z.symm p) id, .inr⟩
      by_cases y : x ∈ sc.drop (i + 1)
      · rw [if_pos y, if_pos (iff.mpr y), List.idxOf_cons]
        have pb : (v == x) = false := by simpa using p
        rw [pb]
        show some (Sum.inl _) = some (Sum.inl _)
        congr 2
        simp
        omega
      · rw [if_neg y, if_neg (fun z => y (iff.mp z))]
theorem t_inScope (C : SCt σ sc) (x : Nat) : T_inScope (x : Int) σ = some (if x ∈ sc then ((sc.idxOf x : Nat) : Int) else -1) := by
  unfold T_inScope
  have e := t_inScope_loop (x := x) C sc.length 0 (by omega)
  rw [show ((0 : Nat) : Int) = 0 from rfl, List.drop_zero] at e
  rw [e, Option.bind_some]
  by_cases p : x ∈ sc
  · rw [if_pos p, if_pos p]
    show some _ = some _
    rw [Nat.zero_add]
  · rw [if_neg p, if_neg p]; rfl
theorem t_nameAt (T : TT σ N S b m) {j : Nat} (hj : tokk S j = 2 ∨ tokk S j = 3) : ∃ w : Nat, T_nameAt ((b + j : Nat) : Int) σ = some (w : Int) ∧ N[w]? = some (tokw S j) ∧ j < m := by
  have jm : j < m := TT_lt T (by omega)
  have t := T.1 j (by omega)
  have bm := T.2.1
  have mem := t.2.2.2.2 hj
  refine ⟨N.idxOf (tokw S j), ?_, ?_, jm⟩
  · unfold T_nameAt
    rw [if_pos (by omega), show (((b + j : Nat) : Int)).toNat = b + j by omega, t.2.2.2.1]
    unfold tVal
    rw [if_pos hj]
  · have lt : N.idxOf (tokw S j) < N.length := List.idxOf_lt_length_iff.mpr mem
    rw [List.getElem?_eq_getElem lt, List.getElem_idxOf lt]
/-- what greats stand for, in the twin -/
def GL (σ : tS) (N : List (List Int)) (K : KT) : Prop := ∀ (w : Nat) (L : List Int), N[w]? = some L → w < 2100 ∧
  ((ga σ 630 w = 0 ∧ cnI L = none ∧ FI Prod.fst L K = none ∧ FI Prod.snd L K = none) ∨
   (∃ c : Nat, ga σ 630 w = 1 ∧ ga σ 634 w = (c : Int) ∧ c ≤ 3 ∧ cnI L = some c ∧ FI Prod.fst L K = none ∧ FI Prod.snd L K = none) ∨
   (∃ c : Nat, ga σ 630 w = 2 ∧ ga σ 634 w = (c : Int) ∧ c < 8 ∧ cnI L = none ∧ FI Prod.fst L K = some c ∧ FI Prod.snd L K = none) ∨
   (∃ c : Nat, ga σ 630 w = 3 ∧ ga σ 634 w = (c : Int) ∧ c < 8 ∧ cnI L = none ∧ FI Prod.fst L K = none ∧ FI Prod.snd L K = some c))
def clF (cs : List Nat) (c : Nat) : Nat := cs.getD c 0
/-- all that the component knows while types become known -/
def KC (G : om_G) (A : Nat) (S : List Int) (N : List (List Int)) (cs : List Nat) (K : KT) (pr Ln : Nat) (Ls : List (List Int)) (tb : Nat) (rest : List (Nat × List Nat)) (h : om_H) (us fs : List Nat) : Prop :=
  (TB G h N (clF cs) tb us fs rest ∧ ndN N) ∧ (txC h A S ∧ A < hz h) ∧ (CLS h pr cs K ∧ fR h 82 pr ≠ fR h 122 tb ∧ fI h 112 pr ≤ 2147483647) ∧ (SCc h Ln Ls ∧ Ln ≠ fR h 122 tb)
/-- and the twin -/
def KU (S : List Int) (b m : Nat) (N : List (List Int)) (K : KT) (sc : List Nat) (σ : tS) (n : Nat) : Prop := TyK K σ n ∧ TT σ N S b m ∧ GL σ N K ∧ SCt σ sc ∧ (gs σ 452 = 0 ∨ gs σ 452 = 2) ∧ bp σ ≤ 2147483647
theorem nDT (T : TB G h N (clF cs) tb us fs rest) {y : Nat} (c1 : kd h y ≠ 3 ∧ kd h y ≠ 34 ∧ kd h y ≠ 56) (c2 : y ≠ fR h 122 tb) : ¬ DT h tb fs y := by
  obtain ⟨⟨_, ⟨d1, d2, d3, d4⟩, d5⟩, ⟨p1, p2, p3, p4, p5⟩, _⟩ := id T
  simp only at d1 d2
  intro q
  rcases q with q | q | q | q
  · rw [q] at c1; exact c1.1 d1.2.2
  · exact c2 q
  · rw [q] at c1; exact c1.2.2 d2.2.1
  · exact c1.2.1 (p5 y (List.mem_append_right _ q)).1
theorem CLw_hT {D : Nat → Prop} (X : hT D h h') (d : dOK D h h') {c f g : Nat} {o : Option (List Int)} (lt : c < hz h) (nd : ¬ D c) (C : CLw h c f g o) : CLw h' c f g o := by
  have e := X.2.2.2 c lt nd
  cases o with
  | none => show fI h' f c = 0; rw [e.2.1]; exact C
  | some L =>
    obtain ⟨c1, c2, c3, c4⟩ := C
    have e1 := X.2.2.2 _ c2 (fun z => (d _ z).1 c4.1)
    refine ⟨by rw [e.2.1]; exact c1, by rw [e.2.2.1]; exact Nat.lt_of_lt_of_le c2 X.1, by rw [e.2.2.1, e1.2.2.1]; exact Nat.lt_of_lt_of_le c3 X.1, by rw [e.2.2.1]; exact wb_hT X d c2 c3 c4⟩
theorem CLS_hT {D : Nat → Prop} (X : hT D h h') (d : dOK D h h') (C : CLS h pr cs K) (e82 : fR h' 82 pr = fR h 82 pr) (nL : ¬ D (fR h 82 pr)) (nc : ∀ c ∈ cs, ¬ D c) : CLS h' pr cs K := by
  obtain ⟨c1, c2, c3, c4, c5⟩ := C
  have eL := X.2.2.2 _ c2.1 nL
  refine ⟨⟨by rw [X.2.2.1 pr c1.2]; exact c1.1, Nat.lt_of_lt_of_le c1.2 X.1⟩, ⟨by rw [e82]; exact Nat.lt_of_lt_of_le c2.1 X.1, by rw [e82, eL.1]; exact c2.2.1, by rw [e82, eL.2.2.2.2.2.2.1]; exact c2.2.2⟩, c3, c4, fun i c k hc hk => ?_⟩
  obtain ⟨d1, d2, d3⟩ := c5 i c k hc hk
  have mem : c ∈ cs := List.mem_of_getElem? hc
  have e := X.2.2.2 c d1.2.1 (nc c mem)
  exact ⟨⟨d1.1, Nat.lt_of_lt_of_le d1.2.1 X.1, by rw [e.1]; exact d1.2.2.1, by rw [e.2.1]; exact d1.2.2.2⟩, CLw_hT X d d1.2.1 (nc c mem) d2, CLw_hT X d d1.2.1 (nc c mem) d3⟩
theorem WL_hT {D : Nat → Prop} (X : hT D h h') (d : dOK D h h') : ∀ {ws : List Nat} {Ls : List (List Int)}, WL h ws Ls → WL h' ws Ls
  | [], [], _ => trivial
  | w :: ws, L :: Ls, c => by
    have e := X.2.2.2 w c.1.1 (fun z => (d _ z).1 c.1.2.2.1)
    exact ⟨⟨Nat.lt_of_lt_of_le c.1.1 X.1, by rw [e.2.2.1]; exact Nat.lt_of_lt_of_le c.1.2.1 X.1, wb_hT X d c.1.1 c.1.2.1 c.1.2.2⟩, WL_hT X d c.2⟩
  | [], _ :: _, c => c.elim
  | _ :: _, [], c => c.elim
theorem SCc_hT {D : Nat → Prop} (X : hT D h h') (d : dOK D h h') (nL : ¬ D Ln) (C : SCc h Ln Ls) : SCc h' Ln Ls := by
  obtain ⟨c1, c2, c3, c4⟩ := C
  have e := X.2.2.2 Ln c1 nL
  exact ⟨Nat.lt_of_lt_of_le c1 X.1, by rw [e.1]; exact c2, by rw [e.2.2.2.2.2.2.1]; exact c3, by rw [e.2.2.2.2.2.2.1]; exact WL_hT X d c4⟩
theorem txC_hT {D : Nat → Prop} (X : hT D h h') (lt : A < hz h) (nA : ¬ D A) (C : txC h A S) : txC h' A S := by
  obtain ⟨c1, c2, c3, c4, c5⟩ := C
  have e := X.2.2.2 A lt nA
  exact ⟨by rw [e.1]; exact c1, by rw [e.2.2.2.1]; exact c2, c3, fun i x hx => by rw [e.2.2.2.2.1]; exact c4 i x hx, c5⟩
/-- the twin's arrays of tokens, greats and names around are not touched -/
theorem TT_fr2 {fs' as : List Nat} (A : fr fs' as σ τ) (d : ∀ f ∈ [470, 474, 478, 482], f ∉ as) (T : TT σ N S b m) : TT τ N S b m := ⟨fun j hj => TKi_eq (fun f hf => A.2 f (d f hf) _) (T.1 j hj), T.2⟩
/-- a step keeps what is known -/
theorem KC_step {P : Nat → Prop} (H : KC G A S N cs K pr Ln Ls tb rest h us fs) (T : TB G h' N (clF cs) tb us' fs' rest) (C : CS P N (clF cs) tb rest h us fs h' us' fs' q z u) (d : dOK P h h') (p1 : ¬ P (fR h 82 pr) ∧ (∀ c ∈ cs, ¬ P c) ∧ ¬ P Ln ∧ ¬ P A) (p2 : fR h' 82 pr = fR h 82 pr) (p3 : fI h' 112 pr ≤ fI h 112 pr) : KC G A S N cs K pr Ln Ls tb rest h' us' fs' := by
  obtain ⟨⟨a1, a3⟩, ⟨b2, b3⟩, ⟨c1, c3, c4⟩, ⟨e1, e3⟩⟩ := H
  have X := C.1
  have dd : dOK (fun y => DT h tb fs y ∨ P y) h h' := fun y hy => by
    rcases hy with hy | hy
    · exact DT_ok a1 y hy
    · exact d y hy
  have k1 := C.2.2.2.2.1.2
  refine ⟨⟨T, a3⟩, ⟨txC_hT X b3 (fun z => ?_) b2, Nat.lt_of_lt_of_le b3 X.1⟩, ⟨CLS_hT X dd c1 p2 (fun z => ?_) (fun c hc z => ?_), by rw [p2, k1]; exact c3, by omega⟩, ⟨SCc_hT X dd (fun z => ?_) e1, by rw [k1]; exact e3⟩⟩
  · rcases z with z | z
    · exact nDT a1 (by rw [b2.1]; decide) (fun q => by have p := a1.2.1.1.2.1; rw [← q, b2.1] at p; omega) z
    · exact p1.2.2.2 z
  · rcases z with z | z
    · exact nDT a1 (by rw [c1.2.1.2.1]; decide) c3 z
    · exact p1.1 z
  · rcases z with z | z
    · obtain ⟨i, hi⟩ := List.getElem?_of_mem hc
      have il := (List.getElem?_eq_some_iff.mp hi).1
      have ik : i < K.length := by have := c1.2.2.1; omega
      have k18 := (c1.2.2.2.2 i c _ hi (List.getElem?_eq_getElem ik)).1.2.2.1
      exact nDT a1 (by rw [k18]; decide) (fun q => by have p := a1.2.1.1.2.1; rw [← q, k18] at p; omega) z
    · exact p1.2.1 c hc z
  · rcases z with z | z
    · exact nDT a1 (by rw [e1.2.1]; decide) e3 z
    · exact p1.2.2.1 z
theorem KU_step (H : KU S b m N K sc σ n) {F B : List Nat} (R : fr F B σ τ) (dF : 784 ∉ F) (dB : ∀ f ∈ [470, 474, 478, 482, 630, 634, 778], f ∉ B) (Y : TyK K τ n') (f2 : gs τ 452 = 0 ∨ gs τ 452 = 2) (f3 : bp τ ≤ bp σ) : KU S b m N K sc τ n' := by
  obtain ⟨a2, b1, c2, e2, g1, g2⟩ := H
  refine ⟨Y, TT_fr2 R (fun f hf => dB f (by simp only [List.mem_cons, List.not_mem_nil, or_false] at hf ⊢; omega)) b1, ?_, ?_, f2, by omega⟩
  · intro w L hw
    have g1 := R.2 630 (dB 630 (by simp)) w
    have g2 := R.2 634 (dB 634 (by simp)) w
    have := c2 w L hw
    rw [g1, g2]
    exact this
  · exact ⟨by rw [R.1 784 dF]; exact e2.1, e2.2.1, fun i v hv => by rw [R.2 778 (dB 778 (by simp))]; exact e2.2.2 i v hv⟩
/-- what the component goes through: at most q new types, its breaks X -/
def SC (G : om_G) (A : Nat) (S : List Int) (N : List (List Int)) (cs : List Nat) (K : KT) (pr Ln : Nat) (Ls : List (List Int)) (tb : Nat) (rest : List (Nat × List Nat)) (h : om_H) (us fs : List Nat) (h' : om_H) (us' fs' : List Nat) (q : Nat) (X : Int) : Prop :=
  KC G A S N cs K pr Ln Ls tb rest h' us' fs' ∧ CS (fun y => y = pr) N (clF cs) tb rest h us fs h' us' fs' q 0 0 ∧ ((∀ f, f ≠ 112 → fI h' f pr = fI h f pr) ∧ ∀ f, fR h' f pr = fR h f pr) ∧ fI h' 112 pr = min (fI h 112 pr) X
/-- and the twin -/
def ST (S : List Int) (b m : Nat) (N : List (List Int)) (K : KT) (sc : List Nat) (σ : tS) (n : Nat) (τ : tS) (n' q : Nat) (X : Int) : Prop :=
  KU S b m N K sc τ n' ∧ fr [452, 456, 532] TYA σ τ ∧ tx σ n τ n' ∧ n' ≤ n + q ∧ bp τ = min (bp σ) X
variable {h2 : om_H} {us2 fs2 : List Nat} {υ : tS} {n2 q2 : Nat} {X X2 : Int}
theorem SC_refl (H : KC G A S N cs K pr Ln Ls tb rest h us fs) : SC G A S N cs K pr Ln Ls tb rest h us fs h us fs 0 2147483647 := ⟨H, CS_refl, ⟨fun _ _ => rfl, fun _ => rfl⟩, by have := H.2.2.1.2.2; omega⟩
theorem SC_trans (B1 : SC G A S N cs K pr Ln Ls tb rest h us fs h' us' fs' q X) (B2 : SC G A S N cs K pr Ln Ls tb rest h' us' fs' h2 us2 fs2 q2 X2) : SC G A S N cs K pr Ln Ls tb rest h us fs h2 us2 fs2 (q + q2) (min X X2) := by
  obtain ⟨a1, a2, a3, a4⟩ := B1
  obtain ⟨b1, b2, b3, b4⟩ := B2
  exact ⟨b1, CS_trans a2 b2 (fun _ _ z => z), ⟨fun f hf => (b3.1 f hf).trans (a3.1 f hf), fun f => (b3.2 f).trans (a3.2 f)⟩, by omega⟩
theorem ST_refl (H : KU S b m N K sc σ n) : ST S b m N K sc σ n σ n 0 2147483647 := ⟨H, fr_refl _ _ _, tx_refl _ _, by omega, by have := H.2.2.2.2.2; omega⟩
theorem ST_trans (B1 : ST S b m N K sc σ n τ n' q X) (B2 : ST S b m N K sc τ n' υ n2 q2 X2) : ST S b m N K sc σ n υ n2 (q + q2) (min X X2) := by
  obtain ⟨a1, a2, a3, a4, a5⟩ := B1
  obtain ⟨b1, b2, b3, b4, b5⟩ := B2
  exact ⟨b1, fr_trans a2 b2, tx_trans a3 b3, by omega, by omega⟩
/-- a rule is broken, in the component -/
theorem SC_rule (H : KC G A S N cs K pr Ln Ls tb rest h us fs) (p : Int) : ∃ h', C_1_rule G pr p h = some h' ∧ SC G A S N cs K pr Ln Ls tb rest h us fs h' us fs 0 p := by
  obtain ⟨⟨a1, a3⟩, ⟨b2, b3⟩, ⟨c1, c3, c4⟩, ⟨e1, e3⟩⟩ := id H
  have k2 := c1.1.1
  refine ⟨sI h 112 pr (if p < fI h 112 pr then p else fI h 112 pr), ?_, ?_⟩
  · unfold C_1_rule
    exact gd_pos k2
  · have X : hT (fun y => y = pr) h (sI h 112 pr (if p < fI h 112 pr then p else fI h 112 pr)) := ⟨Nat.le_refl _, Nat.le_refl _, fun _ _ => rfl, fun y _ nd => ⟨rfl, fun f => fI_na nd, fun f => rfl, rfl, fun f => rfl, fun f => rfl, rfl, rfl⟩⟩
    have pk : ∀ y, y = pr → y < hz h → kd h y ≠ 3 ∧ kd h y ≠ 34 ∧ kd h y ≠ 56 ∧ y ≠ fR h 122 tb := fun y hy _ => by
      rw [hy]
      refine ⟨by omega, by omega, by omega, fun z => ?_⟩
      have := a1.2.1.1.2.1
      rw [← z] at this; omega
    have d : dOK (fun y => y = pr) h (sI h 112 pr (if p < fI h 112 pr then p else fI h 112 pr)) := fun y hy => by
      have hy' : y = pr := hy
      rw [hy']
      exact ⟨by omega, by omega, fun z => by omega⟩
    have C := CS_write (P := fun y => y = pr) (z := 0) (u := 0) a1 X pk d (Nat.le_refl _) (Nat.le_refl _)
    have e : fI (sI h 112 pr (if p < fI h 112 pr then p else fI h 112 pr)) 112 pr = min (fI h 112 pr) p := by
      rw [fI_eq]
      by_cases c : p < fI h 112 pr
      · rw [if_pos c]; omega
      · rw [if_neg c]; omega
    refine ⟨KC_step H (TB_hT a1 a3 X pk d) C d ⟨fun z => ?_, fun c hc z => ?_, fun z => ?_, fun z => ?_⟩ rfl (by rw [e]; omega), C, ⟨fun f hf => fI_ne hf, fun f => rfl⟩, e⟩
    · have := c1.2.1.2.1; rw [z] at this; omega
    · obtain ⟨i, hi⟩ := List.getElem?_of_mem hc
      have il := (List.getElem?_eq_some_iff.mp hi).1
      have ik : i < K.length := by have := c1.2.2.1; omega
      have k18 := (c1.2.2.2.2 i c _ hi (List.getElem?_eq_getElem ik)).1.2.2.1
      rw [z] at k18; omega
    · have := e1.2.1; rw [z] at this; omega
    · have := b2.1; rw [z] at this; omega
/-- and in the twin -/
theorem ST_breaks (H : KU S b m N K sc σ n) {j : Nat} (hj : j ≤ m) (hS : S.length ≤ 2000) : ∃ τ, T_breaks 2 ((b + j : Nat) : Int) σ = some τ ∧ ST S b m N K sc σ n τ n 0 (tokq S j : Int) := by
  obtain ⟨a2, b1, c2, e2, g1, g2⟩ := id H
  obtain ⟨τ, e1, e3, e4, e5⟩ := t_breaks b1 hj hS (w := 2) (by decide)
  have e6 : ∀ f, f ∉ [452, 456] → gs τ f = gs σ f := e3.1
  have ga' : ∀ f i, ga τ f i = ga σ f i := fun f i => e3.2 f (by simp) i
  refine ⟨τ, e1, KU_step (B := []) H e3 (by decide) (fun f _ => by simp) ?_ (.inr e4) (by omega), ⟨fun f hf => e6 f (fun z => hf (by simp only [List.mem_cons, List.not_mem_nil, or_false] at z ⊢; omega)), fun f _ i => ga' f i⟩, tx_same (fun f _ i => ga' f i), by omega, e5⟩
  exact TyK_same (e6 532 (by decide)) (fun f _ i => ga' f i) a2
/-- a type is had, in the component -/
theorem SC_get {k w : Nat} {con : Int} {nm fam a a' : Nat} {l r : Ty} (H : KC G A S N cs K pr Ln Ls tb rest h us fs) (W : tyW h N (clF cs) k w con nm fam) (A1 : tyC h N (clF cs) (UU us rest) l a) (B1 : tyC h N (clF cs) (UU us rest) r a') (hn : tl us fs ≤ 149000) : ∃ x h' us' fs', C_2_get G tb (k : Int) con nm fam a a' h = some (x, h') ∧ SC G A S N cs K pr Ln Ls tb rest h us fs h' us' fs' 1 2147483647 ∧ tyC h' N (clF cs) (UU us' rest) (tnd k w l r) x ∧ x ≠ 0 := by
  obtain ⟨⟨a1, a3⟩, ⟨b2, b3⟩, ⟨c1, c3, c4⟩, ⟨e1, e3⟩⟩ := id H
  obtain ⟨x, h', us', fs', g1, g2, g3, g4, g5⟩ := c_getS a1 a3 W A1 B1 hn
  have npr : ¬ DT h tb fs pr := nDT a1 (by rw [c1.1.1]; decide) (fun q => by have p := a1.2.1.1.2.1; rw [← q, c1.1.1] at p; omega)
  have ep := g3.1.2.2.2 pr c1.1.2 (fun z => z.elim npr id)
  refine ⟨x, h', us', fs', g1, ⟨KC_step (P := fun _ => False) H g2 g3 (fun y hy => hy.elim) ⟨id, fun _ _ => id, id, id⟩ (ep.2.2.1 82) (by rw [ep.2.1]; omega), CS_mono g3 (fun _ _ z => z.elim), ⟨fun f _ => ep.2.1 f, fun f => ep.2.2.1 f⟩, by rw [ep.2.1]; omega⟩, g4, g4.1.2.1⟩
/-- and in the twin -/
theorem ST_get {k w : Nat} {o v : Int} {l r : Ty} (H : KU S b m N K sc σ n) (hk : k ≤ 3) (A1 : tyT σ n l o) (B1 : tyT σ n r v) (hn : n < 126000) (sh : shZ (k : Int) (w : Int) o v) (fk : k = 2 → ∃ (o : Option (List Int)) (L : List Int), K[w]? = some (o, some L)) : ∃ t τ n', T_aType (k : Int) (w : Int) o v σ = some (t, τ) ∧ ST S b m N K sc σ n τ n' 1 2147483647 ∧ tyT τ n' (tnd k w l r) t := by
  obtain ⟨a2, b1, c2, e2, g1, g2⟩ := id H
  obtain ⟨t, τ, n', f1, f2, f3, f4, f5, f6, f6n, f7⟩ := t_get (w := w) a2.1 hk A1 B1 hn sh
  have fK : FamK K τ n' := fun x hx k2 => by
    by_cases c : x < n
    · rw [f3.2 502 (by decide) (by decide) x c] at k2
      rw [f3.2 506 (by decide) (by decide) x c]
      exact a2.2 x c k2
    · obtain ⟨q1, q2⟩ := f6n x hx c
      rw [q1] at k2
      obtain ⟨o, L, e⟩ := fk (by omega)
      exact ⟨w, o, L, q2, e⟩
  have i1 : gs τ 452 = gs σ 452 := f6.1 452 (by decide)
  have i2 : gs τ 456 = gs σ 456 := f6.1 456 (by decide)
  have i3 := bp_eq i1 i2
  exact ⟨t, τ, n', f1, ⟨KU_step H f6 (by decide) (by decide) ⟨f2, fK⟩ (by rw [i1]; exact g1) (by rw [i3]; omega), ⟨fun f hf => f6.1 f (fun z => hf (by simp only [List.mem_cons, List.not_mem_nil, or_false] at z ⊢; omega)), f6.2⟩, f3, f4, by rw [i3]; omega⟩, f5⟩
end LKX
