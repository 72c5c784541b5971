set_option maxRecDepth 100000
/-! THE TWIN: what there is while it judges; the things of a name's @s -/
abbrev tNm (w : Nat) : Ty := tnd 0 w .leaf .leaf
def JTE (σ : tS) (n : Nat) (E : JE) : Prop := (PGT σ n E.2.2.1 E.2.2.2.1 ∧ GVT σ n E.2.2.2.2) ∧ (E.1.length ≤ 24 ∧ ∀ (i : Nat) (f : List Nat × List GVs × Ty), E.1[i]? = some f → (ga σ 738 i = (f.1.length : Int) ∧ f.1.length ≤ 4 ∧ ∀ (j w : Nat), f.1[j]? = some w → ga σ 742 (4 * i + j) = (w : Int)) ∧ (ga σ 746 i = (f.2.1.length : Int) ∧ f.2.1.length ≤ 4 ∧ ∀ (j : Nat) (g : GVs), f.2.1[j]? = some g → ga σ 750 (4 * i + j) = (g.1 : Int) ∧ g.1 < 108 ∧ (∃ k : Nat, ga σ 754 (4 * i + j) = (k : Int) ∧ ixF (fun x => x == g.2.1) f.1 = some k) ∧ tyT σ n g.2.2 (ga σ 758 (4 * i + j))) ∧ tyT σ n f.2.2 (ga σ 762 i)) ∧ (E.2.1.length ≤ 32 ∧ ∀ (i : Nat) (m : Nat × Nat × Ty), E.2.1[i]? = some (some m) → m.1 = i / 4 ∧ ga σ 666 m.1 = (m.2.1 : Int) ∧ tyT σ n m.2.2 (ga σ 686 i)) ∧ (∃ wa wb : Nat, wa ≠ wb ∧ gs σ 868 = (wa : Int) ∧ gs σ 872 = (wb : Int) ∧ ∀ k, k < 7 → tyT σ n (btT k (tNm wa) (tNm wb)) (ga σ 878 k)) ∧ tyT σ n tInt (gs σ 860) ∧ tyT σ n tBool (gs σ 864)
/-- what putting things may write -/
abbrev NFS : List Nat := [452, 456, 532, 808, 812, 816, 823, 827, 836, 880, 884, 888]
abbrev NFA : List Nat := TYA ++ [830, 834]
section LJT
variable {σ τ : tS} {n n' : Nat} {E : JE}
theorem fr_NJ (F : fr NFS NFA σ τ) : fr JFS JFA σ τ := ⟨fun f hf => F.1 f (fun h => hf (by
  simp only [List.mem_cons, List.not_mem_nil, or_false] at h ⊢
  omega)), fun f hf => F.2 f (fun h => hf (by
  simp only [List.mem_append, List.mem_cons, List.not_mem_nil, or_false] at h ⊢
  omega))⟩
theorem GVT_keep {gv : List GVs} (F : fr JFS JFA σ τ) (X : tx σ n τ n') (H : GVT σ n gv) : GVT τ n' gv := by
  obtain ⟨a1, a2, a3⟩ := H
  refine ⟨by rw [F.1 792 (by decide)]; exact a1, a2, fun i g e => ?_⟩
  obtain ⟨b1, b2, b3, b4⟩ := a3 i g e
  exact ⟨by rw [F.2 798 (by decide)]; exact b1, by rw [F.2 802 (by decide)]; exact b2, by rw [F.2 806 (by decide)]; exact tyT_mono X b3, b4⟩
theorem PGT_keep {ab : List (Option Nat)} {ins : List INs} (F : fr JFS JFA σ τ) (X : tx σ n τ n') (H : PGT σ n ab ins) : PGT τ n' ab ins := by
  obtain ⟨⟨a1, a2⟩, a3, a4, a5⟩ := H
  refine ⟨⟨a1, fun c o e => by rw [F.2 670 (by decide)]; exact a2 c o e⟩, by rw [F.1 648 (by decide)]; exact a3, a4, fun i d e => ?_⟩
  obtain ⟨⟨b1, b1'⟩, ⟨b2, b2'⟩, ⟨b3, b3', b3''⟩, ⟨b4, b4', b4''⟩, b5⟩ := a5 i d e
  refine ⟨⟨by rw [F.2 694 (by decide)]; exact b1, b1'⟩, ⟨by rw [F.2 698 (by decide)]; exact b2, b2'⟩, ⟨by rw [F.2 702 (by decide)]; exact b3, b3', fun j w e => by rw [F.2 706 (by decide)]; exact b3'' j w e⟩, ⟨by rw [F.2 710 (by decide)]; exact b4, b4', fun j c e => by rw [F.2 714 (by decide), F.2 718 (by decide)]; exact b4'' j c e⟩, by rw [F.2 722 (by decide)]; exact tyT_mono X b5⟩
theorem JTE_keep (F : fr JFS JFA σ τ) (X : tx σ n τ n') (H : JTE σ n E) : JTE τ n' E := by
  obtain ⟨⟨a1, a2⟩, ⟨a3, a4⟩, ⟨a5, a6⟩, ⟨wa, wb, a7, a8, a9, a10⟩, a11, a12⟩ := H
  refine ⟨⟨PGT_keep F X a1, GVT_keep F X a2⟩, ⟨a3, fun i f e => ?_⟩, ⟨a5, fun i m e => ?_⟩, ⟨wa, wb, a7, by rw [F.1 868 (by decide)]; exact a8, by rw [F.1 872 (by decide)]; exact a9, fun k hk => by rw [F.2 878 (by decide)]; exact tyT_mono X (a10 k hk)⟩, by rw [F.1 860 (by decide)]; exact tyT_mono X a11, by rw [F.1 864 (by decide)]; exact tyT_mono X a12⟩
  · obtain ⟨⟨b1, b2, b3⟩, ⟨b4, b5, b6⟩, b7⟩ := a4 i f e
    refine ⟨⟨by rw [F.2 738 (by decide)]; exact b1, b2, fun j w e => by rw [F.2 742 (by decide)]; exact b3 j w e⟩, ⟨by rw [F.2 746 (by decide)]; exact b4, b5, fun j g e => ?_⟩, by rw [F.2 762 (by decide)]; exact tyT_mono X b7⟩
    obtain ⟨c1, c2, c3, c4⟩ := b6 j g e
    exact ⟨by rw [F.2 750 (by decide)]; exact c1, c2, by rw [F.2 754 (by decide)]; exact c3, by rw [F.2 758 (by decide)]; exact tyT_mono X c4⟩
  · obtain ⟨b1, b2, b3⟩ := a6 i m e
    exact ⟨b1, by rw [F.2 666 (by decide)]; exact b2, by rw [F.2 686 (by decide)]; exact tyT_mono X b3⟩
/-- the names of a name's forall -/
def jnS (E : JE) (wa wb k i : Nat) : List Nat := if k = 1 then (E.1[i]?).elim [] (fun f => f.1) else if k = 2 then ((E.2.1[i]?).bind id).elim [] (fun m => [m.2.1]) else [wa, wb].take (btN i)
theorem chain_lt {f : Int} {os : List Nat} (c : chain σ f os) : f = -1 ↔ os = [] := by
  cases os with
  | nil => exact ⟨fun _ => rfl, fun _ => c⟩
  | cons o os => exact ⟨fun e => by rw [c.1] at e; omega, fun e => by cases e⟩
theorem gaus (τ : tS) (f : Nat) (x : Int) (g i : Nat) : ga (us τ f x) g i = ga τ g i := rfl
/-- the things of the @s are put -/
theorem t_putAts (J : JTE σ n E) {lb : XL} {hi v wa wb : Nat} (v84 : v < 4200 ∧ hi ≤ 4200) (H : nmTw σ n lb hi v) (k0 : lb.2.1 ≠ 0) (wab : gs σ 868 = (wa : Int) ∧ gs σ 872 = (wb : Int)) (ix : (lb.2.1 = 1 → lb.2.2.1 < E.1.length) ∧ (lb.2.1 = 2 → ∃ m, E.2.1[lb.2.2.1]? = some (some m))) (hl : lb.2.2.2.2.2.length = (jnS E wa wb lb.2.1 lb.2.2.1).length) (h4 : (jnS E wa wb lb.2.1 lb.2.2.1).length ≤ 4) : ∃ τ, T_putAts (v : Int) σ = some τ ∧ fr [836] [830, 834] σ τ ∧ PutT τ n ((jnS E wa wb lb.2.1 lb.2.2.1).zip (lb.2.2.2.2.2.map Prod.fst)) := by
  obtain ⟨⟨k, k1, k2, k3, k4⟩, h2, os, o1, o2, o3⟩ := H
  obtain ⟨k0', b1, b2, b3⟩ : lb.2.1 ≠ 0 ∧ ga σ 550 v = -1 ∧ ga σ 642 lb.2.2.2.1 = (lb.2.2.1 : Int) ∧ ((lb.2.1 = 1 ∧ ga σ 638 lb.2.2.2.1 = 1) ∨ (lb.2.1 = 2 ∧ ga σ 638 lb.2.2.2.1 = 2) ∨ (lb.2.1 = 3 ∧ ga σ 638 lb.2.2.2.1 ≠ 1 ∧ ga σ 638 lb.2.2.2.1 ≠ 2)) := by
    rcases h2 with h | h
    · exact absurd h.1 k0
    · exact h
  generalize eN : lb.2.2.2.1 = nm at *
  generalize eI : lb.2.2.1 = ii at *
  generalize eK : lb.2.1 = kk at *
  generalize eA : lb.2.2.2.2.2 = as at *
  have nn : ((nm : Int)).toNat = nm := by omega
  -- one step
  have stp : ∀ (j o w : Nat) (a : Ty × Nat) (τ : tS), os[j]? = some o → as[j]? = some a → (jnS E wa wb kk ii)[j]? = some w → fr [836] [830, 834] σ τ → gs τ 836 = (j : Int) → T_putAts_31s (nm : Int) (ii : Int) ((o : Int), τ) = some (.inl (ga σ 562 o, us (ua (ua τ 830 j (w : Int)) 834 j (ga σ 550 o)) 836 ((j + 1 : Nat) : Int))) := fun j o w a τ e1 e2 e3 F ej => by
    have jl := (List.getElem?_eq_some_iff.mp e3).1
    obtain ⟨p1, p2, p3⟩ := o3 j o a e1 e2
    have e118 : T_putAts_118 (nm : Int) (ii : Int) (o : Int) (gs τ 836) (w : Int) τ = some (.inl (ga σ 562 o, us (ua (ua τ 830 j (w : Int)) 834 j (ga σ 550 o)) 836 ((j + 1 : Nat) : Int))) := by
      unfold T_putAts_118
      rw [ej, if_pos (by omega), show ((o : Int)).toNat = o by omega, show ((j : Int)).toNat = j by omega, F.2 562 (by decide), F.2 550 (by decide), w32_s (by omega) (by omega)]
      rfl
    unfold T_putAts_31s
    simp only
    rw [if_neg (by omega), if_neg (by omega), if_pos (by omega), nn, F.2 638 (by decide)]
    rcases b3 with ⟨q1, q2⟩ | ⟨q1, q2⟩ | ⟨q1, q2, q3⟩
    · have ef : E.1[ii]? = some E.1[ii] := List.getElem?_eq_getElem (ix.1 q1)
      have i24 : ii < 24 := by have := J.2.1.1; have := ix.1 q1; omega
      have e3' : E.1[ii].1[j]? = some w := by
        unfold jnS at e3
        rw [if_pos q1, ef] at e3
        exact e3
      have e742 := ((J.2.1.2 ii _ ef).1.2.2 j w e3')
      have c4 : w32 (w32 (4 * (ii : Int)) + gs τ 836) = ((4 * ii + j : Nat) : Int) := by rw [ej, w32_s (x := 4 * (ii : Int)) (by omega) (by omega), w32_s (by omega) (by omega)]; omega
      rw [q2, if_neg (fun z => z rfl), c4, if_pos (by omega), show (((4 * ii + j : Nat) : Int)).toNat = 4 * ii + j by omega, F.2 742 (by decide), e742]
      exact e118
    · obtain ⟨m, em⟩ := ix.2 q1
      have il := (List.getElem?_eq_some_iff.mp em).1
      have i32 := J.2.2.1.1
      obtain ⟨m1, m2, m3⟩ := J.2.2.1.2 ii m em
      have e3' : [m.2.1][j]? = some w := by
        unfold jnS at e3
        rw [if_neg (by omega), if_pos q1, em] at e3
        exact e3
      have j0 : j = 0 := by
        have := (List.getElem?_eq_some_iff.mp e3').1
        simpa using this
      have ew : m.2.1 = w := by rw [j0] at e3'; exact Option.some.inj e3'
      have d4 : div32 (ii : Int) 4 = ((ii / 4 : Nat) : Int) := by
        unfold div32
        have a1 : (Int32.ofInt (ii : Int)).toInt = (ii : Int) := w32_s (by omega) (by omega)
        have a2 : (Int32.ofInt 4).toInt = 4 := by decide
        rw [Int32.toInt_div, a1, a2, Int.tdiv_eq_ediv_of_nonneg (by omega), bmod32 (by omega) (by omega)]
        omega
      rw [q2, if_pos (by decide), if_pos (by omega), if_neg (fun z => z rfl), d4, if_pos (by omega), show (((ii / 4 : Nat) : Int)).toNat = ii / 4 by omega, F.2 666 (by decide), ← m1, m2, ew]
      exact e118
    · have e3' : ([wa, wb].take (btN ii))[j]? = some w := by
        unfold jnS at e3
        rw [if_neg (by omega), if_neg (by omega)] at e3
        exact e3
      rw [if_pos q2, if_pos (by omega), if_pos q3, F.1 872 (by decide), F.1 868 (by decide), wab.1, wab.2]
      have jt : j < btN ii ∧ [wa, wb][j]? = some w := by
        have h := (List.getElem?_eq_some_iff.mp e3').1
        rw [List.length_take] at h
        refine ⟨by omega, ?_⟩
        rw [List.getElem?_take_of_lt (by omega)] at e3'
        exact e3'
      have j2 := (List.getElem?_eq_some_iff.mp jt.2).1
      have j2' : j < 2 := j2
      by_cases j0 : j = 0
      · have ew : wa = w := by have := jt.2; rw [j0] at this; exact Option.some.inj this
        rw [if_neg (by omega), ew]
        exact e118
      · have j1 : j = 1 := by omega
        have ew : wb = w := by have := jt.2; rw [j1] at this; exact Option.some.inj this
        rw [if_pos (by omega), ew]
        exact e118
  -- all
  have loop : ∀ (l : List Nat) (j : Nat) (f : Int) (τ : tS), os.drop j = l → j ≤ os.length → chain σ f l → fr [836] [830, 834] σ τ → gs τ 836 = (j : Int) → (∀ (i : Nat) (w : Nat) (a : Ty × Nat), i < j → (jnS E wa wb kk ii)[i]? = some w → as[i]? = some a → ga τ 830 i = (w : Int) ∧ tyT σ n a.1 (ga τ 834 i)) → ∃ τ', om_loop (T_putAts_31s (nm : Int) (ii : Int)) (f, τ) = some τ' ∧ fr [836] [830, 834] σ τ' ∧ gs τ' 836 = (os.length : Int) ∧ ∀ (i : Nat) (w : Nat) (a : Ty × Nat), i < os.length → (jnS E wa wb kk ii)[i]? = some w → as[i]? = some a → ga τ' 830 i = (w : Int) ∧ tyT σ n a.1 (ga τ' 834 i) := fun l => by
    induction l with
    | nil =>
      intro j f τ hd hj c F ej A
      have jl : os.length ≤ j := List.drop_eq_nil_iff.mp hd
      have f1 : f = -1 := c
      refine ⟨τ, om_loop_out ?_, F, by rw [ej]; omega, fun i w a hi => A i w a (by omega)⟩
      unfold T_putAts_31s
      simp only
      rw [if_pos f1]
    | cons o l ih =>
      intro j f τ hd hj c F ej A
      have eo : os[j]? = some o := by
        have := congrArg (fun z => z[0]?) hd
        simpa using this
      have jl := (List.getElem?_eq_some_iff.mp eo).1
      have ea : as[j]? = some as[j] := List.getElem?_eq_getElem (by omega)
      have ew : (jnS E wa wb kk ii)[j]? = some (jnS E wa wb kk ii)[j] := List.getElem?_eq_getElem (by omega)
      have st := stp j o _ _ τ eo ea ew F ej
      have ef : f = (o : Int) := c.1
      rw [ef, om_loop_in st]
      refine ih (j + 1) (ga σ 562 o) _ (by rw [← List.tail_drop, hd]; rfl) (by omega) c.2 ⟨fun g hg => ?_, fun g hg i => ?_⟩ (by rw [gs_us, if_pos rfl]) (fun i w a hi e1 e2 => ?_)
      · have hg' : g ≠ 836 := by simpa using hg
        rw [gs_us, if_neg hg']
        exact F.1 g hg
      · simp only [List.mem_cons, List.not_mem_nil, or_false, not_or] at hg
        rw [gaus, ga_ua, if_neg (fun z => hg.2 z.1), ga_ua, if_neg (fun z => hg.1 z.1)]
        exact F.2 g (by simpa using hg) i
      · rw [gaus, gaus, ga_ua, if_neg (fun z => absurd z.1 (by decide)), ga_ua, ga_ua]
        by_cases q : i = j
        · rw [if_pos ⟨rfl, q⟩, if_pos ⟨rfl, q⟩]
          rw [q] at e1 e2
          rw [ew] at e1
          exact ⟨by rw [← Option.some.inj e1], (o3 j o a eo e2).2.2⟩
        · rw [if_neg (fun z => q z.2), if_neg (fun z => q z.2), ga_ua, if_neg (fun z => q z.2)]
          exact A i w a (by omega) e1 e2
  obtain ⟨τ', r1, r2, r3, r4⟩ := loop os 0 (ga σ 546 v) (us σ 836 0) rfl (Nat.zero_le _) o1 ⟨fun g hg => by rw [gs_us, if_neg (by simpa using hg)], fun _ _ _ => rfl⟩ (by rw [gs_us, if_pos rfl]; rfl) (fun i w a hi => by omega)
  refine ⟨τ', ?_, r2, ?_, ?_, fun i p e => ?_⟩
  · unfold T_putAts T_nameAt
    rw [if_pos (by omega), show ((v : Int)).toNat = v by omega, k1, if_pos (by omega), show ((k : Int)).toNat = k by omega, k3, Option.bind_some, if_pos (by omega), nn, b2, r1]
    rfl
  · rw [r3, List.length_zip, List.length_map, Nat.min_eq_left (by omega)]
    omega
  · rw [List.length_zip]; omega
  · obtain ⟨e1, e2⟩ := List.getElem?_zip_eq_some.mp e
    rw [List.getElem?_map] at e2
    cases qa : as[i]? with
    | none => rw [qa] at e2; cases e2
    | some a =>
      rw [qa] at e2
      have il := (List.getElem?_eq_some_iff.mp qa).1
      obtain ⟨m1, m2⟩ := r4 i p.1 a (by omega) e1 qa
      rw [← Option.some.inj e2]
      refine ⟨m1, tyT_mono ⟨Nat.le_refl _, fun f hf _ x _ => r2.2 f (fun z => ?_) x⟩ m2⟩
      simp only [List.mem_cons, List.not_mem_nil, or_false] at hf z
      omega
end LJT
