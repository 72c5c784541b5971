set_option maxRecDepth 100000
/-! PHASE ONE in the twin: a class's head -/
section LPF
variable {S : List Int} {N : List (List Int)} {b m j d jn jv : Nat} {σ τ υ : tS} {K : KT} {F Fm : FT} {Ms : List FT} {tg tn : List (List Int)} {L : List Int} {w c : Nat} {ab fam : Option Nat} {ns js : List Nat}
abbrev HA : List Nat := [658, 662, 666, 670, 674, 678]
/-- two writes of a class's row -/
theorem ua2 {f g : Nat} {x y : Int} (h : f ≠ g) : (ga (ua (ua σ f c x) g c y) f c = x ∧ ga (ua (ua σ f c x) g c y) g c = y) ∧ (∀ i, i ≠ c → ∀ k, ga (ua (ua σ f c x) g c y) k i = ga σ k i) ∧ (∀ k, k ≠ f → k ≠ g → ∀ i, ga (ua (ua σ f c x) g c y) k i = ga σ k i) ∧ ∀ k, gs (ua (ua σ f c x) g c y) k = gs σ k := by
  refine ⟨⟨?_, ?_⟩, fun i hi k => ?_, fun k h1 h2 i => ?_, fun k => rfl⟩
  · rw [ga_ua, if_neg (fun z => h z.1), ga_ua, if_pos ⟨rfl, rfl⟩]
  · rw [ga_ua, if_pos ⟨rfl, rfl⟩]
  · rw [ga_ua, if_neg (fun z => hi z.2), ga_ua, if_neg (fun z => hi z.2)]
  · rw [ga_ua, if_neg (fun z => h2 z.1), ga_ua, if_neg (fun z => h1 z.1)]
theorem t_clhead (hc : c < 8) (hd : d < 700) (T : TT σ N S b m) (e0 : ga σ 570 d = 5) (ec : gs σ 644 = (c : Int)) (en : ga σ 578 d = ((b + jn : Nat) : Int)) (kn : tokk S jn = 3) (ev : ga σ 582 d = ((b + jv : Nat) : Int)) (kv : tokk S jv = 2) :
    ∃ υ, T_stand (d : Int) σ = (if ga υ 586 d = -1 then T_stand_184 (d : Int) (c : Int) υ else T_stand_137 (d : Int) (c : Int) υ) ∧ fr [644] HA σ υ ∧ gs υ 644 = (c : Int) + 1 ∧ (∀ f i, i ≠ c → ga υ f i = ga σ f i) ∧ ga υ 658 c = (d : Int) ∧ (∃ w : Nat, N[w]? = some (tokw S jn) ∧ ga υ 662 c = (w : Int)) ∧ (∃ w : Nat, N[w]? = some (tokw S jv) ∧ ga υ 666 c = (w : Int)) ∧ ga υ 670 c = -1 ∧ ga υ 674 c = -1 ∧ ga υ 678 c = 0 := by
  have d7 : (0 : Int) ≤ (d : Int) ∧ (d : Int) < 700 := by omega
  have c8 : (0 : Int) ≤ (c : Int) ∧ (c : Int) < 8 := by omega
  obtain ⟨w, w1, w2, w3⟩ := t_nameAt T (.inr kn)
  obtain ⟨v, v1, v2, v3⟩ := t_nameAt T (.inl kv)
  have nA : ∀ (x : Int) (ρ : tS), (∀ f i, f ≠ 658 → f ≠ 662 → ga ρ f i = ga σ f i) → T_nameAt x ρ = T_nameAt x σ := by
    intro x ρ h
    unfold T_nameAt
    rw [h 482 _ (by decide) (by decide)]
  unfold T_stand
  rw [if_pos d7, Int.toNat_natCast, if_neg (fun z => z e0), ec, if_pos (by omega), if_pos ⟨c8.1, c8.2, d7⟩, Int.toNat_natCast, w32_s (by omega) (by omega)]
  have s1 : gs (us σ 644 ((c : Int) + 1)) 644 = (c : Int) + 1 := by rw [gs_us, if_pos rfl]
  have s2 : ∀ f, f ≠ 644 → gs (us σ 644 ((c : Int) + 1)) f = gs σ f := fun f h => by rw [gs_us, if_neg h]
  have s3 : ∀ f i, ga (us σ 644 ((c : Int) + 1)) f i = ga σ f i := fun f i => rfl
  generalize us σ 644 ((c : Int) + 1) = σ1 at *
  rw [nA _ (ua σ1 658 c (d : Int)) (fun f i h1 h2 => by rw [ga_ua, if_neg (fun z => h1 z.1), s3]), en, w1]
  simp only [Option.bind_some]
  unfold T_stand_89
  have u1 := ua2 (σ := σ1) (c := c) (f := 658) (g := 662) (x := (d : Int)) (y := (w : Int)) (by decide)
  rw [if_pos ⟨c8.1, c8.2, d7⟩, Int.toNat_natCast, Int.toNat_natCast]
  generalize ua (ua σ1 658 c (d : Int)) 662 c (w : Int) = σ2 at *
  have a2 : ∀ f i, f ≠ 658 → f ≠ 662 → ga σ2 f i = ga σ f i := fun f i h1 h2 => by rw [u1.2.2.1 f h1 h2, s3]
  rw [show ga (ua σ1 658 c (d : Int)) 582 d = ga σ 582 d by rw [ga_ua, if_neg (fun z => absurd z.1 (by decide)), s3], nA _ σ2 a2, ev, v1]
  simp only [Option.bind_some]
  unfold T_stand_105
  rw [if_pos ⟨c8.1, c8.2, c8.1, c8.2, d7⟩, Int.toNat_natCast, Int.toNat_natCast]
  have u2 := ua2 (σ := σ2) (c := c) (f := 666) (g := 670) (x := (v : Int)) (y := -1) (by decide)
  generalize ua (ua σ2 666 c (v : Int)) 670 c (-1) = σ3 at *
  have u3 := ua2 (σ := σ3) (c := c) (f := 674) (g := 678) (x := -1) (y := 0) (by decide)
  generalize ua (ua σ3 674 c (-1)) 678 c 0 = υ at *
  have e586 : ga υ 586 d = ga σ2 586 d := by rw [u3.2.2.1 586 (by decide) (by decide), u2.2.2.1 586 (by decide) (by decide)]
  refine ⟨υ, by rw [e586], ⟨fun f hf => ?_, fun f hf i => ?_⟩, ?_, fun f i hi => ?_, ?_, ⟨w, w2, ?_⟩, ⟨v, v2, ?_⟩, ?_, u3.1.1, u3.1.2⟩
  · rw [u3.2.2.2, u2.2.2.2, u1.2.2.2, s2 f (fun z => hf (by rw [z]; simp))]
  · simp only [List.mem_cons, List.not_mem_nil, or_false] at hf
    rw [u3.2.2.1 f (by omega) (by omega), u2.2.2.1 f (by omega) (by omega), u1.2.2.1 f (by omega) (by omega), s3]
  · rw [u3.2.2.2, u2.2.2.2, u1.2.2.2, s1]
  · rw [u3.2.1 i hi, u2.2.1 i hi, u1.2.1 i hi, s3]
  · rw [u3.2.2.1 658 (by decide) (by decide), u2.2.2.1 658 (by decide) (by decide), u1.1.1]
  · rw [u3.2.2.1 662 (by decide) (by decide), u2.2.2.1 662 (by decide) (by decide), u1.1.2]
  · rw [u3.2.2.1 666 (by decide) (by decide), u2.1.1]
  · rw [u3.2.2.1 670 (by decide) (by decide), u2.1.2]
end LPF
