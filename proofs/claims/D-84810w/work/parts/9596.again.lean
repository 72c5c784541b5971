set_option maxRecDepth 100000
/-! THE KEPT PROGRAM IS JUDGED ONCE MORE, in the twin -/
section LAG
variable {G : om_G} {A t : Nat} {S : List Int} {σ : tS} {h0 h2 : om_H} {m0 pr tb : Nat} {Z OldL : Nat → Prop} {fl : List Nat} {Dk : Nat → Prop} {ds : List Nat} {l0 pv Lp te s tm : Nat}
/-- what is kept of a program: how the component read it -/
def KpP (G : om_G) (h0 h2 : om_H) (m0 pr tb t A : Nat) (S : List Int) (Z OldL : Nat → Prop) (fl : List Nat) (Dk : Nat → Prop) (ds : List Nat) (l0 pv Lp te s tm : Nat) : Prop := (S.length ≤ 1300 ∧ ∀ x ∈ S, -128 ≤ x ∧ x ≤ 127) ∧ PS0 G h0 m0 pr tb t A S Z OldL fl Dk ds l0 pv Lp te s tm ∧ ((Cst G h0 t S 0 0 ∧ fR h0 1122 t = A) ∧ PL G h0 pr t Z ∧ ∀ f ∈ PFs, ll h0 (fR h0 f pr) = []) ∧ cRun G m0 pr t (S.length : Int) h0 = some (.inr (), h2)
/-- ONCE MORE: the same comes of it -/
theorem again_prog (hG : om_okG G) (hI : intO G) (wo : whyO G) (K : KpP G h0 h2 m0 pr tb t A S Z OldL fl Dk ds l0 pv Lp te s tm) (hT : ∀ (i : Nat) (x : Int), S[i]? = some x → ga σ 410 i = x) (NB : NodB σ) : ∃ (σe : tS) (m : Nat) (N : List (List Int)) (h1 : om_H), T_isProgram 410 (S.length : Int) σ = some (1, σe) ∧ (fr PTS PTA σ σe ∧ NodB σe) ∧ gs σe 452 = 0 ∧ PrT G A S m N pr tb (hz h0) Lp l0 pv te s tm OldL fl h1 h2 σe := by
  obtain ⟨⟨hS, hb⟩, C0, ⟨⟨Ct, eA⟩, PL0, PC0⟩, e⟩ := K
  obtain ⟨v, σe, r, h2', x1, x2, _, Ft, x3⟩ := prog_both (σ := σ) (f1 := 410) hG hI wo twi_410 (by decide) (by decide) hS hb hT NB C0 Ct eA PL0 PC0
  have er : (r, h2') = (.inr (), h2) := Option.some.inj (x2.symm.trans e)
  injection er with e1 e2
  rcases x3 with ⟨k, p, a, _, _, w, _⟩ | ⟨v1, _, g0, m, N, h1, J⟩
  · rw [e1] at w; cases w
  · rw [v1] at x1
    rw [e2] at J
    exact ⟨σe, m, N, h1, x1, Ft, g0, J⟩
/-- behind a text that was not right: nothing was kept -/
theorem again_none (e443 : gs σ 443 = 0) (e447 : gs σ 447 = 0) : T_again 1 σ = some (us (us (us σ 1048 (w32 ((gs σ 1048) + 1))) 460 (gs σ 452)) 464 (gs σ 456)) := by
  have g1 : gs (us (us (us σ 1048 (w32 ((gs σ 1048) + 1))) 460 (gs σ 452)) 464 (gs σ 456)) 443 = 0 := by rw [gs_us, if_neg (by decide), gs_us, if_neg (by decide), gs_us, if_neg (by decide)]; exact e443
  have g2 : gs (us (us (us σ 1048 (w32 ((gs σ 1048) + 1))) 460 (gs σ 452)) 464 (gs σ 456)) 447 = 0 := by rw [gs_us, if_neg (by decide), gs_us, if_neg (by decide), gs_us, if_neg (by decide)]; exact e447
  unfold T_again
  rw [if_neg (by decide)]
  unfold T_again_32
  rw [if_pos g1]
  unfold T_again_52
  rw [if_pos g2]
/-- a program was kept, no ask -/
theorem again_kept (hG : om_okG G) (hI : intO G) (wo : whyO G) (K : KpP G h0 h2 m0 pr tb t A S Z OldL fl Dk ds l0 pv Lp te s tm) (hT : ∀ (i : Nat) (x : Int), S[i]? = some x → ga σ 410 i = x) (NB : NodB σ) (e443 : gs σ 443 = 1) (e424 : gs σ 424 = (S.length : Int)) (e447 : gs σ 447 = 0) : ∃ (σe : tS) (m : Nat) (N : List (List Int)) (h1 : om_H), T_again 1 σ = some σe ∧ (fr PTS PTA (us (us (us σ 1048 (w32 ((gs σ 1048) + 1))) 460 (gs σ 452)) 464 (gs σ 456)) σe ∧ NodB σe) ∧ gs σe 452 = 0 ∧ PrT G A S m N pr tb (hz h0) Lp l0 pv te s tm OldL fl h1 h2 σe := by
  obtain ⟨σs, eσ⟩ : ∃ σs, σs = us (us (us σ 1048 (w32 ((gs σ 1048) + 1))) 460 (gs σ 452)) 464 (gs σ 456) := ⟨_, rfl⟩
  have sg : ∀ f, f ≠ 1048 → f ≠ 460 → f ≠ 464 → gs σs f = gs σ f := fun f n1 n2 n3 => by rw [eσ, gs_us, if_neg n3, gs_us, if_neg n2, gs_us, if_neg n1]
  obtain ⟨σe, m, N, h1, x1, x2, x3, x4⟩ := again_prog (σ := σs) hG hI wo K (fun i x ex => by rw [eσ]; exact hT i x ex) (fun i => by rw [eσ]; exact NB i)
  refine ⟨σe, m, N, h1, ?_, by rw [← eσ]; exact x2, x3, x4⟩
  unfold T_again
  rw [if_neg (by decide), ← eσ]
  unfold T_again_32
  rw [if_neg (by rw [sg 443 (by decide) (by decide) (by decide), e443]; decide), sg 424 (by decide) (by decide) (by decide), e424, x1, Option.bind_some]
  unfold T_again_52
  rw [if_pos (by rw [x2.1.1 447 (by decide), sg 447 (by decide) (by decide) (by decide)]; exact e447)]
end LAG
