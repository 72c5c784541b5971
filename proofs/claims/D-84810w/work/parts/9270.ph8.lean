set_option maxRecDepth 100000
/-! PHASE ONE in the twin: a class with its head -/
/-- the row of a class: its declaration d, its tokens; Kp what stood ahead of it -/
def cRow (S : List Int) (N : List (List Int)) (σ : tS) (i d jn jv : Nat) (ab fam : Option Nat) (Kp : KT) (tg : List (List Int)) (Fm : FT) : Prop := ga σ 658 i = (d : Int) ∧ (∃ w : Nat, N[w]? = some (tokw S jn) ∧ ga σ 662 i = (w : Int)) ∧ (∃ w : Nat, N[w]? = some (tokw S jv) ∧ ga σ 666 i = (w : Int)) ∧ ga σ 670 i = oI (ab.elim none (fun a => FI Prod.fst (tokw S a) Kp)) ∧ famT S N (nwG S tg jn) fam (ga σ 674 i) ∧ MNm N i Fm σ
/-- breaks at the class above -/
def abB (S : List Int) (Kp : KT) (ab : Option Nat) : List Int := ab.elim [] (fun a => if FI Prod.fst (tokw S a) Kp = none then [(tokq S a : Int)] else [])
section LPE
variable {S : List Int} {N : List (List Int)} {b m j d jn jv : Nat} {σ τ υ : tS} {K : KT} {F Fm : FT} {Ms : List FT} {tg tn : List (List Int)} {L : List Int} {w c : Nat} {ab fam : Option Nat} {ns js : List Nat}
/-- a class that stands is found by its name -/
theorem GL_2 (A : GL σ N K) (hw : N[w]? = some L) : (ga σ 630 w = 2 → ∃ c : Nat, FI Prod.fst L K = some c ∧ ga σ 634 w = (c : Int) ∧ c < 8) ∧ (ga σ 630 w ≠ 2 → FI Prod.fst L K = none) := by
  rcases (A w L hw).2 with h | ⟨c, h⟩ | ⟨c, h⟩ | ⟨c, h⟩
  · exact ⟨fun z => by rw [h.1] at z; exact absurd z (by decide), fun _ => h.2.2.1⟩
  · exact ⟨fun z => by rw [h.1] at z; exact absurd z (by decide), fun _ => h.2.2.2.2.1⟩
  · exact ⟨fun _ => ⟨c, h.2.2.2.2.1, h.2.1, h.2.2.1⟩, fun z => absurd h.1 z⟩
  · exact ⟨fun z => by rw [h.1] at z; exact absurd z (by decide), fun _ => h.2.2.2.2.1⟩
/-- above, then what stands behind -/
theorem t_stand137 (hS : S.length ≤ 2000) (hd : d < 700) (hc : c < 8) (T : TT σ N S b m) (A : GT σ N K tg) (ea : ga σ 586 d = oT b ab) (ka : ∀ a ∈ ab, tokk S a = 3) (g670 : ga σ 670 c = -1) (hf : gs σ 452 = 0 ∨ gs σ 452 = 2) : ∃ υ, (if ga σ 586 d = -1 then T_stand_184 (d : Int) (c : Int) σ else T_stand_137 (d : Int) (c : Int) σ) = T_stand_184 (d : Int) (c : Int) υ ∧ fr [452, 456] [670] σ υ ∧ (∀ i, i ≠ c → ga υ 670 i = ga σ 670 i) ∧ (gs υ 452 = 0 ∨ gs υ 452 = 2) ∧ bp υ = mnl (bp σ) (abB S K ab) ∧ ga υ 670 c = oI (ab.elim none (fun a => FI Prod.fst (tokw S a) K)) := by
  have d7 : (0 : Int) ≤ (d : Int) ∧ (d : Int) < 700 := by omega
  rw [ea]
  cases ab with
  | none =>
    refine ⟨σ, by rw [if_pos (show oT b none = -1 from rfl)], fr_refl _ _ _, fun _ _ => rfl, hf, rfl, g670⟩
  | some a =>
    obtain ⟨w, w1, w2, w3⟩ := t_nameAt T (.inr (ka a rfl))
    have w4 := GT_w A w2
    have gl := GL_2 A.1 w2
    have ea' : ga σ 586 d = ((b + a : Nat) : Int) := ea
    rw [if_neg (show ¬ (oT b (some a) = -1) by show ¬ (((b + a : Nat) : Int) = -1); omega)]
    unfold T_stand_137
    rw [if_pos d7, Int.toNat_natCast, ea', w1]
    simp only [Option.bind_some]
    rw [if_pos ⟨by omega, by omega⟩, Int.toNat_natCast]
    by_cases q : ga σ 630 w = 2
    · obtain ⟨c', c1, c2, c3⟩ := gl.1 q
      rw [if_neg (fun z => z q), if_pos ⟨by omega, by omega, by omega, by omega⟩, Int.toNat_natCast, c2]
      refine ⟨ua σ 670 c (c' : Int), rfl, fr_ua (fr_refl _ _ _) (by simp), fun i hi => by rw [ga_ua, if_neg (fun z => hi z.2)], hf, ?_, ?_⟩
      · show bp σ = mnl (bp σ) (if FI Prod.fst (tokw S a) K = none then [(tokq S a : Int)] else [])
        rw [if_neg (by rw [c1]; simp)]; rfl
      · rw [ga_ua, if_pos ⟨rfl, rfl⟩]
        show (c' : Int) = oI (FI Prod.fst (tokw S a) K)
        rw [c1]; rfl
    · obtain ⟨τ, e1, e2, e3, e4⟩ := t_breaks T (j := a) (by omega) hS (w := 2) (by decide)
      have n := gl.2 q
      rw [if_pos q, if_pos d7, e1]
      refine ⟨τ, rfl, fr_wide e2 (by simp) (by simp), fun i _ => e2.2 670 (by simp) i, .inr e3, ?_, ?_⟩
      · show bp τ = mnl (bp σ) (if FI Prod.fst (tokw S a) K = none then [(tokq S a : Int)] else [])
        rw [if_pos n, e4]; rfl
      · show ga τ 670 c = oI (FI Prod.fst (tokw S a) K)
        rw [e2.2 670 (by simp), g670, n]; rfl
end LPE
