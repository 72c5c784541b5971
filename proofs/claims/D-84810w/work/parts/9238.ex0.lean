set_option maxRecDepth 100000
/-! EXS BECOME KNOWN: what both have meanwhile -/
abbrev FT : Type := List (Option (List Int))
/-- names of terms that stand for something, in the twin -/
def TLk (σ : tS) (N : List (List Int)) (F : FT) (Ms : List FT) : Prop := ∀ (w : Nat) (L : List Int), N[w]? = some L → (ga σ 638 w = 0 ↔ btI L = none ∧ FI id L F = none ∧ MI L Ms = none)
/-- names that are bound, in both -/
def bdL (N : List (List Int)) (bd : List Nat) (bLs : List (List Int)) : Prop := bd.length = bLs.length ∧ ∀ (i w : Nat) (L : List Int), bd[i]? = some w → bLs[i]? = some L → N[w]? = some L
/-- lists that are not written: the program's -/
def nLs (h : om_H) (pr tb Lb : Nat) (cs : List Nat) (Ln : Nat) : Prop := (Lb ≠ fR h 122 tb ∧ Lb ≠ fR h 82 pr ∧ Lb ≠ fR h 90 pr ∧ Lb ≠ Ln ∧ ∀ c ∈ cs, fR h 1230 c ≠ Lb) ∧ fR h 90 pr ≠ fR h 122 tb ∧ ∀ c ∈ cs, fR h 1230 c ≠ fR h 122 tb
/-- the component, while exs become known -/
def EC (G : om_G) (A : Nat) (S : List Int) (N : List (List Int)) (cs : List Nat) (K : KT) (pr Ln : Nat) (Ls : List (List Int)) (tb : Nat) (rest : List (Nat × List Nat)) (fo : List Nat) (F : FT) (mo : List (List Nat)) (Ms : List FT) (rs so Lb : Nat) (h : om_H) (us fs : List Nat) (bLs : List (List Int)) : Prop :=
  KC G A S N cs K pr Ln Ls tb rest h us fs ∧ FNS h pr cs fo F mo Ms ∧ (kd h rs = 35 ∧ rs < hz h ∧ fR h 1598 rs = pr ∧ fR h 1602 rs = so ∧ fR h 1606 rs = tb ∧ fR h 1610 rs = Lb) ∧ (kd h so = 5 ∧ so < hz h ∧ fR h 162 so = Ln) ∧ (okW G h Lb ∧ WL h (ll h Lb) bLs ∧ bLs.length ≤ 600 ∧ lc h Lb ≤ 20000) ∧ nLs h pr tb Lb cs Ln
/-- the twin -/
def EU (S : List Int) (b m : Nat) (N : List (List Int)) (K : KT) (sc : List Nat) (F : FT) (Ms : List FT) (σ : tS) (n : Nat) (bd : List Nat) (sp : Nat) : Prop := KU S b m N K sc σ n ∧ (gs σ 788 = (bd.length : Int) ∧ ∀ i v : Nat, bd[i]? = some v → ga σ 782 i = (v : Int)) ∧ gs σ 856 = (sp : Int) ∧ TLk σ N F Ms
/-- what the component may write -/
def EP (h : om_H) (pr Lb alo ahi : Nat) (y : Nat) : Prop := y = pr ∨ y = Lb ∨ (alo ≤ y ∧ y < ahi ∧ (kd h y = 24 ∨ kd h y = 25 ∨ kd h y = 28))
/-- a step of the component -/
def SE (G : om_G) (A : Nat) (S : List Int) (N : List (List Int)) (cs : List Nat) (K : KT) (pr Ln : Nat) (Ls : List (List Int)) (tb : Nat) (rest : List (Nat × List Nat)) (fo : List Nat) (F : FT) (mo : List (List Nat)) (Ms : List FT) (rs so Lb : Nat) (bLs : List (List Int)) (alo ahi : Nat) (h : om_H) (us fs : List Nat) (h' : om_H) (us' fs' : List Nat) (q : Nat) (X : Int) : Prop :=
  EC G A S N cs K pr Ln Ls tb rest fo F mo Ms rs so Lb h' us' fs' bLs ∧ CS (EP h pr Lb alo ahi) N (clF cs) tb rest h us fs h' us' fs' q (6 * q) (20 * q + 4 * (lc h' Lb - lc h Lb)) ∧ (lc h Lb ≤ lc h' Lb ∧ lc h' Lb ≤ max (lc h Lb) (2 * (bLs.length + 2 * q) + 10) ∧ ll h' Lb = ll h Lb) ∧ hs alo ahi h h' ∧ ((∀ f, f ≠ 112 → fI h' f pr = fI h f pr) ∧ ∀ f, fR h' f pr = fR h f pr) ∧ fI h' 112 pr = min (fI h 112 pr) X
/-- a step of the twin -/
def SU (S : List Int) (b m : Nat) (N : List (List Int)) (K : KT) (sc : List Nat) (F : FT) (Ms : List FT) (bd : List Nat) (sp lo hi : Nat) (σ : tS) (n : Nat) (τ : tS) (n' q : Nat) (X : Int) : Prop :=
  EU S b m N K sc F Ms τ n' bd sp ∧ fr [452, 456, 532, 788, 856] (550 :: 782 :: 850 :: TYA) σ τ ∧ (∀ i, (lo ≤ i ∧ i < hi ∧ ga σ 538 i ∈ [10, 13, 14, 15, (19 : Int)]) ∨ ga τ 550 i = ga σ 550 i) ∧ (∀ i, i < bd.length → ga τ 782 i = ga σ 782 i) ∧ (∀ i, i < sp → ga τ 850 i = ga σ 850 i) ∧ tx σ n τ n' ∧ n' ≤ n + q ∧ bp τ = min (bp σ) X
section LE0
variable {G : om_G} {A : Nat} {S : List Int} {b m : Nat} {N : List (List Int)} {cs : List Nat} {K : KT} {pr Ln : Nat} {Ls : List (List Int)} {sc : List Nat} {tb : Nat} {rest : List (Nat × List Nat)} {fo : List Nat} {F : FT} {mo : List (List Nat)} {Ms : List FT} {rs so Lb : Nat} {bLs : List (List Int)} {bd : List Nat}
variable {h h' h2 : om_H} {us fs us' fs' us2 fs2 : List Nat} {σ τ υ : tS} {n n' n2 q q2 lo hi alo ahi sp : Nat} {X X2 : Int}
theorem hs_refl : hs alo ahi h h := fun _ _ _ => ⟨rfl, fun _ _ => rfl, fun _ _ => rfl, rfl⟩
theorem hs_trans (A1 : hs alo ahi h h') (B1 : hs alo ahi h' h2) : hs alo ahi h h2 := fun a c d => ⟨(B1 a c d).1.trans (A1 a c d).1, fun f hf => ((B1 a c d).2.1 f hf).trans ((A1 a c d).2.1 f hf), fun f hf => ((B1 a c d).2.2.1 f hf).trans ((A1 a c d).2.2.1 f hf), (B1 a c d).2.2.2.trans (A1 a c d).2.2.2⟩
theorem SE_refl (H : EC G A S N cs K pr Ln Ls tb rest fo F mo Ms rs so Lb h us fs bLs) : SE G A S N cs K pr Ln Ls tb rest fo F mo Ms rs so Lb bLs alo ahi h us fs h us fs 0 2147483647 := ⟨H, CS_refl, ⟨Nat.le_refl _, by omega, rfl⟩, hs_refl, ⟨fun _ _ => rfl, fun _ => rfl⟩, by have := H.1.2.2.1.2.2; omega⟩
theorem SE_le (C : SE G A S N cs K pr Ln Ls tb rest fo F mo Ms rs so Lb bLs alo ahi h us fs h' us' fs' q X) (hq : q ≤ q2) : SE G A S N cs K pr Ln Ls tb rest fo F mo Ms rs so Lb bLs alo ahi h us fs h' us' fs' q2 X := ⟨C.1, CS_le C.2.1 hq (by omega) (by omega), ⟨C.2.2.1.1, by have := C.2.2.1.2.1; omega, C.2.2.1.2.2⟩, C.2.2.2⟩
theorem SE_trans (A1 : SE G A S N cs K pr Ln Ls tb rest fo F mo Ms rs so Lb bLs alo ahi h us fs h' us' fs' q X) (B1 : SE G A S N cs K pr Ln Ls tb rest fo F mo Ms rs so Lb bLs alo ahi h' us' fs' h2 us2 fs2 q2 X2) : SE G A S N cs K pr Ln Ls tb rest fo F mo Ms rs so Lb bLs alo ahi h us fs h2 us2 fs2 (q + q2) (min X X2) := by
  obtain ⟨a1, a2, a3, a4, a5, a6⟩ := A1
  obtain ⟨b1, b2, b3, b4, b5, b6⟩ := B1
  refine ⟨b1, CS_le (CS_trans a2 b2 (fun y hy z => ?_)) (Nat.le_refl _) (by omega) (by omega), ⟨by omega, by omega, b3.2.2.trans a3.2.2⟩, hs_trans a4 b4, ⟨fun f hf => (b5.1 f hf).trans (a5.1 f hf), fun f => (b5.2 f).trans (a5.2 f)⟩, by omega⟩
  rcases z with z | z | ⟨z1, z2, z3⟩
  · exact .inl z
  · exact .inr (.inl z)
  · exact .inr (.inr ⟨z1, z2, by rw [a2.1.2.2.1 y hy] at z3; exact z3⟩)
theorem SU_refl (H : EU S b m N K sc F Ms σ n bd sp) : SU S b m N K sc F Ms bd sp lo hi σ n σ n 0 2147483647 := ⟨H, fr_refl _ _ _, fun _ => .inr rfl, fun _ _ => rfl, fun _ _ => rfl, tx_refl _ _, by omega, by have := H.1.2.2.2.2.2; omega⟩
theorem SU_le (C : SU S b m N K sc F Ms bd sp lo hi σ n τ n' q X) (hq : q ≤ q2) : SU S b m N K sc F Ms bd sp lo hi σ n τ n' q2 X := ⟨C.1, C.2.1, C.2.2.1, C.2.2.2.1, C.2.2.2.2.1, C.2.2.2.2.2.1, by have := C.2.2.2.2.2.2.1; omega, C.2.2.2.2.2.2.2⟩
theorem SU_ga (C : SU S b m N K sc F Ms bd sp lo hi σ n τ n' q X) {f : Nat} (hf : f ∉ 550 :: 782 :: 850 :: TYA) (i : Nat) : ga τ f i = ga σ f i := C.2.1.2 f hf i
theorem SU_trans (A1 : SU S b m N K sc F Ms bd sp lo hi σ n τ n' q X) (B1 : SU S b m N K sc F Ms bd sp lo hi τ n' υ n2 q2 X2) : SU S b m N K sc F Ms bd sp lo hi σ n υ n2 (q + q2) (min X X2) := by
  obtain ⟨a1, a2, a3, a4, a5, a6, a7, a8⟩ := A1
  obtain ⟨b1, b2, b3, b4, b5, b6, b7, b8⟩ := B1
  refine ⟨b1, fr_trans a2 b2, fun i => ?_, fun i hi => (b4 i hi).trans (a4 i hi), fun i hi => (b5 i hi).trans (a5 i hi), tx_trans a6 b6, by omega, by omega⟩
  rcases b3 i with z | z
  · exact .inl ⟨z.1, z.2.1, by rw [a2.2 538 (by decide)] at z; exact z.2.2⟩
  · rcases a3 i with y | y
    · exact .inl y
    · exact .inr (z.trans y)
/-- within a wider range -/
theorem SE_wide {alo' ahi' : Nat} (C : SE G A S N cs K pr Ln Ls tb rest fo F mo Ms rs so Lb bLs alo ahi h us fs h' us' fs' q X) (h1 : alo' ≤ alo) (h2 : ahi ≤ ahi') (hA : ahi' ≤ hz h) (dd : ∀ y, (DT h tb fs y ∨ y = pr ∨ y = Lb) → y < alo' ∨ ahi' ≤ y) : SE G A S N cs K pr Ln Ls tb rest fo F mo Ms rs so Lb bLs alo' ahi' h us fs h' us' fs' q X := by
  obtain ⟨a1, a2, a3, a4, a5, a6⟩ := C
  refine ⟨a1, CS_mono a2 (fun y hy z => ?_), a3, fun y c d => ?_, a5, a6⟩
  · rcases z with z | z | ⟨z1, z2, z3⟩
    · exact .inl z
    · exact .inr (.inl z)
    · exact .inr (.inr ⟨by omega, by omega, z3⟩)
  · by_cases r : alo ≤ y ∧ y < ahi
    · exact a4 y r.1 r.2
    · have e := a2.1.2.2.2 y (by omega) (fun z => by
        rcases z with z | z | z | z
        · have := dd y (.inl z); omega
        · have := dd y (.inr (.inl z)); omega
        · have := dd y (.inr (.inr z)); omega
        · omega)
      exact ⟨e.1, fun f _ => e.2.1 f, fun f _ => e.2.2.1 f, e.2.2.2.2.2.2.1⟩
theorem SU_wide {lo' hi' : Nat} (C : SU S b m N K sc F Ms bd sp lo hi σ n τ n' q X) (h1 : lo' ≤ lo) (h2 : hi ≤ hi') : SU S b m N K sc F Ms bd sp lo' hi' σ n τ n' q X := by
  obtain ⟨a1, a2, a3, a4⟩ := C
  refine ⟨a1, a2, fun i => ?_, a4⟩
  rcases a3 i with z | z
  · exact .inl ⟨by omega, by omega, z.2.2⟩
  · exact .inr z
/-- nodes elsewhere are as they were -/
theorem SU_nall {lo' hi' : Nat} (C : SU S b m N K sc F Ms bd sp lo hi σ n τ n' q X) (d : hi' ≤ lo ∨ hi ≤ lo') : nall lo' hi' σ τ := by
  intro f hf i c1 c2
  by_cases e : f = 550
  · subst e
    rcases C.2.2.1 i with z | z
    · omega
    · exact z
  · exact SU_ga C (by simp only [List.mem_cons, List.not_mem_nil, or_false] at hf ⊢; omega) i
theorem SU_nss {lo' hi' : Nat} (C : SU S b m N K sc F Ms bd sp lo hi σ n τ n' q X) : nss lo' hi' σ τ := by
  intro i c1 c2
  refine ⟨fun f hf => SU_ga C (by simp only [List.mem_cons, List.not_mem_nil, or_false] at hf ⊢; omega) i, fun _ => SU_ga C (by decide) i, fun z => ?_⟩
  rcases C.2.2.1 i with y | y
  · exact absurd y.2.2 z
  · exact y
/-- what is written lies elsewhere -/
def djE (h : om_H) (tb : Nat) (fs : List Nat) (pr Lb alo ahi : Nat) : Prop := ∀ y, (DT h tb fs y ∨ y = pr ∨ y = Lb) → y < alo ∨ ahi ≤ y
theorem djE_step {alo' ahi' : Nat} (D : djE h tb fs pr Lb alo ahi) (C : SE G A S N cs K pr Ln Ls tb rest fo F mo Ms rs so Lb bLs alo' ahi' h us fs h' us' fs' q X) (hA : ahi ≤ hz h) : djE h' tb fs' pr Lb alo ahi := by
  intro y hy
  have k1 := C.2.1.2.2.2.2.1.2
  rcases hy with (z | z | z | z) | z
  · exact D y (.inl (.inl z))
  · rw [k1] at z; exact D y (.inl (.inr (.inl z)))
  · rw [k1] at z; exact D y (.inl (.inr (.inr (.inl z))))
  · rcases C.2.1.2.2.1 y z with z | z
    · exact D y (.inl (.inr (.inr (.inr z))))
    · exact .inr (by omega)
  · exact D y (.inr z)
theorem djE_sub {alo' ahi' : Nat} (D : djE h tb fs pr Lb alo ahi) (h1 : alo ≤ alo') (h2 : ahi' ≤ ahi) : djE h tb fs pr Lb alo' ahi' := fun y hy => by have := D y hy; omega
/-- addresses elsewhere are as they were -/
theorem SE_hk {alo' ahi' : Nat} (D : djE h tb fs pr Lb alo' ahi') (C : SE G A S N cs K pr Ln Ls tb rest fo F mo Ms rs so Lb bLs alo ahi h us fs h' us' fs' q X) (hA : ahi' ≤ hz h) (d : ahi' ≤ alo ∨ ahi ≤ alo') : hk alo' ahi' h h' := fun a h1 h2 => by
  have e := C.2.1.1.2.2.2 a (by omega) (fun z => by
    rcases z with z | z | z | z
    · have := D a (.inl z); omega
    · have := D a (.inr (.inl z)); omega
    · have := D a (.inr (.inr z)); omega
    · omega)
  exact ⟨e.1, e.2.1, e.2.2.1, e.2.2.2.2.2.2.1, e.2.2.2.2.2.2.2⟩
/-- an ex that is not known yet, later -/
theorem X0_step {k lo' hi' alo' ahi' a v : Nat} (W : X0 G A S b h σ k lo' hi' alo' ahi' a v) (D : djE h tb fs pr Lb alo' ahi') (C : SE G A S N cs K pr Ln Ls tb rest fo F mo Ms rs so Lb bLs alo ahi h us fs h' us' fs' q X) (hA : ahi' ≤ hz h) (d : ahi' ≤ alo ∨ ahi ≤ alo') (C2 : SU S b m N K sc F Ms bd sp lo hi σ n τ n' q2 X2) (d2 : hi' ≤ lo ∨ hi ≤ lo') : X0 G A S b h' τ k lo' hi' alo' ahi' a v := by
  have K1 := SE_hk D C hA d
  have L1 := SU_nall C2 d2
  exact XR_keep W ⟨fun a c1 c2 => ⟨(K1 a c1 c2).1, fun f _ => (K1 a c1 c2).2.1 f, fun f _ => (K1 a c1 c2).2.2.1 f, (K1 a c1 c2).2.2.2.1⟩, SU_nss C2, Psi0_keep K1 L1⟩
end LE0
