set_option maxRecDepth 100000
/-! THE TWIN JUDGES: what there is, what comes of it -/
def jct (E : JE) : Xt → Nat
  | .leaf => 0
  | .inner t lb _ l r => (if t = 10 then (if lb.2.2.2.2.2 = [] then 0 else jC E lb) else if t = 14 then 1 else 0) + jct E l + jct E r
/-- names bound in one another -/
def xbd : Xt → Nat
  | .leaf => 0
  | .inner t _ _ l r => (if t = 14 ∨ t = 15 then 1 else if t = 17 then 2 else 0) + max (xbd l) (xbd r)
/-- exs in one another -/
def xrd : Xt → Nat
  | .leaf => 0
  | .inner t _ _ l r => if t = 12 ∨ t = 13 ∨ t = 18 then max (xrd l) (1 + xrd r) else if t = 0 then max (xrd l) (xrd r) else 1 + max (xrd l) (xrd r)
def NodB (σ : tS) : Prop := ∀ i, -1 ≤ ga σ 842 i ∧ ga σ 842 i < 126000
def JFr (σ σ' : tS) (lo hi g sp : Nat) : Prop := fr JFS JFA σ σ' ∧ (∀ i, (i < lo ∨ hi ≤ i) → ga σ' 842 i = ga σ 842 i ∧ ga σ' 846 i = ga σ 846 i) ∧ (∀ i, i < g → ga σ' 854 i = ga σ 854 i) ∧ ∀ i, i < sp → ga σ' 850 i = ga σ 850 i
def JSt (σ : tS) (n : Nat) (E : JE) (Γ : List Ty) (s : JS) (sp : Nat) : Prop := (TyS σ n ∧ JTE σ n E) ∧ GmT σ n Γ ∧ gs σ 452 = 0 ∧ (gs σ 812 = (s.1 : Int) ∧ s.1 ≤ 300) ∧ gs σ 856 = (sp : Int) ∧ NodB σ
def JH (E : JE) (t : Xt) (Γ : List Ty) (s : JS) (z : (Nat × Nat) ⊕ (Et × JS)) (σ : tS) (n lo hi v sp b : Nat) : Prop := jd E t Γ s = some z ∧ JSt σ n E Γ s sp ∧ XTp σ n t lo hi v ∧ xok E t Γ.length ∧ (∀ T ∈ Γ, tyOk E.2.2.2.1 T ∧ tsz T ≤ b) ∧ (2700 ≤ b ∧ b + xsz t ≤ 1000000) ∧ Γ.length + xbd t ≤ 590 ∧ sp + (hi - lo) ≤ 4200 ∧ n + jct E t + 142 * (300 - s.1) + 9200 < 126000
/-- the outcome; C: types that may have been made -/
def JO (σ : tS) (n : Nat) (s : JS) (z : (Nat × Nat) ⊕ (Et × JS)) (C lo hi v : Nat) (x : Int) (σ' : tS) (n' : Nat) : Prop := (∀ k p, z = .inl (k, p) → (k ≠ 0 ∧ gs σ' 452 = (k : Int) ∧ gs σ' 456 = (p : Int)) ∧ TyW σ' n' ∧ tx σ n σ' n' ∧ n' ≤ n + C + 142 * (300 - s.1) + 9200) ∧ ∀ e s', z = .inr (e, s') → (gs σ' 452 = 0 ∧ gs σ' 812 = (s'.1 : Int) ∧ s.1 ≤ s'.1 ∧ s'.1 ≤ 300) ∧ (TyS σ' n' ∧ tx σ n σ' n' ∧ n' ≤ n + C + 142 * (s'.1 - s.1)) ∧ (XTe σ' n' e lo hi v ∧ x = ga σ' 842 v) ∧ ∃ D, s'.2 = s.2 ++ D ∧ ∀ X ∈ D, ∃ t, tyT σ' n' X t
def JPost (E : JE) (t : Xt) (Γ : List Ty) (s : JS) (z : (Nat × Nat) ⊕ (Et × JS)) (σ : tS) (n lo hi v sp : Nat) (x : Int) (σ' : tS) (n' : Nat) : Prop := JFr σ σ' lo hi Γ.length sp ∧ (gs σ' 788 = gs σ 788 ∧ gs σ' 856 = gs σ 856 ∧ NodB σ' ∧ -1 ≤ x ∧ x < 126000) ∧ JO σ n s z (jct E t) lo hi v x σ' n'
/-- what the judge of an ex does -/
def JR (E : JE) (r : Int → tS → Option (Int × tS)) (t : Xt) : Prop := ∀ (Γ : List Ty) (s : JS) (z : (Nat × Nat) ⊕ (Et × JS)) (σ : tS) (n lo hi v sp b : Nat), JH E t Γ s z σ n lo hi v sp b → ∃ (x : Int) (σ' : tS) (n' : Nat), r (v : Int) σ = some (x, σ') ∧ JPost E t Γ s z σ n lo hi v sp x σ' n'
section LJS
variable {σ σ1 σ2 : tS} {n n1 n2 : Nat} {E : JE} {Γ : List Ty} {s s1 : JS} {lo hi lo1 hi1 g g1 sp sp1 v : Nat}
theorem JFr_refl : JFr σ σ lo hi g sp := ⟨fr_refl _ _ _, fun _ _ => ⟨rfl, rfl⟩, fun _ _ => rfl, fun _ _ => rfl⟩
theorem JFr_trans (A : JFr σ σ1 lo hi g sp) (B : JFr σ1 σ2 lo hi g sp) : JFr σ σ2 lo hi g sp := ⟨fr_trans A.1 B.1, fun i hi' => ⟨(B.2.1 i hi').1.trans (A.2.1 i hi').1, (B.2.1 i hi').2.trans (A.2.1 i hi').2⟩, fun i hi' => (B.2.2.1 i hi').trans (A.2.2.1 i hi'), fun i hi' => (B.2.2.2 i hi').trans (A.2.2.2 i hi')⟩
theorem JFr_mono (A : JFr σ σ1 lo1 hi1 g1 sp1) (h1 : lo ≤ lo1) (h2 : hi1 ≤ hi) (h3 : g ≤ g1) (h4 : sp ≤ sp1) : JFr σ σ1 lo hi g sp := ⟨A.1, fun i hi' => A.2.1 i (by omega), fun i hi' => A.2.2.1 i (by omega), fun i hi' => A.2.2.2 i (by omega)⟩
/-- a cast is set, or nothing -/
theorem JFr_W (F : fr NFS (846 :: NFA) σ σ1) (k : ∀ i, i ≠ v → ga σ1 846 i = ga σ 846 i) : JFr σ σ1 v (v + 1) g sp ∧ gs σ1 788 = gs σ 788 ∧ gs σ1 856 = gs σ 856 ∧ (NodB σ → NodB σ1) := ⟨⟨fr_WJ F, fun i hi' => ⟨F.2 842 (by decide) i, k i (by omega)⟩, fun i _ => F.2 854 (by decide) i, fun i _ => F.2 850 (by decide) i⟩, F.1 788 (by decide), F.1 856 (by decide), fun N i => by rw [F.2 842 (by decide)]; exact N i⟩
theorem JFr_N (F : fr NFS NFA σ σ1) : JFr σ σ1 lo hi g sp ∧ gs σ1 788 = gs σ 788 ∧ gs σ1 856 = gs σ 856 ∧ (NodB σ → NodB σ1) := ⟨⟨fr_NJ F, fun i _ => ⟨F.2 842 (by decide) i, F.2 846 (by decide) i⟩, fun i _ => F.2 854 (by decide) i, fun i _ => F.2 850 (by decide) i⟩, F.1 788 (by decide), F.1 856 (by decide), fun N i => by rw [F.2 842 (by decide)]; exact N i⟩
theorem GmT_mv (H : GmT σ n Γ) (X : tx σ n σ1 n1) (g : gs σ1 788 = gs σ 788) (k : ∀ i, i < Γ.length → ga σ1 854 i = ga σ 854 i) : GmT σ1 n1 Γ := ⟨by rw [g]; exact H.1, H.2.1, fun i T e => by rw [k i (List.getElem?_eq_some_iff.mp e).1]; exact tyT_mono X (H.2.2 i T e)⟩
theorem JSt_mv (A : JSt σ n E Γ s sp) (F : JFr σ σ1 lo hi Γ.length sp) (X : tx σ n σ1 n1) (S : TyS σ1 n1) (g : gs σ1 788 = gs σ 788) (f0 : gs σ1 452 = 0) (c : gs σ1 812 = (s1.1 : Int) ∧ s1.1 ≤ 300) (p : gs σ1 856 = gs σ 856) (N : NodB σ1) : JSt σ1 n1 E Γ s1 sp := ⟨⟨S, JTE_keep F.1 X A.1.2⟩, GmT_mv A.2.1 X g F.2.2.1, f0, c, by rw [p]; exact A.2.2.2.2.1, N⟩
theorem XTp_mv {t : Xt} (F : fr JFS JFA σ σ1) (X : tx σ n σ1 n1) (H : XTp σ n t lo hi v) : XTp σ1 n1 t lo hi v := XTg_keep F X (lo0 := lo) (hi0 := hi) (fun _ _ _ _ _ => trivial) t lo hi v (Nat.le_refl _) (Nat.le_refl _) H
/-- exs judged before stay -/
theorem XTe_mv {e : Et} (F : JFr σ σ1 lo1 hi1 g sp) (X : tx σ n σ1 n1) (o : hi ≤ lo1 ∨ hi1 ≤ lo) (H : XTe σ n e lo hi v) : XTe σ1 n1 e lo hi v := XTe_keep F.1 X (fun i h1 h2 => F.2.1 i (by omega)) H
/-- one more name is bound -/
theorem JSt_bind (A : JSt σ n E Γ s sp) {T : Ty} {t : Int} (c : tyT σ n T t) (h : Γ.length + 1 ≤ 590) : ∃ σ1, T_bindsType t σ = some σ1 ∧ JSt σ1 n E (Γ ++ [T]) s sp ∧ JFr σ σ1 lo hi Γ.length sp ∧ tx σ n σ1 n ∧ gs σ1 788 = ((Γ.length + 1 : Nat) : Int) ∧ gs σ1 856 = gs σ 856 ∧ gs σ1 452 = gs σ 452 ∧ ∀ i, ga σ1 842 i = ga σ 842 i := by
  obtain ⟨⟨S, JT⟩, G, f0, c0, p0, N⟩ := A
  have e788 := G.1
  have gN : (gs σ 788).toNat = Γ.length := by omega
  have ga' : ∀ f i, f ≠ 854 → ga (us (ua σ 854 (gs σ 788).toNat t) 788 (w32 (gs σ 788 + 1))) f i = ga σ f i := fun f i hf => by rw [gaus, ga_ua, if_neg (fun z => hf z.1)]
  have gs' : ∀ f, f ≠ 788 → gs (us (ua σ 854 (gs σ 788).toNat t) 788 (w32 (gs σ 788 + 1))) f = gs σ f := fun f hf => by rw [gs_us, if_neg hf]; rfl
  have F : fr JFS JFA σ (us (ua σ 854 (gs σ 788).toNat t) 788 (w32 (gs σ 788 + 1))) := ⟨fun f hf => gs' f (fun z => hf (by rw [z]; decide)), fun f hf i => ga' f i (fun z => hf (by rw [z]; decide))⟩
  have X : tx σ n (us (ua σ 854 (gs σ 788).toNat t) 788 (w32 (gs σ 788 + 1))) n := ⟨Nat.le_refl _, fun f hf _ x _ => ga' f x (fun z => by rw [z] at hf; revert hf; decide)⟩
  have S1 : TyS (us (ua σ 854 (gs σ 788).toNat t) 788 (w32 (gs σ 788 + 1))) n := TyS_same (gs' 532 (by decide)) (fun f hf i => ga' f i (fun z => by rw [z] at hf; revert hf; decide)) S
  have w1 : w32 (gs σ 788 + 1) = ((Γ.length + 1 : Nat) : Int) := by rw [e788, w32_s (by omega) (by omega)]; rfl
  have g854 : ∀ i, i < Γ.length → ga (us (ua σ 854 (gs σ 788).toNat t) 788 (w32 (gs σ 788 + 1))) 854 i = ga σ 854 i := fun i hi => by rw [gaus, ga_ua, if_neg (fun z => by omega)]
  have e1 : gs (us (ua σ 854 (gs σ 788).toNat t) 788 (w32 (gs σ 788 + 1))) 788 = ((Γ.length + 1 : Nat) : Int) := by rw [gs_us, if_pos rfl, w1]
  refine ⟨_, by unfold T_bindsType; rw [if_pos (by omega)], ⟨⟨S1, JTE_keep F X JT⟩, ⟨by rw [e1, List.length_append]; rfl, by rw [List.length_append]; exact h, fun i T' e => ?_⟩, by rw [gs' 452 (by decide)]; exact f0, by rw [gs' 812 (by decide)]; exact c0, by rw [gs' 856 (by decide)]; exact p0, fun i => by rw [ga' 842 i (by decide)]; exact N i⟩, ⟨F, fun i _ => ⟨ga' 842 i (by decide), ga' 846 i (by decide)⟩, g854, fun i _ => ga' 850 i (by decide)⟩, X, e1, gs' 856 (by decide), gs' 452 (by decide), fun i => ga' 842 i (by decide)⟩
  by_cases q : i < Γ.length
  · rw [List.getElem?_append_left q] at e
    rw [g854 i q]
    exact tyT_mono X (G.2.2 i T' e)
  · have ei : i = Γ.length := by
      have := (List.getElem?_eq_some_iff.mp e).1
      rw [List.length_append, List.length_singleton] at this
      omega
    rw [ei, List.getElem?_append_right (Nat.le_refl _), Nat.sub_self] at e
    have eT : T = T' := Option.some.inj e
    rw [ei, gaus, ga_ua, if_pos ⟨rfl, gN.symm⟩, ← eT]
    exact tyT_mono X c
/-- a type is set at a node -/
theorem ua842 {x : Int} (hx : -1 ≤ x ∧ x < 126000) : JFr σ (ua σ 842 v x) v (v + 1) g sp ∧ (∀ f, gs (ua σ 842 v x) f = gs σ f) ∧ (NodB σ → NodB (ua σ 842 v x)) ∧ (TyW σ n → TyW (ua σ 842 v x) n) ∧ (TyS σ n → TyS (ua σ 842 v x) n) ∧ tx σ n (ua σ 842 v x) n ∧ ga (ua σ 842 v x) 842 v = x ∧ ga (ua σ 842 v x) 846 v = ga σ 846 v := by
  have g' : ∀ f i, f ≠ 842 → ga (ua σ 842 v x) f i = ga σ f i := fun f i hf => by rw [ga_ua, if_neg (fun z => hf z.1)]
  refine ⟨⟨⟨fun _ _ => rfl, fun f hf i => g' f i (fun z => hf (by rw [z]; decide))⟩, fun i hi => ⟨by rw [ga_ua, if_neg (fun z => by omega)], g' 846 i (by decide)⟩, fun i _ => g' 854 i (by decide), fun i _ => g' 850 i (by decide)⟩, fun _ => rfl, fun N i => ?_, fun T => ⟨T.1, T.2.1, fun hh hl => ?_⟩, fun S => TyS_same (σ := σ) (τ := ua σ 842 v x) rfl (fun f hf i => g' f i (fun z => by rw [z] at hf; revert hf; decide)) S, ⟨Nat.le_refl _, fun f hf _ y _ => g' f y (fun z => by rw [z] at hf; revert hf; decide)⟩, by rw [ga_ua, if_pos ⟨rfl, rfl⟩], g' 846 v (by decide)⟩
  · rw [ga_ua]
    split
    · exact hx
    · exact N i
  · obtain ⟨l, l1, l2⟩ := T.2.2 hh hl
    refine ⟨l, ?_, l2⟩
    rw [g' 526 hh (by decide)]
    exact chT_keep l1 (fun t _ => g' 522 t (by decide))
end LJS
