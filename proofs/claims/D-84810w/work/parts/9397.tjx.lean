set_option maxRecDepth 100000
/-! THE TWIN JUDGES: one step after another -/
/-- so far without a fault -/
def JX (E : JE) (σ : tS) (n : Nat) (s : JS) (lo hi v sp g : Nat) (σ1 : tS) (n1 : Nat) (Γ : List Ty) (s1 : JS) (C : Nat) : Prop := JSt σ1 n1 E Γ s1 sp ∧ JFr σ σ1 lo hi g sp ∧ tx σ n σ1 n1 ∧ gs σ1 856 = gs σ 856 ∧ (s.1 ≤ s1.1 ∧ n1 ≤ n + C + 142 * (s1.1 - s.1)) ∧ (∃ D, s1.2 = s.2 ++ D ∧ ∀ X ∈ D, ∃ t, tyT σ1 n1 X t) ∧ ga σ1 846 v = -1 ∧ g ≤ Γ.length
/-- a fault came -/
def JXF (σ : tS) (n : Nat) (s : JS) (lo hi sp g C : Nat) (σ2 : tS) (n2 k p : Nat) : Prop := JFr σ σ2 lo hi g sp ∧ gs σ2 856 = gs σ 856 ∧ NodB σ2 ∧ (k ≠ 0 ∧ gs σ2 452 = (k : Int) ∧ gs σ2 456 = (p : Int)) ∧ TyW σ2 n2 ∧ tx σ n σ2 n2 ∧ n2 ≤ n + C + 142 * (300 - s.1) + 9200
section LJX
variable {E : JE} {B : Nat} {σ σ1 : tS} {n n1 : Nat} {s s1 : JS} {lo hi v sp g C : Nat} {Γ : List Ty}
theorem JX_0 (A : JSt σ n E Γ s sp) (hv : lo ≤ v ∧ v < hi) : JX E σ n s lo hi v sp Γ.length (ua σ 846 v (-1)) n Γ s 0 := by
  obtain ⟨A0, F0, X0, s0, a0, c0⟩ := off846 (v := v) A
  exact ⟨A0, JFr_mono F0 (by omega) (by omega) (Nat.le_refl _) (Nat.le_refl _), X0, s0 856, ⟨Nat.le_refl _, by omega⟩, ⟨[], by rw [List.append_nil], fun X hX => absurd hX List.not_mem_nil⟩, c0, Nat.le_refl _⟩
/-- a part is judged -/
theorem JX_r2 {r : Int → tS → Option (Int × tS)} {t' : Xt} (Hr : JR E r t') (X : JX E σ n s lo hi v sp g σ1 n1 Γ s1 C) {z' : (Nat × Nat) ⊕ (Et × JS)} {lo' hi' v' b : Nat} (q : jd E t' Γ s1 = some z') (XP : XTp σ n t' lo' hi' v') (ok : xok E t' Γ.length) (gl : ∀ T ∈ Γ, tyOk E.2.2.2.1 T ∧ tsz T ≤ b) (hb : 2700 ≤ b ∧ b + xsz t' ≤ 1000000) (hbd : Γ.length + xbd t' ≤ 590) (hsp : sp + (hi' - lo') ≤ 4200) (R : n + (C + jct E t') + 142 * (300 - s.1) + 9200 < 126000) (hr : lo ≤ lo' ∧ hi' ≤ hi ∧ (v < lo' ∨ hi' ≤ v)) : ∃ (y : Int) (σ2 : tS) (n2 : Nat), (r (v' : Int) σ1 = some (y, σ2) ∧ tx σ1 n1 σ2 n2) ∧ JFr σ1 σ2 lo' hi' Γ.length sp ∧ (-1 ≤ y ∧ y < 126000 ∧ gs σ2 788 = gs σ1 788) ∧ (∀ k p, z' = .inl (k, p) → JXF σ n s lo hi sp g (C + jct E t') σ2 n2 k p) ∧ ∀ e s2, z' = .inr (e, s2) → JX E σ n s lo hi v sp g σ2 n2 Γ s2 (C + jct E t') ∧ tx σ1 n1 σ2 n2 ∧ XTe σ2 n2 e lo' hi' v' ∧ y = ga σ2 842 v' := by
  obtain ⟨A, F, T, g2, ⟨x1, x2⟩, ⟨D, d1, d2⟩, c0, hg⟩ := X
  have h300 := A.2.2.2.1.2
  obtain ⟨y, σ2, n2, r1, F2, ⟨k1, k2, k3, k4, k5⟩, k6, k7⟩ := Hr Γ s1 z' σ1 n1 lo' hi' v' sp b ⟨q, A, XTp_mv F.1 T XP, ok, gl, hb, hbd, hsp, by omega⟩
  have FF : JFr σ σ2 lo hi g sp := JFr_trans F (JFr_mono F2 hr.1 hr.2.1 hg (Nat.le_refl _))
  have tt : tx σ1 n1 σ2 n2 := by
    cases z' with
    | inl kp => exact (k6 kp.1 kp.2 rfl).2.2.1
    | inr a => exact (k7 a.1 a.2 rfl).2.1.2.1
  refine ⟨y, σ2, n2, ⟨r1, tt⟩, F2, ⟨k4, k5, k1⟩, fun k p ez => ?_, fun e s2 ez => ?_⟩
  · obtain ⟨w1, w2, w3, w4⟩ := k6 k p ez
    exact ⟨FF, by rw [k2]; exact g2, k3, w1, w2, tx_trans T w3, by omega⟩
  · obtain ⟨⟨w1, w2, w3, w3'⟩, ⟨w4, w5, w6⟩, ⟨w7, w8⟩, D2, w9, w10⟩ := k7 e s2 ez
    refine ⟨⟨JSt_mv A F2 w5 w4 k1 w1 ⟨w2, w3'⟩ k2 k3, FF, tx_trans T w5, by rw [k2]; exact g2, ⟨by omega, by omega⟩, ⟨D ++ D2, by rw [w9, d1, List.append_assoc], fun Y hY => ?_⟩, by rw [(F2.2.1 v (by omega)).2]; exact c0, hg⟩, w5, w7, w8⟩
    rcases List.mem_append.mp hY with h | h
    · obtain ⟨t0, h0⟩ := d2 Y h
      exact ⟨t0, tyT_mono w5 h0⟩
    · exact w10 Y h
theorem JX_r {r : Int → tS → Option (Int × tS)} {t' : Xt} (Hr : JR E r t') (X : JX E σ n s lo hi v sp g σ1 n1 Γ s1 C) {z' : (Nat × Nat) ⊕ (Et × JS)} {lo' hi' v' b : Nat} (q : jd E t' Γ s1 = some z') (XP : XTp σ n t' lo' hi' v') (ok : xok E t' Γ.length) (gl : ∀ T ∈ Γ, tyOk E.2.2.2.1 T ∧ tsz T ≤ b) (hb : 2700 ≤ b ∧ b + xsz t' ≤ 1000000) (hbd : Γ.length + xbd t' ≤ 590) (hsp : sp + (hi' - lo') ≤ 4200) (R : n + (C + jct E t') + 142 * (300 - s.1) + 9200 < 126000) (hr : lo ≤ lo' ∧ hi' ≤ hi ∧ (v < lo' ∨ hi' ≤ v)) : ∃ (y : Int) (σ2 : tS) (n2 : Nat), r (v' : Int) σ1 = some (y, σ2) ∧ JFr σ1 σ2 lo' hi' Γ.length sp ∧ (-1 ≤ y ∧ y < 126000 ∧ gs σ2 788 = gs σ1 788) ∧ (∀ k p, z' = .inl (k, p) → JXF σ n s lo hi sp g (C + jct E t') σ2 n2 k p) ∧ ∀ e s2, z' = .inr (e, s2) → JX E σ n s lo hi v sp g σ2 n2 Γ s2 (C + jct E t') ∧ tx σ1 n1 σ2 n2 ∧ XTe σ2 n2 e lo' hi' v' ∧ y = ga σ2 842 v' := by
  obtain ⟨y, σ2, n2, ⟨a1, _⟩, a2⟩ := JX_r2 Hr X q XP ok gl hb hbd hsp R hr
  exact ⟨y, σ2, n2, a1, a2⟩
/-- what a question leaves -/
theorem JX_W {α : Type} {z' : (Nat × Nat) ⊕ (α × JS)} {v' : Nat} {σ2 : tS} {n2 : Nat} (X : JX E σ n s lo hi v sp g σ1 n1 Γ s1 C) (W : WO σ1 n1 s1 v' z' 0 8900 σ2 n2) (hr : lo ≤ v' ∧ v' < hi ∧ v' ≠ v) : JFr σ1 σ2 v' (v' + 1) Γ.length sp ∧ tx σ1 n1 σ2 n2 ∧ ((∀ i, ga σ2 842 i = ga σ1 842 i) ∧ gs σ2 788 = gs σ1 788) ∧ (∀ k p, z' = .inl (k, p) → JXF σ n s lo hi sp g C σ2 n2 k p) ∧ ∀ a s2, z' = .inr (a, s2) → JX E σ n s lo hi v sp g σ2 n2 Γ s2 C := by
  obtain ⟨A, F, T, g2, ⟨x1, x2⟩, ⟨D, d1, d2⟩, c0, hg⟩ := X
  obtain ⟨⟨f1, f2⟩, S2, T2, w1, w2⟩ := W
  obtain ⟨y1, y2, y3, y4⟩ := JFr_W (g := Γ.length) (sp := sp) f1 f2
  have h300 := A.2.2.2.1.2
  have FF : JFr σ σ2 lo hi g sp := JFr_trans F (JFr_mono y1 hr.1 (by omega) hg (Nat.le_refl _))
  refine ⟨y1, T2, ⟨fun i => f1.2 842 (by decide) i, y2⟩, fun k p ez => ?_, fun a s2 ez => ?_⟩
  · obtain ⟨a1, a2, a3, a4⟩ := w1 k p ez
    exact ⟨FF, by rw [y3]; exact g2, y4 A.2.2.2.2.2, ⟨a1, a2, a3⟩, TyW_of S2.1, tx_trans T T2, by omega⟩
  · obtain ⟨a1, a2, a3, a4, D2, a5, a6⟩ := w2 a s2 ez
    refine ⟨JSt_mv A y1 T2 S2 y2 a1 ⟨a2, a3.2⟩ y3 (y4 A.2.2.2.2.2), FF, tx_trans T T2, by rw [y3]; exact g2, ⟨by omega, by omega⟩, ⟨D ++ D2, by rw [a5, d1, List.append_assoc], fun Y hY => ?_⟩, by rw [f2 v (fun z => hr.2.2 z.symm)]; exact c0, hg⟩
    rcases List.mem_append.mp hY with h | h
    · obtain ⟨t0, h0⟩ := d2 Y h
      exact ⟨t0, tyT_mono T2 h0⟩
    · exact a6 Y h
/-- one more name is bound -/
theorem JX_b (X : JX E σ n s lo hi v sp g σ1 n1 Γ s1 C) {T : Ty} {t : Int} (c : tyT σ1 n1 T t) (h : Γ.length + 1 ≤ 590) : ∃ σ2, T_bindsType t σ1 = some σ2 ∧ JX E σ n s lo hi v sp g σ2 n1 (Γ ++ [T]) s1 C ∧ JFr σ1 σ2 lo hi Γ.length sp ∧ tx σ1 n1 σ2 n1 ∧ ∀ i, ga σ2 842 i = ga σ1 842 i ∧ ga σ2 846 i = ga σ1 846 i := by
  obtain ⟨A, F, T0, g2, x1, ⟨D, d1, d2⟩, c0, hg⟩ := X
  obtain ⟨σ2, b1, A1, F1, X1, e1, e2, e3, e4⟩ := JSt_bind (lo := lo) (hi := hi) A c h
  exact ⟨σ2, b1, ⟨A1, JFr_trans F (JFr_mono F1 (Nat.le_refl _) (Nat.le_refl _) hg (Nat.le_refl _)), tx_trans T0 X1, by rw [e2]; exact g2, x1, ⟨D, d1, fun Y hY => by obtain ⟨t0, h0⟩ := d2 Y hY; exact ⟨t0, tyT_mono X1 h0⟩⟩, by rw [b846 b1]; exact c0, by rw [List.length_append]; omega⟩, F1, X1, fun i => ⟨e4 i, b846 b1 i⟩⟩
/-- behind a fault -/
theorem JXF_b {σ2 : tS} {n2 k p m : Nat} (F : JXF σ n s lo hi sp g C σ2 n2 k p) (e : gs σ2 788 = (m : Int)) (hm : g ≤ m ∧ m < 600) (t : Int) : ∃ σ3, T_bindsType t σ2 = some σ3 ∧ JXF σ n s lo hi sp g C σ3 n2 k p ∧ gs σ3 788 = ((m + 1 : Nat) : Int) := by
  obtain ⟨f1, f2, f3, f4, f5, f6, f7⟩ := F
  have mN : (gs σ2 788).toNat = m := by omega
  have ga' : ∀ f i, f ≠ 854 → ga (us (ua σ2 854 (gs σ2 788).toNat t) 788 (w32 (gs σ2 788 + 1))) f i = ga σ2 f i := fun f i hf => by rw [gaus, ga_ua, if_neg (fun z => hf z.1)]
  have gs' : ∀ f, f ≠ 788 → gs (us (ua σ2 854 (gs σ2 788).toNat t) 788 (w32 (gs σ2 788 + 1))) f = gs σ2 f := fun f hf => by rw [gs_us, if_neg hf]; rfl
  have Fs : JFr σ2 (us (ua σ2 854 (gs σ2 788).toNat t) 788 (w32 (gs σ2 788 + 1))) lo hi g sp := ⟨⟨fun f hf => gs' f (fun z => hf (by rw [z]; decide)), fun f hf i => ga' f i (fun z => hf (by rw [z]; decide))⟩, fun i _ => ⟨ga' 842 i (by decide), ga' 846 i (by decide)⟩, fun i hi => by rw [gaus, ga_ua, if_neg (fun z => by omega)], fun i _ => ga' 850 i (by decide)⟩
  refine ⟨_, by unfold T_bindsType; rw [if_pos (by omega)], ⟨JFr_trans f1 Fs, by rw [gs' 856 (by decide)]; exact f2, fun i => by rw [ga' 842 i (by decide)]; exact f3 i, by rw [gs' 452 (by decide), gs' 456 (by decide)]; exact f4, ⟨by rw [gs' 532 (by decide)]; exact f5.1, f5.2.1, fun hh hl => ?_⟩, tx_trans f6 ⟨Nat.le_refl _, fun f hf _ x _ => ga' f x (fun z => by rw [z] at hf; revert hf; decide)⟩, f7⟩, by rw [gs_us, if_pos rfl, e, w32_s (by omega) (by omega)]; rfl⟩
  obtain ⟨l, l1, l2⟩ := f5.2.2 hh hl
  refine ⟨l, ?_, l2⟩
  rw [ga' 526 hh (by decide)]
  exact chT_keep l1 (fun t' _ => ga' 522 t' (by decide))
theorem t_wantedF {v t : Int} (h : gs σ 452 ≠ 0) : T_wanted v t σ = some σ := by
  unfold T_wanted
  rw [if_neg h]
/-- the end -/
theorem JXF_end {t : Xt} {z : (Nat × Nat) ⊕ (Et × JS)} {Γ0 : List Ty} {σ2 : tS} {n2 k p : Nat} {x : Int} (F : JXF σ n s lo hi sp Γ0.length C σ2 n2 k p) (hC : C ≤ jct E t) (hx : -1 ≤ x ∧ x < 126000) (lv : lo ≤ v ∧ v < hi) (ez : z = .inl (k, p)) (ec : ∃ c, c = gs σ 788) : JPost E t Γ0 s z σ n lo hi v sp x (ua (us σ2 788 (gs (ua σ 846 v (-1)) 788)) 842 v x) n2 := by
  obtain ⟨f1, f2, f3, f4, f5, f6, f7⟩ := F
  obtain ⟨v1, v2, v3, v4, v5, v6, v7⟩ := us788 (σ := σ2) (n := n2) (lo := lo) (hi := hi) (g := Γ0.length) (sp := sp) (c := gs (ua σ 846 v (-1)) 788)
  exact hd_fault (JFr_trans f1 v1) (by rw [v3]; rfl) (by rw [v2 856 (by decide)]; exact f2) (v4 f3) hx lv ez f4.1 (by rw [v2 452 (by decide)]; exact f4.2.1) (by rw [v2 456 (by decide)]; exact f4.2.2) (v5 f5) ⟨tx_trans f6 v7, by omega⟩
theorem JX_end {t : Xt} {z : (Nat × Nat) ⊕ (Et × JS)} {Γ0 : List Ty} {x : Int} {e : Et} (X : JX E σ n s lo hi v sp Γ0.length σ1 n1 Γ s1 C) (hC : C ≤ jct E t) (hx : -1 ≤ x ∧ x < 126000) (lv : lo ≤ v ∧ v < hi) (ez : z = .inr (e, s1)) (H : ∀ τ, fr JFS JFA σ τ → tx σ n τ n1 → tx σ1 n1 τ n1 → fr JFS JFA σ1 τ → (∀ i, i ≠ v → ga τ 842 i = ga σ1 842 i ∧ ga τ 846 i = ga σ1 846 i) → ga τ 842 v = x → ga τ 846 v = -1 → XTe τ n1 e lo hi v) : JPost E t Γ0 s z σ n lo hi v sp x (ua (us σ1 788 (gs (ua σ 846 v (-1)) 788)) 842 v x) n1 := by
  obtain ⟨A, F, T, g2, x1, ⟨D, d1, d2⟩, c0, hg⟩ := X
  obtain ⟨v1, v2, v3, v4, v5, v6, v7⟩ := us788 (σ := σ1) (n := n1) (lo := lo) (hi := hi) (g := Γ0.length) (sp := sp) (c := gs (ua σ 846 v (-1)) 788)
  obtain ⟨z1, z2, z3, z4, z5, z6, z7, z8⟩ := ua842 (σ := us σ1 788 (gs (ua σ 846 v (-1)) 788)) (n := n1) (v := v) (g := Γ0.length) (sp := sp) hx
  refine hd_fine (JFr_trans F v1) (by rw [v3]; rfl) (by rw [v2 856 (by decide)]; exact g2) (v4 A.2.2.2.2.2) hx lv ez (by rw [v2 452 (by decide)]; exact A.2.2.1) (by rw [v2 812 (by decide)]; exact A.2.2.2.1.1) ⟨x1.1, A.2.2.2.1.2⟩ (v6 A.1.1) (tx_trans T v7) (by omega) ?_ ⟨D, d1, fun Y hY => by obtain ⟨t0, h0⟩ := d2 Y hY; exact ⟨t0, tyT_mono v7 h0⟩⟩
  exact H _ (fr_trans F.1 (fr_trans v1.1 z1.1)) (tx_trans T (tx_trans v7 z6)) (tx_trans v7 z6) (fr_trans v1.1 z1.1) (fun i hi => by have := z1.2.1 i (by omega); rw [this.1, this.2, gaus, gaus]; exact ⟨rfl, rfl⟩) z7 (by rw [z8, gaus]; exact c0)
end LJX
