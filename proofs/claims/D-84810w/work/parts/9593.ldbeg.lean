set_option maxRecDepth 100000
/-! LOADING BEGINS, in the component: the text is taken, the other program cleared, tokens made -/
/-- what loading finds -/
def LdI (G : om_G) (h : om_H) (m0 T p B tb : Nat) (ts : List Nat) (Dk OldL : Nat → Prop) (ds : List Nat) (dm l0 pv Lp te s tm : Nat) : Prop := (0 < hz h ∧ kd h m0 = 1 ∧ m0 < hz h) ∧ (fR h 6 m0 = T ∧ T < hz h ∧ kd h T = 50 ∧ an h T = 2000) ∧ ((kd h p = 2 ∧ p < hz h) ∧ fR h 70 p = B ∧ (B < hz h ∧ kd h B = 50 ∧ an h B = 2000) ∧ B ≠ T ∧ fR h 78 p = tb) ∧ ((tb ≠ 0 ∧ tb < hz h ∧ kd h tb = 3) ∧ (fR h 134 tb < hz h ∧ kd h (fR h 134 tb) = 56 ∧ an h (fR h 134 tb) = 1024) ∧ okV G h (fR h 122 tb) ∧ ll h (fR h 122 tb) = ts ∧ ts.Nodup ∧ ts.length ≤ 149990 ∧ ∀ x ∈ ts, kd h x = 34 ∧ x ≠ 0 ∧ x < hz h) ∧ ((∀ f ∈ PFs, okW G h (fR h f p) ∧ OldL (fR h f p)) ∧ (∀ f ∈ PFs, ∀ g ∈ PFs, fR h f p = fR h g p → f = g) ∧ ∀ a, OldL a → a < hz h ∧ kd h a = 42) ∧ (PoolC G h tb OldL Dk ds dm ∧ ds.length ≤ 49000 ∧ fR h 122 tb ≠ 0 ∧ ¬ OldL (fR h 122 tb)) ∧ (OldL Lp ∧ ∀ f ∈ PFs, Lp ≠ fR h f p) ∧ TvQ G h l0 pv Lp te s ∧ fR h 210 l0 < hz h ∧ (fR h 66 m0 = tm ∧ fR h 54 m0 = te ∧ tm < hz h ∧ kd h tm = 13)
/-- the pool, behind clearing: none in use -/
theorem PoolC_0 {G : om_G} {h h' : om_H} {tb : Nat} {Sl Dk : Nat → Prop} {ds : List Nat} {dm : Nat} (P : PoolC G h tb Sl Dk ds dm) (hz' : hz h ≤ hz h') (kk : ∀ a, a < hz h → kd h' a = kd h a) (eT : fI h' 140 tb = 0 ∧ fR h' 138 tb = fR h 138 tb ∧ fR h' 122 tb = fR h 122 tb) (eR : ∀ a, a < hz h → kd h a = 36 → ∀ f, fR h' f a = fR h f a) (eq : ∀ a, a < hz h → kd h a = 42 → ¬ Sl a → ll h' a = ll h a ∧ lc h' a = lc h a) : PoolC G h' tb Sl Dk ds 0 := by
  obtain ⟨⟨o1, o2, o3⟩, p2, ⟨p3, p4, p5⟩, p6, p7, p8, p9⟩ := P
  have e138 := eq _ o1.1 o1.2.1 o2
  have eL : ∀ L cap, lsD h tb Sl L cap → lsD h' tb Sl L cap := fun L cap w => by
    obtain ⟨⟨w1, w2⟩, ⟨w3, w4⟩, w5, w6, w7⟩ := w
    have e := eq L w1 w2 w5
    exact ⟨⟨by omega, by rw [kk L w1]; exact w2⟩, ⟨by rw [e.2]; exact w3, by rw [e.1]; exact w4⟩, w5, by rw [eT.2.1]; exact w6, by rw [eT.2.2]; exact w7⟩
  have ed : ∀ d, Dk d → ∀ f, fR h' f d = fR h f d := fun d hd f => eR d (p8 d hd).1.2.1 (p8 d hd).1.2.2 f
  refine ⟨⟨?_, by rw [eT.2.1]; exact o2, by rw [eT.2.1, eT.2.2]; exact o3⟩, by rw [eT.2.1, e138.1]; exact p2, ⟨by rw [eT.1]; rfl, Nat.zero_le _, p5⟩, p6, p7, fun d hd => ?_, fun d d' f f' hd hd' w w' z e => ?_⟩
  · rw [eT.2.1]
    refine ⟨by have := o1.1; omega, by rw [kk _ o1.1]; exact o1.2.1, by rw [e138.1, e138.2]; exact o1.2.2.1, by rw [e138.1, e138.2]; exact o1.2.2.2.1, fun y hy => ?_⟩
    rw [e138.1] at hy
    exact objY_mono hz' kk (o1.2.2.2.2 y hy)
  · obtain ⟨⟨a1, a2, a3⟩, b1, b2⟩ := p8 d hd
    refine ⟨⟨a1, by omega, by rw [kk d a2]; exact a3⟩, ?_, ?_⟩
    · rw [ed d hd]
      exact b1.elim .inl (fun w => .inr (eL _ _ w))
    · rw [ed d hd]
      exact b2.elim .inl (fun w => .inr (eL _ _ w))
  · rw [ed d hd] at z e
    rw [ed d' hd'] at e
    exact p9 d d' f f' hd hd' w w' z e
section LLB
variable {G : om_G} {h : om_H} {m0 T p B tb : Nat} {ts : List Nat} {Dk OldL : Nat → Prop} {ds : List Nat} {dm l0 pv Lp te s tm : Nat} {S : List Int}
/-- an empty table -/
theorem TB_nil {h0 : om_H} (a1 : tb ≠ 0 ∧ tb < hz h0 ∧ kd h0 tb = 3) (a2 : fR h0 134 tb < hz h0 ∧ kd h0 (fR h0 134 tb) = 56 ∧ an h0 (fR h0 134 tb) = 1024) (a3 : ∀ i, i < 1024 → aR h0 (fR h0 134 tb) i = 0) (a4 : fR h0 118 tb = 0) (a5 : fI h0 124 tb = 0) (a6 : okV G h0 (fR h0 122 tb)) (a7 : ll h0 (fR h0 122 tb) = ts) (a8 : ts.Nodup) (a9 : ∀ x ∈ ts, kd h0 x = 34 ∧ x ≠ 0 ∧ x < hz h0) (N : List (List Int)) (cl : Nat → Nat) : TB G h0 N cl tb [] ts [] := by
  have nU : ∀ a, ¬ UU [] [] a := fun a w => by
    unfold UU at w
    rcases w with w | ⟨q, hq, _⟩
    · exact absurd w List.not_mem_nil
    · exact absurd hq List.not_mem_nil
  refine ⟨⟨rfl, ⟨a1, a2, fun hh h1 => ⟨[], a3 hh h1, fun x => ⟨fun w => absurd w List.not_mem_nil, fun w => w.1⟩⟩, fun x hx => absurd hx List.not_mem_nil⟩, a4⟩, ⟨a6, by rw [a7]; rfl, a8, a5, a9⟩, fun T a b c1 c2 => ?_, fun q hq => absurd hq List.not_mem_nil, by simp⟩
  cases T with
  | leaf =>
    have e1 : a = 0 := c1
    have e2 : b = 0 := c2
    rw [e1, e2]
  | inner k w u l r => exact absurd c1.1.1 (nU a)
set_option maxHeartbeats 1000000 in
/-- LOADING BEGINS -/
theorem ld_begin (I : LdI G h m0 T p B tb ts Dk OldL ds dm l0 pv Lp te s tm) (hS : S.length ≤ 2000) (hb : ∀ x ∈ S, -128 ≤ x ∧ x ≤ 127) (hT : ∀ (i : Nat) (x : Int), S[i]? = some x → aI h T i = x) : ∃ (h1 h2 h0 : om_H), C_0_take G m0 B (S.length : Int) h = some h1 ∧ C_1_clear G p h1 = some h2 ∧ (hz h2 = hz h ∧ C_14_init G (hz h2) B (S.length : Int) (nO h2 15 8) = some h0) ∧ PS0 G h0 m0 p tb (hz h) B S (fun a => ∃ f ∈ PFs, a = fR h f p) OldL ts Dk ds l0 pv Lp te s tm ∧ (Cst G h0 (hz h) S 0 0 ∧ fR h0 1122 (hz h) = B) ∧ PL G h0 p (hz h) (fun a => ∃ f ∈ PFs, a = fR h f p) ∧ (∀ f ∈ PFs, ll h0 (fR h0 f p) = []) ∧ (hz h0 = hz h + 1 ∧ hu h0 = hu h + 8) ∧ (∀ a, a < hz h → kd h0 a = kd h a) ∧ (fI h0 8 m0 = 0 ∧ (∀ f, f ≠ 8 → fI h0 f m0 = fI h f m0) ∧ ∀ f, fR h0 f m0 = fR h f m0) ∧ (∀ f, fR h0 f p = fR h f p) ∧ ∀ a, a < hz h → a ≠ m0 → a ≠ B → a ≠ tb → a ≠ fR h 134 tb → (∀ f ∈ PFs, a ≠ fR h f p) → eqA a h h0 := by
  obtain ⟨⟨z0, km, lm⟩, ⟨t1, t2, t3, t4⟩, ⟨⟨kp, lp⟩, e70, ⟨b1, b2, b3⟩, nBT, e78⟩, ⟨⟨tb0, tbl, tb3⟩, ⟨h1l, h1k, h1n⟩, okt, ets, tnd, t15, tk⟩, ⟨lw, ld, lo⟩, ⟨P, hds, n122, no122⟩, ⟨oLp, nLp⟩, TQ, e210, ⟨e66, e54, ltm, ktm⟩⟩ := I
  obtain ⟨h1, c1, X, x8, xt⟩ := c_take (G := G) hS hb nBT km ⟨t1, t3, t4⟩ ⟨b2, b3⟩ hT
  obtain ⟨⟨X1, X1u⟩, X2, X3, X4, X5, X6, X7, X8, X9⟩ := X
  obtain ⟨h2, c2, Y, ⟨y118, y124, y128, y140⟩, yz, yl⟩ := c_clearP (G := G) (pr := p) (tb := tb) (h := h1) (by rw [X2]; exact kp) (by rw [X4]; exact e78) (by rw [X2]; exact tb3) ⟨by rw [X4, X2]; exact h1k, by rw [X4, X5]; exact h1n⟩ (fun f hf => by rw [X4, X2]; exact (lo _ (lw f hf).2).2)
  obtain ⟨⟨Y1, Y1u⟩, Y2, Y3, Y4, Y5, Y6, Y7, Y8, Y9⟩ := Y
  have K2 : ∀ a, kd h2 a = kd h a := fun a => (Y2 a).trans (X2 a)
  have R2 : ∀ f a, ¬ (f = 118 ∧ a = tb) → fR h2 f a = fR h f a := fun f a n => (Y4 f a n).trans (X4 f a)
  have A2 : ∀ a, an h2 a = an h a := fun a => (Y5 a).trans (X5 a)
  have C2 : ∀ a, lc h2 a = lc h a := fun a => (Y9 a).trans (X9 a)
  have L2 : ∀ a, (∀ f ∈ PFs, a ≠ fR h f p) → ll h2 a = ll h a := fun a n => (Y8 a (fun f hf => by rw [X4]; exact n f hf)).trans (X8 a)
  have Z2 : hz h2 = hz h := Y1.trans X1
  have xt2 : txC h2 B S := ⟨by rw [K2]; exact b2, by rw [A2]; exact b3, hS, fun i x ex => by rw [Y6]; exact xt.2.2.2.1 i x ex, hb⟩
  obtain ⟨h0, c3, ⟨k15, Ct, e1122⟩, ⟨Z0, U0⟩, E⟩ := c_tokens (G := G) xt2 (by rw [Z2]; exact b1) (by rw [Z2]; exact z0)
  rw [Z2] at c3 k15 Ct e1122 Z0 E
  have ntb : m0 ≠ tb := fun z => by rw [z, tb3] at km; omega
  have np : p ≠ tb := fun z => by rw [z, tb3] at kp; omega
  -- from the start to h0
  have kk : ∀ a, a < hz h → kd h0 a = kd h a := fun a ha => (E a ha).1.trans (K2 a)
  have rr : ∀ f a, a < hz h → ¬ (f = 118 ∧ a = tb) → fR h0 f a = fR h f a := fun f a ha n => ((E a ha).2.2.1 f).trans (R2 f a n)
  have aa : ∀ a, a < hz h → an h0 a = an h a := fun a ha => (E a ha).2.2.2.1.trans (A2 a)
  have cc : ∀ a, a < hz h → lc h0 a = lc h a := fun a ha => (E a ha).2.2.2.2.2.2.2.trans (C2 a)
  have LL : ∀ a, a < hz h → (∀ f ∈ PFs, a ≠ fR h f p) → ll h0 a = ll h a := fun a ha n => (E a ha).2.2.2.2.2.2.1.trans (L2 a n)
  have nz : ∀ a, ¬ OldL a → ∀ f ∈ PFs, a ≠ fR h f p := fun a n f hf z => n (by rw [z]; exact (lw f hf).2)
  have hzz : hz h ≤ hz h0 := by omega
  have r122 : fR h0 122 tb = fR h 122 tb := rr 122 tb tbl (fun z => absurd z.1 (by decide))
  have r134 : fR h0 134 tb = fR h 134 tb := rr 134 tb tbl (fun z => absurd z.1 (by decide))
  have ok0 : okV G h0 (fR h0 122 tb) := by
    rw [r122]
    have e1 := LL _ okt.1 (nz _ no122)
    have e2 := cc _ okt.1
    refine ⟨by have := okt.1; omega, by rw [kk _ okt.1]; exact okt.2.1, by rw [e1, e2]; exact okt.2.2.1, by rw [e1, e2]; exact okt.2.2.2.1, fun y hy => ?_⟩
    rw [e1] at hy
    exact objY_mono hzz kk (okt.2.2.2.2 y hy)
  have TB0 : ∀ N cl, TB G h0 N cl tb [] ts [] := TB_nil ⟨tb0, by omega, by rw [kk _ tbl]; exact tb3⟩ ⟨by rw [r134]; omega, by rw [r134, kk _ h1l]; exact h1k, by rw [r134, aa _ h1l]; exact h1n⟩ (fun i hi => by
    rw [r134, (E _ h1l).2.2.2.2.2.1 i]
    have := yz i hi
    rw [X4] at this
    exact this) (by rw [(E tb tbl).2.2.1]; exact y118) (by rw [(E tb tbl).2.1]; exact y124) ok0 (by rw [r122, LL _ okt.1 (nz _ no122)]; exact ets) tnd (fun x hx => by
    obtain ⟨w1, w2, w3⟩ := tk x hx
    exact ⟨by rw [kk x w3]; exact w1, w2, by omega⟩)
  have old : ∀ a, a < hz h → a ≠ m0 → a ≠ B → a ≠ tb → a ≠ fR h 134 tb → (∀ f ∈ PFs, a ≠ fR h f p) → eqA a h h0 := fun a ha n1 n2 n3 n4 n5 => ⟨kk a ha, fun f => ((E a ha).2.1 f).trans ((Y3 f a (fun z => n3 z.1)).trans (X3 f a (fun z => n1 z.2))), fun f => rr f a ha (fun z => n3 z.2), aa a ha, fun k => ((E a ha).2.2.2.2.1 k).trans ((Y6 a k).trans (X6 a k n2)), fun k => ((E a ha).2.2.2.2.2.1 k).trans ((Y7 a k (by rw [X4]; exact n4)).trans (X7 a k)), LL a ha n5, cc a ha⟩
  have im : ∀ f, f ≠ 8 → fI h0 f m0 = fI h f m0 := fun f n => ((E m0 lm).2.1 f).trans ((Y3 f m0 (fun z => ntb z.1)).trans (X3 f m0 (fun z => n z.1)))
  have rm : ∀ f, fR h0 f m0 = fR h f m0 := fun f => rr f m0 lm (fun z => ntb z.2)
  have rp : ∀ f, fR h0 f p = fR h f p := fun f => rr f p lp (fun z => np z.2)
  have kOf : ∀ f ∈ PFs, fR h f p < hz h ∧ kd h (fR h f p) = 42 := fun f hf => lo _ (lw f hf).2
  have PL0 : PL G h0 p (hz h) (fun a => ∃ f ∈ PFs, a = fR h f p) := by
    refine ⟨⟨by rw [kk p lp]; exact kp, by omega, by omega⟩, fun f hf => ?_, fun f hf g hg e => ?_⟩
    · rw [rp]
      have e1 : ll h0 (fR h f p) = [] := by
        rw [(E _ (kOf f hf).1).2.2.2.2.2.2.1]
        have := yl f hf
        rw [X4] at this
        exact this
      have w := (lw f hf).1
      exact ⟨⟨by have := (kOf f hf).1; omega, by rw [kk _ (kOf f hf).1]; exact (kOf f hf).2, by rw [e1]; exact Nat.zero_le _, by rw [cc _ (kOf f hf).1]; exact w.2.2.2.1, fun y hy => by rw [e1] at hy; exact absurd hy List.not_mem_nil⟩, f, hf, rfl⟩
    · rw [rp, rp] at e
      exact ld f hf g hg e
  have TQ0 : TvQ G h0 l0 pv Lp te s := by
    have k42 : ∀ a, kd h a ≠ 42 → ∀ f ∈ PFs, a ≠ fR h f p := fun a n f hf z => n (by rw [z]; exact (kOf f hf).2)
    have gen : ∀ a, a < hz h → (kd h a = 9 ∨ kd h a = 6 ∨ kd h a = 7 ∨ kd h a = 8) → eqA a h h0 := fun a ha k => old a ha (fun z => by rw [z] at k; omega) (fun z => by rw [z] at k; omega) (fun z => by rw [z] at k; omega) (fun z => by rw [z] at k; omega) (k42 a (by omega))
    refine TvQ_eq hzz kk (fun a w => ?_) TQ
    rcases w with w | w | w | w | w
    · rw [w]; exact gen l0 TQ.1.2.1 (.inl TQ.1.1)
    · rw [w]; exact gen pv TQ.2.1.1.2 (.inr (.inl TQ.2.1.1.1))
    · rw [w]; exact gen te TQ.2.2.2.1.1.2 (.inr (.inr (.inl TQ.2.2.2.1.1.1)))
    · rw [w]; exact gen s TQ.2.2.2.2.2 (.inr (.inr (.inr TQ.2.2.2.2.1)))
    · have k := (lo _ oLp).2
      rw [w]; exact old Lp (lo _ oLp).1 (fun z => by rw [z] at k; omega) (fun z => by rw [z] at k; omega) (fun z => by rw [z] at k; omega) (fun z => by rw [z] at k; omega) nLp
  have e210' : fR h0 210 l0 < hz h0 := by
    rw [rr 210 l0 TQ.1.2.1 (fun z => absurd z.1 (by decide))]
    omega
  have Mn0 : MnP h0 m0 tm te p := ⟨⟨by omega, by rw [kk m0 lm]; exact km, by rw [rm]; exact e66, by rw [rm]; exact e54⟩, ⟨by omega, by rw [kk tm ltm]; exact ktm⟩, by omega, by rw [kk p lp]; exact kp⟩
  have P0 : PoolC G h0 tb OldL Dk ds 0 := PoolC_0 P hzz kk ⟨by rw [(E tb tbl).2.1]; exact y140, rr 138 tb tbl (fun z => absurd z.1 (by decide)), r122⟩ (fun a ha k f => rr f a ha (fun z => by rw [z.2] at k; omega)) (fun a ha k n => ⟨LL a ha (nz a n), cc a ha⟩)
  have xt0 : txC h0 B S := by
    have e := E B b1
    exact ⟨by rw [e.1]; exact xt2.1, by rw [e.2.2.2.1]; exact xt2.2.1, hS, fun i x ex => by rw [e.2.2.2.2.1]; exact xt2.2.2.2.1 i x ex, hb⟩
  refine ⟨h1, h2, h0, c1, c2, ⟨Z2, by rw [Z2]; exact c3⟩, ⟨⟨by omega, ⟨xt0, by omega⟩, k15, by omega⟩, ⟨by rw [rp]; exact e78, TB0, t15, by rw [(E tb tbl).2.1]; exact y128⟩, ⟨fun a => ⟨fun ⟨f, hf, e⟩ => ⟨f, hf, by rw [rp]; exact e⟩, fun ⟨f, hf, e⟩ => ⟨f, hf, by rw [← rp]; exact e⟩⟩, fun a ⟨f, hf, e⟩ => by rw [e]; exact (lw f hf).2, fun a w => ⟨by have := (lo a w).1; omega, by rw [kk a (lo a w).1]; exact (lo a w).2⟩⟩, ⟨P0, hds, by rw [r122]; exact n122, by rw [r122]; exact no122⟩, ⟨oLp, fun ⟨f, hf, e⟩ => nLp f hf e⟩, TQ0, e210', Mn0⟩, ⟨Ct, e1122⟩, PL0, fun f hf => ?_, ⟨Z0, by rw [U0, Y1u, X1u]⟩, kk, ⟨?_, im, rm⟩, rp, old⟩
  · rw [rp, (E _ (kOf f hf).1).2.2.2.2.2.2.1]
    have := yl f hf
    rw [X4] at this
    exact this
  · rw [(E m0 lm).2.1, Y3 8 m0 (fun z => ntb z.1)]
    exact x8
end LLB
