set_option maxRecDepth 100000
/-! A FUNCTION IS JUDGED, in the twin -/
/-- the environment, but for what is given -/
def JT0 (σ : tS) (n : Nat) (E : JE) : Prop := PGT σ n E.2.2.1 E.2.2.2.1 ∧ (E.1.length ≤ 24 ∧ ∀ (i : Nat) (f : List Nat × List GVs × Ty), E.1[i]? = some f → (ga σ 738 i = (f.1.length : Int) ∧ f.1.length ≤ 4 ∧ ∀ (j w : Nat), f.1[j]? = some w → ga σ 742 (4 * i + j) = (w : Int)) ∧ (ga σ 746 i = (f.2.1.length : Int) ∧ f.2.1.length ≤ 4 ∧ ∀ (j : Nat) (g : GVs), f.2.1[j]? = some g → ga σ 750 (4 * i + j) = (g.1 : Int) ∧ g.1 < 108 ∧ (∃ k : Nat, ga σ 754 (4 * i + j) = (k : Int) ∧ ixF (fun x => x == g.2.1) f.1 = some k) ∧ tyT σ n g.2.2 (ga σ 758 (4 * i + j))) ∧ tyT σ n f.2.2 (ga σ 762 i)) ∧ (E.2.1.length ≤ 32 ∧ ∀ (i : Nat) (m : Nat × Nat × Ty), E.2.1[i]? = some (some m) → m.1 = i / 4 ∧ ga σ 666 m.1 = (m.2.1 : Int) ∧ tyT σ n m.2.2 (ga σ 686 i)) ∧ (∃ wa wb : Nat, wa ≠ wb ∧ gs σ 868 = (wa : Int) ∧ gs σ 872 = (wb : Int) ∧ ∀ k, k < 7 → tyT σ n (btT k (tNm wa) (tNm wb)) (ga σ 878 k)) ∧ tyT σ n tInt (gs σ 860) ∧ tyT σ n tBool (gs σ 864)
abbrev JTSc : List Nat := [648, 860, 864, 868, 872]
abbrev JTAr : List Nat := [666, 670, 686, 694, 698, 702, 706, 710, 714, 718, 722, 738, 742, 746, 750, 754, 758, 762, 878]
/-- the twin between judgings -/
def TJ (σ : tS) (n : Nat) (E : JE) (s : JS) : Prop := TyS σ n ∧ JT0 σ n E ∧ gs σ 452 = 0 ∧ (gs σ 812 = (s.1 : Int) ∧ s.1 ≤ 300) ∧ NodB σ
/-- what a judging writes -/
abbrev JAS : List Nat := JFS ++ [784, 792]
abbrev JAA : List Nat := JFA ++ [778, 798, 802, 806]
section LTJ
variable {σ τ σ1 σ2 : tS} {n n' : Nat} {E : JE} {fn : List (List Nat × List GVs × Ty)} {mt : List (Option (Nat × Nat × Ty))} {ab : List (Option Nat)} {ins : List INs} {gv gv0 : List GVs} {s : JS}
theorem JT0_keep (gS : ∀ f ∈ JTSc, gs τ f = gs σ f) (gA : ∀ f ∈ JTAr, ∀ i, ga τ f i = ga σ f i) (X : tx σ n τ n') (H : JT0 σ n E) : JT0 τ n' E := by
  obtain ⟨a1, ⟨a3, a4⟩, ⟨a5, a6⟩, ⟨wa, wb, a7, a8, a9, a10⟩, a11, a12⟩ := H
  refine ⟨PGT_f2 (gS 648 (by simp)) (fun f hf i => gA f ((by decide : ∀ f ∈ [670, 694, 698, 702, 706, 710, 714, 718, 722], f ∈ JTAr) f hf) i) X a1, ⟨a3, fun i f e => ?_⟩, ⟨a5, fun i m e => ?_⟩, ⟨wa, wb, a7, by rw [gS 868 (by simp)]; exact a8, by rw [gS 872 (by simp)]; exact a9, fun k hk => by rw [gA 878 (by simp)]; exact tyT_mono X (a10 k hk)⟩, by rw [gS 860 (by simp)]; exact tyT_mono X a11, by rw [gS 864 (by simp)]; exact tyT_mono X a12⟩
  · obtain ⟨⟨b1, b2, b3⟩, ⟨b4, b5, b6⟩, b7⟩ := a4 i f e
    refine ⟨⟨by rw [gA 738 (by simp)]; exact b1, b2, fun j w e => by rw [gA 742 (by simp)]; exact b3 j w e⟩, ⟨by rw [gA 746 (by simp)]; exact b4, b5, fun j g e => ?_⟩, by rw [gA 762 (by simp)]; exact tyT_mono X b7⟩
    obtain ⟨c1, c2, c3, c4⟩ := b6 j g e
    exact ⟨by rw [gA 750 (by simp)]; exact c1, c2, by rw [gA 754 (by simp)]; exact c3, by rw [gA 758 (by simp)]; exact tyT_mono X c4⟩
  · obtain ⟨b1, b2, b3⟩ := a6 i m e
    exact ⟨b1, by rw [gA 666 (by simp)]; exact b2, by rw [gA 686 (by simp)]; exact tyT_mono X b3⟩
theorem JT0_fr (F : fr JAS JAA σ τ) (X : tx σ n τ n') (H : JT0 σ n E) : JT0 τ n' E := JT0_keep (fun f hf => F.1 f ((by decide : ∀ f ∈ JTSc, f ∉ JAS) f hf)) (fun f hf i => F.2 f ((by decide : ∀ f ∈ JTAr, f ∉ JAA) f hf) i) X H
theorem JTE_0 (H : JT0 σ n (fn, mt, ab, ins, gv0)) (V : GVT σ n gv) : JTE σ n (fn, mt, ab, ins, gv) := ⟨⟨H.1, V⟩, H.2⟩
theorem fr_JA (F : fr JFS JFA σ τ) : fr JAS JAA σ τ := fr_sub F (fun _ h => List.mem_append_left _ h) (fun _ h => List.mem_append_left _ h)
theorem frN_JA (F : fr JAS JAA σ τ) : frN σ τ := ⟨trivial, fun f hf i => F.2 f ((by decide : ∀ f ∈ NDA, f ∉ JAA) f hf) i⟩
/-- AN EX IS JUDGED AND IS TO BE OF A TYPE, in the twin -/
theorem t_want {B : Nat} (J : JOk E B) (hg : ∀ g ∈ E.2.2.2.2, g.1 < 100 → g.1 < E.2.2.1.length) {t : Xt} {T : Ty} {tT : Int} {lo hi v b : Nat} {zz : (Nat × Nat) ⊕ (Et × JS)} (ez : (jb (jd E t [] s) fun a => jw E T a.1 a.2) = some zz) (A : JSt σ n E [] s 0) (X : XTp σ n t lo hi v) (ct : tyT σ n T tT) (ok : xok E t 0) (hb : 2700 ≤ b ∧ b + xsz t ≤ 1000000) (hbd : xbd t ≤ 590) (hhl : hi - lo ≤ 4200) (hrd : xrd t < 130) (okT : tyOk E.2.2.2.1 T) (hzT : tsz T ≤ 1000000) (R : n + jct E t + 142 * (300 - s.1) + 18100 < 126000) : ∃ x σ1 σ2 n2, T_judge (v : Int) σ = some (x, σ1) ∧ T_wanted (v : Int) tT σ1 = some σ2 ∧ JFr σ σ2 lo hi 0 0 ∧ (gs σ2 788 = gs σ 788 ∧ gs σ2 856 = gs σ 856 ∧ NodB σ2) ∧ tx σ n σ2 n2 ∧ (∀ k p, zz = .inl (k, p) → (k ≠ 0 ∧ gs σ2 452 = (k : Int) ∧ gs σ2 456 = (p : Int)) ∧ TyW σ2 n2 ∧ n2 ≤ n + jct E t + 142 * (300 - s.1) + 18100) ∧ ∀ e s', zz = .inr (e, s') → (gs σ2 452 = 0 ∧ gs σ2 812 = (s'.1 : Int) ∧ s.1 ≤ s'.1 ∧ s'.1 ≤ 300) ∧ TyS σ2 n2 ∧ n2 ≤ n + jct E t + 142 * (s'.1 - s.1) ∧ XTe σ2 n2 e lo hi v ∧ ∃ D, s'.2 = s.2 ++ D ∧ ∀ X ∈ D, ∃ t, tyT σ2 n2 X t := by
  have hin := XTg_in X
  rcases jb_cs ez with ⟨kp, e1, e2⟩ | ⟨⟨e0, s1⟩, e1, e2⟩
  · obtain ⟨x, σ1, n1, r1, F1, ⟨g1, g2, g3, _, _⟩, O1, _⟩ := t_jd J hg 130 t hrd [] s _ σ n lo hi v 0 b ⟨e1, A, X, ok, fun T hT => absurd hT List.not_mem_nil, hb, by show 0 + xbd t ≤ 590; omega, by omega, by omega⟩
    obtain ⟨⟨k0, k1, k2⟩, w1, w2, w3⟩ := O1 kp.1 kp.2 rfl
    refine ⟨x, σ1, σ1, n1, r1, ?_, F1, ⟨g1, g2, g3⟩, w2, fun k p w => ?_, fun e s' w => by rw [e2] at w; cases w⟩
    · unfold T_wanted
      rw [if_neg (by rw [k1]; omega)]
    · rw [e2] at w
      have w' := Sum.inl.inj w
      rw [w'] at k0 k1 k2
      exact ⟨⟨k0, k1, k2⟩, w1, by omega⟩
  · obtain ⟨x, σ1, n1, r1, F1, ⟨g1, g2, g3, _, _⟩, _, O2⟩ := t_jd J hg 130 t hrd [] s _ σ n lo hi v 0 b ⟨e1, A, X, ok, fun T hT => absurd hT List.not_mem_nil, hb, by show 0 + xbd t ≤ 590; omega, by omega, by omega⟩
    obtain ⟨⟨k1, k2, k3, k4⟩, ⟨S1, X1, l1⟩, ⟨XE, _⟩, D1, d1, d2⟩ := O2 e0 s1 rfl
    obtain ⟨z', ez', oz⟩ := jd_ok J t [] s b ok (fun T hT => absurd hT List.not_mem_nil) hb.1 hb.2
    rw [e1] at ez'
    obtain ⟨okE, _⟩ := oz (e0, s1) (Option.some.inj ez').symm
    have JT1 : JTE σ1 n1 E := JTE_keep F1.1 X1 A.1.2
    have e2' : jw E T e0 s1 = some zz := e2
    have okz : tsz (eTy e0) ≤ b + xsz t := okE.2
    obtain ⟨σ2, n2, q1, ⟨⟨q2, q3⟩, q4, q5, q6, q7⟩, q8⟩ := t_wanted J S1 JT1 XE (tyT_mono X1 ct) okT hzT okE.1 (by omega) e2' k2 k4 (by omega) k1
    obtain ⟨y1, y2, y3, y4⟩ := JFr_W (g := 0) (sp := 0) q2 q3
    have iv := XTg_in X
    refine ⟨x, σ1, σ2, n2, r1, q1, JFr_trans F1 (JFr_mono y1 (by omega) (by omega) (Nat.le_refl _) (Nat.le_refl _)), ⟨y2.trans g1, y3.trans g2, y4 g3⟩, tx_trans X1 q5, fun k p w => ?_, fun e s' w => ?_⟩
    · obtain ⟨w0, w1, w2, w3⟩ := q6 k p w
      exact ⟨⟨w0, w1, w2⟩, TyW_of q4.1, by omega⟩
    · obtain ⟨w1, w2, w3, w4, D, w5, w6⟩ := q7 e s' w
      refine ⟨⟨w1, w2, by omega, w3.2⟩, q4, by omega, q8 e s' w, D1 ++ D, by rw [w5, d1, List.append_assoc], fun Y hY => ?_⟩
      rcases List.mem_append.mp hY with m | m
      · obtain ⟨t', ht⟩ := d2 Y m
        exact ⟨t', tyT_mono q5 ht⟩
      · exact w6 Y m
/-- A FUNCTION, in the twin -/
theorem t_fj {B : Nat} {x : List Nat × List GVs × Ty} (J : JOk (fn, mt, ab, ins, x.2.1) B) (hg : ∀ g ∈ x.2.1, g.1 < 100 → g.1 < ab.length) {f d v lo hi w b : Nat} {l2 : Int} {t : Xt} {T : Ty} {zz : (Nat × Nat) ⊕ (Et × JS)} (ez : (jb (jd (fn, mt, ab, ins, x.2.1) t [] s) fun a => jw (fn, mt, ab, ins, x.2.1) T a.1 a.2) = some zz) (H : TJ σ n (fn, mt, ab, ins, gv0) s) (g788 : gs σ 788 = 0 ∧ gs σ 856 = 0) (hf : f < 24) (hd : d < 700) (P : FnT σ n f w x) (e622 : ga σ 622 d = (v : Int)) (ct : tyT σ n T (ga σ 762 f)) (X : XTp σ n t lo hi v) (ok : xok (fn, mt, ab, ins, x.2.1) t 0) (hb : 2700 ≤ b ∧ b + xsz t ≤ 1000000) (hbd : xbd t ≤ 590) (hhl : hi - lo ≤ 4200) (hrd : xrd t < 130) (okT : tyOk ins T) (hzT : tsz T ≤ 1000000) (R : n + jct (fn, mt, ab, ins, x.2.1) t + 142 * (300 - s.1) + 18100 < 126000) : ∃ σ' n', T_judgeAll_41 (f : Int) l2 (d : Int) σ = some (.inl (((f + 1 : Nat) : Int), l2, ((d + 1 : Nat) : Int), σ')) ∧ fr JAS JAA σ σ' ∧ (∀ i, (i < lo ∨ hi ≤ i) → ga σ' 842 i = ga σ 842 i ∧ ga σ' 846 i = ga σ 846 i) ∧ tx σ n σ' n' ∧ (NodB σ' ∧ gs σ' 856 = 0) ∧ (∀ k p, zz = .inl (k, p) → (k ≠ 0 ∧ gs σ' 452 = (k : Int) ∧ gs σ' 456 = (p : Int)) ∧ TyW σ' n' ∧ n' ≤ n + jct (fn, mt, ab, ins, x.2.1) t + 142 * (300 - s.1) + 18100) ∧ ∀ e s', zz = .inr (e, s') → TJ σ' n' (fn, mt, ab, ins, gv0) s' ∧ s.1 ≤ s'.1 ∧ n' ≤ n + jct (fn, mt, ab, ins, x.2.1) t + 142 * (s'.1 - s.1) ∧ XTe σ' n' e lo hi v ∧ ∃ D, s'.2 = s.2 ++ D ∧ ∀ X ∈ D, ∃ t, tyT σ' n' X t := by
  obtain ⟨S0, J0, f0, ⟨c0, c300⟩, N0⟩ := H
  obtain ⟨σ1, b1, F1, V1⟩ := t_byF hf P
  have T1 : ∀ g ∈ TYA, ∀ i, ga σ1 g i = ga σ g i := fun g hg i => F1.2 g ((by decide : ∀ g ∈ TYA, g ∉ [798, 802, 806]) g hg) i
  have X1 : tx σ n σ1 n := tx_same T1
  have S1 : TyS σ1 n := TyS_same (F1.1 532 (by decide)) T1 S0
  have F1' : fr JAS JAA σ σ1 := fr_sub F1 (by decide) (by decide)
  have J1 : JT0 σ1 n (fn, mt, ab, ins, gv0) := JT0_fr F1' X1 J0
  have A1 : JSt σ1 n (fn, mt, ab, ins, x.2.1) [] s 0 := ⟨⟨S1, JTE_0 J1 V1⟩, ⟨by rw [F1.1 788 (by decide)]; exact g788.1, Nat.zero_le _, fun i T e => by cases e⟩, by rw [F1.1 452 (by decide)]; exact f0, ⟨by rw [F1.1 812 (by decide)]; exact c0, c300⟩, by rw [F1.1 856 (by decide)]; exact g788.2, fun i => by rw [F1.2 842 (by decide)]; exact N0 i⟩
  have XT1 : XTp σ1 n t lo hi v := XTg_keepN (frN_JA F1') X1 (lo0 := lo) (hi0 := hi) (fun _ _ _ _ _ => trivial) t lo hi v (Nat.le_refl _) (Nat.le_refl _) X
  obtain ⟨xr, σ2, σ3, n3, r1, r2, F3, ⟨y1, y2, y3⟩, X3, r3, r4⟩ := t_want J hg ez A1 XT1 (tT := ga σ 762 f) (tyT_mono X1 ct) ok hb hbd hhl hrd okT hzT R
  have e622' : ga σ1 622 d = (v : Int) := by rw [F1.2 622 (by decide)]; exact e622
  have Fa : fr JAS JAA σ σ3 := fr_trans F1' (fr_JA F3.1)
  have e2 : ga σ2 622 d = (v : Int) ∧ ga σ2 762 f = ga σ 762 f := by
    obtain ⟨z1, ez1⟩ : ∃ z1, jd (fn, mt, ab, ins, x.2.1) t [] s = some z1 := by
      rcases jb_cs ez with ⟨kp, e1, _⟩ | ⟨a, e1, _⟩
      · exact ⟨_, e1⟩
      · exact ⟨_, e1⟩
    obtain ⟨x', σ', n', q1, q2, _⟩ := t_jd J hg 130 t hrd [] s _ σ1 n lo hi v 0 b ⟨ez1, A1, XT1, ok, fun T hT => absurd hT List.not_mem_nil, hb, by show 0 + xbd t ≤ 590; omega, by omega, by omega⟩
    have q1' : T_judge (v : Int) σ1 = some (x', σ') := q1
    rw [r1] at q1'
    have eσ : σ2 = σ' := (Prod.mk.inj (Option.some.inj q1')).2
    rw [eσ, q2.1.2 622 (by decide), q2.1.2 762 (by decide), F1.2 762 (by decide)]
    exact ⟨e622', rfl⟩
  have dN : ((d : Int)).toNat = d := by omega
  have fN : ((f : Int)).toNat = f := by omega
  have wf : w32 ((f : Int) + 1) = ((f + 1 : Nat) : Int) := by rw [w32_s (by omega) (by omega)]; rfl
  have wd : w32 ((d : Int) + 1) = ((d + 1 : Nat) : Int) := by rw [w32_s (by omega) (by omega)]; rfl
  have X03 := tx_trans X1 X3
  refine ⟨σ3, n3, ?_, Fa, fun i hi' => ?_, X03, ⟨y3, by rw [y2, F1.1 856 (by decide)]; exact g788.2⟩, r3, fun e s' w => ?_⟩
  · unfold T_judgeAll_41
    rw [b1, Option.bind_some, if_pos (by omega), dN, e622', r1, Option.bind_some]
    simp only
    rw [if_pos (by omega), fN, e2.1, e2.2, r2, Option.bind_some, wf, wd]
  · have := F3.2.1 i hi'
    rw [this.1, this.2, F1.2 842 (by decide), F1.2 846 (by decide)]
    exact ⟨rfl, rfl⟩
  · obtain ⟨⟨w1, w2, w3, w4⟩, w5, w6, w7, w8⟩ := r4 e s' w
    exact ⟨⟨w5, JT0_fr Fa X03 J0, w1, ⟨w2, w4⟩, y3⟩, w3, w6, w7, w8⟩
end LTJ
