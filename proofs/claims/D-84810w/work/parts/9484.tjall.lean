set_option maxRecDepth 100000
/-! ALL FUNCTIONS AND INSTS ARE JUDGED, in the twin -/
/-- a function that waits (its nodes lie in the one row that stands for lines) -/
def FjT (σ : tS) (n : Nat) (E : JE) (j : JB) (dd f : Nat) : Prop := ∃ (w : Nat) (x : List Nat × List GVs × Ty) (y : LD × TD), j.2.2.2.2.2.2 = [y] ∧ (x.2.1 = j.2.2.2.1.1 ∧ x.2.2 = j.2.2.2.1.2.1 ∧ FnT σ n f w x) ∧ ga σ 622 dd = (y.2.2.1 : Int) ∧ XTq σ n j.2.2.2.1.2.2.1 y.2.2.2.1 y.2.2.2.2.1 y.2.2.1 ∧ f < 24 ∧ xok E j.2.2.2.1.2.2.1 0 ∧ 2700 + xsz j.2.2.2.1.2.2.1 ≤ 1000000 ∧ xbd j.2.2.2.1.2.2.1 ≤ 590 ∧ y.2.2.2.2.1 - y.2.2.2.1 ≤ 4200 ∧ xrd j.2.2.2.1.2.2.1 < 130 ∧ (tyOk E.2.2.2.1 j.2.2.2.1.2.1 ∧ tsz j.2.2.2.1.2.1 ≤ 1000000) ∧ JOk E 2700 ∧ ∀ g ∈ j.2.2.2.1.1, g.1 < 100 → g.1 < E.2.2.1.length
/-- an inst that waits -/
def IjT (σ : tS) (n : Nat) (E : JE) (j : JB) (dd i : Nat) : Prop := chain σ (ga σ 602 dd) (j.2.2.2.2.2.2.map (fun y : LD × TD => y.2.1)) ∧ InTw σ n E.2.2.1.length i j.2.2.2.2.1 ∧ (∀ y ∈ j.2.2.2.2.2.2, LnTw σ n E j.2.2.2.2.2.1 j.2.2.2.2.1 y) ∧ j.2.2.2.2.2.2.Pairwise (fun y y' => y.2.2.2.2.1 ≤ y'.2.2.2.1) ∧ i < 20 ∧ E.2.2.1.length ≤ 8 ∧ tyOk E.2.2.2.1 (hdI j.2.2.2.2.1) ∧ JOk E 2700
def JbsT (fn : List (List Nat × List GVs × Ty)) (mt : List (Option (Nat × Nat × Ty))) (ab : List (Option Nat)) (ins : List INs) (σ : tS) (n : Nat) : List JB → Nat → Nat → Nat → Prop
  | [], _, _, _ => True
  | j :: l, dd, f, i => (ga σ 570 dd = (j.1 : Int) ∧ dd < 700) ∧ (j.1 = 2 → FjT σ n (fn, mt, ab, ins, j.2.2.2.1.1) j dd f) ∧ (j.1 = 6 → IjT σ n (fn, mt, ab, ins, gvI j.2.2.2.2.1) j dd i) ∧ JbsT fn mt ab ins σ n l (dd + 1) (if j.1 = 2 then f + 1 else f) (if j.1 = 6 then i + 1 else i)
section LTJ0
variable (fn : List (List Nat × List GVs × Ty)) (mt : List (Option (Nat × Nat × Ty))) (ab : List (Option Nat)) (ins : List INs)
def jbC (j : JB) : Nat := if j.1 = 2 then jct (fn, mt, ab, ins, j.2.2.2.1.1) j.2.2.2.1.2.2.1 else if j.1 = 6 then lnC (fn, mt, ab, ins, gvI j.2.2.2.2.1) j.2.2.2.2.2.2 else 0
def jsC (l : List JB) : Nat := (l.map (jbC fn mt ab ins)).sum
theorem jsC_c {j : JB} {l : List JB} : jsC fn mt ab ins (j :: l) = jbC fn mt ab ins j + jsC fn mt ab ins l := by unfold jsC; rw [List.map_cons, List.sum_cons]
end LTJ0
/-- nodes of a job -/
def WTj (j : JB) (i : Nat) : Prop := (j.1 = 2 ∨ j.1 = 6) ∧ WTn j.2.2.2.2.2.2 i
/-- judged, in the twin -/
def JbT (σ : tS) (n : Nat) (j : JB) (es : List Et) : Prop := j.1 = 2 ∨ j.1 = 6 → es.length = j.2.2.2.2.2.2.length ∧ ∀ (k : Nat) (y : LD × TD) (e : Et), j.2.2.2.2.2.2[k]? = some y → es[k]? = some e → XTe σ n e y.2.2.2.1 y.2.2.2.2.1 y.2.2.1
def JbsTJ (σ : tS) (n : Nat) : List JB → List (List Et) → Prop
  | [], [] => True
  | j :: l, es :: ess => JbT σ n j es ∧ JbsTJ σ n l ess
  | _, _ => False
section LTJA
variable {σ τ : tS} {n n' : Nat} {E : JE} {fn : List (List Nat × List GVs × Ty)} {mt : List (Option (Nat × Nat × Ty))} {ab : List (Option Nat)} {ins : List INs} {gv0 : List GVs}
theorem XTe_keepA (F : frN σ τ) (X : tx σ n τ n') {e : Et} {lo hi v : Nat} (k : ∀ i, lo ≤ i → i < hi → ga τ 842 i = ga σ 842 i ∧ ga τ 846 i = ga σ 846 i) (H : XTe σ n e lo hi v) : XTe τ n' e lo hi v := XTg_keepN F X (lo0 := lo) (hi0 := hi) (fun a x g1 g2 p => ⟨by rw [(k x g1 g2).1]; exact tyT_mono X p.1, by rw [(k x g1 g2).2]; exact tyT_mono X p.2⟩) e lo hi v (Nat.le_refl _) (Nat.le_refl _) H
theorem FnT_keepA {f w : Nat} {x : List Nat × List GVs × Ty} (g : ∀ a ∈ [734, 738, 742, 746, 750, 754, 758, 762], ∀ i, ga τ a i = ga σ a i) (X : tx σ n τ n') (P : FnT σ n f w x) : FnT τ n' f w x := by
  obtain ⟨⟨a1, a2⟩, ⟨b1, b2, b3⟩, ⟨c1, c2, c3⟩, d⟩ := P
  refine ⟨⟨by rw [g 734 (by simp)]; exact a1, a2⟩, ⟨by rw [g 738 (by simp)]; exact b1, b2, fun j w e => by rw [g 742 (by simp)]; exact b3 j w e⟩, ⟨by rw [g 746 (by simp)]; exact c1, c2, fun j gg e => ?_⟩, by rw [g 762 (by simp)]; exact tyT_mono X d⟩
  obtain ⟨e1, e2, e3, e4⟩ := c3 j gg e
  exact ⟨by rw [g 750 (by simp)]; exact e1, e2, by rw [g 754 (by simp)]; exact e3, by rw [g 758 (by simp)]; exact tyT_mono X e4⟩
theorem JbsT_keep (F : fr JAS JAA σ τ) (X : tx σ n τ n') : ∀ {l : List JB} {dd f i : Nat}, JbsT fn mt ab ins σ n l dd f i → JbsT fn mt ab ins τ n' l dd f i
  | [], _, _, _, _ => trivial
  | j :: l, dd, f, i, ⟨⟨a1, a2⟩, b, c, d⟩ => by
    have fN := frN_JA F
    refine ⟨⟨by rw [F.2 570 (by decide)]; exact a1, a2⟩, fun w => ?_, fun w => ?_, JbsT_keep F X d⟩
    · obtain ⟨w', x, y, e1, ⟨e2, e3, e4⟩, e5, e6, e7⟩ := b w
      exact ⟨w', x, y, e1, ⟨e2, e3, FnT_keepA (fun a ha i => F.2 a ((by decide : ∀ a ∈ [734, 738, 742, 746, 750, 754, 758, 762], a ∉ JAA) a ha) i) X e4⟩, by rw [F.2 622 (by decide)]; exact e5, XTg_keepN fN X (lo0 := y.2.2.2.1) (hi0 := y.2.2.2.2.1) (fun _ _ _ _ p => Fx_keepN fN p) _ _ _ _ (Nat.le_refl _) (Nat.le_refl _) e6, e7⟩
    · obtain ⟨e1, e2, e3, e4⟩ := c w
      refine ⟨?_, InTw_keep (fun a ha i => F.2 a ((by decide : ∀ a ∈ [694, 698, 702, 706, 710, 714, 718, 722], a ∉ JAA) a ha) i) X e2, fun y hy => LnTw_keep fN X (e3 y hy), e4⟩
      rw [F.2 602 (by decide)]
      exact chain_keep e1 (fun o _ => F.2 562 (by decide) o)
/-- what one job comes to -/
theorem t_job {s : JS} {j : JB} {l : List JB} {dd f i : Nat} {z1 : (Nat × Nat) ⊕ (List Et × JS)} (ez : jj1 fn mt ab ins j s = some z1) (H : TJ σ n (fn, mt, ab, ins, gv0) s) (A : JbsT fn mt ab ins σ n (j :: l) dd f i) (hF : dd < 690 ∧ f < 900 ∧ i < 900) (h624 : ¬ gs σ 624 ≤ (dd : Int)) (R : n + jbC fn mt ab ins j + 142 * (300 - s.1) + 21000 < 126000) : ∃ σ' n', T_judgeAll_6s ((f : Int), (i : Int), (dd : Int), σ) = some (.inl (((if j.1 = 2 then f + 1 else f : Nat) : Int), ((if j.1 = 6 then i + 1 else i : Nat) : Int), ((dd + 1 : Nat) : Int), σ')) ∧ fr JAS JAA σ σ' ∧ (∀ k, ¬ WTj j k → ga σ' 842 k = ga σ 842 k ∧ ga σ' 846 k = ga σ 846 k) ∧ tx σ n σ' n' ∧ (NodB σ' ∧ gs σ' 856 = 0) ∧ (∀ k p, z1 = .inl (k, p) → (k ≠ 0 ∧ gs σ' 452 = (k : Int) ∧ gs σ' 456 = (p : Int)) ∧ TyW σ' n' ∧ n' ≤ n + jbC fn mt ab ins j + 142 * (300 - s.1) + 21000) ∧ ∀ es s', z1 = .inr (es, s') → TJ σ' n' (fn, mt, ab, ins, gv0) s' ∧ s.1 ≤ s'.1 ∧ n' ≤ n + jbC fn mt ab ins j + 142 * (s'.1 - s.1) ∧ JbT σ' n' j es ∧ ∃ D, s'.2 = s.2 ++ D ∧ ∀ X ∈ D, ∃ t, tyT σ' n' X t := by
  obtain ⟨σ0, eσ0⟩ : ∃ σ0, σ0 = us (us σ 788 0) 856 0 := ⟨_, rfl⟩
  have F0 : fr JFS JFA σ σ0 := by
    rw [eσ0]
    exact fr_us (fr_us (fr_refl _ _ _) (by simp)) (by simp)
  have F0' := fr_JA F0
  have A0 : ∀ g k, ga σ0 g k = ga σ g k := fun g k => by rw [eσ0]; rfl
  have X0 : tx σ n σ0 n := tx_same (fun g _ k => A0 g k)
  have g0 : gs σ0 788 = 0 ∧ gs σ0 856 = 0 := by
    rw [eσ0]
    exact ⟨by rw [gs_us, if_neg (by decide), gs_us, if_pos rfl], by rw [gs_us, if_pos rfl]⟩
  have sg : ∀ g, g ≠ 788 → g ≠ 856 → gs σ0 g = gs σ g := fun g h1 h2 => by rw [eσ0, gs_us, if_neg (by omega), gs_us, if_neg (by omega)]
  obtain ⟨S1, J1, f1, ⟨c1, c2⟩, N1⟩ := id H
  have H0 : TJ σ0 n (fn, mt, ab, ins, gv0) s := ⟨TyS_same (sg 532 (by decide) (by decide)) (fun g _ k => A0 g k) S1, JT0_fr F0' X0 J1, by rw [sg 452 (by decide) (by decide)]; exact f1, ⟨by rw [sg 812 (by decide) (by decide)]; exact c1, c2⟩, fun k => by rw [A0]; exact N1 k⟩
  obtain ⟨⟨a1, a2⟩, b, c, d⟩ := JbsT_keep F0' X0 A
  have dN : ((dd : Int)).toNat = dd := by omega
  have wd : w32 ((dd : Int) + 1) = ((dd + 1 : Nat) : Int) := by rw [w32_s (by omega) (by omega)]; rfl
  have a570 : ga σ 570 dd = (j.1 : Int) := A.1.1
  have st0 : T_judgeAll_6s ((f : Int), (i : Int), (dd : Int), σ) = if (j.1 : Int) ≠ 2 then T_judgeAll_80 (f : Int) (i : Int) (dd : Int) σ0 else T_judgeAll_41 (f : Int) (i : Int) (dd : Int) σ0 := by
    unfold T_judgeAll_6s
    simp only
    rw [if_neg h624, if_neg (fun w => w f1), if_pos (by omega), dN, a570, ← eσ0]
  have tw : ∀ k, ga σ0 842 k = ga σ 842 k ∧ ga σ0 846 k = ga σ 846 k := fun k => ⟨A0 842 k, A0 846 k⟩
  by_cases w2 : j.1 = 2
  · obtain ⟨w, x, y, e1, ⟨e2, e3, e4⟩, e5, e6, e7, e8, e9, e10, e11, e12, ⟨e13, e14⟩, e15, e16⟩ := b w2
    have eC : jbC fn mt ab ins j = jct (fn, mt, ab, ins, j.2.2.2.1.1) j.2.2.2.1.2.2.1 := by unfold jbC; rw [if_pos w2]
    rw [eC] at R ⊢
    unfold jj1 at ez
    rw [if_pos w2] at ez
    obtain ⟨zz, ezz⟩ : ∃ zz, (jb (jd (fn, mt, ab, ins, j.2.2.2.1.1) j.2.2.2.1.2.2.1 [] s) fun a => jw (fn, mt, ab, ins, j.2.2.2.1.1) j.2.2.2.1.2.1 a.1 a.2) = some zz := by
      rcases jb_cs ez with ⟨kp, q1, _⟩ | ⟨a, q1, _⟩
      · exact ⟨_, q1⟩
      · exact ⟨_, q1⟩
    rw [← e2] at ezz e15 e16 e8 R
    obtain ⟨σ', n', r1, r2, r3, r4, r5, r6, r7⟩ := t_fj (b := 2700) (l2 := (i : Int)) (f := f) (d := dd) e15 e16 ezz H0 g0 e7 a2 e4 e5 (by rw [← e3]; exact e4.2.2.2) (XTq_p e6) e8 ⟨Nat.le_refl _, e9⟩ e10 e11 e12 e13 e14 (by omega)
    rw [e2] at r6 r7
    refine ⟨σ', n', ?_, fr_trans F0' r2, fun k hk => ?_, tx_trans X0 r4, r5, fun k p v => ?_, fun es s' v => ?_⟩
    · rw [st0, if_neg (by omega), r1, if_pos w2, if_neg (by omega)]
    · have hk' : k < y.2.2.2.1 ∨ y.2.2.2.2.1 ≤ k := by
        by_cases q : y.2.2.2.1 ≤ k ∧ k < y.2.2.2.2.1
        · exact absurd ⟨.inl w2, y, by rw [e1]; simp, q⟩ hk
        · omega
      have := r3 k hk'
      exact ⟨this.1.trans (tw k).1, this.2.trans (tw k).2⟩
    · rcases jb_cs ez with ⟨kp, q1, q2⟩ | ⟨a, q1, q2⟩
      · rw [← e2] at q1
        have q3 : zz = .inl kp := Option.some.inj (ezz.symm.trans q1)
        rw [q2] at v
        obtain ⟨u1, u2, u3⟩ := r6 k p (by rw [q3, Sum.inl.inj v])
        exact ⟨u1, u2, by omega⟩
      · have : z1 = .inr ([a.1], a.2) := (Option.some.inj q2).symm
        rw [this] at v; cases v
    · rcases jb_cs ez with ⟨kp, q1, q2⟩ | ⟨⟨e0, s0⟩, q1, q2⟩
      · rw [q2] at v; cases v
      · rw [← e2] at q1
        have q3 : zz = .inr (e0, s0) := Option.some.inj (ezz.symm.trans q1)
        have q4 : z1 = .inr ([e0], s0) := (Option.some.inj q2).symm
        rw [q4] at v
        injection Sum.inr.inj v with v1 v2
        rw [← v1, ← v2]
        obtain ⟨u1, u2, u3, u4, u5⟩ := r7 e0 s0 q3
        refine ⟨u1, u2, by omega, fun _ => ⟨by rw [e1]; rfl, fun k y' e' g1 g2 => ?_⟩, u5⟩
        rw [e1] at g1
        cases k with
        | zero =>
          have gy : y = y' := Option.some.inj g1
          have ge : e0 = e' := Option.some.inj g2
          rw [← gy, ← ge]; exact u4
        | succ k => cases g1
  · by_cases w6 : j.1 = 6
    · obtain ⟨e1, e2, e3, e4, e5, e6, e7, e8⟩ := c w6
      have eC : jbC fn mt ab ins j = lnC (fn, mt, ab, ins, gvI j.2.2.2.2.1) j.2.2.2.2.2.2 := by unfold jbC; rw [if_neg w2, if_pos w6]
      rw [eC] at R ⊢
      unfold jj1 at ez
      rw [if_neg w2, if_pos w6] at ez
      obtain ⟨σ', n', r1, r2, r3, r4, r5, r6, r7⟩ := t_ij (l1 := (f : Int)) (f := i) (dd := dd) e8 e6 e5 e7 ez H0 g0 a2 (by rw [a1, w6]; rfl) e1 e2 e3 e4 R
      refine ⟨σ', n', ?_, fr_trans F0' r2, fun k hk => ?_, tx_trans X0 r4, r5, r6, fun es s' v => ?_⟩
      · rw [st0, if_pos (by omega), r1, if_neg w2, if_pos w6]
      · have := r3 k (fun q => hk ⟨.inr w6, q⟩)
        exact ⟨this.1.trans (tw k).1, this.2.trans (tw k).2⟩
      · obtain ⟨u1, u2, u3, u4, u5, u6⟩ := r7 es s' v
        exact ⟨u1, u2, u3, fun _ => ⟨u4, u5⟩, u6⟩
    · have eC : jbC fn mt ab ins j = 0 := by unfold jbC; rw [if_neg w2, if_neg w6]
      have e1 : jj1 fn mt ab ins j s = some (.inr ([], s)) := by
        unfold jj1
        rw [if_neg w2, if_neg w6]
      rw [e1] at ez
      have q4 : z1 = .inr ([], s) := (Option.some.inj ez).symm
      refine ⟨σ0, n, ?_, F0', fun k _ => tw k, X0, ⟨H0.2.2.2.2, g0.2⟩, fun k p v => (by rw [q4] at v; cases v), fun es s' v => ?_⟩
      · rw [st0, if_pos (by omega), if_neg w2, if_neg w6]
        unfold T_judgeAll_80
        rw [if_pos (by omega), dN, a1, if_pos (by omega), wd]
      · rw [q4] at v
        injection Sum.inr.inj v with v1 v2
        rw [← v1, ← v2]
        exact ⟨H0, Nat.le_refl _, by omega, fun q => absurd q (fun q => q.elim w2 w6), [], by simp, fun X hX => absurd hX List.not_mem_nil⟩
/-- ALL OF THEM, in the twin -/
theorem t_jall : ∀ (l : List JB) (dd f i : Nat) (s : JS) (zz : (Nat × Nat) ⊕ (List (List Et) × JS)) (σ : tS) (n : Nat), jjs fn mt ab ins l s = some zz → TJ σ n (fn, mt, ab, ins, gv0) s → JbsT fn mt ab ins σ n l dd f i → l.Pairwise (fun j j' => ∀ k, WTj j k → ¬ WTj j' k) → gs σ 624 = ((dd + l.length : Nat) : Int) → (dd + l.length ≤ 690 ∧ f + l.length < 900 ∧ i + l.length < 900) → n + jsC fn mt ab ins l + 142 * (300 - s.1) + 21000 < 126000 → ∃ σ' n', om_loop T_judgeAll_6s ((f : Int), (i : Int), (dd : Int), σ) = some σ' ∧ fr JAS JAA σ σ' ∧ tx σ n σ' n' ∧ (NodB σ' ∧ (l = [] ∧ gs σ' 856 = gs σ 856 ∨ gs σ' 856 = 0)) ∧ (∀ k, (∀ j ∈ l, ¬ WTj j k) → ga σ' 842 k = ga σ 842 k ∧ ga σ' 846 k = ga σ 846 k) ∧ (∀ k p, zz = .inl (k, p) → (k ≠ 0 ∧ gs σ' 452 = (k : Int) ∧ gs σ' 456 = (p : Int)) ∧ TyW σ' n' ∧ n' ≤ n + jsC fn mt ab ins l + 142 * (300 - s.1) + 21000) ∧ ∀ ess s', zz = .inr (ess, s') → TJ σ' n' (fn, mt, ab, ins, gv0) s' ∧ s.1 ≤ s'.1 ∧ n' ≤ n + jsC fn mt ab ins l + 142 * (s'.1 - s.1) ∧ JbsTJ σ' n' l ess ∧ ∃ D, s'.2 = s.2 ++ D ∧ ∀ X ∈ D, ∃ t, tyT σ' n' X t
  | [], dd, f, i, s, zz, σ, n, ez, H, _, _, h624, _, R => by
    have ez' : zz = .inr ([], s) := (Option.some.inj ez).symm
    refine ⟨σ, n, om_loop_out ?_, fr_refl _ _ _, tx_refl _ _, ⟨H.2.2.2.2, .inl ⟨rfl, rfl⟩⟩, fun _ _ => ⟨rfl, rfl⟩, fun k p w => (by rw [ez'] at w; cases w), fun ess s' w => ?_⟩
    · unfold T_judgeAll_6s
      simp only
      rw [h624, if_pos (by simp)]
    · rw [ez'] at w
      injection Sum.inr.inj w with w1 w2
      rw [← w1, ← w2]
      exact ⟨H, Nat.le_refl _, by omega, trivial, [], by simp, fun X hX => absurd hX List.not_mem_nil⟩
  | j :: l, dd, f, i, s, zz, σ, n, ez, H, A, pw, h624, hb, R => by
    obtain ⟨pw1, pw2⟩ := List.pairwise_cons.mp pw
    rw [jsC_c] at R
    rw [jsC_c]
    rw [List.length_cons] at h624 hb
    have ez2 : (jb (jj1 fn mt ab ins j s) fun a => jb (jjs fn mt ab ins l a.2) fun b => some (.inr (a.1 :: b.1, b.2))) = some zz := ez
    obtain ⟨z1, ez1⟩ : ∃ z1, jj1 fn mt ab ins j s = some z1 := by
      rcases jb_cs ez2 with ⟨kp, e1, _⟩ | ⟨a, e1, _⟩
      · exact ⟨_, e1⟩
      · exact ⟨_, e1⟩
    obtain ⟨σ1, n1, r1, r2, r3, r4, r5, r6, r7⟩ := t_job (l := l) ez1 H A ⟨by omega, by omega, by omega⟩ (by omega) (by omega)
    have nW : ∀ k, (∀ j' ∈ j :: l, ¬ WTj j' k) → ¬ WTj j k ∧ ∀ j' ∈ l, ¬ WTj j' k := fun k w => ⟨w j (by simp), fun j' hj' => w j' (by simp [hj'])⟩
    have g1 : gs σ1 624 = gs σ 624 := r2.1 624 (by decide)
    rcases jb_cs ez2 with ⟨kp, e1, e2⟩ | ⟨⟨es, s1⟩, e1, e2⟩
    · have ezk : z1 = .inl kp := Option.some.inj (ez1.symm.trans e1)
      obtain ⟨⟨k0, k1, k2⟩, u1, u2⟩ := r6 kp.1 kp.2 ezk
      have n452 : gs σ1 452 ≠ 0 := by rw [k1]; omega
      refine ⟨σ1, n1, ?_, r2, r4, ⟨r5.1, .inr r5.2⟩, fun k w => r3 k (nW k w).1, fun k p w => ?_, fun ess s' w => by rw [e2] at w; cases w⟩
      · rw [om_loop_in r1]
        refine om_loop_out ?_
        unfold T_judgeAll_6s
        simp only
        by_cases q : gs σ1 624 ≤ ((dd + 1 : Nat) : Int)
        · rw [if_pos q]
        · rw [if_neg q, if_pos n452]
      · rw [e2] at w
        have w' := Sum.inl.inj w
        rw [w'] at k0 k1 k2
        exact ⟨⟨k0, k1, k2⟩, u1, by omega⟩
    · have ezk : z1 = .inr (es, s1) := Option.some.inj (ez1.symm.trans e1)
      obtain ⟨H1, k3, l1, JT1, D1, d1, d2⟩ := r7 es s1 ezk
      have A1 := JbsT_keep r2 r4 A.2.2.2
      have f9 : (if j.1 = 2 then f + 1 else f) ≤ f + 1 := by split <;> omega
      have i9 : (if j.1 = 6 then i + 1 else i) ≤ i + 1 := by split <;> omega
      have hs := H1.2.2.2.1.2
      rcases jb_cs e2 with ⟨kp', q1, q2⟩ | ⟨⟨ess1, s2⟩, q1, q2⟩
      · obtain ⟨σ2, n2, i1, i2, i3, i4, i5, i6, _⟩ := t_jall l (dd + 1) _ _ s1 _ σ1 n1 q1 H1 A1 pw2 (by rw [g1, h624]; omega) ⟨by omega, by omega, by omega⟩ (by omega)
        obtain ⟨u0, u1, u2⟩ := i6 kp'.1 kp'.2 rfl
        refine ⟨σ2, n2, by rw [om_loop_in r1]; exact i1, fr_trans r2 i2, tx_trans r4 i3, ⟨i4.1, .inr (i4.2.elim (fun w => w.2.trans r5.2) (fun w => w))⟩, fun k w => ⟨(i5 k (nW k w).2).1.trans (r3 k (nW k w).1).1, (i5 k (nW k w).2).2.trans (r3 k (nW k w).1).2⟩, fun k p w => ?_, fun ess s' w => by rw [q2] at w; cases w⟩
        rw [q2] at w
        have w' := Sum.inl.inj w
        rw [w'] at u0
        exact ⟨u0, u1, by omega⟩
      · obtain ⟨σ2, n2, i1, i2, i3, i4, i5, _, i7⟩ := t_jall l (dd + 1) _ _ s1 _ σ1 n1 q1 H1 A1 pw2 (by rw [g1, h624]; omega) ⟨by omega, by omega, by omega⟩ (by omega)
        obtain ⟨u1, u2, u3, u4, D, u5, u6⟩ := i7 ess1 s2 rfl
        have q2' : zz = .inr (es :: ess1, s2) := (Option.some.inj q2).symm
        refine ⟨σ2, n2, by rw [om_loop_in r1]; exact i1, fr_trans r2 i2, tx_trans r4 i3, ⟨i4.1, .inr (i4.2.elim (fun w => w.2.trans r5.2) (fun w => w))⟩, fun k w => ⟨(i5 k (nW k w).2).1.trans (r3 k (nW k w).1).1, (i5 k (nW k w).2).2.trans (r3 k (nW k w).1).2⟩, fun k p w => (by rw [q2'] at w; cases w), fun ess s' w => ?_⟩
        rw [q2'] at w
        injection Sum.inr.inj w with v1 v2
        rw [← v1, ← v2]
        refine ⟨u1, by omega, by omega, ⟨fun q => ⟨(JT1 q).1, fun k y e g1 g2 => ?_⟩, u4⟩, D1 ++ D, by rw [u5, d1, List.append_assoc], fun Y hY => ?_⟩
        · refine XTe_keepA (frN_JA i2) i3 (fun k' h1 h2 => i5 k' (fun j' hj' => pw1 j' hj' k' ⟨q, y, List.mem_of_getElem? g1, h1, h2⟩)) ((JT1 q).2 k y e g1 g2)
        · rcases List.mem_append.mp hY with q | q
          · obtain ⟨t', ht⟩ := d2 Y q
            exact ⟨t', tyT_mono i3 ht⟩
          · exact u6 Y q
end LTJA
