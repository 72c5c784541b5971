set_option maxRecDepth 100000
/-! THE LINES OF AN INST, in the twin -/
/-- a line in the twin: node, ex, range of its nodes, token of its name -/
abbrev TD : Type := Nat × Nat × Nat × Nat × Nat
/-- an ex's node, with its names, numbers, signs -/
abbrev XTq (σ : tS) (n : Nat) (t : Xt) (lo hi v : Nat) : Prop := XTg id (Fx σ) σ n t lo hi v
theorem Fx_keepN {σ τ : tS} (F : frN σ τ) {lb : XL} {v : Nat} (H : Fx σ lb v) : Fx τ lb v := by
  obtain ⟨a, b, c, d, dd, ee⟩ := H
  have e538 := F.2 538 (by decide) v
  refine ⟨fun z => ?_, fun z => ?_, fun z => ?_, fun z => ?_, dd, fun z => ee (by rw [e538] at z; exact z)⟩
  · rw [e538] at z
    obtain ⟨k, k1, k2, k3, k4⟩ := a z
    exact ⟨k, by rw [F.2 542 (by decide)]; exact k1, k2, by rw [F.2 482 (by decide)]; exact k3, k4⟩
  · rw [e538] at z
    obtain ⟨k, k1, k2, k3, k4⟩ := b z
    exact ⟨k, by rw [F.2 546 (by decide)]; exact k1, k2, by rw [F.2 482 (by decide)]; exact k3, k4⟩
  · rw [e538] at z
    obtain ⟨k, k1, k2, ⟨k3, k4⟩, k5, k6⟩ := c z
    exact ⟨k, by rw [F.2 554 (by decide)]; exact k1, k2, ⟨by rw [F.2 482 (by decide)]; exact k3, k4⟩, by rw [F.2 482 (by decide)]; exact k5, k6⟩
  · rw [e538] at z
    obtain ⟨k, k1, k2, k3, k4⟩ := d z
    refine ⟨k, by rw [F.2 542 (by decide)]; exact k1, k2, ?_, ?_⟩
    · rw [F.2 470 (by decide)]; exact k3
    · rw [F.2 470 (by decide)]; exact k4
theorem XTq_p {σ : tS} {n lo hi v : Nat} {t : Xt} (H : XTq σ n t lo hi v) : XTp σ n t lo hi v := XTg_keepN (σ := σ) (τ := σ) ⟨trivial, fun _ _ _ => rfl⟩ (tx_refl _ _) (lo0 := lo) (hi0 := hi) (fun _ _ _ _ _ => trivial) _ _ _ _ (Nat.le_refl _) (Nat.le_refl _) H
def LnTw (σ : tS) (n : Nat) (E : JE) (wc : Nat) (d : INs) (y : LD × TD) : Prop := XTq σ n y.1.2.2.2.1 y.2.2.2.1 y.2.2.2.2.1 y.2.2.1 ∧ (y.2.1 < 8400 ∧ ga σ 546 y.2.1 = (y.2.2.1 : Int) ∧ ga σ 542 y.2.1 = (y.2.2.2.2.2 : Int) ∧ y.2.2.2.2.2 < 4100 ∧ ga σ 482 y.2.2.2.2.2 = (y.1.2.2.1.1 : Int) ∧ y.1.2.2.1.1 < 2100) ∧ (ga σ 642 y.1.2.2.1.1 = ((4 * d.1 + y.1.2.2.1.2.1 : Nat) : Int) ∧ y.1.2.2.1.2.1 < 4 ∧ E.2.1[4 * d.1 + y.1.2.2.1.2.1]? = some (some (d.1, wc, y.1.2.2.1.2.2.2))) ∧ (tyOk E.2.2.2.1 y.1.2.2.1.2.2.2 ∧ tsz y.1.2.2.1.2.2.2 ≤ 2700 ∧ tdp y.1.2.2.1.2.2.2 < 60) ∧ tyOk E.2.2.2.1 (sbT [(wc, hdI d)] y.1.2.2.1.2.2.2) ∧ xok E y.1.2.2.2.1 0 ∧ 2700 + xsz y.1.2.2.2.1 ≤ 1000000 ∧ xbd y.1.2.2.2.1 ≤ 590 ∧ y.2.2.2.2.1 - y.2.2.2.1 ≤ 4200 ∧ xrd y.1.2.2.2.1 < 130
def lnC (E : JE) (l : List (LD × TD)) : Nat := (l.map (fun y => jct E y.1.2.2.2.1 + 63)).sum
theorem lnC_c {E : JE} {y : LD × TD} {l : List (LD × TD)} : lnC E (y :: l) = jct E y.1.2.2.2.1 + 63 + lnC E l := by unfold lnC; rw [List.map_cons, List.sum_cons]
/-- nodes of lines -/
def WTn (l : List (LD × TD)) (i : Nat) : Prop := ∃ y ∈ l, y.2.2.2.1 ≤ i ∧ i < y.2.2.2.2.1
section LTLs
variable {σ τ : tS} {n n' : Nat} {E : JE} {wc f : Nat} {d : INs}
theorem LnTw_keep {y : LD × TD} (F : frN σ τ) (X : tx σ n τ n') (H : LnTw σ n E wc d y) : LnTw τ n' E wc d y := by
  obtain ⟨a1, ⟨b1, b2, b3, b4, b5, b6⟩, ⟨c1, c2⟩, e⟩ := H
  exact ⟨XTg_keepN F X (lo0 := y.2.2.2.1) (hi0 := y.2.2.2.2.1) (fun _ _ _ _ p => Fx_keepN F p) _ _ _ _ (Nat.le_refl _) (Nat.le_refl _) a1, ⟨b1, by rw [F.2 546 (by simp)]; exact b2, by rw [F.2 542 (by simp)]; exact b3, b4, by rw [F.2 482 (by simp)]; exact b5, b6⟩, ⟨by rw [F.2 642 (by simp)]; exact c1, c2⟩, e⟩
theorem InTw_keep {C : Nat} (g : ∀ a ∈ [694, 698, 702, 706, 710, 714, 718, 722], ∀ i, ga τ a i = ga σ a i) (X : tx σ n τ n') (P : InTw σ n C f d) : InTw τ n' C f d := by
  obtain ⟨⟨u1, u1'⟩, ⟨u2, u2'⟩, ⟨u3, u4, u5⟩, ⟨u6, u7, u8⟩, u9⟩ := P
  exact ⟨⟨by rw [g 694 (by simp)]; exact u1, u1'⟩, ⟨by rw [g 698 (by simp)]; exact u2, u2'⟩, ⟨by rw [g 702 (by simp)]; exact u3, u4, fun j w e => by rw [g 706 (by simp)]; exact u5 j w e⟩, ⟨by rw [g 710 (by simp)]; exact u6, u7, fun j c e => by rw [g 714 (by simp), g 718 (by simp)]; exact u8 j c e⟩, by rw [g 722 (by simp)]; exact tyT_mono X u9⟩
/-- THE LINES, in the twin -/
theorem t_lines {B : Nat} (J : JOk E B) (hg : ∀ g ∈ E.2.2.2.2, g.1 < 100 → g.1 < E.2.2.1.length) (h8 : E.2.2.1.length ≤ 8) (hf : f < 20) (okH : tyOk E.2.2.2.1 (hdI d)) {l1 l3 : Int} : ∀ (l : List (LD × TD)) (s : JS) (zz : (Nat × Nat) ⊕ (List Et × JS)) (σ : tS) (n : Nat) (fst : Int), jls E (l.map (fun y : LD × TD => ldT wc d y.1)) s = some zz → JSt σ n E [] s 0 → chain σ fst (l.map (fun y : LD × TD => y.2.1)) → InTw σ n E.2.2.1.length f d → (∀ y ∈ l, LnTw σ n E wc d y) → l.Pairwise (fun y y' => y.2.2.2.2.1 ≤ y'.2.2.2.1) → n + lnC E l + 142 * (300 - s.1) + 21000 < 126000 → ∃ σ' n', om_loop (T_judgeAll_104s l1 (f : Int) l3) (fst, σ) = some σ' ∧ fr JFS JFA σ σ' ∧ (∀ i, ¬ WTn l i → ga σ' 842 i = ga σ 842 i ∧ ga σ' 846 i = ga σ 846 i) ∧ (gs σ' 788 = gs σ 788 ∧ gs σ' 856 = gs σ 856 ∧ NodB σ') ∧ tx σ n σ' n' ∧ (∀ k p, zz = .inl (k, p) → (k ≠ 0 ∧ gs σ' 452 = (k : Int) ∧ gs σ' 456 = (p : Int)) ∧ TyW σ' n' ∧ n' ≤ n + lnC E l + 142 * (300 - s.1) + 21000) ∧ ∀ es s', zz = .inr (es, s') → (gs σ' 452 = 0 ∧ gs σ' 812 = (s'.1 : Int) ∧ s.1 ≤ s'.1 ∧ s'.1 ≤ 300) ∧ TyS σ' n' ∧ n' ≤ n + lnC E l + 142 * (s'.1 - s.1) ∧ es.length = l.length ∧ (∀ (i : Nat) (y : LD × TD) (e : Et), l[i]? = some y → es[i]? = some e → XTe σ' n' e y.2.2.2.1 y.2.2.2.2.1 y.2.2.1) ∧ ∃ D, s'.2 = s.2 ++ D ∧ ∀ X ∈ D, ∃ t, tyT σ' n' X t
  | [], s, zz, σ, n, fst, ez, A, C, P, _, _, R => by
    have ez' : zz = .inr ([], s) := (Option.some.inj ez).symm
    have ef : fst = -1 := C
    refine ⟨σ, n, om_loop_out ?_, fr_refl _ _ _, fun _ _ => ⟨rfl, rfl⟩, ⟨rfl, rfl, A.2.2.2.2.2⟩, tx_refl _ _, fun k p w => (by rw [ez'] at w; cases w), fun es s' w => ?_⟩
    · unfold T_judgeAll_104s
      simp only
      rw [if_pos ef]
    · rw [ez'] at w
      injection Sum.inr.inj w with w1 w2
      rw [← w1, ← w2]
      exact ⟨⟨A.2.2.1, A.2.2.2.1.1, Nat.le_refl _, A.2.2.2.1.2⟩, A.1.1, by omega, rfl, fun i y e e1 => (by cases e1), [], by simp, fun X hX => absurd hX List.not_mem_nil⟩
  | y :: l, s, zz, σ, n, fst, ez, A, C, P, hL, pw, R => by
    obtain ⟨ef, C2⟩ : fst = (y.2.1 : Int) ∧ chain σ (ga σ 562 y.2.1) (l.map (fun y : LD × TD => y.2.1)) := C
    obtain ⟨p1, ⟨b1, b2, b3, b4, b5, b6⟩, ⟨c1, c2, c3⟩, m1, m2, m3, m4, m5, m6, m7⟩ := hL y (by simp)
    obtain ⟨pw1, pw2⟩ := List.pairwise_cons.mp pw
    rw [lnC_c] at R
    rw [lnC_c]
    have ez2 : (jb (jln E (ldT wc d y.1).1 (ldT wc d y.1).2 s) fun a => jb (jls E (l.map (fun y : LD × TD => ldT wc d y.1)) a.2) fun b => some (.inr (a.1 :: b.1, b.2))) = some zz := ez
    obtain ⟨z1, ez1⟩ : ∃ z1, jln E (sbT [(wc, hdI d)] y.1.2.2.1.2.2.2) y.1.2.2.2.1 s = some z1 := by
      rcases jb_cs ez2 with ⟨kp, e1, _⟩ | ⟨a, e1, _⟩
      · exact ⟨_, e1⟩
      · exact ⟨_, e1⟩
    obtain ⟨σ1, n1, r1, F1, ⟨g1, g2, g3⟩, X1, r2, r3⟩ := t_line (l1 := l1) (l3 := l3) (b := 2700) (nx := 0) J hg ez1 A (XTq_p p1) ⟨b1, b2, b3, b4, b5, b6, rfl⟩ c1 c2 c3 hf P h8 m1 okH m2 m3 ⟨Nat.le_refl _, m4⟩ m5 m6 m7 (by omega)
    rw [ef]
    have nW : ∀ i, ¬ WTn (y :: l) i → (i < y.2.2.2.1 ∨ y.2.2.2.2.1 ≤ i) ∧ ¬ WTn l i := fun i w => ⟨by
      by_cases v : y.2.2.2.1 ≤ i ∧ i < y.2.2.2.2.1
      · exact absurd ⟨y, by simp, v⟩ w
      · omega, fun ⟨y', v1, v2⟩ => w ⟨y', by simp [v1], v2⟩⟩
    rcases jb_cs ez2 with ⟨kp, e1, e2⟩ | ⟨⟨e0, s1⟩, e1, e2⟩
    · have ezk : z1 = .inl kp := Option.some.inj (ez1.symm.trans e1)
      obtain ⟨⟨k0, k1, k2⟩, w1, w2⟩ := r2 kp.1 kp.2 ezk
      have n452 : gs σ1 452 ≠ 0 := by rw [k1]; omega
      refine ⟨σ1, n1, ?_, F1.1, fun i w => F1.2.1 i (nW i w).1, ⟨g1, g2, g3⟩, X1, fun k p w => ?_, fun es s' w => by rw [e2] at w; cases w⟩
      · rw [om_loop_in r1]
        refine om_loop_out ?_
        unfold T_judgeAll_104s
        simp only
        by_cases v : ga σ 562 y.2.1 = -1
        · rw [if_pos v]
        · rw [if_neg v, if_pos n452]
      · rw [e2] at w
        have w' := Sum.inl.inj w
        rw [w'] at k0 k1 k2
        exact ⟨⟨k0, k1, k2⟩, w1, by omega⟩
    · have ezk : z1 = .inr (e0, s1) := Option.some.inj (ez1.symm.trans e1)
      obtain ⟨⟨k1, k2, k3, k4⟩, S1, l1', XE, D1, d1, d2⟩ := r3 e0 s1 ezk
      have A1 : JSt σ1 n1 E [] s1 0 := JSt_mv A F1 X1 S1 g1 k1 ⟨k2, k4⟩ g2 g3
      have fN := frN_fr F1.1
      have C1 : chain σ1 (ga σ 562 y.2.1) (l.map (fun y : LD × TD => y.2.1)) := chain_keep C2 (fun o _ => F1.1.2 562 (by decide) o)
      have P1 : InTw σ1 n1 E.2.2.1.length f d := InTw_keep (fun a ha i => F1.1.2 a ((by decide : ∀ a ∈ [694, 698, 702, 706, 710, 714, 718, 722], a ∉ JFA) a ha) i) X1 P
      have L1 : ∀ y' ∈ l, LnTw σ1 n1 E wc d y' := fun y' hy' => LnTw_keep fN X1 (hL y' (by simp [hy']))
      rcases jb_cs e2 with ⟨kp, f1, f2⟩ | ⟨⟨es1, s2⟩, f1, f2⟩
      · obtain ⟨σ2, n2, i1, i2, i3, ⟨i4, i5, i6⟩, i7, i8, _⟩ := t_lines J hg h8 hf okH (l1 := l1) (l3 := l3) l s1 _ σ1 n1 _ f1 A1 C1 P1 L1 pw2 (by omega)
        obtain ⟨w0, w1, w2⟩ := i8 kp.1 kp.2 rfl
        refine ⟨σ2, n2, by rw [om_loop_in r1]; exact i1, fr_trans F1.1 i2, fun i w => ⟨(i3 i (nW i w).2).1.trans (F1.2.1 i (nW i w).1).1, (i3 i (nW i w).2).2.trans (F1.2.1 i (nW i w).1).2⟩, ⟨i4.trans g1, i5.trans g2, i6⟩, tx_trans X1 i7, fun k p w => ?_, fun es s' w => by rw [f2] at w; cases w⟩
        rw [f2] at w
        have w' := Sum.inl.inj w
        rw [w'] at w0
        exact ⟨w0, w1, by omega⟩
      · obtain ⟨σ2, n2, i1, i2, i3, ⟨i4, i5, i6⟩, i7, _, i9⟩ := t_lines J hg h8 hf okH (l1 := l1) (l3 := l3) l s1 _ σ1 n1 _ f1 A1 C1 P1 L1 pw2 (by omega)
        obtain ⟨⟨w1, w2, w3, w4⟩, w5, w6, w7, w8, D, w9, w10⟩ := i9 es1 s2 rfl
        have f2' : zz = .inr (e0 :: es1, s2) := (Option.some.inj f2).symm
        refine ⟨σ2, n2, by rw [om_loop_in r1]; exact i1, fr_trans F1.1 i2, fun i w => ⟨(i3 i (nW i w).2).1.trans (F1.2.1 i (nW i w).1).1, (i3 i (nW i w).2).2.trans (F1.2.1 i (nW i w).1).2⟩, ⟨i4.trans g1, i5.trans g2, i6⟩, tx_trans X1 i7, fun k p w => (by rw [f2'] at w; cases w), fun es s' w => ?_⟩
        rw [f2'] at w
        injection Sum.inr.inj w with v1 v2
        rw [← v1, ← v2]
        refine ⟨⟨w1, w2, by omega, w4⟩, w5, by omega, by rw [List.length_cons, List.length_cons, w7], fun i y' e' q1 q2 => ?_, D1 ++ D, by rw [w9, d1, List.append_assoc], fun Y hY => ?_⟩
        · cases i with
          | zero =>
            have qy : y = y' := Option.some.inj q1
            have qe : e0 = e' := Option.some.inj q2
            rw [← qy, ← qe]
            refine XTe_keep i2 i7 (fun i h1 h2 => i3 i (fun w => ?_)) XE
            obtain ⟨y2, u1, u2, u3⟩ := w
            have := pw1 y2 u1
            omega
          | succ i => exact w8 i y' e' q1 q2
        · rcases List.mem_append.mp hY with q | q
          · obtain ⟨t', ht⟩ := d2 Y q
            exact ⟨t', tyT_mono i7 ht⟩
          · exact w10 Y q
/-- AN INST, in the twin -/
theorem t_ij {B : Nat} {fn : List (List Nat × List GVs × Ty)} {mt : List (Option (Nat × Nat × Ty))} {ab : List (Option Nat)} {ins : List INs} {gv0 : List GVs} {s : JS} (J : JOk (fn, mt, ab, ins, gvI d) B) (h8 : ab.length ≤ 8) (hf : f < 20) (okH : tyOk ins (hdI d)) {dd : Nat} {l1 : Int} {l : List (LD × TD)} {zz : (Nat × Nat) ⊕ (List Et × JS)} (ez : jls (fn, mt, ab, ins, gvI d) (l.map (fun y : LD × TD => ldT wc d y.1)) s = some zz) (H : TJ σ n (fn, mt, ab, ins, gv0) s) (g788 : gs σ 788 = 0 ∧ gs σ 856 = 0) (hd : dd < 700) (e570 : ga σ 570 dd = 6) (C : chain σ (ga σ 602 dd) (l.map (fun y : LD × TD => y.2.1))) (P : InTw σ n ab.length f d) (hL : ∀ y ∈ l, LnTw σ n (fn, mt, ab, ins, gvI d) wc d y) (pw : l.Pairwise (fun y y' => y.2.2.2.2.1 ≤ y'.2.2.2.1)) (R : n + lnC (fn, mt, ab, ins, gvI d) l + 142 * (300 - s.1) + 21000 < 126000) : ∃ σ' n', T_judgeAll_80 l1 (f : Int) (dd : Int) σ = some (.inl (l1, ((f + 1 : Nat) : Int), ((dd + 1 : Nat) : Int), σ')) ∧ fr JAS JAA σ σ' ∧ (∀ i, ¬ WTn l i → ga σ' 842 i = ga σ 842 i ∧ ga σ' 846 i = ga σ 846 i) ∧ tx σ n σ' n' ∧ (NodB σ' ∧ gs σ' 856 = 0) ∧ (∀ k p, zz = .inl (k, p) → (k ≠ 0 ∧ gs σ' 452 = (k : Int) ∧ gs σ' 456 = (p : Int)) ∧ TyW σ' n' ∧ n' ≤ n + lnC (fn, mt, ab, ins, gvI d) l + 142 * (300 - s.1) + 21000) ∧ ∀ es s', zz = .inr (es, s') → TJ σ' n' (fn, mt, ab, ins, gv0) s' ∧ s.1 ≤ s'.1 ∧ n' ≤ n + lnC (fn, mt, ab, ins, gvI d) l + 142 * (s'.1 - s.1) ∧ es.length = l.length ∧ (∀ (i : Nat) (y : LD × TD) (e : Et), l[i]? = some y → es[i]? = some e → XTe σ' n' e y.2.2.2.1 y.2.2.2.2.1 y.2.2.1) ∧ ∃ D, s'.2 = s.2 ++ D ∧ ∀ X ∈ D, ∃ t, tyT σ' n' X t := by
  obtain ⟨S0, J0, f0, ⟨c0, c300⟩, N0⟩ := H
  obtain ⟨σ1, b1, F1, V1⟩ := t_byI hf h8 P
  have F1' : fr JAS JAA σ σ1 := fr_sub F1 (by decide) (by decide)
  have T1 : ∀ g ∈ TYA, ∀ i, ga σ1 g i = ga σ g i := fun g hg i => F1.2 g ((by decide : ∀ g ∈ TYA, g ∉ [778, 798, 802, 806]) g hg) i
  have X1 : tx σ n σ1 n := tx_same T1
  have S1 : TyS σ1 n := TyS_same (F1.1 532 (by decide)) T1 S0
  have J1 : JT0 σ1 n (fn, mt, ab, ins, gv0) := JT0_fr F1' X1 J0
  have A1 : JSt σ1 n (fn, mt, ab, ins, gvI d) [] s 0 := ⟨⟨S1, JTE_0 J1 V1⟩, ⟨by rw [F1.1 788 (by decide)]; exact g788.1, Nat.zero_le _, fun i T e => by cases e⟩, by rw [F1.1 452 (by decide)]; exact f0, ⟨by rw [F1.1 812 (by decide)]; exact c0, c300⟩, by rw [F1.1 856 (by decide)]; exact g788.2, fun i => by rw [F1.2 842 (by decide)]; exact N0 i⟩
  have C1 : chain σ1 (ga σ1 602 dd) (l.map (fun y : LD × TD => y.2.1)) := by
    rw [F1.2 602 (by decide)]
    exact chain_keep C (fun o _ => F1.2 562 (by decide) o)
  have P1 : InTw σ1 n ab.length f d := InTw_keep (fun a ha i => F1.2 a ((by decide : ∀ a ∈ [694, 698, 702, 706, 710, 714, 718, 722], a ∉ [778, 798, 802, 806]) a ha) i) X1 P
  have hg : ∀ g ∈ gvI d, g.1 < 100 → g.1 < ab.length := fun g hg _ => by
    unfold gvI at hg
    obtain ⟨cc, h1, h2⟩ := List.mem_map.mp hg
    obtain ⟨j, hj, ej⟩ := List.getElem_of_mem h1
    rw [← h2]
    exact (P.2.2.2.1.2.2 j cc (by rw [List.getElem?_eq_getElem hj, ej])).2.2.1
  obtain ⟨σ2, n2, i1, i2, i3, ⟨i4, i5, i6⟩, i7, i8, i9⟩ := t_lines (E := (fn, mt, ab, ins, gvI d)) J hg h8 hf okH (l1 := l1) (l3 := (dd : Int)) l s zz σ1 n _ ez A1 C1 P1 (fun y hy => LnTw_keep (frN_JA F1') X1 (hL y hy)) pw R
  have dN : ((dd : Int)).toNat = dd := by omega
  have wf : w32 ((f : Int) + 1) = ((f + 1 : Nat) : Int) := by rw [w32_s (by omega) (by omega)]; rfl
  have wd : w32 ((dd : Int) + 1) = ((dd + 1 : Nat) : Int) := by rw [w32_s (by omega) (by omega)]; rfl
  have Fa : fr JAS JAA σ σ2 := fr_trans F1' (fr_JA i2)
  have X02 := tx_trans X1 i7
  refine ⟨σ2, n2, ?_, Fa, fun i w => ?_, X02, ⟨i6, by rw [i5, F1.1 856 (by decide)]; exact g788.2⟩, i8, fun es s' w => ?_⟩
  · unfold T_judgeAll_80 T_judgeAll_208
    rw [if_pos (by omega), dN, e570, if_neg (fun z => z rfl), b1, Option.bind_some, if_pos (by omega), i1, Option.bind_some, wf, wd]
  · have := i3 i w
    rw [this.1, this.2, F1.2 842 (by decide), F1.2 846 (by decide)]
    exact ⟨rfl, rfl⟩
  · obtain ⟨⟨w1, w2, w3, w4⟩, w5, w6, w7, w8, w9⟩ := i9 es s' w
    exact ⟨⟨w5, JT0_fr Fa X02 J0, w1, ⟨w2, w4⟩, i6⟩, w3, w6, w7, w8, w9⟩
end LTLs
