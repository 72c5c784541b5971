set_option maxRecDepth 100000
/-! THE TWIN: an ex is to be of a type of a form -/
abbrev jfM (z : (Nat × Nat) ⊕ (Et × Ty × JS)) : (Nat × Nat) ⊕ ((Et × Ty) × JS) := z.elim .inl (fun a => .inr ((a.1, a.2.1), a.2.2))
section LTF
variable {σ : tS} {n : Nat} {E : JE} {B : Nat}
theorem isK_T {T : Ty} {t : Int} (hT : T ≠ .leaf) (c : tyT σ n T t) {k w : Nat} : (isK k w T = true ↔ ga σ 502 t.toNat = (k : Int) ∧ ga σ 506 t.toNat = (w : Int)) ∧ 0 ≤ t ∧ t < n := by
  cases T with
  | leaf => exact absurd rfl hT
  | inner k' w' u l r =>
    obtain ⟨m, d1, d2, d3, d4, d5, d6⟩ := c
    rw [show t.toNat = m by omega, d3, d4]
    refine ⟨?_, by omega, by omega⟩
    show ((k' == k && w' == w) = true) ↔ _
    simp only [Bool.and_eq_true, beq_iff_eq]
    omega
/-- AN EX IS TO BE OF A FORM -/
theorem t_formed (J : JOk E B) (S : TyS σ n) (JT : JTE σ n E) {e : Et} {lo hi v : Nat} (H : XTe σ n e lo hi v) (okE : tyOk E.2.2.2.1 (eTy e)) (hzE : tsz (eTy e) ≤ 1000000) {k w pl : Nat} {s : JS} {z : (Nat × Nat) ⊕ (Et × Ty × JS)} (ez : jf E k w pl e s = some z) (e812 : gs σ 812 = (s.1 : Int)) (h300 : s.1 ≤ 300) (R : n + 8900 < 126000) (f0 : gs σ 452 = 0) : ∃ x σ' n', T_formed (v : Int) (k : Int) (w : Int) (pl : Int) σ = some (x, σ') ∧ WO σ n s v (jfM z) 0 8900 σ' n' ∧ ∀ e' u s', z = .inr (e', u, s') → XTe σ' n' e' lo hi v ∧ tyT σ' n' u x := by
  have i84 := XTg_in H
  have vN : ((v : Int)).toNat = v := by omega
  have hB := J.1.1
  have cE := XTe_ty H
  have n126 := S.1.2.1
  obtain ⟨kq, t0, t1⟩ := isK_T (k := k) (w := w) okE.1 cE
  unfold jf at ez
  by_cases q0 : isK k w (eTy e) = true
  · rw [if_pos q0] at ez
    have ez' : z = .inr (e, eTy e, s) := (Option.some.inj ez).symm
    obtain ⟨k1, k2⟩ := kq.mp q0
    refine ⟨ga σ 842 v, σ, n, ?_, ⟨⟨fr_refl _ _ _, fun _ _ => rfl⟩, S, tx_refl _ _, fun k' p' q' => (by rw [ez'] at q'; cases q'), fun a s' q' => ?_⟩, fun e' u s' q' => ?_⟩
    · unfold T_formed
      rw [vN, if_pos (by omega), if_neg (fun z => z k1), if_pos (by omega), if_neg (fun z => z k2)]
    · rw [ez'] at q'
      injection Sum.inr.inj q' with q1 q2
      rw [← q2]
      exact ⟨f0, e812, ⟨Nat.le_refl _, h300⟩, by omega, [], by rw [List.append_nil], fun X hX => absurd hX List.not_mem_nil⟩
    · rw [ez'] at q'
      injection Sum.inr.inj q' with q1 q2
      injection q2 with q2 q3
      rw [← q1, ← q2]
      exact ⟨H, cE⟩
  · rw [if_neg q0] at ez
    have e33 : T_formed (v : Int) (k : Int) (w : Int) (pl : Int) σ = T_formed_33 (v : Int) (k : Int) (w : Int) (pl : Int) (ga σ 842 v) σ := by
      unfold T_formed
      rw [vN, if_pos (by omega)]
      by_cases c1 : ga σ 502 (ga σ 842 v).toNat = (k : Int)
      · rw [if_neg (fun z => z c1), if_pos (by omega), if_pos (fun c2 => q0 (kq.mpr ⟨c1, c2⟩))]
      · rw [if_pos c1]
    rw [e33]
    obtain ⟨σ1, a1, F1, S1, X1, W1⟩ := asks_W S JT (s := s) e812
    have FJ1 : fr JFS JFA σ σ1 := fr_sub F1 (by decide) (by decide)
    have H1 : XTe σ1 n e lo hi v := XTe_keep FJ1 X1 (fun i _ _ => ⟨F1.2 842 (by decide) i, F1.2 846 (by decide) i⟩) H
    obtain ⟨a, q, _⟩ := wk_ends (ins := E.2.2.2.1) (gv := E.2.2.2.2) 130 false 0 (0, s.1, s.2) (eTy e) 0 (by decide) (Nat.le_refl _) (Nat.zero_le _) (by rw [if_neg (by decide)]; omega)
    rw [q, Option.bind_some] at ez
    obtain ⟨x, σ2, n2, g1, o1, o2, o3, o4, o5, o6⟩ := t_out (ab := E.2.2.1) J.1.1 J.1.2.1 J.1.2.2.1 q W1 (tyT_mono X1 cE) okE.1 okE.2.2 hzE (Nat.zero_le _) h300 (by show n + 81 * (60 - 0) + B < 126000; omega)
    have N1 : fr NFS NFA σ σ1 := fr_sub F1 (by decide) (by decide)
    have N2 : fr NFS NFA σ σ2 := fr_trans N1 (fr_ON o1)
    have X2 := tx_trans X1 o3
    have f2 : gs σ2 452 = 0 := by rw [o1.1 452 (by decide), F1.1 452 (by decide)]; exact f0
    have H2 : XTe σ2 n2 e lo hi v := XTe_keep (fr_NJ (fr_ON o1)) o3 (fun i _ _ => ⟨o1.2 842 (by decide) i, o1.2 846 (by decide) i⟩) H1
    have flt : ∀ k' : Nat, k' ≠ 0 → n2 ≤ n + 142 * (300 - s.1) + 8900 → z = .inl (k', pl) → ∃ x σ' n', T_formed_88 (pl : Int) (k' : Int) σ2 = some (x, σ') ∧ WO σ n s v (jfM z) 0 8900 σ' n' ∧ ∀ e' u s', z = .inr (e', u, s') → XTe σ' n' e' lo hi v ∧ tyT σ' n' u x := fun k' hk hn ez' => by
      obtain ⟨u1, u2, u3⟩ := fails_f (σ := σ2) (k := (k' : Int)) (p := (pl : Int))
      refine ⟨-1, _, n2, by unfold T_formed_88; rw [t_fails f2]; rfl, ⟨⟨fr_NW (fr_trans N2 (fr_sub u1 (by decide) (by decide))), fun i _ => by rw [gaus, gaus]; exact N2.2 846 (by decide) i⟩, TyS_u (TyS_u o2 (by decide)) (by decide), tx_trans X2 ⟨Nat.le_refl _, fun _ _ _ _ _ => rfl⟩, fun k'' p' q' => ?_, fun a s' q' => by rw [ez'] at q'; cases q'⟩, fun e' u s' q' => by rw [ez'] at q'; cases q'⟩
      rw [ez'] at q'
      injection Sum.inl.inj q' with q1 q2
      rw [← q1, ← q2]
      exact ⟨hk, u2, u3, by omega⟩
    unfold T_formed_33
    rw [a1, Option.bind_some, g1, Option.bind_some]
    simp only
    cases a with
    | none =>
      obtain ⟨b1, b2, b3⟩ := o5 rfl
      have b3' : n2 ≤ n + 81 * (60 - 0) + B := b3
      have ez' : z = .inl (7, pl) := (Option.some.inj ez).symm
      rw [if_pos (by rw [b2]; decide)]
      unfold T_formed_74
      rw [if_neg (by rw [b2]; decide)]
      exact flt 7 (by decide) (by omega) ez'
    | some pb =>
      obtain ⟨u, s'⟩ := pb
      obtain ⟨b1, b2, b3, b4, b5, b6, b7⟩ := o6 u s' rfl
      obtain ⟨c1, c2, c3, c4⟩ := b5 rfl
      have nu : u ≠ .leaf := fun z => okE.1 (b3.mp z)
      obtain ⟨D, d, x1, _⟩ := wk_st q
      have sd : s'.2.1 = s.1 + s'.1 := by rw [x1.1]; show s.1 + d = s.1 + (0 + d); omega
      have y5 : s'.2.2 = s.2 ++ D := by rw [x1.1]
      have c4' : n2 ≤ n + 80 * (s'.1 - 0) := c4
      obtain ⟨kq2, t2, t3⟩ := isK_T (k := k) (w := w) nu b2
      have n2' := o2.1.2.1
      simp only at ez
      rw [if_neg (fun z => z b1)]
      by_cases qk : isK k w u = true
      · rw [if_pos qk] at ez
        have ez' : z = .inr (eCs u e, u, s'.2.1, s'.2.2) := (Option.some.inj ez).symm
        obtain ⟨k1, k2⟩ := kq2.mp qk
        rw [if_pos (by omega), if_neg (fun z => z k1), if_pos (by omega), if_pos k2, if_pos (by omega), vN]
        obtain ⟨u1, u2, u3, u4, u5, u6⟩ := ua846 (v := v) (c := x) o2
        refine ⟨x, _, n2, rfl, ⟨⟨fr_trans (fr_NW N2) u1, fun i hi => by rw [u4 i hi]; exact N2.2 846 (by decide) i⟩, u2, tx_trans X2 u3, fun k p q' => (by rw [ez'] at q'; cases q'), fun a s2 q' => ?_⟩, fun e' u' s2 q' => ?_⟩
        · rw [ez'] at q'
          injection Sum.inr.inj q' with q1 q2
          rw [← q2]
          exact ⟨by rw [u5]; exact f2, by rw [u5]; exact c2, ⟨by show s.1 ≤ s'.2.1; omega, c3⟩, by show n2 ≤ n + 0 + 142 * (s'.2.1 - s.1); omega, D, y5, fun X hX => by obtain ⟨t0, h0⟩ := b6 D y5 X hX; exact ⟨t0, tyT_mono u3 h0⟩⟩
        · rw [ez'] at q'
          injection Sum.inr.inj q' with q1 q2
          injection q2 with q2 q3
          rw [← q1, ← q2]
          exact ⟨XTe_cast H2 b2, tyT_mono u3 b2⟩
      · rw [if_neg qk] at ez
        have ez' : z = .inl (4, pl) := (Option.some.inj ez).symm
        have e74 : T_formed_74 (pl : Int) σ2 = T_formed_88 (pl : Int) 4 σ2 := by
          unfold T_formed_74
          rw [if_pos b1]
        rw [e74]
        have all : (if 0 ≤ x ∧ x < 126000 then (if (ga σ2 502 x.toNat) ≠ (k : Int) then T_formed_88 (pl : Int) 4 σ2 else if 0 ≤ x ∧ x < 126000 then (if (ga σ2 506 x.toNat) = (w : Int) then if 0 ≤ (v : Int) ∧ (v : Int) < 8400 then some (x, ua σ2 846 ((v : Int)).toNat x) else none else T_formed_88 (pl : Int) 4 σ2) else none) else none) = T_formed_88 (pl : Int) 4 σ2 := by
          rw [if_pos (by omega)]
          by_cases c1 : ga σ2 502 x.toNat = (k : Int)
          · rw [if_neg (fun z => z c1), if_pos (by omega), if_neg (fun c2 => qk (kq2.mpr ⟨c1, c2⟩))]
          · rw [if_pos c1]
        rw [all]
        exact flt 4 (by decide) (by omega) ez'
end LTF
