set_option maxRecDepth 100000
/-! THE TWIN JUDGES: names, numbers, functions -/
/-- what one node's judge does; the node's own type is set behind it -/
def JHd (E : JE) (r : Int → tS → Option (Int × tS)) (t : Xt) : Prop := ∀ (Γ : List Ty) (s : JS) (z : (Nat × Nat) ⊕ (Et × JS)) (σ : tS) (n lo hi v sp b : Nat), JH E t Γ s z σ n lo hi v sp b → ∃ (x : Int) (σ1 : tS) (n' : Nat), T_judgeOne r (v : Int) (ua σ 846 v (-1)) = some (x, σ1) ∧ JPost E t Γ s z σ n lo hi v sp x (ua σ1 842 v x) n'
section LJH
variable {σ σ1 : tS} {n n1 : Nat} {E : JE} {B : Nat} {Γ : List Ty} {s : JS} {lo hi sp v b : Nat} {t : Xt} {z : (Nat × Nat) ⊕ (Et × JS)} {x : Int}
/-- a cast is taken off -/
theorem off846 (A : JSt σ n E Γ s sp) : JSt (ua σ 846 v (-1)) n E Γ s sp ∧ JFr σ (ua σ 846 v (-1)) v (v + 1) Γ.length sp ∧ tx σ n (ua σ 846 v (-1)) n ∧ (∀ f, gs (ua σ 846 v (-1)) f = gs σ f) ∧ (∀ f i, f ≠ 846 → ga (ua σ 846 v (-1)) f i = ga σ f i) ∧ ga (ua σ 846 v (-1)) 846 v = -1 := by
  obtain ⟨u1, u2, u3, u4, u5, u6⟩ := ua846 (v := v) (c := -1) A.1.1
  obtain ⟨w1, w2, w3, w4⟩ := JFr_W (g := Γ.length) (sp := sp) u1 u4
  exact ⟨JSt_mv A w1 u3 u2 w2 (by rw [u5]; exact A.2.2.1) (by rw [u5]; exact A.2.2.2.1) w3 (w4 A.2.2.2.2.2), w1, u3, u5, u6, by rw [ga_ua, if_pos ⟨rfl, rfl⟩]⟩
/-- names bound are as many as they were -/
theorem us788 {g : Nat} {c : Int} : JFr σ (us σ 788 c) lo hi g sp ∧ (∀ f, f ≠ 788 → gs (us σ 788 c) f = gs σ f) ∧ gs (us σ 788 c) 788 = c ∧ (NodB σ → NodB (us σ 788 c)) ∧ (TyW σ n → TyW (us σ 788 c) n) ∧ (TyS σ n → TyS (us σ 788 c) n) ∧ tx σ n (us σ 788 c) n := by
  have gs' : ∀ f, f ≠ 788 → gs (us σ 788 c) f = gs σ f := fun f hf => by rw [gs_us, if_neg hf]
  refine ⟨⟨⟨fun f hf => gs' f (fun z => hf (by rw [z]; decide)), fun _ _ _ => rfl⟩, fun _ _ => ⟨rfl, rfl⟩, fun _ _ => rfl, fun _ _ => rfl⟩, gs', by rw [gs_us, if_pos rfl], fun N => N, fun T => ⟨by rw [gs' 532 (by decide)]; exact T.1, T.2.1, fun hh hl => ?_⟩, fun S => TyS_us (by decide) S, ⟨Nat.le_refl _, fun _ _ _ _ _ => rfl⟩⟩
  obtain ⟨l, l1, l2⟩ := T.2.2 hh hl
  exact ⟨l, by rw [gaus]; exact chT_keep l1 (fun _ _ => rfl), l2⟩
/-- a fault -/
theorem hd_fault {k p : Nat} (F : JFr σ σ1 lo hi Γ.length sp) (g1 : gs σ1 788 = gs σ 788) (g2 : gs σ1 856 = gs σ 856) (N : NodB σ1) (hx : -1 ≤ x ∧ x < 126000) (lv : lo ≤ v ∧ v < hi) (ez : z = .inl (k, p)) (hk : k ≠ 0) (f1 : gs σ1 452 = (k : Int)) (f2 : gs σ1 456 = (p : Int)) (W : TyW σ1 n1) (hn : tx σ n σ1 n1 ∧ n1 ≤ n + jct E t + 142 * (300 - s.1) + 9200) : JPost E t Γ s z σ n lo hi v sp x (ua σ1 842 v x) n1 := by
  obtain ⟨w1, w2, w3, w4, w5, w6, w7, w8⟩ := ua842 (σ := σ1) (n := n1) (v := v) (g := Γ.length) (sp := sp) hx
  refine ⟨JFr_trans F (JFr_mono w1 lv.1 (by omega) (Nat.le_refl _) (Nat.le_refl _)), ⟨by rw [w2]; exact g1, by rw [w2]; exact g2, w3 N, hx⟩, fun k' p' q' => ?_, fun e s' q' => by rw [ez] at q'; cases q'⟩
  rw [ez] at q'
  injection Sum.inl.inj q' with q1 q2
  rw [← q1, ← q2]
  exact ⟨⟨hk, by rw [w2]; exact f1, by rw [w2]; exact f2⟩, w4 W, tx_trans hn.1 w6, hn.2⟩
/-- no fault -/
theorem hd_fine {e : Et} {s' : JS} (F : JFr σ σ1 lo hi Γ.length sp) (g1 : gs σ1 788 = gs σ 788) (g2 : gs σ1 856 = gs σ 856) (N : NodB σ1) (hx : -1 ≤ x ∧ x < 126000) (lv : lo ≤ v ∧ v < hi) (ez : z = .inr (e, s')) (f0 : gs σ1 452 = 0) (c : gs σ1 812 = (s'.1 : Int)) (hs : s.1 ≤ s'.1 ∧ s'.1 ≤ 300) (S : TyS σ1 n1) (X : tx σ n σ1 n1) (hn : n1 ≤ n + jct E t + 142 * (s'.1 - s.1)) (H : XTe (ua σ1 842 v x) n1 e lo hi v) (D : ∃ D, s'.2 = s.2 ++ D ∧ ∀ X ∈ D, ∃ t, tyT σ1 n1 X t) : JPost E t Γ s z σ n lo hi v sp x (ua σ1 842 v x) n1 := by
  obtain ⟨w1, w2, w3, w4, w5, w6, w7, w8⟩ := ua842 (σ := σ1) (n := n1) (v := v) (g := Γ.length) (sp := sp) hx
  refine ⟨JFr_trans F (JFr_mono w1 lv.1 (by omega) (Nat.le_refl _) (Nat.le_refl _)), ⟨by rw [w2]; exact g1, by rw [w2]; exact g2, w3 N, hx⟩, fun k' p' q' => (by rw [ez] at q'; cases q'), fun e' s2 q' => ?_⟩
  rw [ez] at q'
  injection Sum.inr.inj q' with q1 q2
  rw [← q1, ← q2]
  obtain ⟨D, d1, d2⟩ := D
  exact ⟨⟨by rw [w2]; exact f0, by rw [w2]; exact c, hs⟩, ⟨w5 S, tx_trans X w6, hn⟩, ⟨H, w7.symm⟩, D, d1, fun Y hY => by obtain ⟨t0, h0⟩ := d2 Y hY; exact ⟨t0, tyT_mono w6 h0⟩⟩
/-- NAMES -/
theorem jh_name (J : JOk E B) (hg : ∀ g ∈ E.2.2.2.2, g.1 < 100 → g.1 < E.2.2.1.length) (r : Int → tS → Option (Int × tS)) {lb : XL} {u : Unit} {l r' : Xt} : JHd E r (.inner 10 lb u l r') := by
  intro Γ s z σ n lo hi v sp b H
  obtain ⟨e, A, XP, ok, gl, _, _, _, R⟩ := H
  have i84 := XTg_in XP
  unfold XTp at XP
  rw [XTg_e] at XP
  obtain ⟨_, h538, _, h4⟩ := XP
  rw [if_pos rfl] at h4
  rw [xok_e] at ok
  have ok' : nok E lb Γ.length := by unfold xokB at ok; rw [if_pos rfl] at ok; exact ok
  rw [jd_e] at e
  have e' : jnm E lb Γ s = some z := by unfold jdB at e; rw [if_pos rfl] at e; exact e
  have ect : jct E (.inner 10 lb u l r') = (if lb.2.2.2.2.2 = [] then 0 else jC E lb) + jct E l + jct E r' := by
    show (if (10 : Nat) = 10 then _ else _) + jct E l + jct E r' = _
    rw [if_pos rfl]
  have cle : (if lb.2.2.2.2.2 = [] then 0 else jC E lb) ≤ jct E (.inner 10 lb u l r') := by
    rw [ect]
    exact Nat.le_trans (Nat.le_add_right _ _) (Nat.le_add_right _ _)
  obtain ⟨A0, F0, X0, s0, a0, c0⟩ := off846 (v := v) A
  have FJ := F0.1
  have vN : ((v : Int)).toNat = v := by omega
  obtain ⟨x, σ1, n1, g1, ⟨o1, o2, o3, o4, o5⟩, hx, o6⟩ := t_named J hg A0.1.1 A0.1.2 A0.2.1 ⟨by omega, i84.2.2⟩ (tkP_keep FJ h4.2.1) (nmT_keep FJ X0 h4.2.2) ok' (fun T hT => (gl T hT).1.1) e' A0.2.2.2.1.1 A0.2.2.2.1.2 (Nat.lt_of_le_of_lt (Nat.add_le_add_right (Nat.add_le_add_right (Nat.add_le_add_left cle _) _) _) R) A0.2.2.1
  obtain ⟨y1, y2, y3, y4⟩ := JFr_N (lo := lo) (hi := hi) (g := Γ.length) (sp := sp) o1
  obtain ⟨v1, v2, v3, v4, v5, v6, v7⟩ := us788 (σ := σ1) (n := n1) (lo := lo) (hi := hi) (g := Γ.length) (sp := sp) (c := gs (ua σ 846 v (-1)) 788)
  have FF : JFr σ (us σ1 788 (gs (ua σ 846 v (-1)) 788)) lo hi Γ.length sp := JFr_trans (JFr_trans (JFr_mono F0 (by omega) (by omega) (Nat.le_refl _) (Nat.le_refl _)) y1) v1
  have g788 : gs (us σ1 788 (gs (ua σ 846 v (-1)) 788)) 788 = gs σ 788 := by rw [v3, s0]
  have g856 : gs (us σ1 788 (gs (ua σ 846 v (-1)) 788)) 856 = gs σ 856 := by rw [v2 856 (by decide), y3, s0]
  have NN := v4 (y4 A0.2.2.2.2.2)
  refine ⟨x, us σ1 788 (gs (ua σ 846 v (-1)) 788), n1, ?_, ?_⟩
  · unfold T_judgeOne
    rw [if_pos A0.2.2.1, if_pos (by omega), vN, a0 538 v (by decide), h538, if_pos (by decide), g1]
    rfl
  · cases z with
    | inl kp =>
      obtain ⟨w1, w2, w3, w4⟩ := o4 kp.1 kp.2 rfl
      exact hd_fault FF g788 g856 NN ⟨by omega, hx.2⟩ ⟨i84.1, i84.2.1⟩ rfl w1 (by rw [v2 452 (by decide)]; exact w2) (by rw [v2 456 (by decide)]; exact w3) (v5 (TyW_of o2.1)) ⟨tx_trans (tx_trans X0 o3) v7, Nat.le_trans w4 (Nat.add_le_add_right (Nat.add_le_add_right (Nat.add_le_add_left cle _) _) _)⟩
    | inr a =>
      obtain ⟨w1, w2, w3, w4, w5⟩ := o5 a.1 a.2 rfl
      have ct := o6 a.1 a.2 rfl
      refine hd_fine FF g788 g856 NN ⟨by omega, hx.2⟩ ⟨i84.1, i84.2.1⟩ rfl (by rw [v2 452 (by decide)]; exact w1) (by rw [v2 812 (by decide)]; exact w2) w3 (v6 o2) (tx_trans (tx_trans X0 o3) v7) (Nat.le_trans w4 (Nat.add_le_add_right (Nat.add_le_add_left cle _) _)) ?_ (by obtain ⟨D, d1, d2⟩ := w5; exact ⟨D, d1, fun Y hY => by obtain ⟨t0, h0⟩ := d2 Y hY; exact ⟨t0, tyT_mono v7 h0⟩⟩)
      -- what the ex is
      have ea : ∃ T ev, a.1 = en 10 lb T .leaf ev .leaf .leaf := by
        unfold jnm at e'
        split at e'
        · split at e'
          · cases qΓ : Γ[lb.2.2.1]? with
            | none => rw [qΓ] at e'; cases e'
            | some T =>
              rw [qΓ] at e'
              have := Sum.inr.inj (Option.some.inj e')
              rw [← this]
              exact ⟨_, _, rfl⟩
          · cases e'
        · split at e'
          · cases e'
          · split at e'
            · cases e'
            · split at e'
              · cases e'
              · unfold jb at e'
                cases qg : jnG E lb.1 lb.2.1 lb.2.2.1 (lb.2.2.2.2.2.map Prod.fst) s with
                | none => rw [qg] at e'; cases e'
                | some z1 =>
                  rw [qg, Option.bind_some] at e'
                  cases z1 with
                  | inl kp => cases e'
                  | inr b1 =>
                    have := Sum.inr.inj (Option.some.inj e')
                    rw [← this]
                    exact ⟨_, _, rfl⟩
      obtain ⟨T, ev, ea⟩ := ea
      rw [ea] at ct ⊢
      have F2 : fr JFS JFA σ (ua (us σ1 788 (gs (ua σ 846 v (-1)) 788)) 842 v x) := fr_trans FF.1 (ua842 (g := 0) (sp := 0) (n := n1) (v := v) ⟨by omega, hx.2⟩).1.1
      have X2 := tx_trans (tx_trans (tx_trans X0 o3) v7) (ua842 (σ := us σ1 788 (gs (ua σ 846 v (-1)) 788)) (g := 0) (sp := 0) (n := n1) (v := v) (x := x) ⟨by omega, hx.2⟩).2.2.2.2.2.1
      have X3 := tx_trans v7 (ua842 (σ := us σ1 788 (gs (ua σ 846 v (-1)) 788)) (g := 0) (sp := 0) (n := n1) (v := v) (x := x) ⟨by omega, hx.2⟩).2.2.2.2.2.1
      unfold XTe
      rw [XTg_e]
      unfold XTb
      rw [if_pos rfl]
      refine ⟨i84, by rw [F2.2 538 (by decide)]; exact h538, ⟨?_, ?_⟩, h4.1, tkP_keep F2 h4.2.1, nmT_keep F2 X2 h4.2.2⟩
      · show tyT _ n1 T (ga (ua (us σ1 788 (gs (ua σ 846 v (-1)) 788)) 842 v x) 842 v)
        rw [ga_ua, if_pos ⟨rfl, rfl⟩]
        exact tyT_mono X3 ct
      · show ga (ua (us σ1 788 (gs (ua σ 846 v (-1)) 788)) 842 v x) 846 v = -1
        rw [ga_ua, if_neg (fun z => absurd z.1 (by decide)), gaus, o1.2 846 (by decide)]
        exact c0
/-- NUMBERS -/
theorem jh_num (r : Int → tS → Option (Int × tS)) {lb : XL} {u : Unit} {l r' : Xt} : JHd E r (.inner 11 lb u l r') := by
  intro Γ s z σ n lo hi v sp b H
  obtain ⟨e, A, XP, ok, gl, _, _, _, R⟩ := H
  have i84 := XTg_in XP
  unfold XTp at XP
  rw [XTg_e] at XP
  obtain ⟨_, h538, _, h4⟩ := XP
  rw [if_neg (by decide), if_pos rfl] at h4
  rw [jd_e] at e
  have ez : z = .inr (en 11 lb tInt .leaf [] .leaf .leaf, s) := by
    unfold jdB at e
    rw [if_neg (by decide), if_pos rfl] at e
    exact (Option.some.inj e).symm
  obtain ⟨A0, F0, X0, s0, a0, c0⟩ := off846 (v := v) A
  have vN : ((v : Int)).toNat = v := by omega
  obtain ⟨v1, v2, v3, v4, v5, v6, v7⟩ := us788 (σ := ua σ 846 v (-1)) (n := n) (lo := lo) (hi := hi) (g := Γ.length) (sp := sp) (c := gs (ua σ 846 v (-1)) 788)
  have cI := A0.1.2.2.2.2.2.1
  have lt := tyT_lt cI
  have n126 := A0.1.1.1.2.1
  have hx : -1 ≤ gs (ua σ 846 v (-1)) 860 ∧ gs (ua σ 846 v (-1)) 860 < 126000 := by omega
  have FF : JFr σ (us (ua σ 846 v (-1)) 788 (gs (ua σ 846 v (-1)) 788)) lo hi Γ.length sp := JFr_trans (JFr_mono F0 (by omega) (by omega) (Nat.le_refl _) (Nat.le_refl _)) v1
  refine ⟨gs (ua σ 846 v (-1)) 860, us (ua σ 846 v (-1)) 788 (gs (ua σ 846 v (-1)) 788), n, ?_, hd_fine FF (by rw [v3, s0]) (by rw [v2 856 (by decide), s0]) (v4 A0.2.2.2.2.2) hx ⟨i84.1, i84.2.1⟩ ez (by rw [v2 452 (by decide)]; exact A0.2.2.1) (by rw [v2 812 (by decide)]; exact A0.2.2.2.1.1) ⟨Nat.le_refl _, A0.2.2.2.1.2⟩ (v6 A0.1.1) (tx_trans X0 v7) (by omega) ?_ ⟨[], by rw [List.append_nil], fun X hX => absurd hX List.not_mem_nil⟩⟩
  · unfold T_judgeOne
    rw [if_pos A0.2.2.1, if_pos (by omega), vN, a0 538 v (by decide), h538, if_neg (by decide), if_pos (by decide)]
  · obtain ⟨w1, w2, w3, w4, w5, w6, w7, w8⟩ := ua842 (σ := us (ua σ 846 v (-1)) 788 (gs (ua σ 846 v (-1)) 788)) (n := n) (v := v) (g := Γ.length) (sp := sp) hx
    have F2 := fr_trans FF.1 w1.1
    unfold XTe
    rw [XTg_e]
    unfold XTb
    rw [if_neg (by decide), if_pos rfl]
    refine ⟨i84, by rw [F2.2 538 (by decide)]; exact h538, ⟨?_, ?_⟩, tkP_keep F2 h4⟩
    · show tyT _ n tInt _
      rw [w7]
      exact tyT_mono (tx_trans v7 w6) cI
    · show ga _ 846 v = -1
      rw [w8, gaus]
      exact c0
theorem b846 {t : Int} (h : T_bindsType t σ = some σ1) (i : Nat) : ga σ1 846 i = ga σ 846 i := by
  unfold T_bindsType at h
  split at h
  · rw [← Option.some.inj h, gaus, ga_ua, if_neg (fun z => absurd z.1 (by decide))]
  · cases h
end LJH
