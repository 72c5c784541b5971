set_option maxRecDepth 100000
/-! THE TWIN SAYS EXS -/
noncomputable def sKx (r : Int → tS → Option tS) (fm : Int) (x : Int × Int × tS) : Option tS := (om_loop (T_sayEx_22s r fm) x).bind (Sum.elim (fun v1 => T_sayEx_94 r fm v1.1 v1.2) (fun v1 => T_sayEx_94 r fm v1.1 v1.2))
section LSX
variable {E : JE} {B n : Nat} {σ σ0 σ2 σ4 τ : tS} {nm con fam cnm : Nat → List Int} {r : Int → tS → Option tS} {t v : Nat}
theorem t_hasL (hv : v < 8400) (h : ga σ 538 v = (t : Int)) (t13 : t ≠ 13) : T_hasLeft (v : Int) σ = some (if t = 12 ∨ t = 18 then 1 else 0) := by
  have vb : (0 : Int) ≤ (v : Int) ∧ (v : Int) < 8400 := by omega
  have vN : ((v : Int)).toNat = v := by omega
  unfold T_hasLeft T_hasLeft_38
  rw [if_pos vb, vN, h]
  by_cases c : t = 12
  · rw [if_pos (by omega), if_pos (.inr rfl), if_pos (.inl c)]
  · rw [if_neg (by omega), if_pos vb]
    by_cases d : t = 18
    · rw [if_pos (by omega), if_pos (.inr rfl), if_pos (.inr d)]
    · rw [if_neg (by omega), if_pos vb, if_pos (by omega), if_pos (.inl rfl), if_neg (by omega)]
/-- a cast's sign that opens -/
theorem t_22 {C : Ty} {fm : Int} {tt : Nat} (hv : v < 8400) (cC : tyT σ n C (ga σ 846 v)) (S : SkT σ tt) (ht : tt < 1900000000) : ∃ σ1, T_sayEx_22s r fm ((v : Int), 1, σ) = T_sayEx_43 r fm (v : Int) σ1 ∧ SyZ σ (if lfB C = true then [] else [40]) σ1 := by
  unfold T_sayEx_22s
  simp only
  rw [if_neg (by decide), if_pos (by omega), show ((v : Int)).toNat = v by omega]
  by_cases c : C = .leaf
  · rw [if_pos ((tyT_not cC).mp c), if_pos (lfB_t.mpr c)]
    exact ⟨σ, rfl, SyZ_of (SyW_of SyO_nil)⟩
  · rw [if_neg (fun z => c ((tyT_not cC).mpr z)), if_neg (fun z => c (lfB_t.mp z))]
    obtain ⟨b1, b2, b3⟩ := sz_b S (by omega) 40
    exact ⟨_, by rw [b1, Option.bind_some], b2⟩
/-- what waits is put down, and taken up -/
theorem SyZ_push {sp : Nat} {L : List Int} (e : gs σ2 856 = (sp : Int)) (A : SyZ (us (ua σ2 850 sp (v : Int)) 856 ((sp + 1 : Nat) : Int)) L σ4) : SyZ σ2 L (us σ4 856 (sp : Int)) := by
  obtain ⟨a1, a2, ⟨a3, a4⟩, a5, a6, a7⟩ := A
  have g3 : ∀ f, f ≠ 856 → gs (us (ua σ2 850 sp (v : Int)) 856 ((sp + 1 : Nat) : Int)) f = gs σ2 f := fun f hf => by rw [gs_us, if_neg hf]; rfl
  have g5 : ∀ f, f ≠ 856 → gs (us σ4 856 (sp : Int)) f = gs σ4 f := fun f hf => by rw [gs_us, if_neg hf]
  have s3 : svw (us (ua σ2 850 sp (v : Int)) 856 ((sp + 1 : Nat) : Int)) = svw σ2 := by
    unfold svw
    rw [g3 904 (by decide), g3 908 (by decide), g3 1111 (by decide), g3 1112 (by decide), g3 1116 (by decide)]
    have : (fun k => ga (us (ua σ2 850 sp (v : Int)) 856 ((sp + 1 : Nat) : Int)) 894 k) = (fun k => ga σ2 894 k) := funext (fun k => by
      show ga (ua σ2 850 sp (v : Int)) 894 k = _
      rw [ga_ua, if_neg (fun z => by omega)])
    rw [this]
  have s5 : svw (us σ4 856 (sp : Int)) = svw σ4 := by
    unfold svw
    rw [g5 904 (by decide), g5 908 (by decide), g5 1111 (by decide), g5 1112 (by decide), g5 1116 (by decide)]
    rfl
  rw [g3 904 (by decide), g3 908 (by decide)] at a1 a2
  rw [g3 904 (by decide)] at a3 a4
  rw [s3] at a1
  unfold SyZ
  rw [g5 904 (by decide), s5]
  refine ⟨a1, a2, ⟨a3, a4⟩, ?_, by rw [gs_us, if_pos rfl, e], fun i hi => ?_⟩
  · have F3 : fr WZS WZA σ2 (us (ua σ2 850 sp (v : Int)) 856 ((sp + 1 : Nat) : Int)) := fr_us (fr_ua (fr_refl _ _ _) (by simp)) (by simp)
    exact fr_us (fr_trans F3 a5) (by simp)
  · show ga σ4 850 i = ga σ2 850 i
    rw [a7 i (by rw [gs_us, if_pos rfl]; omega)]
    show ga (ua σ2 850 sp (v : Int)) 850 i = _
    rw [ga_ua, if_neg (fun z => by omega)]
/-- what saying an ex does, before those that wait -/
def SSx (E : JE) (σ0 : tS) (nm con fam cnm : Nat → List Int) (r : Int → tS → Option tS) (m : Nat) (e : Et) (v : Nat) : Prop := ∀ (σ : tS) (tt sp : Nat) (fm : Int), fr WZS WZA σ0 σ → SkT σ tt → gs σ 856 = (sp : Int) → sp + m ≤ 4200 → fm ≤ (sp : Int) → tt + (exB nm con fam cnm E.2.2.1 E.2.2.2.1 E.2.2.2.2 e []).length < 1000000000 → ∃ σ', sKx r fm ((v : Int), 1, σ) = ((om_loop (T_sayEx_104s r fm) σ').bind fun y3 => some y3) ∧ SyZ σ (exB nm con fam cnm E.2.2.1 E.2.2.2.1 E.2.2.2.2 e []) σ'
theorem sx_head (V : EnvT σ0 n E B nm con fam cnm) {a : XL × Ty × Ty × List Dc} {u : Unit} {l r' : Et} {lo hi : Nat} (X : XTf σ0 n (.inner t a u l r') lo hi v) (K : eK E (QN σ0 n) (.inner t a u l r')) (O : eO σ0 E.2.2.2.1 nm con fam (.inner t a u l r')) (hty : a.2.1 ≠ .leaf) (h0 : t ≠ 0) (ht12 : t ≠ 12 ∧ t ≠ 18) (RC : RCh E σ0 n nm con fam cnm r t l r') : SSx E σ0 nm con fam cnm r (hi - lo) (.inner t a u l r') v := by
  intro σ tt sp fm F S e856 hsp hfm ht
  have i84 := XTg_in X
  have X' := X
  unfold XTf at X'
  rw [XTg_e] at X'
  obtain ⟨_, h538, ⟨⟨pe1, pe2⟩, _⟩, _⟩ := X'
  obtain ⟨k1, _⟩ := id K
  obtain ⟨t13, okT, cs, _⟩ := k1 hty
  rw [exB_i h0] at ht ⊢
  simp only [List.length_append] at ht
  obtain ⟨σ1, a1, a2⟩ := t_22 (r := r) (fm := fm) (v := v) (by omega) (by rw [F.2 846 (by decide)]; exact tyT_Z F pe2) S (by omega)
  have F1 := fr_trans F a2.2.2.2.1
  obtain ⟨t1, S1, t1a, t1b⟩ := SyZ_t S a2
  have e1 : gs σ1 856 = (sp : Int) := by rw [a2.2.2.2.2.1]; exact e856
  have st : om_loop (T_sayEx_22s r fm) ((v : Int), 1, σ) = some (.inl ((v : Int), σ1)) := by
    refine om_loop_out ?_
    rw [a1]
    unfold T_sayEx_43
    rw [t_hasL (by omega) (by rw [F1.2 538 (by decide)]; exact h538) t13, if_neg (by omega), Option.bind_some, if_neg (fun z => z rfl)]
  obtain ⟨σ2, b1, b2⟩ := t_plain V X K O hty ht12 RC σ1 t1 F1 S1 ⟨by omega, by omega⟩ (by omega)
  have F2 := fr_trans F1 b2.2.2.2.1
  obtain ⟨t2, S2, t2a, t2b⟩ := SyZ_t S1 b2
  have e2 : gs σ2 856 = (sp : Int) := by rw [b2.2.2.2.2.1]; exact e1
  obtain ⟨σ3, c1, c2⟩ := t_sayCast (m := 0) V (by omega) pe1 pe2 okT cs (O.1 h0) σ2 t2 F2 S2 ⟨by omega, by omega⟩ (by omega)
  refine ⟨σ3, ?_, SyZ_trans (SyZ_trans a2 b2) c2⟩
  unfold sKx
  rw [st, Option.bind_some]
  show T_sayEx_94 r fm (v : Int) σ1 = _
  unfold T_sayEx_94
  rw [b1, Option.bind_some, c1, Option.bind_some]
theorem sx_ar {sp lo hi m v x y : Nat} (h : sp + (hi - lo) ≤ 4200) (e : v + 1 = hi) (a : lo ≤ x ∧ x < m) (b : m ≤ y ∧ y < v) : ((0 : Int) ≤ (sp : Int) ∧ (sp : Int) < 4200) ∧ sp + 1 + (m - lo) ≤ 4200 ∧ ((0 : Int) ≤ (sp : Int) ∧ (sp : Int) + ((v - m : Nat) : Int) ≤ 4200) := by omega
/-- what lies left -/
theorem sx_left (V : EnvT σ0 n E B nm con fam cnm) {a : XL × Ty × Ty × List Dc} {u : Unit} {l r' : Et} {lo hi : Nat} (X : XTf σ0 n (.inner t a u l r') lo hi v) (K : eK E (QN σ0 n) (.inner t a u l r')) (O : eO σ0 E.2.2.2.1 nm con fam (.inner t a u l r')) (hty : a.2.1 ≠ .leaf) (ht12 : t = 12 ∨ t = 18) (RR : ∀ (lo hi v : Nat), XTf σ0 n r' lo hi v → RZ σ0 (hi - lo) r (v : Int) (exB nm con fam cnm E.2.2.1 E.2.2.2.1 E.2.2.2.2 r' [])) (Hl : ∀ (lo hi v : Nat), XTf σ0 n l lo hi v → SSx E σ0 nm con fam cnm r (hi - lo) l v) : SSx E σ0 nm con fam cnm r (hi - lo) (.inner t a u l r') v := by
  intro σ tt sp fm F S e856 hsp hfm ht
  have i84 := XTg_in X
  have X' := X
  unfold XTf at X'
  rw [XTg_e] at X'
  obtain ⟨_, h538, ⟨⟨pe1, pe2⟩, _, _, _, fx4, _⟩, h4⟩ := X'
  obtain ⟨k1, ⟨kl, kr⟩, eKl, eKr⟩ := id K
  obtain ⟨t13, okT, cs, _⟩ := k1 hty
  obtain ⟨_, _, _, _, eOl, eOr⟩ := id O
  obtain ⟨ehi, m, x, y, g4, g5, g6, g7⟩ : v + 1 = hi ∧ ∃ m x y : Nat, ga σ0 546 v = (x : Int) ∧ ga σ0 550 v = (y : Int) ∧ XTf σ0 n l lo m x ∧ XTf σ0 n r' m v y := by
    rcases ht12 with c | c
    · rw [if_neg (by omega), if_neg (by omega), if_pos c] at h4
      exact ⟨h4.1, h4.2.2⟩
    · rw [if_neg (by omega), if_neg (by omega), if_neg (by omega), if_neg (by omega), if_neg (by omega), if_neg (by omega), if_pos c] at h4
      exact ⟨h4.1, h4.2.2.2⟩
  have gi := XTg_in g6
  have gj := XTg_in g7
  have q1 : (0 : Int) ≤ (sp : Int) ∧ (sp : Int) < 4200 := (sx_ar hsp ehi ⟨gi.1, gi.2.1⟩ ⟨gj.1, gj.2.1⟩).1
  have q2 : sp + 1 + (m - lo) ≤ 4200 := (sx_ar hsp ehi ⟨gi.1, gi.2.1⟩ ⟨gj.1, gj.2.1⟩).2.1
  have q3 : fm ≤ ((sp + 1 : Nat) : Int) := by omega
  have q4 : (0 : Int) ≤ (sp : Int) ∧ (sp : Int) + ((v - m : Nat) : Int) ≤ 4200 := (sx_ar hsp ehi ⟨gi.1, gi.2.1⟩ ⟨gj.1, gj.2.1⟩).2.2
  have q5 : w32 ((sp : Int) + 1) = ((sp + 1 : Nat) : Int) := (w32_s (by omega) (by omega)).trans (by omega)
  have q6 : w32 (((sp + 1 : Nat) : Int) - 1) = (sp : Int) := (w32_s (by omega) (by omega)).trans (by omega)
  have q7 : ((sp : Int)).toNat = sp := by omega
  have q8 : ¬ ((sp + 1 : Nat) : Int) ≤ fm := by omega
  -- the sign between
  obtain ⟨sg, esg, hsg⟩ : ∃ sg : List Int, corB nm con fam cnm E.2.2.1 E.2.2.2.1 E.2.2.2.2 t a l r' = [40] ++ exB nm con fam cnm E.2.2.1 E.2.2.2.1 E.2.2.2.2 l [] ++ sg ++ exB nm con fam cnm E.2.2.1 E.2.2.2.1 E.2.2.2.2 r' [] ++ [41] ∧ ((t = 12 ∧ sg = [32]) ∨ (t = 18 ∧ sg = sgB a.1.2.1)) := by
    unfold corB
    rcases ht12 with c | c
    · rw [if_neg (by omega), if_neg (by omega), if_pos c]
      exact ⟨[32], by simp, .inl ⟨c, rfl⟩⟩
    · rw [if_neg (by omega), if_neg (by omega), if_neg (by omega), if_neg (by omega), if_neg (by omega), if_neg (by omega), if_neg (by omega), if_pos c]
      exact ⟨sgB a.1.2.1, by simp, .inr ⟨c, rfl⟩⟩
  have h0 : t ≠ 0 := by omega
  rw [exB_i h0, esg] at ht ⊢
  simp only [List.length_append, List.length_cons, List.length_nil] at ht
  have vb : (0 : Int) ≤ (v : Int) ∧ (v : Int) < 8400 := by omega
  have vN : ((v : Int)).toNat = v := by omega
  obtain ⟨σ1, a1, a2⟩ := t_22 (r := r) (fm := fm) (v := v) (by omega) (by rw [F.2 846 (by decide)]; exact tyT_Z F pe2) S (by omega)
  have F1 := fr_trans F a2.2.2.2.1
  obtain ⟨t1, S1, t1a, t1b⟩ := SyZ_t S a2
  have e1 : gs σ1 856 = (sp : Int) := by rw [a2.2.2.2.2.1]; exact e856
  obtain ⟨b1, b2, b3⟩ := sz_b S1 (by omega) 40
  have F2 := fr_trans F1 b2.2.2.2.1
  have e2 : gs (say1 σ1 40) 856 = (sp : Int) := by rw [b2.2.2.2.2.1]; exact e1
  generalize say1 σ1 40 = σ2 at b1 b2 b3 F2 e2
  have st1 : T_sayEx_22s r fm ((v : Int), 1, σ) = some (.inl ((x : Int), 1, us (ua σ2 850 sp (v : Int)) 856 ((sp + 1 : Nat) : Int))) := by
    rw [a1]
    unfold T_sayEx_43
    rw [t_hasL (by omega) (by rw [F1.2 538 (by decide)]; exact h538) t13, if_pos ht12, Option.bind_some, if_pos (by decide), b1, Option.bind_some, e2, if_pos ⟨q1.1, q1.2, vb.1, vb.2⟩, vN, F2.2 546 (by decide), g4, q7, q5]
  have F3 : fr WZS WZA σ0 (us (ua σ2 850 sp (v : Int)) 856 ((sp + 1 : Nat) : Int)) := fr_us (fr_ua F2 (by simp)) (by simp)
  have S3 : SkT (us (ua σ2 850 sp (v : Int)) 856 ((sp + 1 : Nat) : Int)) (t1 + 1) := ⟨by rw [gs_us, if_neg (by decide)]; exact b3.1, by rw [gs_us, if_neg (by decide)]; exact b3.2⟩
  obtain ⟨σ4, c1, c2⟩ := Hl lo m x g6 _ _ (sp + 1) fm F3 S3 (by rw [gs_us, if_pos rfl]) q2 q3 (by omega)
  have e4 : gs σ4 856 = ((sp + 1 : Nat) : Int) := by rw [c2.2.2.2.2.1, gs_us, if_pos rfl]
  have v4 : ga σ4 850 sp = (v : Int) := by
    rw [c2.2.2.2.2.2 sp (by rw [gs_us, if_pos rfl]; omega)]
    show ga (ua σ2 850 sp (v : Int)) 850 sp = _
    rw [ga_ua, if_pos ⟨rfl, rfl⟩]
  have F4 := fr_trans F3 c2.2.2.2.1
  have C5 := SyZ_push e2 c2
  obtain ⟨t5, S5, t5a, t5b⟩ := SyZ_t b3 C5
  have e5 : gs (us σ4 856 (sp : Int)) 856 = (sp : Int) := by rw [gs_us, if_pos rfl]
  have F5 := fr_trans F2 C5.2.2.2.1
  have pop : T_sayEx_104s r fm σ4 = if (t : Int) ≠ 12 then T_sayEx_152 r fm (v : Int) (us σ4 856 (sp : Int)) else T_sayEx_143 r fm (v : Int) (us σ4 856 (sp : Int)) := by
    unfold T_sayEx_104s
    have w1 : w32 (gs σ4 856 - 1) = (sp : Int) := by rw [e4, q6]
    rw [if_neg (by rw [e4]; exact q8), w1, q7, v4, if_pos ⟨q1.1, q1.2, vb.1, vb.2⟩, vN, F4.2 538 (by decide), h538]
  generalize us σ4 856 (sp : Int) = σ5 at C5 S5 e5 F5 pop
  -- the sign
  obtain ⟨σ6, d1, d2⟩ : ∃ σ6, T_sayEx_104s r fm σ4 = T_sayEx_196 r fm (v : Int) σ6 ∧ SyZ σ5 sg σ6 := by
    rw [pop]
    rcases hsg with ⟨c, es⟩ | ⟨c, es⟩
    · rw [if_neg (by omega), es]
      obtain ⟨q1, q2, q3⟩ := sz_b S5 (by omega) 32
      exact ⟨_, by unfold T_sayEx_143; rw [q1, Option.bind_some], q2⟩
    · rw [if_pos (by omega), es]
      obtain ⟨k, y1, y2, y3, y4⟩ := fx4 (by rw [h538, c]; rfl)
      unfold T_sayEx_152
      rw [vN, F5.2 542 (by decide), y1, if_pos (by omega), show ((k : Int)).toNat = k by omega, F5.2 470 (by decide)]
      unfold sgv at y3
      by_cases z : ga σ0 470 k = 17
      · have e61 : a.1.2.1 = 61 := by rw [if_pos z] at y3; omega
        rw [if_neg (fun w => w z)]
        obtain ⟨q1, q2, q3⟩ := sz_b S5 (by omega) 61
        obtain ⟨q1', q2', q3'⟩ := sz_b q3 (by omega) 61
        refine ⟨say1 (say1 σ5 61) 61, ?_, ?_⟩
        · rw [q1, Option.bind_some]
          unfold T_sayEx_178
          rw [if_neg (fun w => w z)]
          unfold T_sayEx_193
          rw [q1', Option.bind_some]
        · unfold sgB
          rw [if_pos e61]
          exact SyZ_trans q2 q2'
      · have e1' : (a.1.2.1 : Int) = ga σ0 470 k ∧ a.1.2.1 ≠ 61 := by rw [if_neg z] at y3; omega
        rw [if_pos z]
        obtain ⟨q1, q2, q3⟩ := sz_b S5 (by omega) (ga σ0 470 k)
        refine ⟨say1 σ5 (ga σ0 470 k), ?_, ?_⟩
        · unfold T_sayEx_178
          rw [if_pos z]
          unfold T_sayEx_193
          rw [q1, Option.bind_some]
        · unfold sgB
          rw [if_neg e1'.2, e1'.1]
          exact q2
  have F6 := fr_trans F5 d2.2.2.2.1
  obtain ⟨t6, S6, t6a, t6b⟩ := SyZ_t S5 d2
  have e6 : gs σ6 856 = (sp : Int) := by rw [d2.2.2.2.2.1]; exact e5
  obtain ⟨σ7, f1, f2⟩ := RR m v y g7 σ6 t6 F6 S6 ⟨by rw [e6]; exact q4.1, by rw [e6]; exact q4.2⟩ (by omega)
  have F7 := fr_trans F6 f2.2.2.2.1
  obtain ⟨t7, S7, t7a, t7b⟩ := SyZ_t S6 f2
  obtain ⟨i1, i2, i3⟩ := sz_b S7 (by omega) 41
  have F8 := fr_trans F7 i2.2.2.2.1
  have e8 : gs (say1 σ7 41) 856 = (sp : Int) := by rw [i2.2.2.2.2.1, f2.2.2.2.2.1]; exact e6
  obtain ⟨σ9, j1, j2⟩ := t_sayCast (m := 0) V (by omega) pe1 pe2 okT cs (O.1 (by omega)) _ _ F8 i3 ⟨by omega, by omega⟩ (by omega)
  have st2 : T_sayEx_104s r fm σ4 = some (.inl σ9) := by
    rw [d1]
    unfold T_sayEx_196
    rw [if_pos vb, vN, F6.2 550 (by decide), g5, f1, Option.bind_some, i1, Option.bind_some, j1, Option.bind_some]
  refine ⟨σ9, ?_, ?_⟩
  · have c1' : sKx r fm ((x : Int), 1, us (ua σ2 850 sp (v : Int)) 856 ((sp + 1 : Nat) : Int)) = ((om_loop (T_sayEx_104s r fm) σ4).bind fun y3 => some y3) := c1
    unfold sKx at c1' ⊢
    rw [om_loop_in st1, c1', om_loop_in st2]
  · have := SyZ_trans (SyZ_trans a2 (SyZ_trans (SyZ_trans (SyZ_trans (SyZ_trans b2 C5) d2) f2) i2)) j2
    exact this
/-- AN EX IS SAID -/
theorem t_sayExD (V : EnvT σ0 n E B nm con fam cnm) : ∀ (f : Nat) (t : Xt) (e : Et) (lo hi v : Nat), eSm e t → xrd t < f → XTf σ0 n e lo hi v → eK E (QN σ0 n) e → eO σ0 E.2.2.2.1 nm con fam e → eTy e ≠ .leaf → RZ σ0 (hi - lo) (T_sayExD f) (v : Int) (exB nm con fam cnm E.2.2.1 E.2.2.2.1 E.2.2.2.2 e [])
  | 0, _, _, _, _, _, _, h, _, _, _, _ => by omega
  | f + 1, t, e, lo, hi, v, hs, hd, X, K, O, hty => by
    have key : ∀ (e : Et) (t : Xt) (lo hi v : Nat), eSm e t → xrd t ≤ f → XTf σ0 n e lo hi v → eK E (QN σ0 n) e → eO σ0 E.2.2.2.1 nm con fam e → eTy e ≠ .leaf → SSx E σ0 nm con fam cnm (T_sayExD f) (hi - lo) e v := by
      intro e
      induction e with
      | leaf => intro t lo hi v hs; exact hs.elim
      | inner k a u l r' ihl _ =>
        intro t lo hi v hs hd X K O hty
        cases t with
        | leaf => exact hs.elim
        | inner k' b u' l' r'' =>
        obtain ⟨ek, eb, sl, sr⟩ := hs
        subst ek
        have i84 := XTg_in X
        have xr : xrd (.inner k b u' l' r'') = if k = 12 ∨ k = 13 ∨ k = 18 then max (xrd l') (1 + xrd r'') else if k = 0 then max (xrd l') (xrd r'') else 1 + max (xrd l') (xrd r'') := rfl
        obtain ⟨kk1, ⟨kl, kr⟩, eKl, eKr⟩ := id K
        obtain ⟨_, _, _, _, eOl, eOr⟩ := id O
        have h0 : k ≠ 0 := fun z => by
          subst z
          have X' := X
          unfold XTf at X'
          rw [XTg_e] at X'
          obtain ⟨_, _, _, h4⟩ := X'
          rw [if_neg (by decide), if_neg (by decide), if_neg (by decide), if_neg (by decide), if_neg (by decide), if_neg (by decide), if_neg (by decide)] at h4
          cases r' with
          | leaf => exact h4
          | inner t1 a1 u1 r1 r2 =>
            simp only at h4
            rw [if_neg (by decide), if_neg (by decide)] at h4
            exact h4.2.2.2
        have t13 := (kk1 hty).1
        by_cases h12 : k = 12 ∨ k = 18
        · have hd' : xrd l' ≤ f ∧ 1 + xrd r'' ≤ f := by
            rw [xr, if_pos (by omega)] at hd
            omega
          exact sx_left V X K O hty h12 (fun lo hi v X' => t_sayExD V f r'' _ lo hi v (sr (by omega) (by omega) (by omega)) (by omega) X' eKr (eOr (by omega) (by omega) (by omega)) (kr (by omega) (by omega) (by omega) (by omega) (by omega))) (fun lo hi v X' => ihl l' lo hi v (sl (by omega) (by omega)) hd'.1 X' eKl (eOl (by omega) (by omega)) (kl (by omega) (by omega)))
        · have hd' : xrd l' < f ∧ xrd r'' < f := by
            rw [xr, if_neg (by omega), if_neg h0] at hd
            omega
          refine sx_head V X K O hty h0 ⟨by omega, by omega⟩ (fun e lo hi v hc X' K' O' hty' => ?_)
          rcases hc with ⟨c1, c2, hc⟩ | ⟨c1, hc⟩ | ⟨c1, a1, u1, r1, r2, hc, hc2⟩
          · rw [hc] at X' K' O' hty' ⊢
            exact t_sayExD V f l' l lo hi v (sl c1 c2) hd'.1 X' K' O' hty'
          · rw [hc] at X' K' O' hty' ⊢
            exact t_sayExD V f r'' r' lo hi v (sr (by omega) (by omega) (by omega)) hd'.2 X' K' O' hty'
          · have sr' := sr (by omega) (by omega) (by omega)
            rw [hc] at sr'
            cases r'' with
            | leaf => exact sr'.elim
            | inner k2 b2 u2 q1 q2 =>
              obtain ⟨e2, _, s1, s2⟩ := sr'
              subst e2
              have x2 : xrd (.inner 0 b2 u2 q1 q2) = max (xrd q1) (xrd q2) := by
                show (if (0 : Nat) = 12 ∨ (0 : Nat) = 13 ∨ (0 : Nat) = 18 then _ else if (0 : Nat) = 0 then max (xrd q1) (xrd q2) else _) = _
                rw [if_neg (by omega), if_pos rfl]
              have d2 := hd'.2
              rw [x2] at d2
              rcases hc2 with hc2 | hc2
              · rw [hc2] at X' K' O' hty' ⊢
                exact t_sayExD V f q1 r1 lo hi v (s1 (by decide) (by decide)) (by omega) X' K' O' hty'
              · rw [hc2] at X' K' O' hty' ⊢
                exact t_sayExD V f q2 r2 lo hi v (s2 (by decide) (by decide) (by decide)) (by omega) X' K' O' hty'
    intro σ tt F S sp ht
    show ∃ σ', T_sayExB (T_sayExD f) (v : Int) σ = some σ' ∧ _
    unfold T_sayExB
    by_cases c : gs σ 904 ≤ gs σ 908
    rotate_left
    · rw [if_neg c]
      exact ⟨σ, rfl, SyZ_skip c⟩
    rw [if_pos c]
    obtain ⟨σ', c1, c2⟩ := key e t lo hi v hs (by omega) X K O hty σ tt (gs σ 856).toNat (gs σ 856) F S (by have := sp.1; omega) (by have := sp.1; have := sp.2; omega) (by have := sp.1; omega) ht
    refine ⟨σ', ?_, c2⟩
    have st : T_sayEx_104s (T_sayExD f) (gs σ 856) σ' = some (.inr σ') := by
      unfold T_sayEx_104s
      rw [if_pos (by rw [c2.2.2.2.2.1]; exact Int.le_refl _)]
    have c1' : (om_loop (T_sayEx_22s (T_sayExD f) (gs σ 856)) ((v : Int), 1, σ)).bind (Sum.elim (fun v1 => T_sayEx_94 (T_sayExD f) (gs σ 856) v1.1 v1.2) (fun v1 => T_sayEx_94 (T_sayExD f) (gs σ 856) v1.1 v1.2)) = ((om_loop (T_sayEx_104s (T_sayExD f) (gs σ 856)) σ').bind fun y3 => some y3) := c1
    rw [c1', om_loop_out st, Option.bind_some]
end LSX
