set_option maxRecDepth 100000
/-! THE COMPONENT TELLS EXS (3) -/
section LXG
variable {G : om_G} {h0 h h1 : om_H} {N : List (List Int)} {cl : Nat → Nat} {U Sx Sl : Nat → Prop} {ins : List INs} {gv : List GVs} {ab : List (Option Nat)} {nm con fam cnm : Nat → List Int} {te s : Nat} {E : om_H → Prop} {K : om_H → om_H → Prop} {k2 : Ty → Ty → Prop} {fo mo : Nat → Nat} {evR : Dc → Nat → Prop} {evT : Dc → Prop}
theorem node_kd {t d dp md m a alo ahi : Nat} {x : XL × Ty × Ty × List Dc} {u : Unit} {l r : Et} (X : XCt G N cl U Sl fo mo h0 evR (.inner t x u l r) d dp md m a alo ahi) (t10 : t ≠ 10) : kd h0 (aX h0 t md m a) ≠ 28 := by
  unfold XCt at X
  rw [XCg_e] at X
  unfold XCb at X
  obtain ⟨_, _, _, X⟩ := X
  rw [if_neg t10] at X
  by_cases t11 : t = 11
  · rw [if_pos t11] at X
    have := X.2.1
    omega
  rw [if_neg t11] at X
  by_cases t12 : t = 12
  · rw [if_pos t12] at X
    have := X.1
    omega
  rw [if_neg t12] at X
  by_cases t13 : t = 13
  · rw [if_pos t13] at X
    have := X.1
    omega
  rw [if_neg t13] at X
  by_cases t18 : t = 18
  · rw [if_pos t18] at X
    have := X.1
    omega
  rw [if_neg t18] at X
  obtain ⟨_, _, X⟩ := X
  by_cases t14 : t = 14
  · rw [if_pos t14] at X
    have := X.1
    omega
  rw [if_neg t14] at X
  by_cases t15 : t = 15
  · rw [if_pos t15] at X
    have := X.1
    omega
  rw [if_neg t15] at X
  cases r with
  | leaf => exact X.elim
  | inner t' a' u' r1 r2 =>
  obtain ⟨_, X⟩ := X
  by_cases t16 : t = 16
  · rw [if_pos t16] at X
    have := X.1
    omega
  rw [if_neg t16] at X
  by_cases t17 : t = 17
  · rw [if_pos t17] at X
    have := X.1
    omega
  rw [if_neg t17] at X
  exact X.elim
set_option maxHeartbeats 1000000 in
/-- EXS ARE TOLD -/
theorem c_exAll (I : TI G N cl U ins gv nm con fam te s E K h0 Sx k2) (nd : ndN N) (hnm : ∀ (w : Nat) (L : List Int), N[w]? = some L → nm w = L) (hI : intO G) (hS : ∀ x, Sl x → Sx x) (hun : ∀ T a a', tyC h0 N cl U T a → tyC h0 N cl U T a' → a = a') (HEV : ∀ D y, evT D → evR D y → evD G N cl U ab ins gv nm con fam cnm te s E K h0 k2 D y) : ∀ (n : Nat) (e : Et), esz e ≤ n → eT N cl nm con fam h0 k2 evT e → WHI G N cl U Sl fo mo ab ins gv nm con fam cnm te s E K h0 evR e ∧ SPI G N cl U Sl fo mo ab ins gv nm con fam cnm te s E K h0 evR e ∧ SCI G N cl U Sl fo mo ab ins gv nm con fam cnm te s E K h0 evR e
  | _, .leaf, _, _ => ⟨fun d dp a alo ahi F X _ => (XCg_l X).elim, fun d dp M a alo ahi F X _ _ => (XCg_l X).elim, fun d dp M a alo ahi F X _ _ _ => (XCg_l X).elim⟩
  | 0, .inner t x u l r, hn, _ => by
    have : 1 + esz l + esz r ≤ 0 := hn
    omega
  | n + 1, .inner t x u l r, hn, T => by
    have hn' : 1 + esz l + esz r ≤ n + 1 := hn
    have IH : ∀ e, esz e < 1 + esz l + esz r → eT N cl nm con fam h0 k2 evT e → WHI G N cl U Sl fo mo ab ins gv nm con fam cnm te s E K h0 evR e ∧ SPI G N cl U Sl fo mo ab ins gv nm con fam cnm te s E K h0 evR e ∧ SCI G N cl U Sl fo mo ab ins gv nm con fam cnm te s E K h0 evR e := fun e he Te => c_exAll I nd hnm hI hS hun HEV n e (by omega) Te
    obtain ⟨T1, t13, _, _, _, T18, Tl, Tr⟩ := id T
    refine ⟨fun d dp a alo ahi F X hF => ?_, fun d dp M a alo ahi F X ha hF => ?_, fun d dp M a alo ahi F X ha hF hc => ?_⟩
    · -- as a whole
      obtain ⟨F', rfl⟩ : ∃ f, F = f + 1 := ⟨F - 1, by omega⟩
      have t0 := XCt_0 X
      have ea : aX h0 t 0 0 a = a := if_pos (.inl rfl)
      have ed : aD t 0 0 dp = dp := if_pos (.inl rfl)
      obtain ⟨hb, P⟩ := c_node (F := F') I nd hnm hI hS hun HEV X (.inl rfl) (by rw [ed]; omega) (fun z => absurd rfl z) T IH
      have X' := X
      unfold XCt at X'
      rw [XCg_e] at X'
      unfold XCb PhT at X'
      have ty := X'.2.2.1.1 (.inl rfl)
      rw [ea] at hb P ty
      rw [exB_i t0]
      exact ⟨c_exC I hb.1 hb.2 ty.1 ty.2 (fun z => (T1 t0 z).1) P, hb⟩
    · -- the first items of a use
      by_cases sp : t = 12 ∧ 0 < M
      · obtain ⟨t12, M0⟩ := sp
        have oo : aO t 1 M := .inr (.inl ⟨rfl, .inl t12, M0⟩)
        have ea : aX h0 t 1 M a = a := if_pos oo
        have ed : aD t 1 M dp = dp := if_pos oo
        have em : aM h0 1494 ((1 : Nat) == 1) M a = M := if_pos ⟨rfl, M0⟩
        have X' := X
        unfold XCt at X'
        rw [XCg_e] at X'
        unfold XCb PhT at X'
        obtain ⟨_, b6, ⟨_, _, φ3⟩, X'⟩ := X'
        rw [ea, em] at φ3
        rw [if_neg (by omega), if_neg (by omega), if_pos t12, ea, ed, em] at X'
        rw [ed] at b6
        obtain ⟨k30, _, _, i, am, a1, ic, i1498, _, _, Xl, Xr⟩ := X'
        have φi := φ3 t12 i ic.2.2.1
        obtain ⟨_, spl, _⟩ := IH l (by omega) (Tl (by omega) (by omega))
        obtain ⟨P, Q, f0, cor, e1, sp, fst, rp⟩ := spl d dp _ a alo am F Xl ha hF
        obtain ⟨R, _⟩ := (IH r (by omega) (Tr (by omega) (by omega) (by omega))).1 d (dp - 1) _ am a1 F Xr (by omega)
        cases l with
        | leaf => exact (XCg_l Xl).elim
        | inner tl xl ul l' r' =>
        have tl0 : tl ≠ 0 := XCt_0 Xl
        have ci := cIt_of nd hun (Tl (by omega) (by omega)) tl0 φi
        refine ⟨_, _, f0, cor, ?_, SPn_s I hS ha ic ci R sp, fst, rp⟩
        have e1' : corB nm con fam cnm ab ins gv tl xl l' r' = P ++ cor ++ Q := e1
        show corB nm con fam cnm ab ins gv t x (.inner tl xl ul l' r') r = _
        unfold corB
        rw [if_neg (by omega), if_neg (by omega), if_pos t12, exB_i tl0, e1']
        by_cases lf : lfB xl.2.2.1 = true
        · rw [if_pos lf, if_pos lf]
          simp
        · rw [if_neg lf, if_neg lf]
          simp
      · have no : ¬ aO t 1 M := fun w => by
          rcases w with w | w | w
          · omega
          · rcases w.2.1 with c | c
            · exact sp ⟨c, w.2.2⟩
            · exact t13 c
          · omega
        have ea : aX h0 t 1 M a = fR h0 1490 a := (if_neg no).trans (if_pos rfl)
        have ed : aD t 1 M dp = dp - 1 := if_neg no
        have X' := X
        unfold XCt at X'
        rw [XCg_e] at X'
        unfold XCb at X'
        obtain ⟨⟨_, _, _, _, b5⟩, b6, _, X'⟩ := X'
        rw [ed] at b6
        obtain ⟨F', rfl⟩ : ∃ f, F = f + 1 := ⟨F - 1, by omega⟩
        obtain ⟨hb, P⟩ := c_node (F := F') I nd hnm hI hS hun HEV X (.inr no) (by rw [ed]; omega) (fun _ => ha.1) T IH
        have nk := node_kd X
        rw [ea] at hb P nk
        have fin : ∀ f0, f0 = M → (∀ h, K h0 h → C_6_first G a h = some ((f0 : Nat) : Int)) → ∃ P Q f0 cor, corE ab ins gv nm con fam cnm (.inner t x u l r) = P ++ cor ++ Q ∧ SPn G te s E K h0 (C_6_plainD G (F' + 1)) a M f0 P Q ∧ (∀ h, K h0 h → C_6_first G a h = some (f0 : Int)) ∧ RPt s E K h0 te (C_6_plainD G (F' + 1)) (fR h0 1490 a) cor := fun f0 e0 hf => by
          subst e0
          exact ⟨[], [], f0, _, by rw [List.nil_append, List.append_nil]; rfl, SPn_0, hf, P⟩
        by_cases t10 : t = 10
        · rw [if_pos t10, ea] at X'
          obtain ⟨nmc, _, at'⟩ := X'
          by_cases k28 : kd h0 (fR h0 1490 a) = 28
          · have en : aN h0 (fR h0 1490 a) = fR h0 1490 a := if_neg (by omega)
            rw [en] at nmc
            unfold atC at at'
            rw [if_pos ⟨rfl, k28⟩] at at'
            exact fin _ at'.1.symm (fun h k => c_fst I hS ha nmc hb.1 k)
          · unfold atC at at'
            rw [if_neg (fun z => k28 z.2)] at at'
            exact fin 0 (at'.1 rfl).symm (fun h k => c_fst0 I ha hb k28 k)
        · have M0 : M = 0 := by
            rcases b5.1 rfl with c | c | c | c
            · exact absurd c t10
            · exact Classical.byContradiction (fun z => sp ⟨c, by omega⟩)
            · exact absurd c t13
            · exact c
          exact fin 0 M0.symm (fun h k => c_fst0 I ha hb (nk t10) k)
    · -- the first of a chain
      have t0 := XCt_0 X
      by_cases M0 : 0 < M
      · have X' := X
        unfold XCt at X'
        rw [XCg_e] at X'
        unfold XCb at X'
        obtain ⟨⟨_, _, _, _, b5⟩, b6, _, X'⟩ := X'
        have t18 : t = 18 := by
          rcases b5.2.1 rfl with c | c
          · exact c
          · omega
        have oo : aO t 2 M := .inr (.inr ⟨rfl, t18, M0⟩)
        have ea : aX h0 t 2 M a = a := if_pos oo
        have ed : aD t 2 M dp = dp := if_pos oo
        have em : aM h0 1522 ((2 : Nat) == 2) M a = M := if_pos ⟨rfl, M0⟩
        rw [ed] at b6
        rw [if_neg (by omega), if_neg (by omega), if_neg (by omega), if_neg (by omega), if_pos t18, ea, ed, em] at X'
        obtain ⟨k32, _, e, am, cc, _, Xl, Xr⟩ := X'
        obtain ⟨hc1, hc2⟩ := hc M0
        have sg := cc.2.2.2.2.2 hc2
        have nc : x.2.2.1 = .leaf := hc1 t18 sg.1 sg.2
        obtain ⟨_, _, scl⟩ := IH l (by omega) (Tl (by omega) (by omega))
        obtain ⟨Q, L0, e1, sc, rx⟩ := scl d dp _ a alo am F Xl ha hF (fun w => ⟨T18 t18, hc2⟩)
        obtain ⟨R, he⟩ := (IH r (by omega) (Tr (by omega) (by omega) (by omega))).1 d (dp - 1) _ am _ F Xr (by omega)
        refine ⟨_, L0, ?_, SCn_s I hI hS ha cc he R sc, rx⟩
        rw [exB_i t0, nc]
        unfold corB cstB
        rw [if_pos (show lfB .leaf = true from rfl), if_pos (show lfB .leaf = true from rfl), if_neg (by omega), if_neg (by omega), if_neg (by omega), if_neg (by omega), if_neg (by omega), if_neg (by omega), if_neg (by omega), if_pos t18, e1]
        obtain ⟨m, em'⟩ : ∃ m, M = m + 1 := ⟨M - 1, by omega⟩
        rw [em', show m + 1 - 1 = m by omega, show List.replicate (m + 1) (40 : Int) = 40 :: List.replicate m 40 from rfl]
        simp
      · have M0' : M = 0 := by omega
        subst M0'
        have no : ¬ aO t 2 0 := fun w => by
          rcases w with w | w | w
          · omega
          · omega
          · omega
        have ea : aX h0 t 2 0 a = fR h0 1518 a := (if_neg no).trans (if_neg (by decide))
        have ed : aD t 2 0 dp = dp - 1 := if_neg no
        have X' := X
        unfold XCt at X'
        rw [XCg_e] at X'
        unfold XCb PhT at X'
        have b6 := X'.2.1
        have ty := X'.2.2.1.1 (.inr ⟨rfl, no⟩)
        clear X'
        rw [ed] at b6
        obtain ⟨F', rfl⟩ : ∃ f, F = f + 1 := ⟨F - 1, by omega⟩
        obtain ⟨hb, P⟩ := c_node (F := F') I nd hnm hI hS hun HEV X (.inr no) (by rw [ed]; omega) (fun _ => ha.1) T IH
        rw [ea] at hb P ty
        refine ⟨[], exB nm con fam cnm ab ins gv (.inner t x u l r) [], ?_, SCn_0, ?_⟩
        · rw [List.append_nil]
          rfl
        · rw [exB_i t0]
          exact c_exC I hb.1 hb.2 ty.1 ty.2 (fun z => (T1 t0 z).1) P
/-- AN EX IS TOLD -/
theorem c_exT (I : TI G N cl U ins gv nm con fam te s E K h0 Sx k2) (nd : ndN N) (hnm : ∀ (w : Nat) (L : List Int), N[w]? = some L → nm w = L) (hI : intO G) (hS : ∀ x, Sl x → Sx x) (hun : ∀ T a a', tyC h0 N cl U T a → tyC h0 N cl U T a' → a = a') (HEV : ∀ D y, evT D → evR D y → evD G N cl U ab ins gv nm con fam cnm te s E K h0 k2 D y) {e : Et} {d dp a alo ahi : Nat} (X : XCt G N cl U Sl fo mo h0 evR e d dp 0 0 a alo ahi) (T : eT N cl nm con fam h0 k2 evT e) (hd : dp ≤ 129) {L : List Int} (o : okD E K s h0 h (exB nm con fam cnm ab ins gv e [] ++ L)) : TDw E K s h wDr (C_6_ex G (C_6_plain G) te a h) (exB nm con fam cnm ab ins gv e []) := ((c_exAll I nd hnm hI hS hun HEV (esz e) e (Nat.le_refl _) T).1 d dp a alo ahi 130 X (by omega)).1 h L o
end LXG
