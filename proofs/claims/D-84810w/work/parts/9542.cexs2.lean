set_option maxRecDepth 100000
/-! THE COMPONENT TELLS EXS (2) -/
section LXF
variable {G : om_G} {h0 h h1 : om_H} {N : List (List Int)} {cl : Nat → Nat} {U Sx Sl : Nat → Prop} {ins : List INs} {gv : List GVs} {ab : List (Option Nat)} {nm con fam cnm : Nat → List Int} {te s : Nat} {E : om_H → Prop} {K : om_H → om_H → Prop} {k2 : Ty → Ty → Prop} {fo mo : Nat → Nat} {evR : Dc → Nat → Prop} {evT : Dc → Prop}
/-- how many @s there are ahead of the items -/
theorem c_fst (I : TI G N cl U ins gv nm con fam te s E K h0 Sx k2) (hS : ∀ x, Sl x → Sx x) {a d : Nat} {lb : XL} (ha : a < hz h0 ∧ kd h0 a = 30) (X : nmC h0 N cl U Sl fo mo lb d (fR h0 1490 a)) (hb : fR h0 1490 a < hz h0) (k : K h0 h) : C_6_first G a h = some ((lb.2.2.2.2.2.length : Nat) : Int) := by
  have e := I.2.1 h a k ha.1 (by omega)
  have e2 := I.2.1 h _ k hb (by have := X.1.1; omega)
  have k28 : kd h (fR h0 1490 a) = 28 := by rw [e2.1]; exact X.1.1
  unfold C_6_first
  rw [e.2.2.1, gd_pos ⟨by rw [e.1]; exact ha.2, exk_of (by omega) (by omega)⟩, if_neg (fun z => z k28), gd_pos ⟨.inr k28, k28⟩, c_manyT I hS X hb k, Option.bind_some]
theorem c_fst0 (I : TI G N cl U ins gv nm con fam te s E K h0 Sx k2) {a : Nat} (ha : a < hz h0 ∧ kd h0 a = 30) (hb : fR h0 1490 a < hz h0 ∧ 24 ≤ kd h0 (fR h0 1490 a) ∧ kd h0 (fR h0 1490 a) ≤ 32 ∧ kd h0 (fR h0 1490 a) ≠ 31) (n28 : kd h0 (fR h0 1490 a) ≠ 28) (k : K h0 h) : C_6_first G a h = some ((0 : Nat) : Int) := by
  have e := I.2.1 h a k ha.1 (by omega)
  have e2 := I.2.1 h _ k hb.1 (by omega)
  unfold C_6_first
  rw [e.2.2.1, gd_pos ⟨by rw [e.1]; exact ha.2, exk_of (by rw [e2.1]; omega) (by rw [e2.1]; omega)⟩, if_pos (by rw [e2.1]; exact n28)]
  rfl
theorem esz_lt {t : Nat} {x : XL × Ty × Ty × List Dc} {u : Unit} {l r : Et} : esz (.inner t x u l r) = 1 + esz l + esz r := rfl
set_option maxHeartbeats 1000000 in
/-- an ex's own part -/
theorem c_node (I : TI G N cl U ins gv nm con fam te s E K h0 Sx k2) (nd : ndN N) (hnm : ∀ (w : Nat) (L : List Int), N[w]? = some L → nm w = L) (hI : intO G) (hS : ∀ x, Sl x → Sx x) (hun : ∀ T a a', tyC h0 N cl U T a → tyC h0 N cl U T a' → a = a') (HEV : ∀ D y, evT D → evR D y → evD G N cl U ab ins gv nm con fam cnm te s E K h0 k2 D y) {t d dp md m a alo ahi F : Nat} {x : XL × Ty × Ty × List Dc} {u : Unit} {l r : Et} (X : XCt G N cl U Sl fo mo h0 evR (.inner t x u l r) d dp md m a alo ahi) (hn : md = 0 ∨ ¬ aO t md m) (hF : aD t md m dp ≤ F) (hz' : md ≠ 0 → a < hz h0) (T : eT N cl nm con fam h0 k2 evT (.inner t x u l r)) (IH : ∀ e, esz e < 1 + esz l + esz r → eT N cl nm con fam h0 k2 evT e → WHI G N cl U Sl fo mo ab ins gv nm con fam cnm te s E K h0 evR e ∧ SPI G N cl U Sl fo mo ab ins gv nm con fam cnm te s E K h0 evR e ∧ SCI G N cl U Sl fo mo ab ins gv nm con fam cnm te s E K h0 evR e) : (aX h0 t md m a < hz h0 ∧ 24 ≤ kd h0 (aX h0 t md m a) ∧ kd h0 (aX h0 t md m a) ≤ 32 ∧ kd h0 (aX h0 t md m a) ≠ 31) ∧ RPt s E K h0 te (C_6_plainB G (C_6_plainD G F)) (aX h0 t md m a) (corB nm con fam cnm ab ins gv t x l r) := by
  have X' := X
  unfold XCt at X'
  rw [XCg_e] at X'
  unfold XCb at X'
  obtain ⟨⟨b1, b2, b3, b4, b5⟩, b6, φ, X'⟩ := X'
  have low : ∀ z, z < aH h0 t md m a ahi → z < hz h0 := fun z q => by
    unfold aH at q
    split at q
    · omega
    · rename_i w
      have := hz' (fun z => w (.inl (.inl z)))
      omega
  have hb := low _ b2
  unfold PhT at φ
  obtain ⟨_, φ2, φ3⟩ := φ
  generalize eb : aX h0 t md m a = b at *
  generalize ed : aD t md m dp = dq at *
  obtain ⟨_, t13, T10, T11, T14, T18, Tl, Tr⟩ := id T
  by_cases t10 : t = 10
  · rw [if_pos t10] at X'
    obtain ⟨nmc, ⟨n1, n2⟩, at'⟩ := X'
    obtain ⟨evs, R, rl, rE, _⟩ := φ2 t10
    have hn' := low _ n2
    have nmt := c_nmT I hnm hS nmc hn' (T10 t10).1 R rl (fun i y D a b => HEV D y ((T10 t10).2 D (List.mem_of_getElem? b)) (rE i y D a b))
    have k28 := nmc.1.1
    unfold corB
    rw [if_pos t10]
    by_cases kb : kd h0 b = 30
    · have en : aN h0 b = fR h0 1490 b := if_pos kb
      rw [en] at nmc hn' nmt k28
      unfold atC at at'
      rw [if_neg (fun z => by omega)] at at'
      rcases at'.2 with ⟨q, _⟩ | ⟨_, _, ne, le, itl⟩
      · omega
      refine ⟨⟨hb, by omega, by omega, by omega⟩, ?_⟩
      obtain ⟨F', rfl⟩ : ∃ f, F = f + 1 := ⟨F - 1, by omega⟩
      have rp : RPt s E K h0 te (C_6_plainD G (F' + 1)) (fR h0 1490 b) (nmB nm con fam cnm ab ins gv x.1 x.2.2.2) := c_pl10 I hn' k28 nmt
      have res := c_useT (P := []) (Q := []) I hS ⟨hb, kb⟩ itl.1 (fun h k => c_fst I hS ⟨hb, kb⟩ nmc hn' k) (by rw [le]; exact SPn_0) rp
      rw [List.nil_append, List.append_nil] at res
      exact res
    · have en : aN h0 b = b := if_neg kb
      rw [en] at nmt k28
      exact ⟨⟨hb, by omega, by omega, by omega⟩, c_pl10 I hb k28 nmt⟩
  rw [if_neg t10] at X'
  by_cases t11 : t = 11
  · rw [if_pos t11] at X'
    obtain ⟨_, k29, _, v⟩ := X'
    unfold corB
    rw [if_neg t10, if_pos t11]
    exact ⟨⟨hb, by omega, by omega, by omega⟩, c_pl11 I hb k29 v (T11 t11)⟩
  rw [if_neg t11] at X'
  by_cases t12 : t = 12
  · rw [if_pos t12] at X'
    obtain ⟨k30, _, _, i, am, a1, ic, i1498, _, _, Xl, Xr⟩ := X'
    have eM : aM h0 1494 (md == 1) m b = (ll h0 (fR h0 1494 b)).length := by
      unfold aM
      refine if_neg (fun w => ?_)
      rcases hn with z | z
      · rw [z] at w
        exact absurd w.1 (by decide)
      · exact z (.inr (.inl ⟨by simpa using w.1, .inl t12, w.2⟩))
    rw [eM] at ic Xl
    have φi := φ3 t12 i (by rw [eM]; exact ic.2.2.1)
    obtain ⟨_, spl, _⟩ := IH l (by omega) (Tl t10 t11)
    obtain ⟨P, Q, f0, cor, e1, sp, fst, rp⟩ := spl d dq _ b alo am F Xl ⟨hb, k30⟩ hF
    obtain ⟨R, _⟩ := (IH r (by omega) (Tr t10 t11 (by omega))).1 d (dq - 1) _ am a1 F Xr (by omega)
    cases l with
    | leaf => exact (XCg_l Xl).elim
    | inner tl xl ul l' r' =>
    have tl0 : tl ≠ 0 := XCt_0 Xl
    have ci := cIt_of nd hun (Tl t10 t11) tl0 φi
    have sp' := SPn_s I hS ⟨hb, k30⟩ ic ci R sp
    have res := c_useT I hS ⟨hb, k30⟩ ⟨ic.1.1, ic.1.2.1, ic.1.2.2, ic.2.1.2.2⟩ fst sp' rp
    refine ⟨⟨hb, by omega, by omega, by omega⟩, ?_⟩
    have e1' : corB nm con fam cnm ab ins gv tl xl l' r' = P ++ cor ++ Q := e1
    have ec : corB nm con fam cnm ab ins gv t x (.inner tl xl ul l' r') r = ((if lfB xl.2.2.1 = true then [40] else [40, 40]) ++ P) ++ cor ++ (Q ++ (cstB nm con fam ins gv xl.2.1 xl.2.2.1 ++ ([32] ++ (exB nm con fam cnm ab ins gv r [] ++ [41])))) := by
      unfold corB
      rw [if_neg t10, if_neg t11, if_pos t12, exB_i tl0, e1']
      by_cases lf : lfB xl.2.2.1 = true
      · rw [if_pos lf, if_pos lf]
        simp
      · rw [if_neg lf, if_neg lf]
        simp
    rw [ec]
    exact res
  rw [if_neg t12, if_neg t13] at X'
  by_cases t18 : t = 18
  · rw [if_pos t18] at X'
    obtain ⟨k32, _, e, am, cc, _, Xl, Xr⟩ := X'
    have eM : aM h0 1522 (md == 2) m b = (ll h0 (fR h0 1522 b)).length := by
      unfold aM
      refine if_neg (fun w => ?_)
      rcases hn with z | z
      · rw [z] at w
        exact absurd w.1 (by decide)
      · exact z (.inr (.inr ⟨by simpa using w.1, t18, w.2⟩))
    rw [eM] at cc Xl
    obtain ⟨_, _, scl⟩ := IH l (by omega) (Tl t10 t11)
    obtain ⟨Q, L0, e1, sc, rx⟩ := scl d dq _ b alo am F Xl ⟨hb, k32⟩ hF (fun w => ⟨T18 t18, by omega⟩)
    obtain ⟨R, he⟩ := (IH r (by omega) (Tr t10 t11 (by omega))).1 d (dq - 1) _ am _ F Xr (by omega)
    have sc' := SCn_s I hI hS ⟨hb, k32⟩ cc he R sc
    have m1 := cc.2.2.1.2.1
    have res := c_chT I hS ⟨hb, k32⟩ ⟨cc.1.1, cc.1.2.1, cc.1.2.2, cc.2.2.1.2.2.2⟩ sc' rx
    refine ⟨⟨hb, by omega, by omega, by omega⟩, ?_⟩
    have ec : corB nm con fam cnm ab ins gv t x l r = List.replicate (ll h0 (fR h0 1522 b)).length 40 ++ L0 ++ (Q ++ (sgB x.1.2.1 ++ (exB nm con fam cnm ab ins gv r [] ++ [41]))) := by
      unfold corB
      rw [if_neg t10, if_neg t11, if_neg t12, if_neg (by omega), if_neg (by omega), if_neg (by omega), if_neg (by omega), if_pos t18, e1]
      obtain ⟨n, en⟩ : ∃ n, (ll h0 (fR h0 1522 b)).length = n + 1 := ⟨(ll h0 (fR h0 1522 b)).length - 1, by omega⟩
      rw [en, show n + 1 - 1 = n by omega, show List.replicate (n + 1) (40 : Int) = 40 :: List.replicate n 40 from rfl]
      simp
    rw [ec]
    exact res
  rw [if_neg t18] at X'
  obtain ⟨_, _, X'⟩ := X'
  by_cases t14 : t = 14
  · rw [if_pos t14] at X'
    obtain ⟨k24, cT, W, a1, a2, _, _, Xl⟩ := X'
    obtain ⟨R, _⟩ := (IH l (by omega) (Tl t10 t11)).1 (d + 1) (dq - 1) _ a1 a2 F Xl (by omega)
    unfold corB
    rw [if_neg t10, if_neg t11, if_neg t12, if_pos t14]
    exact ⟨⟨hb, by omega, by omega, by omega⟩, c_pl14 I hnm hb k24 cT (T14 (.inl t14)) W R⟩
  rw [if_neg t14] at X'
  by_cases t15 : t = 15
  · rw [if_pos t15] at X'
    obtain ⟨k25, cT, W, a1, a2, a3, _, _, _, Xl, Xr⟩ := X'
    obtain ⟨R1, _⟩ := (IH l (by omega) (Tl t10 t11)).1 d (dq - 1) _ a1 a2 F Xl (by omega)
    obtain ⟨R2, _⟩ := (IH r (by omega) (Tr t10 t11 (by omega))).1 (d + 1) (dq - 1) _ a2 a3 F Xr (by omega)
    unfold corB
    rw [if_neg t10, if_neg t11, if_neg t12, if_neg t14, if_pos t15]
    exact ⟨⟨hb, by omega, by omega, by omega⟩, c_pl15 I hnm hb k25 cT (T14 (.inr t15)) W R1 R2⟩
  rw [if_neg t15] at X'
  cases r with
  | leaf => exact X'.elim
  | inner t' a' u' r1 r2 =>
  obtain ⟨z0, X'⟩ := X'
  subst z0
  rw [esz_lt] at IH
  by_cases t16 : t = 16
  · rw [if_pos t16] at X'
    obtain ⟨k26, a1, a2, a3, a4, _, _, _, X1, X2, X3⟩ := X'
    obtain ⟨R1, _⟩ := (IH l (by omega) (Tl t10 t11)).1 d (dq - 1) _ a1 a2 F X1 (by omega)
    obtain ⟨R2, _⟩ := (IH r1 (by omega) ((Tr t10 t11 (by omega)).2.2.2.2.2.2.1 (by decide) (by decide))).1 d (dq - 1) _ a2 a3 F X2 (by omega)
    obtain ⟨R3, _⟩ := (IH r2 (by omega) ((Tr t10 t11 (by omega)).2.2.2.2.2.2.2 (by decide) (by decide) (by decide))).1 d (dq - 1) _ a3 a4 F X3 (by omega)
    unfold corB
    rw [if_neg t10, if_neg t11, if_neg t12, if_neg t14, if_neg t15, if_pos t16, exB_0]
    exact ⟨⟨hb, by omega, by omega, by omega⟩, c_pl16 I hb k26 R1 R2 R3⟩
  rw [if_neg t16] at X'
  by_cases t17 : t = 17
  · rw [if_pos t17] at X'
    obtain ⟨k27, W, W', a1, a2, a3, a4, a5, _, _, _, X1, X2, X3⟩ := X'
    obtain ⟨R1, _⟩ := (IH l (by omega) (Tl t10 t11)).1 d (dq - 1) _ a1 a2 F X1 (by omega)
    obtain ⟨R2, _⟩ := (IH r1 (by omega) ((Tr t10 t11 (by omega)).2.2.2.2.2.2.1 (by decide) (by decide))).1 d (dq - 1) _ a2 a3 F X2 (by omega)
    obtain ⟨R3, _⟩ := (IH r2 (by omega) ((Tr t10 t11 (by omega)).2.2.2.2.2.2.2 (by decide) (by decide) (by decide))).1 (d + 2) (dq - 1) _ a4 a5 F X3 (by omega)
    unfold corB
    rw [if_neg t10, if_neg t11, if_neg t12, if_neg t14, if_neg t15, if_neg t16, if_pos t17, exB_0]
    exact ⟨⟨hb, by omega, by omega, by omega⟩, c_pl17 I hnm hb k27 W W' R1 R2 R3⟩
  rw [if_neg t17] at X'
  exact X'.elim
end LXF
