set_option maxRecDepth 100000
/-! WHAT CAME OF THE JOBS: one by one; how long they are told -/
/-- judged: first by itself, then as what is wanted -/
def JdE (E : JE) (t : Xt) (T : Ty) (s : JS) (e : Et) (s' : JS) : Prop := ∃ (e0 : Et) (s1 : JS), jd E t [] s = some (.inr (e0, s1)) ∧ jw E T e0 s1 = some (.inr (e, s'))
/-- an ex that may be judged -/
def ExL (E : JE) (t : Xt) : Prop := xok E t 0 ∧ 2700 + xsz t ≤ 1000000 ∧ xlD t ∧ pT t
/-- what functions, what insts came to -/
def eF : List JB → List (List Et) → List (JB × Et)
  | j :: l, es :: ess => (if j.1 = 2 then es.map (fun e => (j, e)) else []) ++ eF l ess
  | _, _ => []
def eI : List JB → List (List Et) → List (JB × List Et)
  | j :: l, es :: ess => (if j.1 = 6 then [(j, es)] else []) ++ eI l ess
  | _, _ => []
def c2J : List JB → Nat
  | [] => 0
  | j :: l => (if j.1 = 2 then 1 else 0) + c2J l
def c6J : List JB → Nat
  | [] => 0
  | j :: l => (if j.1 = 6 then 1 else 0) + c6J l
section LJO
variable {nm con fam cnm : Nat → List Int} {E : JE} {B : Nat} {fn : List (List Nat × List GVs × Ty)} {mt : List (Option (Nat × Nat × Ty))} {ab : List (Option Nat)} {ins : List INs} {Q : Ty → Prop}
theorem JdE_kn (J : JOk E B) {t : Xt} {T : Ty} {s s' : JS} {e : Et} (X : ExL E t) (okT : tOk1 E.2.2.2.1 T) (H : JdE E t T s e s') : KnR E Q s t e s' ∧ eTy e ≠ .leaf := by
  obtain ⟨e0, s1, h1, h2⟩ := H
  have hΓ : ∀ T ∈ ([] : List Ty), tyOk E.2.2.2.1 T ∧ tsz T ≤ 2700 := fun T hT => absurd hT List.not_mem_nil
  have K1 := jd_kn (Q := Q) J t [] s 2700 e0 s1 X.1 hΓ (Nat.le_refl _) X.2.1 h1
  obtain ⟨K2, y2⟩ := jw_kn K1 okT h2
  obtain ⟨z, ez, hz⟩ := jd_ok J t [] s 2700 X.1 hΓ (Nat.le_refl _) X.2.1
  rw [ez] at h1
  have O := (hz _ (Option.some.inj h1)).1
  exact ⟨K2, by rw [y2]; exact O.1.1⟩
theorem JdE_N {t : Xt} {T : Ty} {s s' : JS} {e : Et} (hp : pT t) (H : JdE E t T s e s') : eN e := by
  obtain ⟨e0, s1, h1, h2⟩ := H
  exact (jw_N h2 (jd_N t [] s e0 s1 hp h1).1).1
theorem JdE_len (L : lt10 nm con fam cnm) (J : JL E B) {t : Xt} {T : Ty} {s s' : JS} {e : Et} (X : ExL E t) (okT : tOk1 E.2.2.2.1 T) (H : JdE E t T s e s') : LxR nm con fam cnm E s t e s' := by
  obtain ⟨e0, s1, h1, h2⟩ := H
  have hΓ : ∀ T ∈ ([] : List Ty), tyOk E.2.2.2.1 T ∧ tsz T ≤ 2700 := fun T hT => absurd hT List.not_mem_nil
  have K1 := jd_len L J t [] s 2700 e0 s1 X.1 hΓ (Nat.le_refl _) X.2.1 X.2.2.1 X.2.2.2 h1
  obtain ⟨z, ez, hz⟩ := jd_ok J.1 t [] s 2700 X.1 hΓ (Nat.le_refl _) X.2.1
  rw [ez] at h1
  have O := (hz _ (Option.some.inj h1)).1
  exact jw_len L J K1 okT O (by have := X.2.1; omega) h2
/-- a row of lines -/
theorem jls_c {p : Ty × Xt} {l : List (Ty × Xt)} {s s' : JS} {es : List Et} (H : jls E (p :: l) s = some (.inr (es, s'))) : ∃ e es' s1, es = e :: es' ∧ (tszW p.1 ≤ 60 ∧ JdE E p.2 p.1 s e s1) ∧ jls E l s1 = some (.inr (es', s')) := by
  have H' : jb (jln E p.1 p.2 s) (fun a => jb (jls E l a.2) fun b => some (.inr (a.1 :: b.1, b.2))) = some (.inr (es, s')) := H
  obtain ⟨⟨e, s1⟩, h1, h2⟩ := jbR H'
  obtain ⟨⟨es', s2⟩, h3, h4⟩ := jbR h2
  injection Sum.inr.inj (Option.some.inj h4) with h5 h6
  have h6' : s2 = s' := h6
  subst h6'
  unfold jln at h1
  obtain ⟨⟨e0, s0⟩, g1, g2⟩ := jbR h1
  by_cases c : tszW p.1 ≤ 60
  · rw [if_pos c] at g2
    exact ⟨e, es', s1, h5.symm, ⟨c, e0, s0, g1, g2⟩, h3⟩
  · rw [if_neg c] at g2
    cases Option.some.inj g2
/-- what a row of lines may be -/
def LsL (E : JE) (l : List (Ty × Xt)) : Prop := ∀ p ∈ l, ExL E p.2 ∧ tyOk E.2.2.2.1 p.1 ∧ tsz p.1 ≤ 1000000
theorem jls_at : ∀ {l : List (Ty × Xt)} {s s' : JS} {es : List Et}, jls E l s = some (.inr (es, s')) → es.length = l.length ∧ ∀ (k : Nat) (p : Ty × Xt) (e : Et), l[k]? = some p → es[k]? = some e → ∃ s1 s2, JdE E p.2 p.1 s1 e s2
  | [], s, s', es, H => by
    injection Sum.inr.inj (Option.some.inj H) with h1 h2
    have h1' : [] = es := h1
    rw [← h1']
    exact ⟨rfl, fun k p e e1 => by simp at e1⟩
  | p :: l, s, s', es, H => by
    obtain ⟨e, es', s1, h1, h2, h3⟩ := jls_c H
    obtain ⟨i1, i2⟩ := jls_at h3
    rw [h1]
    refine ⟨by rw [List.length_cons, List.length_cons, i1], fun k p' e' e1 e2 => ?_⟩
    cases k with
    | zero =>
      have a1 : p = p' := Option.some.inj e1
      have a2 : e = e' := Option.some.inj e2
      rw [← a1, ← a2]
      exact ⟨s, s1, h2.2⟩
    | succ k => exact i2 k p' e' e1 e2
theorem jls_pre (J : JOk E B) : ∀ {l : List (Ty × Xt)} {s s' : JS} {es : List Et}, LsL E l → jls E l s = some (.inr (es, s')) → preS s s' ∧ ∀ (k : Nat) (p : Ty × Xt) (e : Et), l[k]? = some p → es[k]? = some e → eSm e p.2 ∧ eTy e ≠ .leaf ∧ eN e ∧ ((∀ X ∈ s'.2, Q X) → eK E Q e)
  | [], s, s', es, _, H => by
    injection Sum.inr.inj (Option.some.inj H) with h1 h2
    have h2' : s = s' := h2
    rw [← h2']
    exact ⟨preS_refl _, fun k p e e1 => by simp at e1⟩
  | p :: l, s, s', es, hL, H => by
    obtain ⟨e, es', s1, h1, h2, h3⟩ := jls_c H
    obtain ⟨x1, x2, x3⟩ := hL p List.mem_cons_self
    obtain ⟨K, ty⟩ := JdE_kn (Q := Q) J x1 ⟨x2, x3⟩ h2.2
    obtain ⟨i1, i2⟩ := jls_pre J (fun q hq => hL q (List.mem_cons_of_mem _ hq)) h3
    refine ⟨preS_trans K.1 i1, fun k p' e' e1 e2 => ?_⟩
    rw [h1] at e2
    cases k with
    | zero =>
      have a1 : p = p' := Option.some.inj e1
      have a2 : e = e' := Option.some.inj e2
      rw [← a1, ← a2]
      exact ⟨K.2.1, ty, JdE_N x1.2.2.2 h2.2, fun hq => K.2.2 (preS_all i1 hq)⟩
    | succ k => exact i2 k p' e' e1 e2
theorem jls_len (L : lt10 nm con fam cnm) (J : JL E B) : ∀ {l : List (Ty × Xt)} {s s' : JS} {es : List Et}, LsL E l → jls E l s = some (.inr (es, s')) → s.1 ≤ s'.1 ∧ (es.map (exL nm con fam cnm E)).sum ≤ 150000 * (l.map (fun p => xnN p.2)).sum + 60000 * (s'.1 - s.1) + 8 * l.length
  | [], s, s', es, _, H => by
    injection Sum.inr.inj (Option.some.inj H) with h1 h2
    have h2' : s = s' := h2
    have h1' : [] = es := h1
    rw [← h2', ← h1']
    exact ⟨Nat.le_refl _, Nat.zero_le _⟩
  | p :: l, s, s', es, hL, H => by
    obtain ⟨e, es', s1, h1, h2, h3⟩ := jls_c H
    obtain ⟨x1, x2, x3⟩ := hL p List.mem_cons_self
    obtain ⟨m1, m2, _⟩ := JdE_len L J x1 ⟨x2, x3⟩ h2.2
    obtain ⟨i1, i2⟩ := jls_len L J (fun q hq => hL q (List.mem_cons_of_mem _ hq)) h3
    rw [h1, List.map_cons, List.sum_cons, List.map_cons, List.sum_cons, List.length_cons]
    exact ⟨by omega, by omega⟩
/-- a job that may be done -/
def JbL (fn : List (List Nat × List GVs × Ty)) (mt : List (Option (Nat × Nat × Ty))) (ab : List (Option Nat)) (ins : List INs) (j : JB) : Prop := (j.1 = 2 → JL (fn, mt, ab, ins, j.2.2.2.1.1) 2700 ∧ ExL (fn, mt, ab, ins, j.2.2.2.1.1) j.2.2.2.1.2.2.1 ∧ tOk1 ins j.2.2.2.1.2.1) ∧ (j.1 = 6 → JL (fn, mt, ab, ins, gvI j.2.2.2.2.1) 2700 ∧ LsL (fn, mt, ab, ins, gvI j.2.2.2.2.1) (j.2.2.2.2.2.2.map (fun y => ldT j.2.2.2.2.2.1 j.2.2.2.2.1 y.1)))
theorem jjs_c {j : JB} {l : List JB} {s s' : JS} {ess : List (List Et)} (H : jjs fn mt ab ins (j :: l) s = some (.inr (ess, s'))) : ∃ es ess' s1, ess = es :: ess' ∧ jj1 fn mt ab ins j s = some (.inr (es, s1)) ∧ jjs fn mt ab ins l s1 = some (.inr (ess', s')) := by
  have H' : jb (jj1 fn mt ab ins j s) (fun a => jb (jjs fn mt ab ins l a.2) fun b => some (.inr (a.1 :: b.1, b.2))) = some (.inr (ess, s')) := H
  obtain ⟨⟨es, s1⟩, h1, h2⟩ := jbR H'
  obtain ⟨⟨ess', s2⟩, h3, h4⟩ := jbR h2
  injection Sum.inr.inj (Option.some.inj h4) with h5 h6
  have h6' : s2 = s' := h6
  subst h6'
  exact ⟨es, ess', s1, h5.symm, h1, h3⟩
theorem jj1_2 {j : JB} {s s' : JS} {es : List Et} (w : j.1 = 2) (H : jj1 fn mt ab ins j s = some (.inr (es, s'))) : ∃ e, es = [e] ∧ JdE (fn, mt, ab, ins, j.2.2.2.1.1) j.2.2.2.1.2.2.1 j.2.2.2.1.2.1 s e s' := by
  unfold jj1 at H
  rw [if_pos w] at H
  obtain ⟨⟨e, s1⟩, h1, h2⟩ := jbR H
  injection Sum.inr.inj (Option.some.inj h2) with h5 h6
  have h6' : s1 = s' := h6
  subst h6'
  obtain ⟨⟨e0, s0⟩, g1, g2⟩ := jbR h1
  exact ⟨e, h5.symm, e0, s0, g1, g2⟩
theorem jj1_6 {j : JB} {s s' : JS} {es : List Et} (w : j.1 = 6) (H : jj1 fn mt ab ins j s = some (.inr (es, s'))) : jls (fn, mt, ab, ins, gvI j.2.2.2.2.1) (j.2.2.2.2.2.2.map (fun y => ldT j.2.2.2.2.2.1 j.2.2.2.2.1 y.1)) s = some (.inr (es, s')) := by
  unfold jj1 at H
  rw [if_neg (by omega), if_pos w] at H
  exact H
theorem jj1_x {j : JB} {s s' : JS} {es : List Et} (w : j.1 ≠ 2) (w' : j.1 ≠ 6) (H : jj1 fn mt ab ins j s = some (.inr (es, s'))) : es = [] ∧ s' = s := by
  unfold jj1 at H
  rw [if_neg w, if_neg w'] at H
  injection Sum.inr.inj (Option.some.inj H) with h1 h2
  exact ⟨h1.symm, h2.symm⟩
/-- what is known of each job's exs -/
def JbE (Q : Ty → Prop) (fn : List (List Nat × List GVs × Ty)) (mt : List (Option (Nat × Nat × Ty))) (ab : List (Option Nat)) (ins : List INs) (j : JB) (es : List Et) : Prop := (j.1 = 2 → ∃ e, es = [e] ∧ eSm e j.2.2.2.1.2.2.1 ∧ eTy e ≠ .leaf ∧ eN e ∧ eK (fn, mt, ab, ins, j.2.2.2.1.1) Q e) ∧ (j.1 = 6 → es.length = j.2.2.2.2.2.2.length ∧ ∀ (k : Nat) (y : LD × TD) (e : Et), j.2.2.2.2.2.2[k]? = some y → es[k]? = some e → eSm e y.1.2.2.2.1 ∧ eTy e ≠ .leaf ∧ eN e ∧ eK (fn, mt, ab, ins, gvI j.2.2.2.2.1) Q e)
theorem jjs_at : ∀ {l : List JB} {s s' : JS} {ess : List (List Et)}, (∀ j ∈ l, JbL fn mt ab ins j) → jjs fn mt ab ins l s = some (.inr (ess, s')) → preS s s' ∧ ess.length = l.length ∧ ((∀ X ∈ s'.2, Q X) → ∀ (k : Nat) (j : JB) (es : List Et), l[k]? = some j → ess[k]? = some es → JbE Q fn mt ab ins j es)
  | [], s, s', ess, _, H => by
    injection Sum.inr.inj (Option.some.inj H) with h1 h2
    have h1' : [] = ess := h1
    have h2' : s = s' := h2
    rw [← h1', ← h2']
    exact ⟨preS_refl _, rfl, fun _ k p e e1 => by simp at e1⟩
  | j :: l, s, s', ess, hL, H => by
    obtain ⟨es, ess', s1, h1, h2, h3⟩ := jjs_c H
    obtain ⟨i1, i2, i3⟩ := jjs_at (fun q hq => hL q (List.mem_cons_of_mem _ hq)) h3
    obtain ⟨L2, L6⟩ := hL j List.mem_cons_self
    have pre : preS s s1 ∧ ((∀ X ∈ s1.2, Q X) → JbE Q fn mt ab ins j es) := by
      by_cases w : j.1 = 2
      · obtain ⟨e, g1, g2⟩ := jj1_2 w h2
        obtain ⟨J, X, okT⟩ := L2 w
        obtain ⟨K, ty⟩ := JdE_kn (Q := Q) J.1 X okT g2
        exact ⟨K.1, fun hq => ⟨fun _ => ⟨e, g1, K.2.1, ty, JdE_N X.2.2.2 g2, K.2.2 hq⟩, fun w' => by omega⟩⟩
      · by_cases w' : j.1 = 6
        · have g := jj1_6 w' h2
          obtain ⟨J, X⟩ := L6 w'
          obtain ⟨p1, p2⟩ := jls_pre (Q := Q) J.1 X g
          have gl := (jls_at g).1
          rw [List.length_map] at gl
          refine ⟨p1, fun hq => ⟨fun w2 => absurd w2 w, fun _ => ⟨gl, fun k y e e1 e2 => ?_⟩⟩⟩
          obtain ⟨q1, q2, q3, q4⟩ := p2 k _ e (by rw [List.getElem?_map, e1]; rfl) e2
          exact ⟨q1, q2, q3, q4 hq⟩
        · obtain ⟨_, g2⟩ := jj1_x w w' h2
          rw [g2]
          exact ⟨preS_refl _, fun _ => ⟨fun z => absurd z w, fun z => absurd z w'⟩⟩
    refine ⟨preS_trans pre.1 i1, by rw [h1, List.length_cons, List.length_cons, i2], fun hq k j' es' e1 e2 => ?_⟩
    rw [h1] at e2
    cases k with
    | zero =>
      have a1 : j = j' := Option.some.inj e1
      have a2 : es = es' := Option.some.inj e2
      rw [← a1, ← a2]
      exact pre.2 (preS_all i1 hq)
    | succ k => exact i3 hq k j' es' e1 e2
/-- HOW LONG ALL OF IT IS TOLD -/
theorem jjs_len (L : lt10 nm con fam cnm) : ∀ {l : List JB} {s s' : JS} {ess : List (List Et)}, (∀ j ∈ l, JbL fn mt ab ins j) → jjs fn mt ab ins l s = some (.inr (ess, s')) → s.1 ≤ s'.1 ∧ ((eF l ess).map (fun p => exL nm con fam cnm (fn, mt, ab, ins, p.1.2.2.2.1.1) p.2)).sum + ((eI l ess).map (fun p => (p.2.map (exL nm con fam cnm (fn, mt, ab, ins, gvI p.1.2.2.2.2.1))).sum)).sum ≤ 150000 * jsX l + 60000 * (s'.1 - s.1) + 8 * jsN l
  | [], s, s', ess, _, H => by
    injection Sum.inr.inj (Option.some.inj H) with h1 h2
    have h1' : [] = ess := h1
    have h2' : s = s' := h2
    rw [← h1', ← h2']
    exact ⟨Nat.le_refl _, Nat.zero_le _⟩
  | j :: l, s, s', ess, hL, H => by
    obtain ⟨es, ess', s1, h1, h2, h3⟩ := jjs_c H
    obtain ⟨i1, i2⟩ := jjs_len L (fun q hq => hL q (List.mem_cons_of_mem _ hq)) h3
    obtain ⟨L2, L6⟩ := hL j List.mem_cons_self
    rw [jsX_c, jsN_c, h1]
    by_cases w : j.1 = 2
    · obtain ⟨e, g1, g2⟩ := jj1_2 w h2
      obtain ⟨J, X, okT⟩ := L2 w
      obtain ⟨m1, m2, _⟩ := JdE_len L J X okT g2
      have a1 : eF (j :: l) (es :: ess') = (j, e) :: eF l ess' := by
        show (if j.1 = 2 then es.map (fun e => (j, e)) else []) ++ eF l ess' = _
        rw [if_pos w, g1]
        rfl
      have a2 : eI (j :: l) (es :: ess') = eI l ess' := by
        show (if j.1 = 6 then [(j, es)] else []) ++ eI l ess' = _
        rw [if_neg (by omega)]
        rfl
      have a3 : jbX j = xnN j.2.2.2.1.2.2.1 := by unfold jbX; rw [if_pos w]
      have a4 : 1 ≤ jbN j := by unfold jbN; omega
      rw [a1, a2, a3, List.map_cons, List.sum_cons]
      have m2' : exL nm con fam cnm (fn, mt, ab, ins, j.2.2.2.1.1) e ≤ 150000 * xnN j.2.2.2.1.2.2.1 + 60000 * (s1.1 - s.1) + 8 := m2
      exact ⟨by omega, by show exL nm con fam cnm (fn, mt, ab, ins, j.2.2.2.1.1) e + _ + _ ≤ _; omega⟩
    · have a1 : eF (j :: l) (es :: ess') = eF l ess' := by
        show (if j.1 = 2 then es.map (fun e => (j, e)) else []) ++ eF l ess' = _
        rw [if_neg w]
        rfl
      rw [a1]
      by_cases w' : j.1 = 6
      · have g := jj1_6 w' h2
        obtain ⟨J, X⟩ := L6 w'
        obtain ⟨m1, m2⟩ := jls_len L J X g
        have a2 : eI (j :: l) (es :: ess') = (j, es) :: eI l ess' := by
          show (if j.1 = 6 then [(j, es)] else []) ++ eI l ess' = _
          rw [if_pos w']
          rfl
        have a3 : jbX j = ((j.2.2.2.2.2.2.map (fun y => ldT j.2.2.2.2.2.1 j.2.2.2.2.1 y.1)).map (fun p => xnN p.2)).sum := by
          unfold jbX lnX
          rw [if_neg w, if_pos w', List.map_map, List.map_map]
          rfl
        have a4 : jbN j = 1 + j.2.2.2.2.2.2.length := by unfold jbN; rw [if_pos w']
        rw [List.length_map] at m2
        rw [a2, List.map_cons, List.sum_cons, a4]
        rw [← a3] at m2
        exact ⟨by omega, by show _ + ((es.map (exL nm con fam cnm (fn, mt, ab, ins, gvI j.2.2.2.2.1))).sum + _) ≤ _; omega⟩
      · obtain ⟨_, g2⟩ := jj1_x w w' h2
        have a2 : eI (j :: l) (es :: ess') = eI l ess' := by
          show (if j.1 = 6 then [(j, es)] else []) ++ eI l ess' = _
          rw [if_neg w']
          rfl
        rw [a2]
        rw [g2] at i1 i2
        exact ⟨by omega, by omega⟩
end LJO
