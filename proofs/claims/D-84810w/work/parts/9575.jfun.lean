set_option maxRecDepth 100000
/-! FUNCTIONS, INSTS AND THEIR JOBS: which is which -/
theorem lst_eq2 {α : Type} {l l' : List α} (h : l.length = l'.length) (e : ∀ (i : Nat) (a b : α), l[i]? = some a → l'[i]? = some b → a = b) : l = l' := by
  refine List.ext_getElem? (fun i => ?_)
  by_cases hi : i < l.length
  · have hi' : i < l'.length := by omega
    rw [List.getElem?_eq_getElem hi, List.getElem?_eq_getElem hi', e i _ _ (List.getElem?_eq_getElem hi) (List.getElem?_eq_getElem hi')]
  · rw [List.getElem?_eq_none (by omega), List.getElem?_eq_none (by omega)]
theorem FnT_fun {σ : tS} {n f w w' : Nat} {x x' : List Nat × List GVs × Ty} (H : FnT σ n f w x) (H' : FnT σ n f w' x') : w = w' ∧ x = x' := by
  obtain ⟨⟨a1, _⟩, ⟨b1, _, b3⟩, ⟨c1, _, c3⟩, d⟩ := H
  obtain ⟨⟨a1', _⟩, ⟨b1', _, b3'⟩, ⟨c1', _, c3'⟩, d'⟩ := H'
  have e1 : x.1 = x'.1 := lst_eq2 (nat_int b1 b1') (fun i a b ea eb => nat_int (b3 i a ea) (b3' i b eb))
  have e2 : x.2.1 = x'.2.1 := lst_eq2 (nat_int c1 c1') (fun i a b ea eb => by
    obtain ⟨p1, _, ⟨k, p2, p3⟩, p4⟩ := c3 i a ea
    obtain ⟨q1, _, ⟨k', q2, q3⟩, q4⟩ := c3' i b eb
    have ek : k = k' := nat_int p2 q2
    rw [← e1] at q3
    have en := (ixF_inj p3 q3).mp ek
    exact Prod.ext (nat_int p1 q1) (Prod.ext en (tyT_fun p4 q4)))
  exact ⟨nat_int a1 a1', Prod.ext e1 (Prod.ext e2 (tyT_fun d d'))⟩
theorem InTw_fun {σ : tS} {n C C' i : Nat} {d d' : INs} (H : InTw σ n C i d) (H' : InTw σ n C' i d') : d = d' := by
  obtain ⟨⟨a1, _⟩, ⟨b1, _⟩, ⟨c1, _, c3⟩, ⟨e1, _, e3⟩, f⟩ := H
  obtain ⟨⟨a1', _⟩, ⟨b1', _⟩, ⟨c1', _, c3'⟩, ⟨e1', _, e3'⟩, f'⟩ := H'
  refine Prod.ext (nat_int a1 a1') (Prod.ext (nat_int b1 b1') (Prod.ext (lst_eq2 (nat_int c1 c1') (fun i a b ea eb => nat_int (c3 i a ea) (c3' i b eb))) (Prod.ext (lst_eq2 (nat_int e1 e1') (fun i a b ea eb => ?_)) (tyT_fun f f'))))
  obtain ⟨p1, p2, _⟩ := e3 i a ea
  obtain ⟨q1, q2, _⟩ := e3' i b eb
  exact Prod.ext (nat_int p1 q1) (nat_int p2 q2)
theorem hdI_H {H : Nat → Nat → Prop} (h0 : ∀ k w, k ≠ 2 → H k w) {d : INs} : allH H (hdI d) := by
  unfold hdI
  refine ⟨h0 _ _ (by decide), ?_, ?_⟩
  · unfold hdN; split
    · exact ⟨h0 _ _ (by decide), trivial, trivial⟩
    · trivial
  · unfold hdN; split
    · exact ⟨h0 _ _ (by decide), trivial, trivial⟩
    · trivial
theorem c2J_snoc {j : JB} : ∀ {l : List JB}, c2J (l ++ [j]) = c2J l + (if j.1 = 2 then 1 else 0)
  | [] => by
    show (if j.1 = 2 then 1 else 0) + 0 = 0 + (if j.1 = 2 then 1 else 0)
    rw [Nat.add_comm]
  | a :: l => by
    show (if a.1 = 2 then 1 else 0) + c2J (l ++ [j]) = (if a.1 = 2 then 1 else 0) + c2J l + (if j.1 = 2 then 1 else 0)
    rw [c2J_snoc, Nat.add_assoc]
theorem c6J_snoc {j : JB} : ∀ {l : List JB}, c6J (l ++ [j]) = c6J l + (if j.1 = 6 then 1 else 0)
  | [] => by
    show (if j.1 = 6 then 1 else 0) + 0 = 0 + (if j.1 = 6 then 1 else 0)
    rw [Nat.add_comm]
  | a :: l => by
    show (if a.1 = 6 then 1 else 0) + c6J (l ++ [j]) = (if a.1 = 6 then 1 else 0) + c6J l + (if j.1 = 6 then 1 else 0)
    rw [c6J_snoc, Nat.add_assoc]
section LJD
variable {fn : List (List Nat × List GVs × Ty)} {mt : List (Option (Nat × Nat × Ty))} {ab : List (Option Nat)} {ins : List INs}
/-- each ex was judged so -/
theorem jjs_jd : ∀ {l : List JB} {s s' : JS} {ess : List (List Et)}, jjs fn mt ab ins l s = some (.inr (ess, s')) → ∀ (k : Nat) (j : JB) (es : List Et), l[k]? = some j → ess[k]? = some es → (j.1 = 2 → ∃ e s1 s2, es = [e] ∧ JdE (fn, mt, ab, ins, j.2.2.2.1.1) j.2.2.2.1.2.2.1 j.2.2.2.1.2.1 s1 e s2) ∧ (j.1 = 6 → es.length = j.2.2.2.2.2.2.length ∧ ∀ (m : Nat) (y : LD × TD) (e : Et), j.2.2.2.2.2.2[m]? = some y → es[m]? = some e → ∃ s1 s2, JdE (fn, mt, ab, ins, gvI j.2.2.2.2.1) y.1.2.2.2.1 (ldT j.2.2.2.2.2.1 j.2.2.2.2.1 y.1).1 s1 e s2)
  | [], s, s', ess, H, k, j, es, e1, _ => by simp at e1
  | j0 :: l, s, s', ess, H, k, j, es, e1, e2 => by
    obtain ⟨es0, ess', s1, h1, h2, h3⟩ := jjs_c H
    rw [h1] at e2
    cases k with
    | zero =>
      have a1 : j0 = j := Option.some.inj e1
      have a2 : es0 = es := Option.some.inj e2
      rw [← a1, ← a2]
      refine ⟨fun w => ?_, fun w => ?_⟩
      · obtain ⟨e, g1, g2⟩ := jj1_2 w h2
        exact ⟨e, s, s1, g1, g2⟩
      · obtain ⟨g1, g2⟩ := jls_at (jj1_6 w h2)
        rw [List.length_map] at g1
        refine ⟨g1, fun m y e ey ee => ?_⟩
        exact g2 m (ldT j0.2.2.2.2.2.1 j0.2.2.2.2.1 y.1) e (by rw [List.getElem?_map, ey]; rfl) ee
    | succ k => exact jjs_jd h3 k j es e1 e2
end LJD
section LFJ
variable {G : om_G} {A : Nat} {S : List Int} {b m : Nat} {N : List (List Int)} {pr tb z0 : Nat} {cs fo : List Nat} {mo : List (List Nat)} {K : KT} {F : FT} {Ms : List FT} {hr : om_H} {σr : tS} {M : Nat} {qs : List dcl} {ps : List PD} {rs : List (Nat × Nat × Nat × Nat)} {h : om_H} {ul fl : List Nat} {τ : tS} {n : Nat} {Sl Sl0 : Nat → Prop} {cl : List Cp} {il : List IX} {fl' : List FX} {H0 : Nat}
theorem cnt_at {l : List JB} (H : ∀ i j, l[i]? = some j → DJ G S N cs fo mo ps rs h ul τ n Sl0 Sl cl il fl' H0 i j) : ∀ k, k ≤ l.length → fC S ps k = c2J (l.take k) ∧ iC S ps k = c6J (l.take k)
  | 0, _ => ⟨rfl, rfl⟩
  | k + 1, hk => by
    have hk' : k < l.length := by omega
    obtain ⟨i1, i2⟩ := cnt_at H k (by omega)
    have ej : l[k]? = some l[k] := List.getElem?_eq_getElem hk'
    obtain ⟨p, r, ⟨ep, er, pk, _⟩, ⟨j1, _⟩, _⟩ := H k _ ej
    have et : l.take (k + 1) = l.take k ++ [l[k]] := List.take_succ_eq_append_getElem hk'
    rw [et, c2J_snoc, c6J_snoc, ← i1, ← i2]
    unfold fC iC
    rw [sAt_succ ep, j1]
    rcases pk with w | w | w
    · rw [if_neg (show ¬ p.1 = 2 by omega), if_neg (show ¬ p.1 = 6 by omega), pst_5 w]
      exact ⟨rfl, rfl⟩
    · rw [if_neg (show ¬ p.1 = 2 by omega), if_pos w, pst_6 w]
      exact ⟨rfl, rfl⟩
    · rw [if_pos w, if_neg (show ¬ p.1 = 6 by omega), pst_2 w]
      exact ⟨by simp only [List.length_append, List.length_singleton], rfl⟩
/-- a function's job: the function -/
theorem job_fn (R : RA G A S b m N pr tb z0 cs fo mo K F Ms hr σr M qs ps rs h ul fl τ n) (Xf : FXs G A S b m N pr tb z0 cs fo mo K F Ms hr σr M qs ps rs h ul fl τ n Sl0 fl') {k : Nat} {j : JB} (D : DJ G S N cs fo mo ps rs h ul τ n Sl0 Sl cl il fl' H0 k j) (w : j.1 = 2) : ∃ x, fl'[fC S ps k]? = some x ∧ x.1 = k ∧ j.2.2.2.1.1 = x.2.2.2.2.2.1.2.1 ∧ j.2.2.2.1.2.1 = x.2.2.2.2.2.1.2.2 := by
  obtain ⟨p, r, ⟨ep, er, pk, _⟩, ⟨j1, _⟩, _, f2, _⟩ := D
  obtain ⟨_, FT'⟩ := f2 w
  have p2 : p.1 = 2 := by rw [← j1]; exact w
  have kl := (List.getElem?_eq_some_iff.mp ep).1
  have lt : fC S ps k < F.length := by
    have e1 : fC S ps (k + 1) = fC S ps k + 1 := by
      unfold fC
      rw [sAt_succ ep, pst_2 p2]
      simp only [List.length_append, List.length_singleton]
    have e2 := (sAt_le (S := S) (ps := ps) (s := ([], [], [], [], [], 0)) (show k + 1 ≤ ps.length by omega)).1
    have e3 := fC_all R
    unfold fC at e1 e3 ⊢
    omega
  have ex : fl'[fC S ps k]? = some (fl'[fC S ps k]'(by rw [Xf.1]; exact lt)) := List.getElem?_eq_getElem _
  obtain ⟨_, ⟨q1, q2, q3, q4, q5, _⟩, fT, _⟩ := Xf.2 _ _ ex
  have ek := fn_one q2 q4 ep p2 q5
  obtain ⟨w', x', y, _, ⟨e2, e3, e4⟩, _⟩ := FT'
  obtain ⟨_, g2⟩ := FnT_fun fT e4
  exact ⟨_, ex, ek, by rw [← e2, g2], by rw [← e3, g2]⟩
/-- an inst's job: the inst -/
theorem job_in (X : AX G A S b m N pr tb z0 cs fo mo K F Ms hr σr M qs ps rs h ul fl τ n Sl0 cl il) {k : Nat} {j : JB} (D : DJ G S N cs fo mo ps rs h ul τ n Sl0 Sl cl il fl' H0 k j) (w : j.1 = 6) : ∃ x, il[iC S ps k]? = some x ∧ x.1 = k ∧ j.2.2.2.2.1 = x.2.2.2.2.1 := by
  obtain ⟨p, r, ⟨ep, er, pk, _⟩, ⟨j1, _⟩, _, _, f6, _⟩ := D
  obtain ⟨_, FT'⟩ := f6 w
  have p6 : p.1 = 6 := by rw [← j1]; exact w
  have kl := (List.getElem?_eq_some_iff.mp ep).1
  have lt : iC S ps k < il.length := by
    have e1 : iC S ps (k + 1) = iC S ps k + 1 := by
      unfold iC
      rw [sAt_succ ep, pst_6 p6]
    have e2 := (sAt_le (S := S) (ps := ps) (s := ([], [], [], [], [], 0)) (show k + 1 ≤ ps.length by omega)).2
    have e3 := iC_all X
    unfold iC at e1 e3 ⊢
    omega
  have ex : il[iC S ps k]? = some il[iC S ps k] := List.getElem?_eq_getElem lt
  obtain ⟨_, ⟨q1, q2, q3, q4, q5⟩, _, iT, _⟩ := X.2.2 _ _ ex
  have ek := in_one q2 q4 ep p6 q5
  exact ⟨_, ex, ek, InTw_fun FT'.2.1 iT⟩
/-- a function: its job -/
theorem fn_job (R : RA G A S b m N pr tb z0 cs fo mo K F Ms hr σr M qs ps rs h ul fl τ n) (Xf : FXs G A S b m N pr tb z0 cs fo mo K F Ms hr σr M qs ps rs h ul fl τ n Sl0 fl') {l : List JB} (hl : l.length = qs.length) (H : ∀ i j, l[i]? = some j → DJ G S N cs fo mo ps rs h ul τ n Sl0 Sl cl il fl' H0 i j) {f : Nat} {x : FX} (e : fl'[f]? = some x) : ∃ j, l[x.1]? = some j ∧ j.1 = 2 ∧ c2J (l.take x.1) = f ∧ j.2.2.2.1.1 = x.2.2.2.2.2.1.2.1 ∧ j.2.2.2.1.2.1 = x.2.2.2.2.2.1.2.2 := by
  obtain ⟨_, ⟨q1, q2, q3, q4, q5, _⟩, fT, _⟩ := Xf.2 f x e
  have kl := (List.getElem?_eq_some_iff.mp q1).1
  have ej : l[x.1]? = some (l[x.1]'(by omega)) := List.getElem?_eq_getElem _
  have D := H _ _ ej
  have cn := (cnt_at H x.1 (by omega)).1
  have fc : fC S ps x.1 = f := q5
  have j2 : (l[x.1]'(by omega)).1 = 2 := by
    obtain ⟨p, r, ⟨ep, _⟩, ⟨j1, _⟩, _⟩ := D
    rw [j1, show p = x.2.2.1 from Option.some.inj (ep.symm.trans q2)]
    exact q4
  obtain ⟨x', ex', e1, e2, e3⟩ := job_fn R Xf D j2
  rw [fc, e] at ex'
  have exx : x = x' := Option.some.inj ex'
  exact ⟨_, ej, j2, by rw [← cn]; exact fc, by rw [e2, ← exx], by rw [e3, ← exx]⟩
/-- an inst: its job -/
theorem in_job (X : AX G A S b m N pr tb z0 cs fo mo K F Ms hr σr M qs ps rs h ul fl τ n Sl0 cl il) {l : List JB} (hl : l.length = qs.length) (H : ∀ i j, l[i]? = some j → DJ G S N cs fo mo ps rs h ul τ n Sl0 Sl cl il fl' H0 i j) {f : Nat} {x : IX} (e : il[f]? = some x) : ∃ j, l[x.1]? = some j ∧ j.1 = 6 ∧ c6J (l.take x.1) = f ∧ j.2.2.2.2.1 = x.2.2.2.2.1 := by
  obtain ⟨_, ⟨q1, q2, q3, q4, q5⟩, _⟩ := X.2.2 f x e
  have kl := (List.getElem?_eq_some_iff.mp q1).1
  have ej : l[x.1]? = some (l[x.1]'(by omega)) := List.getElem?_eq_getElem _
  have D := H _ _ ej
  have cn := (cnt_at H x.1 (by omega)).2
  have fc : iC S ps x.1 = f := q5
  have j6 : (l[x.1]'(by omega)).1 = 6 := by
    obtain ⟨p, r, ⟨ep, _⟩, ⟨j1, _⟩, _⟩ := D
    rw [j1, show p = x.2.2.1 from Option.some.inj (ep.symm.trans q2)]
    exact q4
  obtain ⟨x', ex', e1, e2⟩ := job_in X D j6
  rw [fc, e] at ex'
  have exx : x = x' := Option.some.inj ex'
  exact ⟨_, ej, j6, by rw [← cn]; exact fc, by rw [e2, ← exx]⟩
/-- ALL JOBS may be judged and told -/
theorem jbl_of (R : RA G A S b m N pr tb z0 cs fo mo K F Ms hr σr M qs ps rs h ul fl τ n) (X : AX G A S b m N pr tb z0 cs fo mo K F Ms hr σr M qs ps rs h ul fl τ n Sl0 cl il) (Xf : FXs G A S b m N pr tb z0 cs fo mo K F Ms hr σr M qs ps rs h ul fl τ n Sl0 fl') (O : TOk cl il) (Og : ∀ (f : Nat) (x : FX), fl'[f]? = some x → gvOk x.2.2.2.2.2.1.2.1) {k : Nat} {j : JB} (D : DJ G S N cs fo mo ps rs h ul τ n Sl0 Sl cl il fl' H0 k j) : JbL (fnS fl') (mtS cl) (abS cl) (inS il) j ∧ (j.1 = 2 → xlQ (allH (hFam K)) j.2.2.2.1.2.2.1 ∧ allH (hFam K) j.2.2.2.1.2.1) ∧ (j.1 = 6 → ∀ y ∈ j.2.2.2.2.2.2, xlQ (allH (hFam K)) y.1.2.2.2.1 ∧ allH (hFam K) (ldT j.2.2.2.2.2.1 j.2.2.2.2.1 y.1).1) := by
  have Dc := D
  obtain ⟨p, r, _, _, _, f2, f6, _⟩ := D
  have up : ∀ {t : Xt}, xlQ (QN τ n) t → xlQ (allH (hFam K)) t := fun q => xlQ_mono (fun T ⟨t, c⟩ => tyHk R c) q
  have P2 : j.1 = 2 → (JL (fnS fl', mtS cl, abS cl, inS il, j.2.2.2.1.1) 2700 ∧ ExL (fnS fl', mtS cl, abS cl, inS il, j.2.2.2.1.1) j.2.2.2.1.2.2.1 ∧ tOk1 (inS il) j.2.2.2.1.2.1) ∧ xlQ (allH (hFam K)) j.2.2.2.1.2.2.1 ∧ allH (hFam K) j.2.2.2.1.2.1 := fun w => by
    obtain ⟨x, ex, _, e1, e2⟩ := job_fn R Xf Dc w
    obtain ⟨_, FT'⟩ := f2 w
    obtain ⟨w', x', y, _, ⟨g2, g3, g4⟩, _, XT, _, xo, xs, _, _, _, oT, _⟩ := FT'
    obtain ⟨⟨l1, l2⟩, l3⟩ := XTq_xl _ _ _ _ XT
    have V := gvG_fn (h1 := h) (us := ul) (g := True) R X Xf O Og ⟨Nat.le_refl _, fun _ _ => rfl, fun _ _ _ => ⟨fun _ _ => rfl, fun _ _ => rfl⟩, fun _ _ _ => ⟨⟨rfl, fun _ => rfl, fun _ => rfl⟩, rfl⟩, fun _ _ _ => rfl⟩ (fun _ _ c => c) ex
    rw [← e1] at V
    refine ⟨⟨(env_H R X Xf O V).1.1, ⟨xo, xs, l1, l2⟩, oT⟩, up l3, ?_⟩
    rw [← g3]
    exact tyHk R g4.2.2.2
  have P6 : j.1 = 6 → (JL (fnS fl', mtS cl, abS cl, inS il, gvI j.2.2.2.2.1) 2700 ∧ LsL (fnS fl', mtS cl, abS cl, inS il, gvI j.2.2.2.2.1) (j.2.2.2.2.2.2.map (fun y => ldT j.2.2.2.2.2.1 j.2.2.2.2.1 y.1))) ∧ ∀ y ∈ j.2.2.2.2.2.2, xlQ (allH (hFam K)) y.1.2.2.2.1 ∧ allH (hFam K) (ldT j.2.2.2.2.2.1 j.2.2.2.2.1 y.1).1 := fun w => by
    obtain ⟨x, ex, _, e1⟩ := job_in X Dc w
    obtain ⟨_, _, _, lw, _⟩ := f6 w
    have V := gvG_in (h1 := h) (U := UU ul []) R X ex
    rw [← e1] at V
    have E := (env_H R X Xf O V).1
    have at1 : ∀ y ∈ j.2.2.2.2.2.2, ExL (fnS fl', mtS cl, abS cl, inS il, gvI j.2.2.2.2.1) y.1.2.2.2.1 ∧ (tyOk (inS il) (ldT j.2.2.2.2.2.1 j.2.2.2.2.1 y.1).1 ∧ tsz (ldT j.2.2.2.2.2.1 j.2.2.2.2.1 y.1).1 ≤ 1000000) ∧ xlQ (allH (hFam K)) y.1.2.2.2.1 ∧ allH (hFam K) (ldT j.2.2.2.2.2.1 j.2.2.2.2.1 y.1).1 := fun y hy => by
      obtain ⟨XT, _, ⟨_, _, em⟩, ⟨m1, m2, _⟩, o, xo, xs, _⟩ := lw y hy
      obtain ⟨⟨l1, l2⟩, l3⟩ := XTq_xl _ _ _ _ XT
      have sz : tsz (sbT [(j.2.2.2.2.2.1, hdI j.2.2.2.2.1)] y.1.2.2.1.2.2.2) ≤ 3 * tsz y.1.2.2.1.2.2.2 := sbT_tsz (by decide) (fun p hp => by rw [List.mem_singleton.mp hp]; exact hdI_sz) m1.2.1
      refine ⟨⟨xo, xs, l1, l2⟩, ⟨o, ?_⟩, up l3, ?_⟩
      · show tsz (sbT [(j.2.2.2.2.2.1, hdI j.2.2.2.2.1)] y.1.2.2.1.2.2.2) ≤ 1000000
        omega
      · refine tOn_sb (fun p hp => ?_) (E.2.1.2.2.1 (j.2.2.2.2.1.1, j.2.2.2.2.2.1, y.1.2.2.1.2.2.2) (List.mem_of_getElem? em))
        rw [List.mem_singleton.mp hp]
        exact hdI_H (fun k w z z' => absurd z' z)
    refine ⟨⟨E.1, fun q hq => ?_⟩, fun y hy => (at1 y hy).2.2⟩
    obtain ⟨y, hy, ey⟩ := List.mem_map.mp hq
    obtain ⟨a1, a2, _⟩ := at1 y hy
    rw [← ey]
    exact ⟨a1, a2⟩
  exact ⟨⟨fun w => (P2 w).1, fun w => (P6 w).1⟩, fun w => (P2 w).2, fun w => (P6 w).2⟩
end LFJ
