set_option maxRecDepth 100000
/-! BETWEEN FINDERS: the start, behind the third rule -/
/-- all scopes with what is given in them -/
def ssA (h : om_H) (il : List IX) (fl' : List FX) : List (Nat × List GVs) := il.map (fun x => (fR h 1286 x.2.1.2.1, gvI x.2.2.2.2.1)) ++ fl'.map (fun x => (fR h 1542 x.2.1.2.1, x.2.2.2.2.2.1.2.1))
section LBS
variable {G : om_G} {A : Nat} {S : List Int} {b m : Nat} {N : List (List Int)} {pr tb z0 : Nat} {cs fo : List Nat} {mo : List (List Nat)} {K : KT} {F : FT} {Ms : List FT} {hr : om_H} {σr : tS} {M : Nat} {qs : List dcl} {ps : List PD} {rs : List (Nat × Nat × Nat × Nat)} {h h3 : om_H} {ul fl : List Nat} {τ : tS} {n : Nat} {Sl Gx : Nat → Prop} {cl : List Cp} {il : List IX} {fl' : List FX} {Dk : Nat → Prop} {ds : List Nat}
/-- what is known of a scope: its declaration i and the range of that -/
def scR (N : List (List Int)) (cs : List Nat) (ps : List PD) (rs : List (Nat × Nat × Nat × Nat)) (h : om_H) (ul : List Nat) (Sl : Nat → Prop) (s : Nat × List GVs) (kk i : Nat) : Prop := ∃ (p : PD) (r : Nat × Nat × Nat × Nat), (ps[i]? = some p ∧ p.1 = kk ∧ rs[i]? = some r) ∧ (r.2.2.1 ≤ s.1 ∧ s.1 < r.2.2.2) ∧ (ll h (fR h 166 s.1)).Nodup ∧ (∀ x ∈ ll h (fR h 166 s.1), (r.2.2.1 ≤ x ∧ x < r.2.2.2) ∧ fR h 1358 x = 0) ∧ GVC h N (clF cs) (UU ul []) Sl s.1 s.2
theorem scI (R : RA G A S b m N pr tb z0 cs fo mo K F Ms hr σr M qs ps rs h ul fl τ n) (X : AX G A S b m N pr tb z0 cs fo mo K F Ms hr σr M qs ps rs h ul fl τ n Sl cl il) {f : Nat} {x : IX} (e : il[f]? = some x) : scR N cs ps rs h ul Sl (fR h 1286 x.2.1.2.1, gvI x.2.2.2.2.1) 6 x.1 ∧ (sAt S ps ([], [], [], [], [], 0) x.1).2.2.2.2.2 = f := by
  have I := (X.2.2 f x e).2
  obtain ⟨i1, i2, i3, i4, i5⟩ := I.1
  have K8 := RA_K8 R
  have Tw := I.2.2.1
  have ext := I.2.2.2.2.2.2.2.2.2.1
  refine ⟨⟨x.2.2.1, x.2.2.2.1, ⟨i2, i4, i3⟩, ⟨ext.2.2.2.2.1.2.1, ext.2.2.2.2.1.2.2.1⟩, ext.2.2.2.2.2.1, ext.2.2.2.2.2.2, gvc_in I.2.2.2.1 Tw.2.2.2.1.2.1 (fun c hc => ?_)⟩, i5⟩
  obtain ⟨j, hj, ej⟩ := List.getElem_of_mem hc
  have := (Tw.2.2.2.1.2.2 j c (by rw [List.getElem?_eq_getElem hj, ej])).2.2.1
  omega
theorem scF (Xf : FXs G A S b m N pr tb z0 cs fo mo K F Ms hr σr M qs ps rs h ul fl τ n Sl fl') {f : Nat} {x : FX} (e : fl'[f]? = some x) : scR N cs ps rs h ul Sl (fR h 1542 x.2.1.2.1, x.2.2.2.2.2.1.2.1) 2 x.1 ∧ (sAt S ps ([], [], [], [], [], 0) x.1).2.1.length = f ∧ clF fo f = x.2.1.2.1 := by
  have I := (Xf.2 f x e).2
  obtain ⟨i1, i2, i3, i4, i5, i6⟩ := I.1
  have C := I.2.2.1
  have ext := I.2.2.2.2.2.1
  rw [i6] at C
  refine ⟨⟨x.2.2.1, x.2.2.2.1, ⟨i2, i4, i3⟩, ?_, ?_, ?_, C.2.2.2.1⟩, i5, i6⟩
  · have := ext.2.2.2.2.2.2.2.1
    rw [i6] at this; exact this
  · have := ext.2.2.2.2.2.2.2.2.1
    rw [i6] at this; exact this
  · have := ext.2.2.2.2.2.2.2.2.2
    rw [i6] at this; exact this
/-- different declarations lie apart -/
theorem sc_ap (R : RA G A S b m N pr tb z0 cs fo mo K F Ms hr σr M qs ps rs h ul fl τ n) {s s' : Nat × List GVs} {kk kk' i i' : Nat} (H : scR N cs ps rs h ul Sl s kk i) (H' : scR N cs ps rs h ul Sl s' kk' i') (ne : i ≠ i') : s.1 ≠ s'.1 ∧ ∀ x ∈ ll h (fR h 166 s.1), ∀ x' ∈ ll h (fR h 166 s'.1), x ≠ x' := by
  obtain ⟨p, r, ⟨_, _, a3⟩, b1, _, b3, _⟩ := H
  obtain ⟨p', r', ⟨_, _, a3'⟩, b1', _, b3', _⟩ := H'
  have ap : r.2.2.2 ≤ r'.2.2.1 ∨ r'.2.2.2 ≤ r.2.2.1 := by
    rcases Nat.lt_or_gt_of_ne ne with w | w
    · exact .inl (prR_ap R.2.1.1 a3 a3' w).2
    · exact .inr (prR_ap R.2.1.1 a3' a3 w).2
  refine ⟨by omega, fun x hx x' hx' => ?_⟩
  have := (b3 x hx).1
  have := (b3' x' hx').1
  omega
/-- a scope and its declaration -/
theorem ss_rec (R : RA G A S b m N pr tb z0 cs fo mo K F Ms hr σr M qs ps rs h ul fl τ n) (X : AX G A S b m N pr tb z0 cs fo mo K F Ms hr σr M qs ps rs h ul fl τ n Sl cl il) (Xf : FXs G A S b m N pr tb z0 cs fo mo K F Ms hr σr M qs ps rs h ul fl τ n Sl fl') {s : Nat × List GVs} (hs : s ∈ ssA h il fl') : ∃ kk i, scR N cs ps rs h ul Sl s kk i ∧ ((kk = 6 ∧ ∃ x, il[(sAt S ps ([], [], [], [], [], 0) i).2.2.2.2.2]? = some x ∧ s = (fR h 1286 x.2.1.2.1, gvI x.2.2.2.2.1)) ∨ (kk = 2 ∧ ∃ x, fl'[(sAt S ps ([], [], [], [], [], 0) i).2.1.length]? = some x ∧ s = (fR h 1542 x.2.1.2.1, x.2.2.2.2.2.1.2.1))) := by
  unfold ssA at hs
  rcases List.mem_append.mp hs with w | w
  · obtain ⟨x, x1, x2⟩ := List.mem_map.mp w
    obtain ⟨f, hf, ef⟩ := List.getElem_of_mem x1
    have e : il[f]? = some x := by rw [List.getElem?_eq_getElem hf, ef]
    obtain ⟨c1, c2⟩ := scI R X e
    exact ⟨6, x.1, by rw [← x2]; exact c1, .inl ⟨rfl, x, by rw [c2]; exact e, x2.symm⟩⟩
  · obtain ⟨x, x1, x2⟩ := List.mem_map.mp w
    obtain ⟨f, hf, ef⟩ := List.getElem_of_mem x1
    have e : fl'[f]? = some x := by rw [List.getElem?_eq_getElem hf, ef]
    obtain ⟨c1, c2, _⟩ := scF Xf e
    exact ⟨2, x.1, by rw [← x2]; exact c1, .inr ⟨rfl, x, by rw [c2]; exact e, x2.symm⟩⟩
theorem ss_one (R : RA G A S b m N pr tb z0 cs fo mo K F Ms hr σr M qs ps rs h ul fl τ n) (X : AX G A S b m N pr tb z0 cs fo mo K F Ms hr σr M qs ps rs h ul fl τ n Sl cl il) (Xf : FXs G A S b m N pr tb z0 cs fo mo K F Ms hr σr M qs ps rs h ul fl τ n Sl fl') {s s' : Nat × List GVs} (hs : s ∈ ssA h il fl') (hs' : s' ∈ ssA h il fl') : s = s' ∨ (s.1 ≠ s'.1 ∧ ∀ x ∈ ll h (fR h 166 s.1), ∀ x' ∈ ll h (fR h 166 s'.1), x ≠ x') := by
  obtain ⟨kk, i, H, C⟩ := ss_rec R X Xf hs
  obtain ⟨kk', i', H', C'⟩ := ss_rec R X Xf hs'
  by_cases ne : i = i'
  · refine .inl ?_
    subst ne
    obtain ⟨p, r, ⟨a1, a2, _⟩, _⟩ := H
    obtain ⟨p', r', ⟨a1', a2', _⟩, _⟩ := H'
    have ep : p = p' := Option.some.inj (a1.symm.trans a1')
    rw [ep] at a2
    rcases C with ⟨c1, x, c2, c3⟩ | ⟨c1, x, c2, c3⟩
    · rcases C' with ⟨d1, x', d2, d3⟩ | ⟨d1, x', d2, d3⟩
      · have ex : x = x' := Option.some.inj (c2.symm.trans d2)
        rw [c3, d3, ex]
      · omega
    · rcases C' with ⟨d1, x', d2, d3⟩ | ⟨d1, x', d2, d3⟩
      · omega
      · have ex : x = x' := Option.some.inj (c2.symm.trans d2)
        rw [c3, d3, ex]
  · exact .inr (sc_ap R H H' ne)
theorem ss_nd (R : RA G A S b m N pr tb z0 cs fo mo K F Ms hr σr M qs ps rs h ul fl τ n) (X : AX G A S b m N pr tb z0 cs fo mo K F Ms hr σr M qs ps rs h ul fl τ n Sl cl il) (Xf : FXs G A S b m N pr tb z0 cs fo mo K F Ms hr σr M qs ps rs h ul fl τ n Sl fl') : (ssA h il fl').Nodup := by
  unfold ssA
  refine List.pairwise_append.mpr ⟨List.pairwise_iff_getElem.mpr (fun f f' hf hf' lt => ?_), List.pairwise_iff_getElem.mpr (fun f f' hf hf' lt => ?_), fun s hs s' hs' e => ?_⟩
  · rw [List.length_map] at hf hf'
    rw [List.getElem_map, List.getElem_map]
    obtain ⟨c1, c2⟩ := scI R X (List.getElem?_eq_getElem hf)
    obtain ⟨d1, d2⟩ := scI R X (List.getElem?_eq_getElem hf')
    intro e
    exact (sc_ap R c1 d1 (fun z => by rw [z, d2] at c2; omega)).1 (by rw [e])
  · rw [List.length_map] at hf hf'
    rw [List.getElem_map, List.getElem_map]
    obtain ⟨c1, c2, _⟩ := scF Xf (List.getElem?_eq_getElem hf)
    obtain ⟨d1, d2, _⟩ := scF Xf (List.getElem?_eq_getElem hf')
    intro e
    exact (sc_ap R c1 d1 (fun z => by rw [z, d2] at c2; omega)).1 (by rw [e])
  · obtain ⟨x, x1, x2⟩ := List.mem_map.mp hs
    obtain ⟨y, y1, y2⟩ := List.mem_map.mp hs'
    obtain ⟨f, hf, ef⟩ := List.getElem_of_mem x1
    obtain ⟨f', hf', ef'⟩ := List.getElem_of_mem y1
    obtain ⟨⟨p, r, ⟨a1, a2, a3⟩, b1, _⟩, _⟩ := scI R X (f := f) (x := x) (by rw [List.getElem?_eq_getElem hf, ef])
    obtain ⟨⟨p', r', ⟨a1', a2', a3'⟩, b1', _⟩, _⟩ := scF Xf (f := f') (x := y) (by rw [List.getElem?_eq_getElem hf', ef'])
    have ne : x.1 ≠ y.1 := fun z => by
      rw [z, a1'] at a1
      rw [Option.some.inj a1] at a2'
      omega
    have ap : r.2.2.2 ≤ r'.2.2.1 ∨ r'.2.2.2 ≤ r.2.2.1 := by
      rcases Nat.lt_or_gt_of_ne ne with w | w
      · exact .inl (prR_ap R.2.1.1 a3 a3' w).2
      · exact .inr (prR_ap R.2.1.1 a3' a3 w).2
    rw [x2] at b1
    rw [y2] at b1'
    rw [e] at b1
    omega
/-- THE START -/
theorem bq_start (R : RA G A S b m N pr tb z0 cs fo mo K F Ms hr σr M qs ps rs h ul fl τ n) (X : AX G A S b m N pr tb z0 cs fo mo K F Ms hr σr M qs ps rs h ul fl τ n Sl cl il) (Xf : FXs G A S b m N pr tb z0 cs fo mo K F Ms hr σr M qs ps rs h ul fl τ n Sl fl') (O : TOk cl il) (T : tF pr (fun y => kd h y = 21) (fun y => kd h y = 58) h h3) (ar : ∀ c k, c < K.length → k < 4 → aR h3 (fR h 1238 (clF cs c)) k = (iOf (inS il) c k).elim 0 (ioF il)) (P : PoolC G h tb Sl Dk ds 0) (t128 : fI h 128 tb = 0) (nS : fR h 122 tb ≠ 0 ∧ ¬ Sl (fR h 122 tb)) (hSl : ∀ a, Sl a → a < hz h ∧ kd h a = 42) (hcl : ∀ c, clF cs c < hz h) (hGx : ∀ s ∈ ssA h il fl', ∀ x ∈ ll h (fR h 166 s.1), Gx x) : BQ G h3 N (clF cs) tb ul fl [] Sl Gx (ioF il) (abS cl) (inS il) (ssA h il fl') Dk ds 0 0 ∧ hSg False Sl h h3 ∧ (∀ T a, tyC h N (clF cs) (UU ul []) T a → tyC h3 N (clF cs) (UU ul []) T a) := by
  have T0 := R.2.2.2.1.1.1.1
  have nd := R.2.2.2.1.1.1.2
  have CL := R.2.2.2.1.1.2.2.1
  have HT := tF_hT T
  have k122 := T0.2.1.1.2.1
  have kD : ∀ y, (y = pr ∨ kd h y = 21 ∨ kd h y = 58) → kd h y = 2 ∨ kd h y = 21 ∨ kd h y = 58 := fun y w => by
    rcases w with w | w | w
    · rw [w]; exact .inl CL.1.1
    · exact .inr (.inl w)
    · exact .inr (.inr w)
  have T3 : TB G h3 N (clF cs) tb ul fl [] := TB_hT T0 nd HT (fun y w _ => by
    have := kD y w
    exact ⟨by omega, by omega, by omega, fun e => by rw [e, k122] at this; omega⟩) (fun y w => by
    have := kD y w
    exact ⟨by omega, by omega, fun e => by omega⟩)
  have t3 := TB_3 T0
  have ef : ∀ y, y < hz h → kd h y ≠ 21 → ∀ g, fR h3 g y = fR h g y := fun y hy k g => (T.2 y hy).2.2.1 g (fun z => k z.2)
  have eI : ∀ g, g ≠ 112 → ∀ y, y < hz h → fI h3 g y = fI h g y := fun g hg y hy => (T.2 y hy).2.1 g (fun z => hg z.1)
  have P3 : PoolC G h3 tb Sl Dk ds 0 := PoolC_hT P HT (fun y w _ => by
    have := kD y w
    exact ⟨by omega, fun e => by omega⟩) (eI 140 (by decide) tb t3.2.2) (fun f => ef tb t3.2.2 (by omega) f)
  have XS := tF_hS (Sl := Sl) T (fun y w => by rw [w]; decide) (fun y w => by rw [w]; decide)
  have kp := RA_ty R T (fun y w => w) (fun y w => w)
  have e122 : fR h3 122 tb = fR h 122 tb := ef tb t3.2.2 (by omega) 122
  have eS : ∀ s ∈ ssA h il fl', (fR h3 166 s.1 = fR h 166 s.1 ∧ ll h3 (fR h 166 s.1) = ll h (fR h 166 s.1)) ∧ ∀ x ∈ ll h (fR h 166 s.1), x < hz h ∧ kd h x = 22 ∧ fR h3 1358 x = 0 := fun s hs => by
    obtain ⟨kk, i, ⟨p, r, _, _, _, b3, V⟩, _⟩ := ss_rec R X Xf hs
    refine ⟨⟨ef _ V.1.1 (by rw [V.1.2]; decide) 166, (T.2 _ V.2.1.2.1).2.2.2.2.2.2.1⟩, fun x hx => ?_⟩
    have x22 := GVC_22 V hx
    exact ⟨x22.1, x22.2, by rw [ef x x22.1 (by omega) 1358]; exact (b3 x hx).2⟩
  refine ⟨⟨T3, ⟨by rw [e122]; exact nS.1, by rw [e122]; exact nS.2, fun a ha => ⟨Nat.lt_of_lt_of_le (hSl a ha).1 XS.1, by rw [XS.2.1 _ (hSl a ha).1]; exact (hSl a ha).2⟩, fun c => Nat.lt_of_lt_of_le (hcl c) XS.1⟩, pgc_of R X O T ar, by rw [eI 128 (by decide) tb t3.2.2]; exact t128, P3, fun s hs => ?_, ss_nd R X Xf, fun s hs s' hs' x hx x' hx' => ?_⟩, XS, kp⟩
  · obtain ⟨⟨e1, e2⟩, e3⟩ := eS s hs
    obtain ⟨kk, i, ⟨p, r, _, _, nd', b3, V⟩, _⟩ := ss_rec R X Xf hs
    refine ⟨GVC_hS XS kp V, ⟨by rw [e1, e2]; exact nd', fun x x' hx _ n => ?_, fun x hx => ?_, fun i x g ei _ _ => ?_⟩, fun x hx => ?_⟩
    · rw [e1, e2] at hx
      exact absurd (e3 x hx).2.2 n
    · rw [e1, e2] at hx
      exact .inl (e3 x hx).2.2
    · rw [e1, e2] at ei
      have z := (e3 x (List.mem_of_getElem? ei)).2.2
      exact ⟨.inl z, fun s n => absurd z n⟩
    · rw [e1, e2] at hx
      exact hGx s hs x hx
  · rw [(eS s hs).1.1, (eS s hs).1.2] at hx
    rw [(eS s' hs').1.1, (eS s' hs').1.2] at hx'
    refine ⟨fun e => ?_, fun n => absurd ((eS s hs).2 x hx).2.2 n⟩
    rcases ss_one R X Xf hs hs' with w | w
    · exact w
    · exact absurd e (w.2 x hx x' hx')
end LBS
