set_option maxRecDepth 100000
/-! THE LIST OF JOBS, declaration by declaration -/
section LJL0
variable {S : List Int} {ps : List PD} {s : PS}
theorem sAt_le {i k : Nat} (hk : i ≤ k) : (sAt S ps s i).2.1.length ≤ (sAt S ps s k).2.1.length ∧ (sAt S ps s i).2.2.2.2.2 ≤ (sAt S ps s k).2.2.2.2.2 := by
  have e : sAt S ps s k = ((ps.take k).drop i).foldl (pst S) (sAt S ps s i) := by
    have t : (ps.take k).take i = ps.take i := by rw [List.take_take, Nat.min_eq_left hk]
    unfold sAt
    rw [← t, ← List.foldl_append, List.take_append_drop]
  obtain ⟨_, ⟨T, e2⟩, _, e4⟩ := psf_gr (S := S) ((ps.take k).drop i) (sAt S ps s i)
  rw [← e] at e2 e4
  exact ⟨by rw [e2, List.length_append]; omega, e4⟩
theorem fn_one {i k : Nat} {p p' : PD} (e : ps[i]? = some p) (h2 : p.1 = 2) (e' : ps[k]? = some p') (h2' : p'.1 = 2) (q : (sAt S ps s i).2.1.length = (sAt S ps s k).2.1.length) : i = k := by
  rcases Nat.lt_trichotomy i k with lt | eq | gt
  · have a := (sAt_le (S := S) (ps := ps) (s := s) (Nat.succ_le_of_lt lt)).1
    rw [sAt_succ e, pst_2 h2] at a
    simp only [List.length_append, List.length_singleton] at a
    omega
  · exact eq
  · have a := (sAt_le (S := S) (ps := ps) (s := s) (Nat.succ_le_of_lt gt)).1
    rw [sAt_succ e', pst_2 h2'] at a
    simp only [List.length_append, List.length_singleton] at a
    omega
theorem in_one {i k : Nat} {p p' : PD} (e : ps[i]? = some p) (h2 : p.1 = 6) (e' : ps[k]? = some p') (h2' : p'.1 = 6) (q : (sAt S ps s i).2.2.2.2.2 = (sAt S ps s k).2.2.2.2.2) : i = k := by
  rcases Nat.lt_trichotomy i k with lt | eq | gt
  · have a := (sAt_le (S := S) (ps := ps) (s := s) (Nat.succ_le_of_lt lt)).2
    rw [sAt_succ e, pst_6 h2] at a
    simp only at a
    omega
  · exact eq
  · have a := (sAt_le (S := S) (ps := ps) (s := s) (Nat.succ_le_of_lt gt)).2
    rw [sAt_succ e', pst_6 h2'] at a
    simp only at a
    omega
end LJL0
/-- how many functions, insts stand ahead of the declaration k -/
def fC (S : List Int) (ps : List PD) (k : Nat) : Nat := (sAt S ps ([], [], [], [], [], 0) k).2.1.length
def iC (S : List Int) (ps : List PD) (k : Nat) : Nat := (sAt S ps ([], [], [], [], [], 0) k).2.2.2.2.2
/-- the declaration k is the job j -/
def DJ (G : om_G) (S : List Int) (N : List (List Int)) (cs fo : List Nat) (mo : List (List Nat)) (ps : List PD) (rs : List (Nat × Nat × Nat × Nat)) (h : om_H) (ul : List Nat) (τ : tS) (n : Nat) (Sl0 Sl : Nat → Prop) (cl : List Cp) (il : List IX) (fl' : List FX) (H0 k : Nat) (j : JB) : Prop := ∃ (p : PD) (r : Nat × Nat × Nat × Nat), (ps[k]? = some p ∧ rs[k]? = some r ∧ (p.1 = 5 ∨ p.1 = 6 ∨ p.1 = 2) ∧ tokk S p.2.1 ≠ 0) ∧ (j.1 = p.1 ∧ j.2.1 = tokq S p.2.1 ∧ j.2.2.1 = (r.2.2.1, r.2.2.2)) ∧ (ga τ 570 k = (j.1 : Int) ∧ k < 700) ∧ (j.1 = 2 → FjC G N (clF cs) [] (ssA h il fl') (clF fo) (moF mo) (fnS fl', mtS cl, abS cl, inS il, j.2.2.2.1.1) H0 Sl0 h ul j (fC S ps k) ∧ FjT τ n (fnS fl', mtS cl, abS cl, inS il, j.2.2.2.1.1) j k (fC S ps k)) ∧ (j.1 = 6 → IjC G N (clF cs) [] (ssA h il fl') (ioF il) (clF fo) (moF mo) (fnS fl', mtS cl, abS cl, inS il, gvI j.2.2.2.2.1) H0 Sl0 h ul Sl j (iC S ps k) ∧ IjT τ n (fnS fl', mtS cl, abS cl, inS il, gvI j.2.2.2.2.1) j k (iC S ps k)) ∧ (∀ y ∈ j.2.2.2.2.2.2, r.1 ≤ y.2.2.2.1 ∧ y.2.2.2.2.1 ≤ r.2.1) ∧ (j.1 = 2 → xnN j.2.2.2.1.2.2.1 ≤ 2 * (r.2.1 - r.1) ∧ xU j.2.2.2.1.2.2.1 + ctP τ r.1 ≤ ctP τ r.2.1) ∧ (j.1 = 6 → (∀ y ∈ j.2.2.2.2.2.2, xnN y.1.2.2.2.1 ≤ 2 * (y.2.2.2.2.1 - y.2.2.2.1) ∧ xU y.1.2.2.2.1 + ctP τ y.2.2.2.1 ≤ ctP τ y.2.2.2.2.1) ∧ (∀ y ∈ j.2.2.2.2.2.2, (y.2.2.2.2.1 ≤ y.2.1 ∧ y.2.1 < r.2.1) ∧ ga τ 538 y.2.1 = 22) ∧ j.2.2.2.2.2.2.Pairwise (fun y y' => y.2.1 < y'.2.2.2.1))
section LJL
variable {G : om_G} {A : Nat} {S : List Int} {b m : Nat} {N : List (List Int)} {pr tb z0 : Nat} {cs fo : List Nat} {mo : List (List Nat)} {K : KT} {F : FT} {Ms : List FT} {hr : om_H} {σr : tS} {M : Nat} {qs : List dcl} {ps : List PD} {rs : List (Nat × Nat × Nat × Nat)} {h : om_H} {ul fl : List Nat} {τ : tS} {n : Nat} {Sl Sl0 : Nat → Prop} {cl : List Cp} {il : List IX} {fl' : List FX} {H0 : Nat}
theorem fC_all (R : RA G A S b m N pr tb z0 cs fo mo K F Ms hr σr M qs ps rs h ul fl τ n) : fC S ps ps.length = F.length := by
  unfold fC
  rw [sAt_all, R.2.2.1.2.2.2.2.1]
  rfl
theorem iC_all (X : AX G A S b m N pr tb z0 cs fo mo K F Ms hr σr M qs ps rs h ul fl τ n Sl0 cl il) : iC S ps ps.length = il.length := by
  unfold iC
  rw [sAt_all, X.2.1]
  rfl
theorem dj_at (hI : intO G) (R : RA G A S b m N pr tb z0 cs fo mo K F Ms hr σr M qs ps rs h ul fl τ n) (X : AX G A S b m N pr tb z0 cs fo mo K F Ms hr σr M qs ps rs h ul fl τ n Sl0 cl il) (Xf : FXs G A S b m N pr tb z0 cs fo mo K F Ms hr σr M qs ps rs h ul fl τ n Sl0 fl') (O : TOk cl il) (Og : ∀ (f : Nat) (x : FX), fl'[f]? = some x → gvOk x.2.2.2.2.2.1.2.1) (hSl : ∀ y, z0 ≤ y → y < hz h → kd h y = 42 → ll h y ≠ [] → Sl0 y) (hHd : ∀ y, HdL hr qs y → ¬ Sl0 y ∧ Sl y) (hH : hz hr ≤ H0) {k : Nat} (hk : k < qs.length) : ∃ j, DJ G S N cs fo mo ps rs h ul τ n Sl0 Sl cl il fl' H0 k j := by
  have lp := R.2.1.2.2.1
  have lr := prR_len R.2.1.1
  have eq : qs[k]? = some qs[k] := List.getElem?_eq_getElem hk
  have ep : ps[k]? = some (ps[k]'(by omega)) := List.getElem?_eq_getElem _
  have er : rs[k]? = some (rs[k]'(by omega)) := List.getElem?_eq_getElem _
  generalize qs[k] = q at eq
  generalize ps[k]'(by omega) = p at ep
  generalize rs[k]'(by omega) = r at er
  obtain ⟨⟨q1, q2, q3⟩, a0, amid, ar, D⟩ := prC_at R.1.1 R.1.2.1 R.2.1.2.1 (Nat.le_refl _) LS_nil eq ep
  have dt := R.2.1.2.2.2.2 k p ep
  have g570 : ga τ 570 k = (p.1 : Int) := by rw [R.2.2.2.2.2.1.2.2.2.2.2 570 (by decide)]; exact dt.2.1
  have mono := sAt_le (S := S) (ps := ps) (s := ([], [], [], [], [], 0)) (i := k + 1) (k := ps.length) (by omega)
  rw [sAt_succ ep] at mono
  have eF := fC_all R
  have eI := iC_all X
  unfold fC at eF
  unfold iC at eI
  rw [eF, eI] at mono
  have n52 : ¬ (5 : Nat) = 2 := by decide
  have n56 : ¬ (5 : Nat) = 6 := by decide
  rcases D with ⟨p5, _⟩ | ⟨p6, _⟩ | ⟨p2, _⟩
  · exact ⟨(5, tokq S p.2.1, (r.2.2.1, r.2.2.2), ([], .leaf, .leaf, 0, 0, 0), ((0, 0, [], [], .leaf), 0, [])), p, r, ⟨ep, er, .inl p5, by omega⟩, ⟨p5.symm, rfl, rfl⟩, ⟨by rw [g570, p5], dt.1.1⟩, fun w => absurd w n52, fun w => absurd w n56, fun y hy => absurd hy List.not_mem_nil, fun w => absurd w n52, fun w => absurd w n56⟩
  · rw [pst_6 p6] at mono
    have lt : iC S ps k < il.length := by unfold iC; simp only at mono; omega
    have ex : il[iC S ps k]? = some il[iC S ps k] := List.getElem?_eq_getElem lt
    generalize il[iC S ps k] = x at ex
    have I := (X.2.2 _ x ex).2
    obtain ⟨i1, i2, i3, i4, i5⟩ := I.1
    have exk : x.1 = k := in_one i2 i4 ep p6 i5
    obtain ⟨j, j1, j2, j3, jC, jT, jn, js⟩ := ij_at hI R X Xf O hSl hHd hH ex
    rw [exk] at i2 i3 jT
    have px : x.2.2.1 = p := Option.some.inj (i2.symm.trans ep)
    have rx : x.2.2.2.1 = r := Option.some.inj (i3.symm.trans er)
    rw [px] at j2
    rw [rx] at j3 jn js
    exact ⟨j, p, r, ⟨ep, er, .inr (.inl p6), by omega⟩, ⟨j1.trans p6.symm, j2, j3⟩, ⟨by rw [g570, p6, j1], dt.1.1⟩, fun w => absurd (j1.symm.trans w) (by decide), fun _ => ⟨jC, jT⟩, jn, fun w => absurd (j1.symm.trans w) (by decide), fun _ => js⟩
  · rw [pst_2 p2] at mono
    have lt : fC S ps k < fl'.length := by
      rw [Xf.1]
      unfold fC
      simp only [List.length_append, List.length_singleton] at mono
      omega
    have ex : fl'[fC S ps k]? = some fl'[fC S ps k] := List.getElem?_eq_getElem lt
    generalize fl'[fC S ps k] = x at ex
    have I := (Xf.2 _ x ex).2
    obtain ⟨i1, i2, i3, i4, i5, i6⟩ := I.1
    have exk : x.1 = k := fn_one i2 i4 ep p2 i5
    obtain ⟨j, j1, j2, j3, jC, jT, jn, js⟩ := fj_at hI R X Xf O Og hSl hH ex
    rw [exk] at i2 i3 jT
    have px : x.2.2.1 = p := Option.some.inj (i2.symm.trans ep)
    have rx : x.2.2.2.1 = r := Option.some.inj (i3.symm.trans er)
    rw [px] at j2
    rw [rx] at j3 jn js
    exact ⟨j, p, r, ⟨ep, er, .inr (.inr p2), by omega⟩, ⟨j1.trans p2.symm, j2, j3⟩, ⟨by rw [g570, p2, j1], dt.1.1⟩, fun _ => ⟨jC, jT⟩, fun w => absurd (j1.symm.trans w) (by decide), jn, fun _ => js, fun w => absurd (j1.symm.trans w) (by decide)⟩
/-- what waits, in both -/
theorem jbs_of (R : RA G A S b m N pr tb z0 cs fo mo K F Ms hr σr M qs ps rs h ul fl τ n) (X : AX G A S b m N pr tb z0 cs fo mo K F Ms hr σr M qs ps rs h ul fl τ n Sl0 cl il) : ∀ (l : List JB) (k : Nat), k + l.length = ps.length → (∀ i j, l[i]? = some j → DJ G S N cs fo mo ps rs h ul τ n Sl0 Sl cl il fl' H0 (k + i) j) → JbsC G N (clF cs) [] (ssA h il fl') (ioF il) (clF fo) (moF mo) (fnS fl') (mtS cl) (abS cl) (inS il) H0 F.length il.length Sl0 h ul Sl l (fC S ps k) (iC S ps k) ∧ JbsT (fnS fl') (mtS cl) (abS cl) (inS il) τ n l k (fC S ps k) (iC S ps k)
  | [], k, e, _ => by
    have ek : k = ps.length := by simpa using e
    rw [ek, fC_all R, iC_all X]
    exact ⟨⟨rfl, rfl⟩, trivial⟩
  | j :: l, k, e, H => by
    obtain ⟨p, r, ⟨ep, er, pk, _⟩, ⟨j1, _⟩, g, a, b', _⟩ := H 0 j rfl
    rw [Nat.add_zero] at ep g a b'
    have t := jbs_of R X l (k + 1) (by rw [List.length_cons] at e; omega) (fun i j' e' => by
      have := H (i + 1) j' e'
      rw [show k + (i + 1) = k + 1 + i by omega] at this
      exact this)
    have cf : fC S ps (k + 1) = if j.1 = 2 then fC S ps k + 1 else fC S ps k := by
      unfold fC
      rw [sAt_succ ep, j1]
      rcases pk with w | w | w
      · rw [if_neg (show ¬ p.1 = 2 by omega), pst_5 w]
      · rw [if_neg (show ¬ p.1 = 2 by omega), pst_6 w]
      · rw [if_pos w, pst_2 w]
        simp only [List.length_append, List.length_singleton]
    have ci : iC S ps (k + 1) = if j.1 = 6 then iC S ps k + 1 else iC S ps k := by
      unfold iC
      rw [sAt_succ ep, j1]
      rcases pk with w | w | w
      · rw [if_neg (show ¬ p.1 = 6 by omega), pst_5 w]
      · rw [if_pos w, pst_6 w]
      · rw [if_neg (show ¬ p.1 = 6 by omega), pst_2 w]
    rw [cf, ci] at t
    exact ⟨⟨fun w => (a w).1, fun w => (b' w).1, t.1⟩, ⟨g, fun w => (a w).2, fun w => (b' w).2, t.2⟩⟩
/-- declarations' first tokens ascend -/
theorem RA_asc (R : RA G A S b m N pr tb z0 cs fo mo K F Ms hr σr M qs ps rs h ul fl τ n) {i i' : Nat} {p p' : PD} (e : ps[i]? = some p) (e' : ps[i']? = some p') (lt : i < i') : p.2.1 < p'.2.1 := by
  have lp := R.2.1.2.2.1
  have l1 := (List.getElem?_eq_some_iff.mp e).1
  have l2 := (List.getElem?_eq_some_iff.mp e').1
  have q1 := (prC_at R.1.1 R.1.2.1 R.2.1.2.1 (Nat.le_refl _) LS_nil (List.getElem?_eq_getElem (show i < qs.length by omega)) e).1.2.1
  have q2 := (prC_at R.1.1 R.1.2.1 R.2.1.2.1 (Nat.le_refl _) LS_nil (List.getElem?_eq_getElem (show i' < qs.length by omega)) e').1.2.1
  rw [← q1, ← q2]
  exact List.pairwise_iff_getElem.mp R.2.1.2.2.2.1.2 i i' (by omega) (by omega) lt
/-- the jobs lie apart and in order -/
theorem jbs_pw (R : RA G A S b m N pr tb z0 cs fo mo K F Ms hr σr M qs ps rs h ul fl τ n) (hH : hz hr ≤ H0) {l : List JB} (ll' : l.length = ps.length) (H : ∀ i j, l[i]? = some j → DJ G S N cs fo mo ps rs h ul τ n Sl0 Sl cl il fl' H0 i j) : l.Pairwise (fun j j' => j.2.1 < j'.2.1) ∧ l.Pairwise (fun j j' => j.2.2.1.2 ≤ j'.2.2.1.1) ∧ (∀ j ∈ l, z0 ≤ j.2.2.1.1 ∧ j.2.2.1.2 ≤ H0) ∧ l.Pairwise (fun j j' => ∀ k, WTj j k → ¬ WTj j' k) := by
  refine ⟨?_, ?_, fun j hj => ?_, ?_⟩
  · refine List.pairwise_iff_getElem.mpr (fun k k' hk hk' lt => ?_)
    obtain ⟨p, r, ⟨ep, er, pk, tk⟩, ⟨j1, j2, j3⟩, _⟩ := H k _ (List.getElem?_eq_getElem hk)
    obtain ⟨p', r', ⟨ep', er', pk', tk'⟩, ⟨j1', j2', j3'⟩, _⟩ := H k' _ (List.getElem?_eq_getElem hk')
    rw [j2, j2']
    exact tokq_lt tk (RA_asc R ep ep' lt)
  · refine List.pairwise_iff_getElem.mpr (fun k k' hk hk' lt => ?_)
    obtain ⟨p, r, ⟨ep, er, pk, tk⟩, ⟨j1, j2, j3⟩, _⟩ := H k _ (List.getElem?_eq_getElem hk)
    obtain ⟨p', r', ⟨ep', er', pk', tk'⟩, ⟨j1', j2', j3'⟩, _⟩ := H k' _ (List.getElem?_eq_getElem hk')
    rw [j3, j3']
    exact (prR_ap R.2.1.1 er er' lt).2
  · obtain ⟨k, hk, ek⟩ := List.getElem_of_mem hj
    obtain ⟨p, r, ⟨ep, er, pk, tk⟩, ⟨j1, j2, j3⟩, _⟩ := H k j (by rw [List.getElem?_eq_getElem hk, ek])
    have lp := R.2.1.2.2.1
    have eq : qs[k]? = some (qs[k]'(by omega)) := List.getElem?_eq_getElem _
    have rg := (prR_at R.2.1.1 eq er).1
    rw [j3]
    exact ⟨rg.2.2.2.1, by show r.2.2.2 ≤ H0; omega⟩
  · refine List.pairwise_iff_getElem.mpr (fun k k' hk hk' lt => ?_)
    obtain ⟨p, r, ⟨ep, er, pk, tk⟩, _, _, _, _, jn, _⟩ := H k _ (List.getElem?_eq_getElem hk)
    obtain ⟨p', r', ⟨ep', er', pk', tk'⟩, _, _, _, _, jn', _⟩ := H k' _ (List.getElem?_eq_getElem hk')
    have ap := (prR_ap R.2.1.1 er er' lt).1
    intro i w w'
    obtain ⟨_, y, hy, y1, y2⟩ := w
    obtain ⟨_, y', hy', y1', y2'⟩ := w'
    have := jn y hy
    have := jn' y' hy'
    omega
/-- insts are not written while jobs are done -/
theorem jbs_nw (R : RA G A S b m N pr tb z0 cs fo mo K F Ms hr σr M qs ps rs h ul fl τ n) (X : AX G A S b m N pr tb z0 cs fo mo K F Ms hr σr M qs ps rs h ul fl τ n Sl0 cl il) {l : List JB} (H : ∀ i j, l[i]? = some j → DJ G S N cs fo mo ps rs h ul τ n Sl0 Sl cl il fl' H0 i j) {f : Nat} {x : IX} (e : il[f]? = some x) : ¬ WJb l x.2.1.2.1 := by
  rintro ⟨j, hj, ⟨w1, w2⟩, w3⟩
  obtain ⟨k, hk, ek⟩ := List.getElem_of_mem hj
  obtain ⟨p, r, ⟨ep, er, pk, tk⟩, ⟨j1, j2, j3⟩, _, a2, a6, _⟩ := H k j (by rw [List.getElem?_eq_getElem hk, ek])
  have I := (X.2.2 f x e).2
  obtain ⟨i1, i2, i3, i4, i5⟩ := I.1
  have ext := I.2.2.2.2.2.2.2.2.2.1.2.2.2.2.1.2.2.2
  rw [j3] at w1 w2
  have w1' : r.2.2.1 ≤ x.2.1.2.1 := w1
  have w2' : x.2.1.2.1 < r.2.2.2 := w2
  rcases Nat.lt_trichotomy x.1 k with lt | eq | gt
  · have := (prR_ap R.2.1.1 i3 er lt).2
    have := ext.1.2
    omega
  · rw [eq] at i2
    have px : x.2.2.1 = p := Option.some.inj (i2.symm.trans ep)
    rw [px] at i4
    have j6 : j.1 = 6 := j1.trans i4
    rcases w3 with ⟨v, _⟩ | ⟨_, y, y1, y2, y3⟩
    · omega
    · have IW := (a6 j6).1.2.1
      have ei : iC S ps k = f := by unfold iC; rw [← eq]; exact i5
      rw [ei, ioF_at e] at IW
      have := ext.2 y.1 (by rw [IW.2.2.1.2.2.2]; exact List.mem_map.mpr ⟨y, y1, rfl⟩)
      omega
  · have := (prR_ap R.2.1.1 er i3 gt).2
    have := ext.1.1
    omega
end LJL
