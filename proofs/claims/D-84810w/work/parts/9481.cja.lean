set_option maxRecDepth 100000
/-! ALL FUNCTIONS AND INSTS ARE JUDGED: plainly; what waits and what is judged, in the component -/
/-- a job: kind, place, range of objects; (what is given, the type wanted, tree, depth, range of the ex); (inst, its class's name, lines) -/
abbrev JB : Type := Nat × Nat × (Nat × Nat) × (List GVs × Ty × Xt × Nat × Nat × Nat) × (INs × Nat × List (LD × TD))
section LJAP
variable (fn : List (List Nat × List GVs × Ty)) (mt : List (Option (Nat × Nat × Ty))) (ab : List (Option Nat)) (ins : List INs)
def jFE (j : JB) : JE := (fn, mt, ab, ins, j.2.2.2.1.1)
def jIE (j : JB) : JE := (fn, mt, ab, ins, gvI j.2.2.2.2.1)
/-- one job -/
def jj1 (j : JB) (s : JS) : Option ((Nat × Nat) ⊕ (List Et × JS)) := if j.1 = 2 then jb (jb (jd (fn, mt, ab, ins, j.2.2.2.1.1) j.2.2.2.1.2.2.1 [] s) fun a => jw (fn, mt, ab, ins, j.2.2.2.1.1) j.2.2.2.1.2.1 a.1 a.2) fun a => some (.inr ([a.1], a.2)) else if j.1 = 6 then jls (fn, mt, ab, ins, gvI j.2.2.2.2.1) (j.2.2.2.2.2.2.map (fun y => ldT j.2.2.2.2.2.1 j.2.2.2.2.1 y.1)) s else some (.inr ([], s))
/-- one after another -/
def jjs : List JB → JS → Option ((Nat × Nat) ⊕ (List (List Et) × JS))
  | [], s => some (.inr ([], s))
  | j :: l, s => jb (jj1 fn mt ab ins j s) fun a => jb (jjs l a.2) fun b => some (.inr (a.1 :: b.1, b.2))
end LJAP
/-- a function that waits -/
def FjC (G : om_G) (N : List (List Int)) (cl : Nat → Nat) (rest : List (Nat × List Nat)) (ss : List (Nat × List GVs)) (fo mo : Nat → Nat) (E : JE) (H0 : Nat) (Sl0 : Nat → Prop) (h : om_H) (us : List Nat) (j : JB) (f : Nat) : Prop := ((fR h 1542 (fo f), j.2.2.2.1.1) ∈ ss ∧ kd h (fo f) = 33 ∧ fo f < hz h) ∧ (fR h 1530 (fo f) < hz h ∧ kd h (fR h 1530 (fo f)) = 17 ∧ fI h 1188 (fR h 1530 (fo f)) = (j.2.1 : Int)) ∧ XCg id (Ph0 h) G h N cl (UU us rest) Sl0 fo mo j.2.2.2.1.2.2.1 0 j.2.2.2.1.2.2.2.1 0 0 (fR h 1554 (fo f)) j.2.2.2.1.2.2.2.2.1 j.2.2.2.1.2.2.2.2.2 ∧ tyC h N cl (UU us rest) j.2.2.2.1.2.1 (fR h 1550 (fo f)) ∧ (j.2.2.1.1 ≤ j.2.2.2.1.2.2.2.2.1 ∧ j.2.2.2.1.2.2.2.2.2 ≤ j.2.2.1.2 ∧ j.2.2.1.2 ≤ H0) ∧ j.2.2.2.1.2.2.2.1 ≤ 129 ∧ xok E j.2.2.2.1.2.2.1 0 ∧ 2700 + xsz j.2.2.2.1.2.2.1 ≤ 1000000 ∧ xbd j.2.2.2.1.2.2.1 ≤ 40000 ∧ (tyOk E.2.2.2.1 j.2.2.2.1.2.1 ∧ tsz j.2.2.2.1.2.1 ≤ 1000000) ∧ JOk E 2700 ∧ JOk2 E
/-- an inst that waits -/
def IjC (G : om_G) (N : List (List Int)) (cl : Nat → Nat) (rest : List (Nat × List Nat)) (ss : List (Nat × List GVs)) (io fo mo : Nat → Nat) (E : JE) (H0 : Nat) (Sl0 : Nat → Prop) (h : om_H) (us : List Nat) (Sl : Nat → Prop) (j : JB) (i : Nat) : Prop := (fR h 1286 (io i), gvI j.2.2.2.2.1) ∈ ss ∧ InW h N cl (UU us rest) Sl0 (io i) j.2.2.2.2.2.1 j.2.2.2.2.1 (j.2.2.2.2.2.2.map Prod.fst) ∧ fI h 1276 (io i) = (j.2.1 : Int) ∧ (Sl (fR h 1322 (io i)) ∧ ¬ Sl0 (fR h 1322 (io i)) ∧ fR h 1322 (io i) ≠ 0 ∧ ll h (fR h 1322 (io i)) = []) ∧ (j.2.2.1.1 ≤ fR h 1322 (io i) ∧ fR h 1322 (io i) < j.2.2.1.2 ∧ j.2.2.1.2 ≤ H0) ∧ (∀ y ∈ j.2.2.2.2.2.2.map Prod.fst, LnW G N cl rest fo mo E H0 (io i) j.2.2.2.2.2.1 j.2.2.2.2.1 h us Sl0 y ∧ j.2.2.1.1 ≤ y.1 ∧ y.2.2.2.2.2.2 ≤ j.2.2.1.2) ∧ (j.2.2.2.2.2.2.map Prod.fst).Pairwise (fun y y' => y.2.2.2.2.2.2 ≤ y'.1) ∧ j.2.2.2.2.2.2.length ≤ 3000 ∧ tyOk E.2.2.2.1 (hdI j.2.2.2.2.1) ∧ JOk E 2700 ∧ JOk2 E
/-- what waits, in order -/
def JbsC (G : om_G) (N : List (List Int)) (cl : Nat → Nat) (rest : List (Nat × List Nat)) (ss : List (Nat × List GVs)) (io fo mo : Nat → Nat) (fn : List (List Nat × List GVs × Ty)) (mt : List (Option (Nat × Nat × Ty))) (ab : List (Option Nat)) (ins : List INs) (H0 nF nI : Nat) (Sl0 : Nat → Prop) (h : om_H) (us : List Nat) (Sl : Nat → Prop) : List JB → Nat → Nat → Prop
  | [], f, i => f = nF ∧ i = nI
  | j :: l, f, i => (j.1 = 2 → FjC G N cl rest ss fo mo (fn, mt, ab, ins, j.2.2.2.1.1) H0 Sl0 h us j f) ∧ (j.1 = 6 → IjC G N cl rest ss io fo mo (fn, mt, ab, ins, gvI j.2.2.2.2.1) H0 Sl0 h us Sl j i) ∧ JbsC G N cl rest ss io fo mo fn mt ab ins H0 nF nI Sl0 h us Sl l (if j.1 = 2 then f + 1 else f) (if j.1 = 6 then i + 1 else i)
/-- what is judged -/
def JbJ (G : om_G) (N : List (List Int)) (cl : Nat → Nat) (rest : List (Nat × List Nat)) (io fo mo : Nat → Nat) (fn : List (List Nat × List GVs × Ty)) (mt : List (Option (Nat × Nat × Ty))) (ab : List (Option Nat)) (ins : List INs) (lo H0 : Nat) (h : om_H) (us : List Nat) (Dk : Nat → Prop) (ds : List Nat) (dm : Nat) (Sl : Nat → Prop) (j : JB) (f : Nat) (es : List Et) : Prop := (j.1 = 2 → ∃ e, es = [e] ∧ (fo f < hz h ∧ kd h (fo f) = 33) ∧ XCg Prod.fst (PhJ N cl rest io (fn, mt, ab, ins, j.2.2.2.1.1) lo H0 Sl h us Dk ds dm) G h N cl (UU us rest) Sl fo mo e 0 j.2.2.2.1.2.2.2.1 0 0 (fR h 1554 (fo f)) j.2.2.2.1.2.2.2.2.1 j.2.2.2.1.2.2.2.2.2) ∧ (j.1 = 6 → es.length = j.2.2.2.2.2.2.length ∧ ∀ (k : Nat) (y : LD) (e : Et), (j.2.2.2.2.2.2.map Prod.fst)[k]? = some y → es[k]? = some e → LnJ G N cl rest io fo mo (fn, mt, ab, ins, gvI j.2.2.2.2.1) lo H0 j.2.2.2.2.2.1 j.2.2.2.2.1 h us Dk ds dm Sl y e ∧ y.1 < y.2.2.2.2.2.1 ∧ y.1 < y.2.2.2.2.2.2 ∧ j.2.2.1.1 ≤ y.1 ∧ y.2.2.2.2.2.2 ≤ j.2.2.1.2)
/-- the program's lists -/
def JPr (h : om_H) (tb pr : Nat) (Sl0 : Nat → Prop) (io fo : Nat → Nat) (nI nF : Nat) : Prop := (kd h pr = 2 ∧ pr < hz h ∧ fR h 78 pr = tb) ∧ (Sl0 (fR h 86 pr) ∧ fR h 86 pr < hz h ∧ kd h (fR h 86 pr) = 42 ∧ (ll h (fR h 86 pr)).length = nI ∧ ∀ i, i < nI → (ll h (fR h 86 pr))[i]? = some (io i)) ∧ (Sl0 (fR h 90 pr) ∧ fR h 90 pr < hz h ∧ kd h (fR h 90 pr) = 42 ∧ (ll h (fR h 90 pr)).length = nF ∧ ∀ i, i < nF → (ll h (fR h 90 pr))[i]? = some (fo i))
section LJA
variable {G : om_G} {N : List (List Int)} {cl : Nat → Nat} {tb pr : Nat} {rest : List (Nat × List Nat)} {ss : List (Nat × List GVs)} {Sl Slm Sl0 Sl1 Gx W : Nat → Prop} {io fo mo : Nat → Nat} {ab : List (Option Nat)} {ins : List INs} {fn : List (List Nat × List GVs × Ty)} {mt : List (Option (Nat × Nat × Ty))} {lo H0 nF nI : Nat} {h h1 : om_H} {us fs us1 fs1 : List Nat} {Dk Dk1 : Nat → Prop} {ds ds1 : List Nat} {dm dm1 q z u : Nat}
theorem JPr_hS {g : Prop} (X : hSg g Sl0 h h1) (H : JPr h tb pr Sl0 io fo nI nF) : JPr h1 tb pr Sl0 io fo nI nF := by
  obtain ⟨⟨a1, a2, a3⟩, ⟨b1, b2, b3, b4, b5⟩, ⟨c1, c2, c3, c4, c5⟩⟩ := H
  have sp := X.2.2.1 pr a2 (by rw [a1]; decide)
  refine ⟨⟨by rw [X.2.1 _ a2]; exact a1, Nat.lt_of_lt_of_le a2 X.1, by rw [sp.2 78 (by decide)]; exact a3⟩, ?_, ?_⟩
  · rw [sp.2 86 (by decide), X.2.2.2.2 _ b2 b1, X.2.1 _ b2]
    exact ⟨b1, Nat.lt_of_lt_of_le b2 X.1, b3, b4, b5⟩
  · rw [sp.2 90 (by decide), X.2.2.2.2 _ c2 c1, X.2.1 _ c2]
    exact ⟨c1, Nat.lt_of_lt_of_le c2 X.1, c3, c4, c5⟩
/-- a step of another job leaves what waits -/
theorem FjC_KB {E : JE} {j : JB} {f : Nat} (K : KB N cl tb rest ss Slm Gx W h us fs Dk ds dm h1 us1 fs1 Dk1 ds1 dm1 q z u) (m0 : ∀ a, Sl0 a → Slm a) (nW : ∀ a, j.2.2.1.1 ≤ a → a < j.2.2.1.2 → ¬ W a) (H : FjC G N cl rest ss fo mo E H0 Sl0 h us j f) : FjC G N cl rest ss fo mo E H0 Sl0 h1 us1 j f := by
  obtain ⟨⟨a1, a2, a3⟩, ⟨b1, b2, b3⟩, c, t, r, e⟩ := H
  have K0 := KB_less m0 K
  have X := K0.1
  have sf := X.2.2.1 _ a3 (by rw [a2]; decide)
  have e54 := sf.2 1554 (by decide)
  refine ⟨⟨by rw [sf.2 1542 (by decide)]; exact a1, by rw [X.2.1 _ a3]; exact a2, Nat.lt_of_lt_of_le a3 X.1⟩, ?_, ?_, by rw [sf.2 1550 (by decide)]; exact K0.2.2.2.2.2.2.2.1 _ _ t, r, e⟩
  · rw [sf.2 1530 (by decide), X.2.1 _ b1, (X.2.2.1 _ b1 (by rw [b2]; decide)).1 1188 (by decide)]
    exact ⟨Nat.lt_of_lt_of_le b1 X.1, b2, b3⟩
  · rw [e54]
    exact Ph0_KB K0 (fun _ w => w) (fun a h1 h2 _ => nW a (by omega) (by omega)) (fun w => absurd rfl w) c
theorem IjC_KB {E : JE} {j : JB} {i : Nat} (K : KB N cl tb rest ss Slm Gx W h us fs Dk ds dm h1 us1 fs1 Dk1 ds1 dm1 q z u) (m0 : ∀ a, Sl0 a → Slm a) (m1 : ∀ a, Sl a → Sl1 a) (hL : Sl (fR h 1322 (io i)) → Slm (fR h 1322 (io i)) ∧ fR h 1322 (io i) < hz h) (nW : ∀ a, j.2.2.1.1 ≤ a → a < j.2.2.1.2 → ¬ W a) (H : IjC G N cl rest ss io fo mo E H0 Sl0 h us Sl j i) : IjC G N cl rest ss io fo mo E H0 Sl0 h1 us1 Sl1 j i := by
  obtain ⟨a1, IW, a3, ⟨L1, L2, L3, L4⟩, r, LW, rs⟩ := H
  have K0 := KB_less m0 K
  have X := K0.1
  obtain ⟨o1, o2, o3, o4⟩ := IW.1
  have so := X.2.2.1 _ o2 (by rw [o1]; decide)
  have e1322 := so.2 1322 (by decide)
  obtain ⟨sL, lL⟩ := hL L1
  have eL := K.2.2.2.2.1.2.2.2 _ lL sL
  refine ⟨by rw [so.2 1286 (by decide)]; exact a1, InW_hS X (fun _ w => w) K0.2.2.2.2.2.2.2.1 IW, by rw [so.1 1276 (by decide)]; exact a3, ?_, by rw [e1322]; exact r, fun y hy => ⟨LnW_KB K0 (fun _ w => w) (fun a h1 h2 => nW a (by have := (LW y hy).2.1; omega) (by have := (LW y hy).2.2; omega)) ⟨o4.2.1, o4.2.2.1⟩ (LW y hy).1, (LW y hy).2⟩, rs⟩
  rw [e1322, eL.2.2.2.2.2.2.1]
  exact ⟨m1 _ L1, L2, L3, L4⟩
theorem JbsC_KB {r1 : Nat} (K : KB N cl tb rest ss Slm Gx W h us fs Dk ds dm h1 us1 fs1 Dk1 ds1 dm1 q z u) (m0 : ∀ a, Sl0 a → Slm a) (m1 : ∀ a, Sl a → Sl1 a) (hS' : ∀ a, Sl a → a < hz h ∧ (r1 ≤ a → Slm a)) (hW : ∀ a, W a → a < r1) : ∀ (l : List JB) (f i : Nat), (∀ j ∈ l, r1 ≤ j.2.2.1.1) → JbsC G N cl rest ss io fo mo fn mt ab ins H0 nF nI Sl0 h us Sl l f i → JbsC G N cl rest ss io fo mo fn mt ab ins H0 nF nI Sl0 h1 us1 Sl1 l f i
  | [], _, _, _, H => H
  | j :: l, f, i, hr, H => by
    obtain ⟨h2, h6, ht⟩ := H
    have rj := hr j (by simp)
    have nW : ∀ a, j.2.2.1.1 ≤ a → a < j.2.2.1.2 → ¬ W a := fun a h1 _ w => by have := hW a w; omega
    refine ⟨fun w => FjC_KB K m0 nW (h2 w), fun w => ?_, JbsC_KB K m0 m1 hS' hW l _ _ (fun j' hj' => hr j' (by simp [hj'])) ht⟩
    have r := (h6 w).2.2.2.2.1
    exact IjC_KB K m0 m1 (fun v => ⟨(hS' _ v).2 (by omega), (hS' _ v).1⟩) nW (h6 w)
/-- a step of another job leaves what is judged -/
theorem JbJ_KB {j : JB} {f : Nat} {es : List Et} (P : PoolC G h tb Sl Dk ds dm) (K : KB N cl tb rest ss Slm Gx W h us fs Dk ds dm h1 us1 fs1 Dk1 ds1 dm1 q z u) (mn : ∀ y, neL h Sl y → Slm y) (m0 : ∀ y, Slm y → Sl y) (m1 : ∀ a, Sl a → Sl1 a) (nW : ∀ a, j.2.2.1.1 ≤ a → a < j.2.2.1.2 → ¬ W a) (hj : j.2.2.1.1 ≤ j.2.2.2.1.2.2.2.2.1 ∧ j.2.2.2.1.2.2.2.2.2 ≤ j.2.2.1.2 ∨ j.1 ≠ 2) (hl : lo ≤ ds.length ∧ ∀ y, H0 ≤ y → ¬ W y) (H : JbJ G N cl rest io fo mo fn mt ab ins lo H0 h us Dk ds dm Sl j f es) : JbJ G N cl rest io fo mo fn mt ab ins lo H0 h1 us1 Dk1 ds1 dm1 Sl1 j f es := by
  have Kn : KB N cl tb rest ss (neL h Sl) Gx W h us fs Dk ds dm h1 us1 fs1 Dk1 ds1 dm1 q z u := KB_less mn K
  have Pn : PoolC G h tb (neL h Sl) Dk ds dm := PoolC_less (fun a w => w.1) P
  have mn1 : ∀ a, neL h Sl a → Sl1 a := fun a w => m1 a w.1
  refine ⟨fun w => ?_, fun w => ?_⟩
  · obtain ⟨e, e1, ⟨e2, e3⟩, e4⟩ := H.1 w
    have sf := Kn.1.2.2.1 _ e2 (by rw [e3]; decide)
    refine ⟨e, e1, ⟨Nat.lt_of_lt_of_le e2 Kn.1.1, by rw [Kn.1.2.1 _ e2]; exact e3⟩, ?_⟩
    rw [sf.2 1554 (by decide)]
    have hj' := hj.resolve_right (fun v => v w)
    exact PhJ_KB Pn Kn mn1 (fun a h1 h2 _ => nW a (by omega) (by omega)) hl (fun v => absurd rfl v) (XCg_ne PhJ_ne _ _ _ _ _ _ _ _ (fun v => by omega) e4)
  · refine ⟨(H.2 w).1, fun k y e e1 e2 => ?_⟩
    obtain ⟨⟨x1, x2, x3⟩, y1, y2, y3, y4⟩ := (H.2 w).2 k y e e1 e2
    exact ⟨LnJ_KB Pn Kn mn1 ⟨y1, y2⟩ (fun a h1 h2 => nW a (by omega) (by omega)) hl ⟨XCg_ne PhJ_ne _ _ _ _ _ _ _ _ (fun v => by omega) x1, x2, x3⟩, y1, y2, y3, y4⟩
theorem JbsC_le : ∀ {l : List JB} {f i : Nat}, JbsC G N cl rest ss io fo mo fn mt ab ins H0 nF nI Sl0 h us Sl l f i → f ≤ nF ∧ i ≤ nI
  | [], f, i, H => ⟨Nat.le_of_eq H.1, Nat.le_of_eq H.2⟩
  | j :: l, f, i, H => by
    have := JbsC_le H.2.2
    constructor
    · by_cases w : j.1 = 2
      · rw [if_pos w] at this; omega
      · rw [if_neg w] at this; omega
    · by_cases w : j.1 = 6
      · rw [if_pos w] at this; omega
      · rw [if_neg w] at this; omega
/-- the next function, the next inst -/
theorem JbsC_f : ∀ {l : List JB} {f i : Nat}, JbsC G N cl rest ss io fo mo fn mt ab ins H0 nF nI Sl0 h us Sl l f i → f < nF → ∃ j ∈ l, fI h 1188 (fR h 1530 (fo f)) = (j.2.1 : Int) ∧ kd h (fo f) = 33 ∧ kd h (fR h 1530 (fo f)) = 17
  | [], f, i, H, hf => by have := H.1; omega
  | j :: l, f, i, H, hf => by
    by_cases w : j.1 = 2
    · have x := H.1 w
      exact ⟨j, by simp, x.2.1.2.2, x.1.2.1, x.2.1.2.1⟩
    · have t := H.2.2
      rw [if_neg w] at t
      obtain ⟨j', x1, x2⟩ := JbsC_f t hf
      exact ⟨j', by simp [x1], x2⟩
theorem JbsC_i : ∀ {l : List JB} {f i : Nat}, JbsC G N cl rest ss io fo mo fn mt ab ins H0 nF nI Sl0 h us Sl l f i → i < nI → ∃ j ∈ l, fI h 1276 (io i) = (j.2.1 : Int) ∧ kd h (io i) = 21
  | [], f, i, H, hf => by have := H.2; omega
  | j :: l, f, i, H, hf => by
    by_cases w : j.1 = 6
    · have x := H.2.1 w
      exact ⟨j, by simp, x.2.2.1, x.2.1.1.1⟩
    · have t := H.2.2
      rw [if_neg w] at t
      obtain ⟨j', x1, x2⟩ := JbsC_i t hf
      exact ⟨j', by simp [x1], x2⟩
theorem jp_sz {L k : Nat} (k42 : kd h L = 42) (e : (ll h L).length = k) : P_J2_size G L h = some (k : Int) := by
  unfold P_J2_size
  rw [gd_pos k42, e]
theorem jp_get {L i x : Nat} (k42 : kd h L = 42) (e : (ll h L)[i]? = some x) : P_J2_get G L (i : Int) h = some x := by
  have il := (List.getElem?_eq_some_iff.mp e).1
  unfold P_J2_get
  rw [gd_pos ⟨k42, by omega⟩, show ((i : Int)).toNat = i by omega, e]
/-- the next is a function -/
theorem st_f (H : JPr h tb pr Sl0 io fo nI nF) {l : List JB} {f i : Nat} {j : JB} (A : JbsC G N cl rest ss io fo mo fn mt ab ins H0 nF nI Sl0 h us Sl (j :: l) f i) (w : j.1 = 2) (pw : ∀ j' ∈ l, j.2.1 < j'.2.1) : C_1_judge_129s G pr ((f : Int), (i : Int), h) = C_1_judge_212 G pr (f : Int) (i : Int) 1 h := by
  obtain ⟨⟨a1, a2, a3⟩, ⟨b1, b2, b3, b4, b5⟩, ⟨c1, c2, c3, c4, c5⟩⟩ := H
  have t := A.2.2
  rw [if_pos w, if_neg (by omega)] at t
  have le := JbsC_le t
  have x := A.1 w
  unfold C_1_judge_129s
  simp only
  rw [gd_pos ⟨a1, c3⟩, jp_sz c3 c4, Option.bind_some, if_pos (by omega)]
  unfold C_1_judge_151
  rw [gd_pos ⟨a1, b3⟩, jp_sz b3 b4, Option.bind_some]
  by_cases q : i = nI
  · rw [if_pos (by omega)]
  · rw [if_neg (by omega), gd_pos ⟨a1, c3⟩, jp_sz c3 c4, Option.bind_some, if_neg (by omega), gd_pos ⟨a1, c3⟩, jp_get c3 (c5 f (by omega)), Option.bind_some, gd_pos ⟨.inr x.1.2.1, x.1.2.1, x.2.1.2.1, a1, b3⟩, jp_get b3 (b5 i (by omega)), Option.bind_some]
    obtain ⟨j', y1, y2, y3⟩ := JbsC_i t (by omega)
    have := pw j' y1
    rw [gd_pos ⟨.inr y3, y3⟩, y2, x.2.1.2.2, if_neg (by omega)]
/-- the next is an inst -/
theorem st_i (H : JPr h tb pr Sl0 io fo nI nF) {l : List JB} {f i : Nat} {j : JB} (A : JbsC G N cl rest ss io fo mo fn mt ab ins H0 nF nI Sl0 h us Sl (j :: l) f i) (w : j.1 = 6) (pw : ∀ j' ∈ l, j.2.1 < j'.2.1) : C_1_judge_129s G pr ((f : Int), (i : Int), h) = C_1_judge_212 G pr (f : Int) (i : Int) 0 h := by
  obtain ⟨⟨a1, a2, a3⟩, ⟨b1, b2, b3, b4, b5⟩, ⟨c1, c2, c3, c4, c5⟩⟩ := H
  have t := A.2.2
  rw [if_neg (by omega), if_pos w] at t
  have le := JbsC_le t
  have x := A.2.1 w
  have g151 : C_1_judge_151 G pr (f : Int) (i : Int) h = C_1_judge_212 G pr (f : Int) (i : Int) 0 h := by
    unfold C_1_judge_151
    rw [gd_pos ⟨a1, b3⟩, jp_sz b3 b4, Option.bind_some, if_neg (by omega), gd_pos ⟨a1, c3⟩, jp_sz c3 c4, Option.bind_some]
    by_cases q : f = nF
    · rw [if_pos (by omega)]
    · rw [if_neg (by omega), gd_pos ⟨a1, c3⟩, jp_get c3 (c5 f (by omega)), Option.bind_some]
      obtain ⟨j', y1, y2, y3, y4⟩ := JbsC_f t (by omega)
      have := pw j' y1
      rw [gd_pos ⟨.inr y3, y3, y4, a1, b3⟩, jp_get b3 (b5 i (by omega)), Option.bind_some, gd_pos ⟨.inr x.2.1.1.1, x.2.1.1.1⟩, x.2.2.1, y2, if_pos (by omega)]
  unfold C_1_judge_129s
  simp only
  rw [gd_pos ⟨a1, c3⟩, jp_sz c3 c4, Option.bind_some]
  by_cases q : f < nF
  · rw [if_pos (by omega), g151]
  · rw [if_neg (by omega), gd_pos ⟨a1, b3⟩, jp_sz b3 b4, Option.bind_some, if_neg (by omega), g151]
end LJA
