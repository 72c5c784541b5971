set_option maxRecDepth 100000
/-! THE PROGRAM AS PLAIN DATA: classes -/
/-- a class: its name, its name of a type, the one above, its family, its methods with their types -/
abbrev Cp : Type := Nat × Nat × Option Nat × Option Nat × List (Nat × Ty)
/-- a line: the method's name, its place, its ex -/
abbrev Lp : Type := Nat × Nat × Xt
/-- an inst: its row; the place of its class's word, its own place; its family's name; its lines -/
abbrev Ip : Type := INs × Nat × Nat × Option Nat × List Lp
/-- a function: its name, its row, its ex, its place -/
abbrev Fp : Type := Nat × (List Nat × List GVs × Ty) × Xt × Nat
abbrev Pp : Type := List Cp × List Ip × List Fp
def ClT (σ : tS) (n c : Nat) (x : Cp) : Prop := (ga σ 662 c = (x.1 : Int) ∧ x.1 < 2100) ∧ (ga σ 666 c = (x.2.1 : Int) ∧ x.2.1 < 2100) ∧ (ga σ 670 c = oI x.2.2.1 ∧ ∀ a ∈ x.2.2.1, a < c) ∧ (ga σ 674 c = oI x.2.2.2.1 ∧ ∀ w ∈ x.2.2.2.1, w < 2100) ∧ (ga σ 678 c = (x.2.2.2.2.length : Int) ∧ x.2.2.2.2.length ≤ 4) ∧ ∀ (k : Nat) (y : Nat × Ty), x.2.2.2.2[k]? = some y → ga σ 682 (4 * c + k) = (y.1 : Int) ∧ y.1 < 2100 ∧ tyT σ n y.2 (ga σ 686 (4 * c + k))
def ClCo (h : om_H) (N : List (List Int)) (cl : Nat → Nat) (U Sl : Nat → Prop) (mo : Nat → Nat) (c : Nat) (x : Cp) : Prop := clO h cl c ∧ wN h N x.1 (fR h 1206 (cl c)) ∧ (Sl (fR h 1234 (cl c)) ∧ WNs h N (fR h 1234 (cl c)) [x.2.1]) ∧ fR h 1226 (cl c) = x.2.2.1.elim 0 cl ∧ ((x.2.2.2.1 = none ∧ fR h 1214 (cl c) = 0) ∨ ∃ w, x.2.2.2.1 = some w ∧ fR h 1214 (cl c) ≠ 0 ∧ wN h N w (fR h 1214 (cl c))) ∧ (Sl (fR h 1230 (cl c)) ∧ fR h 1230 (cl c) < hz h ∧ kd h (fR h 1230 (cl c)) = 42 ∧ (ll h (fR h 1230 (cl c))).length = x.2.2.2.2.length) ∧ (fR h 1238 (cl c) < hz h ∧ kd h (fR h 1238 (cl c)) = 58 ∧ an h (fR h 1238 (cl c)) = 4) ∧ ∀ (k : Nat) (y : Nat × Ty), x.2.2.2.2[k]? = some y → (ll h (fR h 1230 (cl c)))[k]? = some (mo (4 * c + k)) ∧ (mo (4 * c + k) ≠ 0 ∧ mo (4 * c + k) < hz h ∧ kd h (mo (4 * c + k)) = 19) ∧ wN h N y.1 (fR h 1242 (mo (4 * c + k))) ∧ fR h 1250 (mo (4 * c + k)) = cl c ∧ fI h 1252 (mo (4 * c + k)) = (k : Int) ∧ tyC h N cl U y.2 (fR h 1262 (mo (4 * c + k)))
/-- what came of resolve, without a break -/
def RA (G : om_G) (A : Nat) (S : List Int) (b m : Nat) (N : List (List Int)) (pr tb z0 : Nat) (cs fo : List Nat) (mo : List (List Nat)) (K : KT) (F : FT) (Ms : List FT) (hr : om_H) (σr : tS) (M : Nat) (qs : List dcl) (ps : List PD) (rs : List (Nat × Nat × Nat × Nat)) (h : om_H) (ul fl : List Nat) (τ : tS) (n : Nat) : Prop := (txC hr A S ∧ A < hz hr ∧ 0 < z0 ∧ M ≤ 2700 ∧ m ≤ 1300 ∧ bp τ = 2147483647 ∧ S.length ≤ 2000 ∧ (∀ k ∈ [82, 86, 90], kd h (fR h k pr) = 42 ∧ fR h k pr < hz h ∧ ll h (fR h k pr) = prgL hr qs (fun _ => []) k) ∧ gs τ 644 = ((min 8 (pss S ps).1.length : Nat) : Int) ∧ gs τ 648 = ((min 20 (pss S ps).2.2.2.2.2 : Nat) : Int) ∧ gs τ 652 = (cntS F F.length : Int) ∧ pr < z0) ∧ (prR G A S b hr σr M (hz hr) 0 qs rs (fun _ => []) 0 z0 ∧ prC A S hr qs ps (fun _ => []) z0 (hz hr) ∧ ps.length = qs.length ∧ (qs.length ≤ 650 ∧ qs.Pairwise (fun q q' => q.2.2 < q'.2.2)) ∧ ∀ (i : Nat) (p : PD), ps[i]? = some p → dTw S b m σr i p) ∧ (cs = prgL hr qs (fun _ => []) 82 ∧ fo = prgL hr qs (fun _ => []) 90 ∧ mo = cs.map (fun c => ll hr (fR hr 1230 c)) ∧ K = (pss S ps).1 ∧ F = (pss S ps).2.1 ∧ Ms = (pss S ps).2.2.1) ∧ RX G A S N cs K pr tb [] fo F mo Ms h ul fl ∧ (hs z0 (hz hr) hr h ∧ hz hr ≤ hz h ∧ ∀ y, ink 5 y qs rs → an h y = an hr y ∧ ∀ k, aR h y k = aR hr y k) ∧ (TU S b m N K F Ms τ n ∧ rwT S N τ 0 ps ([], [], [], [], [], 0) ∧ TM τ N F Ms ∧ (∀ g ∈ PA, g ≠ 550 → ∀ i, ga τ g i = ga σr g i) ∧ fr RFS RFA σr τ) ∧ psA S ([], [], [], [], [], 0) ps = [] ∧ clT S N cs [] hr h ul τ n qs ps ([], [], [], [], [], 0) ∧ inT G A S b N cs K [] fo F mo Ms hr h ul τ n (hz hr) qs ps rs 0 ([], [], [], [], [], 0) ∧ fnT G A S b N cs K [] fo F mo Ms hr h ul τ n (hz hr) qs ps rs 0 ([], [], [], [], [], 0)
/-- rows of heads: they are filled when lines are judged -/
def HdL (hr : om_H) (qs : List dcl) (y : Nat) : Prop := ∃ q ∈ qs, q.1 = 6 ∧ y = fR hr 1322 q.2.1
def moF (mo : List (List Nat)) (i : Nat) : Nat := moA mo (some (i / 4, i % 4))
theorem tk_w {h : om_H} {A : Nat} {S : List Int} {b m : Nat} {N : List (List Int)} {σ : tS} (T : TT σ N S b m) (X : txC h A S ∧ A < hz h) (TMw : ∀ (w : Nat) (L : List Int), N[w]? = some L → w < 2100) {j wo : Nat} (tk : tokk S j = 2 ∨ tokk S j = 3) (lw : wo < hz h) (W : wd h A S wo j) : ∃ w, wN h N w wo ∧ ga σ 482 (b + j) = (w : Int) ∧ N[w]? = some (tokw S j) ∧ b + j < 4100 ∧ w < 2100 := by
  have jm := TT_lt T (j := j) (by omega)
  have t := T.1 j (by omega)
  have bm := T.2.1
  have mem := t.2.2.2.2 tk
  have lt : N.idxOf (tokw S j) < N.length := List.idxOf_lt_length_iff.mpr mem
  have g : N[N.idxOf (tokw S j)]? = some (tokw S j) := by rw [List.getElem?_eq_getElem lt, List.getElem_idxOf lt]
  refine ⟨N.idxOf (tokw S j), ⟨⟨lw, by rw [W.2.1]; exact X.2⟩, tokw S j, g, wd_wb X.1 W⟩, ?_, g, by omega, TMw _ _ g⟩
  rw [t.2.2.2.1]
  unfold tVal
  rw [if_pos tk]
theorem mthB_nil {S : List Int} {st : Prop} [Decidable st] (h : st) : ∀ {js : List Nat} {tn : List (List Int)} {k : Nat}, mthB S tn k js = [] → mthF S st tn k js = js.map (fun j => some (tokw S j)) ∧ (k ≤ 4 → k + js.length ≤ 4)
  | [], tn, k, _ => ⟨rfl, fun h => by simp; exact h⟩
  | j :: js, tn, k, e => by
    obtain ⟨e1, e2⟩ := List.append_eq_nil_iff.mp e
    have c : btI (tokw S j) = none ∧ tokw S j ∉ tn ∧ k < 4 := Classical.byContradiction (fun w => by rw [if_neg w] at e1; cases e1)
    obtain ⟨g1, g2⟩ := mthB_nil h (js := js) e2
    refine ⟨?_, fun _ => ?_⟩
    · show (if st ∧ btI (tokw S j) = none ∧ tokw S j ∉ tn ∧ k < 4 then some (tokw S j) else none) :: mthF S st (tn ++ [tokw S j]) (k + 1) js = _
      rw [if_pos ⟨h, c⟩, g1]
      rfl
    · have := g2 (by omega)
      rw [List.length_cons]
      omega
theorem cntS_id {F : FT} (H : ∀ x ∈ F, x.isSome = true) {i : Nat} (hi : i ≤ F.length) : cntS F i = i := by
  unfold cntS
  rw [List.filter_eq_self.mpr (fun x hx => H x (List.mem_of_mem_take hx)), List.length_take]
  omega
theorem ps_len {S : List Int} : ∀ (ps : List PD) (s : PS), s.1.length = s.2.2.1.length → (ps.foldl (pst S) s).1.length = (ps.foldl (pst S) s).2.2.1.length
  | [], s, h => h
  | p :: ps, s, h => by
    refine ps_len ps (pst S s p) ?_
    by_cases h5 : p.1 = 5
    · rw [pst_5 h5]
      simp only [List.length_append, List.length_singleton]
      omega
    · by_cases h6 : p.1 = 6
      · rw [pst_6 h6]; exact h
      · unfold pst
        rw [if_neg h5, if_neg h6]
        exact h
theorem mC_g2 {A : Nat} {S : List Int} {h : om_H} {a0 amid c : Nat} : ∀ {k : Nat} {xs js : List Nat} {i x j : Nat}, mC A S h a0 amid c k xs js → xs[i]? = some x → js[i]? = some j → (a0 ≤ x ∧ x < amid) ∧ kd h x = 19 ∧ wR A S h a0 amid (fR h 1242 x) j ∧ fR h 1250 x = c ∧ fI h 1252 x = ((k + i : Nat) : Int)
  | _, [], [], _, _, _, _, e, _ => by cases e
  | _, [], _ :: _, _, _, _, m, _, _ => m.elim
  | _, _ :: _, [], _, _, _, m, _, _ => m.elim
  | _, x :: xs, j :: js, 0, y, i, m, e1, e2 => by
    rw [← Option.some.inj e1, ← Option.some.inj e2]
    exact m.1
  | k, x :: xs, j :: js, i + 1, y, l, m, e1, e2 => by
    have := mC_g2 (i := i) m.2 e1 e2
    rw [show k + 1 + i = k + (i + 1) by omega] at this
    exact this
theorem ink_at {kk y : Nat} : ∀ {i : Nat} {qs : List dcl} {rs : List (Nat × Nat × Nat × Nat)} {q : dcl} {r : Nat × Nat × Nat × Nat}, qs[i]? = some q → rs[i]? = some r → q.1 = kk → r.2.2.1 ≤ y → y < r.2.2.2 → ink kk y qs rs
  | _, [], _, _, _, e, _, _, _, _ => by cases e
  | _, _ :: _, [], _, _, _, e, _, _, _ => by cases e
  | 0, q' :: qs, r' :: rs, q, r, e1, e2, h1, h2, h3 => by
    rw [← Option.some.inj e1] at h1
    rw [← Option.some.inj e2] at h2 h3
    exact .inl ⟨h1, h2, h3⟩
  | i + 1, q' :: qs, r' :: rs, q, r, e1, e2, h1, h2, h3 => .inr (ink_at (i := i) e1 e2 h1 h2 h3)
section LP0
variable {G : om_G} {A : Nat} {S : List Int} {b m : Nat} {N : List (List Int)} {pr tb z0 : Nat} {cs fo : List Nat} {mo : List (List Nat)} {K : KT} {F : FT} {Ms : List FT} {hr : om_H} {σr : tS} {M : Nat} {qs : List dcl} {ps : List PD} {rs : List (Nat × Nat × Nat × Nat)} {h : om_H} {ul fl : List Nat} {τ : tS} {n : Nat} {Sl : Nat → Prop}
theorem RA_wd (R : RA G A S b m N pr tb z0 cs fo mo K F Ms hr σr M qs ps rs h ul fl τ n) {w j : Nat} (h1 : z0 ≤ w) (h2 : w < hz hr) (W : wd hr A S w j) : wd h A S w j := by
  obtain ⟨k1, k2, k3, _⟩ := R.2.2.2.2.1.1 w h1 h2
  exact ⟨by rw [k1]; exact W.1, by rw [k3 _ (by decide)]; exact W.2.1, by rw [k2 _ (by decide)]; exact W.2.2.1, by rw [k2 _ (by decide)]; exact W.2.2.2⟩
theorem RA_w (R : RA G A S b m N pr tb z0 cs fo mo K F Ms hr σr M qs ps rs h ul fl τ n) {w j : Nat} (h1 : z0 ≤ w) (h2 : w < hz hr) (tk : tokk S j = 2 ∨ tokk S j = 3) (W : wd hr A S w j) : ∃ x, wN h N x w ∧ ga τ 482 (b + j) = (x : Int) ∧ N[x]? = some (tokw S j) ∧ b + j < 4100 ∧ x < 2100 :=
  tk_w R.2.2.2.2.2.1.1.1.2.1 R.2.2.2.1.1.2.1 (fun w L e => (R.2.2.2.2.2.1.2.2.1 w L e).1) tk (by have := R.2.2.2.2.1.2.1; omega) (RA_wd R h1 h2 W)
theorem RA_nd (R : RA G A S b m N pr tb z0 cs fo mo K F Ms hr σr M qs ps rs h ul fl τ n) : ndN N := R.2.2.2.1.1.1.2
/-- a list of its own: no inst's row of heads -/
theorem RA_nh (R : RA G A S b m N pr tb z0 cs fo mo K F Ms hr σr M qs ps rs h ul fl τ n) {i y : Nat} {q : dcl} {r : Nat × Nat × Nat × Nat} (e1 : qs[i]? = some q) (e2 : rs[i]? = some r) (h1 : r.2.2.1 ≤ y) (h2 : y < r.2.2.2) (h6 : q.1 = 6 → y ≠ fR hr 1322 q.2.1) : ¬ HdL hr qs y := by
  rintro ⟨q', hq, k6, ey⟩
  obtain ⟨i', hi, ei⟩ := List.getElem_of_mem hq
  have r5 := R.2.1.1
  have rl := prR_len r5
  have e3 : qs[i']? = some q' := by rw [List.getElem?_eq_getElem hi, ei]
  have e4 : rs[i']? = some (rs[i']'(by omega)) := List.getElem?_eq_getElem (by omega)
  generalize rs[i']'(by omega) = r' at e4
  obtain ⟨_, _, g3⟩ := prR_at r5 e3 e4
  have rg : r'.2.2.1 ≤ y ∧ y < r'.2.2.2 := by
    rcases g3 with ⟨w, _⟩ | ⟨_, g3⟩ | ⟨w, _⟩
    · omega
    · obtain ⟨so, Lsa, Lg, Lh, Ll, cn, con, fam, fw, j1, jc, jn, m1, m2, g0, g1, g2, am, first, xs, os, ws, lsA, ns, dv, dv', b1, b2, b3, b4, b5, b6, b7, b8, b9, b10⟩ := g3
      have li := lrows_in b7.2.2.1
      rw [b2.1.2.2.2.2.2.2.2.2.1] at ey
      omega
    · omega
  by_cases c : i' = i
  · rw [c, e1] at e3
    have eq := Option.some.inj e3
    rw [← eq] at k6 ey
    exact h6 k6 ey
  · rcases Nat.lt_or_gt_of_ne c with c | c
    · have := prR_ap r5 e4 e2 c
      omega
    · have := prR_ap r5 e2 e4 c
      omega
/-- the declaration of a class -/
theorem RA_cl (R : RA G A S b m N pr tb z0 cs fo mo K F Ms hr σr M qs ps rs h ul fl τ n) {c : Nat} (hc : c < K.length) : ∃ (i : Nat) (q : dcl) (p : PD) (r : Nat × Nat × Nat × Nat) (s : PS), (qs[i]? = some q ∧ ps[i]? = some p ∧ rs[i]? = some r ∧ s = sAt S ps ([], [], [], [], [], 0) i) ∧ (p.1 = 5 ∧ q.1 = 5 ∧ q.2.2 = p.2.1) ∧ (s.1.length = c ∧ c < 8) ∧ cs[c]? = some q.2.1 ∧ (∃ a0 amid, (z0 ≤ a0 ∧ a0 ≤ amid ∧ amid ≤ hz hr) ∧ clsC A S hr a0 amid q.2.1 p (c : Int)) ∧ clsR A S b hr σr r.1 r.2.1 r.2.2.1 r.2.2.2 q.2.1 i p.2.1 (c : Int) ∧ (z0 ≤ r.2.2.1 ∧ r.2.2.2 ≤ hz hr ∧ r.2.1 ≤ M) ∧ (abB S s.1 p.2.2.1 = [] ∧ nwG S s.2.2.2.1 (p.2.1 + 1) ∧ p.2.2.2.1.elim [] (grB S (s.2.2.2.1 ++ [tokw S (p.2.1 + 1)])) = [] ∧ mthB S s.2.2.2.2.1 0 p.2.2.2.2 = []) ∧ (∃ T, K = s.1 ++ T) ∧ cRow S N τ c i (p.2.1 + 1) (p.2.1 + 2) p.2.2.1 p.2.2.2.1 s.1 s.2.2.2.1 (mthF S (nwG S s.2.2.2.1 (p.2.1 + 1)) s.2.2.2.2.1 0 p.2.2.2.2) ∧ fR h 1226 q.2.1 = clA cs (p.2.2.1.elim none (fun a => FI Prod.fst (tokw S a) s.1)) ∧ (∀ k x : Nat, (ll hr (fR hr 1230 q.2.1))[k]? = some x → ∃ T : Ty, (tyM T ∧ ∃ w, N[w]? = some (tokw S (p.2.1 + 2)) ∧ nmIn [w] T) ∧ tyC h N (clF cs) (UU ul []) T (fR h 1262 x) ∧ tyT τ n T (ga τ 686 (4 * c + k))) ∧ K[c]? = some (clsK S s.2.2.2.1 (p.2.1 + 1) p.2.2.2.1) ∧ Ms[c]? = some (p.2.2.2.2.map (fun j => some (tokw S j))) := by
  obtain ⟨⟨r1, r2, r3, r4, r4'⟩, ⟨r5, r6, r7, r8, r8'⟩, ⟨e1, e2, e3, e4, e5, e6⟩, r9, ⟨r10, r11, r12⟩, ⟨r13, r14, r15, r16⟩, r17, r18, r19, r20⟩ := R
  have hc' : c < (ps.foldl (pst S) ([], [], [], [], [], 0)).1.length := by rw [e4] at hc; exact hc
  obtain ⟨i, p, ep, p5, es⟩ := cl_ix hc' (Nat.zero_le _)
  have il := (List.getElem?_eq_some_iff.mp ep).1
  have eq : qs[i]? = some (qs[i]'(by omega)) := List.getElem?_eq_getElem (by omega)
  have rl := prR_len r5
  have er : rs[i]? = some (rs[i]'(by omega)) := List.getElem?_eq_getElem (by omega)
  generalize qs[i]'(by omega) = q at eq
  generalize rs[i]'(by omega) = r at er
  obtain ⟨⟨q1, q2, q3⟩, a0, amid, ar, D⟩ := prC_at r1 r2 r6 (Nat.le_refl _) LS_nil eq ep
  obtain ⟨g1, g2, g3⟩ := prR_at r5 eq er
  have pb := psA_at r17 ep
  have rw' := rwT_at r14 ep
  rw [Nat.zero_add] at g2 g3 rw'
  unfold psB at pb
  rw [if_pos p5] at pb
  have h8 : (sAt S ps ([], [], [], [], [], 0) i).1.length < 8 := Classical.byContradiction (fun w => by rw [if_neg w] at pb; cases pb)
  rw [if_pos h8] at pb
  obtain ⟨pb1, pb2⟩ := List.append_eq_nil_iff.mp pb
  unfold clbB at pb2
  have hn : nwG S (sAt S ps ([], [], [], [], [], 0) i).2.2.2.1 (p.2.1 + 1) := Classical.byContradiction (fun w => by rw [if_neg w] at pb2; cases pb2)
  rw [if_pos hn] at pb2
  obtain ⟨pb2, pb3⟩ := List.append_eq_nil_iff.mp pb2
  have ct := clT_at r18 eq ep p5 h8
  have r4b : bp τ = 2147483647 := r4'.2.1
  have gr := sAt_gr (S := S) (ps := ps) (s := ([], [], [], [], [], 0)) (i + 1)
  rw [sAt_succ ep, pst_5 p5] at gr
  have gr0 := sAt_gr (S := S) (ps := ps) (s := ([], [], [], [], [], 0)) i
  obtain ⟨⟨T1, t1⟩, _, ⟨T3, t3⟩, _⟩ := gr
  have fo1 : (ps.foldl (pst S) ([], [], [], [], [], 0)) = pss S ps := rfl
  rw [fo1] at t1 t3 gr0
  rcases D with ⟨d1, d2, d3⟩ | ⟨d1, _⟩ | ⟨d1, _⟩
  rotate_left
  · omega
  · omega
  have g3' : clsR A S b hr σr r.1 r.2.1 r.2.2.1 r.2.2.2 q.2.1 i p.2.1 ((prgL hr (qs.take i) (fun _ => []) 82).length : Int) := by
    rcases g3 with ⟨_, g3⟩ | ⟨w, _⟩ | ⟨w, _⟩
    · rw [← q2]; exact g3
    · omega
    · omega
  have nb : ((prgL hr (qs.take i) (fun _ => []) 82).length : Int) = (c : Int) := by
    obtain ⟨w1, w2, Lm, Ln, ar', ab, fam, am, ms, ns, a1, _⟩ := id g3'
    have := a1.1.2.2.1
    have h2 := d2.2.1.2.2
    rw [es] at h2
    omega
  rw [nb] at g3'
  refine ⟨i, q, p, r, _, ⟨eq, ep, er, rfl⟩, ⟨p5, by omega, q2⟩, ⟨es, by omega⟩, by rw [e1, ← es]; exact d3, ⟨a0, amid, ar, by rw [← es]; exact d2⟩, g3', ⟨by omega, g1.2.2.2.2.2, g1.2.2.1⟩, ⟨pb1, hn, pb2, pb3⟩, by rw [e4]; exact gr0.1, by rw [← es]; exact rw'.1 p5 h8, ct.1, fun k x e => by obtain ⟨T0, ⟨y0, y1⟩, y2, y3⟩ := ct.2 hn pb3 k x e; rw [es] at y3; exact ⟨T0, ⟨y0, y1 r4b⟩, y2, y3⟩, ?_, ?_⟩
  · rw [e4, t1]
    simp only
    rw [if_pos h8, List.append_assoc, List.getElem?_append_right (by omega), es, Nat.sub_self]
    rfl
  · have l1 : (sAt S ps ([], [], [], [], [], 0) i).2.2.1.length = c := by
      have pl := ps_len (S := S) (ps.take i) ([], [], [], [], [], 0) rfl
      exact pl.symm.trans es
    rw [e6, t3]
    simp only
    rw [if_pos h8, List.append_assoc, List.getElem?_append_right (by omega), l1, Nat.sub_self]
    show some (mthF S _ _ 0 _) = _
    rw [(mthB_nil hn pb3).1]
/-- all methods have names that stand -/
theorem RA_Ms (R : RA G A S b m N pr tb z0 cs fo mo K F Ms hr σr M qs ps rs h ul fl τ n) {c : Nat} {Fm : FT} (e : Ms[c]? = some Fm) : ∀ x ∈ Fm, x.isSome = true := by
  have lc : c < K.length := by
    have l := (List.getElem?_eq_some_iff.mp e).1
    obtain ⟨_, _, ⟨e1, e2, e3, e4, e5, e6⟩, _⟩ := R
    rw [e6] at l
    rw [e4, pss, ps_len ps _ rfl]
    exact l
  obtain ⟨i, q, p, r, s, _, _, _, _, _, _, _, _, _, _, _, _, _, k14⟩ := RA_cl R lc
  rw [k14] at e
  rw [← Option.some.inj e]
  intro x hx
  obtain ⟨j, _, rfl⟩ := List.mem_map.mp hx
  rfl
/-- A CLASS AS PLAIN DATA -/
theorem cl_el (R : RA G A S b m N pr tb z0 cs fo mo K F Ms hr σr M qs ps rs h ul fl τ n) (hSl : ∀ y, z0 ≤ y → y < hz h → kd h y = 42 → ¬ HdL hr qs y → Sl y) {c : Nat} (hc : c < K.length) : ∃ x : Cp, ClT τ n c x ∧ ClCo h N (clF cs) (UU ul []) Sl (moF mo) c x ∧ (∀ y ∈ x.2.2.2.2, tyM y.2) ∧ (∃ L1, N[x.1]? = some L1 ∧ ∃ o, K[c]? = some (some L1, o) ∧ ((x.2.2.2.1 = none ∧ o = none) ∨ ∃ w L2, x.2.2.2.1 = some w ∧ N[w]? = some L2 ∧ o = some L2)) ∧ (∀ k, aR h (fR h 1238 (clF cs c)) k = 0) ∧ ∀ y ∈ x.2.2.2.2, (∃ L, N[y.1]? = some L) ∧ nmIn [x.2.1] y.2 := by
  obtain ⟨i, q, p, r, s, ⟨k1, k2, k3, k4⟩, ⟨k5, k6, k7⟩, ⟨k8, k9⟩, k10, ⟨a0, amid, ⟨a1, a2, a3⟩, C⟩, W, ⟨rg1, rg2, rg3⟩, ⟨b1, b2, b3, b4⟩, ⟨T', k11⟩, cR', k12, k13, k14, k15⟩ := RA_cl R hc
  obtain ⟨w1, w2, Lm, Ln, ar, ab, fam, am, ms, ns, o1, ⟨o2, o3, o4, o5, o6⟩, o7, o8, o9, o10, ⟨o11, o12⟩, _⟩ := W
  obtain ⟨⟨p1, p2, p3, p4, p5, p6⟩, _, ⟨p7, p8, p9⟩, ⟨p10, p11⟩, ⟨p12, p13, p14⟩⟩ := o1
  have hzz := R.2.2.2.2.1.2.1
  have hs0 := R.2.2.2.2.1.1
  have z00 := R.1.2.2.1
  obtain ⟨x1, x2, x3, x4⟩ := hs0 q.2.1 (by omega) (by omega)
  have ecl : clF cs c = q.2.1 := by unfold clF; rw [List.getD_eq_getElem?_getD, k10]; rfl
  have f06 : fR h 1206 q.2.1 = w1 := by rw [x3 _ (by decide)]; exact p4
  have f14 : fR h 1214 q.2.1 = fam := by rw [x3 _ (by decide)]; exact p6
  have f30 : fR h 1230 q.2.1 = Lm := by rw [x3 _ (by decide)]; exact p7
  have f34 : fR h 1234 q.2.1 = Ln := by rw [x3 _ (by decide)]; exact p8
  have f38 : fR h 1238 q.2.1 = ar := by rw [x3 _ (by decide)]; exact p9
  -- names
  obtain ⟨wn, wn1, wn2, wn3, wn4, wn5⟩ := RA_w R (w := w1) (by omega) (by omega) (.inr o7.2.2.2) o7.2.2.1
  obtain ⟨wv, wv1, wv2, wv3, wv4, wv5⟩ := RA_w R (w := w2) (by omega) (by omega) (.inl o8.2.2.2) o8.2.2.1
  obtain ⟨cr1, ⟨cw, cr2, cr3⟩, ⟨cv, cr4, cr5⟩, cr6, cr7, cr8⟩ := cR'
  have ecw : cw = wn := RA_nd R _ _ _ cr2 wn3
  have ecv : cv = wv := RA_nd R _ _ _ cr4 wv3
  subst ecw ecv
  -- methods
  have Ll' : ll hr (fR hr 1230 q.2.1) = ms := by rw [p7]; exact o12
  have C' := C
  obtain ⟨_, _, _, _, c5, ⟨c61, c62, c63⟩, _⟩ := C
  rw [p7, o12] at c63
  have ml := mC_len c63
  obtain ⟨mF, mL⟩ := mthB_nil b2 b4
  rw [mF] at cr8
  have filt : (p.2.2.2.2.map (fun j => some (tokw S j))).filter Option.isSome = p.2.2.2.2.map (fun j => some (tokw S j)) := List.filter_eq_self.mpr (fun x hx => by
    obtain ⟨j, _, rfl⟩ := List.mem_map.mp hx
    rfl)
  have cr81 : ga τ 678 c = (p.2.2.2.2.length : Int) := by
    have := cr8.1
    rw [cntS_all, filt, List.length_map] at this
    exact this
  have m4 : p.2.2.2.2.length ≤ 4 := by have := mL (by omega); omega
  obtain ⟨l, l1, l2⟩ := lch (P := fun k (y : Nat × Ty) => ∃ x j, ms[k]? = some x ∧ p.2.2.2.2[k]? = some j ∧ (N[y.1]? = some (tokw S j) ∧ ga τ 682 (4 * c + k) = (y.1 : Int) ∧ y.1 < 2100) ∧ ((tyM y.2 ∧ nmIn [cv] y.2) ∧ tyC h N (clF cs) (UU ul []) y.2 (fR h 1262 x) ∧ tyT τ n y.2 (ga τ 686 (4 * c + k))) ∧ wN h N y.1 (fR h 1242 x) ∧ (z0 ≤ x ∧ x < hz hr ∧ kd h x = 19) ∧ fR h 1250 x = q.2.1 ∧ fI h 1252 x = (k : Int)) ms.length (fun k hk => by
    have ex : ms[k]? = some ms[k] := List.getElem?_eq_getElem hk
    have ej : p.2.2.2.2[k]? = some (p.2.2.2.2[k]'(by omega)) := List.getElem?_eq_getElem (by omega)
    obtain ⟨⟨g1, g2⟩, g3, g4, g5, g6⟩ := mC_g2 c63 ex ej
    obtain ⟨T, ⟨t1, w0, w1', w2'⟩, t2, t3⟩ := k13 k ms[k] (by rw [Ll']; exact ex)
    have ew0 : w0 = cv := RA_nd R _ _ _ w1' cr4
    rw [ew0] at w2'
    obtain ⟨w, u1, u2⟩ := cr8.2 k (tokw S (p.2.2.2.2[k]'(by omega))) (by rw [filt, List.getElem?_map, ej]; rfl)
    have tkj : tokk S (p.2.2.2.2[k]'(by omega)) = 2 := by
      obtain ⟨_, _, _, _, _, _, _, _, _, _, cc, _⟩ := C'
      exact (cc _ (List.mem_of_getElem? ej)).2
    obtain ⟨w', v1, v2, v3, v4, v5⟩ := RA_w R (w := fR hr 1242 ms[k]) (by have := g4.1; omega) (by have := g4.2.1; omega) (.inl tkj) g4.2.2
    have ew : w' = w := RA_nd R _ _ _ v3 u1
    obtain ⟨y1, y2, y3, y4⟩ := hs0 ms[k] (by omega) (by omega)
    refine ⟨(w, T), ms[k], _, ex, ej, ⟨u1, u2, by omega⟩, ⟨⟨t1, w2'⟩, t2, t3⟩, by rw [y3 _ (by decide), ← ew]; exact v1, ⟨by omega, by omega, by rw [y1]; exact g3⟩, by rw [y3 _ (by decide)]; exact g5, by rw [y2 _ (by decide), g6]; simp⟩)
  have z1r := R.2.2.2.2.1.2.2 ar (ink_at k1 k3 k6 o5.1 (by omega))
  obtain ⟨n1, n2, n3, n4⟩ := hs0 Lm (by omega) (by omega)
  obtain ⟨v1, v2, v3, v4⟩ := hs0 Ln (by omega) (by omega)
  obtain ⟨s1, s2, s3, s4⟩ := hs0 ar (by omega) (by omega)
  have D := R.2.1.2.2.2.2 i p k2
  have Df : ga σr 610 i = oT b p.2.2.2.1 ∧ ∀ f ∈ p.2.2.2.1, tokk S f = 3 := by
    obtain ⟨_, _, _, dd⟩ := D
    rcases dd with dd | dd | dd
    · exact dd.2.2.2.2.1
    · omega
    · omega
  -- the family
  have FM : ∃ fam' : Option Nat, (ga τ 674 c = oI fam' ∧ ∀ w ∈ fam', w < 2100) ∧ ((fam' = none ∧ fam = 0) ∨ ∃ w, fam' = some w ∧ fam ≠ 0 ∧ wN h N w fam) ∧ ((fam' = none ∧ famK S (s.2.2.2.1 ++ [tokw S (p.2.1 + 1)]) p.2.2.2.1 = none) ∨ ∃ w L2, fam' = some w ∧ N[w]? = some L2 ∧ famK S (s.2.2.2.1 ++ [tokw S (p.2.1 + 1)]) p.2.2.2.1 = some L2) := by
    rw [p6] at c5
    rcases c5 with ⟨g1, g2⟩ | ⟨f, g1, g2, g3⟩
    · refine ⟨none, ⟨(cr7.2 b2).1 g1, fun w z => by cases z⟩, .inl ⟨rfl, g2⟩, .inl ⟨rfl, by rw [g1]; rfl⟩⟩
    · obtain ⟨w, u1, u2⟩ := (cr7.2 b2).2 f (by rw [g1]; rfl)
      obtain ⟨w', u3, u4, u5, u6, u7⟩ := RA_w R (w := fam) (by have := g3.1; omega) (by have := g3.2.1; omega) (.inr (Df.2 f (by rw [g1]; rfl))) g3.2.2
      have ew : w' = w := RA_nd R _ _ _ u5 u1
      subst ew
      have nw : nwG S (s.2.2.2.1 ++ [tokw S (p.2.1 + 1)]) f := Classical.byContradiction (fun z => by
        rw [g1] at b3
        have b3' : grB S (s.2.2.2.1 ++ [tokw S (p.2.1 + 1)]) f = [] := b3
        unfold grB at b3'
        rw [if_neg z] at b3'
        cases b3')
      refine ⟨some w', ⟨u2, fun x z => by rw [← Option.some.inj z]; exact u7⟩, .inr ⟨w', rfl, g2, u3⟩, .inr ⟨w', tokw S f, rfl, u1, ?_⟩⟩
      rw [g1]
      show (if nwG S _ f then some (tokw S f) else none) = _
      rw [if_pos nw]
  obtain ⟨fam', fm1, fm2, fm3⟩ := FM
  have moc : ∀ k x, ms[k]? = some x → k < 4 → moF mo (4 * c + k) = x := fun k x e hk => by
    unfold moF moA
    rw [show (4 * c + k) / 4 = c by omega, show (4 * c + k) % 4 = k by omega]
    show (mo.getD c []).getD k 0 = x
    have gm : mo.getD c [] = ll hr (fR hr 1230 q.2.1) := by
      rw [R.2.2.1.2.2.1, List.getD_eq_getElem?_getD, List.getElem?_map, k10]; rfl
    rw [gm, Ll', List.getD_eq_getElem?_getD, e]
    rfl
  refine ⟨(cw, cv, p.2.2.1.elim none (fun a => FI Prod.fst (tokw S a) s.1), fam', l), ⟨⟨cr3, wn5⟩, ⟨cr5, wv5⟩, ⟨cr6, fun a ha => ?_⟩, fm1, ⟨by rw [cr81]; show _ = (l.length : Int); omega, by show l.length ≤ 4; omega⟩, fun k y e => ?_⟩, ⟨?_, ?_, ⟨?_, ?_⟩, ?_, ?_, ⟨?_, ?_, ?_, ?_⟩, ⟨?_, ?_, ?_⟩, fun k y e => ?_⟩, fun y hy => ?_, ⟨tokw S (p.2.1 + 1), wn3, famK S (s.2.2.2.1 ++ [tokw S (p.2.1 + 1)]) p.2.2.2.1, ?_, fm3⟩, fun k => ?_, fun y hy => ?_⟩
  · cases ea : p.2.2.1 with
    | none => rw [ea] at ha; cases ha
    | some a0' =>
      rw [ea] at ha
      have := FI_lt (show FI Prod.fst (tokw S a0') s.1 = some a from ha)
      omega
  · obtain ⟨x, j, g1, g2, g3, g4, _⟩ := l2 k y e
    exact ⟨g3.2.1, g3.2.2, g4.2.2⟩
  · rw [clO, ecl]
    exact ⟨by omega, by omega, by rw [x1]; exact p1, by rw [x2 _ (by decide)]; exact p3⟩
  · rw [ecl, f06]; exact wn1
  · rw [ecl, f34]; exact hSl Ln (by omega) (by omega) (by rw [v1]; exact p10) (RA_nh R k1 k3 o4.1 (by omega) (fun z => by omega))
  · rw [ecl, f34]
    refine ⟨⟨by omega, by rw [v1]; exact p10⟩, by rw [v4, p11]; rfl, (show (1 : Nat) ≤ 1000 by decide), fun i' a w e1 e2 => ?_⟩
    rw [v4, p11] at e1
    cases i' with
    | zero => rw [← Option.some.inj e1, ← Option.some.inj e2]; exact wv1
    | succ i' => cases e1
  · rw [ecl, k12]; rfl
  · rw [ecl, f14]; exact fm2
  · rw [ecl, f30]; exact hSl Lm (by omega) (by omega) (by rw [n1]; exact o11) (RA_nh R k1 k3 o3.1 (by omega) (fun z => by omega))
  · rw [ecl, f30]; omega
  · rw [ecl, f30, n1]; exact o11
  · rw [ecl, f30, n4, o12]; exact l1.symm
  · rw [ecl, f38]; omega
  · rw [ecl, f38, s1]; exact p12
  · rw [ecl, f38, z1r.1]; exact p13
  · obtain ⟨x, j, g1, g2, g3, g4, g5, g6, g7, g8⟩ := l2 k y e
    have hk : k < 4 := by
      have := (List.getElem?_eq_some_iff.mp g2).1
      omega
    rw [moc k x g1 hk, ecl, f30, n4, o12]
    exact ⟨g1, ⟨by omega, by omega, g6.2.2⟩, g5, g7, g8, g4.2.1⟩
  · obtain ⟨k, hk, ek⟩ := List.getElem_of_mem hy
    obtain ⟨x, j, g1, g2, g3, g4, _⟩ := l2 k y (by rw [List.getElem?_eq_getElem hk, ek])
    exact g4.1.1
  · rw [k14]
    unfold clsK
    rw [if_pos b2]
  · rw [ecl, f38, z1r.2]; exact p14 k
  · obtain ⟨k, hk, ek⟩ := List.getElem_of_mem hy
    obtain ⟨x, j, g1, g2, g3, g4, _⟩ := l2 k y (by rw [List.getElem?_eq_getElem hk, ek])
    exact ⟨⟨_, g3.1⟩, g4.1.2⟩
end LP0
