set_option maxRecDepth 100000
/-! THE THIRD RULE: all insts, in both -/
def ioF (il : List IX) (k : Nat) : Nat := (il[k]?).elim 0 (fun x => x.2.1.2.1)
def inS (il : List IX) : List INs := il.map (fun x => x.2.2.2.2.1)
def pvF (τ : tS) (ns : List Nat) (k : Nat) : Nat := (ga τ 546 (ns.getD k 0)).toNat
/-- what became of an inst's lines -/
def LnD (h : om_H) (τ : tS) (x : IX) (ms : List (Nat × Ty)) (j : Nat) (h1 : om_H) (σ1 : tS) : Prop := ∃ bm, fR h1 1330 x.2.1.2.1 = bm ∧ (hz h ≤ bm ∧ bm < hz h1) ∧ kd h1 bm = 59 ∧ an h1 bm = ms.length ∧ (∀ m, m < ms.length → aR h1 bm m = lnV (lnA ms 0 [] x.2.2.2.2.2.2.2.1) m (fun k => (ll h (fR h 1326 x.2.1.2.1)).getD k 0) 0) ∧ ∀ m, m < 4 → ga σ1 726 (4 * j + m) = lnV (lnA ms 0 [] x.2.2.2.2.2.2.2.1) m (fun k => (pvF τ x.2.2.2.2.2.2.2.2 k : Int)) (-1)
/-- an inst breaks no third rule -/
def InOk (il : List IX) (j : Nat) (x : IX) (y : Cp) : Prop := (∃ q, thA (inS il) j x.2.2.2.2.1 y.2.2.2.1 x.2.2.2.2.2.2.1 y.2.2.2.2 x.2.2.2.2.2.2.2.1 q = []) ∧ (x.2.2.2.2.2.2.1 ≠ none → famNm (fun w => w ∈ x.2.2.2.2.1.2.2.1) x.2.2.2.2.1.2.2.2.2)
/-- what the third rule writes: insts, arrays of classes -/
def tI (il : List IX) (y : Nat) : Prop := ∃ x ∈ il, y = x.2.1.2.1
def tAr (K : KT) (cs : List Nat) (h : om_H) (y : Nat) : Prop := ∃ c, c < K.length ∧ y = fR h 1238 (clF cs c)
def ThS (K : KT) (cs : List Nat) (pr : Nat) (cl : List Cp) (il : List IX) (h : om_H) (τ : tS) (f : Nat) (h1 : om_H) (σ1 : tS) : Prop := tF pr (fun y => kd h y = 21) (fun y => kd h y = 58) h h1 ∧ (hz h1 = hz h + f ∧ hu h1 ≤ hu h + 4 * f ∧ tF pr (tI il) (tAr K cs h) h h1) ∧ fr [452, 456] [726] τ σ1 ∧ (fI h1 112 pr = bp σ1 ∧ (bp σ1 = 2147483647 ∨ bp σ1 ≤ 2000) ∧ (gs σ1 452 = 0 ∨ gs σ1 452 = 3)) ∧ (∀ c k, c < K.length → k < 4 → aR h1 (fR h 1238 (clF cs c)) k = (iOf ((inS il).take f) c k).elim 0 (ioF il)) ∧ ∀ (j : Nat) (x : IX) (y : Cp), j < f → il[j]? = some x → cl[x.2.2.2.2.1.1]? = some y → LnD h τ x y.2.2.2.2 j h1 σ1 ∧ (bp σ1 = 2147483647 → InOk il j x y)
theorem mn20 {f a b : Nat} (h1 : f < a) (h2 : a = b) (h3 : f < 20) : (f : Int) < ((min 20 b : Nat) : Int) := by omega
theorem ar4f {j f m : Nat} (h1 : j < f + 1) (h2 : j ≠ f) (h3 : m < 4) : 4 * j + m < 4 * f ∨ 4 * f + 4 ≤ 4 * j + m := by omega
theorem mnl_min {x : Int} : ∀ {B : List Int} {y : Int}, mnl (min x y) B = min x (mnl y B)
  | [], y => rfl
  | b :: B, y => by
    show mnl (min (min x y) b) B = min x (mnl (min y b) B)
    rw [← mnl_min]
    congr 1
    omega
section LTS
variable {G : om_G} {A : Nat} {S : List Int} {b m : Nat} {N : List (List Int)} {pr tb z0 : Nat} {cs fo : List Nat} {mo : List (List Nat)} {K : KT} {F : FT} {Ms : List FT} {hr : om_H} {σr : tS} {M : Nat} {qs : List dcl} {ps : List PD} {rs : List (Nat × Nat × Nat × Nat)} {h : om_H} {ul fl : List Nat} {τ : tS} {n : Nat} {Sl : Nat → Prop} {cl : List Cp} {il : List IX}
/-- each class has its own array -/
theorem RA_arr (R : RA G A S b m N pr tb z0 cs fo mo K F Ms hr σr M qs ps rs h ul fl τ n) {c c' : Nat} (hc : c < K.length) (hc' : c' < K.length) (ne : c ≠ c') : fR h 1238 (clF cs c) ≠ fR h 1238 (clF cs c') := by
  have one : ∀ {c}, c < K.length → ∃ (i : Nat) (r : Nat × Nat × Nat × Nat), rs[i]? = some r ∧ (sAt S ps ([], [], [], [], [], 0) i).1.length = c ∧ r.2.2.1 ≤ fR h 1238 (clF cs c) ∧ fR h 1238 (clF cs c) < r.2.2.2 := fun {c} hc => by
    obtain ⟨i, q, p, r, s, ⟨k1, k2, k3, k4⟩, ⟨k5, k6, k7⟩, ⟨k8, k9⟩, k10, _, W, ⟨rg1, rg2, rg3⟩, _⟩ := RA_cl R hc
    obtain ⟨w1, w2, Lm, Ln, ar, ab, fam, am, ms, ns, o1, ⟨o2, o3, o4, o5, o6⟩, _, _, _, _, _, mr, _⟩ := W
    obtain ⟨_, _, ⟨p7, p8, p9⟩, _⟩ := o1
    have mi := mrows_in mr
    obtain ⟨x1, x2, x3, x4⟩ := R.2.2.2.2.1.1 q.2.1 (by omega) (by omega)
    have ecl : clF cs c = q.2.1 := by unfold clF; rw [List.getD_eq_getElem?_getD, k10]; rfl
    refine ⟨i, r, k3, by rw [← k4]; exact k8, ?_, ?_⟩
    · rw [ecl, x3 _ (by decide), p9]; exact o5.1
    · rw [ecl, x3 _ (by decide), p9]; omega
  obtain ⟨i, r, a1, a2, a3, a4⟩ := one hc
  obtain ⟨i', r', b1, b2, b3, b4⟩ := one hc'
  intro e
  by_cases z : i = i'
  · subst z
    omega
  · rcases Nat.lt_or_gt_of_ne z with z | z
    · have := prR_ap R.2.1.1 a1 b1 z
      omega
    · have := prR_ap R.2.1.1 b1 a1 z
      omega
/-- an inst's things for the component -/
theorem AX_LC (R : RA G A S b m N pr tb z0 cs fo mo K F Ms hr σr M qs ps rs h ul fl τ n) (X : AX G A S b m N pr tb z0 cs fo mo K F Ms hr σr M qs ps rs h ul fl τ n Sl cl il) {f : Nat} {x : IX} {y : Cp} (e : il[f]? = some x) (ey : cl[x.2.2.2.2.1.1]? = some y) : LC0 N pr x.2.1.2.1 (clF cs x.2.2.2.2.1.1) y.2.2.2.2 (fun k => moF mo (4 * x.2.2.2.2.1.1 + k)) (ll h (fR h 1326 x.2.1.2.1)) x.2.2.2.2.2.2.2.1 h := by
  obtain ⟨⟨c1, c2⟩, i1, i2⟩ := X
  obtain ⟨h20, ⟨k1, k2, k3, k5, k8⟩, k10, Tw, Ic, _, _, _, _, ⟨sL, lL, kL, eL, chs, nsl, l27⟩, _, LNS⟩ := i2 f x e
  obtain ⟨cT, cC, _⟩ := c2 _ y ey
  obtain ⟨q1, q2, q3, q4, q5, ⟨q6, q7, q8, q9⟩, q10, q11⟩ := cC
  have CL := R.2.2.2.1.1.2.2.1
  refine ⟨CL.1, ⟨Ic.1.2.2.1, Ic.1.2.1⟩, ⟨kL, lL, rfl, by omega, eL⟩, ⟨q1.2.2.1, q1.2.1⟩, ⟨q8, q7, q9, cT.2.2.2.2.1.2⟩, fun k z ez => ?_, fun j z l e1 e2 => ?_⟩
  · obtain ⟨u1, u2, u3, u4, u5, u6⟩ := q11 k z ez
    exact ⟨u1, u2, u3, u5⟩
  · have jl := (List.getElem?_eq_some_iff.mp e2).1
    obtain ⟨u1, u2, _⟩ := LNS j z _ l e1 (List.getElem?_eq_getElem (by omega)) e2
    exact ⟨u1, u2.1, u2.2⟩
set_option maxHeartbeats 2000000 in
/-- AN INST IN BOTH -/
theorem th_step (R : RA G A S b m N pr tb z0 cs fo mo K F Ms hr σr M qs ps rs h ul fl τ n) (X : AX G A S b m N pr tb z0 cs fo mo K F Ms hr σr M qs ps rs h ul fl τ n Sl cl il) {f : Nat} (hf : f < il.length) {h1 : om_H} {σ1 : tS} (T : ThS K cs pr cl il h τ f h1 σ1) : ∃ h2 σ2, C_1_judgeInstances_9s G pr ((f : Int), h1) = some (.inl (((f + 1 : Nat) : Int), h2)) ∧ T_third_2s ((f : Int), σ1) = some (.inl (((f + 1 : Nat) : Int), σ2)) ∧ ThS K cs pr cl il h τ (f + 1) h2 σ2 := by
  have ex : il[f]? = some il[f] := List.getElem?_eq_getElem hf
  generalize il[f] = x at ex
  obtain ⟨⟨c1, c2⟩, i1, i2⟩ := id X
  obtain ⟨h20, ⟨k1, k2, k3, k5, k8⟩, k10, Tw, Ic, ⟨c1304, tyH, cdu, tyM'⟩, ⟨e690, e1276, pLn⟩, ⟨⟨w1, w2, w3⟩, e578, tkc⟩, FAM, ⟨sL, lL, kL, eL, chs, nsl, l27⟩, _, LNS⟩ := id (i2 f x ex)
  have ey : cl[x.2.2.2.2.1.1]? = some (cl[x.2.2.2.2.1.1]'(by rw [c1]; exact Tw.1.2)) := List.getElem?_eq_getElem _
  generalize cl[x.2.2.2.2.1.1]'(by rw [c1]; exact Tw.1.2) = y at ey
  have L0 := AX_LC R X ex ey
  obtain ⟨cT, cC, cM, ⟨L1, n1, o, kc, kf⟩, _, cN⟩ := c2 _ y ey
  obtain ⟨t1, ⟨t2, t2', t2p⟩, t3, t4, t5, t6⟩ := T
  have nd := RA_nd R
  have CL := R.2.2.2.1.1.2.2.1
  have kp := CL.1.1
  have TTt := R.2.2.2.2.2.1.1.1.2.1
  have GLt := R.2.2.2.2.2.1.1.1.2.2.1
  have hS := R.1.2.2.2.2.2.2.1
  have iLs := R.1.2.2.2.2.2.2.2.1 86 (by simp)
  have g648 := R.1.2.2.2.2.2.2.2.2.2.1
  have ip : pr < z0 := R.1.2.2.2.2.2.2.2.2.2.2.2
  have i650 : x.1 < 700 := by
    have := (List.getElem?_eq_some_iff.mp k1).1
    have := R.2.1.2.2.2.1
    omega
  have hK8 : K.length ≤ 8 := Classical.byContradiction (fun w => by
    obtain ⟨_, _, _, _, _, _, _, ⟨_, z⟩, _⟩ := RA_cl R (c := 8) (by omega)
    omega)
  have iw : x.2.1.2.1 < hz h := Ic.1.2.1
  have k21 : kd h x.2.1.2.1 = 21 := Ic.1.2.2.1
  obtain ⟨q1, q2, q3, q4, q5, ⟨q6, q7, q8, q9⟩, ⟨q10a, q10b, q10c⟩, q11⟩ := cC
  have I21 : ∀ y, (fun y => kd h y = 21) y → kd h y = 21 := fun _ z => z
  have W58 : ∀ y, (fun y => kd h y = 58) y → kd h y ≠ 50 := fun y z => by have z' : kd h y = 58 := z; omega
  have L1' := LC0_keep t1 I21 W58 L0
  have X1 : hSg False (fun _ => True) h h1 := tF_hS t1 (fun y z => by have z' : kd h y = 21 := z; omega) W58
  obtain ⟨a1, a2, a3, a4, a5, a6, a7, a8⟩ := t1.2 x.2.1.2.1 iw
  have zz := t1.1.1
  -- the class's word
  obtain ⟨wt, wt1, wt2, wt3⟩ := t_nameAt TTt (j := x.2.2.2.2.2.1) (.inr tkc)
  have tk := TT_tok TTt nd (.inr tkc) wt2
  have q2000 : tokq S x.2.2.2.2.2.1 ≤ 2000 := by have := tok_le S x.2.2.2.2.2.1; omega
  -- the family
  have fA : (x.2.2.2.2.2.2.1 = none ∧ fR h 1298 x.2.1.2.1 = 0) ∨ ∃ w, x.2.2.2.2.2.2.1 = some w ∧ fR h 1298 x.2.1.2.1 ≠ 0 ∧ wN h N w (fR h 1298 x.2.1.2.1) := by
    rcases FAM with ⟨f1, f2, _⟩ | ⟨w, jf, lo', hi', b1, b2, p', f1, ⟨f2, f3, f4⟩, _⟩
    · exact .inl ⟨f1, f2⟩
    · exact .inr ⟨w, f1, f2, f4⟩
  have e0 : ∀ g, g ≠ 1330 → fR h1 g x.2.1.2.1 = fR h g x.2.1.2.1 := fun g hg => a3 g (fun z => hg z.1)
  have ecl0 : ∀ g, g ≠ 1330 → fR h1 g (clF cs x.2.2.2.2.1.1) = fR h g (clF cs x.2.2.2.2.1.1) := fun g hg => (t1.2 _ q1.2.1).2.2.1 g (fun z => hg z.1)
  obtain ⟨p1, p2, p3, p4, p5, p6, p7, p8⟩ := t1.2 pr CL.1.2
  obtain ⟨l1, l2, l3, l4, l5, l6, l7, l8⟩ := t1.2 _ iLs.2.1
  obtain ⟨r1, r2, r3, r4, r5, r6, r7, r8⟩ := t1.2 _ q10a
  obtain ⟨v1, v2, v3, v4, v5, v6, v7, v8⟩ := t1.2 _ w1
  have io0 : ∀ k x', il[k]? = some x' → ioF il k = x'.2.1.2.1 ∧ x'.2.1.2.1 ≠ 0 := fun k x' e => by
    obtain ⟨_, _, _, _, Ic', _⟩ := i2 k x' e
    exact ⟨by unfold ioF; rw [e]; rfl, Ic'.1.1⟩
  have ilt : ∀ k, iOf ((inS il).take f) x.2.2.2.2.1.1 x.2.2.2.2.1.2.1 = some k → ioF il k ≠ 0 := fun k e => by
    have kl := ixF_lt e
    rw [List.length_take, inS, List.length_map] at kl
    have e' : il[k]? = some (il[k]'(by omega)) := List.getElem?_eq_getElem (by omega)
    rw [(io0 k _ e').1]
    exact (io0 k _ e').2
  obtain ⟨h3, s1, F3, z3, ⟨b1, b2, b3, b4⟩, b5, b6⟩ := c_thI (G := G) (ins := inS il) (io' := ioF il) (f := f) (arr := fR h 1238 (clF cs x.2.2.2.2.1.1)) (q := tokq S x.2.2.2.2.2.1) (wc := fR h 1290 x.2.1.2.1) (d := x.2.2.2.2.1) (cfam := y.2.2.2.1) (fam := x.2.2.2.2.2.2.1) (li := prgL hr qs (fun _ => []) 86) nd L1' (by rw [p3 86 (nn (by decide)), l1]; exact iLs.1) (by rw [p3 86 (nn (by decide)), l7]; exact iLs.2.2) k10 (by rw [e0 _ (by decide)]; exact Ic.1.2.2.2.2) ⟨by rw [ecl0 _ (by decide)], by omega, by rw [r1]; exact q10b, by rw [r4]; exact q10c⟩ ⟨by rw [a2 1304 (nn (by decide))]; exact c1304, by have := Tw.2.1.2; omega⟩ (t5 _ _ Tw.1.2 (by have := Tw.2.1.2; omega)) ilt ⟨by rw [e0 _ (by decide)], by omega, by rw [v1]; exact w2, by rw [v2 1188 (nn (by decide))]; exact w3⟩ (by
      rw [ecl0 _ (by decide)]
      rcases q5 with ⟨z1, z2⟩ | ⟨w, z1, z2, z3⟩
      · exact .inl ⟨z1, z2⟩
      · exact .inr ⟨w, z1, z2, wN_hS X1 z3⟩) (by
      rw [e0 _ (by decide)]
      rcases fA with ⟨z1, z2⟩ | ⟨w, z1, z2, z3⟩
      · exact .inl ⟨z1, z2⟩
      · exact .inr ⟨w, z1, z2, wN_hS X1 z3⟩)
  -- back to the first heap
  have F3' : tF pr (fun y => kd h y = 21) (fun y => kd h y = 58) h1 h3 := tF_mono F3 (fun y _ z => by have z' : y = x.2.1.2.1 := z; rw [z']; exact k21) (fun y _ z => by have z' : y = fR h 1238 (clF cs x.2.2.2.2.1.1) := z; rw [z']; exact q10b)
  have F13 := tF_trans t1 F3'
  obtain ⟨a1', a2', a3', a4', a5', a6', a7', a8'⟩ := F13.2 x.2.1.2.1 iw
  have HT := tF_hT F13
  have nD : ∀ y, kd h y ≠ 2 → kd h y ≠ 21 → kd h y ≠ 58 → ¬ (y = pr ∨ kd h y = 21 ∨ kd h y = 58) := fun y z1 z2 z3 z => by
    rcases z with z | z | z
    · rw [z] at z1; exact z1 kp
    · exact z2 z
    · exact z3 z
  have CL3 : CLS h3 pr cs K := CLS_hT HT (fun y z => by
    have z' : y = pr ∨ kd h y = 21 ∨ kd h y = 58 := z
    have : kd h y = 2 ∨ kd h y = 21 ∨ kd h y = 58 := by
      rcases z' with z' | z'
      · rw [z']; exact .inl kp
      · exact .inr z'
    exact ⟨by omega, by omega, fun w => by omega⟩) CL (by rw [(F13.2 pr CL.1.2).2.2.1 82 (nn (by decide))]) (nD _ (by have := CL.2.1.2.1; omega) (by have := CL.2.1.2.1; omega) (by have := CL.2.1.2.1; omega)) (fun c hc => by
      obtain ⟨i, hi, ei⟩ := List.getElem_of_mem hc
      have := (CL.2.2.2.2 i c _ (by rw [List.getElem?_eq_getElem hi, ei]) (List.getElem?_eq_getElem (by have := CL.2.2.1; omega))).1.2.2.1
      exact nD c (by omega) (by omega) (by omega))
  have TX := R.2.2.2.1.1.2.1
  have TX3 : txC h3 A S := txC_hT HT TX.2 (nD A (by have := TX.1.1; omega) (by have := TX.1.1; omega) (by have := TX.1.1; omega)) TX.1
  -- the family's line
  obtain ⟨B, fw, bB, fN, bC⟩ : ∃ B : List Int, ((ga σ1 610 x.1 = -1 ∧ x.2.2.2.2.2.2.1 = none ∧ B = []) ∨ ∃ tf w p : Nat, x.2.2.2.2.2.2.1 = some w ∧ ga σ1 610 x.1 = (tf : Int) ∧ tf < 4100 ∧ ga σ1 482 tf = (w : Int) ∧ w < 2100 ∧ (ga σ1 634 w = (x.2.2.2.2.1.1 : Int) ↔ y.2.2.2.1 = some w) ∧ ga σ1 614 x.1 = (p : Int) ∧ naT σ1 60 p B) ∧ (∀ z ∈ B, z ≤ 2000) ∧ (x.2.2.2.2.2.2.1 ≠ none → B = [] → famNm (fun w => w ∈ x.2.2.2.2.1.2.2.1) x.2.2.2.2.1.2.2.2.2) ∧ ((fR h3 1310 x.2.1.2.1 = 0 ∧ B = []) ∨ fR h3 1310 x.2.1.2.1 ≠ 0 ∧ naC G pr (fR h3 162 (fR h3 1286 x.2.1.2.1)) h3 60 (fR h3 1310 x.2.1.2.1) B) := by
    rcases FAM with ⟨f1, f2, f3, f4, f5⟩ | ⟨w, jf, lo', hi', b1', b2', p', f1, ⟨f2, f3, f4⟩, f5, ⟨f6, f7, f8⟩, f9, f10, ⟨f11, f12, f13⟩, f14, f15⟩
    · exact ⟨[], .inl ⟨by rw [t3.2 610 (by simp)]; exact f4, f1, rfl⟩, fun z hz => absurd hz List.not_mem_nil, fun z => absurd f1 z, .inl ⟨by rw [a3' 1310 (nn (by decide))]; exact f3, rfl⟩⟩
    · have tf := TT_tok TTt nd (.inr f6) f7
      obtain ⟨wl, gl1, gl2⟩ := GL_gv GLt f7 true
      obtain ⟨cf, ecf⟩ : ∃ cf, FI Prod.snd (tokw S jf) K = some cf := Option.ne_none_iff_exists'.mp f8
      have g634 := (gl2 cf ecf).1
      have nk1 : nk lo' hi' p' τ σ1 := ⟨fun g hg _ i _ _ => t3.2 g (by simp only [List.mem_cons, List.not_mem_nil, or_false] at hg ⊢; omega) i, fun i _ _ _ => t3.2 562 (by simp) i⟩
      have W3 : WR A S b h3 σ1 59 lo' hi' b1' b2' (fR h 1310 x.2.1.2.1) p' := WR_keepF f14 (fun y y1 y2 => by
        obtain ⟨u1, u2, u3, u4, u5, u6, u7, u8⟩ := F13.2 y (by have := R.2.2.2.2.1.2.1; omega)
        exact ⟨u1, fun g _ => u2 g (fun z => by omega), fun g hg => u3 g (fun z => hg (by rw [z.1]; decide)), u7, u8⟩) nk1
      have Rd3 : RdT S b K σ1 (fun w => w ∈ x.2.2.2.2.1.2.2.1) lo' hi' 59 p' x.2.2.2.2.1.2.2.2.2 := RdT_eq (fun g hg i _ _ => t3.2 g (by simp only [List.mem_cons, List.not_mem_nil, or_false] at hg ⊢; omega) i) f15
      have L3n : fR h3 162 (fR h3 1286 x.2.1.2.1) ≠ 0 := by
        rw [a3' 1286 (nn (by decide)), (F13.2 _ Ic.2.1.1).2.2.1 162 (nn (by decide))]
        omega
      obtain ⟨B, n1', n2', n3', n4'⟩ := na_rel (G := G) (Ln := fR h3 162 (fR h3 1286 x.2.1.2.1)) CL3 TX3 hS (TT_fr2 t3 (by simp) TTt) (GL_fr t3 (by simp) GLt) L3n (lo' := lo') (hi' := hi') (by have := R.1.2.2.2.1; omega) 59 60 60 (by omega) (by omega) (by have := R.1.2.2.1; omega) W3 Rd3
      refine ⟨B, .inr ⟨b + jf, w, p', f1, by rw [t3.2 610 (by simp)]; exact f5, tf.1, by rw [t3.2 482 (by simp)]; exact tf.2.1, wl, ?_, by rw [t3.2 614 (by simp)]; exact f10, n2'⟩, fun z hz => ?_, fun _ => n4', .inr ⟨by rw [a3' 1310 (nn (by decide))]; exact f3, by rw [a3' 1310 (nn (by decide))]; exact n1'⟩⟩
      · rw [t3.2 634 (by simp), g634]
        constructor
        · intro z
          have ec : cf = x.2.2.2.2.1.1 := by omega
          rw [ec] at ecf
          have := FI_at ecf kc
          have eo : o = some (tokw S jf) := this
          rcases kf with ⟨_, z2⟩ | ⟨w', L2, z1, z2, z3⟩
          · rw [z2] at eo; cases eo
          · rw [z3] at eo
            rw [Option.some.inj eo] at z2
            rw [z1, nd _ _ _ z2 f7]
        · intro z
          rcases kf with ⟨z1, _⟩ | ⟨w', L2, z1, z2, z3⟩
          · rw [z1] at z; cases z
          · rw [z1] at z
            rw [Option.some.inj z, f7] at z2
            rw [z3, ← Option.some.inj z2] at kc
            have := RA_fam R kc
            rw [this] at ecf
            rw [Option.some.inj ecf]
      · obtain ⟨j, _, ej⟩ := n3' z hz
        have := tok_le S j
        omega
  -- the twin
  have pvE : ∀ (j o : Nat) (l : Nat × Nat), x.2.2.2.2.2.2.2.2[j]? = some o → x.2.2.2.2.2.2.2.1[j]? = some l → LnT σ1 o l.1 l.2 (pvF τ x.2.2.2.2.2.2.2.2 j) := fun j o' l e1 e2 => by
    have jl := (List.getElem?_eq_some_iff.mp e2).1
    obtain ⟨_, _, ⟨u1, t, u2, u3, u4, u5, u6, u7, _⟩, lo, hi, al, ah, p, z1, _, u8, _⟩ := LNS j _ o' l (List.getElem?_eq_getElem (by omega)) e1 e2
    have epv : pvF τ x.2.2.2.2.2.2.2.2 j = p := by
      unfold pvF
      rw [List.getD_eq_getElem?_getD, e1]
      show (ga τ 546 o').toNat = p
      rw [u8]; omega
    rw [epv]
    exact LnT_fr t3 (by simp) ⟨u1, u8, t, u2, u3, u4, u6, u7⟩
  obtain ⟨σ2, g1, g2, g3, g4, g5, g6⟩ := t_thI (σ := σ1) (ins := inS il) (d := x.2.2.2.2.1) (c := x.2.2.2.2.1.1) (con := x.2.2.2.2.1.2.1) (t := b + x.2.2.2.2.2.1) (q := tokq S x.2.2.2.2.2.1) (ms := y.2.2.2.2) (pv := pvF τ x.2.2.2.2.2.2.2.2) (cfam := y.2.2.2.1) (fam := x.2.2.2.2.2.2.1) (B := B) h20 i650 ⟨rfl, rfl⟩ (by have := Tw.1.2; omega) (by rw [t3.1 648 (by simp), g648]; exact mn20 hf i1 h20) (by rw [t3.2 690 (by simp)]; exact e690) (by rw [t3.2 694 (by simp)]; exact Tw.1.1) (by rw [t3.2 698 (by simp)]; exact Tw.2.1.1) (fun j hj => by
    have e' : il[j]? = some (il[j]'(by omega)) := List.getElem?_eq_getElem (by omega)
    obtain ⟨_, _, _, Tw', _⟩ := i2 j _ e'
    exact ⟨_, by unfold inS; rw [List.getElem?_map, e']; rfl, by rw [t3.2 694 (by simp)]; exact Tw'.1.1, by rw [t3.2 698 (by simp)]; exact Tw'.2.1.1⟩) (by rw [t3.2 578 (by simp)]; exact e578) tk.1 (by rw [t3.2 474 (by simp)]; exact tk.2.2) q2000 (by rw [t3.2 674 (by simp)]; exact cT.2.2.2.1.1) cT.2.2.2.2.1.2 (by rw [t3.2 678 (by simp)]; exact cT.2.2.2.2.1.1) (fun k z ez => by rw [t3.2 682 (by simp)]; exact (cT.2.2.2.2.2 k z ez).1) fw (by rw [t3.2 602 (by simp)]; exact chain_keep chs (fun o _ => t3.2 562 (by simp) o)) nsl pvE
  -- the component, behind the lines
  obtain ⟨h4, s4, F4, z4, u4, n4⟩ : ∃ h4, thK G pr x.2.1.2.1 (f : Int) h3 = some (.inl (((f + 1 : Nat) : Int), h4)) ∧ tF pr (fun _ => False) (fun _ => False) h3 h4 ∧ (hz h4 = hz h3 ∧ hu h4 = hu h3) ∧ ((∀ a k, aR h4 a k = aR h3 a k) ∧ (∀ g a, fR h4 g a = fR h3 g a) ∧ (∀ a, kd h4 a = kd h3 a) ∧ ∀ a, an h4 a = an h3 a) ∧ fI h4 112 pr = mnl (fI h3 112 pr) B := by
    have k3 : kd h3 x.2.1.2.1 = 21 := by rw [a1']; exact k21
    rcases bC with ⟨z1, z2⟩ | ⟨z1, z2⟩
    · refine ⟨h3, thK_0 (by omega) k3 z1, tF_refl, ⟨rfl, rfl⟩, ⟨fun _ _ => rfl, fun _ _ => rfl, fun _ => rfl, fun _ => rfl⟩, by rw [z2]; rfl⟩
    · refine ⟨_, thK_1 (B := B) (by omega) k3 rfl z1 (by rw [a3' 1286 (nn (by decide)), (F13.2 _ Ic.2.1.1).1]; exact Ic.2.1.2) CL3.1.1 z2, tF_ru, ⟨rfl, rfl⟩, ⟨fun _ _ => rfl, fun _ _ => rfl, fun _ => rfl, fun _ => rfl⟩, ?_⟩
      show fI (sI h3 112 pr _) 112 pr = _
      rw [fI_sI, if_pos ⟨rfl, rfl⟩]
      show min (fI h3 112 pr) (mnl 2147483647 B) = _
      rw [← mnl_min]
      congr 1
      have := (mnl_le (A := thA (inS il) f x.2.2.2.2.1 y.2.2.2.1 x.2.2.2.2.2.2.1 y.2.2.2.2 x.2.2.2.2.2.2.2.1 (tokq S x.2.2.2.2.2.1 : Int)) (x := fI h1 112 pr)).1
      have := t4.1
      have := t4.2.1
      omega
  have F34 := tF_trans F13 (tF_mono F4 (fun _ _ z => z.elim) (fun _ _ z => z.elim))
  have F3p : tF pr (tI il) (tAr K cs h) h1 h3 := tF_mono F3 (fun y _ z => ⟨x, List.mem_of_getElem? ex, z⟩) (fun y _ z => ⟨_, Tw.1.2, z⟩)
  have F34p := tF_trans (tF_trans t2p F3p) (tF_mono F4 (fun _ _ z => z.elim) (fun _ _ z => z.elim))
  have bpE : bp σ2 = mnl (bp σ1) (thX (inS il) f x.2.2.2.2.1 y.2.2.2.1 x.2.2.2.2.2.2.1 y.2.2.2.2 x.2.2.2.2.2.2.2.1 (tokq S x.2.2.2.2.2.1 : Int) B) := g5
  have all2 : ∀ z ∈ (thX (inS il) f x.2.2.2.2.1 y.2.2.2.1 x.2.2.2.2.2.2.1 y.2.2.2.2 x.2.2.2.2.2.2.2.1 (tokq S x.2.2.2.2.2.1 : Int) B), z ≤ 2000 := fun z hz => by
    unfold thX at hz
    rcases List.mem_append.mp hz with hz | hz
    · unfold dpB at hz
      split at hz
      · exact absurd hz List.not_mem_nil
      · rw [List.mem_singleton.mp hz]; omega
    rcases List.mem_append.mp hz with hz | hz
    · split at hz
      · exact absurd hz List.not_mem_nil
      · rw [List.mem_singleton.mp hz]; omega
    rcases List.mem_append.mp hz with hz | hz
    · refine lnB_2000 (fun l hl => ?_) z hz
      obtain ⟨j', hj', ej'⟩ := List.getElem_of_mem hl
      have e3 : x.2.2.2.2.2.2.2.1[j']? = some l := by rw [List.getElem?_eq_getElem hj', ej']
      obtain ⟨_, _, t, _, _, _, _, hp⟩ := pvE j' _ l (List.getElem?_eq_getElem (by omega)) e3
      exact hp
    rcases List.mem_append.mp hz with hz | hz
    · exact msB_2000 (by omega) z hz
    · exact bB z hz
  refine ⟨h4, σ2, by rw [s1]; exact s4, g1, F34, ⟨by omega, by have := cT.2.2.2.2.1.2; omega, F34p⟩, fr_trans t3 g2, ⟨?_, ?_, ?_⟩, fun c k hc hk => ?_, fun j x' y' hj e1 e2 => ?_⟩
  · rw [n4, b6, bpE, thX_eq, mnl_app, t4.1]
  · rw [bpE]
    rcases mnl_in (A := thX (inS il) f x.2.2.2.2.1 y.2.2.2.1 x.2.2.2.2.2.2.1 y.2.2.2.2 x.2.2.2.2.2.2.2.1 (tokq S x.2.2.2.2.2.1 : Int) B) (x := bp σ1) with e | e
    · rw [e]; exact t4.2.1
    · exact .inr (all2 _ e)
  · rcases g6 with e | e
    · rw [e]; exact t4.2.2
    · exact .inr e
  · -- classes' arrays
    have tkS : (inS il).take (f + 1) = (inS il).take f ++ [x.2.2.2.2.1] := by
      rw [List.take_succ]
      unfold inS
      rw [List.getElem?_map, ex]; rfl
    rw [u4.1]
    have io1 : ioF il f = x.2.1.2.1 := (io0 f x ex).1
    have ltf : ((inS il).take f).length = f := by rw [List.length_take, inS, List.length_map]; omega
    by_cases cc : c = x.2.2.2.2.1.1
    · rw [cc, b5 k]
      have t5' := t5 _ k Tw.1.2 hk
      unfold iOf at t5' ⊢
      rw [tkS, ixF_snoc, t5']
      by_cases kk : k = x.2.2.2.2.1.2.1
      · rw [kk, if_pos (show ((x.2.2.2.2.1.1 == x.2.2.2.2.1.1 && x.2.2.2.2.1.2.1 == x.2.2.2.2.1.2.1) = true) by simp), ltf]
        cases ixF (fun i => i.1 == x.2.2.2.2.1.1 && i.2.1 == x.2.2.2.2.1.2.1) ((inS il).take f) with
        | none => rw [if_pos ⟨rfl, rfl⟩]; exact io1.symm
        | some j0 => rw [if_neg (fun z => by cases z.1)]; rfl
      · rw [if_neg (fun z => kk z.2), if_neg (show ¬ ((x.2.2.2.2.1.1 == x.2.2.2.2.1.1 && x.2.2.2.2.1.2.1 == k) = true) by simp; omega)]
        cases ixF (fun i => i.1 == x.2.2.2.2.1.1 && i.2.1 == k) ((inS il).take f) <;> rfl
    · have na := RA_arr R hc Tw.1.2 cc
      have lt : fR h 1238 (clF cs c) < hz h := by
        obtain ⟨_, cC', _⟩ := c2 c _ (List.getElem?_eq_getElem (by rw [c1]; exact hc))
        exact cC'.2.2.2.2.2.2.1.1
      rw [(F3.2 _ (by omega)).2.2.2.2.2.1 na k, t5 c k hc hk]
      unfold iOf
      rw [tkS, ixF_snoc, if_neg (show ¬ ((x.2.2.2.2.1.1 == c && x.2.2.2.2.1.2.1 == k) = true) by simp; intro z; exact absurd z.symm cc)]
      cases ixF (fun i => i.1 == c && i.2.1 == k) ((inS il).take f) <;> rfl
  · by_cases cj : j = f
    · subst cj
      rw [ex] at e1
      have exx := Option.some.inj e1
      subst exx
      rw [ey] at e2
      have eyy := Option.some.inj e2
      subst eyy
      refine ⟨⟨hz h1, by rw [u4.2.1]; exact b1, ⟨by omega, by omega⟩, by rw [u4.2.2.1]; exact b2, by rw [u4.2.2.2]; exact b3, fun m' hm => ?_, g4⟩, fun mx => ?_⟩
      · rw [u4.1, b4 m' hm]
      · rw [bpE] at mx
        have em := mnl_emp all2 mx
        rw [thX_eq] at em
        obtain ⟨em1, em2⟩ := List.append_eq_nil_iff.mp em
        exact ⟨⟨_, em1⟩, fun z => fN z em2⟩
    · obtain ⟨⟨bm, d1, ⟨d2, d3⟩, d4, d5, d6, d7⟩, d8⟩ := t6 j x' y' (by omega) e1 e2
      obtain ⟨_, _, _, _, Ic', _⟩ := i2 j x' e1
      have ne : x'.2.1.2.1 ≠ x.2.1.2.1 := fun z => by
        have h1' := Ic'.1.2.2.2.1
        have h2' := Ic.1.2.2.2.1
        rw [z] at h1'
        omega
      have na : bm ≠ fR h 1238 (clF cs x.2.2.2.2.1.1) := by omega
      obtain ⟨f1, f2, f3, f4, f5, f6, f7, f8⟩ := F3.2 bm d3
      refine ⟨⟨bm, ?_, ⟨d2, by omega⟩, by rw [u4.2.2.1, f1]; exact d4, by rw [u4.2.2.2, f4]; exact d5, fun m' hm => by rw [u4.1, f6 na]; exact d6 m' hm, fun m' hm => ?_⟩, fun mx => d8 ?_⟩
      · rw [u4.2.1, (F3.2 _ (by have := Ic'.1.2.1; omega)).2.2.1 1330 (fun z => ne z.2)]
        exact d1
      · rw [g3 _ (ar4f hj cj hm)]
        exact d7 m' hm
      · have := (mnl_le (A := thX (inS il) f x.2.2.2.2.1 y.2.2.2.1 x.2.2.2.2.2.2.1 y.2.2.2.2 x.2.2.2.2.2.2.2.1 (tokq S x.2.2.2.2.2.1 : Int) B) (x := bp σ1)).1
        have := t4.2.1
        omega
end LTS
