set_option maxRecDepth 100000
/-! THE THIRD RULE: all functions, in both -/
/-- a function: its declaration, name, row; ranges; its ex's node -/
abbrev FX : Type := Nat × dcl × PD × (Nat × Nat × Nat × Nat) × Nat × (List Nat × List GVs × Ty) × Nat × Nat × Nat × Nat × Nat
def FnX (G : om_G) (A : Nat) (S : List Int) (b m : Nat) (N : List (List Int)) (pr tb z0 : Nat) (cs fo : List Nat) (mo : List (List Nat)) (K : KT) (F : FT) (Ms : List FT) (hr : om_H) (σr : tS) (M : Nat) (qs : List dcl) (ps : List PD) (rs : List (Nat × Nat × Nat × Nat)) (h : om_H) (ul fl : List Nat) (τ : tS) (n : Nat) (Sl : Nat → Prop) (f i : Nat) (q : dcl) (p : PD) (r : Nat × Nat × Nat × Nat) (w : Nat) (x : List Nat × List GVs × Ty) (m2 a2 a3 nX z1 : Nat) : Prop := (qs[i]? = some q ∧ ps[i]? = some p ∧ rs[i]? = some r ∧ p.1 = 2 ∧ (sAt S ps ([], [], [], [], [], 0) i).2.1.length = f ∧ clF fo f = q.2.1) ∧ FnT τ n f w x ∧ FnCo h N (clF cs) (UU ul []) Sl (clF fo f) f w x ∧ (tyM x.2.2 ∧ (∃ L, N[w]? = some L ∧ F[f]? = some (some L)) ∧ ∀ g ∈ x.2.1, g.2.1 ∈ x.1 ∧ (g.1 < 108 ∧ (g.1 < 100 → g.1 < K.length) ∧ (100 ≤ g.1 → g.1 - 100 < K.length)) ∧ (100 ≤ g.1 → tyM g.2.2) ∧ (g.1 < 100 → g.2.2 = .leaf) ∧ (100 ≤ g.1 → ∃ k, K[g.1 - 100]? = some k ∧ k.2 ≠ none)) ∧ (ga τ 730 f = (i : Int) ∧ ga τ 622 i = (nX : Int) ∧ fI h 1188 (fR h 1530 (clF fo f)) = (tokq S p.2.1 : Int) ∧ ∃ os, chain τ (ga τ 606 i) os ∧ os.length = x.2.1.length ∧ ∀ (k o gx : Nat), os[k]? = some o → (ll h (fR h 166 (fR h 1542 (clF fo f))))[k]? = some gx → o < 8400 ∧ ∃ j, ga τ 542 o = ((b + j : Nat) : Int) ∧ tokk S j = 3 ∧ (fR h 1338 gx < hz h ∧ kd h (fR h 1338 gx) = 17 ∧ fI h 1188 (fR h 1338 gx) = (tokq S j : Int))) ∧ (r.1 ≤ m2 ∧ r.2.1 ≤ M ∧ z0 ≤ r.2.2.1 ∧ r.2.2.1 ≤ a2 ∧ a3 ≤ r.2.2.2 ∧ r.2.2.2 ≤ hz hr ∧ hz hr ≤ z1 ∧ (r.2.2.1 ≤ fR h 1542 (clF fo f) ∧ fR h 1542 (clF fo f) < r.2.2.2) ∧ (ll h (fR h 166 (fR h 1542 (clF fo f)))).Nodup ∧ ∀ x ∈ ll h (fR h 166 (fR h 1542 (clF fo f))), (r.2.2.1 ≤ x ∧ x < r.2.2.2) ∧ fR h 1358 x = 0) ∧ XS G A S b h τ (Psi1 S b N cs [] fo F mo Ms z1 h ul τ n) 100 0 m2 r.2.1 a2 a3 (fR h 1554 (clF fo f)) nX
def FXs (G : om_G) (A : Nat) (S : List Int) (b m : Nat) (N : List (List Int)) (pr tb z0 : Nat) (cs fo : List Nat) (mo : List (List Nat)) (K : KT) (F : FT) (Ms : List FT) (hr : om_H) (σr : tS) (M : Nat) (qs : List dcl) (ps : List PD) (rs : List (Nat × Nat × Nat × Nat)) (h : om_H) (ul fl : List Nat) (τ : tS) (n : Nat) (Sl : Nat → Prop) (fl' : List FX) : Prop := fl'.length = F.length ∧ ∀ (f : Nat) (x : FX), fl'[f]? = some x → f < 24 ∧ FnX G A S b m N pr tb z0 cs fo mo K F Ms hr σr M qs ps rs h ul fl τ n Sl f x.1 x.2.1 x.2.2.1 x.2.2.2.1 x.2.2.2.2.1 x.2.2.2.2.2.1 x.2.2.2.2.2.2.1 x.2.2.2.2.2.2.2.1 x.2.2.2.2.2.2.2.2.1 x.2.2.2.2.2.2.2.2.2.1 x.2.2.2.2.2.2.2.2.2.2
section LTF2
variable {G : om_G} {A : Nat} {S : List Int} {b m : Nat} {N : List (List Int)} {pr tb z0 : Nat} {cs fo : List Nat} {mo : List (List Nat)} {K : KT} {F : FT} {Ms : List FT} {hr : om_H} {σr : tS} {M : Nat} {qs : List dcl} {ps : List PD} {rs : List (Nat × Nat × Nat × Nat)} {h : om_H} {ul fl : List Nat} {τ : tS} {n : Nat} {Sl : Nat → Prop} {cl : List Cp} {il : List IX} {fl' : List FX}
theorem FX_of (R : RA G A S b m N pr tb z0 cs fo mo K F Ms hr σr M qs ps rs h ul fl τ n) (hSl : ∀ y, z0 ≤ y → y < hz h → kd h y = 42 → ¬ HdL hr qs y → Sl y) : ∃ fl', FXs G A S b m N pr tb z0 cs fo mo K F Ms hr σr M qs ps rs h ul fl τ n Sl fl' := by
  obtain ⟨l, i1, i2⟩ := lch (P := fun f (x : FX) => f < 24 ∧ FnX G A S b m N pr tb z0 cs fo mo K F Ms hr σr M qs ps rs h ul fl τ n Sl f x.1 x.2.1 x.2.2.1 x.2.2.2.1 x.2.2.2.2.1 x.2.2.2.2.2.1 x.2.2.2.2.2.2.1 x.2.2.2.2.2.2.2.1 x.2.2.2.2.2.2.2.2.1 x.2.2.2.2.2.2.2.2.2.1 x.2.2.2.2.2.2.2.2.2.2) F.length (fun f hf => by
    obtain ⟨h24, i, q, p, r, w, x, m2, a2, a3, nX, z1, H⟩ := fn_el R hSl hf
    exact ⟨(i, q, p, r, w, x, m2, a2, a3, nX, z1), h24, H⟩)
  exact ⟨l, i1, i2⟩
/-- types stay -/
theorem RA_ty {I W : Nat → Prop} {h1 : om_H} (R : RA G A S b m N pr tb z0 cs fo mo K F Ms hr σr M qs ps rs h ul fl τ n) (T : tF pr I W h h1) (hI : ∀ y, I y → kd h y = 21) (hW : ∀ y, W y → kd h y = 58) : ∀ T a, tyC h N (clF cs) (UU ul []) T a → tyC h1 N (clF cs) (UU ul []) T a := fun T' a c => by
  have kp := R.2.2.2.1.1.2.2.1.1.1
  have dk : ∀ y, (y = pr ∨ I y ∨ W y) → kd h y = 2 ∨ kd h y = 21 ∨ kd h y = 58 := fun y z => by
    rcases z with z | z | z
    · rw [z]; exact .inl kp
    · exact .inr (.inl (hI y z))
    · exact .inr (.inr (hW y z))
  exact tyC_hT (tF_hT T) (fun y z => by have := dk y z; exact ⟨by omega, by omega, fun w => by omega⟩) (fun y hy z => by
    have := dk y z
    have := (TB_U34 R.2.2.2.1.1.1.1 hy).1
    omega) (fun _ z => z) (fun _ _ z => z) c
def gvAll (fl' : List FX) (q : Nat → Nat → Int) : Nat → List Int
  | 0 => []
  | f + 1 => gvAll fl' q f ++ (fl'[f]?).elim [] (fun x => gvBs x.2.2.2.2.2.1.2.1 (q f) x.2.2.2.2.2.1.2.1.length)
theorem gv1_2000 {gv : List GVs} {k : Nat} {q : Int} (hq : q ≤ 2000) : ∀ x ∈ gv1 gv k q, x ≤ 2000 := fun x hx => by
  unfold gv1 at hx
  cases e : gv[k]? with
  | none => rw [e] at hx; exact absurd hx List.not_mem_nil
  | some g =>
    rw [e] at hx
    have hx' : x ∈ (if 100 ≤ g.1 then (if thB g.2.2 = true then [q] else []) ++ (if (gv.take k).any (gvE g) = true then [q] else []) else []) := hx
    split at hx'
    · rcases List.mem_append.mp hx' with hx | hx
      · split at hx
        · rw [List.mem_singleton.mp hx]; exact hq
        · exact absurd hx List.not_mem_nil
      · split at hx
        · rw [List.mem_singleton.mp hx]; exact hq
        · exact absurd hx List.not_mem_nil
    · exact absurd hx' List.not_mem_nil
theorem gvBs_2000 {gv : List GVs} {q : Nat → Int} (hq : ∀ k, q k ≤ 2000) : ∀ {n : Nat}, ∀ x ∈ gvBs gv q n, x ≤ 2000
  | 0, x, hx => absurd hx List.not_mem_nil
  | n + 1, x, hx => by
    rcases List.mem_append.mp hx with hx | hx
    · exact gvBs_2000 hq x hx
    · exact gv1_2000 (hq n) x hx
theorem gvBs_nil {gv : List GVs} {q : Nat → Int} : ∀ {n : Nat}, gvBs gv q n = [] → ∀ k, k < n → gv1 gv k (q k) = []
  | 0, _, k, h => by omega
  | n + 1, e, k, h => by
    obtain ⟨e1, e2⟩ := List.append_eq_nil_iff.mp e
    by_cases c : k = n
    · subst c; exact e2
    · exact gvBs_nil e1 k (by omega)
/-- a row of givens breaks no third rule -/
def gvOk (gv : List GVs) : Prop := gvN gv ∧ ∀ (k : Nat) (g : GVs), gv[k]? = some g → 100 ≤ g.1 → (gv.take k).any (gvE g) = false
theorem gvOk_of {gv : List GVs} {q : Nat → Int} (e : gvBs gv q gv.length = []) : gvOk gv := by
  have one : ∀ (k : Nat) (g : GVs), gv[k]? = some g → 100 ≤ g.1 → thB g.2.2 = false ∧ (gv.take k).any (gvE g) = false := fun k g eg g100 => by
    have := gvBs_nil e k (List.getElem?_eq_some_iff.mp eg).1
    unfold gv1 at this
    rw [eg] at this
    have t' : (if 100 ≤ g.1 then (if thB g.2.2 = true then [q k] else []) ++ (if (gv.take k).any (gvE g) = true then [q k] else []) else []) = [] := this
    rw [if_pos g100] at t'
    obtain ⟨t1, t2⟩ := List.append_eq_nil_iff.mp t'
    constructor
    · cases z : thB g.2.2 with
      | true => rw [z] at t1; cases t1
      | false => rfl
    · cases z : (gv.take k).any (gvE g) with
      | true => rw [z] at t2; cases t2
      | false => rfl
  refine ⟨fun g hg g100 => ?_, fun k g eg g100 => (one k g eg g100).2⟩
  obtain ⟨k, hk, ek⟩ := List.getElem_of_mem hg
  exact (one k g (by rw [List.getElem?_eq_getElem hk, ek]) g100).1
theorem gvAll_nil {q : Nat → Nat → Int} : ∀ {n : Nat}, gvAll fl' q n = [] → ∀ f x, f < n → fl'[f]? = some x → gvOk x.2.2.2.2.2.1.2.1
  | 0, _, f, x, h, _ => by omega
  | n + 1, e, f, x, h, ex => by
    obtain ⟨e1, e2⟩ := List.append_eq_nil_iff.mp e
    by_cases c : f = n
    · subst c
      rw [ex] at e2
      exact gvOk_of e2
    · exact gvAll_nil e1 f x (by omega) ex
set_option maxHeartbeats 2000000 in
/-- ALL FUNCTIONS IN BOTH -/
theorem tg_loop (R : RA G A S b m N pr tb z0 cs fo mo K F Ms hr σr M qs ps rs h ul fl τ n) (X : FXs G A S b m N pr tb z0 cs fo mo K F Ms hr σr M qs ps rs h ul fl τ n Sl fl') {I W : Nat → Prop} {h1 : om_H} {σ1 : tS} (T : tF pr I W h h1) (hI : ∀ y, I y → kd h y = 21) (hW : ∀ y, W y → kd h y = 58) (Fr : fr [452, 456] [726] τ σ1) : ∃ q : Nat → Nat → Int, (∀ f k, q f k ≤ 2000) ∧ ∀ (d f : Nat) (σ2 : tS), f + d = F.length → fr [452, 456] [] σ1 σ2 → bp σ2 = mnl (bp σ1) (gvAll fl' q f) → (gs σ2 452 = gs σ1 452 ∨ gs σ2 452 = 3) → ∃ σ3, om_loop (C_1_judgeInstances_321s G pr) ((f : Int), ruH h1 pr (gvAll fl' q f)) = some (ruH h1 pr (gvAll fl' q F.length)) ∧ om_loop T_third_381s ((f : Int), σ2) = some σ3 ∧ fr [452, 456] [] σ1 σ3 ∧ bp σ3 = mnl (bp σ1) (gvAll fl' q F.length) ∧ (gs σ3 452 = gs σ1 452 ∨ gs σ3 452 = 3) := by
  have X1 : hSg False Sl h h1 := tF_hS T (fun y z => by rw [hI y z]; decide) (fun y z => by rw [hW y z]; decide)
  have ty := RA_ty R T hI hW
  have CL := R.2.2.2.1.1.2.2.1
  have nd := RA_nd R
  have TTt := R.2.2.2.2.2.1.1.1.2.1
  have TYt := R.2.2.2.2.2.1.1.1.1.1
  have hS := R.1.2.2.2.2.2.2.1
  have iLs := R.1.2.2.2.2.2.2.2.1 90 (by simp)
  have g652 := R.1.2.2.2.2.2.2.2.2.2.2.1
  have efo := R.2.2.1.2.1
  have c652 : cntS F F.length = F.length := cntS_id (RA_F R) (Nat.le_refl _)
  obtain ⟨p1, p2, p3, _⟩ := T.2 pr CL.1.2
  obtain ⟨l1, l2, l3, l4, l5, l6, l7, l8⟩ := T.2 _ iLs.2.1
  have e90 : fR h1 90 pr = fR h 90 pr := p3 90 (fun z => by have := z.1; omega)
  have kp1 : kd h1 pr = 2 := by rw [p1]; exact CL.1.1
  have lfo : fo.length = F.length := by
    rw [efo, R.2.2.1.2.2.2.2.1]
    exact (LS_fold R.1.1 R.1.2.1 (Nat.le_refl _) qs ps (fun _ => []) z0 ([], [], [], [], [], 0) R.2.1.2.1 LS_nil).2.2.1.2.2.1
  -- places
  have Pl : ∀ f x, fl'[f]? = some x → ∃ (os : List Nat) (jt : Nat → Nat), chain τ (ga τ 606 x.1) os ∧ os.length = x.2.2.2.2.2.1.2.1.length ∧ ∀ (k o gx : Nat), os[k]? = some o → (ll h (fR h 166 (fR h 1542 (clF fo f))))[k]? = some gx → o < 8400 ∧ ga τ 542 o = ((b + jt k : Nat) : Int) ∧ tokk S (jt k) = 3 ∧ (fR h 1338 gx < hz h ∧ kd h (fR h 1338 gx) = 17 ∧ fI h 1188 (fR h 1338 gx) = (tokq S (jt k) : Int)) := fun f x e => by
    obtain ⟨_, _, _, FC, _, ⟨_, _, _, os, o1, o2, o3⟩, _⟩ := X.2 f x e
    have ll0 : (ll h (fR h 166 (fR h 1542 (clF fo f)))).length = x.2.2.2.2.2.1.2.1.length := FC.2.2.2.1.2.2.1.1
    obtain ⟨jl, j1, j2⟩ := lch (P := fun k (j : Nat) => ∀ (o gx : Nat), os[k]? = some o → (ll h (fR h 166 (fR h 1542 (clF fo f))))[k]? = some gx → o < 8400 ∧ ga τ 542 o = ((b + j : Nat) : Int) ∧ tokk S j = 3 ∧ (fR h 1338 gx < hz h ∧ kd h (fR h 1338 gx) = 17 ∧ fI h 1188 (fR h 1338 gx) = (tokq S j : Int))) os.length (fun k hk => by
      have e1 : os[k]? = some os[k] := List.getElem?_eq_getElem hk
      have e2 : (ll h (fR h 166 (fR h 1542 (clF fo f))))[k]? = some ((ll h (fR h 166 (fR h 1542 (clF fo f))))[k]'(by omega)) := List.getElem?_eq_getElem (by omega)
      obtain ⟨v1, j, v2, v3, v4⟩ := o3 k _ _ e1 e2
      refine ⟨j, fun o gx q1 q2 => ?_⟩
      rw [e1] at q1
      rw [e2] at q2
      rw [← Option.some.inj q1, ← Option.some.inj q2]
      exact ⟨v1, v2, v3, v4⟩)
    refine ⟨os, fun k => jl.getD k 0, o1, o2, fun k o gx q1 q2 => ?_⟩
    have kl := (List.getElem?_eq_some_iff.mp q1).1
    have e3 : jl[k]? = some (jl[k]'(by omega)) := List.getElem?_eq_getElem (by omega)
    have := j2 k _ e3 o gx q1 q2
    simp only [List.getD_eq_getElem?_getD, e3, Option.getD_some]
    exact this
  obtain ⟨jl, j1, j2⟩ := lch (P := fun f (jt : Nat → Nat) => ∀ x, fl'[f]? = some x → ∃ (os : List Nat), chain τ (ga τ 606 x.1) os ∧ os.length = x.2.2.2.2.2.1.2.1.length ∧ ∀ (k o gx : Nat), os[k]? = some o → (ll h (fR h 166 (fR h 1542 (clF fo f))))[k]? = some gx → o < 8400 ∧ ga τ 542 o = ((b + jt k : Nat) : Int) ∧ tokk S (jt k) = 3 ∧ (fR h 1338 gx < hz h ∧ kd h (fR h 1338 gx) = 17 ∧ fI h 1188 (fR h 1338 gx) = (tokq S (jt k) : Int))) F.length (fun f hf => by
    have e1 : fl'[f]? = some (fl'[f]'(by rw [X.1]; exact hf)) := List.getElem?_eq_getElem _
    obtain ⟨os, jt, a1, a2, a3⟩ := Pl f _ e1
    refine ⟨jt, fun x e2 => ?_⟩
    rw [e1] at e2
    rw [← Option.some.inj e2]
    exact ⟨os, a1, a2, a3⟩)
  obtain ⟨q, hq⟩ : ∃ q : Nat → Nat → Nat, ∀ f k, q f k = tokq S ((jl.getD f (fun _ => 0)) k) := ⟨_, fun _ _ => rfl⟩
  have hq2 : ∀ f k, q f k ≤ 2000 := fun f k => by rw [hq]; have := tok_le S ((jl.getD f (fun _ => 0)) k); omega
  refine ⟨fun f k => (q f k : Int), fun f k => by have := hq2 f k; show (q f k : Int) ≤ 2000; omega, ?_⟩
  intro d
  induction d with
  | zero =>
    intro f σ2 e F2 eb e4
    have ef : f = F.length := by omega
    subst ef
    refine ⟨σ2, om_loop_out ?_, om_loop_out ?_, F2, eb, e4⟩
    · unfold C_1_judgeInstances_321s P_J2_size
      simp only
      rw [gd_pos ⟨kp1, by show kd h1 (fR h1 90 pr) = 42; rw [e90, l1]; exact iLs.1⟩, gd_pos (by show kd h1 (fR h1 90 pr) = 42; rw [e90, l1]; exact iLs.1), Option.bind_some]
      show (if ((ll h1 (fR h1 90 pr)).length : Int) ≤ ((F.length : Nat) : Int) then _ else _) = _
      rw [e90, l7, iLs.2.2, ← efo, if_pos (by omega)]
    · unfold T_third_381s
      simp only
      rw [F2.1 652 (by simp), Fr.1 652 (by simp), g652, c652, if_pos (by omega)]
  | succ d ih =>
    intro f σ2 e F2 eb e4
    have fl0 : f < fl'.length := by rw [X.1]; omega
    have ex : fl'[f]? = some fl'[f] := List.getElem?_eq_getElem fl0
    generalize fl'[f] = x at ex
    obtain ⟨h24, ⟨k1, k2, k3, k5, k8, k9⟩, FT', FC, ⟨tm, _, gvs⟩, ⟨e730, _, _, _⟩, _⟩ := X.2 f x ex
    obtain ⟨jt, ejt⟩ : ∃ jt, jl[f]? = some jt := ⟨_, List.getElem?_eq_getElem (by omega)⟩
    obtain ⟨os, o1, o2, o3⟩ := j2 f jt ejt x ex
    have qf : ∀ k, q f k = tokq S (jt k) := fun k => by rw [hq, List.getD_eq_getElem?_getD, ejt]; rfl
    have F12 := fr_trans Fr (w26 F2)
    have i700 : x.1 < 700 := by
      have := (List.getElem?_eq_some_iff.mp k1).1
      have := R.2.1.2.2.2.1
      omega
    have gl4 : x.2.2.2.2.2.1.2.1.length ≤ 4 := FT'.2.2.1.2.1
    have ll0 : (ll h (fR h 166 (fR h 1542 (clF fo f)))).length = x.2.2.2.2.2.1.2.1.length := FC.2.2.2.1.2.2.1.1
    have GR : GvR σ2 n f x.2.2.2.2.2.1.1 x.2.2.2.2.2.1.2.1 := GvR_fr F12 (by simp) (fun j g e => by
      obtain ⟨u1, u2, u3, u4⟩ := FT'.2.2.1.2.2 j g e
      obtain ⟨_, _, v3, v4⟩ := gvs g (List.mem_of_getElem? e)
      refine ⟨u1, u3, u4, ?_⟩
      by_cases c : 100 ≤ g.1
      · have := (v3 c).2.2; omega
      · rw [v4.1 (by omega)]; decide)
    have n126 : n ≤ 126000 := TYt.1.2.1
    -- the twin
    obtain ⟨σ3, a1, a2, a3, a4⟩ := t_gvs (σ := σ2) (sc := x.2.2.2.2.2.1.1) (gv := x.2.2.2.2.2.1.2.1) (q := fun k => q f k) n126 h24 gl4 (hq2 f) os 0 (ga σ2 606 x.1) σ2 (by rw [F12.2 606 (by simp)]; exact chain_keep o1 (fun o _ => F12.2 562 (by simp) o)) (by omega) (fun j o e1 => by
      have jl' := (List.getElem?_eq_some_iff.mp e1).1
      obtain ⟨v1, v2, v3, v4⟩ := o3 j o _ e1 (List.getElem?_eq_getElem (by omega))
      obtain ⟨w, n1, n2, n3⟩ := t_nameAt TTt (j := jt j) (.inr v3)
      have tk := TT_tok TTt nd (.inr v3) n2
      refine ⟨v1, b + jt j, by rw [F12.2 542 (by simp)]; exact v2, tk.1, ?_⟩
      rw [F12.2 474 (by simp), tk.2.2, Nat.zero_add, qf]) GR (by rw [F12.2 746 (by simp)]; exact FT'.2.2.1.1) (fr_refl _ _ _) (.inl rfl) rfl
    have eA : gvAll fl' (fun f k => (q f k : Int)) (f + 1) = gvAll fl' (fun f k => (q f k : Int)) f ++ gvBs x.2.2.2.2.2.1.2.1 (fun k => (q f k : Int)) x.2.2.2.2.2.1.2.1.length := by
      show _ ++ (fl'[f]?).elim [] _ = _
      rw [ex]; rfl
    have w1 : w32 (4 * (f : Int)) = ((4 * f + 0 : Nat) : Int) := by rw [w32_s (by omega) (by omega)]; omega
    have wk : w32 ((f : Int) + 1) = ((f + 1 : Nat) : Int) := by rw [w32_s (by omega) (by omega)]; rfl
    have sT : T_third_381s ((f : Int), σ2) = some (.inl (((f + 1 : Nat) : Int), σ3)) := by
      unfold T_third_381s
      simp only
      rw [F2.1 652 (by simp), Fr.1 652 (by simp), g652, c652, if_neg (by omega), show ((f : Int)).toNat = f by omega, F12.2 730 (by simp), e730, if_pos (by omega), show ((x.1 : Int)).toNat = x.1 by omega, w1, a1, Option.bind_some, wk]
    -- the component
    have fo1 := FC.1
    obtain ⟨c1, c2, c3, _⟩ := T.2 _ fo1.2.1
    have e1542 : fR h1 1542 (clF fo f) = fR h 1542 (clF fo f) := c3 1542 (fun z => by have := z.1; omega)
    have V := FC.2.2.2.1
    have V1 : GVC h1 N (clF cs) (UU ul []) Sl (fR h 1542 (clF fo f)) x.2.2.2.2.2.1.2.1 := GVC_hS X1 ty V
    obtain ⟨s1, s2, s3, _⟩ := T.2 _ V.1.1
    have e166 : fR h1 166 (fR h 1542 (clF fo f)) = fR h 166 (fR h 1542 (clF fo f)) := s3 166 (fun z => by have := z.1; omega)
    have ell : ll h1 (fR h 166 (fR h 1542 (clF fo f))) = ll h (fR h 166 (fR h 1542 (clF fo f))) := (T.2 _ V.2.1.2.1).2.2.2.2.2.2.1
    have P1 : GvP h1 (fR h 1542 (clF fo f)) (fun k => q f k) := fun k gx e2 => by
      rw [e166, ell] at e2
      have kl := (List.getElem?_eq_some_iff.mp e2).1
      obtain ⟨v1, v2, v3, v4, v5, v6⟩ := o3 k _ gx (List.getElem?_eq_getElem (by omega)) e2
      have xl : gx < hz h := (V.2.2.2 k gx _ e2 (List.getElem?_eq_getElem (by omega))).1.1
      have e38 : fR h1 1338 gx = fR h 1338 gx := (T.2 gx xl).2.2.1 1338 (fun z => by have := z.1; omega)
      obtain ⟨r1, r2, _⟩ := T.2 _ v4
      have zz := T.1.1
      rw [e38]
      refine ⟨by omega, by rw [r1]; exact v5, ?_⟩
      rw [r2 1188 (fun z => by have := z.1; omega), v6]
      show _ = (q f k : Int)
      rw [qf]
    have cj := c_jgv (G := G) (B := gvAll fl' (fun f k => (q f k : Int)) f) nd kp1 V1 (fun g hg g100 => ((gvs g hg).2.2.1 g100).1) P1 x.2.2.2.2.2.1.2.1.length 0 (by omega)
    have cj' : om_loop (C_1_judgeGivens_2s G pr (fR h1 166 (fR h 1542 (clF fo f)))) (0, ruH h1 pr (gvAll fl' (fun f k => (q f k : Int)) f)) = some (ruH h1 pr (gvAll fl' (fun f k => (q f k : Int)) (f + 1))) := by
      rw [eA]
      have z0' : gvBs x.2.2.2.2.2.1.2.1 (fun k => (q f k : Int)) 0 = [] := rfl
      rw [z0', List.append_nil] at cj
      exact cj
    have efo' : fo[f]? = some (clF fo f) := by
      have e9 : fo[f]? = some (fo[f]'(by omega)) := List.getElem?_eq_getElem (by omega)
      rw [e9]
      unfold clF
      rw [List.getD_eq_getElem?_getD, e9]; rfl
    generalize gvAll fl' (fun f k => (q f k : Int)) f = D at *
    have sC : C_1_judgeInstances_321s G pr ((f : Int), ruH h1 pr D) = some (.inl (((f + 1 : Nat) : Int), ruH h1 pr (gvAll fl' (fun f k => (q f k : Int)) (f + 1)))) := by
      unfold C_1_judgeInstances_321s P_J2_size P_J2_get
      simp only
      have k90 : kd (ruH h1 pr D) (fR (ruH h1 pr D) 90 pr) = 42 := by
        show kd h1 (fR h1 90 pr) = 42
        rw [e90, l1]; exact iLs.1
      have ll90 : ll (ruH h1 pr D) (fR (ruH h1 pr D) 90 pr) = fo := by
        show ll h1 (fR h1 90 pr) = fo
        rw [e90, l7, iLs.2.2, ← efo]
      have k33 : kd (ruH h1 pr D) (clF fo f) = 33 := by
        show kd h1 (clF fo f) = 33
        rw [c1]; exact fo1.2.2.1
      have k5' : kd (ruH h1 pr D) (fR (ruH h1 pr D) 1542 (clF fo f)) = 5 := by
        show kd h1 (fR h1 1542 (clF fo f)) = 5
        rw [e1542, s1]; exact V.1.2
      rw [gd_pos ⟨kp1, k90⟩, gd_pos k90, ll90, Option.bind_some, if_neg (by omega), gd_pos ⟨kp1, k90⟩, gd_pos ⟨k90, by omega⟩, show ((f : Int)).toNat = f by omega, efo', Option.bind_some, gd_pos ⟨.inr k33, k33, k5', kp1⟩]
      unfold C_1_judgeGivens
      show (((om_loop (C_1_judgeGivens_2s G pr (fR h1 166 (fR h1 1542 (clF fo f)))) (0, ruH h1 pr D)).bind fun y1 => some y1).bind fun p3 => some (Sum.inl (w32 ((f : Int) + 1), p3))) = _
      rw [e1542, cj', Option.bind_some, Option.bind_some, wk]
    obtain ⟨σ4, r1, r2, r3, r4, r5⟩ := ih (f + 1) σ3 (by omega) (fr_trans F2 a2) (by rw [eA, mnl_app, ← eb]; exact a3) (by
      rcases a4 with e | e
      · rw [e]; exact e4
      · exact .inr e)
    exact ⟨σ4, by rw [om_loop_in sC]; exact r1, by rw [om_loop_in sT]; exact r2, r3, r4, r5⟩
end LTF2
