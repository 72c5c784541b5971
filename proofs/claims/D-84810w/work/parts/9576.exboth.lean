set_option maxRecDepth 100000
/-! A JUDGED EX IS TOLD, in both -/
theorem hSF_trans {Sl : Nat → Prop} {h h1 h2 : om_H} (A : hSg False Sl h h1) (B : hS Sl h1 h2) : hSg False Sl h h2 := by
  refine ⟨Nat.le_trans A.1 B.1, fun a ha => (B.2.1 a (Nat.lt_of_lt_of_le ha A.1)).trans (A.2.1 a ha), fun a ha hk => ?_, fun a ha hk => ?_, fun a ha w => (B.2.2.2.2 a (Nat.lt_of_lt_of_le ha A.1) w).trans (A.2.2.2.2 a ha w)⟩
  · have a1 := A.2.2.1 a ha hk
    have b1 := B.2.2.1 a (Nat.lt_of_lt_of_le ha A.1) (by rw [A.2.1 a ha]; exact hk)
    exact ⟨fun f hf => (b1.1 f hf).trans (a1.1 f hf), fun f hf => (b1.2 f hf).trans (a1.2 f hf)⟩
  · have k50 : kd h a = 50 := hk.elim (fun w => w) (fun w => w.1.elim)
    have a1 := A.2.2.2.1 a ha (.inl k50)
    have b1 := B.2.2.2.1 a (Nat.lt_of_lt_of_le ha A.1) (.inl (by rw [A.2.1 a ha]; exact k50))
    exact ⟨⟨b1.1.1.trans a1.1.1, fun k => (b1.1.2.1 k).trans (a1.1.2.1 k), fun k => (b1.1.2.2 k).trans (a1.1.2.2 k)⟩, b1.2.trans a1.2⟩
section LEB
variable {G : om_G} {A : Nat} {S : List Int} {b m : Nat} {N : List (List Int)} {pr tb z0 : Nat} {cs fo : List Nat} {mo : List (List Nat)} {K : KT} {F : FT} {Ms : List FT} {hr : om_H} {σr : tS} {M : Nat} {qs : List dcl} {ps : List PD} {rs : List (Nat × Nat × Nat × Nat)} {h h' : om_H} {ul fl us' fs' : List Nat} {τ σ' : tS} {n n' : Nat} {Sl Sl0 Sl' : Nat → Prop} {cl : List Cp} {il : List IX} {fl' : List FX} {g : Prop} {Lp l0 pv te s tm : Nat} {Dk' : Nat → Prop} {ds' : List Nat} {dm' : Nat}
theorem ex_both (R : RA G A S b m N pr tb z0 cs fo mo K F Ms hr σr M qs ps rs h ul fl τ n) (X : AX G A S b m N pr tb z0 cs fo mo K F Ms hr σr M qs ps rs h ul fl τ n Sl0 cl il) (XS : hSg g Sl0 h h') (kp : ∀ T a, tyC h N (clF cs) (UU ul []) T a → tyC h' N (clF cs) (UU us' []) T a) (TN : TwN σ' N cl) {E : JE} (P : PgT h' N (clF cs) (hFam K) (nmN N) cnN (fmN K) (kcN K) (ioF il) tb Lp Dk' E) (TR : TlR G h' N (clF cs) tb l0 us' fs' [] pv Lp te s tm) {sc : Nat} (Q : PrgC h' N (clF cs) tb sc us' [] (fun a => Sl' a ∧ a ≠ Lp) (ioF il) E.2.2.1 E.2.2.2.1 E.2.2.2.2 Lp) (m0 : ∀ a, Sl0 a → Sl' a) (n0 : ¬ Sl0 Lp) {e : Et} {t : Xt} {T : Ty} {s1 s2 : JS} {dp x alo ahi lo0 H0 lo hi v : Nat} (XC : XCg Prod.fst (PhJ N (clF cs) [] (ioF il) E lo0 H0 Sl' h' us' Dk' ds' dm') G h' N (clF cs) (UU us' []) Sl' (clF fo) (moF mo) e 0 dp 0 0 x alo ahi) (X0 : XCg id (Ph0 h) G h N (clF cs) (UU ul []) Sl0 (clF fo) (moF mo) t 0 dp 0 0 x alo ahi) (hd : dp ≤ 129) (XL : ExL E t) (J1 : JdE E t T s1 e s2) (xq : xlQ (allH (hFam K)) t) (hT : allH (hFam K) T) (sm : eSm e t) (ty : eTy e ≠ .leaf) (en : eN e) (kC : eK E (QC h' N (clF cs) (UU us' [])) e) (kT : eK E (QN σ' n') e) (XE : XTe σ' n' e lo hi v) (XQ : XTq σ' n' t lo hi v) (rd : xrd t < 130) : ExO σ' n' E (nmN N) cnN (fmN K) e v ∧ BdT G h' N (clF cs) tb l0 sc us' fs' [] (fun a => Sl' a ∧ a ≠ Lp) (ioF il) E.2.2.1 E.2.2.2.1 E.2.2.2.2 pv Lp te s tm x 0 (exB (nmN N) cnN (fmN K) (kcN K) E.2.2.1 E.2.2.2.1 E.2.2.2.2 e []) := by
  have hL : ∀ y ∈ ll h' Lp, kd h' y = 39 := fun y hy => (TR.2.2.2.1.2.2.2.1.2.2.1 y hy).2.2
  have X2 := XC_shape XS kp X0
  have Xt := XCt_sh sm m0 n0 hL XC X2
  have eh := JdE_H P.2.1.1.1 P.2.1.2.1 XL xq hT J1
  obtain ⟨⟨et, eg, en'⟩, B⟩ := ex_term TR P Q Xt hd sm XL en kC eh ty
  exact ⟨exo_of (hO_of R X TN) TN et eg en' eh sm rd XE XQ kT ty, B⟩
end LEB
/-- ALL IS JUDGED, as it is known behind judging -/
def JDn (G : om_G) (A : Nat) (S : List Int) (b m : Nat) (N : List (List Int)) (pr tb z0 : Nat) (cs fo : List Nat) (mo : List (List Nat)) (K : KT) (F : FT) (Ms : List FT) (hr : om_H) (σr : tS) (M : Nat) (qs : List dcl) (ps : List PD) (rs : List (Nat × Nat × Nat × Nat)) (h : om_H) (ul fl : List Nat) (τ : tS) (n : Nat) (Sl Sl0 : Nat → Prop) (cl : List Cp) (il : List IX) (fl' : List FX) (Lp : Nat) (h' : om_H) (us' : List Nat) (Dk' : Nat → Prop) (ds' : List Nat) (dm' : Nat) (σ' : tS) (n' : Nat) (l : List JB) (Sl' : Nat → Prop) (lo : Nat) (ess : List (List Et)) (s0 s' : JS) : Prop := (RA G A S b m N pr tb z0 cs fo mo K F Ms hr σr M qs ps rs h ul fl τ n ∧ AX G A S b m N pr tb z0 cs fo mo K F Ms hr σr M qs ps rs h ul fl τ n Sl0 cl il ∧ FXs G A S b m N pr tb z0 cs fo mo K F Ms hr σr M qs ps rs h ul fl τ n Sl0 fl' ∧ TOk cl il ∧ ∀ (f : Nat) (x : FX), fl'[f]? = some x → gvOk x.2.2.2.2.2.1.2.1) ∧ (l.length = qs.length ∧ ∀ (i : Nat) (j : JB), l[i]? = some j → DJ G S N cs fo mo ps rs h ul τ n Sl0 Sl cl il fl' (hz h) i j) ∧ (hSg False Sl0 h h' ∧ ∀ T a, tyC h N (clF cs) (UU ul []) T a → tyC h' N (clF cs) (UU us' []) T a) ∧ (jjs (fnS fl') (mtS cl) (abS cl) (inS il) l s0 = some (.inr (ess, s')) ∧ JbsJ G N (clF cs) [] (ioF il) (clF fo) (moF mo) (fnS fl') (mtS cl) (abS cl) (inS il) lo (hz h) h' us' Dk' ds' dm' Sl' l ess 0 ∧ (∀ X ∈ s'.2, QC h' N (clF cs) (UU us' []) X) ∧ ∀ X ∈ s'.2, QN σ' n' X) ∧ (TJ σ' n' (fnS fl', mtS cl, abS cl, inS il, []) s' ∧ JbsTJ σ' n' l ess ∧ JbsT (fnS fl') (mtS cl) (abS cl) (inS il) σ' n' l 0 0 0 ∧ fr JAS (726 :: JAA) τ σ' ∧ tx τ n σ' n' ∧ TwN σ' N cl ∧ (l ≠ [] → gs σ' 856 = 0) ∧ n' ≤ 110000) ∧ ((∀ a, Sl0 a → Sl' a) ∧ ¬ Sl0 Lp ∧ (∀ a, Sl' a → a < hz h' ∧ kd h' a = 42) ∧ fR h' 122 tb ≠ 0 ∧ ¬ Sl' (fR h' 122 tb) ∧ ∀ c, clF cs c < hz h') ∧ (PGC h' N (clF cs) (UU us' []) Sl0 (ioF il) (abS cl) (inS il) ∧ (∀ t ∈ ssA h il fl', GVC h' N (clF cs) (UU us' []) Sl0 t.1 t.2) ∧ JCE N (clF cs) (clF fo) (moF mo) (fnS fl', mtS cl, abS cl, inS il, []) h' (UU us' []) Sl0 ∧ JPr h' tb pr Sl0 (ioF il) (clF fo) il.length F.length) ∧ AbD h' N (clF cs) (UU us' []) (Dl3 Dk' ds' 0 dm') (ioF il) (abS cl) (inS il) (inS il).length ∧ DkL h' tb Lp Dk' ∧ (∃ pls : List Nat, pls.length = (inS il).length ∧ abJ (abS cl) (inS il) ((inS il).zip pls) (0, []) = some (.inr s0)) ∧ ∀ (j : Nat) (x : IX) (y : Cp), il[j]? = some x → cl[x.2.2.2.2.1.1]? = some y → ∀ m, m < 4 → ga σ' 726 (4 * j + m) = lnV (lnA y.2.2.2.2 0 [] x.2.2.2.2.2.2.2.1) m (fun k => (pvF τ x.2.2.2.2.2.2.2.2 k : Int)) (-1)
section LFB
variable {G : om_G} {A : Nat} {S : List Int} {b m : Nat} {N : List (List Int)} {pr tb z0 : Nat} {cs fo : List Nat} {mo : List (List Nat)} {K : KT} {F : FT} {Ms : List FT} {hr : om_H} {σr : tS} {M : Nat} {qs : List dcl} {ps : List PD} {rs : List (Nat × Nat × Nat × Nat)} {h h' : om_H} {ul fl us' fs' : List Nat} {τ σ' : tS} {n n' : Nat} {Sl Sl0 Sl' : Nat → Prop} {cl : List Cp} {il : List IX} {fl' : List FX} {Lp l0 pv te s tm lo : Nat} {Dk' : Nat → Prop} {ds' : List Nat} {dm' : Nat} {l : List JB} {ess : List (List Et)} {s0 s' : JS}
/-- the program, as the teller sees it from a scope -/
theorem prg_at (D : JDn G A S b m N pr tb z0 cs fo mo K F Ms hr σr M qs ps rs h ul fl τ n Sl Sl0 cl il fl' Lp h' us' Dk' ds' dm' σ' n' l Sl' lo ess s0 s') {sc : Nat} {gv : List GVs} (V : GVC h' N (clF cs) (UU us' []) Sl0 sc gv) : PrgC h' N (clF cs) tb sc us' [] (fun a => Sl' a ∧ a ≠ Lp) (ioF il) (abS cl) (inS il) gv Lp := by
  obtain ⟨_, _, _, _, _, ⟨m0, n0, hSk, t0, tS', hc⟩, ⟨PG, _⟩, _⟩ := D
  have m' : ∀ a, Sl0 a → Sl' a ∧ a ≠ Lp := fun a w => ⟨m0 a w, fun z => n0 (by rw [← z]; exact w)⟩
  exact ⟨⟨t0, fun w => tS' w.1, fun a w => hSk a w.1, hc⟩, PGC_more m' PG, GVC_more m' V, fun w => w.2 rfl⟩
/-- names of a row are names in the twin -/
theorem nms_tw (TN : TwN σ' N cl) {Ln : Nat} {ns : List Nat} (W : WNs h' N Ln ns) : ∀ w ∈ ns, w < 2100 ∧ nmT σ' w (nmN N w) := fun w hw => by
  obtain ⟨i, hi, ei⟩ := List.getElem_of_mem hw
  obtain ⟨_, w2, _, w4⟩ := W
  obtain ⟨_, L, e, _⟩ := w4 i _ w (List.getElem?_eq_getElem (by omega)) (by rw [List.getElem?_eq_getElem hi, ei])
  rw [nmN_e e]
  exact TN.1 w L e
set_option maxHeartbeats 1000000 in
/-- A FUNCTION IS TOLD, in both -/
theorem fn_both (D : JDn G A S b m N pr tb z0 cs fo mo K F Ms hr σr M qs ps rs h ul fl τ n Sl Sl0 cl il fl' Lp h' us' Dk' ds' dm' σ' n' l Sl' lo ess s0 s') (TR : TlR G h' N (clF cs) tb l0 us' fs' [] pv Lp te s tm) {f : Nat} {x : FX} (e : fl'[f]? = some x) : ∃ (j : JB) (e0 : Et), l[x.1]? = some j ∧ j.1 = 2 ∧ c2J (l.take x.1) = f ∧ j.2.2.2.1.1 = x.2.2.2.2.2.1.2.1 ∧ ess[x.1]? = some [e0] ∧ FnsA σ' n' (fnS fl') (mtS cl) (abS cl) (inS il) (nmN N) cnN (fmN K) (kcN K) 2700 f x.2.2.2.2.2.1 e0 ∧ (clF fo f < hz h' ∧ kd h' (clF fo f) = 33) ∧ TermC G h' N (clF cs) tb l0 us' fs' [] (fun a => Sl' a ∧ a ≠ Lp) (ioF il) (abS cl) (inS il) pv Lp te s tm (nmN N) cnN (fmN K) (kcN K) (fR h' 1542 (clF fo f)) x.2.2.2.2.2.1.1 x.2.2.2.2.2.1.2.1 (fR h' 1554 (clF fo f)) 0 (exB (nmN N) cnN (fmN K) (kcN K) (abS cl) (inS il) x.2.2.2.2.2.1.2.1 e0 []) := by
  have D0 := D
  obtain ⟨⟨R, X, Xf, O, Og⟩, ⟨hl, H⟩, ⟨XS, kp⟩, ⟨jj, JJ, qC, qN⟩, ⟨TJ', JT2, JT1, Fr, TX, TN, _⟩, ⟨m0, n0, hSk, t0, tS', hc⟩, ⟨PG, GV, JC, Pr⟩, AD, Dl, _⟩ := D
  obtain ⟨j, ej, j2, cj, g1, g2⟩ := fn_job R Xf hl H e
  obtain ⟨el, Ja⟩ := JbsJ_at JJ
  have kl := (List.getElem?_eq_some_iff.mp ej).1
  have ees : ess[x.1]? = some (ess[x.1]'(by omega)) := List.getElem?_eq_getElem _
  obtain ⟨es, eqs⟩ : ∃ es, ess[x.1]? = some es := ⟨_, ees⟩
  obtain ⟨Jf, _⟩ := Ja x.1 j es ej eqs
  obtain ⟨e0, ee, ⟨fo1, fo2⟩, XC⟩ := Jf j2
  rw [Nat.zero_add, cj] at fo1 fo2 XC
  have hJL : ∀ q ∈ l, JbL (fnS fl') (mtS cl) (abS cl) (inS il) q := fun q hq => by
    obtain ⟨i, hi, ei⟩ := List.getElem_of_mem hq
    exact (jbl_of R X Xf O Og (H i q (by rw [List.getElem?_eq_getElem hi, ei]))).1
  have one : ∀ {y : Et}, es = [y] → e0 = y := fun w => by
    rw [ee] at w
    injection w with w1 w2
  obtain ⟨ec, c1, c2, c3, c4, c5⟩ := ((jjs_at (Q := QC h' N (clF cs) (UU us' [])) hJL jj).2.2 qC x.1 j es ej eqs).1 j2
  obtain ⟨et, d1, d2, d3, d4, d5⟩ := ((jjs_at (Q := QN σ' n') hJL jj).2.2 qN x.1 j es ej eqs).1 j2
  obtain ⟨ed, s1, s2, i1, i2⟩ := (jjs_jd jj x.1 j es ej eqs).1 j2
  have q1 := one c1
  have q2 := one d1
  have q3 := one i1
  subst q1
  subst q2
  subst q3
  obtain ⟨bl, b2, _⟩ := jbl_of R X Xf O Og (H x.1 j ej)
  obtain ⟨_, ExLj, _⟩ := bl.1 j2
  obtain ⟨xq, hT⟩ := b2 j2
  obtain ⟨⟨_, k7⟩, T2, _⟩ := JbsT_at JT1 x.1 j ej
  obtain ⟨w', x', y, ly, _, e622, XQ, _, _, _, _, _, rd, _⟩ := T2 j2
  rw [Nat.zero_add] at e622 k7
  obtain ⟨_, TE⟩ := JbsTJ_at JT2 x.1 j es ej eqs (.inl j2)
  have XE := TE 0 y e0 (by rw [ly]; rfl) (by rw [ee]; rfl)
  obtain ⟨_, ⟨p1, p2, p3, p4, p5, p6⟩, fT, fCo, ⟨_, _, gq⟩, ⟨e730, _⟩, _⟩ := Xf.2 f x e
  -- the function's own things
  have fx : (fnS fl')[f]? = some x.2.2.2.2.2.1 := by unfold fnS; rw [List.getElem?_map, e]; rfl
  obtain ⟨_, ⟨sN, WN⟩, GC, tC⟩ := JC.1 f _ fx
  have V := gvG_fn (h1 := h') (us := us') R X Xf O Og XS kp e
  have P := pgt_of R X Xf O Og XS kp Dl V
  have Q := prg_at D0 GC
  have FT' : FnT σ' n' f x.2.2.2.2.1 x.2.2.2.2.2.1 := FnT_keepA (fun a ha i => Fr.2 a ((by decide : ∀ a ∈ [734, 738, 742, 746, 750, 754, 758, 762], a ∉ 726 :: JAA) a ha) i) TX fT
  obtain ⟨_, _, _, _, _, f2, _⟩ := H x.1 j ej
  obtain ⟨⟨_, _, X0, _, _, dp9, _⟩, _⟩ := f2 j2
  have fc : fC S ps x.1 = f := p5
  rw [fc] at X0
  have k33 : kd h (clF fo f) = 33 := fCo.1.2.2.1
  have st := (XS.2.2.1 _ fCo.1.2.1 (by rw [k33]; decide)).2
  rw [← st 1554 (by decide)] at X0
  rw [g1] at XC i2 ExLj c5 d5
  obtain ⟨EO, BD⟩ := ex_both (E := (fnS fl', mtS cl, abS cl, inS il, x.2.2.2.2.2.1.2.1)) R X XS kp TN P TR Q m0 n0 XC X0 dp9 ExLj i2 xq hT c2 c3 c4 c5 d5 XE XQ rd
  have Gv : GvA σ' (fnS fl') (mtS cl) (abS cl) (inS il) (nmN N) cnN (fmN K) (kcN K) 2700 x.2.2.2.2.2.1.2.1 := gva_of R X TN P V GC
  refine ⟨j, e0, ej, j2, cj, g1, by rw [eqs, ee], ⟨_, x.1, _, FT', Gv, nms_tw TN WN, ⟨by rw [Fr.2 730 (by decide)]; exact e730, k7⟩, e622, EO⟩, ⟨fo1, fo2⟩, Q, P.2.2.1, V.1.2.1, ?_, BD⟩
  have e166 : fR h' 166 (fR h 1542 (clF fo f)) = fR h 166 (fR h 1542 (clF fo f)) := (XS.2.2.1 _ fCo.2.2.2.1.1.1 (by rw [fCo.2.2.2.1.1.2]; decide)).2 166 (by decide)
  refine sct_of P.1 V GC ⟨sN, WN⟩ (fun w => tS' (m0 _ w)) n0 (fun i y gg ey eg => ?_)
  rw [st 1542 (by decide), e166, XS.2.2.2.2 _ fCo.2.2.2.1.2.1.2.1 fCo.2.2.2.1.2.1.1] at ey
  have lt := (List.getElem?_eq_some_iff.mp e).1
  have ky := (fCo.2.2.2.1.2.2.2 i y gg ey eg).1
  exact gwC_hS XS ky (fn_gw R (by rw [← Xf.1]; exact lt) i y gg.1 ey (fT.2.2.1.2.2 i gg eg).1)
end LFB
