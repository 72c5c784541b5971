set_option maxRecDepth 100000
/-! A JUDGED PROGRAM IS SAID AND MEASURED, in both -/
section LTB
variable {G : om_G} {A : Nat} {S : List Int} {b m : Nat} {N : List (List Int)} {pr tb z0 : Nat} {cs fo : List Nat} {mo : List (List Nat)} {K : KT} {F : FT} {Ms : List FT} {hr : om_H} {σr : tS} {M : Nat} {qs : List dcl} {ps : List PD} {rs : List (Nat × Nat × Nat × Nat)} {h h' : om_H} {ul fl us' fs' : List Nat} {τ σ' : tS} {n n' : Nat} {Sl Sl0 Sl' : Nat → Prop} {cl : List Cp} {il : List IX} {fl' : List FX} {Lp l0 pv te s tm lo m0 : Nat} {Dk' : Nat → Prop} {ds' : List Nat} {dm' : Nat} {l : List JB} {ess : List (List Et)} {s0 s' : JS}
/-- functions of the program, judged -/
theorem fs_all (D : JDn G A S b m N pr tb z0 cs fo mo K F Ms hr σr M qs ps rs h ul fl τ n Sl Sl0 cl il fl' Lp h' us' Dk' ds' dm' σ' n' l Sl' lo ess s0 s') (TR : TlR G h' N (clF cs) tb l0 us' fs' [] pv Lp te s tm) : (eF l ess).length = fl'.length ∧ ∀ (f : Nat) (j : JB) (e : Et), (eF l ess)[f]? = some (j, e) → ∃ x, fl'[f]? = some x ∧ j.2.2.2.1.1 = x.2.2.2.2.2.1.2.1 ∧ FnsA σ' n' (fnS fl') (mtS cl) (abS cl) (inS il) (nmN N) cnN (fmN K) (kcN K) 2700 f x.2.2.2.2.2.1 e ∧ (clF fo f < hz h' ∧ kd h' (clF fo f) = 33) ∧ TermC G h' N (clF cs) tb l0 us' fs' [] (fun a => Sl' a ∧ a ≠ Lp) (ioF il) (abS cl) (inS il) pv Lp te s tm (nmN N) cnN (fmN K) (kcN K) (fR h' 1542 (clF fo f)) x.2.2.2.2.2.1.1 x.2.2.2.2.2.1.2.1 (fR h' 1554 (clF fo f)) 0 (exB (nmN N) cnN (fmN K) (kcN K) (abS cl) (inS il) x.2.2.2.2.2.1.2.1 e []) := by
  have D0 := D
  obtain ⟨⟨R, X, Xf, O, Og⟩, ⟨hl, H⟩, _, ⟨jj, JJ, _⟩, _⟩ := D
  have el := (JbsJ_at JJ).1
  have lp := R.2.1.2.2.1
  have one : ∀ (k : Nat) (j : JB) (es : List Et), l[k]? = some j → ess[k]? = some es → j.1 = 2 → ∃ e, es = [e] := fun k j es e1 e2 w => by
    obtain ⟨e, _, _, h1, _⟩ := (jjs_jd jj k j es e1 e2).1 w
    exact ⟨e, h1⟩
  obtain ⟨f1, f2⟩ := eF_len el one
  have cn : c2J l = fl'.length := by
    have := (cnt_at H l.length (Nat.le_refl _)).1
    rw [List.take_length, hl, ← lp, fC_all R] at this
    rw [← this, Xf.1]
  refine ⟨by rw [f1, cn], fun f j e ef => ?_⟩
  obtain ⟨k, k1, k2, k3, k4⟩ := f2 f j e ef
  have kl := (List.getElem?_eq_some_iff.mp k1).1
  have fk : fC S ps k = f := by rw [(cnt_at H k (by omega)).1]; exact k4
  obtain ⟨x, ex, xk, g1, _⟩ := job_fn R Xf (H k j k1) k2
  rw [fk] at ex
  obtain ⟨j', e', ej', _, _, _, ee', FA, ko, TC⟩ := fn_both D0 TR ex
  rw [xk, k3] at ee'
  have e2 : e = e' := by
    injection Option.some.inj ee' with w1 _
  rw [← e2] at FA TC
  exact ⟨x, ex, g1, FA, ko, TC⟩
/-- insts of the program, judged -/
theorem is_all (D : JDn G A S b m N pr tb z0 cs fo mo K F Ms hr σr M qs ps rs h ul fl τ n Sl Sl0 cl il fl' Lp h' us' Dk' ds' dm' σ' n' l Sl' lo ess s0 s') (L : lt10 (nmN N) cnN (fmN K) (kcN K)) (TR : TlR G h' N (clF cs) tb l0 us' fs' [] pv Lp te s tm) (hm0 : m0 < hz h' ∧ kd h' m0 = 1 ∧ fR h' 54 m0 = te) (hm : tm < hz h') : (eI l ess).length = il.length ∧ ∀ (i : Nat) (j : JB) (es : List Et), (eI l ess)[i]? = some (j, es) → ∃ (x : IX) (es' : List Et), il[i]? = some x ∧ j.2.2.2.2.1 = x.2.2.2.2.1 ∧ es.length ≤ 4 ∧ InsA σ' n' (fnS fl') (mtS cl) (abS cl) (inS il) (nmN N) cnN (fmN K) (kcN K) 2700 i x.2.2.2.2.1 es' (odA (abS cl) (inS il) x.2.2.2.2.1) ∧ (es'.map (fun e => (lnTB (nmN N) cnN (fmN K) (kcN K) (abS cl) (inS il) x.2.2.2.2.1 e).length)).sum = (es.map (fun e => (lnTB (nmN N) cnN (fmN K) (kcN K) (abS cl) (inS il) x.2.2.2.2.1 e).length)).sum ∧ ((∀ e ∈ es, (lnTB (nmN N) cnN (fmN K) (kcN K) (abS cl) (inS il) x.2.2.2.2.1 e).length < 1000000000) → odL (nmN N) cnN (fmN K) (kcN K) (abS cl) (inS il) x.2.2.2.2.1 < 1000000000 → InsL G N (clF cs) tb l0 us' fs' [] pv Lp te s tm m0 pr h' (ioF il i) (odL (nmN N) cnN (fmN K) (kcN K) (abS cl) (inS il) x.2.2.2.2.1, es.map (fun e => (lnTB (nmN N) cnN (fmN K) (kcN K) (abS cl) (inS il) x.2.2.2.2.1 e).length))) := by
  have D0 := D
  obtain ⟨⟨R, X, Xf, O, Og⟩, ⟨hl, H⟩, _, ⟨jj, JJ, _⟩, _⟩ := D
  have el := (JbsJ_at JJ).1
  have lp := R.2.1.2.2.1
  obtain ⟨f1, f2⟩ := eI_len el
  have cn : c6J l = il.length := by
    have := (cnt_at H l.length (Nat.le_refl _)).2
    rw [List.take_length, hl, ← lp, iC_all X] at this
    exact this.symm
  refine ⟨by rw [f1, cn], fun i j es ef => ?_⟩
  obtain ⟨k, k1, k2, k3, k4⟩ := f2 i j es ef
  have kl := (List.getElem?_eq_some_iff.mp k1).1
  have fk : iC S ps k = i := by rw [(cnt_at H k (by omega)).2]; exact k4
  obtain ⟨x, ex, xk, g1⟩ := job_in X (H k j k1) k2
  rw [fk] at ex
  obtain ⟨j', e1, es', ej', _, _, _, ee', l4, IA, sm, IL⟩ := in_both D0 L TR hm0 hm ex
  rw [xk, k3] at ee'
  have e2 : es = e1 := Option.some.inj ee'
  rw [← e2] at l4 sm IL
  exact ⟨x, es', ex, g1, l4, IA, sm, IL⟩
set_option maxHeartbeats 1000000 in
/-- ALL IS SAID AND MEASURED -/
theorem tell_both (D : JDn G A S b m N pr tb z0 cs fo mo K F Ms hr σr M qs ps rs h ul fl τ n Sl Sl0 cl il fl' Lp h' us' Dk' ds' dm' σ' n' l Sl' lo ess s0 s') (L : lt10 (nmN N) cnN (fmN K) (kcN K)) (TR : TlR G h' N (clF cs) tb l0 us' fs' [] pv Lp te s tm) (Mn : MnP h' m0 tm te pr) {l2 : Int} : ∃ (fs : List ((List Nat × List GVs × Ty) × Et)) (is : List (INs × List Et × Option Dc)) (tot : Nat), (fs.map Prod.fst = fnS fl' ∧ is.map Prod.fst = inS il) ∧ tot = (tmB (fnsB (nmN N) cnN (fmN K) (kcN K) (abS cl) (inS il) 0 fs ++ inssB (nmN N) cnN (fmN K) (kcN K) (abS cl) (inS il) 0 is)).length ∧ TeB σ' n' (fnS fl') (mtS cl) (abS cl) (inS il) (nmN N) cnN (fmN K) (kcN K) ∧ (∀ (f : Nat) (p : (List Nat × List GVs × Ty) × Et), fs[f]? = some p → FnsA σ' n' (fnS fl') (mtS cl) (abS cl) (inS il) (nmN N) cnN (fmN K) (kcN K) 2700 f p.1 p.2) ∧ (∀ (i : Nat) (p : INs × List Et × Option Dc), is[i]? = some p → InsA σ' n' (fnS fl') (mtS cl) (abS cl) (inS il) (nmN N) cnN (fmN K) (kcN K) 2700 i p.1 p.2.1 p.2.2) ∧ (∃ σa σ2, TmsK σa (fnsB (nmN N) cnN (fmN K) (kcN K) (abS cl) (inS il) 0 fs ++ inssB (nmN N) cnN (fmN K) (kcN K) (abS cl) (inS il) 0 is) σ2 ∧ (gs σa 904 = 0 ∧ gs σa 908 = 60000 ∧ (∀ i, i < 125 → ga σa 902 i = -1) ∧ fr [904, 908] [902] σ' σa) ∧ T_sayProgram σ' = if tot ≤ 60000 then some σ2 else some (us (us σ2 452 8) 456 (gs σ2 420))) ∧ (tot ≤ 60000 → ∃ h2, C_0_measure G m0 pr l2 h' = some (.inr (), h2) ∧ TvP G h2 N (clF cs) tb l0 us' fs' [] pv Lp te s ∧ KM N (clF cs) tb l0 pv Lp s tm [] us' fs' h' h2) ∧ (60000 < tot → ∃ (h1 h2 : om_H), C_0_measure G m0 pr l2 h' = some (.inl (hz h1), h2) ∧ flt h2 (hz h1) 8 l2 ∧ TvP G h1 N (clF cs) tb l0 us' fs' [] pv Lp te s ∧ KM N (clF cs) tb l0 pv Lp s tm [] us' fs' h' h1 ∧ KF N (clF cs) tb l0 [] h1 us' fs' h2 us' fs' 0 1 8 ∧ ∀ a, a < hz h1 → eqA a h1 h2) := by
  have D0 := D
  obtain ⟨f1, f2⟩ := fs_all D TR
  obtain ⟨i1, i2⟩ := is_all D L TR ⟨Mn.1.1, Mn.1.2.1, Mn.1.2.2.2⟩ Mn.2.1.1
  obtain ⟨⟨k1, k2⟩, k3, _⟩ := ab_known D L
  obtain ⟨⟨R, X, Xf, O, Og⟩, ⟨hl, H⟩, ⟨XS, kp⟩, ⟨jj, JJ, qC, qN⟩, ⟨TJ', JT2, JT1, Fr, TX, TN, e856, n11⟩, ⟨sl0, n0, hSk, t0, tS', hc⟩, ⟨PG, GV, JC, Pr⟩, AD, Dl, _⟩ := D
  have M27 : M ≤ 2700 := R.1.2.2.2.1
  have q650 : qs.length ≤ 650 := R.2.1.2.2.2.1.1
  have lp := R.2.1.2.2.1
  have hJL : ∀ q ∈ l, JbL (fnS fl') (mtS cl) (abS cl) (inS il) q := fun q hq => by
    obtain ⟨i, hi, ei⟩ := List.getElem_of_mem hq
    exact (jbl_of R X Xf O Og (H i q (by rw [List.getElem?_eq_getElem hi, ei]))).1
  obtain ⟨_, jl⟩ := jjs_len L hJL jj
  obtain ⟨_, rm2, rm3⟩ := djs_room R l 0 0 (by omega) (fun i j e => by rw [Nat.zero_add]; exact H i j e) (fun i r e _ => Nat.zero_le _) (Nat.zero_le _)
  -- counts
  have F24 : fl'.length ≤ 24 := Classical.byContradiction (fun w => by
    have ex : fl'[24]? = some (fl'[24]'(by omega)) := List.getElem?_eq_getElem _
    have := (Xf.2 24 _ ex).1
    omega)
  have I20 : il.length ≤ 20 := Classical.byContradiction (fun w => by
    have ex : il[20]? = some (il[20]'(by omega)) := List.getElem?_eq_getElem _
    have := (X.2.2 20 _ ex).1
    omega)
  have Ff : cntS F F.length = F.length := cntS_full (fun f hf => by
    have ex : fl'[f]? = some (fl'[f]'(by rw [Xf.1]; exact hf)) := List.getElem?_eq_getElem _
    obtain ⟨_, _, _, _, ⟨_, ⟨L, _, e⟩, _⟩, _⟩ := Xf.2 f _ ex
    exact ⟨L, e⟩)
  have e652 : gs σ' 652 = (fl'.length : Int) := by
    rw [Fr.1 652 (by decide), R.1.2.2.2.2.2.2.2.2.2.2.1, Ff, Xf.1]
  have e648 : gs σ' 648 = (il.length : Int) := by
    rw [Fr.1 648 (by decide), R.1.2.2.2.2.2.2.2.2.2.1, ← X.2.1, Nat.min_eq_right I20]
  -- functions
  obtain ⟨fs, efs⟩ : ∃ fs : List ((List Nat × List GVs × Ty) × Et), fs = (fnS fl').zip ((eF l ess).map Prod.snd) := ⟨_, rfl⟩
  have lfn : (fnS fl').length = fl'.length := by unfold fnS; rw [List.length_map]
  have lfs : fs.length = fl'.length := by rw [efs, List.length_zip, lfn, List.length_map, f1, Nat.min_self]
  have fsa : ∀ (f : Nat) (p : (List Nat × List GVs × Ty) × Et), fs[f]? = some p → ∃ x j, fl'[f]? = some x ∧ p.1 = x.2.2.2.2.2.1 ∧ (eF l ess)[f]? = some (j, p.2) := fun f p e => by
    rw [efs, List.getElem?_zip_eq_some] at e
    obtain ⟨e1, e2⟩ := e
    obtain ⟨x, ex, exf⟩ := fnS_get e1
    rw [List.getElem?_map] at e2
    cases qe : (eF l ess)[f]? with
    | none => rw [qe] at e2; cases e2
    | some q =>
      rw [qe] at e2
      have e3 : q.2 = p.2 := Option.some.inj e2
      exact ⟨x, q.1, ex, exf.symm, by rw [← e3]⟩
  -- insts
  have lch1 := lch (P := fun i (p : List Et) => ∃ (x : IX) (j : JB) (es : List Et), il[i]? = some x ∧ (eI l ess)[i]? = some (j, es) ∧ j.2.2.2.2.1 = x.2.2.2.2.1 ∧ es.length ≤ 4 ∧ InsA σ' n' (fnS fl') (mtS cl) (abS cl) (inS il) (nmN N) cnN (fmN K) (kcN K) 2700 i x.2.2.2.2.1 p (odA (abS cl) (inS il) x.2.2.2.2.1) ∧ (p.map (fun e => (lnTB (nmN N) cnN (fmN K) (kcN K) (abS cl) (inS il) x.2.2.2.2.1 e).length)).sum = (es.map (fun e => (lnTB (nmN N) cnN (fmN K) (kcN K) (abS cl) (inS il) x.2.2.2.2.1 e).length)).sum ∧ ((∀ e ∈ es, (lnTB (nmN N) cnN (fmN K) (kcN K) (abS cl) (inS il) x.2.2.2.2.1 e).length < 1000000000) → odL (nmN N) cnN (fmN K) (kcN K) (abS cl) (inS il) x.2.2.2.2.1 < 1000000000 → InsL G N (clF cs) tb l0 us' fs' [] pv Lp te s tm m0 pr h' (ioF il i) (odL (nmN N) cnN (fmN K) (kcN K) (abS cl) (inS il) x.2.2.2.2.1, es.map (fun e => (lnTB (nmN N) cnN (fmN K) (kcN K) (abS cl) (inS il) x.2.2.2.2.1 e).length)))) il.length (fun i hi => by
    have e1 : (eI l ess)[i]? = some ((eI l ess)[i]'(by omega)) := List.getElem?_eq_getElem _
    obtain ⟨x, es', g1, g2, g3, g4, g5, g6⟩ := i2 i _ _ e1
    exact ⟨es', x, _, _, g1, e1, g2, g3, g4, g5, g6⟩)
  obtain ⟨ps', pl, pP⟩ := lch1
  obtain ⟨is, eis⟩ : ∃ is : List (INs × List Et × Option Dc), is = (inS il).zip (ps'.zip ((inS il).map (odA (abS cl) (inS il)))) := ⟨_, rfl⟩
  have lin : (inS il).length = il.length := by unfold inS; rw [List.length_map]
  have lis : is.length = il.length := by rw [eis, List.length_zip, List.length_zip, List.length_map, lin, pl, Nat.min_self, Nat.min_self]
  have isa : ∀ (i : Nat) (p : INs × List Et × Option Dc), is[i]? = some p → ∃ x, il[i]? = some x ∧ p.1 = x.2.2.2.2.1 ∧ ps'[i]? = some p.2.1 ∧ p.2.2 = odA (abS cl) (inS il) x.2.2.2.2.1 := fun i p e => by
    rw [eis, List.getElem?_zip_eq_some, List.getElem?_zip_eq_some] at e
    obtain ⟨e1, e2, e3⟩ := e
    obtain ⟨x, ex, exd⟩ := inS_get e1
    rw [List.getElem?_map, e1] at e3
    have e4 : odA (abS cl) (inS il) p.1 = p.2.2 := Option.some.inj e3
    exact ⟨x, ex, exd.symm, e2, by rw [← e4, exd]⟩
  -- lengths
  obtain ⟨lens, elens⟩ : ∃ lens : List Nat, lens = fs.map (fun p => (fnB (nmN N) cnN (fmN K) (kcN K) (abS cl) (inS il) p.1.2.1 p.1.1 p.2).length) := ⟨_, rfl⟩
  obtain ⟨vs, evs⟩ : ∃ vs : List (Nat × List Nat), vs = (eI l ess).map (fun q => (odL (nmN N) cnN (fmN K) (kcN K) (abS cl) (inS il) q.1.2.2.2.2.1, q.2.map (fun e => (lnTB (nmN N) cnN (fmN K) (kcN K) (abS cl) (inS il) q.1.2.2.2.2.1 e).length))) := ⟨_, rfl⟩
  have hd4 : ∀ (i : Nat) (x : IX), il[i]? = some x → (allB (nmN N) x.2.2.2.2.1.2.2.1).length + (givB (nmN N) cnN (fmN K) (kcN K) 0 (gvI x.2.2.2.2.1)).length ≤ 150000 := fun i x ex => by
    obtain ⟨_, _, _, iT, _⟩ := X.2.2 i x ex
    have V := gvG_in (h1 := h') (U := UU us' []) R X ex
    refine head_len L ?_ V.1.2.2 (fun g hg w => ?_)
    · have e1 := iT.2.2.1.2.1
      have e3 := iT.2.1.2
      have e2 : pN x.2.2.2.2.1.2.1 ≤ 4 := by unfold pN; split <;> omega
      omega
    · have := V.1.1 g hg w
      unfold gvI at hg
      obtain ⟨c, c1, c2⟩ := List.mem_map.mp hg
      rw [← c2]
      exact Nat.zero_le _
  have sF : lens.sum ≤ ((eF l ess).map (fun p => exL (nmN N) cnN (fmN K) (kcN K) (fnS fl', mtS cl, abS cl, inS il, p.1.2.2.2.1.1) p.2)).sum + 150000 * lens.length := by
    refine sum_le (by rw [elens, List.length_map, List.length_map, lfs, f1]) (fun i a bb ea eb => ?_)
    rw [elens, List.getElem?_map] at ea
    rw [List.getElem?_map] at eb
    cases qf : fs[i]? with
    | none => rw [qf] at ea; cases ea
    | some p =>
      rw [qf] at ea
      obtain ⟨x, j, ex, px, ej⟩ := fsa i p qf
      rw [ej] at eb
      have ea' : (fnB (nmN N) cnN (fmN K) (kcN K) (abS cl) (inS il) p.1.2.1 p.1.1 p.2).length = a := Option.some.inj ea
      have eb' : exL (nmN N) cnN (fmN K) (kcN K) (fnS fl', mtS cl, abS cl, inS il, j.2.2.2.1.1) p.2 = bb := Option.some.inj eb
      obtain ⟨x', ex', g1, _⟩ := f2 i j p.2 ej
      have exx : x' = x := Option.some.inj (ex'.symm.trans ex)
      rw [exx] at g1
      obtain ⟨⟨_, ⟨n4, g4⟩, gk⟩, _⟩ := env_fn R X Xf O ex
      have hd := head_len L (ns := x.2.2.2.2.2.1.1) (gv := x.2.2.2.2.2.1.2.1) n4 g4 (fun g hg w => (gk g hg).2 w |>.2.2.1)
      rw [← ea', ← eb', fnB_len, px, g1]
      unfold exL
      show _ ≤ (exB (nmN N) cnN (fmN K) (kcN K) (abS cl) (inS il) x.2.2.2.2.2.1.2.1 p.2 []).length + 150000
      omega
  have vat : ∀ (i : Nat) (v : Nat × List Nat), vs[i]? = some v → ∃ x j es p, il[i]? = some x ∧ (eI l ess)[i]? = some (j, es) ∧ j.2.2.2.2.1 = x.2.2.2.2.1 ∧ ps'[i]? = some p ∧ v = (odL (nmN N) cnN (fmN K) (kcN K) (abS cl) (inS il) x.2.2.2.2.1, es.map (fun e => (lnTB (nmN N) cnN (fmN K) (kcN K) (abS cl) (inS il) x.2.2.2.2.1 e).length)) ∧ es.length ≤ 4 ∧ (p.map (fun e => (lnTB (nmN N) cnN (fmN K) (kcN K) (abS cl) (inS il) x.2.2.2.2.1 e).length)).sum = (es.map (fun e => (lnTB (nmN N) cnN (fmN K) (kcN K) (abS cl) (inS il) x.2.2.2.2.1 e).length)).sum ∧ ((∀ e ∈ es, (lnTB (nmN N) cnN (fmN K) (kcN K) (abS cl) (inS il) x.2.2.2.2.1 e).length < 1000000000) → odL (nmN N) cnN (fmN K) (kcN K) (abS cl) (inS il) x.2.2.2.2.1 < 1000000000 → InsL G N (clF cs) tb l0 us' fs' [] pv Lp te s tm m0 pr h' (ioF il i) v) := fun i v e => by
    rw [evs, List.getElem?_map] at e
    cases qe : (eI l ess)[i]? with
    | none => rw [qe] at e; cases e
    | some q =>
      rw [qe] at e
      have hi : i < ps'.length := by
        have := (List.getElem?_eq_some_iff.mp qe).1
        omega
      have ep : ps'[i]? = some ps'[i] := List.getElem?_eq_getElem hi
      obtain ⟨x, j, es, g1, g2, g3, g4, _, g5, g6⟩ := pP i _ ep
      have eq : q = (j, es) := Option.some.inj (qe.symm.trans g2)
      have ev := Option.some.inj e
      rw [eq] at ev
      simp only [g3] at ev
      refine ⟨x, j, es, _, g1, by rw [eq], g3, ep, ev.symm, g4, g5, fun b1 b2 => ?_⟩
      rw [← ev]
      exact g6 b1 b2
  have lvs : vs.length = il.length := by rw [evs, List.length_map, i1]
  -- the two sums are one
  have sI2 : (tmB (inssB (nmN N) cnN (fmN K) (kcN K) (abS cl) (inS il) 0 is)).length = (vs.map (fun v => v.1 + v.2.sum)).sum := by
    rw [inssB_len]
    refine congrArg List.sum (lst_eq2 (by rw [List.length_map, List.length_map, lis, lvs]) (fun i a bb ea eb => ?_))
    rw [List.getElem?_map] at ea eb
    cases qi : is[i]? with
    | none => rw [qi] at ea; cases ea
    | some p =>
      cases qv : vs[i]? with
      | none => rw [qv] at eb; cases eb
      | some v =>
        rw [qi] at ea
        rw [qv] at eb
        obtain ⟨x, ex, p1, p2, p3⟩ := isa i p qi
        obtain ⟨x', j, es, p', ex', _, _, ep', ev, _, sm, _⟩ := vat i v qv
        have exx : x' = x := Option.some.inj (ex'.symm.trans ex)
        have epp : p' = p.2.1 := Option.some.inj (ep'.symm.trans p2)
        rw [exx] at ev sm
        rw [epp] at sm
        have ea' := Option.some.inj ea
        have eb' := Option.some.inj eb
        rw [← ea', ← eb']
        show (p.2.1.map (fun e => (lnTB (nmN N) cnN (fmN K) (kcN K) (abS cl) (inS il) p.1 e).length)).sum + p.2.2.elim 0 (fun D => (dcB (nmN N) cnN (fmN K) (kcN K) (abS cl) (inS il) (gvI p.1) p.1.2.2.1 D).length) = v.1 + v.2.sum
        rw [p1, p3, ev, sm]
        exact Nat.add_comm _ _
  have sI : (vs.map (fun v => v.1 + v.2.sum)).sum ≤ (((eI l ess).map (fun p => (p.2.map (exL (nmN N) cnN (fmN K) (kcN K) (fnS fl', mtS cl, abS cl, inS il, gvI p.1.2.2.2.2.1))).sum)).sum + 600000 * il.length) + ((((inS il).map (fun d => (odA (abS cl) (inS il) d).elim 0 (fun D => (evB (nmN N) cnN (fmN K) (kcN K) (abS cl) (inS il) (gvI d) D).length))).sum) + 150000 * il.length) := by
    have s1 : (vs.map (fun v => v.2.sum)).sum ≤ ((eI l ess).map (fun p => (p.2.map (exL (nmN N) cnN (fmN K) (kcN K) (fnS fl', mtS cl, abS cl, inS il, gvI p.1.2.2.2.2.1))).sum)).sum + 600000 * (vs.map (fun v => v.2.sum)).length := by
      refine sum_le (by rw [List.length_map, List.length_map, lvs, i1]) (fun i a bb ea eb => ?_)
      rw [List.getElem?_map] at ea eb
      cases qv : vs[i]? with
      | none => rw [qv] at ea; cases ea
      | some v =>
        rw [qv] at ea
        obtain ⟨x, j, es, p', ex, ee, gj, _, ev, l4, _⟩ := vat i v qv
        rw [ee] at eb
        have ea' : v.2.sum = a := Option.some.inj ea
        have eb' : (es.map (exL (nmN N) cnN (fmN K) (kcN K) (fnS fl', mtS cl, abS cl, inS il, gvI j.2.2.2.2.1))).sum = bb := Option.some.inj eb
        have s2 : (es.map (fun e => (lnTB (nmN N) cnN (fmN K) (kcN K) (abS cl) (inS il) x.2.2.2.2.1 e).length)).sum ≤ (es.map (exL (nmN N) cnN (fmN K) (kcN K) (fnS fl', mtS cl, abS cl, inS il, gvI j.2.2.2.2.1))).sum + 150000 * (es.map (fun e => (lnTB (nmN N) cnN (fmN K) (kcN K) (abS cl) (inS il) x.2.2.2.2.1 e).length)).length := by
          refine sum_le (by rw [List.length_map, List.length_map]) (fun k a' b' ea2 eb2 => ?_)
          rw [List.getElem?_map] at ea2 eb2
          cases qe : es[k]? with
          | none => rw [qe] at ea2; cases ea2
          | some e0 =>
            rw [qe] at ea2 eb2
            have ea3 : (lnTB (nmN N) cnN (fmN K) (kcN K) (abS cl) (inS il) x.2.2.2.2.1 e0).length = a' := Option.some.inj ea2
            have eb3 : exL (nmN N) cnN (fmN K) (kcN K) (fnS fl', mtS cl, abS cl, inS il, gvI j.2.2.2.2.1) e0 = b' := Option.some.inj eb2
            have hd := hd4 i x ex
            rw [← ea3, ← eb3, gj]
            unfold lnTB exL
            rw [fnB_len]
            show _ ≤ (exB (nmN N) cnN (fmN K) (kcN K) (abS cl) (inS il) (gvI x.2.2.2.2.1) e0 []).length + 150000
            omega
        rw [List.length_map] at s2
        rw [← ea', ← eb', ev]
        show (es.map (fun e => (lnTB (nmN N) cnN (fmN K) (kcN K) (abS cl) (inS il) x.2.2.2.2.1 e).length)).sum ≤ _
        omega
    have s3 : (vs.map (fun v => v.1)).sum ≤ ((inS il).map (fun d => (odA (abS cl) (inS il) d).elim 0 (fun D => (evB (nmN N) cnN (fmN K) (kcN K) (abS cl) (inS il) (gvI d) D).length))).sum + 150000 * (vs.map (fun v => v.1)).length := by
      refine sum_le (by rw [List.length_map, List.length_map, lvs, lin]) (fun i a bb ea eb => ?_)
      rw [List.getElem?_map] at ea eb
      cases qv : vs[i]? with
      | none => rw [qv] at ea; cases ea
      | some v =>
        rw [qv] at ea
        obtain ⟨x, j, es, p', ex, _, _, _, ev, _⟩ := vat i v qv
        have dx : (inS il)[i]? = some x.2.2.2.2.1 := by unfold inS; rw [List.getElem?_map, ex]; rfl
        rw [dx] at eb
        have ea' : v.1 = a := Option.some.inj ea
        have eb' : (odA (abS cl) (inS il) x.2.2.2.2.1).elim 0 (fun D => (evB (nmN N) cnN (fmN K) (kcN K) (abS cl) (inS il) (gvI x.2.2.2.2.1) D).length) = bb := Option.some.inj eb
        have hd := hd4 i x ex
        rw [← ea', ← eb', ev]
        show odL _ _ _ _ _ _ _ ≤ _
        unfold odL
        cases odA (abS cl) (inS il) x.2.2.2.2.1 with
        | none => exact Nat.zero_le _
        | some Dd =>
          show (dcB _ _ _ _ _ _ _ _ Dd).length ≤ (evB _ _ _ _ _ _ _ Dd).length + 150000
          rw [dcB_len]
          omega
    have s4 : ∀ l : List (Nat × List Nat), (l.map (fun v => v.1 + v.2.sum)).sum = (l.map (fun v => v.1)).sum + (l.map (fun v => v.2.sum)).sum := fun l => by
      induction l with
      | nil => rfl
      | cons a l ih => rw [List.map_cons, List.map_cons, List.map_cons, List.sum_cons, List.sum_cons, List.sum_cons, ih]; omega
    rw [List.length_map, lvs] at s1 s3
    rw [s4]
    omega
  have tot : (tmB (fnsB (nmN N) cnN (fmN K) (kcN K) (abS cl) (inS il) 0 fs ++ inssB (nmN N) cnN (fmN K) (kcN K) (abS cl) (inS il) 0 is)).length = lens.sum + (vs.map (fun v => v.1 + v.2.sum)).sum := by
    rw [tmB_app, List.length_append, fnsB_len, sI2, elens]
  have llen : lens.length = fl'.length := by rw [elens, List.length_map, lfs]
  have k3' : ((inS il).map (fun d => (odA (abS cl) (inS il) d).elim 0 (fun D => (evB (nmN N) cnN (fmN K) (kcN K) (abS cl) (inS il) (gvI d) D).length))).sum ≤ 60000 * s0.1 + 1000 * il.length := by rw [← lin]; exact k3
  have big : lens.sum + (vs.map (fun v => v.1 + v.2.sum)).sum < 1000000000 := by
    rw [llen] at sF
    omega
  -- the environment
  have V0 : gvG h' N (clF cs) (UU us' []) K (inS il) [] := ⟨⟨fun g hg => absurd hg List.not_mem_nil, fun g hg => absurd hg List.not_mem_nil, Nat.zero_le _⟩, fun g hg => absurd hg List.not_mem_nil, fun g hg => absurd hg List.not_mem_nil⟩
  have P0 := pgt_of R X Xf O Og XS kp Dl V0
  have TB : TeB σ' n' (fnS fl') (mtS cl) (abS cl) (inS il) (nmN N) cnN (fmN K) (kcN K) := te_of R X TN P0 TJ'.1 TJ'.2.1 (by omega) (fun f hf g hg w => by
    obtain ⟨i, hi, ei⟩ := List.getElem_of_mem hf
    obtain ⟨x, ex, exf⟩ := fnS_get (fl' := fl') (i := i) (f := f) (by rw [List.getElem?_eq_getElem hi, ei])
    have V := gvG_fn (h1 := h') (us := us') R X Xf O Og XS kp ex
    rw [exf] at V
    obtain ⟨v1, _, _, _, v5⟩ := V.2.2 g hg w
    exact ⟨v1, v5⟩)
  have FA : ∀ (f : Nat) (p : (List Nat × List GVs × Ty) × Et), fs[f]? = some p → FnsA σ' n' (fnS fl') (mtS cl) (abS cl) (inS il) (nmN N) cnN (fmN K) (kcN K) 2700 f p.1 p.2 := fun f p e => by
    obtain ⟨x, j, ex, px, ej⟩ := fsa f p e
    obtain ⟨x', ex', _, g2, _⟩ := f2 f j p.2 ej
    have exx : x' = x := Option.some.inj (ex'.symm.trans ex)
    rw [exx] at g2
    rw [px]
    exact g2
  have IA : ∀ (i : Nat) (p : INs × List Et × Option Dc), is[i]? = some p → InsA σ' n' (fnS fl') (mtS cl) (abS cl) (inS il) (nmN N) cnN (fmN K) (kcN K) 2700 i p.1 p.2.1 p.2.2 := fun i p e => by
    obtain ⟨x, ex, p1, p2, p3⟩ := isa i p e
    obtain ⟨x', _, _, ex', _, _, _, g4, _⟩ := pP i _ p2
    have exx : x' = x := Option.some.inj (ex'.symm.trans ex)
    rw [exx] at g4
    rw [p1, p3]
    exact g4
  have ne : fs ≠ [] ∨ is ≠ [] → gs σ' 856 = 0 := fun w => e856 (fun z => by
    have l0' : qs.length = 0 := by rw [← hl, z]; rfl
    have e1 : (eF l ess).length = 0 := by rw [z]; unfold eF; rfl
    have e2 : (eI l ess).length = 0 := by rw [z]; unfold eI; rfl
    rcases w with w | w
    · exact w (List.length_eq_zero_iff.mp (by omega))
    · exact w (List.length_eq_zero_iff.mp (by omega)))
  obtain ⟨σa, σ2, a1, a2, a3⟩ := t_sayProgram (B := 2700) TB (fs := fs) (is := is) (by omega) (by omega) (by rw [e652, lfs]) (by rw [e648, lis]) FA IA ne (by rw [tot]; exact big) TJ'.2.2.1
  -- the component
  have LS : ∀ L, Sl0 L → LsP h' tb Lp L := fun L w => ⟨hSk L (sl0 L w), fun z => tS' (by rw [← z]; exact sl0 L w), fun z => n0 (by rw [← z]; exact w)⟩
  have mle : ∀ (l : List Nat) (x : Nat), x ∈ l → x ≤ l.sum := fun l x hx => mem_sum hx
  obtain ⟨⟨_, _, ptb⟩, ⟨s86, _, _, l86, a86⟩, s90, _, _, l90, a90⟩ := Pr
  obtain ⟨m1, m2⟩ := c_measure (l2 := l2) TR.1 TR.2.2.2.1 Mn (LS _ s90) (LS _ s86) (lens := lens) (vs := vs) (by rw [l90, llen, Xf.1]) (by omega) (fun k f len ef elen => by
    rw [elens, List.getElem?_map] at elen
    cases qf : fs[k]? with
    | none => rw [qf] at elen; cases elen
    | some p =>
      rw [qf] at elen
      obtain ⟨x, j, ex, px, ej⟩ := fsa k p qf
      obtain ⟨x', ex', _, _, ko, TC⟩ := f2 k j p.2 ej
      have exx : x' = x := Option.some.inj (ex'.symm.trans ex)
      rw [exx] at TC
      have kF : k < F.length := by rw [← Xf.1]; exact (List.getElem?_eq_some_iff.mp ex).1
      have ef2 : clF fo k = f := Option.some.inj ((a90 k kF).symm.trans ef)
      rw [ef2] at ko TC
      have el' : (fnB (nmN N) cnN (fmN K) (kcN K) (abS cl) (inS il) p.1.2.1 p.1.1 p.2).length = len := Option.some.inj elen
      have lb := mle lens _ (by rw [elens]; exact List.mem_map.mpr ⟨p, List.mem_of_getElem? qf, rfl⟩)
      refine ⟨ko, ?_⟩
      rw [← el', px]
      rw [px] at lb
      rw [ptb]
      exact TermC_len TR ⟨Mn.1.1, Mn.1.2.1, Mn.1.2.2.2⟩ Mn.2.1.1 TC (by
        have lb' : (allB (nmN N) x.2.2.2.2.2.1.1 ++ givB (nmN N) cnN (fmN K) (kcN K) 0 x.2.2.2.2.2.1.2.1 ++ exB (nmN N) cnN (fmN K) (kcN K) (abS cl) (inS il) x.2.2.2.2.2.1.2.1 p.2 []).length ≤ lens.sum := lb
        omega)) (by rw [l86, lvs]) (by omega) (fun k i v ei ev => by
    obtain ⟨x, j, es, p', ex, _, _, _, ev', l4, _, IL⟩ := vat k v ev
    have kI : k < il.length := (List.getElem?_eq_some_iff.mp ex).1
    have ei2 : ioF il k = i := Option.some.inj ((a86 k kI).symm.trans ei)
    rw [ei2] at IL
    have vb := mle (vs.map (fun v => v.1 + v.2.sum)) (v.1 + v.2.sum) (List.mem_map.mpr ⟨v, List.mem_of_getElem? ev, rfl⟩)
    refine IL (fun e he => ?_) ?_
    · have := mle v.2 (lnTB (nmN N) cnN (fmN K) (kcN K) (abS cl) (inS il) x.2.2.2.2.1 e).length (by rw [ev']; exact List.mem_map.mpr ⟨e, he, rfl⟩)
      omega
    · have : v.1 = odL (nmN N) cnN (fmN K) (kcN K) (abS cl) (inS il) x.2.2.2.2.1 := by rw [ev']
      omega)
  refine ⟨fs, is, _, ⟨?_, ?_⟩, rfl, TB, FA, IA, ⟨σa, σ2, a1, a2, a3⟩, fun w => m1 (by rw [tot] at w; exact w), fun w => m2 (by rw [tot] at w; exact w)⟩
  · rw [efs]
    exact List.map_fst_zip (by rw [List.length_map, f1, lfn]; exact Nat.le_refl _)
  · rw [eis]
    exact List.map_fst_zip (by rw [List.length_zip, List.length_map, pl, lin, Nat.min_self]; exact Nat.le_refl _)
end LTB
