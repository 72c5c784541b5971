set_option maxRecDepth 100000
/-! AN INST's TERMS, in both: methods' order in the twin, lines' order in the component -/
theorem map_rg {α β : Type} (f : α → β) (z : α) (l : List α) : (List.range l.length).map (fun k => f (l.getD k z)) = l.map f := by
  refine lst_eq2 (by rw [List.length_map, List.length_map, List.length_range]) (fun i a b ea eb => ?_)
  have hi : i < l.length := by
    have := (List.getElem?_eq_some_iff.mp eb).1
    rw [List.length_map] at this
    exact this
  rw [List.getElem?_map, List.getElem?_range hi] at ea
  rw [List.getElem?_map, List.getElem?_eq_getElem hi] at eb
  have ea' : f (l.getD i z) = a := Option.some.inj ea
  have eb' : f l[i] = b := Option.some.inj eb
  rw [← ea', ← eb', List.getD_eq_getElem?_getD, List.getElem?_eq_getElem hi]
  rfl
theorem map_zf {α β γ : Type} (f : α → γ) {l : List α} {m : List β} (h : l.length ≤ m.length) : (l.zip m).map (fun p => f p.1) = l.map f := by
  have e1 : (l.zip m).map Prod.fst = l := List.map_fst_zip h
  have e2 : (l.zip m).map (fun p => f p.1) = ((l.zip m).map Prod.fst).map f := by rw [List.map_map]; rfl
  rw [e2, e1]
theorem sum_1 {α : Type} : ∀ (l : List α), (l.map (fun _ => 1)).sum = l.length
  | [] => rfl
  | a :: l => by rw [List.map_cons, List.sum_cons, sum_1 l, List.length_cons, Nat.add_comm]
/-- how long the term of what stands above is -/
def odL (nm con fam cnm : Nat → List Int) (ab : List (Option Nat)) (ins : List INs) (d : INs) : Nat := (odA ab ins d).elim 0 (fun D => (dcB nm con fam cnm ab ins (gvI d) d.2.2.1 D).length)
section LIT
variable {G : om_G} {A : Nat} {S : List Int} {b m : Nat} {N : List (List Int)} {pr tb z0 : Nat} {cs fo : List Nat} {mo : List (List Nat)} {K : KT} {F : FT} {Ms : List FT} {hr : om_H} {σr : tS} {M : Nat} {qs : List dcl} {ps : List PD} {rs : List (Nat × Nat × Nat × Nat)} {h h' : om_H} {ul fl us' fs' : List Nat} {τ σ' : tS} {n n' : Nat} {Sl Sl0 Sl' : Nat → Prop} {cl : List Cp} {il : List IX} {fl' : List FX} {Lp l0 pv te s tm lo m0 : Nat} {Dk' : Nat → Prop} {ds' : List Nat} {dm' : Nat} {l : List JB} {ess : List (List Et)} {s0 s' : JS}
/-- what judging the ones above has left -/
theorem ab_known (D : JDn G A S b m N pr tb z0 cs fo mo K F Ms hr σr M qs ps rs h ul fl τ n Sl Sl0 cl il fl' Lp h' us' Dk' ds' dm' σ' n' l Sl' lo ess s0 s') (L : lt10 (nmN N) cnN (fmN K) (kcN K)) : (s0.1 ≤ s'.1 ∧ s'.1 ≤ 300) ∧ (((inS il).map (fun d => (odA (abS cl) (inS il) d).elim 0 (fun D => (evB (nmN N) cnN (fmN K) (kcN K) (abS cl) (inS il) (gvI d) D).length))).sum ≤ 60000 * s0.1 + 1000 * (inS il).length) ∧ ∀ d ∈ inS il, ∀ c, (abS cl)[d.1]? = some (some c) → (∃ D, dcT (abS cl) (inS il) (gvI d) 70 c (hdI d) = some D) ∧ (dcK (abS cl) (inS il) (gvI d) (QN σ' n') 70 c (hdI d) ∧ QN σ' n' (hdI d)) ∧ dcK (abS cl) (inS il) (gvI d) (QC h' N (clF cs) (UU us' [])) 70 c (hdI d) := by
  have D0 := D
  obtain ⟨⟨R, X, Xf, O, Og⟩, ⟨hl, H⟩, ⟨XS, kp⟩, ⟨jj, JJ, qC, qN⟩, ⟨TJ', _⟩, _, _, _, _, ⟨pls, pl1, aj⟩, _⟩ := D
  have hJL : ∀ q ∈ l, JbL (fnS fl') (mtS cl) (abS cl) (inS il) q := fun q hq => by
    obtain ⟨i, hi, ei⟩ := List.getElem_of_mem hq
    exact (jbl_of R X Xf O Og (H i q (by rw [List.getElem?_eq_getElem hi, ei]))).1
  have pre := (jjs_at (Q := QN σ' n') hJL jj).1
  have len := (jjs_len L hJL jj).1
  obtain ⟨i1, i2, i3, i4, _⟩ := ok_ins R X O
  have hh : ∀ d ∈ inS il, InH hAny (inS il) (gvI d) 2700 ∧ tyOk (inS il) (hdI d) ∧ tsz (hdI d) ≤ 3 := fun d hd => by
    obtain ⟨j, x, ex, exd⟩ := inS_at hd
    have V := gvG_in (h1 := h) (U := UU ul []) R X ex
    have hb := (hd_both D0 ex).1
    rw [exd] at V hb
    exact ⟨JL_I (env_H R X Xf O V).1.1, hb⟩
  have hc4 : ∀ d ∈ inS il, d.2.2.2.1.length ≤ 4 := fun d hd => (i4 d hd).2.1
  have hz' : ∀ p ∈ (inS il).zip pls, p.1 ∈ inS il := fun p hp => (List.of_mem_zip (show (p.1, p.2) ∈ _ from hp)).1
  have hin : ∀ d ∈ inS il, ∃ q, (d, q) ∈ (inS il).zip pls := fun d hd => by
    obtain ⟨i, hi, ei⟩ := List.getElem_of_mem hd
    have hp : i < pls.length := by omega
    have e1 : ((inS il).zip pls)[i]? = some (d, pls[i]) := by
      rw [List.getElem?_zip_eq_some]
      exact ⟨by rw [List.getElem?_eq_getElem hi, ei], List.getElem?_eq_getElem hp⟩
    exact ⟨_, List.mem_of_getElem? e1⟩
  obtain ⟨a1, a2, a3, a4⟩ := abJ_kn (Q := QN σ' n') L hh hc4 _ _ _ hz' aj
  obtain ⟨_, _, _, b4⟩ := abJ_kn (Q := QC h' N (clF cs) (UU us' [])) L hh hc4 _ _ _ hz' aj
  have up : ∀ X ∈ s0.2, X ∈ s'.2 := fun X hX => by
    obtain ⟨D, e⟩ := pre
    rw [e]
    exact List.mem_append_left _ hX
  have ez : ((inS il).zip pls).map (fun p => (odA (abS cl) (inS il) p.1).elim 0 (fun D => (evB (nmN N) cnN (fmN K) (kcN K) (abS cl) (inS il) (gvI p.1) D).length)) = (inS il).map (fun d => (odA (abS cl) (inS il) d).elim 0 (fun D => (evB (nmN N) cnN (fmN K) (kcN K) (abS cl) (inS il) (gvI d) D).length)) := map_zf (fun d => (odA (abS cl) (inS il) d).elim 0 (fun D => (evB (nmN N) cnN (fmN K) (kcN K) (abS cl) (inS il) (gvI d) D).length)) (by omega)
  rw [ez, List.length_zip, pl1, Nat.min_self] at a3
  refine ⟨⟨len, TJ'.2.2.2.1.2⟩, by simpa using a3, fun d hd c hc => ?_⟩
  obtain ⟨q, hq⟩ := hin d hd
  obtain ⟨c1, c2, c3⟩ := a4 (fun X hX => qN X (up X hX)) _ hq c hc
  obtain ⟨_, d2, _⟩ := b4 (fun X hX => qC X (up X hX)) _ hq c hc
  exact ⟨c1, ⟨c2, c3⟩, d2⟩
set_option maxHeartbeats 1000000 in
/-- AN INST IS TOLD -/
theorem in_both (D : JDn G A S b m N pr tb z0 cs fo mo K F Ms hr σr M qs ps rs h ul fl τ n Sl Sl0 cl il fl' Lp h' us' Dk' ds' dm' σ' n' l Sl' lo ess s0 s') (L : lt10 (nmN N) cnN (fmN K) (kcN K)) (TR : TlR G h' N (clF cs) tb l0 us' fs' [] pv Lp te s tm) (hm0 : m0 < hz h' ∧ kd h' m0 = 1 ∧ fR h' 54 m0 = te) (hm : tm < hz h') {i : Nat} {x : IX} (e : il[i]? = some x) : ∃ (j : JB) (es es' : List Et), l[x.1]? = some j ∧ j.1 = 6 ∧ c6J (l.take x.1) = i ∧ j.2.2.2.2.1 = x.2.2.2.2.1 ∧ ess[x.1]? = some es ∧ es.length ≤ 4 ∧ InsA σ' n' (fnS fl') (mtS cl) (abS cl) (inS il) (nmN N) cnN (fmN K) (kcN K) 2700 i x.2.2.2.2.1 es' (odA (abS cl) (inS il) x.2.2.2.2.1) ∧ (es'.map (fun e => (lnTB (nmN N) cnN (fmN K) (kcN K) (abS cl) (inS il) x.2.2.2.2.1 e).length)).sum = (es.map (fun e => (lnTB (nmN N) cnN (fmN K) (kcN K) (abS cl) (inS il) x.2.2.2.2.1 e).length)).sum ∧ ((∀ e ∈ es, (lnTB (nmN N) cnN (fmN K) (kcN K) (abS cl) (inS il) x.2.2.2.2.1 e).length < 1000000000) → odL (nmN N) cnN (fmN K) (kcN K) (abS cl) (inS il) x.2.2.2.2.1 < 1000000000 → InsL G N (clF cs) tb l0 us' fs' [] pv Lp te s tm m0 pr h' (ioF il i) (odL (nmN N) cnN (fmN K) (kcN K) (abS cl) (inS il) x.2.2.2.2.1, es.map (fun e => (lnTB (nmN N) cnN (fmN K) (kcN K) (abS cl) (inS il) x.2.2.2.2.1 e).length))) := by
  have D0 := D
  have AK := (ab_known D L).2.2
  obtain ⟨⟨R, X, Xf, O, Og⟩, ⟨hl, H⟩, ⟨XS, kp⟩, ⟨jj, JJ, qC, qN⟩, ⟨TJ', JT2, JT1, Fr, TX, TN, _⟩, ⟨sl0, n0, hSk, t0, tS', hc⟩, ⟨PG, GV, JC, Pr⟩, AD, Dl, _, LV⟩ := D
  obtain ⟨l20, IXx⟩ := X.2.2 i x e
  obtain ⟨⟨p1, p2, p3, p4, p5⟩, pL, iT, ic, ⟨_, tc, _⟩, _, _, _, ⟨s26, l26, k26, n26, ch, n26', n27⟩, _⟩ := IXx
  have io := ioF_at e
  have dx : (inS il)[i]? = some x.2.2.2.2.1 := by unfold inS; rw [List.getElem?_map, e]; rfl
  have dm := List.mem_of_getElem? dx
  have K8 := RA_K8 R
  -- the scope
  have ioz : ioF il i < hz h ∧ kd h (ioF il i) = 21 := by rw [io]; exact ⟨ic.1.2.1, ic.1.2.2.1⟩
  have st := (XS.2.2.1 _ ioz.1 (by rw [ioz.2]; decide)).2
  have GC0 : GVC h' N (clF cs) (UU us' []) Sl0 (fR h' 1286 (ioF il i)) (gvI x.2.2.2.2.1) := by
    rw [st 1286 (by decide), io]
    exact GV _ (List.mem_append_left _ (List.mem_map.mpr ⟨x, List.mem_of_getElem? e, rfl⟩))
  obtain ⟨_, ic'⟩ := PG.2.2 i _ dx
  have V := gvG_in (h1 := h') (U := UU us' []) R X e
  have P := pgt_of R X Xf O Og XS kp Dl V
  have Q := prg_at D0 GC0
  have Gv : GvA σ' (fnS fl') (mtS cl) (abS cl) (inS il) (nmN N) cnN (fmN K) (kcN K) 2700 (gvI x.2.2.2.2.1) := gva_of R X TN P V GC0
  obtain ⟨j, es, ej, j6, cj, g1, eqs, eL, eo, en, iT', LB⟩ := ln_both D0 TR e GC0
  -- the class, its methods
  have cK : x.2.2.2.2.1.1 < cl.length := by rw [X.1.1]; exact iT.1.2
  have ey : cl[x.2.2.2.2.1.1]? = some cl[x.2.2.2.2.1.1] := List.getElem?_eq_getElem cK
  obtain ⟨y, eyy⟩ : ∃ y, cl[x.2.2.2.2.1.1]? = some y := ⟨_, ey⟩
  obtain ⟨cT, _⟩ := X.1.2 _ y eyy
  obtain ⟨⟨q, th⟩, _⟩ := O i x y e eyy
  unfold thA at th
  obtain ⟨_, th2⟩ := List.append_eq_nil_iff.mp th
  obtain ⟨_, th3⟩ := List.append_eq_nil_iff.mp th2
  obtain ⟨th4, th5⟩ := List.append_eq_nil_iff.mp th3
  obtain ⟨κ, k1, k2⟩ := ln_perm th4 th5
  have eln : es.length = x.2.2.2.2.2.2.2.1.length := by
    rw [eL, ← n26', ← en, List.length_map]
  obtain ⟨es', ees'⟩ : ∃ es' : List Et, es' = (List.range y.2.2.2.2.length).map (fun mm => es.getD (κ mm) .leaf) := ⟨_, rfl⟩
  have les : es'.length = y.2.2.2.2.length := by rw [ees', List.length_map, List.length_range]
  have abx : (abS cl)[x.2.2.2.2.1.1]? = some y.2.2.1 := by unfold abS; rw [List.getElem?_map, eyy]; rfl
  have la : (abS cl).length = K.length := by unfold abS; rw [List.length_map]; exact X.1.1
  have NmW := nms_tw TN ic'.2.2.1.2
  obtain ⟨_, hC, hT⟩ := hd_both D0 e
  have k4 : y.2.2.2.2.length = x.2.2.2.2.2.2.2.1.length := by
    have k5 := k2 (fun _ => 1)
    have k6 : ((List.range y.2.2.2.2.length).map (fun _ => 1)).sum = ((List.range x.2.2.2.2.2.2.2.1.length).map (fun _ => 1)).sum := k5
    rw [sum_1, sum_1, List.length_range, List.length_range] at k6
    exact k6
  refine ⟨j, es, es', ej, j6, cj, g1, eqs, by rw [eln, ← k4]; exact cT.2.2.2.2.1.2, ⟨iT', Gv, NmW, ⟨by rw [Fr.2 678 (by decide), les]; exact cT.2.2.2.2.1.1, by rw [les]; exact cT.2.2.2.2.1.2, fun mm e0 em => ?_⟩, ?_⟩, ?_, fun b1 b2 => ?_⟩
  · have hmm : mm < y.2.2.2.2.length := by rw [← les]; exact (List.getElem?_eq_some_iff.mp em).1
    obtain ⟨kl, _, kv⟩ := k1 mm hmm
    rw [ees', List.getElem?_map, List.getElem?_range hmm] at em
    have e0e : es.getD (κ mm) .leaf = e0 := Option.some.inj em
    have kes : κ mm < es.length := by omega
    have e1 : es[κ mm]? = some e0 := by
      rw [← e0e, List.getD_eq_getElem?_getD, List.getElem?_eq_getElem kes]
      rfl
    have klj : κ mm < j.2.2.2.2.2.2.length := by omega
    have e2 : j.2.2.2.2.2.2[κ mm]? = some j.2.2.2.2.2.2[κ mm] := List.getElem?_eq_getElem klj
    obtain ⟨EO, e546, _⟩ := LB (κ mm) _ e0 e2 e1
    refine ⟨_, ?_, EO⟩
    have m4 : mm < 4 := by have := cT.2.2.2.2.1.2; omega
    rw [LV i x y e eyy mm m4, kv]
    unfold pvF
    have eg : x.2.2.2.2.2.2.2.2.getD (κ mm) 0 = (j.2.2.2.2.2.2[κ mm]).2.1 := by
      rw [← en, List.getD_eq_getElem?_getD, List.getElem?_map, e2]
      rfl
    rw [eg, e546]
    rfl
  · cases qy : y.2.2.1 with
    | none =>
      rw [qy] at abx
      exact .inl ⟨abx, by unfold odA; rw [abx]⟩
    | some c =>
      rw [qy] at abx
      obtain ⟨⟨Dd, d1⟩, ⟨d2, d3⟩, _⟩ := AK _ dm c abx
      exact .inr ⟨c, Dd, abx, by unfold odA; rw [abx]; exact d1, d2, d1, hT, d3⟩
  · have k3 := k2 (fun k => (lnTB (nmN N) cnN (fmN K) (kcN K) (abS cl) (inS il) x.2.2.2.2.1 (es.getD k .leaf)).length)
    rw [← eln, map_rg (fun e => (lnTB (nmN N) cnN (fmN K) (kcN K) (abS cl) (inS il) x.2.2.2.2.1 e).length) .leaf es] at k3
    rw [← k3, ees', List.map_map]
    rfl
  · -- the component
    have e26 : fR h' 1326 (ioF il i) = fR h 1326 (ioF il i) := st 1326 (by decide)
    have s26' : Sl0 (fR h 1326 (ioF il i)) := by rw [io]; exact s26
    have l26' : fR h 1326 (ioF il i) < hz h := by rw [io]; exact l26
    have k26' : kd h (fR h 1326 (ioF il i)) = 42 := by rw [io]; exact k26
    have ell : ll h' (fR h' 1326 (ioF il i)) = (j.2.2.2.2.2.2.map Prod.fst).map Prod.fst := by rw [e26, XS.2.2.2.2 _ l26' s26']; exact eo
    have SC : ScT N (clF cs) (UU us' []) (fun a => a ≠ fR h' 122 tb ∧ a ≠ Lp) (nmN N) cnN (fmN K) (kcN K) h' (fR h' 1286 (ioF il i)) x.2.2.2.2.1.2.2.1 (gvI x.2.2.2.2.1) := by
      refine sct_of P.1 V GC0 ic'.2.2.1 (fun w => tS' (sl0 _ w)) n0 (fun k yy gg eyk eg => ?_)
      have e86 : fR h' 1286 (ioF il i) = fR h 1286 (ioF il i) := st 1286 (by decide)
      have k5 : fR h 1286 (ioF il i) < hz h ∧ kd h (fR h 1286 (ioF il i)) = 5 := by rw [io]; exact ic.2.1
      have e66 : fR h' 166 (fR h 1286 (ioF il i)) = fR h 166 (fR h 1286 (ioF il i)) := (XS.2.2.1 _ k5.1 (by rw [k5.2]; decide)).2 166 (by decide)
      have s66 : Sl0 (fR h 166 (fR h 1286 (ioF il i))) ∧ fR h 166 (fR h 1286 (ioF il i)) < hz h := by rw [io]; exact ⟨ic.2.2.2.2.1.1, ic.2.2.2.2.1.2.1⟩
      rw [e86, e66, XS.2.2.2.2 _ s66.2 s66.1] at eyk
      unfold gvI at eg
      rw [List.getElem?_map] at eg
      cases qc : x.2.2.2.2.1.2.2.2.1[k]? with
      | none => rw [qc] at eg; cases eg
      | some c =>
        rw [qc] at eg
        have eg' : (c.1, x.2.2.2.2.1.2.2.1.getD c.2 0, (.leaf : Ty)) = gg := Option.some.inj eg
        have ec := iT.2.2.2.1.2.2 k c qc
        rw [io] at eyk
        have ky := (ic.2.2.2.2.2.2 k yy c eyk qc).1
        have g1' : gg.1 = c.1 := by rw [← eg']
        rw [g1']
        exact gwC_hS XS ⟨ky.1, ky.2.1⟩ (in_gw R (by rw [← X.2.1]; exact (List.getElem?_eq_some_iff.mp e).1) (qq := x.2.1) pL k yy c.1 eyk ec.1 (by have := ec.2.2.1; omega))
    have ln78 : fR h' 78 pr = tb := Pr.1.2.2
    refine ⟨⟨by have := XS.1; omega, by rw [XS.2.1 _ ioz.1]; exact ioz.2⟩, ⟨⟨by rw [e26]; have := XS.1; omega, by rw [e26, XS.2.1 _ l26']; exact k26'⟩, by rw [e26]; intro z; exact tS' (by rw [← z]; exact sl0 _ s26'), by rw [e26]; intro z; exact n0 (by rw [← z]; exact s26')⟩, ⟨by rw [ell, List.length_map, List.length_map, List.length_map, eL], by rw [List.length_map]; omega⟩, fun k f len ef elen => ?_, ?_⟩
    · rw [ell, List.map_map, List.getElem?_map] at ef
      rw [List.getElem?_map] at elen
      cases qy : j.2.2.2.2.2.2[k]? with
      | none => rw [qy] at ef; cases ef
      | some yy =>
        rw [qy] at ef
        have ef' : yy.1.1 = f := Option.some.inj ef
        cases qe : es[k]? with
        | none => rw [qe] at elen; cases elen
        | some e0 =>
          rw [qe] at elen
          have el' : (lnTB (nmN N) cnN (fmN K) (kcN K) (abS cl) (inS il) x.2.2.2.2.1 e0).length = len := Option.some.inj elen
          obtain ⟨_, _, ⟨y1, y2, y3⟩, BD⟩ := LB k yy e0 qy qe
          rw [ef'] at y1 y2 y3
          refine ⟨⟨y1, y2⟩, ?_⟩
          rw [ln78, y3, ← el']
          exact TermC_len TR hm0 hm ⟨Q, P.2.2.1, V.1.2.1, SC, BD⟩ (b1 e0 (List.mem_of_getElem? qe))
    · cases qy : y.2.2.1 with
      | none =>
        rw [qy] at abx
        exact .inl ⟨(AD i _ dx).2 (.inl abx), by show odL _ _ _ _ _ _ _ = 0; unfold odL odA; rw [abx]; rfl⟩
      | some c =>
        rw [qy] at abx
        obtain ⟨⟨Dd, d1⟩, _, d4⟩ := AK _ dm c abx
        obtain ⟨D2, d5, d6⟩ := (AD i _ dx).1 (List.getElem?_eq_some_iff.mp dx).1 c abx
        have eD : D2 = Dd := Option.some.inj (d5.symm.trans d1)
        rw [eD] at d6
        have ne := DcX_ne d6
        have eo' : odL (nmN N) cnN (fmN K) (kcN K) (abS cl) (inS il) x.2.2.2.2.1 = (dcB (nmN N) cnN (fmN K) (kcN K) (abS cl) (inS il) (gvI x.2.2.2.2.1) x.2.2.2.2.1.2.2.1 Dd).length := by
          unfold odL odA
          rw [abx]
          show (dcT (abS cl) (inS il) (gvI x.2.2.2.2.1) 70 c (hdI x.2.2.2.2.1)).elim 0 _ = _
          rw [d1]
          rfl
        rw [eo'] at b2 ⊢
        refine .inr ⟨ne, ?_⟩
        rw [ln78]
        have cl8 : c < (abS cl).length := by
          obtain ⟨_, _, hab, _⟩ := cT
          have := hab.2 c (by rw [qy]; rfl)
          have h1 := iT.1.2
          omega
        have BD := dc_term (x := 0) (sc := fR h' 1286 (ioF il i)) (Sl := fun a => Sl' a ∧ a ≠ Lp) TR V.1.2.1 P.2.2.1 P.2.2.2.1 (Dl3_L Dl) ne d6 d4 d1 cl8 (by unfold hdI; intro w; cases w) hC
        exact TermC_len TR hm0 hm ⟨Q, P.2.2.1, V.1.2.1, SC, BD⟩ b2
end LIT
