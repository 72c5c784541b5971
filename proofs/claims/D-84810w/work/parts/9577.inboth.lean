set_option maxRecDepth 100000
/-! AN INST IS TOLD, in both -/
theorem DcX_ne {h : om_H} {N : List (List Int)} {cl : Nat → Nat} {U Lv : Nat → Prop} {io : Nat → Nat} {ab : List (Option Nat)} {gv : List GVs} : ∀ {D : Dc} {y : Nat}, DcX h N cl U Lv io ab gv D [y] → y ≠ 0
  | .leaf, y, H => by
    have H' : [y] = [] := H
    cases H'
  | .inner t a _ c nx, y, ⟨x, l', e1, _, e3, _⟩ => by
    injection e1 with e1 _
    rw [e1]
    by_cases t0 : t = 0
    · rw [if_pos t0] at e3
      obtain ⟨g, _, e4⟩ := e3
      cases q : a.2.1 with
      | zero => rw [q] at e4; exact e4.2.1.1
      | succ k => rw [q] at e4; exact e4.2.1.1
    · rw [if_neg t0] at e3
      exact e3.2.1.1
theorem Dl3_L {h : om_H} {tb Lp lo dm : Nat} {Dk : Nat → Prop} {ds : List Nat} (H : DkL h tb Lp Dk) : DkL h tb Lp (Dl3 Dk ds lo dm) := fun d hd => H d hd.1
section LIB
variable {G : om_G} {A : Nat} {S : List Int} {b m : Nat} {N : List (List Int)} {pr tb z0 : Nat} {cs fo : List Nat} {mo : List (List Nat)} {K : KT} {F : FT} {Ms : List FT} {hr : om_H} {σr : tS} {M : Nat} {qs : List dcl} {ps : List PD} {rs : List (Nat × Nat × Nat × Nat)} {h h' : om_H} {ul fl us' fs' : List Nat} {τ σ' : tS} {n n' : Nat} {Sl Sl0 Sl' : Nat → Prop} {cl : List Cp} {il : List IX} {fl' : List FX} {Lp l0 pv te s tm lo : Nat} {Dk' : Nat → Prop} {ds' : List Nat} {dm' : Nat} {l : List JB} {ess : List (List Et)} {s0 s' : JS}
/-- an inst's head can be told, in both -/
theorem hd_both (D : JDn G A S b m N pr tb z0 cs fo mo K F Ms hr σr M qs ps rs h ul fl τ n Sl Sl0 cl il fl' Lp h' us' Dk' ds' dm' σ' n' l Sl' lo ess s0 s') {i : Nat} {x : IX} (e : il[i]? = some x) : (tyOk (inS il) (hdI x.2.2.2.2.1) ∧ tsz (hdI x.2.2.2.2.1) ≤ 3) ∧ GTH (inS il) (hdC N (clF cs) (nmN N) cnN (fmN K) h') (hdI x.2.2.2.2.1) ∧ GTy σ' (inS il) (nmN N) cnN (fmN K) (hdI x.2.2.2.2.1) := by
  obtain ⟨⟨R, X, Xf, O, Og⟩, _, ⟨XS, kp⟩, _, ⟨_, _, _, _, _, TN, _⟩, _⟩ := D
  obtain ⟨_, _, _, iT, ic, ⟨_, tc, _⟩, _⟩ := X.2.2 i x e
  have wf : wfT (hdI x.2.2.2.2.1) := hdI_wf iT.2.1.2 iT.2.2.1.2.1
  have NC := nmc_of X XS
  have hf : allH (hFam K) (hdI x.2.2.2.2.1) := hdI_H (fun k w z z' => absurd z' z)
  have oc := hty_of NC _ _ (kp _ _ tc) wf hf
  have s3 : tsz (hdI x.2.2.2.2.1) ≤ 3 := hdI_sz
  exact ⟨⟨⟨(by unfold hdI; intro w; cases w), wf, hdI_ok⟩, s3⟩, ⟨wf, hdI_ok, by omega, oc⟩, wf, hdI_ok, by omega, allH_and (hO_of R X TN) oc hf⟩
set_option maxHeartbeats 1000000 in
/-- A LINE IS TOLD, in both -/
theorem ln_both (D : JDn G A S b m N pr tb z0 cs fo mo K F Ms hr σr M qs ps rs h ul fl τ n Sl Sl0 cl il fl' Lp h' us' Dk' ds' dm' σ' n' l Sl' lo ess s0 s') (TR : TlR G h' N (clF cs) tb l0 us' fs' [] pv Lp te s tm) {i : Nat} {x : IX} (e : il[i]? = some x) {sc : Nat} (GC : GVC h' N (clF cs) (UU us' []) Sl0 sc (gvI x.2.2.2.2.1)) : ∃ (j : JB) (es : List Et), l[x.1]? = some j ∧ j.1 = 6 ∧ c6J (l.take x.1) = i ∧ j.2.2.2.2.1 = x.2.2.2.2.1 ∧ ess[x.1]? = some es ∧ es.length = j.2.2.2.2.2.2.length ∧ ll h (fR h 1326 (ioF il i)) = (j.2.2.2.2.2.2.map Prod.fst).map Prod.fst ∧ (j.2.2.2.2.2.2.map (fun y : LD × TD => y.2.1)) = x.2.2.2.2.2.2.2.2 ∧ InTw σ' n' (abS cl).length i x.2.2.2.2.1 ∧ ∀ (k : Nat) (y : LD × TD) (e0 : Et), j.2.2.2.2.2.2[k]? = some y → es[k]? = some e0 → ExO σ' n' (fnS fl', mtS cl, abS cl, inS il, gvI x.2.2.2.2.1) (nmN N) cnN (fmN K) e0 y.2.2.1 ∧ ga τ 546 y.2.1 = (y.2.2.1 : Int) ∧ (y.1.1 < hz h' ∧ kd h' y.1.1 = 23 ∧ fR h' 1366 y.1.1 = y.1.2.1) ∧ BdT G h' N (clF cs) tb l0 sc us' fs' [] (fun a => Sl' a ∧ a ≠ Lp) (ioF il) (abS cl) (inS il) (gvI x.2.2.2.2.1) pv Lp te s tm y.1.2.1 0 (exB (nmN N) cnN (fmN K) (kcN K) (abS cl) (inS il) (gvI x.2.2.2.2.1) e0 []) := by
  have D0 := D
  obtain ⟨⟨R, X, Xf, O, Og⟩, ⟨hl, H⟩, ⟨XS, kp⟩, ⟨jj, JJ, qC, qN⟩, ⟨TJ', JT2, JT1, Fr, TX, TN, _⟩, ⟨m0, n0, hSk, t0, tS', hc⟩, ⟨PG, GV, JC, Pr⟩, AD, Dl, _⟩ := D
  obtain ⟨j, ej, j6, cj, g1⟩ := in_job X hl H e
  obtain ⟨el, Ja⟩ := JbsJ_at JJ
  have kl := (List.getElem?_eq_some_iff.mp ej).1
  have ees : ess[x.1]? = some (ess[x.1]'(by omega)) := List.getElem?_eq_getElem _
  obtain ⟨es, eqs⟩ : ∃ es, ess[x.1]? = some es := ⟨_, ees⟩
  obtain ⟨_, Jf⟩ := Ja x.1 j es ej eqs
  obtain ⟨eL, XC⟩ := Jf j6
  have hJL : ∀ q ∈ l, JbL (fnS fl') (mtS cl) (abS cl) (inS il) q := fun q hq => by
    obtain ⟨i, hi, ei⟩ := List.getElem_of_mem hq
    exact (jbl_of R X Xf O Og (H i q (by rw [List.getElem?_eq_getElem hi, ei]))).1
  obtain ⟨_, cC⟩ := ((jjs_at (Q := QC h' N (clF cs) (UU us' [])) hJL jj).2.2 qC x.1 j es ej eqs).2 j6
  obtain ⟨_, cT⟩ := ((jjs_at (Q := QN σ' n') hJL jj).2.2 qN x.1 j es ej eqs).2 j6
  obtain ⟨_, cJ⟩ := (jjs_jd jj x.1 j es ej eqs).2 j6
  obtain ⟨bl, _, b6⟩ := jbl_of R X Xf O Og (H x.1 j ej)
  obtain ⟨_, LsLj⟩ := bl.2 j6
  obtain ⟨_, _, T6⟩ := JbsT_at JT1 x.1 j ej
  obtain ⟨ch', iT', lw', _⟩ := T6 j6
  obtain ⟨_, TE⟩ := JbsTJ_at JT2 x.1 j es ej eqs (.inr j6)
  obtain ⟨_, ⟨p1, p2, p3, p4, p5⟩, _, iT, ic, _, _, _, _, ⟨_, _, _, _, ch, _⟩, _⟩ := X.2.2 i x e
  obtain ⟨_, _, _, _, _, _, f6, _⟩ := H x.1 j ej
  obtain ⟨⟨_, IW, _, _, _, LW, _⟩, ⟨ch6, _, lw6, _⟩⟩ := f6 j6
  have fc : iC S ps x.1 = i := p5
  rw [fc] at IW LW
  have V := gvG_in (h1 := h') (U := UU us' []) R X e
  have P := pgt_of R X Xf O Og XS kp Dl V
  have Q := prg_at D0 GC
  rw [Nat.zero_add, cj] at iT'
  refine ⟨j, es, ej, j6, cj, g1, eqs, eL, IW.2.2.1.2.2.2, chain_det ch6 ch, by rw [← g1]; exact iT', fun k y e0 ey ee => ?_⟩
  have my := List.mem_of_getElem? ey
  have eyl : (j.2.2.2.2.2.2.map Prod.fst)[k]? = some y.1 := by rw [List.getElem?_map, ey]; rfl
  obtain ⟨⟨XCk, ⟨y1, y2⟩, _⟩, _⟩ := XC k y.1 e0 eyl ee
  obtain ⟨⟨⟨⟨z1, z2, z3⟩, _⟩, X0, _, dp9, _⟩, _⟩ := LW y.1 (List.mem_of_getElem? eyl)
  obtain ⟨c2, c3, c4, c5⟩ := cC k y e0 ey ee
  obtain ⟨_, _, _, d5⟩ := cT k y e0 ey ee
  obtain ⟨s1, s2, i2⟩ := cJ k y e0 ey ee
  obtain ⟨xq, hT⟩ := b6 j6 y my
  have ExLk := (LsLj (ldT j.2.2.2.2.2.1 j.2.2.2.2.1 y.1) (List.mem_map.mpr ⟨y, my, rfl⟩)).1
  have ExLk' : ExL (fnS fl', mtS cl, abS cl, inS il, gvI j.2.2.2.2.1) y.1.2.2.2.1 := ExLk
  have XE := TE k y e0 ey ee
  obtain ⟨XQ, _, _, _, _, _, _, _, _, rd⟩ := lw' y my
  obtain ⟨_, ⟨_, e546, _⟩, _⟩ := lw6 y my
  rw [g1] at XCk i2 ExLk' c5 d5 hT
  have st := (XS.2.2.1 _ z1 (by rw [z2]; decide)).2
  obtain ⟨EO, BD⟩ := ex_both (E := (fnS fl', mtS cl, abS cl, inS il, gvI x.2.2.2.2.1)) R X XS kp TN P TR Q m0 n0 XCk X0 dp9 ExLk' i2 xq hT c2 c3 c4 c5 d5 XE XQ rd
  exact ⟨EO, e546, ⟨y1, y2, by rw [st 1366 (by decide)]; exact z3⟩, BD⟩
end LIB
