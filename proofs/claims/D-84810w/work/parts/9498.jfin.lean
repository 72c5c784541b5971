set_option maxRecDepth 100000
/-! JUDGING AS A WHOLE, in both: behind resolve -/
/-- all is judged -/
def JdK (G : om_G) (N : List (List Int)) (cl : Nat → Nat) (tb pr : Nat) (ss : List (Nat × List GVs)) (Sl Sl0 Gx : Nat → Prop) (io fo mo : Nat → Nat) (ab : List (Option Nat)) (ins : List INs) (fn : List (List Nat × List GVs × Ty)) (mt : List (Option (Nat × Nat × Ty))) (nI nF H0 : Nat) (h' : om_H) (us' fs' : List Nat) (Dk' : Nat → Prop) (ds' : List Nat) (dm' : Nat) (σ' : tS) (n' : Nat) (l : List JB) : Prop := ∃ (Sl' : Nat → Prop) (lo : Nat) (ess : List (List Et)) (s0 s' : JS), (∀ a, Sl a → Sl' a) ∧ jjs fn mt ab ins l s0 = some (.inr (ess, s')) ∧ BQ G h' N cl tb us' fs' [] Sl' Gx io ab ins ss Dk' ds' dm' s'.1 ∧ (PGC h' N cl (UU us' []) Sl0 io ab ins ∧ (∀ t ∈ ss, GVC h' N cl (UU us' []) Sl0 t.1 t.2) ∧ JCE N cl fo mo (fn, mt, ab, ins, []) h' (UU us' []) Sl0 ∧ JPr h' tb pr Sl0 io fo nI nF) ∧ AbD h' N cl (UU us' []) (Dl3 Dk' ds' 0 dm') io ab ins ins.length ∧ JbsJ G N cl [] io fo mo fn mt ab ins lo H0 h' us' Dk' ds' dm' Sl' l ess 0 ∧ TJ σ' n' (fn, mt, ab, ins, []) s' ∧ JbsTJ σ' n' l ess ∧ JbsT fn mt ab ins σ' n' l 0 0 0 ∧ (∃ pls : List Nat, pls.length = ins.length ∧ abJ ab ins (ins.zip pls) (0, []) = some (.inr s0)) ∧ (∀ X ∈ s'.2, ∃ t, tyT σ' n' X t) ∧ ∀ X ∈ s'.2, ∃ y, tyC h' N cl (UU us' []) X y
section LJF
variable {G : om_G} {A : Nat} {S : List Int} {b m : Nat} {N : List (List Int)} {pr tb z0 : Nat} {cs fo : List Nat} {mo : List (List Nat)} {K : KT} {F : FT} {Ms : List FT} {hr : om_H} {σr : tS} {M : Nat} {qs : List dcl} {ps : List PD} {rs : List (Nat × Nat × Nat × Nat)} {h h3 : om_H} {ul fl : List Nat} {τ σ3 : tS} {n : Nat} {Sl Sl0 Gx : Nat → Prop} {cl : List Cp} {il : List IX} {fl' : List FX} {Dk : Nat → Prop} {ds : List Nat}
/-- the table and the pool behind the third rule -/
theorem tb_third (R : RA G A S b m N pr tb z0 cs fo mo K F Ms hr σr M qs ps rs h ul fl τ n) (T : tF pr (fun y => kd h y = 21) (fun y => kd h y = 58) h h3) (P : PoolC G h tb Sl Dk ds 0) : TB G h3 N (clF cs) tb ul fl [] ∧ PoolC G h3 tb Sl Dk ds 0 := by
  have T0 := R.2.2.2.1.1.1.1
  have nd := R.2.2.2.1.1.1.2
  have CL := R.2.2.2.1.1.2.2.1
  have HT := tF_hT T
  have k122 := T0.2.1.1.2.1
  have kD : ∀ y, (y = pr ∨ kd h y = 21 ∨ kd h y = 58) → kd h y = 2 ∨ kd h y = 21 ∨ kd h y = 58 := fun y w => by
    rcases w with w | w | w
    · rw [w]; exact .inl CL.1.1
    · exact .inr (.inl w)
    · exact .inr (.inr w)
  have t3 := TB_3 T0
  refine ⟨TB_hT T0 nd HT (fun y w _ => ?_) (fun y w => ?_), PoolC_hT P HT (fun y w _ => ?_) ((T.2 tb t3.2.2).2.1 140 (fun z => by omega)) (fun f => (T.2 tb t3.2.2).2.2.1 f (fun z => by omega))⟩
  · have := kD y w
    exact ⟨by omega, by omega, by omega, fun e => by rw [e, k122] at this; omega⟩
  · have := kD y w
    exact ⟨by omega, by omega, fun e => by omega⟩
  · have := kD y w
    exact ⟨by omega, fun e => by omega⟩
/-- exs and lines stay over the third rule -/
theorem dy_third (kp : kd h pr = 2) (T : tF pr (fun y => kd h y = 21) (fun y => kd h y = 58) h h3) : ∀ a, a < hz h → dyK (kd h a) → eqA a h h3 := fun a ha hk => by
  have e := T.2 a ha
  unfold dyK at hk
  exact ⟨e.1, fun f => e.2.1 f (fun z => by rw [z.2, kp] at hk; omega), fun f => e.2.2.1 f (fun z => by have := z.2; omega), e.2.2.2.1, e.2.2.2.2.1, e.2.2.2.2.2.1 (fun z => by have z' : kd h a = 58 := z; omega), e.2.2.2.2.2.2.1, e.2.2.2.2.2.2.2⟩
theorem il_rg (R : RA G A S b m N pr tb z0 cs fo mo K F Ms hr σr M qs ps rs h ul fl τ n) (X : AX G A S b m N pr tb z0 cs fo mo K F Ms hr σr M qs ps rs h ul fl τ n Sl cl il) {y : Nat} (w : tI il y) : (z0 ≤ y ∧ y < hz h) ∧ kd h y = 21 := by
  obtain ⟨x, hx, e⟩ := w
  obtain ⟨f, hf, ef⟩ := List.getElem_of_mem hx
  have ex : il[f]? = some x := by rw [List.getElem?_eq_getElem hf, ef]
  have I := (X.2.2 f x ex).2
  obtain ⟨i1, i2, i3, i4, i5⟩ := I.1
  have ext := I.2.2.2.2.2.2.2.2.2.1.2.2.2.2.1.2.2.2
  have rg := (prR_at R.2.1.1 i1 i3).1
  have hzz := R.2.2.2.2.1.2.1
  rw [e]
  exact ⟨⟨by omega, by omega⟩, I.2.2.2.1.1.2.2.1⟩
/-- the program's lists -/
theorem jpr_of (R : RA G A S b m N pr tb z0 cs fo mo K F Ms hr σr M qs ps rs h ul fl τ n) (X : AX G A S b m N pr tb z0 cs fo mo K F Ms hr σr M qs ps rs h ul fl τ n Sl0 cl il) (e78 : fR h 78 pr = tb) (s86 : Sl0 (fR h 86 pr)) (s90 : Sl0 (fR h 90 pr)) : JPr h tb pr Sl0 (ioF il) (clF fo) il.length F.length := by
  have kp := R.2.2.2.1.1.2.2.1.1
  have l86 := R.1.2.2.2.2.2.2.2.1 86 (by simp)
  have l90 := R.1.2.2.2.2.2.2.2.1 90 (by simp)
  have fn := R.2.2.2.1.2.1.1
  have efo := R.2.2.1.2.1
  refine ⟨⟨kp.1, kp.2, e78⟩, ⟨s86, l86.2.1, l86.1, by rw [l86.2.2, RA_86 R, X.2.1], fun i hi => ?_⟩, ⟨s90, l90.2.1, l90.1, ?_, fun i hi => ?_⟩⟩
  · have ex : il[i]? = some il[i] := List.getElem?_eq_getElem hi
    rw [ioF_at ex, l86.2.2]
    exact (X.2.2 i _ ex).2.2.1
  · rw [l90.2.2, ← efo]
    exact fn.2.2.2.1
  · rw [l90.2.2, ← efo]
    have hi' : i < fo.length := by rw [fn.2.2.2.1]; exact hi
    unfold clF
    rw [List.getElem?_eq_getElem hi', List.getD_eq_getElem?_getD, List.getElem?_eq_getElem hi']
    rfl
set_option maxHeartbeats 2000000 in
/-- JUDGING, in both -/
theorem judge_all (hI : intO G) (R : RA G A S b m N pr tb z0 cs fo mo K F Ms hr σr M qs ps rs h ul fl τ n) (X : AX G A S b m N pr tb z0 cs fo mo K F Ms hr σr M qs ps rs h ul fl τ n Sl0 cl il) (Xf : FXs G A S b m N pr tb z0 cs fo mo K F Ms hr σr M qs ps rs h ul fl τ n Sl0 fl') (P : PoolC G h tb Sl Dk ds 0) (t128 : fI h 128 tb = 0) (nS : fR h 122 tb ≠ 0 ∧ ¬ Sl (fR h 122 tb)) (hSk : ∀ a, Sl a → a < hz h ∧ kd h a = 42) (m0 : ∀ a, Sl0 a → Sl a) (hcl : ∀ c, clF cs c < hz h) (hGx : ∀ s ∈ ssA h il fl', ∀ x ∈ ll h (fR h 166 s.1), Gx x) (hNe : ∀ y, z0 ≤ y → y < hz h → kd h y = 42 → ll h y ≠ [] → Sl0 y) (hHd : ∀ y, HdL hr qs y → ¬ Sl0 y ∧ Sl y) (e78 : fR h 78 pr = tb) (s86 : Sl0 (fR h 86 pr)) (s90 : Sl0 (fR h 90 pr)) (e812 : gs τ 812 = 0) (BT : BTy τ n) (NB : NodB τ) (e624 : gs τ 624 = (qs.length : Int)) (hct : ctP τ M ≤ 433) (hn : n ≤ 25000) (htl : tl ul fl ≤ 10500) (hds : ds.length ≤ 49000) : ∃ (r : Nat ⊕ Unit) (h3 h' : om_H) (us' fs' : List Nat) (Dk' : Nat → Prop) (ds' : List Nat) (dm' : Nat) (σ1 σ' : tS), cJ G pr h = some (r, h') ∧ (T_third τ = some σ1 ∧ T_isProgram_267 σ1 = T_isProgram_278 σ') ∧ (fr JAS (726 :: JAA) τ σ' ∧ NodB σ') ∧ (tF pr (tI il) (tAr K cs h) h h3 ∧ hz h3 = hz h + il.length ∧ hu h3 ≤ hu h + 4 * il.length) ∧ KB N (clF cs) tb [] (ssA h il fl') Sl0 Gx (fun a => z0 ≤ a ∧ a < hz h) h3 ul fl Dk ds 0 h' us' fs' Dk' ds' dm' 150000 (38 * M + 3 * qs.length + 30) (604 * M + 110 * qs.length + 200) ∧ dm' ≤ 30000 ∧ TB G h' N (clF cs) tb us' fs' [] ∧ PoolC G h' tb Sl0 Dk' ds' dm' ∧ ((∃ (k p : Int) (a : Nat), r = .inl a ∧ flt h' a k p ∧ (gs σ' 452 = k ∧ k ≠ 0) ∧ gs σ' 456 = p) ∨ (r = .inr () ∧ (∃ l n', JdK G N (clF cs) tb pr (ssA h il fl') Sl Sl0 Gx (ioF il) (clF fo) (moF mo) (abS cl) (inS il) (fnS fl') (mtS cl) il.length F.length (hz h) h' us' fs' Dk' ds' dm' σ' n' l ∧ (tx τ n σ' n' ∧ (l ≠ [] → gs σ' 856 = 0) ∧ n' ≤ 110000 ∧ tl us' fs' ≤ 146000) ∧ l.length = qs.length ∧ ∀ (i : Nat) (j : JB), l[i]? = some j → DJ G S N cs fo mo ps rs h ul τ n Sl0 Sl cl il fl' (hz h) i j) ∧ (TOk cl il ∧ ∀ (f : Nat) (x : FX), fl'[f]? = some x → gvOk x.2.2.2.2.2.1.2.1) ∧ ∃ σ3, (∀ (j : Nat) (x : IX) (y : Cp), il[j]? = some x → cl[x.2.2.2.2.1.1]? = some y → LnD h τ x y.2.2.2.2 j h3 σ3) ∧ ∀ i, ga σ' 726 i = ga σ3 726 i)) := by
  have nd := RA_nd R
  have kp2 := R.2.2.2.1.1.2.2.1.1
  obtain ⟨h3, σ3, c1, t1, T3, ⟨z3, u3, Tp⟩, F3, ⟨b1, b2, b3⟩, ar, LDs, ok⟩ := third_all R X Xf
  have k3 : kd h3 pr = 2 := by rw [(T3.2 pr kp2.2).1]; exact kp2.1
  have lt3 : pr < hz h3 := Nat.lt_of_lt_of_le kp2.2 T3.1.1
  have F3' : fr JAS (726 :: JAA) τ σ3 := fr_sub F3 (by decide) (by decide)
  obtain ⟨TB3, P3⟩ := tb_third R T3 P
  have M27 := R.1.2.2.2.1
  by_cases mx : bp σ3 = 2147483647
  · obtain ⟨O, Og⟩ := ok mx
    have X' := AX_more m0 X
    have Xf' := FXs_more m0 Xf
    obtain ⟨B3, XS3, kp3⟩ := bq_start R X' Xf' O T3 ar P t128 nS hSk hcl hGx
    obtain ⟨AE, AD⟩ := ab_start (fl' := fl') (Lv := Dl3 Dk ds 0 0) R X' T3 XS3 kp3 e78 (m0 _ s86)
    obtain ⟨z, ez⟩ := abJ_ends (ab := abS cl) (ins := inS il) (abIn S il) (0, [])
    obtain ⟨τ4, n4, q1, q2, q3, q4, q5, q6, q7⟩ := t_third_a R X O F3 (bp_0 mx) e812 (by omega) ez
    obtain ⟨o1, o2, o3, o4, o5⟩ := ok_ins R X O
    have K8 := RA_K8 R
    have la : (abS cl).length ≤ 8 := by unfold abS; rw [List.length_map, X.1.1]; exact K8
    have li : (inS il).length = il.length := by unfold inS; rw [List.length_map]
    have ins_at : ∀ (i : Nat) (d : INs), (inS il)[i]? = some d → ∃ x, il[i]? = some x ∧ x.2.2.2.2.1 = d := fun i d e => by
      obtain ⟨x, ex, exd⟩ := inS_get e
      exact ⟨x, ex, exd⟩
    have hcd : ∀ d ∈ inS il, ∀ c ∈ d.2.2.2.1, c.1 < 100 := fun d hd c hc => by
      obtain ⟨j, x, ex, exd⟩ := inS_at hd
      obtain ⟨_, _, _, Tw, _⟩ := X.2.2 j x ex
      rw [exd] at Tw
      obtain ⟨i, hi, ei⟩ := List.getElem_of_mem hc
      have := (Tw.2.2.2.1.2.2 i c (by rw [List.getElem?_eq_getElem hi, ei])).2.2.1
      omega
    have io_at : ∀ (i : Nat) (d : INs), (inS il)[i]? = some d → tI il (ioF il i) := fun i d e => by
      obtain ⟨x, ex, _⟩ := ins_at i d e
      rw [ioF_at ex]
      exact ⟨x, List.mem_of_getElem? ex, rfl⟩
    have F4 : fr JAS (726 :: JAA) σ3 τ4 := fr_sub q2 (by decide) (by decide)
    have N4 : NodB τ4 := fun i => by rw [q2.2 842 (by decide), F3.2 842 (by decide)]; exact NB i
    obtain ⟨rr, h4, us4, fs4, Dk4, ds4, dm4, v1, v2, v3, v4⟩ := c_abv (G := G) (pr := pr) (pl := plF S il) (W := tI il) nd la o4 o2 o3 o1 hcd (fun i hi => io_at i _ (List.getElem?_eq_getElem hi)) (inS il).length 0 (0, []) z h3 ul fl Dk ds 0 (by omega) (by rw [List.drop_zero]; exact ez) B3 AE AD (by show (0 : Nat) ≤ 300; omega) (by show tl ul fl + 80 * (300 - 0) + 7560 ≤ 149000; omega) hds (by omega)
    have v1' : om_loop (C_1_judge_20s G pr) (0, h3) = some rr := v1
    have cJe : cJ G pr h = cJ2 G pr h3 := by
      unfold cJ
      rw [gd_pos kp2.1, c1, Option.bind_some, gd_pos k3, c_fail_no k3 (by rw [b1]; exact mx), xc_v]
    have wid : ∀ a, a < hz h3 → tI il a → z0 ≤ a ∧ a < hz h := fun a _ w => (il_rg R X w).1
    have T3t : T_third τ = some τ4 := t1 τ4 q1
    cases z with
    | inl kp =>
      obtain ⟨w1, w2⟩ := q6 kp.1 kp.2 rfl
      rcases v4 kp.1 kp.2 rfl with ⟨k7, a, er, f1, f2, f3, f4⟩ | ⟨k7, a, er, ka, kw, ⟨tt, B4⟩, K4⟩
      · refine ⟨.inl a, h3, h4, us4, fs4, Dk4, ds4, dm4, τ4, τ4, ?_, ⟨T3t, ?_⟩, ⟨fr_trans F3' F4, N4⟩, ⟨Tp, z3, u3⟩, KB_le (KB_less m0 f4) wid (by omega) (by omega) (by omega), by omega, f2, PoolC_less m0 f3, .inl ⟨7, kp.2, a, rfl, f1, ⟨by rw [w1, k7]; rfl, by decide⟩, w2⟩⟩
        · rw [cJe]
          unfold cJ2
          rw [v1', er]
          rfl
        · unfold T_isProgram_267
          rw [if_pos (by rw [w1, k7]; decide)]
      · obtain ⟨h5, g1, g2, g3, g4⟩ := cJ1_run (G := G) (p := (kp.2 : Int)) ka ⟨kw.1, kw.2.1, kw.2.2⟩
        obtain ⟨B5, K5⟩ := BQ_w (W := tI il) (z := 1) (u := 8) nd B4 g3 (fun y w _ => False.elim w) (fun y w => False.elim w) ⟨by omega, by omega⟩
        refine ⟨.inl (hz h4), h3, h5, us4, fs4, Dk4, ds4, dm4, τ4, τ4, ?_, ⟨T3t, ?_⟩, ⟨fr_trans F3' F4, N4⟩, ⟨Tp, z3, u3⟩, KB_le (KB_less m0 (KB_trans K4 K5)) wid (by omega) (by omega) (by omega), by omega, B5.1, PoolC_less m0 B5.2.2.2.2.1, .inl ⟨3, kp.2, hz h4, rfl, g2, ⟨by rw [w1, k7]; rfl, by decide⟩, w2⟩⟩
        · rw [cJe]
          unfold cJ2
          rw [v1', er]
          exact g1
        · unfold T_isProgram_267
          rw [if_pos (by rw [w1, k7]; decide)]
    | inr s4 =>
      obtain ⟨w1, w2, w3, w4, w5⟩ := q7 s4 rfl
      obtain ⟨er, B4, AE4, AD4, s300, K4, dm5, tsd4⟩ := v3 s4 rfl
      -- the jobs
      have hH : hz hr ≤ hz h := R.2.2.2.2.1.2.1
      obtain ⟨l, l1, l2⟩ := lch (P := fun k j => DJ G S N cs fo mo ps rs h ul τ n Sl0 Sl cl il fl' (hz h) k j) qs.length (fun k hk => dj_at hI R X Xf O Og hNe hHd hH hk)
      have lp := R.2.1.2.2.1
      have hq := R.2.1.2.2.2.1
      obtain ⟨JC, JT⟩ := jbs_of (Sl := Sl) (fl' := fl') (H0 := hz h) R X l 0 (by omega) (fun i j e => by rw [Nat.zero_add]; exact l2 i j e)
      have f0 : fC S ps 0 = 0 := rfl
      have i0 : iC S ps 0 = 0 := rfl
      rw [f0, i0] at JC JT
      obtain ⟨pw1, pw2, pw3, pw4⟩ := jbs_pw R hH (by omega) l2
      obtain ⟨rm1, rm2, rm3⟩ := djs_room R l 0 0 (by omega) (fun i j e => by rw [Nat.zero_add]; exact l2 i j e) (fun i r e _ => Nat.zero_le _) (Nat.zero_le _)
      have c00 : ctP τ 0 = 0 := rfl
      have g4 : ∀ f ∈ fnS fl', f.2.1.length ≤ 4 := (fun f hf => ((env_ok R X Xf O (gv := []) (fun g hg => absurd hg List.not_mem_nil) (fun g hg => absurd hg List.not_mem_nil)).1.2.1 f hf).2.1.2)
      obtain ⟨cs1, cs2⟩ := jsC_le (mt := mtS cl) (ab := abS cl) (ins := inS il) g4 l
      -- over the third rule, over the one above
      have XS30 : hSg False Sl0 h h3 := tF_hS T3 (fun y w => by rw [w]; decide) (fun y w => by rw [w]; decide)
      have JC3 := JbsC_eq XS30 kp3 (dy_third kp2.1 T3) (fun a w => ⟨(hSk a w).1, (T3.2 a (hSk a w).1).2.2.2.2.2.2.1, (T3.2 a (hSk a w).1).2.2.2.2.2.2.2⟩) JC
      have X04 := hS_less m0 K4.1
      have kp4 := K4.2.2.2.2.2.2.2.1
      have JC4 := JbsC_eq X04 kp4 (fun a ha hk => K4.2.2.2.2.1.2.1 a ha (fun w => by unfold dyK at hk; omega) (fun w => by unfold dyK at hk; omega) (fun w => by unfold dyK at hk; omega) (fun w => by unfold dyK at hk; omega) (fun w => by unfold dyK at hk; omega) (fun _ w => by
        have k21 := (il_rg R X w)
        rw [(T3.2 a k21.1.2).1, k21.2] at hk
        unfold dyK at hk
        omega) (by unfold dyK at hk; omega)) (fun a w => by
        have lt := (B3.2.1.2.2.1 a w).1
        have e := K4.2.2.2.2.1.2.2.2 a lt w
        exact ⟨lt, e.2.2.2.2.2.2.1, e.2.2.2.2.2.2.2⟩) JC3
      have clk : ∀ c, clO h4 (clF cs) c → clO h3 (clF cs) c := fun c hc => by
        obtain ⟨y1, y2, y3, y4⟩ := hc
        have hc' := B3.2.1.2.2.2 c
        have k18 : kd h3 (clF cs c) = 18 := by rw [← X04.2.1 _ hc']; exact y3
        exact ⟨y1, hc', k18, by rw [← (X04.2.2.1 _ hc' (by rw [k18]; decide)).1 1200 (by decide)]; exact y4⟩
      have PG4 := PGC_hS X04 kp4 (pgc_of R X O T3 ar) clk
      have GV4 : ∀ t ∈ ssA h il fl', GVC h4 N (clF cs) (UU us4 []) Sl0 t.1 t.2 := fun t ht => by
        obtain ⟨kk, i, ⟨p, r, _, _, _, _, V⟩, _⟩ := ss_rec R X Xf ht
        exact GVC_hS X04 kp4 (GVC_hS XS30 kp3 V)
      have JE4 := JCE_keep X04 kp4 (JCE_keep XS30 kp3 (env_jce X Xf (gv := [])))
      have Pr4 := JPr_hS X04 (JPr_hS XS30 (jpr_of R X e78 s86 s90))
      have JTk := JbsT_keep2 (fr_trans F3' F4) (tx_trans (tx_same (fun g hg i => F3.2 g ((by decide : ∀ g ∈ TYA, g ∉ [726]) g hg) i)) q4) JT
      obtain ⟨zz, ezz⟩ := jjs_ends s4 JT
      have tl4 := K4.2.2.2.2.2.1
      have dl4 := K4.2.2.2.2.2.2.2.2.1.2.2
      have z4 := X04.1
      have F24 : F.length ≤ 24 := Classical.byContradiction (fun w => by
        have ex : fl'[24]? = some (fl'[24]'(by rw [Xf.1]; omega)) := List.getElem?_eq_getElem _
        have := (Xf.2 24 _ ex).1
        omega)
      obtain ⟨h5, us5, fs5, Dk5, ds5, dm5', y1, y2⟩ := c_jall (lo := dm4) (H0 := hz h) hI nd (by omega : F.length ≤ 900 ∧ il.length ≤ 900) l 0 0 s4 zz h4 us4 fs4 Dk4 ds4 dm4 Sl ezz JC4 pw1 pw2 (fun j hj => (pw3 j hj).2) B4 m0 PG4 GV4 JE4 Pr4 ⟨by simp only at tl4; omega, by omega, by omega, s300.2⟩ ⟨Nat.le_refl _, by omega⟩
      have JT3 : JT0 σ3 n (fnS fl', mtS cl, abS cl, inS il, []) := JT0_keep (fun f hf => F3.1 f ((by decide : ∀ f ∈ JTSc, f ∉ [452, 456]) f hf)) (fun f hf i => F3.2 f ((by decide : ∀ f ∈ JTAr, f ∉ [726]) f hf) i) (tx_same (fun g hg i => F3.2 g ((by decide : ∀ g ∈ TYA, g ∉ [726]) g hg) i)) (env_jt R X Xf O BT)
      have TJ4 : TJ τ4 n4 (fnS fl', mtS cl, abS cl, inS il, []) s4 := ⟨q3, JT0_fr (fr_sub q2 (by decide) (by decide)) q4 JT3, w1, ⟨w2, w3⟩, fun i => by rw [q2.2 842 (by decide), F3.2 842 (by decide)]; exact NB i⟩
      obtain ⟨τ5, n5, x1, x2, x3, x4, x5, x6, x7⟩ := t_jall (gv0 := []) l 0 0 0 s4 zz τ4 n4 ezz TJ4 JTk pw4 (by rw [F4.1 624 (by decide), F3'.1 624 (by decide), e624, Nat.zero_add, l1]) ⟨by omega, by omega, by omega⟩ (by omega)
      have F5 : fr JAS (726 :: JAA) τ4 τ5 := fr_sub x2 (fun _ w => w) (fun _ w => List.mem_cons_of_mem _ w)
      have Tj : T_isProgram_267 τ4 = T_isProgram_278 τ5 := by
        unfold T_isProgram_267 T_judgeAll
        have x1' : om_loop T_judgeAll_6s (0, 0, 0, τ4) = some τ5 := x1
        rw [if_neg (by rw [w1]; decide), x1', Option.bind_some, Option.bind_some]
      have wid5 : ∀ a, a < hz h4 → WJb l a → z0 ≤ a ∧ a < hz h := fun a _ w => by
        obtain ⟨j, hj, ⟨j1, j2⟩, _⟩ := w
        have := pw3 j hj
        omega
      have K4' := KB_le (W' := fun a => z0 ≤ a ∧ a < hz h) (KB_less m0 K4) wid (Nat.le_refl _) (Nat.le_refl _) (Nat.le_refl _)
      cases zz with
      | inl kp =>
        obtain ⟨a', g1, ⟨g2, g3, g4', g5⟩, g6⟩ := y1 kp.1 kp.2 rfl
        obtain ⟨⟨j1, j2, j3⟩, _⟩ := x6 kp.1 kp.2 rfl
        have g1' : om_loop (C_1_judge_129s G pr) (0, 0, h4) = some (.inr (.inl a', h5)) := g1
        refine ⟨.inl a', h3, h5, us5, fs5, Dk5, ds5, dm5', τ4, τ5, ?_, ⟨T3t, Tj⟩, ⟨fr_trans (fr_trans F3' F4) F5, x4.1⟩, ⟨Tp, z3, u3⟩, KB_le (KB_trans K4' (KB_le (KB_less (fun a w => .inl w) g5) wid5 (Nat.le_refl _) (Nat.le_refl _) (Nat.le_refl _))) (fun _ _ w => w) (by omega) (by omega) (by omega), by omega, g3, PoolC_less (fun a w => .inl w) g4', .inl ⟨kp.1, kp.2, a', rfl, g2, ⟨j2, by omega⟩, j3⟩⟩
        rw [cJe]
        unfold cJ2
        rw [v1', er]
        show cJ3 G pr h4 = _
        unfold cJ3
        rw [g1']
        rfl
      | inr es =>
        obtain ⟨Sl', g1, g2, g3, g4', g5, g6, g7, g8, g9⟩ := y2 es.1 es.2 rfl
        obtain ⟨j1, j2, j3, j4, j5⟩ := x7 es.1 es.2 rfl
        have g1' : om_loop (C_1_judge_129s G pr) (0, 0, h4) = some (.inl h5) := g1
        refine ⟨.inr (), h3, h5, us5, fs5, Dk5, ds5, dm5', τ4, τ5, ?_, ⟨T3t, Tj⟩, ⟨fr_trans (fr_trans F3' F4) F5, x4.1⟩, ⟨Tp, z3, u3⟩, KB_le (KB_trans K4' (KB_le (KB_less (fun a w => .inl w) g6) wid5 (Nat.le_refl _) (Nat.le_refl _) (Nat.le_refl _))) (fun _ _ w => w) (by omega) (by omega) (by omega), by omega, g3.1, PoolC_less (fun a w => g2 a (m0 a w)) g3.2.2.2.2.1, .inr ⟨rfl, ⟨l, n5, ⟨Sl', dm4, es.1, s4, es.2, g2, ezz, g3, g4', ?_, g9, j1, j4, JbsT_keep x2 x3 JTk, ⟨(List.range' 0 (inS il).length).map (plF S il), by simp, ez⟩, fun X hX => ?_, fun X hX => ?_⟩, ⟨tx_trans (tx_trans (tx_same (fun g hg i => F3.2 g ((by decide : ∀ g ∈ TYA, g ∉ [726]) g hg) i)) q4) x3, fun z => x4.2.elim (fun w => absurd w.1 z) (fun w => w), by have := j1.2.2.2.1.2; omega, by have := j1.2.2.2.1.2; have := g6.2.2.2.2.2.1; simp only at tl4; omega⟩, l1, l2⟩, ⟨O, Og⟩, σ3, LDs, fun i => by rw [x2.2 726 (by decide), q2.2 726 (by decide)]⟩⟩
        · rw [cJe]
          unfold cJ2
          rw [v1', er]
          show cJ3 G pr h4 = _
          unfold cJ3
          rw [g1']
          rfl
        · refine AbD_KB (PoolC_less (fun a w => w.elim (m0 a) And.left) B4.2.2.2.2.1) g6 (fun i d e => ?_) AD4
          obtain ⟨x, ex, _⟩ := ins_at i d e
          have rg := il_rg R X (io_at i d e)
          refine ⟨by omega, by rw [X04.2.1 _ (by omega), (T3.2 _ rg.1.2).1]; exact rg.2, ?_⟩
          rw [ioF_at ex]
          exact jbs_nw R X l2 ex
        · obtain ⟨D, d1, d2⟩ := j5
          rw [d1] at hX
          rcases List.mem_append.mp hX with hX | hX
          · obtain ⟨t, ht⟩ := w5 X hX
            exact ⟨t, tyT_mono x3 ht⟩
          · exact d2 X hX
        · obtain ⟨D, d1, d2⟩ := g8
          rw [d1] at hX
          rcases List.mem_append.mp hX with hX | hX
          · obtain ⟨D4, d3, d4⟩ := tsd4
            rw [d3] at hX
            obtain ⟨y, hy⟩ := d4 X (by simpa using hX)
            exact ⟨y, g6.2.2.2.2.2.2.2.1 _ _ hy⟩
          · exact d2 X hX
  · have le := b2.resolve_left mx
    obtain ⟨tt1, tt2, tt3⟩ := t_third_f le
    obtain ⟨h', f1, f2, f3, f4⟩ := c_fail_yes (G := G) (k := 3) ⟨k3, lt3⟩ b1 (by omega)
    have rz : rwZ h3 (ssA h il fl') = 0 := rwZ_0 (fun s hs x hx => by
      obtain ⟨kk, i, ⟨p, r, _, _, _, b3', V⟩, _⟩ := ss_rec R X Xf hs
      rw [(T3.2 _ V.1.1).2.2.1 166 (fun z => by omega), (T3.2 _ V.2.1.2.1).2.2.2.2.2.2.1] at hx
      have x22 := GVC_22 V hx
      rw [(T3.2 x x22.1).2.2.1 1358 (fun z => by omega)]
      exact (b3' x hx).2)
    obtain ⟨T', P', K'⟩ := KB_new (ss := ssA h il fl') (Gx := Gx) (W := fun a => z0 ≤ a ∧ a < hz h) (z := 1) (u := 8) nd TB3 P3 f3 (by omega) ⟨by omega, by omega⟩
    refine ⟨.inl (hz h3), h3, h', ul, fl, Dk, ds, 0, σ3, σ3, ?_, ⟨t1 σ3 tt1, ?_⟩, ⟨F3', fun i => by rw [F3.2 842 (by decide)]; exact NB i⟩, ⟨Tp, z3, u3⟩, KB_le (KB_less m0 K') (fun _ _ w => w) (by omega) (by omega) (by omega), by omega, T', PoolC_less m0 P', .inl ⟨3, bp σ3, hz h3, rfl, f2, ⟨b3.resolve_left tt2, by decide⟩, tt3⟩⟩
    · unfold cJ
      rw [gd_pos kp2.1, c1, Option.bind_some, gd_pos k3, f1, xc_t]
    · unfold T_isProgram_267
      rw [if_pos tt2]
end LJF
