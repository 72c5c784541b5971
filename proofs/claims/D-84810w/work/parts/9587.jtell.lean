set_option maxRecDepth 100000
/-! A PROGRAM IS JUDGED AND TOLD, in both: behind resolve -/
section LJT0
variable {G : om_G} {A : Nat} {S : List Int} {b m : Nat} {N : List (List Int)} {pr tb z0 : Nat} {cs fo : List Nat} {mo : List (List Nat)} {K : KT} {F : FT} {Ms : List FT} {hr : om_H} {σr : tS} {M : Nat} {qs : List dcl} {ps : List PD} {rs : List (Nat × Nat × Nat × Nat)} {h : om_H} {ul fl : List Nat} {τ : tS} {n : Nat} {Sl0 : Nat → Prop} {cl : List Cp} {il : List IX}
/-- heads' lists are lists of the program -/
theorem hdl_rg (R : RA G A S b m N pr tb z0 cs fo mo K F Ms hr σr M qs ps rs h ul fl τ n) (X : AX G A S b m N pr tb z0 cs fo mo K F Ms hr σr M qs ps rs h ul fl τ n Sl0 cl il) {y : Nat} (H : HdL hr qs y) : z0 ≤ y ∧ y < hz h ∧ kd h y = 42 := by
  obtain ⟨q, hq, q6, ey⟩ := H
  obtain ⟨i, hi, ei⟩ := List.getElem_of_mem hq
  have eq : qs[i]? = some q := by rw [List.getElem?_eq_getElem hi, ei]
  have lp := R.2.1.2.2.1
  have ep : ps[i]? = some (ps[i]'(by omega)) := List.getElem?_eq_getElem _
  have k1 := (prC_at R.1.1 R.1.2.1 R.2.1.2.1 (Nat.le_refl _) LS_nil eq ep).1.1
  have p6 : (ps[i]'(by omega)).1 = 6 := by rw [← k1]; exact q6
  have lt : iC S ps i < il.length := by
    have e1 : iC S ps (i + 1) = iC S ps i + 1 := by
      unfold iC
      rw [sAt_succ ep, pst_6 p6]
    have e2 := (sAt_le (S := S) (ps := ps) (s := ([], [], [], [], [], 0)) (show i + 1 ≤ ps.length by omega)).2
    have e3 := iC_all X
    unfold iC at e1 e3 ⊢
    omega
  have ex : il[iC S ps i]? = some il[iC S ps i] := List.getElem?_eq_getElem lt
  obtain ⟨_, I⟩ := X.2.2 _ _ ex
  obtain ⟨q1, q2, q3, q4, q5⟩ := I.1
  have ek := in_one q2 q4 ep p6 q5
  rw [ek] at q1
  have eq2 : il[iC S ps i].2.1 = q := Option.some.inj (q1.symm.trans eq)
  obtain ⟨a1, a2, _, ⟨_, r1, r2⟩, ⟨_, _, _, ⟨r3, r4⟩, _⟩, _⟩ := I.2.2.2.2.2.2.2.2.2.1
  rw [eq2] at a1 a2 r1 r2 r3 r4
  have rg := (prR_at R.2.1.1 eq (by rw [← ek]; exact q3)).1
  have e13 : fR h 1322 q.2.1 = fR hr 1322 q.2.1 := (R.2.2.2.2.1.1 q.2.1 (by omega) (by omega)).2.2.1 1322 (by decide)
  rw [ey, ← e13]
  exact ⟨by omega, a1, a2⟩
end LJT0
/-- lists of before, and of the program but heads' -/
def slA (OldL : Nat → Prop) (hr : om_H) (qs : List dcl) (z0 : Nat) (h : om_H) (y : Nat) : Prop := OldL y ∨ (z0 ≤ y ∧ y < hz h ∧ kd h y = 42 ∧ ¬ HdL hr qs y)
def slS (OldL : Nat → Prop) (z0 : Nat) (h : om_H) (y : Nat) : Prop := OldL y ∨ (z0 ≤ y ∧ y < hz h ∧ kd h y = 42)
section LJT1
variable {G : om_G} {A : Nat} {S : List Int} {b m : Nat} {N : List (List Int)} {pr tb z0 : Nat} {cs fo : List Nat} {mo : List (List Nat)} {K : KT} {F : FT} {Ms : List FT} {hr : om_H} {σr : tS} {M : Nat} {qs : List dcl} {ps : List PD} {rs : List (Nat × Nat × Nat × Nat)} {h : om_H} {ul fl : List Nat} {τ : tS} {n : Nat} {OldL : Nat → Prop} {Dk : Nat → Prop} {ds : List Nat} {Lp l0 pv te s tm m0 : Nat}
set_option maxHeartbeats 1000000 in
/-- JUDGED AND TOLD -/
theorem judge_tell (hI : intO G) (wo : whyO G) (R : RA G A S b m N pr tb z0 cs fo mo K F Ms hr σr M qs ps rs h ul fl τ n) (hO : ∀ a, OldL a → a < z0 ∧ a < hz h ∧ kd h a = 42) (oLp : OldL Lp) (o86 : OldL (fR h 86 pr) ∧ fR h 86 pr ≠ Lp) (o90 : OldL (fR h 90 pr) ∧ fR h 90 pr ≠ Lp) (P : PoolC G h tb (slS OldL z0 h) Dk ds 0) (t128 : fI h 128 tb = 0) (n122 : fR h 122 tb ≠ 0 ∧ ¬ OldL (fR h 122 tb) ∧ fR h 122 tb < z0) (hcl : ∀ c, clF cs c < hz h) (e78 : fR h 78 pr = tb) (e812 : gs τ 812 = 0) (BT : BTy τ n) (NB : NodB τ) (e624 : gs τ 624 = (qs.length : Int)) (hct : ctP τ M ≤ 433) (hn : n ≤ 25000) (htl : tl ul fl ≤ 10500) (hds : ds.length ≤ 49000) (NTr : NT σr N) (N9 : ∀ w, w ≤ 3 → N[9 + w]? = some (cnN w)) (h10 : ∀ L ∈ N, L.length ≤ 10) (TQ : TvQ G h l0 pv Lp te s) (e210 : fR h 210 l0 < z0) (Mn : MnP h m0 tm te pr) {l2 : Int} : ∃ (cl : List Cp) (il : List IX) (fl' : List FX) (r : Nat ⊕ Unit) (h3 h' : om_H) (us' fs' : List Nat) (Dk' : Nat → Prop) (ds' : List Nat) (dm' : Nat) (σ1 σ' : tS), cJ G pr h = some (r, h') ∧ (T_third τ = some σ1 ∧ T_isProgram_267 σ1 = T_isProgram_278 σ') ∧ (fr JAS (726 :: JAA) τ σ' ∧ NodB σ') ∧ (tF pr (tI il) (tAr K cs h) h h3 ∧ hz h3 = hz h + il.length ∧ hu h3 ≤ hu h + 4 * il.length) ∧ KB N (clF cs) tb [] (ssA h il fl') (slA OldL hr qs z0 h) (fun x => ∃ t ∈ ssA h il fl', x ∈ ll h (fR h 166 t.1)) (fun a => z0 ≤ a ∧ a < hz h) h3 ul fl Dk ds 0 h' us' fs' Dk' ds' dm' 150000 (38 * M + 3 * qs.length + 30) (604 * M + 110 * qs.length + 200) ∧ dm' ≤ 30000 ∧ TB G h' N (clF cs) tb us' fs' [] ∧ PoolC G h' tb (slA OldL hr qs z0 h) Dk' ds' dm' ∧ TvQ G h' l0 pv Lp te s ∧ MnP h' m0 tm te pr ∧ (AX G A S b m N pr tb z0 cs fo mo K F Ms hr σr M qs ps rs h ul fl τ n (slA OldL hr qs z0 h) cl il ∧ FXs G A S b m N pr tb z0 cs fo mo K F Ms hr σr M qs ps rs h ul fl τ n (slA OldL hr qs z0 h) fl') ∧ ((∃ (k p : Int) (a : Nat), r = .inl a ∧ flt h' a k p ∧ (gs σ' 452 = k ∧ k ≠ 0) ∧ gs σ' 456 = p) ∨ (r = .inr () ∧ gs σ' 452 = 0 ∧ ∃ (us2 fs2 : List Nat) (Dk2 : Nat → Prop) (ds2 : List Nat) (dm2 n' lo : Nat) (l : List JB) (Sl' : Nat → Prop) (ess : List (List Et)) (s0 s' : JS), JDn G A S b m N pr tb z0 cs fo mo K F Ms hr σr M qs ps rs h ul fl τ n (slS OldL z0 h) (slA (fun y => OldL y ∧ y ≠ Lp) hr qs z0 h) cl il fl' Lp h' us2 Dk2 ds2 dm2 σ' n' l Sl' lo ess s0 s' ∧ TlR G h' N (clF cs) tb l0 us2 fs2 [] pv Lp te s tm ∧ lt10 (nmN N) cnN (fmN K) (kcN K) ∧ ∀ y ∈ fs2, y ∈ fl ∨ z0 ≤ y)) := by
  have hA : ∀ y, z0 ≤ y → y < hz h → kd h y = 42 → ¬ HdL hr qs y → slA (fun y => OldL y ∧ y ≠ Lp) hr qs z0 h y := fun y a1 a2 a3 a4 => .inr ⟨a1, a2, a3, a4⟩
  obtain ⟨cl, il, X⟩ := AX_of R hA
  obtain ⟨fl', Xf⟩ := FX_of R hA
  have up : ∀ a, slA (fun y => OldL y ∧ y ≠ Lp) hr qs z0 h a → slA OldL hr qs z0 h a := fun a w => w.elim (fun w => .inl w.1) .inr
  have Xa := AX_more up X
  have hzr : z0 ≤ hz h := Nat.le_trans (prC_le R.2.1.2.1) R.2.2.2.2.1.2.1
  have Xfa := FXs_more up Xf
  have mA : ∀ a, slA OldL hr qs z0 h a → slS OldL z0 h a := fun a w => w.elim .inl (fun w => .inr ⟨w.1, w.2.1, w.2.2.1⟩)
  have hSk : ∀ a, slS OldL z0 h a → a < hz h ∧ kd h a = 42 := fun a w => by
    rcases w with w | w
    · exact ⟨(hO a w).2.1, (hO a w).2.2⟩
    · exact w.2
  have nS : fR h 122 tb ≠ 0 ∧ ¬ slS OldL z0 h (fR h 122 tb) := ⟨n122.1, fun w => by
    rcases w with w | w
    · exact n122.2.1 w
    · have := n122.2.2; omega⟩
  have nH : ∀ y, HdL hr qs y → ¬ slA OldL hr qs z0 h y := fun y w z => by
    have rg := hdl_rg R X w
    rcases z with z | z
    · have := (hO y z).1; omega
    · exact z.2.2.2 w
  have hNe : ∀ (Old : Nat → Prop) (y : Nat), z0 ≤ y → y < hz h → kd h y = 42 → ll h y ≠ [] → slA Old hr qs z0 h y := fun Old y a1 a2 a3 a4 => by
    refine .inr ⟨a1, a2, a3, fun w => ?_⟩
    have wc := w
    obtain ⟨q, hq, q6, ey⟩ := w
    obtain ⟨i, hi, ei⟩ := List.getElem_of_mem hq
    have eq : qs[i]? = some q := by rw [List.getElem?_eq_getElem hi, ei]
    have lp := R.2.1.2.2.1
    have ep : ps[i]? = some (ps[i]'(by omega)) := List.getElem?_eq_getElem _
    have k1 := (prC_at R.1.1 R.1.2.1 R.2.1.2.1 (Nat.le_refl _) LS_nil eq ep).1.1
    have p6 : (ps[i]'(by omega)).1 = 6 := by rw [← k1]; exact q6
    have lt : iC S ps i < il.length := by
      have e1 : iC S ps (i + 1) = iC S ps i + 1 := by
        unfold iC
        rw [sAt_succ ep, pst_6 p6]
      have e2 := (sAt_le (S := S) (ps := ps) (s := ([], [], [], [], [], 0)) (show i + 1 ≤ ps.length by omega)).2
      have e3 := iC_all X
      unfold iC at e1 e3 ⊢
      omega
    have ex : il[iC S ps i]? = some il[iC S ps i] := List.getElem?_eq_getElem lt
    obtain ⟨_, I⟩ := X.2.2 _ _ ex
    obtain ⟨q1, q2, q3, q4, q5⟩ := I.1
    have ek := in_one q2 q4 ep p6 q5
    rw [ek] at q1
    have eq2 : il[iC S ps i].2.1 = q := Option.some.inj (q1.symm.trans eq)
    obtain ⟨_, _, l0', _, ⟨_, _, _, ⟨r3, r4⟩, _⟩, _⟩ := I.2.2.2.2.2.2.2.2.2.1
    rw [eq2] at l0' r3 r4
    have rg := (prR_at R.2.1.1 eq (by rw [← ek]; exact q3)).1
    have e13 : fR h 1322 q.2.1 = fR hr 1322 q.2.1 := (R.2.2.2.2.1.1 q.2.1 (by omega) (by omega)).2.2.1 1322 (by decide)
    rw [ey, ← e13] at a4
    exact a4 l0'
  have hGx : ∀ t ∈ ssA h il fl', ∀ x ∈ ll h (fR h 166 t.1), ∃ t ∈ ssA h il fl', x ∈ ll h (fR h 166 t.1) := fun t ht x hx => ⟨t, ht, hx⟩
  obtain ⟨r, h3, h', us', fs', Dk', ds', dm', σa, σb, c1, c2, c3, c4, c5, c6, c7, c8, _⟩ := judge_all (Sl := slS OldL z0 h) (Sl0 := slA OldL hr qs z0 h) (Gx := fun x => ∃ t ∈ ssA h il fl', x ∈ ll h (fR h 166 t.1)) hI R Xa Xfa P t128 nS hSk mA hcl hGx (hNe OldL) (fun y w => ⟨nH y w, .inr (hdl_rg R X w)⟩) e78 (.inl o86.1) (.inl o90.1) e812 BT NB e624 hct hn htl hds
  have TQ' := tvq_judge R Xa Xfa c4.1 c5 TQ (.inl oLp) e210
  obtain ⟨r2, h32, h2, us2, fs2, Dk2, ds2, dm2, σ1, σ', d1, d2, d3, d4, d5, d6, d7, d8, d9⟩ := judge_all (Sl := slS OldL z0 h) (Sl0 := slA (fun y => OldL y ∧ y ≠ Lp) hr qs z0 h) (Gx := fun x => ∃ t ∈ ssA h il fl', x ∈ ll h (fR h 166 t.1)) hI R X Xf P t128 nS hSk (fun a w => mA a (up a w)) hcl hGx (hNe _) (fun y w => ⟨fun z => nH y w (up y z), .inr (hdl_rg R X w)⟩) e78 (.inl o86) (.inl o90) e812 BT NB e624 hct hn htl hds
  have ee : (r2, h2) = (r, h') := Option.some.inj (d1.symm.trans c1)
  injection ee with er eh
  rw [er, eh] at d9
  rw [eh] at d5 d7 d8
  -- the main object, the term
  have kp2 := R.2.2.2.1.1.2.2.1.1
  have keep : ∀ a, a < hz h → kd h a = 1 ∨ kd h a = 13 → eqA a h h' := fun a ha hk => by
    have e := c4.1.2 a ha
    have e1 : eqA a h h3 := ⟨e.1, fun f => e.2.1 f (fun w => by rw [w.2, kp2.1] at hk; omega), fun f => e.2.2.1 f (fun w => by have := (il_rg R X w.2).2; omega), e.2.2.2.1, e.2.2.2.2.1, e.2.2.2.2.2.1 (fun w => by have := tar_58 X w; omega), e.2.2.2.2.2.2.1, e.2.2.2.2.2.2.2⟩
    have hz3 := c4.1.1.1
    have hk3 : kd h3 a = 1 ∨ kd h3 a = 13 := by rw [e1.1]; exact hk
    have e2 := c5.2.2.2.2.1.2.1 a (by omega) (fun z => by omega) (fun z => by omega) (fun z => by omega) (fun z => by omega) (fun z => by omega) (fun z => by unfold dyK at z; omega) ⟨by omega, by omega, by omega⟩
    exact ⟨e2.1.trans e1.1, fun f => (e2.2.1 f).trans (e1.2.1 f), fun f => (e2.2.2.1 f).trans (e1.2.2.1 f), e2.2.2.2.1.trans e1.2.2.2.1, fun k => (e2.2.2.2.2.1 k).trans (e1.2.2.2.2.1 k), fun k => (e2.2.2.2.2.2.1 k).trans (e1.2.2.2.2.2.1 k), e2.2.2.2.2.2.2.1.trans e1.2.2.2.2.2.2.1, e2.2.2.2.2.2.2.2.trans e1.2.2.2.2.2.2.2⟩
  have hzz : hz h ≤ hz h' := Nat.le_trans c4.1.1.1 c5.1.1
  have Mn' : MnP h' m0 tm te pr := by
    obtain ⟨⟨a1, a2, a3, a4⟩, ⟨b1, b2⟩, ⟨f1, f2⟩⟩ := Mn
    have e1 := keep m0 a1 (.inl a2)
    have e2 := keep tm b1 (.inr b2)
    refine ⟨⟨by omega, by rw [e1.1]; exact a2, by rw [e1.2.2.1]; exact a3, by rw [e1.2.2.1]; exact a4⟩, ⟨by omega, by rw [e2.1]; exact b2⟩, by omega, ?_⟩
    rw [c5.1.2.1 pr (Nat.lt_of_lt_of_le f1 c4.1.1.1), (c4.1.2 pr f1).1]
    exact f2
  refine ⟨cl, il, fl', r, h3, h', us', fs', Dk', ds', dm', σ1, σ', c1, d2, d3, c4, c5, c6, c7, c8, TQ', Mn', ⟨Xa, Xfa⟩, ?_⟩
  rcases d9 with w | ⟨w1, ⟨l, n', JK, ⟨TX, e856, n11, tl14⟩, hl, H⟩, ⟨O, Og⟩, σ3, LDs, e726⟩
  · exact .inl w
  · refine .inr ⟨w1, ?_, ?_⟩
    · obtain ⟨_, _, _, _, _, _, _, _, _, _, _, TJ', _⟩ := JK
      exact TJ'.2.2.1
    · have n0 : ¬ slA (fun y => OldL y ∧ y ≠ Lp) hr qs z0 h Lp := fun w => by
        rcases w with w | w
        · exact w.2 rfl
        · have := (hO Lp oLp).1; omega
      obtain ⟨Sl', lo, ess, s0, s', mm, B', D⟩ := jdn_of R X Xf O Og hl H JK TX e856 n11 d3.1 d4.1 d5 LDs e726 (fun a w => mA a (up a w)) (.inl oLp) n0 NTr N9
      have ne : Lp ≠ fR h' 122 tb := fun z => B'.2.1.2.1 (by rw [← z]; exact mm _ (.inl oLp))
      exact ⟨us2, fs2, Dk2, ds2, dm2, n', lo, l, Sl', ess, s0, s', D, ⟨RA_nd R, wo, hI, TvP_q d7 TQ' ne, Mn'.2.1.2, by omega⟩, lt10_of X h10, fun y hy => (d5.2.2.2.2.1.1 y hy).imp id (fun w => by have := d4.1.1.1; omega)⟩
end LJT1
