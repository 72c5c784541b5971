set_option maxRecDepth 100000
/-! A PROGRAM THAT IS READ, to the end of judging, in both -/
/-- the component when a program begins to be read -/
def PS0 (G : om_G) (h0 : om_H) (m0 pr tb t A : Nat) (S : List Int) (Z OldL : Nat → Prop) (fl : List Nat) (Dk : Nat → Prop) (ds : List Nat) (l0 pv Lp te s tm : Nat) : Prop := (0 < hz h0 ∧ (txC h0 A S ∧ A < hz h0) ∧ (kd h0 t = 15 ∧ t < hz h0)) ∧ (fR h0 78 pr = tb ∧ (∀ N cl, TB G h0 N cl tb [] fl []) ∧ fl.length ≤ 149990 ∧ fI h0 128 tb = 0) ∧ ((∀ a, Z a ↔ ∃ f ∈ PFs, a = fR h0 f pr) ∧ (∀ a, Z a → OldL a) ∧ ∀ a, OldL a → a < hz h0 ∧ kd h0 a = 42) ∧ (PoolC G h0 tb OldL Dk ds 0 ∧ ds.length ≤ 49000 ∧ fR h0 122 tb ≠ 0 ∧ ¬ OldL (fR h0 122 tb)) ∧ (OldL Lp ∧ ¬ Z Lp) ∧ TvQ G h0 l0 pv Lp te s ∧ fR h0 210 l0 < hz h0 ∧ MnP h0 m0 tm te pr
/-- a program that is judged -/
def PrJ (G : om_G) (A : Nat) (S : List Int) (m : Nat) (N : List (List Int)) (pr tb z0 Lp l0 pv te s tm : Nat) (OldL : Nat → Prop) (fl0 : List Nat) (h' : om_H) (σ' : tS) : Prop := ∃ (cs fo : List Nat) (mo : List (List Nat)) (K : KT) (F : FT) (Ms : List FT) (hr : om_H) (σr : tS) (M : Nat) (qs : List dcl) (ps : List PD) (rs : List (Nat × Nat × Nat × Nat)) (h : om_H) (ul fl : List Nat) (τ : tS) (n : Nat) (cl : List Cp) (il : List IX) (fl' : List FX) (us2 fs2 : List Nat) (Dk2 : Nat → Prop) (ds2 : List Nat) (dm2 n' lo : Nat) (l : List JB) (Sl' : Nat → Prop) (ess : List (List Et)) (s0 s' : JS), JDn G A S 0 m N pr tb z0 cs fo mo K F Ms hr σr M qs ps rs h ul fl τ n (slS OldL z0 h) (slA (fun y => OldL y ∧ y ≠ Lp) hr qs z0 h) cl il fl' Lp h' us2 Dk2 ds2 dm2 σ' n' l Sl' lo ess s0 s' ∧ TlR G h' N (clF cs) tb l0 us2 fs2 [] pv Lp te s tm ∧ lt10 (nmN N) cnN (fmN K) (kcN K) ∧ (∀ y ∈ fs2, y ∈ fl0 ∨ z0 ≤ y) ∧ ∀ L ∈ N, L ∈ Nal ∨ ∃ j, L = tokw S j ∧ (tokk S j = 2 ∨ tokk S j = 3)
/-- what a program may write of what was there before -/
def wLd (h0 : om_H) (pr tb t : Nat) (Z : Nat → Prop) (fl : List Nat) (Dk OldL : Nat → Prop) (a : Nat) : Prop := a = t ∨ Z a ∨ wJ h0 pr tb fl Dk OldL (hz h0) a
/-- all else stays -/
def oFr (Wr : Nat → Prop) (h0 h2 : om_H) : Prop := hz h0 ≤ hz h2 ∧ (∀ a, a < hz h0 → kd h2 a = kd h0 a) ∧ (∀ a, a < hz h0 → ¬ Wr a → kd h0 a ≠ 22 → eqA a h0 h2) ∧ ∀ a, a < hz h0 → kd h0 a = 22 → (∀ f ∈ SIf, fI h2 f a = fI h0 f a) ∧ (∀ f ∈ SRf, fR h2 f a = fR h0 f a) ∧ fR h2 1358 a = fR h0 1358 a
/-- what reading and judging write of the twin -/
abbrev JTS : List Nat := PFD ++ RFS ++ JAS
abbrev JTA : List Nat := PAD ++ RFA ++ 726 :: JAA
section LPJ
variable {G : om_G} {A t : Nat} {N : List (List Int)} {S : List Int} {m j M : Nat} {σ0 σr : tS} {h0 hr : om_H} {HZ HU : Nat} {qs : List dcl} {m0 pr tb n : Nat} {Z OldL : Nat → Prop} {fl : List Nat} {Dk : Nat → Prop} {ds : List Nat} {l0 pv Lp te s tm : Nat}
theorem hp_eq (X : hp Z t h0 hr) {a : Nat} (ha : a < hz h0) (nt : a ≠ t) (nz : ¬ Z a) : eqA a h0 hr := ⟨X.2.2.1 a ha, fun f => X.2.2.2.1 f a ha nt, fun f => X.2.2.2.2.1 f a ha nt, X.2.2.2.2.2.1 a ha, fun k => X.2.2.2.2.2.2.1 a k ha, fun k => X.2.2.2.2.2.2.2.1 a k ha, X.2.2.2.2.2.2.2.2.1 a ha nz, X.2.2.2.2.2.2.2.2.2 a ha nz⟩
theorem eqA_tr {a : Nat} {h h1 h2 : om_H} (A : eqA a h h1) (B : eqA a h1 h2) : eqA a h h2 := ⟨B.1.trans A.1, fun f => (B.2.1 f).trans (A.2.1 f), fun f => (B.2.2.1 f).trans (A.2.2.1 f), B.2.2.2.1.trans A.2.2.2.1, fun k => (B.2.2.2.2.1 k).trans (A.2.2.2.2.1 k), fun k => (B.2.2.2.2.2.1 k).trans (A.2.2.2.2.2.1 k), B.2.2.2.2.2.2.1.trans A.2.2.2.2.2.2.1, B.2.2.2.2.2.2.2.trans A.2.2.2.2.2.2.2⟩
set_option maxHeartbeats 1000000 in
/-- READ, THEN JUDGED -/
theorem prog_jt (hI : intO G) (wo : whyO G) (hm : m ≤ 1300) (hS : S.length ≤ 1300) (H : At G A t N S 0 m j 0 M σr hr) (B : PB G A t S 0 m Z pr σ0 h0 HZ HU j M σr hr qs) (C0 : PS0 G h0 m0 pr tb t A S Z OldL fl Dk ds l0 pv Lp te s tm) (eTP : TP σ0 = some σr) (T0 : Tst σ0 N S 0 m 0 0 0) (NT0 : NT σ0 N ∧ ndN N ∧ Nal <+: N ∧ ∀ L ∈ N, L.length ≤ 10 ∧ (L ∈ Nal ∨ ∃ j, L = tokw S j ∧ (tokk S j = 2 ∨ tokk S j = 3))) (al : alS 2100 σ0) (Ty : TyN σ0 n ∧ n ≤ 12 ∧ BTy σ0 n) (z6 : gs σ0 624 = 0 ∧ gs σ0 644 = 0 ∧ gs σ0 648 = 0 ∧ gs σ0 652 = 0 ∧ gs σ0 764 = 0) (NB : NodB σ0) : ∃ (r : Nat ⊕ Unit) (h h' : om_H) (σ' : tS), C_1_judge G pr hr = some (r, h') ∧ T_isProgram_148 σr = T_isProgram_278 σ' ∧ oFr (wLd h0 pr tb t Z fl Dk OldL) h0 h' ∧ (∀ f, fR h' f tb = fR h0 f tb) ∧ (gs σ' 420 = gs σ0 420 ∧ fr JTS JTA σ0 σ' ∧ NodB σ') ∧ ((∃ (k p : Int) (a : Nat), r = .inl a ∧ flt h' a k p ∧ (gs σ' 452 = k ∧ k ≠ 0) ∧ gs σ' 456 = p) ∨ (r = .inr () ∧ gs σ' 452 = 0 ∧ MnP h' m0 tm te pr ∧ PrJ G A S m N pr tb (hz h0) Lp l0 pv te s tm OldL fl h' σ')) := by
  obtain ⟨⟨h00, tx0, ⟨kt, lt⟩⟩, ⟨e78, TB0, hfl, t128⟩, ⟨zi, zo, ok⟩, ⟨Po, hds, n122, no122⟩, ⟨oLp, nLp⟩, TQ, e210, Mn⟩ := C0
  obtain ⟨ndp, hpp, PLr, RBr, e624, asc, prw, PCr, plen⟩ := id B
  obtain ⟨NTs, nd, npre, n10⟩ := NT0
  obtain ⟨TyN0, n12, BT0⟩ := Ty
  have t3 := TB_3 (TB0 N (fun _ => 0))
  have ntb : tb ≠ t := fun z => by rw [z, kt] at t3; omega
  have npr : pr ≠ t := PLr.1.2.2
  have lpr : pr < hz h0 := Mn.2.2.1
  have kpr : kd h0 pr = 2 := Mn.2.2.2
  have M27 : M ≤ 2700 := by have := RBr.2.2; omega
  have hzr : hz h0 ≤ hz hr := hpp.1
  have rtb : ∀ f, fR hr f tb = fR h0 f tb := fun f => hpp.2.2.2.2.1 f tb t3.2.2 ntb
  have itb : ∀ f, fI hr f tb = fI h0 f tb := fun f => hpp.2.2.2.1 f tb t3.2.2 ntb
  have rpr : ∀ f, fR hr f pr = fR h0 f pr := fun f => hpp.2.2.2.2.1 f pr lpr npr
  have k122 : kd h0 (fR h0 122 tb) = 42 ∧ fR h0 122 tb < hz h0 := ⟨(TB0 N (fun _ => 0)).2.1.1.2.1, (TB0 N (fun _ => 0)).2.1.1.1⟩
  -- the table behind reading
  have HTr : hT (fun y => y = t ∨ Z y) h0 hr := ⟨hpp.1, hpp.2.1, hpp.2.2.1, fun a ha na => hp_eq hpp ha (fun z => na (.inl z)) (fun z => na (.inr z))⟩
  have kD : ∀ y, (y = t ∨ Z y) → kd h0 y = 15 ∨ kd h0 y = 42 := fun y w => by
    rcases w with w | w
    · rw [w]; exact .inl kt
    · exact .inr (ok y (zo y w)).2
  have TBr : ∀ cl, TB G hr N cl tb [] fl [] := fun cl => TB_hT (TB0 N cl) nd HTr (fun y w _ => by
    have := kD y w
    refine ⟨by omega, by omega, by omega, fun z => ?_⟩
    rcases w with w | w
    · rw [← w, z, k122.1] at kt; omega
    · exact no122 (by rw [← z]; exact zo y w)) (fun y w => by
    have := kD y w
    exact ⟨by omega, by omega, fun z => by omega⟩)
  have frP := ndp.1
  have aR : ∀ f, f ∉ PAD → ∀ i, ga σr f i = ga σ0 f i := fun f hf i => frP.2 f hf i
  have sR' : ∀ f, f ∉ PFD → gs σr f = gs σ0 f := fun f hf => frP.1 f hf
  have tyR : ∀ f ∈ TYA, ∀ i, ga σr f i = ga σ0 f i := fun f hf i => aR f ((by decide : ∀ f ∈ TYA, f ∉ PAD) f hf) i
  have TyR : TyN σr n := TyN_same (sR' 532 (by decide)) tyR TyN0
  have alR : alS 2100 σr := fun k hk => by
    rw [aR 630 (by decide), aR 770 (by decide), aR 634 (by decide), aR 638 (by decide), aR 774 (by decide), aR 642 (by decide)]
    exact al k hk
  have NTr : NT σr N := NT_fr frP (by decide) (by decide) (by decide) NTs
  obtain ⟨GTr, XMr⟩ := pt0 alR npre nd NTr.2.1
  have f0 : gs σr 452 = 0 := H.1.2.2.2.2.1
  have P0 : PT1 S N 0 m σr ([], [], [], [], [], 0) := ⟨H.1.1, rfl, by rw [sR' 644 (by decide)]; exact z6.2.1, by rw [sR' 648 (by decide)]; exact z6.2.2.1, by rw [sR' 764 (by decide)]; exact z6.2.2.2.2, by rw [sR' 652 (by decide)]; exact z6.2.2.2.1, GTr, XMr, .inl f0⟩
  obtain ⟨ps, rs, h, ul', fl', y1, y2, y3, τ, n1, a1, a2, a3, a4, a5, a6, a7⟩ := RA_of hm H B h00 nd P0 (fun K => ⟨TyR.1, fun x hx w => absurd w (TyR.2 x hx)⟩) (by omega) TBr hfl (by rw [rpr]; exact e78) (fun y w => by
    rcases w with w | w | w | w
    · rw [w]; exact t3.2.2
    · rw [w, rtb]; exact k122.2
    · rw [w, rtb]; exact (TB0 N (fun _ => 0)).1.2.1.2.1.1
    · exact ((TB0 N (fun _ => 0)).2.1.2.2.2.2 y (by simpa using w)).2.2) lpr (fun a w => (ok a (zo a w)).1) (fun f hf => by
    rw [rpr, rtb]
    intro z
    exact no122 (by rw [← z]; exact zo _ ((zi _).mpr ⟨f, hf, rfl⟩)))
  obtain ⟨b1, b2, b3, b4, b5, b6, b7, b8, b9, b10⟩ := a4
  obtain ⟨d1, d2, d3, d4, d5, d6, d7, d8, d9, d10, d11, d12⟩ := a5
  -- what was there stays
  have old : ∀ a, a < hz h0 → kd h0 a ≠ 2 → kd h0 a ≠ 3 → kd h0 a ≠ 15 → kd h0 a ≠ 34 → kd h0 a ≠ 56 → a ≠ fR h0 122 tb → ¬ Z a → eqA a h0 h := fun a ha c2 c3 c15 c34 c56 n1' nz => by
    have e1 := hp_eq hpp ha (fun z => c15 (by rw [z]; exact kt)) nz
    refine eqA_tr e1 (b3 a ha ?_ (fun z => c2 (by rw [z]; exact kpr)))
    refine nDT (TBr (clF [])) ⟨by rw [e1.1]; exact c3, by rw [e1.1]; exact c34, by rw [e1.1]; exact c56⟩ (by rw [rtb]; exact n1')
  have old2 : ∀ a, a < hz h0 → a ≠ pr → a ≠ t → ¬ Z a → ¬ DT h0 tb fl a → eqA a h0 h := fun a ha np nt nz nd' => eqA_tr (hp_eq hpp ha nt nz) (b3 a ha (fun w => nd' (by
    rcases w with w | w | w | w
    · exact .inl w
    · exact .inr (.inl (by rw [← rtb]; exact w))
    · exact .inr (.inr (.inl (by rw [← rtb]; exact w)))
    · exact .inr (.inr (.inr w)))) np)
  have wdt : ∀ a, ¬ wLd h0 pr tb t Z fl Dk OldL a → a ≠ pr ∧ a ≠ t ∧ ¬ Z a ∧ ¬ DT h0 tb fl a := fun a nw => ⟨fun z => nw (.inr (.inr (.inl z))), fun z => nw (.inl z), fun z => nw (.inr (.inl z)), fun w => by
    rcases w with w | w | w | w
    · exact nw (.inr (.inr (.inr (.inl w))))
    · exact nw (.inr (.inr (.inr (.inr (.inr (.inr (.inr (.inl ⟨by rw [w]; exact k122.1, by rw [w]; exact no122⟩))))))))
    · exact nw (.inr (.inr (.inr (.inr (.inl w)))))
    · exact nw (.inr (.inr (.inr (.inr (.inr (.inl w))))))⟩
  have kD2 : ∀ a, DT h0 tb fl a → kd h0 a = 3 ∨ kd h0 a = 42 ∨ kd h0 a = 56 ∨ kd h0 a = 34 := fun a w => by
    rcases w with w | w | w | w
    · rw [w]; exact .inl t3.1
    · rw [w]; exact .inr (.inl k122.1)
    · rw [w]; exact .inr (.inr (.inl (TB0 N (fun _ => 0)).1.2.1.2.1.2.1))
    · exact .inr (.inr (.inr ((TB0 N (fun _ => 0)).2.1.2.2.2.2 a (by simpa using w)).1))
  have old22 : ∀ a, a < hz h0 → kd h0 a = 22 → eqA a h0 h := fun a ha k22 => old2 a ha (fun z => by rw [z, kpr] at k22; omega) (fun z => by rw [z, kt] at k22; omega) (fun z => by have := (ok a (zo a z)).2; omega) (fun w => by have := kD2 a w; omega)
  have s420 : gs τ 420 = gs σ0 420 := by rw [d4.1 420 (by decide), sR' 420 (by decide)]
  have Fτ : fr JTS JTA σ0 τ := fr_trans (fr_mono frP (fun f hf => List.mem_append_left _ (List.mem_append_left _ hf)) (fun f hf => List.mem_append_left _ (List.mem_append_left _ hf))) (fr_mono d4 (fun f hf => List.mem_append_left _ (List.mem_append_right _ hf)) (fun f hf => List.mem_append_left _ (List.mem_append_right _ hf)))
  have q148 : T_isProgram_148 σr = if (gs τ 452) ≠ 0 then T_isProgram_267 τ else (T_third τ).bind fun p5 => T_isProgram_267 p5 := by
    unfold T_isProgram_148
    rw [if_pos f0, a3.1, Option.bind_some, a3.2.1, Option.bind_some, a3.2.2.1, Option.bind_some, a3.2.2.2, Option.bind_some]
  have kph : kd h pr = 2 ∧ pr < hz h := ⟨by rw [b4.2 pr (by omega), hpp.2.2.1 pr lpr]; exact kpr, by have := b4.1; omega⟩
  have kpr' : kd hr pr = 2 := PLr.1.1
  by_cases mx : bp τ = 2147483647
  · have R := a7 mx
    have f0' := bp_0 mx
    have pT : ∀ f, fR h f tb = fR h0 f tb := fun f => (b6.2 f).trans (rtb f)
    have pP : ∀ f, fR h f pr = fR h0 f pr := fun f => (b5.2 f).trans (rpr f)
    have kk : ∀ a, a < hz h0 → kd h a = kd h0 a := fun a ha => (b4.2 a (by omega)).trans (hpp.2.2.1 a ha)
    have hz0 : hz h0 ≤ hz h := Nat.le_trans hzr b4.1
    have Pk : PoolC G h tb (slS OldL (hz h0) h) Dk ds 0 := PoolC_keep Po hz0 kk t3.2.2 ⟨by rw [b6.1 140 (by decide), itb], pT 138, pT 122⟩ (fun a ha w => by
      rcases w with w | ⟨w1, w2, w3⟩
      · exact old a ha (by omega) (by omega) (by omega) (by omega) (by omega) (fun z => by rw [z, k122.1] at w; omega) (fun z => by have := (ok a (zo a z)).2; omega)
      · exact old a ha (by omega) (by omega) (by omega) (by omega) (by omega) w3 (fun z => w2 (zo a z))) (fun a ha w => by
      rcases w with w | w
      · exact .inl w
      · omega) (fun w => by
      rcases w with w | w
      · exact Po.1.2.1 w
      · have := Po.1.1.1; omega)
    have TQh : TvQ G h l0 pv Lp te s := TvQ_eq hz0 kk (fun a w => by
      rcases w with w | w | w | w | w
      · rw [w]; exact old l0 TQ.1.2.1 (by rw [TQ.1.1]; decide) (by rw [TQ.1.1]; decide) (by rw [TQ.1.1]; decide) (by rw [TQ.1.1]; decide) (by rw [TQ.1.1]; decide) (fun z => by have := TQ.1.1; rw [z, k122.1] at this; omega) (fun z => by have := (ok _ (zo _ z)).2; have := TQ.1.1; omega)
      · have kk2 := TQ.2.1.1.1
        rw [w]; exact old pv TQ.2.1.1.2 (by omega) (by omega) (by omega) (by omega) (by omega) (fun z => by rw [z, k122.1] at kk2; omega) (fun z => by have := (ok _ (zo _ z)).2; omega)
      · have kk2 := TQ.2.2.2.1.1.1
        rw [w]; exact old te TQ.2.2.2.1.1.2 (by omega) (by omega) (by omega) (by omega) (by omega) (fun z => by rw [z, k122.1] at kk2; omega) (fun z => by have := (ok _ (zo _ z)).2; omega)
      · have kk2 := TQ.2.2.2.2.1
        rw [w]; exact old s TQ.2.2.2.2.2 (by omega) (by omega) (by omega) (by omega) (by omega) (fun z => by rw [z, k122.1] at kk2; omega) (fun z => by have := (ok _ (zo _ z)).2; omega)
      · have kk2 := (ok _ oLp).2
        rw [w]; exact old Lp (ok _ oLp).1 (by omega) (by omega) (by omega) (by omega) (by omega) (fun z => no122 (by rw [← z]; exact oLp)) nLp) TQ
    have el0 : fR h 210 l0 = fR h0 210 l0 := by
      have kk2 := TQ.1.1
      exact (old l0 TQ.1.2.1 (by omega) (by omega) (by omega) (by omega) (by omega) (fun z => by rw [z, k122.1] at kk2; omega) (fun z => by have := (ok _ (zo _ z)).2; omega)).2.2.1 210
    have Mnh : MnP h m0 tm te pr := by
      obtain ⟨⟨m1, m2, m3, m4⟩, ⟨m5, m6⟩, _⟩ := Mn
      have e1 := old m0 m1 (by omega) (by omega) (by omega) (by omega) (by omega) (fun z => by rw [z, k122.1] at m2; omega) (fun z => by have := (ok _ (zo _ z)).2; omega)
      have e2 := old tm m5 (by omega) (by omega) (by omega) (by omega) (by omega) (fun z => by rw [z, k122.1] at m6; omega) (fun z => by have := (ok _ (zo _ z)).2; omega)
      exact ⟨⟨by omega, by rw [e1.1]; exact m2, by rw [e1.2.2.1]; exact m3, by rw [e1.2.2.1]; exact m4⟩, ⟨by omega, by rw [e2.1]; exact m6⟩, kph.2, kph.1⟩
    have zP : ∀ f ∈ PFs, OldL (fR h f pr) ∧ fR h f pr ≠ Lp := fun f hf => by
      rw [pP]
      have zz := (zi _).mpr ⟨f, hf, rfl⟩
      exact ⟨zo _ zz, fun z => nLp (by rw [← z]; exact zz)⟩
    have ctb : ctP τ M ≤ 433 := ct_433 (b := 0) eTP T0.2.2.2.2.2 T0.2.1 f0 H.1.2.1 H.1.2.2.2.2.2 (by have := H.1.2.2.1; omega) d5
    have BTτ : BTy τ n1 := by
      obtain ⟨⟨wa, wb, w1, w2, w3, w4⟩, w5, w6⟩ := BT0
      have txa : tx σ0 n τ n1 := tx_trans (tx_same tyR) d3
      refine ⟨⟨wa, wb, w1, by rw [d4.1 868 (by decide), sR' 868 (by decide)]; exact w2, by rw [d4.1 872 (by decide), sR' 872 (by decide)]; exact w3, fun k hk => ?_⟩, ?_, ?_⟩
      · rw [d4.2 878 (by decide), aR 878 (by decide)]
        exact tyT_mono txa (w4 k hk)
      · rw [d4.1 860 (by decide), sR' 860 (by decide)]
        exact tyT_mono txa w5
      · rw [d4.1 864 (by decide), sR' 864 (by decide)]
        exact tyT_mono txa w6
    have NBτ : NodB τ := fun i => by
      rw [d4.2 842 (by decide), aR 842 (by decide)]
      exact NB i
    have htl : tl ul' fl' ≤ 10500 := by
      have q5 := a1.2.1
      have c1 := b7.1
      unfold tl
      rw [if_pos (by simp only [List.nil_append] at c1; omega)]
      omega
    have CL := R.2.2.2.1.1.2.2.1
    have hcl : ∀ c, clF (prgL hr qs (fun _ => []) 82) c < hz h := fun c => by
      unfold clF
      by_cases q : c < (prgL hr qs (fun _ => []) 82).length
      · rw [List.getD_eq_getElem?_getD, List.getElem?_eq_getElem q]
        exact (CL.2.2.2.2 c _ _ (List.getElem?_eq_getElem q) (List.getElem?_eq_getElem (by rw [← CL.2.2.1]; exact q))).1.2.1
      · rw [List.getD_eq_getElem?_getD, List.getElem?_eq_none (by omega)]
        show 0 < hz h
        omega
    obtain ⟨cl, il, fx, r, h3, h', us', fs', Dk', ds', dm', σ1, σ', g1, g2, g3, g4, g5, g6, g7, g8, g9, g10, g12, g11⟩ := judge_tell (l2 := 0) hI wo R (OldL := OldL) (fun a w => ⟨(ok a w).1, by have := (ok a w).1; omega, by rw [kk a (ok a w).1]; exact (ok a w).2⟩) oLp (zP 86 (by decide)) (zP 90 (by decide)) Pk (by rw [b6.1 128 (by decide), itb]; exact t128) ⟨by rw [pT]; exact n122, by rw [pT]; exact no122, by rw [pT]; exact k122.2⟩ hcl (by rw [pP]; exact e78) d11 BTτ NBτ (by rw [d4.1 624 (by decide)]; exact e624) ctb (by omega) htl hds NTr (al_cnN npre) (fun L hL => (n10 L hL).1) TQh (by rw [el0]; exact e210) Mnh
    have FR : oFr (wLd h0 pr tb t Z fl Dk OldL) h0 h' := by
      have z3 := g4.1.1.1
      have z4 := g5.1.1
      refine ⟨by omega, fun a ha => ?_, fun a ha nw k22 => ?_, fun a ha k22 => ?_⟩
      · rw [g5.1.2.1 a (by omega), (g4.1.2 a (by omega)).1, kk a ha]
      · obtain ⟨w1, w2, w3, w4⟩ := wdt a nw
        have e := old2 a ha w1 w2 w3 w4
        refine eqA_tr e ((fr_judge R g12.1 g12.2 g4.1 g5 (a := a) ha (by omega)).1 (fun w => ?_) (by rw [e.1]; exact k22))
        rcases w with w | w | w | w | w | w | w | w
        · exact w1 w
        · exact w4 (.inl w)
        · exact w4 (.inr (.inr (.inl (by rw [← pT]; exact w))))
        · rcases b9.2 a w with v | v
          · exact w4 (.inr (.inr (.inr v)))
          · omega
        · exact nw (.inr (.inr (.inr (.inr (.inr (.inr (.inl w)))))))
        · exact nw (.inr (.inr (.inr (.inr (.inr (.inr (.inr (.inl ⟨by rw [← e.1]; exact w.1, w.2⟩))))))))
        · exact nw (.inr (.inr (.inr (.inr (.inr (.inr (.inr (.inr (.inl ⟨by rw [← e.1]; exact w.1, by rw [← e.2.2.1]; exact w.2⟩)))))))))
        · exact nw (.inr (.inr (.inr (.inr (.inr (.inr (.inr (.inr (.inr w)))))))))
      · have e := old22 a ha k22
        obtain ⟨v1, v2, v3⟩ := (fr_judge R g12.1 g12.2 g4.1 g5 (a := a) ha (by omega)).2 (by rw [e.1]; exact k22)
        exact ⟨fun f hf => (v1 f hf).trans (e.2.1 f), fun f hf => (v2 f hf).trans (e.2.2.1 f), v3.trans (e.2.2.1 1358)⟩
    have TBf : ∀ f, fR h' f tb = fR h0 f tb := fun f => by
      have kt3 : kd h tb = 3 := by rw [kk tb t3.2.2]; exact t3.1
      rw [g5.2.2.2.2.2.2.1.2 f, (g4.1.2 tb (by omega)).2.2.1 f (fun w => by have := (il_rg R g12.1 w.2).2; omega), pT]
    refine ⟨r, h, h', σ', ?_, ?_, FR, TBf, ⟨by rw [g3.1.1 420 (by decide)]; exact s420, fr_trans Fτ (fr_mono g3.1 (fun f hf => List.mem_append_right _ hf) (fun f hf => List.mem_append_right _ hf)), g3.2⟩, ?_⟩
    · rw [C_1_judge_eq, gd_pos kpr', a2, Option.bind_some, gd_pos kph.1, c_fail_no kph.1 (by rw [a6.1]; exact mx), xc_v]
      exact g1
    · rw [q148, if_neg (fun z => z f0'), g2.1, Option.bind_some]
      exact g2.2
    · rcases g11 with w | ⟨w1, w2, us2, fs2, Dk2, ds2, dm2, n', lo, ll', Sl', ess, s0, s', D, TR, L10, fsub⟩
      · exact .inl w
      · exact .inr ⟨w1, w2, g10, _, _, _, _, _, _, _, _, _, _, _, _, _, _, _, _, _, _, _, _, _, _, _, _, _, _, _, _, _, _, _, _, D, TR, L10, fun y hy => (fsub y hy).elim (fun w => b9.2 y w) .inr, fun L hL => (n10 L hL).2⟩
  · have b20 : bp τ ≤ 2000 := a6.2.resolve_left mx
    obtain ⟨f1, f2⟩ := bp_at (p := bp τ) rfl (by omega)
    have f3 : gs τ 452 = 2 := d1.1.2.2.2.1.resolve_left f1
    obtain ⟨h', c1, c2, c3, _⟩ := c_fail_yes (G := G) (k := 2) kph a6.1 (by omega)
    have FR : oFr (wLd h0 pr tb t Z fl Dk OldL) h0 h' := by
      have hz0 : hz h0 ≤ hz h := Nat.le_trans hzr b4.1
      have z3 := c3.1
      have ea : ∀ a, a < hz h0 → eqA a h h' := fun a ha => c3.2.2.2 a (by omega) (fun w => w)
      refine ⟨by omega, fun a ha => ?_, fun a ha nw k22 => ?_, fun a ha k22 => ?_⟩
      · rw [(ea a ha).1, b4.2 a (by omega), hpp.2.2.1 a ha]
      · obtain ⟨w1, w2, w3, w4⟩ := wdt a nw
        exact eqA_tr (old2 a ha w1 w2 w3 w4) (ea a ha)
      · have e := eqA_tr (old22 a ha k22) (ea a ha)
        exact ⟨fun f _ => e.2.1 f, fun f _ => e.2.2.1 f, e.2.2.1 1358⟩
    have TBf : ∀ f, fR h' f tb = fR h0 f tb := fun f => by
      have hz0 : hz h0 ≤ hz h := Nat.le_trans hzr b4.1
      rw [(c3.2.2.2 tb (by have := t3.2.2; omega) (fun w => w)).2.2.1 f, b6.2 f, rtb f]
    refine ⟨.inl (hz h), h, h', τ, ?_, ?_, FR, TBf, ⟨s420, Fτ, fun i => by rw [d4.2 842 (by decide), aR 842 (by decide)]; exact NB i⟩, .inl ⟨2, bp τ, hz h, rfl, c2, ⟨f3, by decide⟩, f2⟩⟩
    · rw [C_1_judge_eq, gd_pos kpr', a2, Option.bind_some, gd_pos kph.1, c1]
      rfl
    · rw [q148, if_pos f1]
      unfold T_isProgram_267
      rw [if_pos f1]
end LPJ
