set_option maxRecDepth 100000
/-! WHAT TERMS ARE MADE OF IS TOLD, in the component -/
/-- dictionaries' own lists are not the teller's -/
def DkL (h : om_H) (tb Lp : Nat) (Dk : Nat → Prop) : Prop := ∀ d, Dk d → (d < hz h ∧ kd h d = 36) ∧ (fR h 1630 d ≠ 0 → (fR h 1630 d < hz h ∧ kd h (fR h 1630 d) = 42) ∧ fR h 1630 d ≠ fR h 122 tb ∧ fR h 1630 d ≠ Lp) ∧ (fR h 1634 d ≠ 0 → (fR h 1634 d < hz h ∧ kd h (fR h 1634 d) = 42) ∧ fR h 1634 d ≠ fR h 122 tb ∧ fR h 1634 d ≠ Lp)
/-- what is known of the program's names and numbers -/
def NmP (h : om_H) (cl : Nat → Nat) (cnm : Nat → List Int) (io : Nat → Nat) (ab : List (Option Nat)) (ins : List INs) (gv : List GVs) : Prop := (∀ (i : Nat) (d : INs), ins[i]? = some d → ioC io h i) ∧ (∀ c, c < ab.length → cnC cl cnm h c) ∧ (∀ g ∈ gv, g.1 < 100 → g.1 < ab.length) ∧ (∀ k k' : Nat, ab[k]? = some (some k') → k' < ab.length) ∧ (∀ d ∈ ins, ∀ p ∈ d.2.2.2.1, p.1 < ab.length ∧ (p.2 = 0 → 2 ≤ d.2.1) ∧ (p.2 ≠ 0 → d.2.1 = 3)) ∧ ∀ (c w j : Nat) (g : GVs), gCl ab gv c w = some j → gv[j]? = some g → g.1 < 100
section LBD
variable {G : om_G} {h hM : om_H} {N : List (List Int)} {cl : Nat → Nat} {tb l0 sc pv Lp te s tm B : Nat} {us fs : List Nat} {rest : List (Nat × List Nat)} {Sl : Nat → Prop} {io fo mo : Nat → Nat} {nm con fam cnm : Nat → List Int} {E : JE} {lo dm : Nat} {ds : List Nat} {Dk : Nat → Prop}
theorem DkL_KM (P : TvP G hM N cl tb l0 us fs rest pv Lp te s) (m13 : kd hM tm = 13) (A : KM N cl tb l0 pv Lp s tm rest us fs hM h) (H : DkL hM tb Lp Dk) : DkL h tb Lp Dk := fun d w => by
  obtain ⟨⟨a1, a2⟩, a3, a4⟩ := H d w
  have e := KM_eq P m13 A a1 (by omega)
  have e122 := A.2.2.1.2.2 122
  have z := A.1.1
  refine ⟨⟨by omega, by rw [e.1]; exact a2⟩, fun n => ?_, fun n => ?_⟩
  · rw [e.2.2.1] at n ⊢
    obtain ⟨⟨b1, b2⟩, b3, b4⟩ := a3 n
    rw [e122]
    exact ⟨⟨by omega, by rw [A.1.2.2.1 _ b1]; exact b2⟩, b3, b4⟩
  · rw [e.2.2.1] at n ⊢
    obtain ⟨⟨b1, b2⟩, b3, b4⟩ := a4 n
    rw [e122]
    exact ⟨⟨by omega, by rw [A.1.2.2.1 _ b1]; exact b2⟩, b3, b4⟩
theorem NmP_KM {ab : List (Option Nat)} {ins : List INs} {gv : List GVs} (P : TvP G hM N cl tb l0 us fs rest pv Lp te s) (m13 : kd hM tm = 13) (A : KM N cl tb l0 pv Lp s tm rest us fs hM h) (H : NmP hM cl cnm io ab ins gv) : NmP h cl cnm io ab ins gv := ⟨fun i d e => ioC_KM P m13 A (H.1 i d e), fun c hc => cnC_KM P m13 A (H.2.1 c hc), H.2.2⟩
/-- an ex -/
theorem BdT_ex (nd : ndN N) (hN : gvN E.2.2.2.2) (wo : whyO G) (hI : intO G) (hnm : ∀ (w : Nat) (L : List Int), N[w]? = some L → nm w = L) (P : TvP G hM N cl tb l0 us fs rest pv Lp te s) (m13 : kd hM tm = 13) (htl : tl us fs + 2700 ≤ 149000) (Q : PrgC hM N cl tb sc us rest Sl io E.2.2.1 E.2.2.2.1 E.2.2.2.2 Lp) (I : InH (hdC N cl nm con fam hM) E.2.2.2.1 E.2.2.2.2 B) (Nm : NmP hM cl cnm io E.2.2.1 E.2.2.2.1 E.2.2.2.2) (Dl : DkL hM tb Lp Dk) {e : Et} {d dp x alo ahi : Nat} (X : XCt G N cl (UU us rest) Sl fo mo hM (evC N cl rest io E lo hM us Dk ds dm) e d dp 0 0 x alo ahi) (T : eT N cl nm con fam hM (kn2C hM N cl (UU us rest) E.2.2.2.1 E.2.2.2.2 nm con fam) (evT N cl (UU us rest) E.2.2.1 E.2.2.2.1 E.2.2.2.2 nm con fam hM) e) (hd : dp ≤ 129) : BdT G hM N cl tb l0 sc us fs rest Sl io E.2.2.1 E.2.2.2.1 E.2.2.2.2 pv Lp te s tm x 0 (exB nm con fam cnm E.2.2.1 E.2.2.2.1 E.2.2.2.2 e []) := by
  refine .inl ⟨rfl, fun hB E0 A h M o => ?_⟩
  have I1 := InH_KM P m13 A I
  have I0 := TI_of nd hN wo E0 I1 htl
  have Nm1 := NmP_KM P m13 A Nm
  have Dl1 := DkL_KM P m13 A Dl
  have nS := E0.1.2.2.1
  have hSl : ∀ a, Sl a → kd hM a = 42 ∧ a ≠ fR hM 122 tb ∧ a ≠ Lp := fun a sa => ⟨(Q.1.2.2.1 a sa).2, fun z => Q.1.2.1 (by rw [← z]; exact sa), fun z => Q.2.2.2 (by rw [← z]; exact sa)⟩
  have X1 := XCt_KM P m13 A hSl (fun D y w => evC_KM P m13 A Dl w) X
  have HEV := fun D y t c => HEV_of (cnm := cnm) (lo := lo) (dm := dm) (ds := ds) (Dk := Dk) I0 I1 Nm1.1 Nm1.2.1 Nm1.2.2.1 Nm1.2.2.2.1 Nm1.2.2.2.2.1 Nm1.2.2.2.2.2 (fun d w => ⟨fun n => ((Dl1 d w.1).2.1 n).2, fun n => ((Dl1 d w.1).2.2 n).2⟩) D y t c
  exact c_exT I0 nd hnm hI (fun a sa => ⟨fun z => nS.2.1 (by rw [← z]; exact sa), fun z => E0.2.2.2.1.2 (by rw [← z]; exact sa)⟩) E0.1.1.2.2.1 HEV X1 (eT_KM P m13 A T) hd o
/-- a dictionary -/
theorem BdT_dc {ab : List (Option Nat)} {ins : List INs} {gv : List GVs} (nd : ndN N) (hN : gvN gv) (wo : whyO G) (P : TvP G hM N cl tb l0 us fs rest pv Lp te s) (m13 : kd hM tm = 13) (htl : tl us fs + 2700 ≤ 149000) (I : InH (hdC N cl nm con fam hM) ins gv B) (Nm : NmP hM cl cnm io ab ins gv) (Dl : DkL hM tb Lp Dk) {c x y : Nat} {T : Ty} {D : Dc} (hy : y ≠ 0) (X : DcX hM N cl (UU us rest) Dk io ab gv D [y]) (k1 : dcK ab ins gv (QC hM N cl (UU us rest)) 70 c T) (k2 : dcT ab ins gv 70 c T = some D) (k3 : c < ab.length) (k4 : T ≠ .leaf) (k5 : GTH ins (hdC N cl nm con fam hM) T) : BdT G hM N cl tb l0 sc us fs rest Sl io ab ins gv pv Lp te s tm x y (evB nm con fam cnm ab ins gv D) := by
  refine .inr ⟨hy, fun hB E0 A h M o => ?_⟩
  have I1 := InH_KM P m13 A I
  have I0 := TI_of nd hN wo E0 I1 htl
  have Nm1 := NmP_KM P m13 A Nm
  have Dl1 := DkL_KM P m13 A Dl
  have k1' := dcK_mono (fun X hX => QC_KM A hX) k1
  obtain ⟨u, kn, _⟩ := id k1'
  have k5' := GTH_KM P m13 A k5
  have fit := knT_fit I1 kn k4 k5'
  have X1 : DcX hB N cl (UU us rest) Dk io ab gv D [y] := DcX_keep (fun d w => KM_eq P m13 A (Dl d w).1.1 (by have := (Dl d w).1.2; omega)) (fun d w => ⟨fun n => (KM_ll P m13 A ((Dl d w).2.1 n).1.1 ((Dl d w).2.1 n).1.2 ((Dl d w).2.1 n).2.1 ((Dl d w).2.1 n).2.2).2.2.2.2.2.2.1, fun n => (KM_ll P m13 A ((Dl d w).2.2 n).1.1 ((Dl d w).2.2 n).1.2 ((Dl d w).2.2 n).2.1 ((Dl d w).2.2 n).2.2).2.2.2.2.2.2.1⟩) A.1.2.2.1 A.1.1 (fun _ w => w) A.2.1 X
  have dk := dK_of (cnm := cnm) (Lv := Dk) I1 Nm1.1 Nm1.2.1 Nm1.2.2.1 Nm1.2.2.2.1 Nm1.2.2.2.2.1 Nm1.2.2.2.2.2 70 c T D 70 u [y] k1' k2 k3 k4 k5' kn (by omega) X1
  obtain ⟨_, run⟩ := c_dicT I0 (fun d w => ⟨fun n => ((Dl1 d w).2.1 n).2, fun n => ((Dl1 d w).2.2 n).2⟩) D [y] 70 X1 dk
  cases D with
  | leaf =>
    have : [y] = [] := X
    cases this
  | inner t a x cs nx =>
    obtain ⟨_, r⟩ := run 0 y _ rfl rfl
    exact r 70 (Nat.le_refl _) h M o
end LBD
