set_option maxRecDepth 100000
/-! WHAT TELLING NEEDS OF A PROGRAM, in the twin -/
theorem wLt_hS {g : Prop} {Sl : Nat → Prop} {h h1 : om_H} {a : Nat} {L : List Int} (XS : hSg g Sl h h1) (W : wLt h a L) : wLt h1 a L := by
  obtain ⟨w1, L', e, w2⟩ := wN_hS (N := [L]) (w := 0) XS ⟨W.1, L, rfl, W.2⟩
  have e' : L = L' := Option.some.inj e
  rw [← e'] at w2
  exact ⟨w1, w2⟩
theorem gwC_hS {g : Prop} {Sl : Nat → Prop} {h h1 : om_H} {K : KT} {y g1 : Nat} (XS : hSg g Sl h h1) (hy : y < hz h ∧ kd h y = 22) (W : gwC h K y g1) : gwC h1 K y g1 := by
  obtain ⟨L, w1, w2⟩ := W
  have e : fR h1 1338 y = fR h 1338 y := (XS.2.2.1 y hy.1 (by rw [hy.2]; decide)).2 1338 (by decide)
  exact ⟨L, by rw [e]; exact wLt_hS XS w1, w2⟩
/-- names in the twin -/
def TwN (σ : tS) (N : List (List Int)) (cl : List Cp) : Prop := (∀ (w : Nat) (L : List Int), N[w]? = some L → w < 2100 ∧ nmT σ w L) ∧ (∀ w, w ≤ 3 → N[9 + w]? = some (cnN w)) ∧ ∀ (c : Nat) (x : Cp), cl[c]? = some x → ga σ 662 c = (x.1 : Int) ∧ ga σ 674 c = oI x.2.2.2.1
section LTW
variable {G : om_G} {A : Nat} {S : List Int} {b m : Nat} {N : List (List Int)} {pr tb z0 : Nat} {cs fo : List Nat} {mo : List (List Nat)} {K : KT} {F : FT} {Ms : List FT} {hr : om_H} {σr : tS} {M : Nat} {qs : List dcl} {ps : List PD} {rs : List (Nat × Nat × Nat × Nat)} {h h1 : om_H} {ul fl us : List Nat} {τ σ : tS} {n n' : Nat} {Sl0 : Nat → Prop} {cl : List Cp} {il : List IX} {fl' : List FX} {g : Prop}
theorem cl_K (X : AX G A S b m N pr tb z0 cs fo mo K F Ms hr σr M qs ps rs h ul fl τ n Sl0 cl il) {c : Nat} {k : Option (List Int) × Option (List Int)} (e : K[c]? = some k) : ∃ x L1, cl[c]? = some x ∧ N[x.1]? = some L1 ∧ k.1 = some L1 ∧ ((x.2.2.2.1 = none ∧ k.2 = none) ∨ ∃ w L2, x.2.2.2.1 = some w ∧ N[w]? = some L2 ∧ k.2 = some L2) := by
  have lt := (List.getElem?_eq_some_iff.mp e).1
  have ex : cl[c]? = some (cl[c]'(by rw [X.1.1]; exact lt)) := List.getElem?_eq_getElem _
  obtain ⟨_, _, _, ⟨L1, e1, o, e2, e3⟩, _⟩ := X.1.2 c _ ex
  have ek : k = (some L1, o) := Option.some.inj (e.symm.trans e2)
  rw [ek]
  exact ⟨_, L1, ex, e1, rfl, e3⟩
theorem hO_of (R : RA G A S b m N pr tb z0 cs fo mo K F Ms hr σr M qs ps rs h ul fl τ n) (X : AX G A S b m N pr tb z0 cs fo mo K F Ms hr σr M qs ps rs h ul fl τ n Sl0 cl il) (TN : TwN σ N cl) : ∀ k w, hdC N (clF cs) (nmN N) cnN (fmN K) h1 k w → hFam K k w → hdO (nmN N) cnN (fmN K) σ k w := fun k w H1 H2 => by
  have K8 := RA_K8 R
  refine ⟨fun z => TN.1 w _ (H1.1 z), fun z => ?_, fun z => ?_⟩
  · have w3 := (H1.2.1 z).1
    exact TN.1 _ _ (TN.2.1 w w3)
  · obtain ⟨o, L, ek⟩ := H2 z
    have lt := (List.getElem?_eq_some_iff.mp ek).1
    obtain ⟨x, L1, ex, _, _, e3⟩ := cl_K X ek
    rcases e3 with ⟨_, e4⟩ | ⟨w2, L2, e4, e5, e6⟩
    · cases e4
    · have eL : L = L2 := Option.some.inj e6
      have ff : fmN K w = L := by unfold fmN; rw [ek]; rfl
      obtain ⟨t1, t2⟩ := TN.2.2 w x ex
      obtain ⟨q1, q2⟩ := TN.1 w2 L2 e5
      refine ⟨by omega, w2, ?_, q1, by rw [ff, eL]; exact q2⟩
      rw [t2, e4]
      rfl
theorem clN_of (R : RA G A S b m N pr tb z0 cs fo mo K F Ms hr σr M qs ps rs h ul fl τ n) (X : AX G A S b m N pr tb z0 cs fo mo K F Ms hr σr M qs ps rs h ul fl τ n Sl0 cl il) (TN : TwN σ N cl) {c : Nat} (hc : c < K.length) : clN σ (kcN K) c := by
  have K8 := RA_K8 R
  have ek : K[c]? = some (K[c]'hc) := List.getElem?_eq_getElem hc
  obtain ⟨x, L1, ex, e1, e2, _⟩ := cl_K X ek
  obtain ⟨t1, t2⟩ := TN.2.2 c x ex
  obtain ⟨q1, q2⟩ := TN.1 x.1 L1 e1
  have ff : kcN K c = L1 := by unfold kcN; rw [ek, Option.bind_some, e2]; rfl
  exact ⟨by omega, x.1, t1, q1, by rw [ff]; exact q2⟩
/-- the twin between tellings -/
theorem te_of (R : RA G A S b m N pr tb z0 cs fo mo K F Ms hr σr M qs ps rs h ul fl τ n) (X : AX G A S b m N pr tb z0 cs fo mo K F Ms hr σr M qs ps rs h ul fl τ n Sl0 cl il) (TN : TwN σ N cl) {Lp : Nat} {Dk : Nat → Prop} (P : PgT h1 N (clF cs) (hFam K) (nmN N) cnN (fmN K) (kcN K) (ioF il) tb Lp Dk (fnS fl', mtS cl, abS cl, inS il, [])) (TS : TyS σ n') (JT : JT0 σ n' (fnS fl', mtS cl, abS cl, inS il, [])) (hn : n' + 9000 < 126000) (hfn : ∀ f ∈ fnS fl', ∀ x ∈ f.2.1, 100 ≤ x.1 → allH (hFam K) x.2.2 ∧ hFam K 2 (x.1 - 100)) : TeB σ n' (fnS fl') (mtS cl) (abS cl) (inS il) (nmN N) cnN (fmN K) (kcN K) := by
  have la : (abS cl).length = K.length := by unfold abS; rw [List.length_map]; exact X.1.1
  have hO := hO_of (h1 := h1) R X TN
  obtain ⟨NC, ⟨J, JH, _⟩, I, Nm, _, hf, hm⟩ := P
  refine ⟨⟨TS, JT⟩, hn, fun d hd => allH_and hO (I.2.2.1 d hd) (JH.1.2.2.1 d hd), fun k hk => clN_of R X TN (by rw [← la]; exact hk), fun f hf' x hx => ⟨(hf f hf' x hx).1, fun z => ?_⟩, hm⟩
  obtain ⟨q1, q2⟩ := (hf f hf' x hx).2 z
  obtain ⟨q3, q4⟩ := hfn f hf' x hx z
  exact ⟨allH_and hO q1 q3, hO _ _ q2 q4⟩
/-- what is given -/
theorem gva_of (R : RA G A S b m N pr tb z0 cs fo mo K F Ms hr σr M qs ps rs h ul fl τ n) (X : AX G A S b m N pr tb z0 cs fo mo K F Ms hr σr M qs ps rs h ul fl τ n Sl0 cl il) (TN : TwN σ N cl) {Lp : Nat} {Dk : Nat → Prop} {gv : List GVs} (P : PgT h1 N (clF cs) (hFam K) (nmN N) cnN (fmN K) (kcN K) (ioF il) tb Lp Dk (fnS fl', mtS cl, abS cl, inS il, gv)) {U : Nat → Prop} (V : gvG h1 N (clF cs) U K (inS il) gv) {Sl : Nat → Prop} {sc : Nat} (GC : GVC h1 N (clF cs) U Sl sc gv) : GvA σ (fnS fl') (mtS cl) (abS cl) (inS il) (nmN N) cnN (fmN K) (kcN K) 2700 gv := by
  have la : (abS cl).length = K.length := by unfold abS; rw [List.length_map]; exact X.1.1
  have hO := hO_of (h1 := h1) R X TN
  obtain ⟨NC, ⟨J, JH, _⟩, I, Nm, _, hf, hm⟩ := P
  refine ⟨J.1, fun x hx => ⟨?_, fun z => clN_of R X TN (V.2.1 x hx z), fun z => ?_⟩, fun x hx z => by rw [la]; exact V.2.1 x hx z⟩
  · obtain ⟨j, hj, ej⟩ := List.getElem_of_mem hx
    obtain ⟨_, ⟨g4, _⟩, g6⟩ := GC.2
    obtain ⟨_, ⟨_, L, e1, _⟩, _⟩ := g6 j _ x (List.getElem?_eq_getElem (by omega)) (by rw [List.getElem?_eq_getElem hj, ej])
    rw [nmN_e e1]
    exact TN.1 _ L e1
  · obtain ⟨v1, ⟨y, v2⟩, v3, v4, v5⟩ := V.2.2 x hx z
    have u := V.1.1 x hx z
    exact ⟨hO 2 _ ⟨fun z => by omega, fun z => by omega, fun _ => NC.2.2 _ v4 v5⟩ v5, ⟨u.1, u.2.2.1, u.2.1⟩, v3, allH_and hO (hty_of NC _ _ v2 u.2.2.1 v1) v1⟩
/-- an ex that is told -/
theorem exo_of (hO : ∀ k w, hdC N (clF cs) (nmN N) cnN (fmN K) h1 k w → hFam K k w → hdO (nmN N) cnN (fmN K) σ k w) (TN : TwN σ N cl) {E : JE} {U : Nat → Prop} {ev' : Dc → Prop} {Qc : Ty → Prop} {e : Et} {t : Xt} {lo hi v : Nat} (et : eT N (clF cs) (nmN N) cnN (fmN K) h1 (kn2C h1 N (clF cs) U E.2.2.2.1 E.2.2.2.2 (nmN N) cnN (fmN K)) ev' e) (eg : eG E.2.2.2.1 (hFam K) Qc e) (en : eNm N e) (eh : eH (hFam K) e) (sm : eSm e t) (rd : xrd t < 130) (XE : XTe σ n' e lo hi v) (XQ : XTq σ n' t lo hi v) (K' : eK E (QN σ n') e) (ty : eTy e ≠ .leaf) : ExO σ n' E (nmN N) cnN (fmN K) e v := by
  refine ⟨t, lo, hi, sm, rd, XTf_of e t lo hi v lo hi sm XE XQ, K', ?_, ty⟩
  exact eO_of hO (fun w L e => by rw [nmN_e e]; exact (TN.1 w L e).2) (fun T V k => ⟨k.2.1.1.2.2.2, k.2.1.2.2.2.2⟩) e et eg en eh
end LTW
