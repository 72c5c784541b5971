set_option maxRecDepth 100000
/-! TERMS IN THE COMPONENT: judged exs and dictionaries, as what terms are made of -/
/-- what is known of names, for telling in the component -/
def NmC (h : om_H) (N : List (List Int)) (cl : Nat → Nat) (H : Nat → Nat → Prop) (nm con fam : Nat → List Int) : Prop := (∀ (w : Nat) (L : List Int), N[w]? = some L → nm w = L) ∧ (∀ w, w ≤ 3 → om_sb[24 + w]? = some (con w) ∧ (con w).length ≤ 100000) ∧ ∀ w, clO h cl w → H 2 w → (cl w < hz h ∧ kd h (cl w) = 18 ∧ fR h 1214 (cl w) < hz h ∧ fR h 1186 (fR h 1214 (cl w)) < hz h) ∧ wb h (fR h 1214 (cl w)) (fam w)
/-- what is known of the program, for telling in the component -/
def PgT (h : om_H) (N : List (List Int)) (cl : Nat → Nat) (H : Nat → Nat → Prop) (nm con fam cnm : Nat → List Int) (io : Nat → Nat) (tb Lp : Nat) (Dk : Nat → Prop) (E : JE) : Prop := NmC h N cl H nm con fam ∧ (JL E 2700 ∧ JHe E H 2700 ∧ gvN E.2.2.2.2) ∧ InH (hdC N cl nm con fam h) E.2.2.2.1 E.2.2.2.2 2700 ∧ NmP h cl cnm io E.2.2.1 E.2.2.2.1 E.2.2.2.2 ∧ DkL h tb Lp Dk ∧ (∀ f ∈ E.1, ∀ g ∈ f.2.1, (g.1 < 100 → g.1 < E.2.2.1.length) ∧ (100 ≤ g.1 → tOc N cl nm con fam h g.2.2 ∧ hdC N cl nm con fam h 2 (g.1 - 100))) ∧ ∀ m, some m ∈ E.2.1 → m.1 < E.2.2.1.length
/-- the teller stands ready -/
def TlR (G : om_G) (h : om_H) (N : List (List Int)) (cl : Nat → Nat) (tb l0 : Nat) (us fs : List Nat) (rest : List (Nat × List Nat)) (pv Lp te s tm : Nat) : Prop := ndN N ∧ whyO G ∧ intO G ∧ TvP G h N cl tb l0 us fs rest pv Lp te s ∧ kd h tm = 13 ∧ tl us fs + 2700 ≤ 149000
section LET
variable {G : om_G} {h : om_H} {N : List (List Int)} {cl : Nat → Nat} {H : Nat → Nat → Prop} {tb l0 sc pv Lp te s tm : Nat} {us fs : List Nat} {rest : List (Nat × List Nat)} {Sl : Nat → Prop} {io fo mo : Nat → Nat} {nm con fam cnm : Nat → List Int} {E : JE} {lo dm : Nat} {ds : List Nat} {Dk : Nat → Prop}
theorem hty_of (P : NmC h N cl H nm con fam) {U : Nat → Prop} : ∀ T a, tyC h N cl U T a → wfT T → allH H T → tOc N cl nm con fam h T := fun _ _ c w a => tOc_of P.1 P.2.1 P.2.2 c w a
theorem ex_term (R : TlR G h N cl tb l0 us fs rest pv Lp te s tm) (P : PgT h N cl H nm con fam cnm io tb Lp Dk E) (Q : PrgC h N cl tb sc us rest Sl io E.2.2.1 E.2.2.2.1 E.2.2.2.2 Lp) {e : Et} {t : Xt} {dp x alo ahi : Nat} (X : XCt G N cl (UU us rest) Sl fo mo h (evC N cl rest io E lo h us Dk ds dm) e 0 dp 0 0 x alo ahi) (hd : dp ≤ 129) (sm : eSm e t) (XL : ExL E t) (en : eN e) (K : eK E (QC h N cl (UU us rest)) e) (eh : eH H e) (ty : eTy e ≠ .leaf) : (eT N cl nm con fam h (kn2C h N cl (UU us rest) E.2.2.2.1 E.2.2.2.2 nm con fam) (evT N cl (UU us rest) E.2.2.1 E.2.2.2.1 E.2.2.2.2 nm con fam h) e ∧ eG E.2.2.2.1 H (QC h N cl (UU us rest)) e ∧ eNm N e) ∧ BdT G h N cl tb l0 sc us fs rest Sl io E.2.2.1 E.2.2.2.1 E.2.2.2.2 pv Lp te s tm x 0 (exB nm con fam cnm E.2.2.1 E.2.2.2.1 E.2.2.2.2 e []) := by
  obtain ⟨nd, wo, hI, TP, m13, htl⟩ := R
  obtain ⟨NC, ⟨J, JH, hN⟩, I, Nm, Dl, hf, hm⟩ := P
  obtain ⟨x1, x2, x3, x4⟩ := XL
  have lb := XC_lb e 0 dp 0 0 x alo ahi (by unfold XCt at X; exact X)
  have g := eG_of (H := H) e t 0 sm x1 x3 x4 lb.2 eh K ty
  have hev : ∀ lb ev, lbG E.2.2.2.1 H (QC h N cl (UU us rest)) lb → nmK2 E (QC h N cl (UU us rest)) lb ev → ∀ D ∈ ev, evT N cl (UU us rest) E.2.2.1 E.2.2.2.1 E.2.2.2.2 nm con fam h D := fun lb ev q k => evT_nm J.1 hf hm k (fun p hp => by
    obtain ⟨q1, ⟨y, q2⟩, q3⟩ := q p hp
    exact ⟨q1, hty_of NC _ _ q2 q1.1.2.1 q3⟩)
  have ep := eP_of hev e g en K ty
  have et := eT_of (hty_of NC) (esz e) e (Nat.le_refl _) 0 dp 0 0 x alo ahi X K ty ep eh (fun z => by omega) (fun z => by omega)
  exact ⟨⟨et, g, lb.1⟩, BdT_ex nd hN wo hI NC.1 TP m13 htl Q I Nm Dl X et hd⟩
/-- a term, in the component -/
def TermC (G : om_G) (h : om_H) (N : List (List Int)) (cl : Nat → Nat) (tb l0 : Nat) (us fs : List Nat) (rest : List (Nat × List Nat)) (Sl : Nat → Prop) (io : Nat → Nat) (ab : List (Option Nat)) (ins : List INs) (pv Lp te s tm : Nat) (nm con fam cnm : Nat → List Int) (sc : Nat) (ns : List Nat) (gv : List GVs) (x y : Nat) (L1 : List Int) : Prop := PrgC h N cl tb sc us rest Sl io ab ins gv Lp ∧ InH (hdC N cl nm con fam h) ins gv 2700 ∧ gvN gv ∧ ScT N cl (UU us rest) (fun a => a ≠ fR h 122 tb ∧ a ≠ Lp) nm con fam cnm h sc ns gv ∧ BdT G h N cl tb l0 sc us fs rest Sl io ab ins gv pv Lp te s tm x y L1
theorem TermC_len {ab : List (Option Nat)} {ins : List INs} {gv : List GVs} {m0 : Nat} {ns : List Nat} {x y a : Nat} {L1 : List Int} (R : TlR G h N cl tb l0 us fs rest pv Lp te s tm) (hm0 : m0 < hz h ∧ kd h m0 = 1 ∧ fR h 54 m0 = te) (hm : tm < hz h) (T : TermC G h N cl tb l0 us fs rest Sl io ab ins pv Lp te s tm nm con fam cnm sc ns gv x y L1) (hl : (allB nm ns ++ givB nm con fam cnm 0 gv ++ L1).length < 1000000000) : LenP G N cl tb l0 us fs rest pv Lp te s tm m0 h sc tb x y a (allB nm ns ++ givB nm con fam cnm 0 gv ++ L1).length := by
  obtain ⟨nd, wo, hI, TP, m13, htl⟩ := R
  obtain ⟨Q, I, hN, S, B⟩ := T
  exact LenP_of nd hN wo TP hm0 ⟨hm, m13⟩ htl Q I S B hl
/-- a dictionary as a term -/
theorem dc_term {ab : List (Option Nat)} {ins : List INs} {gv : List GVs} (R : TlR G h N cl tb l0 us fs rest pv Lp te s tm) (hN : gvN gv) (I : InH (hdC N cl nm con fam h) ins gv 2700) (Nm : NmP h cl cnm io ab ins gv) (Dl : DkL h tb Lp Dk) {c x y : Nat} {T : Ty} {D : Dc} (hy : y ≠ 0) (X : DcX h N cl (UU us rest) Dk io ab gv D [y]) (k1 : dcK ab ins gv (QC h N cl (UU us rest)) 70 c T) (k2 : dcT ab ins gv 70 c T = some D) (k3 : c < ab.length) (k4 : T ≠ .leaf) (k5 : GTH ins (hdC N cl nm con fam h) T) : BdT G h N cl tb l0 sc us fs rest Sl io ab ins gv pv Lp te s tm x y (evB nm con fam cnm ab ins gv D) := by
  obtain ⟨nd, wo, hI, TP, m13, htl⟩ := R
  exact BdT_dc nd hN wo TP m13 htl I Nm Dl hy X k1 k2 k3 k4 k5
end LET
