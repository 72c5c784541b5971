set_option maxRecDepth 100000
/-! RESOLVE: all classes -/
/-- the component's breaks at a declaration that stem of its resolve -/
def cR (S : List Int) (s : PS) (p : PD) : List Int := if p.1 = 5 then (if s.1.length < 8 then [] else [(tokq S p.2.1 : Int)]) ++ abB S s.1 p.2.2.1 ++ m4 S 0 p.2.2.2.2 else if p.1 = 6 then (if s.2.2.2.2.2 < 20 then [] else [(tokq S p.2.1 : Int)]) else (if s.2.1.length < 24 then [] else [(tokq S p.2.1 : Int)])
/-- those of one kind -/
def cRs (S : List Int) (kd : Nat) : PS → List PD → List Int
  | _, [] => []
  | s, p :: ps => (if p.1 = kd then cR S s p else []) ++ cRs S kd (pst S s p) ps
/-- the rows of the twin's tables -/
def rwT (S : List Int) (N : List (List Int)) (τ : tS) : Nat → List PD → PS → Prop
  | _, [], _ => True
  | d, p :: ps, s => rowT S N τ d p s ∧ rwT S N τ (d + 1) ps (pst S s p)
/-- classes that are known -/
def clT (S : List Int) (N : List (List Int)) (cs : List Nat) (rest : List (Nat × List Nat)) (hr h : om_H) (ul : List Nat) (τ : tS) (n : Nat) : List dcl → List PD → PS → Prop
  | q :: qs, p :: ps, s => (p.1 = 5 → s.1.length < 8 → fR h 1226 q.2.1 = clA cs (p.2.2.1.elim none (fun a => FI Prod.fst (tokw S a) s.1)) ∧ (nwG S s.2.2.2.1 (p.2.1 + 1) → mthB S s.2.2.2.2.1 0 p.2.2.2.2 = [] → ∀ i x : Nat, (ll hr (fR hr 1230 q.2.1))[i]? = some x → ∃ T : Ty, (tyM T ∧ (bp τ = 2147483647 → ∃ w, N[w]? = some (tokw S (p.2.1 + 2)) ∧ nmIn [w] T)) ∧ tyC h N (clF cs) (UU ul rest) T (fR h 1262 x) ∧ tyT τ n T (ga τ 686 (4 * s.1.length + i)))) ∧ clT S N cs rest hr h ul τ n qs ps (pst S s p)
  | _, _, _ => True
section LRL
variable {G : om_G} {A : Nat} {S : List Int} {b m : Nat} {N : List (List Int)} {cs : List Nat} {K : KT} {pr Ln : Nat} {Ls : List (List Int)} {sc : List Nat} {tb : Nat} {rest : List (Nat × List Nat)} {fo : List Nat} {F : FT} {mo : List (List Nat)} {Ms : List FT}
variable {h h' h2 hr : om_H} {ul fl ul' fl' : List Nat} {σ τ υ σr : tS} {n n' q lo hi alo ahi a0 amid a c w k : Nat} {B B2 : List Int} {X : Int} {L : List Int} {s : PS} {p : PD} {d : Nat}
theorem bj_lb {j0 : Nat} (hS : S.length ≤ 2000) (H : bj S j0 B) : lb B [(tokq S j0 : Int)] := fun y hy => by
  refine ⟨_, List.mem_cons_self, ?_⟩
  rcases H y hy with e | ⟨j, e1, e2⟩
  · have := tok_le S j0; omega
  · have := tokq_mono S e1; omega
/-- A CLASS in the component alone: it is one too many -/
theorem class_alone (W : clsR A S b hr σr lo hi a0 amid c d p.2.1 (k : Int)) (C : clsC A S hr a0 amid c p (k : Int)) (nv : nvR ((b + p.2.1 : Nat) : Int) lo hi d σr) (h8 : 8 ≤ k) (hK : k ≤ K.length)
    (Hu : hU a0 amid hr h) (Hn : nall lo hi σr τ) (H : RX G A S N cs K pr tb rest fo F mo Ms h ul fl) (U : TU S b m N K F Ms τ n) (R : KR S lo hi a0 amid pr tb h ul fl n) (e78 : fR h 78 pr = tb) (nL : ∀ y, a0 ≤ y → y < amid → y ≠ fR h 122 tb) (lm : (ll hr (fR hr 1230 c)).length ≤ 1300) :
    ∃ (h' : om_H) (ul' fl' : List Nat) (BC : List Int), C_1_resolveClass G pr c (k : Int) h = some h' ∧ RS G A S N cs K pr tb rest fo F mo Ms a0 amid h ul fl h' ul' fl' (hi - lo) 0 0 BC ∧ hkV a0 amid h h' ∧ lbE BC [(tokq S p.2.1 : Int)] := by
  obtain ⟨w1, w2, Lm, Lq, ar, ab, fam, am, ms, ns, a1, a2, a3, a4, a5, a6, a7, a8, a9, a10, a11⟩ := W
  obtain ⟨c1, ⟨c2, c2', c2''⟩, c3, c4, c5, ⟨⟨c61, c62⟩, c63, c64⟩, ⟨⟨c71, c72⟩, c73, wv, c74, c75⟩, ⟨c81, c82, c83⟩, c9⟩ := C
  have eLm : fR hr 1230 c = Lm := a1.2.2.1.1
  have eLn : fR hr 1234 c = Lq := a1.2.2.1.2.1
  have hN := H.1.1.2
  have Hk := hU_F Hu
  obtain ⟨x1, x2, x3, x4, x5, x6, x7, x8⟩ := Hu c c1.1 c1.2
  obtain ⟨hh, g1, g2, g3, g4, g5⟩ := rc_head (k := k) (j0 := p.2.1) (ab := p.2.2.1) H (by rw [x1]; exact c2) (by rw [x2 1196 (by decide)]; exact c2') (by rw [x3]; exact oC_hU Hu c4) (by rw [x3]; exact c83) hK c1 R.2.1
  rw [if_neg (by omega)] at g2
  have zA := R.1.2.1
  have zh : hz h ≤ hz hh := g2.2.1.1.1
  have Rh : KR S lo hi a0 amid pr tb hh ul fl n := ⟨⟨R.1.1, by omega, R.1.2.2⟩, dj_CS R.2.1 g2.2.1 zA, R.2.2⟩
  have mi := mrows_in a8
  have Rs : fr [784] [778] τ (sc1 τ ((0 : Nat) : Int)) := sc1_fr
  obtain ⟨U1, eb⟩ := KU_sc U Rs sc1_sc
  have Hn1 : nall lo hi σr (sc1 τ ((0 : Nat) : Int)) := fun f hf i e1 e2 => (Rs.2 f (by simp only [List.mem_cons, List.not_mem_nil, or_false] at hf ⊢; omega) i).trans (Hn f hf i e1 e2)
  have Hkh := hkF_trans Hk (hkV_F g3)
  have W2 : mrows A S b hh (sc1 τ ((0 : Nat) : Int)) c 0 ms ns lo hi am amid := mrows_keepF a8 (hkF_sub Hkh (by omega) (Nat.le_refl _)) Hn1
  have cF : clF1 hh pr tb c Lm Lq [tokw S (p.2.1 + 2)] ms := by
    obtain ⟨y1, y2, y3, y4, y5⟩ := Hkh c c1.1 c1.2
    obtain ⟨l1, l2, l3, l4, l5⟩ := Hkh Lm (by omega) (by omega)
    obtain ⟨n1, n2, n3, n4, n5⟩ := Hkh Lq (by omega) (by omega)
    have e22 : fR hh 122 tb = fR h 122 tb := g2.2.1.2.2.2.2.1.2 122
    refine ⟨by rw [y1]; exact c2, ⟨by rw [y3 1230 (by decide)]; exact eLm, by rw [l1]; exact a7.1, by rw [l4]; exact a7.2, by rw [← a7.2, ← eLm]; exact lm⟩, ⟨by rw [y3 1234 (by decide)]; exact eLn, ?_, by rw [e22]; exact nL Lq (by omega) (by omega)⟩, by rw [g2.2.2.1.2 78]; exact e78⟩
    have X1 := g2.1.1.2.1
    have eW : ll hh Lq = [w2] := by rw [n4]; exact a1.2.2.2.1.2
    have wW := wd_hkF Hkh (by omega) (by omega) a4.2.2.1
    refine ⟨by omega, by rw [n1]; exact a1.2.2.2.1.1, by rw [eW]; simp, ?_⟩
    rw [eW]
    exact ⟨⟨by omega, by rw [wW.2.1]; exact X1.2, wd_wb X1.1 wW⟩, trivial⟩
  obtain ⟨h3, us3, fs3, B3, k1, k2, k3, k4, k5⟩ := rc_alone (G := G) (j0 := p.2.1) (lo0 := lo) U1 c1 (show a0 ≤ Lm ∧ Lm < amid by omega) (show a0 ≤ Lq ∧ Lq < amid by omega) (fun i e1 e2 => by rw [Hn1 542 (by simp) i e1 e2]; exact (nv.2 i e1 e2).1) ms ns 0 lo am hh ul fl [] W2 (by omega) (Nat.le_refl _) g2.1 cF rfl rfl Rh
  refine ⟨h3, us3, fs3, _, ?_, RS_le (RS_trans g2 k2) (by omega) (by omega) (by omega), hkV_trans g3 k3, ?_, lb_l (lb_l lb_refl)⟩
  · rw [g1]
    unfold C_1_resolveClass_112
    rw [show (0 : Int) = ((0 : Nat) : Int) from rfl, k1, Option.bind_some]
  · refine bj_lb R.1.2.2.2 (bj_app (bj_app ?_ ?_) k4)
    · intro y hy; exact .inr ⟨p.2.1, Nat.le_refl _, List.mem_singleton.mp hy⟩
    · intro y hy
      obtain ⟨a, e1, e2⟩ := abB_mem hy
      exact .inr ⟨a, c9.2.2.2 a e1, e2⟩
theorem st_139 (H : RX G A S N cs K pr tb rest fo F mo Ms h ul fl) (ec : cs[k]? = some c) : C_1_resolve_139s G pr ((k : Int), h) = (C_1_resolveClass G pr c (k : Int) h).bind fun p3 => some (.inl (((k + 1 : Nat) : Int), p3)) := by
  obtain ⟨c1, c2, c3, c4, c5⟩ := H.1.2.2.1
  have il := (List.getElem?_eq_some_iff.mp ec).1
  have ik : k < K.length := by omega
  have d1 := (c5 k c _ ec (List.getElem?_eq_getElem ik)).1
  have ew : w32 ((k : Int) + 1) = ((k + 1 : Nat) : Int) := by rw [w32_s (by omega) (by omega)]; rfl
  have eg : P_J2_get G (fR h 82 pr) (k : Int) h = some c := by
    unfold P_J2_get
    rw [gd_pos ⟨c2.2.1, by omega⟩, c2.2.2, show ((k : Int)).toNat = k by omega, ec]
  have es : P_J2_size G (fR h 82 pr) h = some ((cs.length : Nat) : Int) := by unfold P_J2_size; rw [gd_pos c2.2.1, c2.2.2]
  unfold C_1_resolve_139s
  simp only
  rw [gd_pos ⟨c1.1, c2.2.1⟩, es, Option.bind_some, if_neg (by omega), gd_pos ⟨c1.1, c2.2.1⟩, eg, Option.bind_some, gd_pos ⟨.inr d1.2.2.1, c1.1⟩, ew]
theorem en_139 (H : RX G A S N cs K pr tb rest fo F mo Ms h ul fl) (ec : cs.length = k) : C_1_resolve_139s G pr ((k : Int), h) = some (.inr h) := by
  obtain ⟨c1, c2, c3, c4, c5⟩ := H.1.2.2.1
  have es : P_J2_size G (fR h 82 pr) h = some ((cs.length : Nat) : Int) := by unfold P_J2_size; rw [gd_pos c2.2.1, c2.2.2]
  unfold C_1_resolve_139s
  simp only
  rw [gd_pos ⟨c1.1, c2.2.1⟩, es, Option.bind_some, if_pos (by omega)]
theorem pst_K : ∃ T, (pst S s p).1 = s.1 ++ T := by
  by_cases h5 : p.1 = 5
  · rw [pst_5 h5]; exact ⟨_, rfl⟩
  · by_cases h6 : p.1 = 6
    · rw [pst_6 h6]; exact ⟨[], (List.append_nil _).symm⟩
    · unfold pst
      rw [if_neg h5, if_neg h6]
      exact ⟨[], (List.append_nil _).symm⟩
theorem pss_K : ∀ (ps : List PD) (s : PS), ∃ T, (ps.foldl (pst S) s).1 = s.1 ++ T
  | [], s => ⟨[], (List.append_nil _).symm⟩
  | p :: ps, s => by
    obtain ⟨T, e⟩ := pss_K ps (pst S s p)
    obtain ⟨T', e'⟩ := pst_K (S := S) (s := s) (p := p)
    exact ⟨T' ++ T, by show (ps.foldl (pst S) (pst S s p)).1 = _; rw [e, e', List.append_assoc]⟩
theorem rowT_fr {fs as : List Nat} (R : fr fs as σ τ) (d : ∀ f ∈ ZA, f ∉ as) {dd : Nat} (H : rowT S N σ dd p s) : rowT S N τ dd p s := by
  have g : ∀ f ∈ ZA, ∀ i, ga τ f i = ga σ f i := fun f hf i => R.2 f (d f hf) i
  obtain ⟨r1, r2, r3⟩ := H
  refine ⟨fun e1 e2 => ?_, fun e1 e2 => by rw [g 690 (by simp)]; exact r2 e1 e2, fun e1 e2 => by rw [g 730 (by simp), g 734 (by simp)]; exact r3 e1 e2⟩
  obtain ⟨c1, c2, c3, c4, c5, c6, c7⟩ := r1 e1 e2
  exact ⟨by rw [g 658 (by simp)]; exact c1, by rw [g 662 (by simp)]; exact c2, by rw [g 666 (by simp)]; exact c3, by rw [g 670 (by simp)]; exact c4, by rw [g 674 (by simp)]; exact c5, by rw [g 678 (by simp)]; exact c6, fun i L e => by rw [g 682 (by simp)]; exact c7 i L e⟩
theorem rwT_fr {fs as : List Nat} (R : fr fs as σ τ) (d : ∀ f ∈ ZA, f ∉ as) : ∀ {ps : List PD} {dd : Nat} {s : PS}, rwT S N σ dd ps s → rwT S N τ dd ps s
  | [], _, _, _ => trivial
  | _ :: _, _, _, H => ⟨rowT_fr R d H.1, rwT_fr R d H.2⟩
end LRL
