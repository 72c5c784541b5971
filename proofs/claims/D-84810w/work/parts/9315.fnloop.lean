set_option maxRecDepth 100000
/-! RESOLVE: the loop over all functions -/
/-- the program's declarations with their ranges: nodes r.1 .. r.2.1, addresses r.2.2.1 .. r.2.2.2 -/
def prR (G : om_G) (A : Nat) (S : List Int) (b : Nat) (h : om_H) (σ : tS) (hi ahi : Nat) : Nat → List dcl → List (Nat × Nat × Nat × Nat) → (Nat → List Nat) → Nat → Nat → Prop
  | _, [], [], _, lo, alo => lo ≤ hi ∧ alo ≤ ahi
  | d, q :: qs, r :: rs, Lf, lo, alo => (lo ≤ r.1 ∧ r.1 ≤ r.2.1 ∧ alo ≤ r.2.2.1 ∧ r.2.2.1 ≤ r.2.2.2) ∧ (nvR ((b + q.2.2 : Nat) : Int) r.1 r.2.1 d σ ∧ (q.1 = 2 → fvR r.1 r.2.1 d σ)) ∧ dclR G A S b h σ r.1 r.2.1 r.2.2.1 r.2.2.2 d Lf q ∧ prR G A S b h σ hi ahi (d + 1) qs rs (dclLf h Lf q) r.2.1 r.2.2.2
  | _, _, _, _, _, _ => False
/-- declarations of a kind are as they were read -/
def rdy (kk : Nat) (hr h : om_H) (σr τ : tS) : List dcl → List (Nat × Nat × Nat × Nat) → Prop
  | q :: qs, r :: rs => (q.1 = kk → hkV r.2.2.1 r.2.2.2 hr h ∧ nall r.1 r.2.1 σr τ) ∧ rdy kk hr h σr τ qs rs
  | _, _ => True
/-- a place lies in a declaration of a kind: addresses, nodes -/
def ink (kk y : Nat) : List dcl → List (Nat × Nat × Nat × Nat) → Prop
  | q :: qs, r :: rs => (q.1 = kk ∧ r.2.2.1 ≤ y ∧ y < r.2.2.2) ∨ ink kk y qs rs
  | _, _ => False
def inkN (kk i : Nat) : List dcl → List (Nat × Nat × Nat × Nat) → Prop
  | q :: qs, r :: rs => (q.1 = kk ∧ r.1 ≤ i ∧ i < r.2.1) ∨ inkN kk i qs rs
  | _, _ => False
/-- the twin's breaks at functions in phase one -/
def pB2 (S : List Int) : PS → List PD → List Int
  | _, [] => []
  | s, p :: ps => (if p.1 = 2 then psB S s p else []) ++ pB2 S (pst S s p) ps
section LFL
variable {G : om_G} {A : Nat} {S : List Int} {b m : Nat} {N : List (List Int)} {cs : List Nat} {K : KT} {pr Ln : Nat} {Ls : List (List Int)} {sc : List Nat} {tb : Nat} {rest : List (Nat × List Nat)} {fo : List Nat} {F : FT} {mo : List (List Nat)} {Ms : List FT}
variable {h h' h2 hr : om_H} {ul fl ul' fl' : List Nat} {σ τ υ σr : tS} {n n' q z u lo hi alo ahi a0 amid a c w k : Nat} {B B2 : List Int} {X : Int} {L : List Int} {s : PS} {p : PD}
theorem prows_R : ∀ (qs : List dcl) (d : Nat) (Lf : Nat → List Nat) (lo alo : Nat), prows G A S b h σ d qs Lf lo hi alo ahi → ∃ rs, prR G A S b h σ hi ahi d qs rs Lf lo alo
  | [], d, Lf, lo, alo, H => ⟨[], Nat.le_of_eq H.1, H.2⟩
  | q :: qs, d, Lf, lo, alo, ⟨mid, x0, x1, r1, ⟨r2, nv, fv, tk⟩, D, P⟩ => by
    obtain ⟨rs, e⟩ := prows_R qs (d + 1) (dclLf h Lf q) mid x1 P
    exact ⟨(lo, mid, x0, x1) :: rs, ⟨Nat.le_refl _, r2, r1.1, r1.2⟩, ⟨nv, fv⟩, D, e⟩
theorem prR_in : ∀ {qs : List dcl} {rs : List (Nat × Nat × Nat × Nat)} {d : Nat} {Lf : Nat → List Nat} {lo alo : Nat}, prR G A S b h σ hi ahi d qs rs Lf lo alo → lo ≤ hi ∧ alo ≤ ahi
  | [], [], _, _, _, _, H => H
  | q :: qs, r :: rs, _, _, _, _, ⟨r1, r2, D, P⟩ => by
    have := prR_in P
    omega
  | [], _ :: _, _, _, _, _, H => H.elim
  | _ :: _, [], _, _, _, _, H => H.elim
theorem FnK_keep {f fi z1 m2 a2 a3 ex nX : Nat} {gv : List Nat} (H : FnK G A S b N cs K rest fo F mo Ms h ul τ n f fi z1 m2 hi a2 a3 ex nX Ls gv) (E : eqA f h h') (hg : ∀ x ∈ gv, eqA x h h' ∧ ∀ w ∈ [fR h 1338 x, fR h 1342 x], eqA w h h') (Ex : ∀ y, a2 ≤ y → y < a3 → eqA y h h') (L1 : nall m2 hi τ υ) (ty : ∀ T y, tyC h N (clF cs) (UU ul rest) T y → tyC h' N (clF cs) (UU ul' rest) T y) (X : tx τ n υ n') (zz : hz h ≤ hz h') (kl : ∀ y, z1 ≤ y → y < hz h → kd h y = 42 → kd h' y = 42 ∧ ll h' y = ll h y) (t1 : ∀ g ∈ [738, 746, 762], ga υ g fi = ga τ g fi) (t2 : ∀ g ∈ [742, 750, 754, 758], ∀ i, i < 4 → ga υ g (4 * fi + i) = ga τ g (4 * fi + i)) : FnK G A S b N cs K rest fo F mo Ms h' ul' υ n' f fi z1 m2 hi a2 a3 ex nX Ls gv := by
  obtain ⟨sc, z0, g1, ⟨g2, g3, g4⟩, ⟨g5, g6, g7⟩, ⟨T, T1, T2, T3⟩, g8, g9⟩ := H
  refine ⟨sc, z0, g1, ⟨by rw [t1 738 (by simp)]; exact g2, g3, fun i w e => ?_⟩, ⟨by rw [t1 746 (by simp)]; exact g5, g6, fun i x e => ?_⟩, ⟨T, T1, by rw [E.2.2.1]; exact ty T _ T2, by rw [t1 762 (by simp)]; exact tyT_mono X T3⟩, g8, XS_eq g9 Ex L1 ty X zz (fun y y1 => kl y (by omega))⟩
  · have := (List.getElem?_eq_some_iff.mp e).1
    rw [t2 742 (by simp) i (by omega)]
    exact g4 i w e
  · have il := (List.getElem?_eq_some_iff.mp e).1
    obtain ⟨y1, y2⟩ := hg x (List.mem_of_getElem? e)
    exact GvK_keep (g7 i x e) y1 y2 ty X (fun g hg' => t2 g (by simp only [List.mem_cons, List.not_mem_nil, or_false] at hg' ⊢; omega) i (by omega))
theorem st_209 {f : Nat} (H : RX G A S N cs K pr tb rest fo F mo Ms h ul fl) (ec : fo[k]? = some f) : C_1_resolve_209s G pr ((k : Int), h) = (C_1_resolveFunction G pr f (k : Int) h).bind fun p3 => some (.inl (((k + 1 : Nat) : Int), p3)) := by
  obtain ⟨c1, c2, c3, c4, c5, c6⟩ := H.2.1.1
  have kp := H.1.2.2.1.1.1
  have il := (List.getElem?_eq_some_iff.mp ec).1
  have ik : k < F.length := by omega
  have d1 := (c6 k f _ ec (List.getElem?_eq_getElem ik)).1
  have ew : w32 ((k : Int) + 1) = ((k + 1 : Nat) : Int) := by rw [w32_s (by omega) (by omega)]; rfl
  have eg : P_J2_get G (fR h 90 pr) (k : Int) h = some f := by
    unfold P_J2_get
    rw [gd_pos ⟨c2, by omega⟩, c3, show ((k : Int)).toNat = k by omega, ec]
  have es : P_J2_size G (fR h 90 pr) h = some ((fo.length : Nat) : Int) := by unfold P_J2_size; rw [gd_pos c2, c3]
  unfold C_1_resolve_209s
  simp only
  rw [gd_pos ⟨kp, c2⟩, es, Option.bind_some, if_neg (by omega), gd_pos ⟨kp, c2⟩, eg, Option.bind_some, gd_pos ⟨.inr d1.2.2, kp⟩, ew]
theorem en_209 (H : RX G A S N cs K pr tb rest fo F mo Ms h ul fl) (ec : fo.length = k) : C_1_resolve_209s G pr ((k : Int), h) = some (.inr h) := by
  obtain ⟨c1, c2, c3, c4, c5, c6⟩ := H.2.1.1
  have kp := H.1.2.2.1.1.1
  have es : P_J2_size G (fR h 90 pr) h = some ((fo.length : Nat) : Int) := by unfold P_J2_size; rw [gd_pos c2, c3]
  unfold C_1_resolve_209s
  simp only
  rw [gd_pos ⟨kp, c2⟩, es, Option.bind_some, if_pos (by omega)]
theorem cntS_all (F : FT) : cntS F F.length = (F.filter Option.isSome).length := by
  unfold cntS
  rw [List.take_length]
theorem cntS_le (F : FT) : cntS F F.length ≤ F.length := by
  rw [cntS_all]
  exact List.length_filter_le _ _
theorem pss_F : ∀ (ps : List PD) (s : PS), ∃ T, (ps.foldl (pst S) s).2.1 = s.2.1 ++ T
  | [], s => ⟨[], (List.append_nil _).symm⟩
  | p :: ps, s => by
    obtain ⟨T, e⟩ := pss_F ps (pst S s p)
    have e' : ∃ T', (pst S s p).2.1 = s.2.1 ++ T' := by
      by_cases h5 : p.1 = 5
      · rw [pst_5 h5]; exact ⟨[], (List.append_nil _).symm⟩
      · by_cases h6 : p.1 = 6
        · rw [pst_6 h6]; exact ⟨[], (List.append_nil _).symm⟩
        · unfold pst
          rw [if_neg h5, if_neg h6]
          exact ⟨_, rfl⟩
    obtain ⟨T', e'⟩ := e'
    exact ⟨T' ++ T, by show (ps.foldl (pst S) (pst S s p)).2.1 = _; rw [e, e', List.append_assoc]⟩
/-- what lies in no declaration of the kind stays as it is -/
theorem unt_step {kk q1 z1 u1 q3 z3 u3 : Nat} {q : dcl} {r : Nat × Nat × Nat × Nat} {qs : List dcl} {rs : List (Nat × Nat × Nat × Nat)} {h1 h3 : om_H} {ul1 fl1 ul3 fl3 : List Nat} {BC1 BC3 : List Int} (D : dj h tb fl pr alo ahi) (zA : ahi ≤ hz h) (s1 : RS G A S N cs K pr tb rest fo F mo Ms r.2.2.1 r.2.2.2 h ul fl h1 ul1 fl1 q1 z1 u1 BC1) (s3 : RS G A S N cs K pr tb rest fo F mo Ms r.2.2.2 ahi h1 ul1 fl1 h3 ul3 fl3 q3 z3 u3 BC3) (e : q.1 = kk) (f : ∀ y, r.2.2.2 ≤ y → y < ahi → ¬ ink kk y qs rs → eqA y h1 h3) : ∀ y, alo ≤ y → y < ahi → ¬ ink kk y (q :: qs) (r :: rs) → eqA y h h3 := by
  intro y y1 y2 ny
  have nr : y < r.2.2.1 ∨ r.2.2.2 ≤ y := by
    by_cases c : r.2.2.1 ≤ y ∧ y < r.2.2.2
    · exact absurd (.inl ⟨e, c⟩) ny
    · omega
  have nq : ¬ ink kk y qs rs := fun z => ny (.inr z)
  refine eqA_trans (RS_eq D s1 ⟨y1, y2⟩ zA nr) ?_
  rcases Nat.lt_or_ge y r.2.2.2 with c | c
  · exact RS_eq (dj_CS D s1.2.1 zA) s3 ⟨y1, y2⟩ (by have := s1.2.1.1.1; omega) (.inl c)
  · exact f y c y2 nq
theorem unt_skip {kk q3 z3 u3 : Nat} {q : dcl} {r : Nat × Nat × Nat × Nat} {qs : List dcl} {rs : List (Nat × Nat × Nat × Nat)} {h3 : om_H} {ul3 fl3 : List Nat} {BC3 : List Int} (D : dj h tb fl pr alo ahi) (zA : ahi ≤ hz h) (s3 : RS G A S N cs K pr tb rest fo F mo Ms r.2.2.2 ahi h ul fl h3 ul3 fl3 q3 z3 u3 BC3) (f : ∀ y, r.2.2.2 ≤ y → y < ahi → ¬ ink kk y qs rs → eqA y h h3) : ∀ y, alo ≤ y → y < ahi → ¬ ink kk y (q :: qs) (r :: rs) → eqA y h h3 := by
  intro y y1 y2 ny
  have nq : ¬ ink kk y qs rs := fun z => ny (.inr z)
  rcases Nat.lt_or_ge y r.2.2.2 with c | c
  · exact RS_eq D s3 ⟨y1, y2⟩ zA (.inl c)
  · exact f y c y2 nq
end LFL
