set_option maxRecDepth 100000
/-! THE COMPONENT's program: its declarations, and what stands (flags) -/
/-- the declarations, as objects qs and as data ps -/
def prC (A : Nat) (S : List Int) (h : om_H) : List dcl → List PD → (Nat → List Nat) → Nat → Nat → Prop
  | [], [], _, alo, ahi => alo ≤ ahi
  | q :: qs, p :: ps, Lf, alo, ahi => ∃ a0 amid, (alo ≤ a0 ∧ a0 ≤ amid) ∧ (q.1 = p.1 ∧ q.2.2 = p.2.1 ∧ tokk S p.2.1 = (p.1 : Int)) ∧ ((p.1 = 5 ∧ clsC A S h a0 amid q.2.1 p ((Lf 82).length : Int)) ∨ (p.1 = 6 ∧ insC S h a0 amid q.2.1 p ((Lf 86).length : Int)) ∨ (p.1 = 2 ∧ funC A S h a0 amid q.2.1 p ((Lf 90).length : Int))) ∧ prC A S h qs ps (dclLf h Lf q) amid ahi
  | _, _, _, _, _ => False
/-- the lists and the state go along -/
def LSt (h : om_H) (Lf : Nat → List Nat) (s : PS) : Prop := WL h (Lf 94) s.2.2.2.1 ∧ WL h (Lf 98) s.2.2.2.2.1 ∧ ((Lf 82).length = s.1.length ∧ (Lf 82).length = s.2.2.1.length ∧ (Lf 90).length = s.2.1.length ∧ (Lf 86).length = s.2.2.2.2.2) ∧ (Lf 102).length = (Lf 94).length ∧ (Lf 106).length = (Lf 98).length ∧ (Lf 110).length = (Lf 98).length
section LSC
variable {G : om_G} {A : Nat} {S : List Int} {h h' hr : om_H} {z0 z1 c : Nat} {p : PD} {nb : Int} {Lf : Nat → List Nat} {s : PS} {q : dcl} {qs : List dcl} {ps : List PD}
theorem wR_WL {w j : Nat} (X : txC h A S) (hA : A < hz h) (h1 : z1 ≤ hz h) (W : wR A S h z0 z1 w j) : w < hz h ∧ fR h 1186 w < hz h ∧ wb h w (tokw S j) := ⟨by have := W.2.1; omega, by rw [W.2.2.2.1]; exact hA, wd_wb X W.2.2⟩
theorem mC_WL (X : txC h A S) (hA : A < hz h) (h1 : z1 ≤ hz h) : ∀ {k : Nat} {xs js : List Nat}, mC A S h z0 z1 c k xs js → WL h (xs.map (fun x => fR h 1242 x)) (js.map (tokw S))
  | _, [], [], _ => trivial
  | _, _ :: _, _ :: _, m => ⟨wR_WL X hA h1 m.1.2.2.1, mC_WL X hA h1 m.2⟩
  | _, [], _ :: _, m => m.elim
  | _, _ :: _, [], m => m.elim
theorem mC_len : ∀ {k : Nat} {xs js : List Nat}, mC A S h z0 z1 c k xs js → xs.length = js.length
  | _, [], [], _ => rfl
  | _, _ :: _, _ :: _, m => by simp [mC_len m.2]
  | _, [], _ :: _, m => m.elim
  | _, _ :: _, [], m => m.elim
theorem clsG_WL (X : txC h A S) (hA : A < hz h) (h1 : z1 ≤ hz h) (C : clsC A S h z0 z1 c p nb) : WL h (clsG h c) ([tokw S (p.2.1 + 1)] ++ oW S p.2.2.2.1) := by
  obtain ⟨c1, c2, c3, c4, c5, c6⟩ := C
  unfold clsG
  rcases c5 with ⟨e, e0⟩ | ⟨j, e, e0, e1⟩
  · rw [if_pos e0, e]
    exact ⟨wR_WL X hA h1 c3, trivial⟩
  · rw [if_neg e0, e]
    exact ⟨wR_WL X hA h1 c3, wR_WL X hA h1 e1, trivial⟩
theorem LS_step {a0 amid : Nat} (X : txC h A S) (hA : A < hz h) (h1 : amid ≤ hz h) (eq : q.1 = p.1 ∧ q.2.2 = p.2.1 ∧ tokk S p.2.1 = (p.1 : Int)) (D : (p.1 = 5 ∧ clsC A S h a0 amid q.2.1 p ((Lf 82).length : Int)) ∨ (p.1 = 6 ∧ insC S h a0 amid q.2.1 p ((Lf 86).length : Int)) ∨ (p.1 = 2 ∧ funC A S h a0 amid q.2.1 p ((Lf 90).length : Int))) (L : LSt h Lf s) : LSt h (dclLf h Lf q) (pst S s p) := by
  obtain ⟨l1, l2, ⟨l3, l4, l5, l6⟩, l7, l8, l9⟩ := L
  rcases D with ⟨d, D⟩ | ⟨d, D⟩ | ⟨d, D⟩
  · have e : dclLf h Lf q = clsLf Lf h q.2.1 := by unfold dclLf; rw [if_pos (by omega)]
    rw [e, pst_5 d]
    have gW := clsG_WL X hA h1 D
    have mW := mC_WL X hA h1 D.2.2.2.2.2.1.2.2
    have mL := mC_len D.2.2.2.2.2.1.2.2
    refine ⟨?_, ?_, ⟨?_, ?_, l5, l6⟩, ?_, ?_, ?_⟩
    · show WL h (Lf 94 ++ clsG h q.2.1) (s.2.2.2.1 ++ [tokw S (p.2.1 + 1)] ++ oW S p.2.2.2.1)
      rw [List.append_assoc]
      exact WL_cat gW l1
    · show WL h (Lf 98 ++ _) (s.2.2.2.2.1 ++ _)
      exact WL_cat mW l2
    · show (Lf 82 ++ [q.2.1]).length = (s.1 ++ [_]).length
      simp; omega
    · show (Lf 82 ++ [q.2.1]).length = (s.2.2.1 ++ [_]).length
      simp; omega
    · show (Lf 102 ++ (clsG h q.2.1).map (fun _ => q.2.1)).length = (Lf 94 ++ clsG h q.2.1).length
      simp; omega
    · show (Lf 106 ++ (ll h (fR h 1230 q.2.1)).map (fun _ => 0)).length = (Lf 98 ++ (ll h (fR h 1230 q.2.1)).map (fun x => fR h 1242 x)).length
      simp; omega
    · show (Lf 110 ++ ll h (fR h 1230 q.2.1)).length = (Lf 98 ++ (ll h (fR h 1230 q.2.1)).map (fun x => fR h 1242 x)).length
      simp; omega
  · have e : dclLf h Lf q = updL Lf 86 q.2.1 := by unfold dclLf; rw [if_neg (by omega), if_pos (by omega)]
    rw [e, pst_6 d]
    refine ⟨l1, l2, ⟨l3, l4, l5, ?_⟩, l7, l8, l9⟩
    show (Lf 86 ++ [q.2.1]).length = s.2.2.2.2.2 + 1
    simp; omega
  · have e : dclLf h Lf q = funLf Lf h q.2.1 := by unfold dclLf; rw [if_neg (by omega), if_neg (by omega)]
    rw [e, pst_2 d]
    refine ⟨l1, ?_, ⟨l3, l4, ?_, l6⟩, l7, ?_, ?_⟩
    · show WL h (Lf 98 ++ [fR h 1530 q.2.1]) (s.2.2.2.2.1 ++ [tokw S p.2.1])
      exact WL_cat (h := h) (vs := [fR h 1530 q.2.1]) (Ms := [tokw S p.2.1]) ⟨wR_WL X hA h1 D.2.2, trivial⟩ l2
    · show (Lf 90 ++ [q.2.1]).length = (s.2.1 ++ [_]).length
      simp; omega
    · show (Lf 106 ++ [q.2.1]).length = (Lf 98 ++ [fR h 1530 q.2.1]).length
      simp; omega
    · show (Lf 110 ++ [0]).length = (Lf 98 ++ [fR h 1530 q.2.1]).length
      simp; omega
/-- what was told stays told: the lists only grow -/
theorem dclLf_pre (f : Nat) : ∃ T, dclLf h Lf q f = Lf f ++ T := by
  unfold dclLf
  by_cases c5 : q.1 = 5
  · rw [if_pos c5]
    unfold clsLf
    split
    · rename_i e; rw [e]; exact ⟨_, rfl⟩
    split
    · rename_i e; rw [e]; exact ⟨_, rfl⟩
    split
    · rename_i e; rw [e]; exact ⟨_, rfl⟩
    split
    · rename_i e; rw [e]; exact ⟨_, rfl⟩
    split
    · rename_i e; rw [e]; exact ⟨_, rfl⟩
    split
    · rename_i e; rw [e]; exact ⟨_, rfl⟩
    exact ⟨[], (List.append_nil _).symm⟩
  · rw [if_neg c5]
    have u : ∀ (L : Nat → List Nat) (g x : Nat), (∃ T, L f = Lf f ++ T) → ∃ T, updL L g x f = Lf f ++ T := by
      intro L g x ⟨T, e⟩
      unfold updL
      split
      · rename_i c; exact ⟨T ++ [x], by rw [← List.append_assoc, ← e, c]⟩
      · exact ⟨T, e⟩
    by_cases c6 : q.1 = 6
    · rw [if_pos c6]
      exact u _ _ _ ⟨[], (List.append_nil _).symm⟩
    · rw [if_neg c6]
      unfold funLf
      exact u _ _ _ (u _ _ _ (u _ _ _ (u _ _ _ ⟨[], (List.append_nil _).symm⟩)))
theorem prgL_pre (f : Nat) : ∀ (qs : List dcl) (Lf : Nat → List Nat), ∃ T, prgL h qs Lf f = Lf f ++ T
  | [], _ => ⟨[], (List.append_nil _).symm⟩
  | q :: qs, Lf => by
    obtain ⟨T, e⟩ := prgL_pre f qs (dclLf h Lf q)
    obtain ⟨T', e'⟩ := dclLf_pre (h := h) (Lf := Lf) (q := q) f
    exact ⟨T' ++ T, by show prgL h qs (dclLf h Lf q) f = _; rw [e, e', List.append_assoc]⟩
theorem pst_pre : ∃ T U, (pst S s p).2.2.2.1 = s.2.2.2.1 ++ T ∧ (pst S s p).2.2.2.2.1 = s.2.2.2.2.1 ++ U := by
  by_cases h5 : p.1 = 5
  · rw [pst_5 h5]; exact ⟨[tokw S (p.2.1 + 1)] ++ oW S p.2.2.2.1, _, List.append_assoc _ _ _, rfl⟩
  · by_cases h6 : p.1 = 6
    · rw [pst_6 h6]; exact ⟨[], [], (List.append_nil _).symm, (List.append_nil _).symm⟩
    · unfold pst
      rw [if_neg h5, if_neg h6]
      exact ⟨[], _, (List.append_nil _).symm, rfl⟩
theorem pss_pre : ∀ (ps : List PD) (s : PS), ∃ T U, (ps.foldl (pst S) s).2.2.2.1 = s.2.2.2.1 ++ T ∧ (ps.foldl (pst S) s).2.2.2.2.1 = s.2.2.2.2.1 ++ U
  | [], s => ⟨[], [], (List.append_nil _).symm, (List.append_nil _).symm⟩
  | p :: ps, s => by
    obtain ⟨T, U, e1, e2⟩ := pss_pre ps (pst S s p)
    obtain ⟨T', U', e3, e4⟩ := pst_pre (S := S) (s := s) (p := p)
    exact ⟨T' ++ T, U' ++ U, by show (ps.foldl (pst S) (pst S s p)).2.2.2.1 = _; rw [e1, e3, List.append_assoc], by show (ps.foldl (pst S) (pst S s p)).2.2.2.2.1 = _; rw [e2, e4, List.append_assoc]⟩
end LSC
