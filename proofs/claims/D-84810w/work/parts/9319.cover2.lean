set_option maxRecDepth 100000
/-! RESOLVE as a whole: the twin's rows; breaks of all heads -/
section LCW
variable {S : List Int} {N : List (List Int)} {τ : tS} {s : PS} {p : PD}
theorem pss_snoc {pre : List PD} : pss S (pre ++ [p]) = pst S (pss S pre) p := by
  unfold pss
  rw [List.foldl_append]
  rfl
/-- the rows, out of those that phase one leaves -/
theorem rwT_of : ∀ (ps pre : List PD) (d : Nat), pre.length = d → (∀ (i : Nat) (q : PD), ps[i]? = some q → rowT S N τ (d + i) q (pss S (pre ++ ps.take i))) → rwT S N τ d ps (pss S pre)
  | [], _, _, _, _ => trivial
  | p :: ps, pre, d, hd, H => by
    refine ⟨?_, ?_⟩
    · have := H 0 p rfl
      rwa [List.take_zero, List.append_nil, Nat.add_zero] at this
    · rw [← pss_snoc]
      refine rwT_of ps (pre ++ [p]) (d + 1) (by rw [List.length_append, hd]; rfl) (fun i q e => ?_)
      have := H (i + 1) q e
      rw [List.take_succ_cons, ← List.singleton_append, ← List.append_assoc] at this
      rwa [show d + (i + 1) = d + 1 + i by omega] at this
theorem toB_app {f : List Int → Option Nat} {b : List Nat} : ∀ {a : List Nat} {tg : List (List Int)}, toB S f tg (a ++ b) = toB S f tg a ++ toB S f (tg ++ a.map (tokw S)) b
  | [], tg => by rw [List.nil_append, List.map_nil, List.append_nil]; rfl
  | j :: a, tg => by
    show (if f (tokw S j) = none ∧ tokw S j ∉ tg then [] else [(tokq S j : Int)]) ++ toB S f (tg ++ [tokw S j]) (a ++ b) = ((if f (tokw S j) = none ∧ tokw S j ∉ tg then [] else [(tokq S j : Int)]) ++ toB S f (tg ++ [tokw S j]) a) ++ toB S f (tg ++ tokw S j :: a.map (tokw S)) b
    rw [toB_app (a := a), List.append_assoc, List.append_assoc]
    rfl
/-- the component's breaks of all heads -/
def cHA (S : List Int) (s : PS) (ps : List PD) : List Int := toB S cnI s.2.2.2.1 (jlG ps) ++ (toB S btI s.2.2.2.2.1 (jlN ps) ++ (cRs S 5 s ps ++ (cRs S 6 s ps ++ cRs S 2 s ps)))
theorem cHA_mem (hk : p.1 = 5 ∨ p.1 = 6 ∨ p.1 = 2) {ps : List PD} {y : Int} : y ∈ cHA S s (p :: ps) ↔ y ∈ cH S s p ∨ y ∈ cHA S (pst S s p) ps := by
  obtain ⟨g1, g2⟩ := pst_J (S := S) (s := s) (p := p)
  have e1 : toB S cnI s.2.2.2.1 (jlG (p :: ps)) = toB S cnI s.2.2.2.1 (gJ p) ++ toB S cnI (pst S s p).2.2.2.1 (jlG ps) := by rw [g1]; exact toB_app
  have e2 : toB S btI s.2.2.2.2.1 (jlN (p :: ps)) = toB S btI s.2.2.2.2.1 (nJ p) ++ toB S btI (pst S s p).2.2.2.2.1 (jlN ps) := by rw [g2]; exact toB_app
  have e3 : ∀ kk, cRs S kk s (p :: ps) = (if p.1 = kk then cR S s p else []) ++ cRs S kk (pst S s p) ps := fun _ => rfl
  have e4 : cH S s p = (toB S cnI s.2.2.2.1 (gJ p) ++ toB S btI s.2.2.2.2.1 (nJ p)) ++ cR S s p := rfl
  have e5 : (y ∈ (if p.1 = 5 then cR S s p else []) ∨ y ∈ (if p.1 = 6 then cR S s p else []) ∨ y ∈ (if p.1 = 2 then cR S s p else [])) ↔ y ∈ cR S s p := by
    rcases hk with e | e | e
    · rw [if_pos e, if_neg (by omega), if_neg (by omega)]; simp
    · rw [if_neg (by omega), if_pos e, if_neg (by omega)]; simp
    · rw [if_neg (by omega), if_neg (by omega), if_pos e]; simp
  unfold cHA
  rw [e1, e2, e3 5, e3 6, e3 2, e4]
  simp only [List.mem_append]
  rw [← e5]
  constructor
  · rintro ((h | h) | (h | h) | (h | h) | (h | h) | (h | h))
    · exact .inl (.inl (.inl h))
    · exact .inr (.inl h)
    · exact .inl (.inl (.inr h))
    · exact .inr (.inr (.inl h))
    · exact .inl (.inr (.inl h))
    · exact .inr (.inr (.inr (.inl h)))
    · exact .inl (.inr (.inr (.inl h)))
    · exact .inr (.inr (.inr (.inr (.inl h))))
    · exact .inl (.inr (.inr (.inr h)))
    · exact .inr (.inr (.inr (.inr (.inr h))))
  · rintro (((h | h) | (h | h | h)) | (h | h | h | h | h))
    · exact .inl (.inl h)
    · exact .inr (.inl (.inl h))
    · exact .inr (.inr (.inl (.inl h)))
    · exact .inr (.inr (.inr (.inl (.inl h))))
    · exact .inr (.inr (.inr (.inr (.inl h))))
    · exact .inl (.inr h)
    · exact .inr (.inl (.inr h))
    · exact .inr (.inr (.inl (.inr h)))
    · exact .inr (.inr (.inr (.inl (.inr h))))
    · exact .inr (.inr (.inr (.inr (.inr h))))
/-- THE HEADS' BREAKS lie behind one another -/
theorem cHA_lb : ∀ (ps : List PD) (s : PS), (∀ p ∈ ps, (p.1 = 5 ∨ p.1 = 6 ∨ p.1 = 2) ∧ oK p) → lbE (cHA S s ps) (psA S s ps)
  | [], s, _ => lbE_refl
  | p :: ps, s, H => by
    obtain ⟨h1, h2⟩ := H p List.mem_cons_self
    obtain ⟨i1, i2⟩ := cHA_lb ps (pst S s p) (fun q hq => H q (List.mem_cons_of_mem _ hq))
    obtain ⟨l1, l2⟩ := lb_head (S := S) (s := s) h1 h2
    refine ⟨fun y hy => ?_, fun y hy => ?_⟩
    · rcases (cHA_mem h1).mp hy with hy | hy
      · obtain ⟨z, z1, z2⟩ := l1 y hy
        exact ⟨z, List.mem_append_left _ z1, z2⟩
      · obtain ⟨z, z1, z2⟩ := i1 y hy
        exact ⟨z, List.mem_append_right _ z1, z2⟩
    · rcases List.mem_append.mp hy with hy | hy
      · obtain ⟨z, z1, z2⟩ := l2 y hy
        exact ⟨z, (cHA_mem h1).mpr (.inl z1), z2⟩
      · obtain ⟨z, z1, z2⟩ := i2 y hy
        exact ⟨z, (cHA_mem h1).mpr (.inr z1), z2⟩
/-- the functions' part of the twin's breaks -/
theorem pB2_sub : ∀ {ps : List PD} {s : PS} {y : Int}, y ∈ pB2 S s ps → y ∈ psA S s ps
  | [], _, _, h => h
  | p :: ps, s, y, h => by
    rcases List.mem_append.mp h with h | h
    · split at h
      · exact List.mem_append_left _ h
      · exact absurd h List.not_mem_nil
    · exact List.mem_append_right _ (pB2_sub h)
/-- ALL BREAKS: the least one is the same -/
theorem all_least {s : PS} {ps : List PD} {BC5 B5 BC6 B6 BC2 B2 : List Int} {x : Int} (H : ∀ p ∈ ps, (p.1 = 5 ∨ p.1 = 6 ∨ p.1 = 2) ∧ oK p) (c5 : lbE BC5 (cRs S 5 s ps ++ B5)) (c6 : lbE BC6 (cRs S 6 s ps ++ B6)) (c2 : lb BC2 (pB2 S s ps ++ B2)) (c2' : lb (cRs S 2 s ps ++ B2) BC2) :
    mnl x (toB S cnI s.2.2.2.1 (jlG ps) ++ (toB S btI s.2.2.2.2.1 (jlN ps) ++ (BC5 ++ (BC6 ++ BC2)))) = mnl x (psA S s ps ++ (B5 ++ (B6 ++ B2))) := by
  obtain ⟨h1, h2⟩ := cHA_lb (S := S) ps s H
  have a1 : lb (toB S cnI s.2.2.2.1 (jlG ps)) (psA S s ps) := lb_trans (lb_l lb_refl) h1
  have a2 : lb (toB S btI s.2.2.2.2.1 (jlN ps)) (psA S s ps) := lb_trans (lb_r (lb_l lb_refl)) h1
  have a5 : lb (cRs S 5 s ps) (psA S s ps) := lb_trans (lb_r (lb_r (lb_l lb_refl))) h1
  have a6 : lb (cRs S 6 s ps) (psA S s ps) := lb_trans (lb_r (lb_r (lb_r (lb_l lb_refl)))) h1
  have ap : lb (pB2 S s ps) (psA S s ps) := fun y hy => ⟨y, pB2_sub hy, Int.le_refl _⟩
  refine lb_eq ?_ ?_
  · refine lb_app (lb_l a1) (lb_app (lb_l a2) (lb_app (lb_trans c5.1 (lb_app (lb_l a5) (lb_r (lb_l lb_refl)))) (lb_app (lb_trans c6.1 (lb_app (lb_l a6) (lb_r (lb_r (lb_l lb_refl))))) (lb_trans c2 (lb_app (lb_l ap) (lb_r (lb_r (lb_r lb_refl))))))))
  · refine lb_app (lb_trans h2 (lb_app (lb_l lb_refl) (lb_r (lb_app (lb_l lb_refl) (lb_r (lb_app (lb_l (lb_trans (lb_l lb_refl) c5.2)) (lb_r (lb_app (lb_l (lb_trans (lb_l lb_refl) c6.2)) (lb_r (lb_trans (lb_l lb_refl) c2')))))))))) (lb_app (lb_r (lb_r (lb_l (lb_trans (lb_r lb_refl) c5.2)))) (lb_app (lb_r (lb_r (lb_r (lb_l (lb_trans (lb_r lb_refl) c6.2))))) (lb_r (lb_r (lb_r (lb_r (lb_trans (lb_r lb_refl) c2')))))))
end LCW
