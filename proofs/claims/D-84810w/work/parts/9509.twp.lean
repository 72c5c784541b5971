set_option maxRecDepth 100000
/-! THE TWIN SAYS why a type is what it is worked out to: its parts -/
/-- parts, then K -/
noncomputable def wpT (r : Int → tS → Option tS) (l1 : Int) (K : tS → Option tS) (y1 : tS) : Option tS := if 0 ≤ l1 ∧ l1 < 126000 then (if (ga y1 502 l1.toNat) ≠ 3 then (T_sayGreat l1 y1).bind fun p2 => (T_say 40 p2).bind fun p3 => if 0 ≤ l1 ∧ l1 < 126000 then ((r (ga p3 510 l1.toNat) p3).bind fun p4 => if 0 ≤ l1 ∧ l1 < 126000 then (if (ga p4 514 l1.toNat) = (-1) then K p4 else (T_say 44 p4).bind fun p5 => if 0 ≤ l1 ∧ l1 < 126000 then ((r (ga p5 514 l1.toNat) p5).bind fun p6 => K p6) else none) else none) else none else (T_say 40 y1).bind fun p7 => if 0 ≤ l1 ∧ l1 < 126000 then ((r (ga p7 510 l1.toNat) p7).bind fun p8 => (T_say 45 p8).bind fun p9 => (T_say 62 p9).bind fun p10 => if 0 ≤ l1 ∧ l1 < 126000 then ((r (ga p10 514 l1.toNat) p10).bind fun p11 => K p11) else none) else none) else none
theorem t_159e {r : Int → tS → Option tS} {l1 l2 l3 l4 l5 l6 s0 s1 : Int} {σ : tS} : T_sayWhy_159 r l1 l2 l3 l4 l5 l6 s0 s1 σ = (om_loop (T_sayWhy_165s r l1 l2 l3 l4 l5 l6 (w32 (s0 + s1))) (1, σ)).bind fun y1 => if l3 = 0 then T_sayWhy_298 r l2 l4 l5 l6 0 y1 else wpT r l1 (fun y => T_sayWhy_289 r l2 l4 l5 l6 0 y) y1 := rfl
section LWP
variable {r : Int → tS → Option tS} {l1 l2 l3 l4 l5 l6 : Int} {σ σ0 : tS} {t n : Nat} {nm con fam : Nat → List Int}
/-- signs that open -/
theorem t_165 : ∀ (d k : Nat) (σ : tS) (t : Nat), SkT σ t → t + d < 1000000000 → k + d < 10 → om_loop (T_sayWhy_165s r l1 l2 l3 l4 l5 l6 ((k + d : Nat) : Int)) ((k : Int), σ) = some (sayL (List.replicate d 40) σ)
  | 0, k, σ, t, S, _, _ => by
    refine om_loop_out ?_
    unfold T_sayWhy_165s
    simp only
    rw [if_pos (by omega)]
    rfl
  | d + 1, k, σ, t, S, ht, hk => by
    have st : T_sayWhy_165s r l1 l2 l3 l4 l5 l6 ((k + (d + 1) : Nat) : Int) ((k : Int), σ) = some (.inl (((k + 1 : Nat) : Int), say1 σ 40)) := by
      unfold T_sayWhy_165s
      simp only
      rw [if_neg (by omega), t_say S, Option.bind_some, w32_s (by omega) (by omega)]
      rfl
    rw [om_loop_in st, show k + (d + 1) = k + 1 + d by omega, t_165 d (k + 1) _ (t + 1) (SkT_next S (by omega)) (by omega) (by omega)]
    rfl
/-- the parts, without the sign that closes -/
def wpB0 (w : Ty → Option (List Int)) : Ty → List Int
  | .leaf => []
  | .inner k x _ l r => (if k = 3 then [] else hdB nm con fam k x) ++ 40 :: (w l).getD (altB nm con fam l) ++ (if lfB r = true then [] else (if k = 3 then [45, 62] else [44]) ++ (w r).getD (altB nm con fam r))
theorem wpB_0 {w : Ty → Option (List Int)} {T : Ty} (h : T ≠ .leaf) : wpB nm con fam w T = wpB0 (nm := nm) (con := con) (fam := fam) w T ++ [41] := by
  cases T with
  | leaf => exact absurd rfl h
  | inner k x u l r => rfl
theorem t_wp {K : tS → Option tS} {w : Ty → Option (List Int)} {k x m : Nat} {u : Unit} {l r' : Ty} (hm : m < 126000) (e1 : ga σ0 502 m = (k : Int)) (e2 : ga σ0 506 m = (x : Int)) (ho : hdO nm con fam σ0 k x) (hk : k = 1 ∨ k = 2 ∨ k = 3) (hl : l ≠ .leaf) (h3 : k = 3 → r' ≠ .leaf) (hr : r' = .leaf ↔ ga σ0 514 m = -1) (Rl : RW σ0 r (ga σ0 510 m) ((w l).getD (altB nm con fam l))) (Rr : r' ≠ .leaf → RW σ0 r (ga σ0 514 m) ((w r').getD (altB nm con fam r'))) (F : fr WYS WYA σ0 σ) (S : SkT σ t) (ht : t + (wpB0 (nm := nm) (con := con) (fam := fam) w (.inner k x u l r')).length < 999999999) : ∃ σ', wpT r (m : Int) K σ = K σ' ∧ SyW σ (wpB0 (nm := nm) (con := con) (fam := fam) w (.inner k x u l r')) σ' := by
  have mN : ((m : Int)).toNat = m := by omega
  have rg : (0 : Int) ≤ (m : Int) ∧ (m : Int) < 126000 := by omega
  have eb : wpB0 (nm := nm) (con := con) (fam := fam) w (.inner k x u l r') = (if k = 3 then [] else hdB nm con fam k x) ++ 40 :: (w l).getD (altB nm con fam l) ++ (if lfB r' = true then [] else (if k = 3 then [45, 62] else [44]) ++ (w r').getD (altB nm con fam r')) := rfl
  rw [eb] at ht ⊢
  generalize (w l).getD (altB nm con fam l) = A at *
  generalize (w r').getD (altB nm con fam r') = B at *
  unfold wpT
  rw [if_pos rg, mN, F.2 502 (by decide), e1]
  by_cases c3 : k = 3
  · have rn := h3 c3
    have rf : ¬ lfB r' = true := fun z => rn (lfB_t.mp z)
    rw [if_neg (by omega)]
    rw [if_pos c3, if_neg rf, if_pos c3, List.nil_append] at ht ⊢
    simp only [List.length_append, List.length_cons, List.length_nil] at ht
    obtain ⟨a1, a2, a3⟩ := sw_b S (by omega) 40
    have Fa := fr_trans F a2.2.2.2
    rw [a1, Option.bind_some, if_pos rg, Fa.2 510 (by decide)]
    obtain ⟨σ3, b1, b2⟩ := Rl _ (t + 1) Fa a3 (by omega)
    obtain ⟨t3, S3, t3a, t3b⟩ := SyW_t a3 b2
    rw [b1, Option.bind_some]
    obtain ⟨c1, c2, c3'⟩ := sw_b S3 (by omega) 45
    rw [c1, Option.bind_some]
    obtain ⟨d1, d2, d3⟩ := sw_b c3' (by omega) 62
    have Fd := fr_trans Fa (fr_trans b2.2.2.2 (fr_trans c2.2.2.2 d2.2.2.2))
    rw [d1, Option.bind_some, if_pos rg, Fd.2 514 (by decide)]
    obtain ⟨σ5, f1, f2⟩ := Rr rn _ (t3 + 1 + 1) Fd d3 (by omega)
    rw [f1, Option.bind_some]
    refine ⟨σ5, rfl, ?_⟩
    have := SyW_trans (SyW_trans (SyW_trans (SyW_trans a2 b2) c2) d2) f2
    rw [show 40 :: A ++ ([45, 62] ++ B) = [40] ++ A ++ [45] ++ [62] ++ B by simp]
    exact this
  · rw [if_pos (by omega)]
    rw [if_neg c3] at ht ⊢
    simp only [List.length_append, List.length_cons] at ht
    have gr := t_sayGreat (nm := nm) (con := con) (fam := fam) (m := m) hm (by rw [F.2 502 (by decide)]; exact e1) (by rw [F.2 506 (by decide)]; exact e2) (hdO_W F ho) (by omega) S (by omega)
    have A0 := SyW_of (SyO_L (L := hdB nm con fam k x) S (by omega))
    have F0 := fr_trans F A0.2.2.2
    obtain ⟨t1, S1, t1a, t1b⟩ := SyW_t S A0
    rw [gr, Option.bind_some]
    obtain ⟨a1, a2, a3⟩ := sw_b S1 (by omega) 40
    have Fa := fr_trans F0 a2.2.2.2
    rw [a1, Option.bind_some, if_pos rg, Fa.2 510 (by decide)]
    obtain ⟨σ3, b1, b2⟩ := Rl _ (t1 + 1) Fa a3 (by omega)
    obtain ⟨t3, S3, t3a, t3b⟩ := SyW_t a3 b2
    have Fb := fr_trans Fa b2.2.2.2
    rw [b1, Option.bind_some, if_pos rg, Fb.2 514 (by decide)]
    have BB := SyW_trans (SyW_trans A0 a2) b2
    by_cases rf : r' = .leaf
    · rw [if_pos (hr.mp rf), if_pos (lfB_t.mpr rf), List.append_nil]
      refine ⟨σ3, rfl, ?_⟩
      rw [show hdB nm con fam k x ++ 40 :: A = hdB nm con fam k x ++ [40] ++ A by simp]
      exact BB
    · have rf' : ¬ lfB r' = true := fun z => rf (lfB_t.mp z)
      rw [if_neg (fun z => rf (hr.mpr z))]
      rw [if_neg rf', if_neg c3] at ht ⊢
      simp only [List.length_append, List.length_cons, List.length_nil] at ht
      obtain ⟨c1, c2, c3'⟩ := sw_b S3 (by omega) 44
      have Fd := fr_trans Fb c2.2.2.2
      rw [c1, Option.bind_some, if_pos rg, Fd.2 514 (by decide)]
      obtain ⟨σ5, f1, f2⟩ := Rr rf _ (t3 + 1) Fd c3' (by omega)
      rw [f1, Option.bind_some]
      refine ⟨σ5, rfl, ?_⟩
      have := SyW_trans (SyW_trans BB c2) f2
      rw [show hdB nm con fam k x ++ 40 :: A ++ ([44] ++ B) = hdB nm con fam k x ++ [40] ++ A ++ [44] ++ B by simp]
      exact this
end LWP
