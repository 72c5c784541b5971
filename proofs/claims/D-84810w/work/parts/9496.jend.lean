set_option maxRecDepth 100000
/-! ALL JUDGING COMES TO AN END -/
section LJE
variable {E : JE} {B : Nat}
theorem jln_ends (J : JOk E B) {T : Ty} {t : Xt} {s : JS} (ok : xok E t 0) (hx : 2700 + xsz t ≤ 1000000) : ∃ z, jln E T t s = some z := by
  obtain ⟨w, e, _⟩ := jb_ok (Q := fun _ : Et × JS => True) (f := fun a => if tszW T ≤ 60 then jw E T a.1 a.2 else some (.inl (7, ePl a.1))) (jd_ok J t [] s 2700 ok (fun T hT => absurd hT List.not_mem_nil) (Nat.le_refl _) hx) (fun a ha => by
    by_cases c : tszW T ≤ 60
    · rw [if_pos c]
      obtain ⟨z, e, _⟩ := jw_ok (E := E) (T := T) (s := a.2) ha
      exact ⟨z, e, fun _ _ => trivial⟩
    · rw [if_neg c]
      exact ⟨_, rfl, fun _ _ => trivial⟩)
  exact ⟨w, e⟩
theorem jls_ends (J : JOk E B) : ∀ (l : List (Ty × Xt)) (s : JS), (∀ p ∈ l, xok E p.2 0 ∧ 2700 + xsz p.2 ≤ 1000000) → ∃ z, jls E l s = some z
  | [], s, _ => ⟨_, rfl⟩
  | p :: l, s, H => by
    obtain ⟨z1, e1⟩ := jln_ends J (T := p.1) (s := s) (H p List.mem_cons_self).1 (H p List.mem_cons_self).2
    obtain ⟨w, e, _⟩ := jb_ok (P := fun _ : Et × JS => True) (Q := fun _ : List Et × JS => True) (f := fun a => jb (jls E l a.2) fun b => some (.inr (a.1 :: b.1, b.2))) ⟨z1, e1, fun _ _ => trivial⟩ (fun a _ => by
      obtain ⟨z2, e2⟩ := jls_ends J l a.2 (fun p hp => H p (List.mem_cons_of_mem _ hp))
      exact jb_ok (P := fun _ : List Et × JS => True) ⟨z2, e2, fun _ _ => trivial⟩ (fun b _ => ⟨_, rfl, fun _ _ => trivial⟩))
    exact ⟨w, e⟩
end LJE
section LJE2
variable {fn : List (List Nat × List GVs × Ty)} {mt : List (Option (Nat × Nat × Ty))} {ab : List (Option Nat)} {ins : List INs} {σ : tS} {n : Nat}
theorem jj1_ends {j : JB} {dd f i : Nat} {s : JS} (a : j.1 = 2 → FjT σ n (fn, mt, ab, ins, j.2.2.2.1.1) j dd f) (b : j.1 = 6 → IjT σ n (fn, mt, ab, ins, gvI j.2.2.2.2.1) j dd i) : ∃ z, jj1 fn mt ab ins j s = some z := by
  unfold jj1
  by_cases c : j.1 = 2
  · rw [if_pos c]
    obtain ⟨w', x, y, e1, e2, e5, e6, e7, e8, e9, e10, e11, e12, e13, e14, e15⟩ := a c
    obtain ⟨z1, g1, g2⟩ := jd_ok e14 j.2.2.2.1.2.2.1 [] s 2700 e8 (fun T hT => absurd hT List.not_mem_nil) (Nat.le_refl _) e9
    obtain ⟨w, e, _⟩ := jb_ok (P := fun _ : Et × JS => True) (Q := fun _ : List Et × JS => True) (f := fun a => some (.inr ([a.1], a.2))) (jb_ok (Q := fun _ : Et × JS => True) (f := fun a => jw (fn, mt, ab, ins, j.2.2.2.1.1) j.2.2.2.1.2.1 a.1 a.2) ⟨z1, g1, g2⟩ (fun a ha => by
      obtain ⟨z, e, _⟩ := jw_ok (E := (fn, mt, ab, ins, j.2.2.2.1.1)) (T := j.2.2.2.1.2.1) (s := a.2) ha
      exact ⟨z, e, fun _ _ => trivial⟩)) (fun a _ => ⟨_, rfl, fun _ _ => trivial⟩)
    exact ⟨w, e⟩
  · rw [if_neg c]
    by_cases d : j.1 = 6
    · rw [if_pos d]
      obtain ⟨e1, e2, e3, e4, e5, e6, e7, e8⟩ := b d
      refine jls_ends e8 _ s (fun p hp => ?_)
      obtain ⟨y, y1, y2⟩ := List.mem_map.mp hp
      rw [← y2]
      have L := e3 y y1
      exact ⟨L.2.2.2.2.2.1, L.2.2.2.2.2.2.1⟩
    · rw [if_neg d]
      exact ⟨_, rfl⟩
theorem jjs_ends : ∀ {l : List JB} {dd f i : Nat} (s : JS), JbsT fn mt ab ins σ n l dd f i → ∃ z, jjs fn mt ab ins l s = some z
  | [], _, _, _, s, _ => ⟨_, rfl⟩
  | j :: l, dd, f, i, s, ⟨_, a, b, c⟩ => by
    obtain ⟨z1, e1⟩ := jj1_ends (s := s) a b
    obtain ⟨w, e, _⟩ := jb_ok (P := fun _ : List Et × JS => True) (Q := fun _ : List (List Et) × JS => True) (f := fun a => jb (jjs fn mt ab ins l a.2) fun b => some (.inr (a.1 :: b.1, b.2))) ⟨z1, e1, fun _ _ => trivial⟩ (fun a _ => by
      obtain ⟨z2, e2⟩ := jjs_ends a.2 c
      exact jb_ok (P := fun _ : List (List Et) × JS => True) ⟨z2, e2, fun _ _ => trivial⟩ (fun b _ => ⟨_, rfl, fun _ _ => trivial⟩))
    exact ⟨w, e⟩
end LJE2
