set_option maxRecDepth 100000
/-! SAYING, with types worked out on the way (nothing new is made) -/
/-- what the sink is -/
abbrev SV : Type := Int × Int × Int × Int × Int × (Nat → Int)
def svw (σ : tS) : SV := (gs σ 904, gs σ 908, gs σ 1111, gs σ 1112, gs σ 1116, fun k => ga σ 894 k)
noncomputable def sv1 (v : SV) (c : Int) : SV := if v.2.2.1 = 0 then (if v.2.1 ≤ v.1 then (w32 (v.1 + 1), v.2) else (w32 (v.1 + 1), v.2.1, v.2.2.1, v.2.2.2.1, v.2.2.2.2.1, fun k => if k = v.1.toNat then b8 (b8 c) else v.2.2.2.2.2 k)) else if v.1 ≠ v.2.2.2.1 then (w32 (v.1 + 1), v.2) else (w32 (v.1 + 1), v.2.1, v.2.2.1, v.2.2.2.1, c, v.2.2.2.2.2)
noncomputable def svL (L : List Int) (v : SV) : SV := L.foldl sv1 v
abbrev WYS : List Nat := [808, 812, 816, 823, 827, 836] ++ SYS
abbrev WYA : List Nat := [830, 834] ++ SYA
/-- what saying comes to, where types are worked out on the way -/
def SyW (σ : tS) (L : List Int) (σ' : tS) : Prop := (gs σ 904 + (L.length : Int) ≤ gs σ 908 → svw σ' = svL L (svw σ) ∧ gs σ' 904 = gs σ 904 + (L.length : Int)) ∧ (gs σ 908 < gs σ 904 + (L.length : Int) → gs σ 908 < gs σ' 904) ∧ (gs σ 904 ≤ gs σ' 904 ∧ gs σ' 904 ≤ gs σ 904 + (L.length : Int)) ∧ fr WYS WYA σ σ'
section LSW
variable {σ σ1 σ2 : tS} {t n : Nat}
theorem svw_1 {c : Int} : svw (say1 σ c) = sv1 (svw σ) c := by
  unfold say1 sv1
  show svw (if gs σ 1111 = 0 then _ else _) = if gs σ 1111 = 0 then _ else _
  by_cases a : gs σ 1111 = 0
  · rw [if_pos a, if_pos a]
    show svw (if gs σ 908 ≤ gs σ 904 then _ else _) = if gs σ 908 ≤ gs σ 904 then _ else _
    by_cases b : gs σ 908 ≤ gs σ 904
    · rw [if_pos b, if_pos b]
      unfold svw
      simp only [gs_us, ga_us]
      rfl
    · rw [if_neg b, if_neg b]
      unfold svw
      simp only [gs_us, ga_us, gs_ua, ga_ua]
      simp
  · rw [if_neg a, if_neg a]
    show svw (if gs σ 904 ≠ gs σ 1112 then _ else _) = if gs σ 904 ≠ gs σ 1112 then _ else _
    by_cases b : gs σ 904 ≠ gs σ 1112
    · rw [if_pos b, if_pos b]
      unfold svw
      simp only [gs_us, ga_us]
      rfl
    · rw [if_neg b, if_neg b]
      unfold svw
      simp only [gs_us, ga_us]
      rfl
theorem svw_L : ∀ {L : List Int} {σ : tS}, svw (sayL L σ) = svL L (svw σ)
  | [], _ => rfl
  | c :: L, σ => by
    show svw (sayL L (say1 σ c)) = svL L (sv1 (svw σ) c)
    rw [svw_L, svw_1]
theorem svL_app {L M : List Int} {v : SV} : svL (L ++ M) v = svL M (svL L v) := by
  unfold svL
  rw [List.foldl_append]
theorem SyW_of {L : List Int} (A : SyO σ L σ1) : SyW σ L σ1 := by
  obtain ⟨a1, a2, a3, a4⟩ := A
  refine ⟨fun w => ?_, a2, a3, fr_sub a4 (fun f h => List.mem_append_right _ h) (fun f h => List.mem_append_right _ h)⟩
  obtain ⟨b1, b2⟩ := a1 w
  exact ⟨by rw [b1, svw_L], b2⟩
theorem SyW_trans {L M : List Int} (A : SyW σ L σ1) (B : SyW σ1 M σ2) : SyW σ (L ++ M) σ2 := by
  obtain ⟨a1, a2, ⟨a3, a4⟩, a5⟩ := A
  obtain ⟨b1, b2, ⟨b3, b4⟩, b5⟩ := B
  have e : gs σ1 908 = gs σ 908 := a5.1 908 (by decide)
  rw [e] at b1 b2
  have l : ((L ++ M).length : Int) = (L.length : Int) + (M.length : Int) := by rw [List.length_append]; omega
  unfold SyW
  rw [l]
  refine ⟨fun w => ?_, fun w => ?_, ⟨by omega, by omega⟩, fr_trans a5 b5⟩
  · obtain ⟨c1, c2⟩ := a1 (by omega)
    obtain ⟨d1, d2⟩ := b1 (by omega)
    exact ⟨by rw [d1, c1, svL_app], by omega⟩
  · by_cases v : gs σ 908 < gs σ 904 + (L.length : Int)
    · have := a2 v
      omega
    · have := (a1 (by omega)).2
      exact b2 (by omega)
/-- types are worked out: nothing is said -/
theorem SyW_out (F : fr (827 :: OFS) OFA σ σ1) (T : ∀ f ∈ TYA, ∀ i, ga σ1 f i = ga σ f i) (e532 : gs σ1 532 = gs σ 532) : SyW σ [] σ1 := by
  have e1 := F.1 904 (by decide)
  have e2 := F.1 908 (by decide)
  refine ⟨fun _ => ⟨?_, by rw [e1]; simp⟩, fun w => ?_, ⟨by omega, by rw [e1]; simp⟩, fun f hf => ?_, fun f hf i => ?_⟩
  · show svw σ1 = svw σ
    unfold svw
    rw [e1, e2, F.1 1111 (by decide), F.1 1112 (by decide), F.1 1116 (by decide), show (fun k => ga σ1 894 k) = (fun k => ga σ 894 k) from funext (fun k => F.2 894 (by decide) k)]
  · rw [e1]; simpa using w
  · by_cases c : f = 532
    · rw [c]; exact e532
    · refine F.1 f (fun h => ?_)
      simp only [List.mem_cons, List.not_mem_nil, or_false, List.mem_append] at h hf
      omega
  · by_cases c : f ∈ TYA
    · exact T f c i
    · refine F.2 f (fun h => ?_) i
      rcases List.mem_append.mp h with h | h
      · exact c h
      · exact hf (List.mem_append_left _ h)
theorem SyW_t {L : List Int} (S : SkT σ t) (A : SyW σ L σ1) : ∃ t1, SkT σ1 t1 ∧ t ≤ t1 ∧ t1 ≤ t + L.length := by
  obtain ⟨_, _, ⟨a3, a4⟩, a5⟩ := A
  have e := S.1
  refine ⟨(gs σ1 904).toNat, ⟨by omega, by rw [a5.1 908 (by decide)]; exact S.2⟩, by omega, by omega⟩
/-- behind the limit nothing is said -/
theorem SyW_skip {L : List Int} (h : ¬ gs σ 904 ≤ gs σ 908) : SyW σ L σ := ⟨fun w => by omega, fun _ => by omega, ⟨Int.le_refl _, by omega⟩, fr_refl _ _ _⟩
end LSW
