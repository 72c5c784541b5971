set_option maxRecDepth 100000
/-! THE TWIN SAYS: bytes, names, types -/
/-- one byte -/
noncomputable def say1 (σ : tS) (c : Int) : tS := if gs σ 1111 = 0 then (if gs σ 908 ≤ gs σ 904 then us σ 904 (w32 (gs σ 904 + 1)) else us (ua σ 894 (gs σ 904).toNat (b8 (b8 c))) 904 (w32 (gs σ 904 + 1))) else if gs σ 904 ≠ gs σ 1112 then us σ 904 (w32 (gs σ 904 + 1)) else us (us σ 1116 c) 904 (w32 (gs σ 904 + 1))
noncomputable def sayL (L : List Int) (σ : tS) : tS := L.foldl say1 σ
/-- t bytes so far; the limit -/
def SkT (σ : tS) (t : Nat) : Prop := gs σ 904 = (t : Int) ∧ gs σ 908 ≤ 80400
/-- all heads in a type -/
def allH (H : Nat → Nat → Prop) : Ty → Prop
  | .leaf => True
  | .inner k w _ l r => H k w ∧ allH H l ∧ allH H r
abbrev SYS : List Nat := [904, 1116]
abbrev SYA : List Nat := [894]
/-- what saying a row of bytes comes to, where nothing more is said behind the limit -/
def SyO (σ : tS) (L : List Int) (σ' : tS) : Prop := (gs σ 904 + (L.length : Int) ≤ gs σ 908 → σ' = sayL L σ ∧ gs σ' 904 = gs σ 904 + (L.length : Int)) ∧ (gs σ 908 < gs σ 904 + (L.length : Int) → gs σ 908 < gs σ' 904) ∧ (gs σ 904 ≤ gs σ' 904 ∧ gs σ' 904 ≤ gs σ 904 + (L.length : Int)) ∧ fr SYS SYA σ σ'
section LSY
variable {σ σ1 σ2 τ : tS} {t n : Nat}
theorem say1_fr {c : Int} : fr SYS SYA σ (say1 σ c) := by
  unfold say1
  split
  · split
    · exact fr_us (fr_refl _ _ _) (by simp)
    · exact fr_us (fr_ua (fr_refl _ _ _) (by simp)) (by simp)
  · split
    · exact fr_us (fr_refl _ _ _) (by simp)
    · exact fr_us (fr_us (fr_refl _ _ _) (by simp)) (by simp)
theorem say1_904 {c : Int} : gs (say1 σ c) 904 = w32 (gs σ 904 + 1) := by
  unfold say1
  split
  · split
    · rw [gs_us, if_pos rfl]
    · rw [gs_us, if_pos rfl]
  · split
    · rw [gs_us, if_pos rfl]
    · rw [gs_us, if_pos rfl]
theorem sayL_fr : ∀ {L : List Int} {σ : tS}, fr SYS SYA σ (sayL L σ)
  | [], σ => fr_refl _ _ _
  | c :: L, σ => fr_trans say1_fr (sayL_fr (L := L) (σ := say1 σ c))
theorem sayL_app {L M : List Int} : sayL (L ++ M) σ = sayL M (sayL L σ) := by
  unfold sayL
  rw [List.foldl_append]
theorem SkT_next (S : SkT σ t) (ht : t < 2000000000) {c : Int} : SkT (say1 σ c) (t + 1) := by
  refine ⟨?_, by rw [say1_fr.1 908 (by decide)]; exact S.2⟩
  rw [say1_904, S.1, w32_s (by omega) (by omega)]
  rfl
theorem sayL_t : ∀ {L : List Int} {σ : tS} {t : Nat}, SkT σ t → t + L.length < 2000000000 → SkT (sayL L σ) (t + L.length)
  | [], σ, t, S, _ => S
  | c :: L, σ, t, S, h => by
    rw [List.length_cons] at h ⊢
    have := sayL_t (L := L) (SkT_next (c := c) S (by omega)) (by omega)
    rw [show t + 1 + L.length = t + (L.length + 1) by omega] at this
    exact this
/-- a byte is said -/
theorem t_say (S : SkT σ t) (c : Int) : T_say c σ = some (say1 σ c) := by
  have s1 := S.1
  have s2 := S.2
  unfold T_say say1
  by_cases a : gs σ 1111 = 0
  · rw [if_pos a, if_pos a]
    unfold T_say_23
    rw [if_neg (fun z => z a)]
    by_cases b : gs σ 908 ≤ gs σ 904
    · rw [if_pos b, if_pos b]
    · rw [if_neg b, if_neg b, if_pos ⟨by omega, by omega⟩]
      rfl
  · rw [if_neg a, if_neg a]
    by_cases b : gs σ 904 ≠ gs σ 1112
    · rw [if_pos b, if_pos b]
      unfold T_say_23
      rw [if_pos a]
    · rw [if_neg b, if_neg b]
      unfold T_say_23
      have e1 : gs (us σ 1116 c) 1111 = gs σ 1111 := by rw [gs_us, if_neg (by decide)]
      have e2 : gs (us σ 1116 c) 904 = gs σ 904 := by rw [gs_us, if_neg (by decide)]
      rw [e1, e2, if_pos a]
theorem SyO_trans {L M : List Int} (A : SyO σ L σ1) (B : SyO σ1 M σ2) : SyO σ (L ++ M) σ2 := by
  obtain ⟨a1, a2, ⟨a3, a4⟩, a5⟩ := A
  obtain ⟨b1, b2, ⟨b3, b4⟩, b5⟩ := B
  have e : gs σ1 908 = gs σ 908 := a5.1 908 (by decide)
  rw [e] at b1 b2
  have l : ((L ++ M).length : Int) = (L.length : Int) + (M.length : Int) := by rw [List.length_append]; omega
  unfold SyO
  rw [l]
  refine ⟨fun w => ?_, fun w => ?_, ⟨by omega, by omega⟩, fr_trans a5 b5⟩
  · obtain ⟨c1, c2⟩ := a1 (by omega)
    obtain ⟨d1, d2⟩ := b1 (by omega)
    exact ⟨by rw [d1, c1, sayL_app], by omega⟩
  · by_cases v : gs σ 908 < gs σ 904 + (L.length : Int)
    · have := a2 v
      omega
    · have := (a1 (by omega)).2
      exact b2 (by omega)
theorem SyO_L {L : List Int} (S : SkT σ t) (h : t + L.length < 2000000000) : SyO σ L (sayL L σ) := by
  have S' := sayL_t S h
  have e1 := S.1
  have e2 := S'.1
  exact ⟨fun _ => ⟨rfl, by omega⟩, fun w => by omega, ⟨by omega, by omega⟩, sayL_fr⟩
theorem SyO_nil : SyO σ [] σ := ⟨fun _ => ⟨rfl, by simp⟩, fun w => by simpa using w, ⟨Int.le_refl _, by simp⟩, fr_refl _ _ _⟩
/-- where it stands behind it -/
theorem SyO_t {L : List Int} (S : SkT σ t) (A : SyO σ L σ1) : ∃ t1, SkT σ1 t1 ∧ t ≤ t1 ∧ t1 ≤ t + L.length := by
  obtain ⟨_, _, ⟨a3, a4⟩, a5⟩ := A
  have e := S.1
  refine ⟨(gs σ1 904).toNat, ⟨by omega, by rw [a5.1 908 (by decide)]; exact S.2⟩, by omega, by omega⟩
theorem nmT_fr {k : Nat} {w : List Int} (F : fr SYS SYA σ τ) (H : nmT σ k w) : nmT τ k w := ⟨by rw [F.2 494 (by decide)]; exact H.1, H.2.1, fun i x e => by rw [F.2 490 (by decide)]; exact H.2.2 i x e⟩
/-- a name is said -/
theorem t_sayName {w : Nat} {L : List Int} (H : nmT σ w L) (hw : w < 2100) (S : SkT σ t) (ht : t < 1900000000) : T_sayName (w : Int) σ = some (sayL L σ) := by
  have go : ∀ (M P : List Int), L = P ++ M → om_loop (T_sayName_2s (w : Int)) ((P.length : Int), sayL P σ) = some (sayL L σ) := by
    intro M
    induction M with
    | nil =>
      intro P e
      rw [List.append_nil] at e
      rw [← e]
      refine om_loop_out ?_
      unfold T_sayName_2s
      simp only
      rw [if_pos (by omega), show ((w : Int)).toNat = w by omega, (sayL_fr (L := L) (σ := σ)).2 494 (by decide), H.1, if_pos (Int.le_refl _)]
    | cons c M ih =>
      intro P e
      have hl : L.length = P.length + (M.length + 1) := by rw [e, List.length_append, List.length_cons]
      have h10 := H.2.1
      have S' := sayL_t (L := P) S (by omega)
      have st : T_sayName_2s (w : Int) ((P.length : Int), sayL P σ) = some (.inl (((P ++ [c]).length : Int), sayL (P ++ [c]) σ)) := by
        unfold T_sayName_2s
        simp only
        have ix : w32 (w32 (10 * (w : Int)) + (P.length : Int)) = ((10 * w + P.length : Nat) : Int) := by rw [w32_s (x := 10 * (w : Int)) (by omega) (by omega), w32_s (by omega) (by omega)]; omega
        have ec : L[P.length]? = some c := by rw [e, List.getElem?_append_right (Nat.le_refl _), Nat.sub_self]; rfl
        rw [if_pos (by omega), show ((w : Int)).toNat = w by omega, (sayL_fr (L := P) (σ := σ)).2 494 (by decide), H.1, if_neg (by omega), ix, if_pos ⟨by omega, by omega⟩, show (((10 * w + P.length : Nat) : Int)).toNat = 10 * w + P.length by omega, (sayL_fr (L := P) (σ := σ)).2 490 (by decide), H.2.2 _ _ ec, t_say S', Option.bind_some, w32_s (by omega) (by omega), sayL_app, List.length_append]
        rfl
      rw [om_loop_in st]
      exact ih (P ++ [c]) (by rw [e, List.append_assoc]; rfl)
  unfold T_sayName
  have := go L [] rfl
  have g : om_loop (T_sayName_2s (w : Int)) (0, σ) = some (sayL L σ) := this
  rw [g, Option.bind_some]
variable (nm con fam : Nat → List Int)
/-- a type's head is known by its letters -/
def hdO (σ : tS) (k w : Nat) : Prop := (k = 0 → w < 2100 ∧ nmT σ w (nm w)) ∧ (k = 1 → 9 + w < 2100 ∧ nmT σ (9 + w) (con w)) ∧ (k = 2 → w < 8 ∧ ∃ v : Nat, ga σ 674 w = (v : Int) ∧ v < 2100 ∧ nmT σ v (fam w))
abbrev tOn (σ : tS) (T : Ty) : Prop := allH (hdO nm con fam σ) T
variable {nm con fam}
theorem hdO_fr {k w : Nat} (F : fr SYS SYA σ τ) (H : hdO nm con fam σ k w) : hdO nm con fam τ k w := by
  refine ⟨fun e => ⟨(H.1 e).1, nmT_fr F (H.1 e).2⟩, fun e => ⟨(H.2.1 e).1, nmT_fr F (H.2.1 e).2⟩, fun e => ?_⟩
  obtain ⟨h1, v, h2, h3, h4⟩ := H.2.2 e
  exact ⟨h1, v, by rw [F.2 674 (by decide)]; exact h2, h3, nmT_fr F h4⟩
theorem tOn_fr (F : fr SYS SYA σ τ) : ∀ {T : Ty}, tOn nm con fam σ T → tOn nm con fam τ T
  | .leaf, _ => trivial
  | .inner _ _ _ _ _, ⟨a, d, e⟩ => ⟨hdO_fr F a, tOn_fr F d, tOn_fr F e⟩
theorem tyT_fr (F : fr SYS SYA σ τ) {T : Ty} {x : Int} (H : tyT σ n T x) : tyT τ n T x := tyT_mono (tx_same (fun g hg i => F.2 g ((by decide : ∀ g ∈ TYA, g ∉ SYA) g hg) i)) H
theorem tyB_inner {k w : Nat} {u : Unit} {l r : Ty} : tyB nm con fam (.inner k w u l r) = if k = 3 then 40 :: tyB nm con fam l ++ [45, 62] ++ tyB nm con fam r ++ [41] else hdB nm con fam k w ++ (if lfB l = true then [] else 40 :: tyB nm con fam l ++ (if lfB r = true then [] else 44 :: tyB nm con fam r) ++ [41]) := rfl
/-- a head is said -/
theorem t_sayGreat {m k w : Nat} (hm : m < 126000) (e1 : ga σ 502 m = (k : Int)) (e2 : ga σ 506 m = (w : Int)) (H : hdO nm con fam σ k w) (h0 : k = 1 ∨ k = 2) (S : SkT σ t) (ht : t < 1900000000) : T_sayGreat (m : Int) σ = some (sayL (hdB nm con fam k w) σ) := by
  unfold T_sayGreat
  rw [if_pos (by omega), show ((m : Int)).toNat = m by omega, e1, e2]
  rcases h0 with h0 | h0
  · obtain ⟨h1, h2⟩ := H.2.1 h0
    rw [if_pos (by omega), if_pos (by omega), w32_s (by omega) (by omega)]
    unfold T_sayGreat_34
    have := t_sayName h2 h1 S ht
    rw [show (9 + (w : Int)) = ((9 + w : Nat) : Int) by omega, this, Option.bind_some]
    unfold hdB
    rw [if_neg (by omega), if_pos h0]
  · obtain ⟨h1, v, h2, h3, h4⟩ := H.2.2 h0
    rw [if_neg (by omega), if_pos (by omega), show ((w : Int)).toNat = w by omega, h2]
    unfold T_sayGreat_34
    rw [t_sayName h4 h3 S ht, Option.bind_some]
    unfold hdB
    rw [if_neg (by omega), if_neg (by omega)]
end LSY
