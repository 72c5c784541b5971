set_option maxRecDepth 100000
/-! FAMILIES HAVE NAMES OF THEIR OWN -/
def famI (s : PS) : Prop := (∀ (c : Nat) (o : Option (List Int)) (L : List Int), s.1[c]? = some (o, some L) → L ∈ s.2.2.2.1) ∧ ∀ (c c' : Nat) (o o' : Option (List Int)) (L : List Int), s.1[c]? = some (o, some L) → s.1[c']? = some (o', some L) → c = c'
theorem famK_some {S : List Int} {tg : List (List Int)} {o : Option Nat} {L : List Int} (e : famK S tg o = some L) : L ∉ tg ∧ L ∈ oW S o := by
  unfold famK at e
  cases o with
  | none => cases e
  | some f =>
    have e' : (if nwG S tg f then some (tokw S f) else none) = some L := e
    split at e'
    · rename_i c
      rw [← Option.some.inj e']
      exact ⟨c.2, by unfold oW; simp⟩
    · cases e'
theorem famI_5 {s : PS} {k : Option (List Int) × Option (List Int)} {tg : List (List Int)} (H : famI s) (ht : ∀ L, L ∈ s.2.2.2.1 → L ∈ tg) (hk : ∀ L, k.2 = some L → L ∉ s.2.2.2.1 ∧ L ∈ tg) {a : FT} {b : List FT} {c : List (List Int)} {d : Nat} : famI (s.1 ++ [k], a, b, tg, c, d) := by
  have get : ∀ (i : Nat) (o : Option (List Int)) (L : List Int), (s.1 ++ [k])[i]? = some (o, some L) → (i < s.1.length ∧ s.1[i]? = some (o, some L)) ∨ (i = s.1.length ∧ k = (o, some L)) := fun i o L e => by
    by_cases c : i < s.1.length
    · rw [List.getElem?_append_left c] at e
      exact .inl ⟨c, e⟩
    · have il := (List.getElem?_eq_some_iff.mp e).1
      rw [List.length_append, List.length_singleton] at il
      have ei : i = s.1.length := by omega
      rw [ei, List.getElem?_append_right (Nat.le_refl _), Nat.sub_self] at e
      exact .inr ⟨ei, Option.some.inj e⟩
  refine ⟨fun i o L e => ?_, fun i i' o o' L e e' => ?_⟩
  · rcases get i o L e with ⟨_, e⟩ | ⟨_, e⟩
    · exact ht _ (H.1 i o L e)
    · exact (hk L (by rw [e])).2
  · rcases get i o L e with ⟨_, e⟩ | ⟨ei, e⟩
    · rcases get i' o' L e' with ⟨_, e'⟩ | ⟨_, e'⟩
      · exact H.2 i i' o o' L e e'
      · exact absurd (H.1 i o L e) (hk L (by rw [e'])).1
    · rcases get i' o' L e' with ⟨_, e'⟩ | ⟨ei', e'⟩
      · exact absurd (H.1 i' o' L e') (hk L (by rw [e])).1
      · omega
theorem famI_st {S : List Int} {s : PS} {p : PD} (H : famI s) : famI (pst S s p) := by
  by_cases h5 : p.1 = 5
  · rw [pst_5 h5]
    refine famI_5 H (fun L hL => List.mem_append_left _ (List.mem_append_left _ hL)) (fun L e => ?_)
    split at e
    · unfold clsK at e
      split at e
      · obtain ⟨e1, e2⟩ := famK_some e
        exact ⟨fun z => e1 (List.mem_append_left _ z), List.mem_append_right _ e2⟩
      · cases e
    · cases e
  · by_cases h6 : p.1 = 6
    · rw [pst_6 h6]; exact H
    · unfold pst
      rw [if_neg h5, if_neg h6]
      exact H
theorem famI_all {S : List Int} : ∀ {ps : List PD} {s : PS}, famI s → famI (ps.foldl (pst S) s)
  | [], _, H => H
  | _ :: ps, _, H => famI_all (ps := ps) (famI_st H)
theorem FI_mem {α : Type} {g : α → Option (List Int)} {L : List Int} : ∀ {K : List α} {c : Nat} {k : α}, K[c]? = some k → g k = some L → ∃ i, FI g L K = some i
  | [], _, _, e, _ => by cases e
  | x :: K, c, k, e, h => by
    unfold FI
    by_cases z : g x = some L
    · rw [if_pos z]; exact ⟨0, rfl⟩
    · rw [if_neg z]
      cases c with
      | zero => rw [Option.some.inj e] at z; exact absurd h z
      | succ c =>
        obtain ⟨i, hi⟩ := FI_mem (K := K) (c := c) e h
        rw [hi]; exact ⟨i + 1, rfl⟩
section LFU
variable {G : om_G} {A : Nat} {S : List Int} {b m : Nat} {N : List (List Int)} {pr tb z0 : Nat} {cs fo : List Nat} {mo : List (List Nat)} {K : KT} {F : FT} {Ms : List FT} {hr : om_H} {σr : tS} {M : Nat} {qs : List dcl} {ps : List PD} {rs : List (Nat × Nat × Nat × Nat)} {h : om_H} {ul fl : List Nat} {τ : tS} {n : Nat} {Sl : Nat → Prop}
/-- a family's name finds its class -/
theorem RA_fam (R : RA G A S b m N pr tb z0 cs fo mo K F Ms hr σr M qs ps rs h ul fl τ n) {c : Nat} {o : Option (List Int)} {L : List Int} (e : K[c]? = some (o, some L)) : FI Prod.snd L K = some c := by
  have I : famI (ps.foldl (pst S) ([], [], [], [], [], 0)) := famI_all ⟨fun c o L e => (by cases e), fun c c' o o' L e => (by cases e)⟩
  have eK : K = (ps.foldl (pst S) ([], [], [], [], [], 0)).1 := R.2.2.1.2.2.2.1
  have I2 : ∀ (c c' : Nat) (o o' : Option (List Int)) (L : List Int), K[c]? = some (o, some L) → K[c']? = some (o', some L) → c = c' := by rw [eK]; exact I.2
  obtain ⟨i, hi⟩ := FI_mem (g := Prod.snd) e rfl
  have il := FI_lt hi
  have e2 : K[i]? = some K[i] := List.getElem?_eq_getElem il
  have e3 := FI_at hi e2
  have e4 : K[i]? = some (K[i].1, some L) := by rw [e2, ← e3]
  rw [hi, I2 i c _ _ L e4 e]
end LFU
