set_option maxRecDepth 100000
/-! THE TWIN: types are worked out while they are told -/
def KW (σ : tS) (n : Nat) (ab : List (Option Nat)) (ins : List INs) (gv : List GVs) : Prop := TyS σ n ∧ PGT σ n ab ins ∧ GVT σ n gv
section LTO
variable {ab : List (Option Nat)} {ins : List INs} {gv : List GVs} {B n : Nat} {σ σ1 : tS} {Q : Ty → Prop}
theorem KW_W (F : fr WYS WYA σ σ1) (H : KW σ n ab ins gv) : KW σ1 n ab ins gv := by
  have X : tx σ n σ1 n := tx_same (fun g hg i => F.2 g ((by decide : ∀ g ∈ TYA, g ∉ WYA) g hg) i)
  exact ⟨TyS_same (F.1 532 (by decide)) (fun g hg i => F.2 g ((by decide : ∀ g ∈ TYA, g ∉ WYA) g hg) i) H.1, PGT_f2 (F.1 648 (by decide)) (fun g hg i => F.2 g ((by decide : ∀ g ∈ [670, 694, 698, 702, 706, 710, 714, 718, 722], g ∉ WYA) g hg) i) X H.2.1, GVT_f2 (F.1 792 (by decide)) (fun g hg i => F.2 g ((by decide : ∀ g ∈ [798, 802, 806], g ∉ WYA) g hg) i) X H.2.2⟩
/-- an asking where nothing counts -/
theorem t_told (H : KW σ n ab ins gv) (s : WS) : ∃ σa, T_told1 σ = some σa ∧ fr [808, 816, 823, 827] [] σ σa ∧ WkC σa n ab ins gv 1 0 s := by
  refine ⟨us (us (us (us (us σ 808 0) 816 0) 823 0) 827 0) 827 1, rfl, fr_us (fr_us (fr_us (fr_us (fr_us (fr_refl _ _ _) (by simp)) (by simp)) (by simp)) (by simp)) (by simp), ?_⟩
  have F : fr WYS WYA σ (us (us (us (us (us σ 808 0) 816 0) 823 0) 827 0) 827 1) := fr_us (fr_us (fr_us (fr_us (fr_us (fr_refl _ _ _) (by simp)) (by simp)) (by simp)) (by simp)) (by simp)
  obtain ⟨h1, h2, h3⟩ := KW_W F H
  exact ⟨h1, h2, h3, rfl, rfl, fun z => by omega, fun _ => by show (1 : Int) ≠ 0; decide⟩
theorem out_WkH (hB : B ≤ 2700) (hI : insF ins B) (hG : gvF' ins gv) : WkH ab ins gv 1 B 130 0 (60 + (20 - 0)) T_out := fun s T z σ n t e H ct hT ok hz h60 h300 R => by
  have := t_wk (ab := ab) (c := 1) (.inl rfl) hB hI hG 130 false 0 (by decide) s T z 23 σ n t e H ct hT ok hz h60 h300 R
  rw [if_neg (by decide)] at this
  exact this (by decide)
/-- what a type is worked out to -/
theorem t_outW (hB : B ≤ 2700) (hI : insF ins B) (hG : gvF' ins gv) (H : KW σ n ab ins gv) {f : Nat} {T u : Ty} {x : Int} (hf : f ≤ 130) (kn : knT ins gv Q f T u) (hQ : ∀ X, Q X → ∃ t, tyT σ n X t) (ct : tyT σ n T x) (hT : T ≠ .leaf) (ok : okF ins T) (hz : tsz T ≤ 1000000) (hn : n + B < 126000) : ∃ t' σ', T_outNow x σ = some (t', σ') ∧ SyW σ [] σ' ∧ tyT σ' n u t' ∧ (t' = x ↔ u = T) ∧ u ≠ .leaf := by
  obtain ⟨D, hw, hq⟩ := knT_130 hf kn
  obtain ⟨σa, a1, a2, a3⟩ := t_told H (0, 0, [])
  have Fa : fr WYS WYA σ σa := fr_sub a2 (by decide) (by decide)
  obtain ⟨t', σb, b1, b2, b3, b4, b5, b6, b7, b8⟩ := t_outN hB hI hG (s := (0, 0, [])) (hw (0, 0, [])) a3 (tyT_W Fa ct) hT ok hz (by show (0 : Nat) ≤ 60; omega) (by show (0 : Nat) ≤ 300; omega) hn (fun X hX => by
    obtain ⟨t, c⟩ := hQ X (hq X hX)
    exact ⟨t, tyT_W Fa c⟩)
  have Y : SyW σ [] σb := SyW_out (fr_trans (fr_sub a2 (by decide) (by decide)) (fr_sub b2 (fun f h => List.mem_cons_of_mem _ h) (fun _ h => h))) (fun f hf i => by rw [b4 f hf i, a2.2 f (by simp)]) (by rw [b3.1.1, H.1.1.1])
  have ctb : tyT σb n T x := tyT_W Y.2.2.2 ct
  refine ⟨t', σb, ?_, Y, b7, ⟨fun e => ?_, fun e => ?_⟩, b8⟩
  · unfold T_outNow
    rw [a1, Option.bind_some, b1, Option.bind_some]
  · rw [e] at b7
    exact tyT_fun b7 ctb
  · rw [e] at b7
    exact tyT_inj b3.1 b7 ctb
/-- a type with its parts worked out -/
theorem t_partsW (hB : B ≤ 2700) (hI : insF ins B) (hG : gvF' ins gv) (H : KW σ n ab ins gv) {g : Nat} {T u : Ty} {x : Int} (hg : g ≤ 128) (kn : knT ins gv Q (g + 2) T u) (th : thB T = true) (hQ : ∀ X, Q X → ∃ t, tyT σ n X t) (ct : tyT σ n T x) (hT : T ≠ .leaf) (ok : okF ins T) (hz : tsz T ≤ 1000000) (hn : n + B < 126000) : ∃ σa t' σ', T_told1 σ = some σa ∧ T_partsOut T_out x σa = some (t', σ') ∧ SyW σ [] σ' ∧ tyT σ' n (innT ins gv T) t' ∧ (t' = x ↔ innT ins gv T = T) ∧ (innT ins gv T ≠ .leaf ∧ okF ins (innT ins gv T)) := by
  obtain ⟨⟨⟨D, hw, hq⟩, _⟩, _⟩ := knT_step (by omega) kn th
  obtain ⟨σa, a1, a2, a3⟩ := t_told H (0, 0, [])
  have Fa : fr WYS WYA σ σa := fr_sub a2 (by decide) (by decide)
  have hD : ∀ X ∈ D, ∃ t, tyT σa n X t := fun X hX => by
    obtain ⟨t, c⟩ := hQ X (hq X hX)
    exact ⟨t, tyT_W Fa c⟩
  obtain ⟨t', σb, n', b1, o1, o2, o3, o4, o5, o6⟩ := t_parts (c := 1) (.inl rfl) (out_WkH hB hI hG) (hw 1 (Nat.le_refl _) (0, 0, [])) a3 (tyT_W Fa ct) hT ok hz (by show (0 : Nat) ≤ 60; omega) (by show (0 : Nat) ≤ 300; omega) ⟨fun z => by omega, fun _ => ⟨hn, _, D, rfl, hD⟩⟩
  obtain ⟨v1, v2, v3, v4, v5, v6, v7⟩ := o6 _ _ rfl
  obtain ⟨w1, w2⟩ := v7 rfl
  subst w1
  have Y : SyW σ [] σb := SyW_out (fr_trans (fr_sub a2 (by decide) (by decide)) (fr_sub o1 (fun f h => List.mem_cons_of_mem _ h) (fun _ h => h))) (fun f hf i => by rw [w2 f hf i, a2.2 f (by simp)]) (by rw [o2.1.1, H.1.1.1])
  have ctb := tyT_W Y.2.2.2 ct
  refine ⟨σa, t', σb, a1, b1, Y, v2, ⟨fun e => ?_, fun e => ?_⟩, fun z => hT (v3.mp z), v4⟩
  · rw [e] at v2
    exact tyT_fun v2 ctb
  · rw [e] at v2
    exact tyT_inj o2.1 v2 ctb
end LTO
