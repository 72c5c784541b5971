set_option maxRecDepth 100000
/-! THE TWIN'S MACHINE: a dictionary is begun -/
/-- what putting together writes -/
abbrev DFS : List Nat := [784, 792, 808, 812, 816, 823, 827, 836, 964, 1000, 1008, 1084]
abbrev DFA : List Nat := [778, 798, 802, 806, 830, 834, 958, 962, 1054, 1058, 1062, 1066, 1070, 1074, 1078, 1082]
/-- the classes, insts and types of the program, in the twin -/
def DcS (σ0 : tS) (n : Nat) (M : MPg) : Prop := TyS σ0 n ∧ PGT σ0 n M.2.2.1 M.2.2.2 ∧ n + 2700 < 126000
/-- one that is begun -/
def begS (σ : tS) (p : Nat) (c f i t o r g : Int) : tS := us (ua (ua (ua (ua (ua (ua (ua (ua (ua (ua (ua σ 1054 p c) 1058 p f) 1062 p i) 1066 p t) 1070 p o) 1074 p r) 1078 p 0) 1082 (4 * p) g) 1082 (4 * p + 1) (-1)) 1082 (4 * p + 2) (-1)) 1082 (4 * p + 3) (-1)) 1084 ((p + 1 : Nat) : Int)
section LTB
variable {M : MPg} {σ0 σ τ : tS} {n : Nat} {gv : List GVs}
theorem tx_M (F : fr WMS WMA σ0 σ) : tx σ0 n σ n := ⟨Nat.le_refl _, fun f hf _ x _ => F.2 f (fun z => by
  simp only [List.mem_cons, List.not_mem_nil, or_false] at hf z
  omega) x⟩
theorem tyS_M (F : fr WMS WMA σ0 σ) (H : TyS σ0 n) : TyS σ n := by
  have ga' : ∀ f ∈ TYA, ∀ i, ga σ f i = ga σ0 f i := fun f hf i => F.2 f (fun z => by
    simp only [List.mem_cons, List.not_mem_nil, or_false] at hf z
    omega) i
  exact TyS_same (F.1 532 (by decide)) ga' H
theorem pgt_M (F : fr WMS WMA σ0 σ) {ab : List (Option Nat)} {ins : List INs} (H : PGT σ0 n ab ins) : PGT σ n ab ins := PGT_f2 (F.1 648 (by decide)) (fun f hf i => F.2 f (fun z => by
  simp only [List.mem_cons, List.not_mem_nil, or_false] at hf z
  omega) i) (tx_M F) H
theorem fr_D {fs as : List Nat} (F : fr fs as σ τ) (h1 : ∀ f ∈ fs, f ∈ DFS) (h2 : ∀ f ∈ as, f ∈ DFA) : fr DFS DFA σ τ := fr_sub F h1 h2
theorem fr_DM (F : fr DFS DFA σ τ) : fr WMS WMA σ τ := fr_sub F (by decide) (by decide)
theorem begS_fr {p : Nat} {c f i t o r g : Int} : fr [1084] [1054, 1058, 1062, 1066, 1070, 1074, 1078, 1082] σ (begS σ p c f i t o r g) := by
  unfold begS
  exact fr_us (fr_ua (fr_ua (fr_ua (fr_ua (fr_ua (fr_ua (fr_ua (fr_ua (fr_ua (fr_ua (fr_ua (fr_refl _ _ _) (by decide)) (by decide)) (by decide)) (by decide)) (by decide)) (by decide)) (by decide)) (by decide)) (by decide)) (by decide)) (by decide)) (by decide)
theorem begS_ga {p : Nat} {c f i t o r g : Int} (a q : Nat) : ga (begS σ p c f i t o r g) a q = if a = 1082 ∧ q = 4 * p + 3 then -1 else if a = 1082 ∧ q = 4 * p + 2 then -1 else if a = 1082 ∧ q = 4 * p + 1 then -1 else if a = 1082 ∧ q = 4 * p then g else if a = 1078 ∧ q = p then 0 else if a = 1074 ∧ q = p then r else if a = 1070 ∧ q = p then o else if a = 1066 ∧ q = p then t else if a = 1062 ∧ q = p then i else if a = 1058 ∧ q = p then f else if a = 1054 ∧ q = p then c else ga σ a q := rfl
theorem begS_at {p : Nat} {c f i t o r g : Int} : gs (begS σ p c f i t o r g) 1084 = ((p + 1 : Nat) : Int) ∧ ga (begS σ p c f i t o r g) 1054 p = c ∧ ga (begS σ p c f i t o r g) 1058 p = f ∧ ga (begS σ p c f i t o r g) 1062 p = i ∧ ga (begS σ p c f i t o r g) 1066 p = t ∧ ga (begS σ p c f i t o r g) 1070 p = o ∧ ga (begS σ p c f i t o r g) 1074 p = r ∧ ga (begS σ p c f i t o r g) 1078 p = 0 ∧ ga (begS σ p c f i t o r g) 1082 (4 * p) = g ∧ (∀ k, 1 ≤ k → k < 4 → ga (begS σ p c f i t o r g) 1082 (4 * p + k) = -1) ∧ (∀ a ∈ [1054, 1058, 1062, 1066, 1070, 1074, 1078], ∀ q, q < p → ga (begS σ p c f i t o r g) a q = ga σ a q) ∧ ∀ q, q < 4 * p → ga (begS σ p c f i t o r g) 1082 q = ga σ 1082 q := by
  refine ⟨rfl, ?_, ?_, ?_, ?_, ?_, ?_, ?_, ?_, fun k k1 k2 => ?_, fun a ha q hq => ?_, fun q hq => ?_⟩
  · rw [begS_ga, if_neg (by omega), if_neg (by omega), if_neg (by omega), if_neg (by omega), if_neg (by omega), if_neg (by omega), if_neg (by omega), if_neg (by omega), if_neg (by omega), if_neg (by omega), if_pos ⟨rfl, rfl⟩]
  · rw [begS_ga, if_neg (by omega), if_neg (by omega), if_neg (by omega), if_neg (by omega), if_neg (by omega), if_neg (by omega), if_neg (by omega), if_neg (by omega), if_neg (by omega), if_pos ⟨rfl, rfl⟩]
  · rw [begS_ga, if_neg (by omega), if_neg (by omega), if_neg (by omega), if_neg (by omega), if_neg (by omega), if_neg (by omega), if_neg (by omega), if_neg (by omega), if_pos ⟨rfl, rfl⟩]
  · rw [begS_ga, if_neg (by omega), if_neg (by omega), if_neg (by omega), if_neg (by omega), if_neg (by omega), if_neg (by omega), if_neg (by omega), if_pos ⟨rfl, rfl⟩]
  · rw [begS_ga, if_neg (by omega), if_neg (by omega), if_neg (by omega), if_neg (by omega), if_neg (by omega), if_neg (by omega), if_pos ⟨rfl, rfl⟩]
  · rw [begS_ga, if_neg (by omega), if_neg (by omega), if_neg (by omega), if_neg (by omega), if_neg (by omega), if_pos ⟨rfl, rfl⟩]
  · rw [begS_ga, if_neg (by omega), if_neg (by omega), if_neg (by omega), if_neg (by omega), if_pos ⟨rfl, rfl⟩]
  · rw [begS_ga, if_neg (by omega), if_neg (by omega), if_neg (by omega), if_pos ⟨rfl, rfl⟩]
  · have : k = 1 ∨ k = 2 ∨ k = 3 := by omega
    rcases this with e | e | e
    · rw [e, begS_ga, if_neg (by omega), if_neg (by omega), if_pos ⟨rfl, rfl⟩]
    · rw [e, begS_ga, if_neg (by omega), if_pos ⟨rfl, rfl⟩]
    · rw [e, begS_ga, if_pos ⟨rfl, rfl⟩]
  · simp only [List.mem_cons, List.not_mem_nil, or_false] at ha
    rw [begS_ga, if_neg (by omega), if_neg (by omega), if_neg (by omega), if_neg (by omega), if_neg (by omega), if_neg (by omega), if_neg (by omega), if_neg (by omega), if_neg (by omega), if_neg (by omega), if_neg (by omega)]
  · rw [begS_ga, if_neg (by omega), if_neg (by omega), if_neg (by omega), if_neg (by omega), if_neg (by omega), if_neg (by omega), if_neg (by omega), if_neg (by omega), if_neg (by omega), if_neg (by omega), if_neg (by omega)]
/-- A DICTIONARY OF A NAME is begun -/
theorem t_begN (D : DcS σ0 n M) (F : fr WMS WMA σ0 σ) (V : GVT σ n gv) (hg : ∀ g ∈ gv, g.1 < 100 → g.1 < M.2.2.1.length) {p c w j : Nat} {t o row : Int} {x : Unit} {l r : Ty} {g : GVs} {js : Nat → Int} (hp : gs σ 1084 = (p : Int)) (p16 : p < 16000) (ct : tyT σ n (.inner 0 w x l r) t) (ej : gCl M.2.2.1 gv c w = some j) (eg : gv[j]? = some g) (hj : ∀ k, -1 ≤ js k ∧ js k < gs σ 964) (h64 : gs σ 964 ≤ 4000) (er : row = rowN (js 0) (js 1) (js 2) (js 3)) : T_begins (c : Int) t o row σ = some (begS σ p (c : Int) (g.1 : Int) (-1) t o row (js j)) := by
  have S := tyS_M F D.1
  have P := pgt_M F D.2.1
  obtain ⟨m, t1, t2, t3, t4, _⟩ := ct
  have hn := D.2.2
  have j4 : j < 4 := by
    have := (List.getElem?_eq_some_iff.mp eg).1
    have := V.2.1
    omega
  have em : ((m : Int)).toNat = m := by omega
  unfold T_begins
  rw [t1, if_pos (by omega), em, t3, if_neg (fun z => z rfl), hp]
  unfold T_begins_20
  rw [if_neg (by decide), if_pos (by omega), em, t4, t_givenOf P V hg c w, Option.bind_some, ej]
  show T_begins_42 _ _ _ _ _ _ ((j : Nat) : Int) σ = _
  unfold T_begins_42
  rw [if_pos (by omega), if_neg (by decide)]
  unfold T_begins_63
  rw [if_pos (by omega), show ((j : Int)).toNat = j by omega]
  have e98 : ga (ua σ 1054 ((p : Int)).toNat (c : Int)) 798 j = (g.1 : Int) := (V.2.2 j g eg).1
  rw [e98]
  unfold T_begins_74
  rw [if_pos (by omega), if_neg (by decide)]
  unfold T_begins_101
  rw [if_pos ⟨by omega, by omega, by omega, by omega⟩, if_neg (by decide)]
  unfold T_begins_148
  rw [er, t_inRow (n := gs σ 964) (by omega) hj j4, Option.bind_some]
  unfold T_begins_159
  rw [w32_s (x := 4 * (p : Int)) (by omega) (by omega), w32_s (x := 4 * (p : Int) + 1) (by omega) (by omega), w32_s (x := 4 * (p : Int) + 2) (by omega) (by omega), w32_s (x := 4 * (p : Int) + 3) (by omega) (by omega), if_pos ⟨by omega, by omega, by omega, by omega, by omega, by omega, by omega, by omega⟩]
  have e1 : (4 * (p : Int)).toNat = 4 * p := by omega
  have e2 : (4 * (p : Int) + 1).toNat = 4 * p + 1 := by omega
  have e3 : (4 * (p : Int) + 2).toNat = 4 * p + 2 := by omega
  have e4 : (4 * (p : Int) + 3).toNat = 4 * p + 3 := by omega
  have e5 : ((p : Int)).toNat = p := by omega
  rw [e1, e2, e3, e4, e5]
  simp only [gs_ua]
  rw [hp, w32_s (by omega) (by omega)]
  rfl
/-- A DICTIONARY OF A CONSTRUCTOR is begun -/
theorem t_begI (D : DcS σ0 n M) (F : fr WMS WMA σ0 σ) {p c w i : Nat} {t o row : Int} {x : Unit} {l r : Ty} (hp : gs σ 1084 = (p : Int)) (p16 : p < 16000) (ct : tyT σ n (.inner 1 w x l r) t) (ei : iOf M.2.2.2 c w = some i) : T_begins (c : Int) t o row σ = some (begS σ p (c : Int) (-1) (i : Int) t o row (-1)) := by
  have S := tyS_M F D.1
  have P := pgt_M F D.2.1
  obtain ⟨m, t1, t2, t3, t4, _⟩ := ct
  have hn := D.2.2
  have em : ((m : Int)).toNat = m := by omega
  unfold T_begins
  rw [t1, if_pos (by omega), em, t3, if_pos (by decide), hp]
  unfold T_begins_20
  rw [if_pos rfl]
  unfold T_begins_42
  rw [if_pos (by omega), if_pos rfl]
  unfold T_begins_74
  rw [if_pos (by omega), if_pos rfl]
  unfold T_begins_90
  have e6 : ga (ua (ua σ 1054 ((p : Int)).toNat (c : Int)) 1058 ((p : Int)).toNat (-1)) 506 ((m : Int)).toNat = (w : Int) := by rw [em]; exact t4
  have F2 : fr WMS WMA σ (ua (ua σ 1054 ((p : Int)).toNat (c : Int)) 1058 ((p : Int)).toNat (-1)) := fr_ua (fr_ua (fr_refl _ _ _) (by decide)) (by decide)
  rw [if_pos (by omega), e6, t_instanceOf (pgt_M F2 P) c w, Option.bind_some, ei]
  show T_begins_101 _ _ _ _ _ _ _ ((i : Nat) : Int) _ = _
  unfold T_begins_101
  rw [if_pos ⟨by omega, by omega, by omega, by omega⟩, if_pos rfl]
  unfold T_begins_159
  rw [w32_s (x := 4 * (p : Int)) (by omega) (by omega), w32_s (x := 4 * (p : Int) + 1) (by omega) (by omega), w32_s (x := 4 * (p : Int) + 2) (by omega) (by omega), w32_s (x := 4 * (p : Int) + 3) (by omega) (by omega), if_pos ⟨by omega, by omega, by omega, by omega, by omega, by omega, by omega, by omega⟩]
  have e1 : (4 * (p : Int)).toNat = 4 * p := by omega
  have e2 : (4 * (p : Int) + 1).toNat = 4 * p + 1 := by omega
  have e3 : (4 * (p : Int) + 2).toNat = 4 * p + 2 := by omega
  have e4 : (4 * (p : Int) + 3).toNat = 4 * p + 3 := by omega
  have e5 : ((p : Int)).toNat = p := by omega
  rw [e1, e2, e3, e4, e5]
  simp only [gs_ua]
  rw [hp, w32_s (by omega) (by omega)]
  rfl
/-- what is given in an owner is told -/
theorem t_byO (D : DcS σ0 n M) (F : fr WMS WMA σ0 σ) (hF : ∀ (f : Nat) (x : List Nat × List GVs × Ty), M.1[f]? = some x → ∃ w, FnT σ0 n f w x) (hI : ∀ (i : Nat) (d : INs), M.2.2.2[i]? = some d → InTw σ0 n M.2.2.1.length i d) {o : Nat} (ho : o < M.1.length ∨ (100 ≤ o ∧ o < 100 + M.2.2.2.length) ∨ o = 1000) (h24 : M.1.length ≤ 24) : ∃ σ1, T_byOwner (owT o) σ = some σ1 ∧ fr [784, 792] [778, 798, 802, 806] σ σ1 ∧ GVT σ1 n (gvW M o) := by
  have S := tyS_M F D.1
  have P := pgt_M F D.2.1
  have i20 : M.2.2.2.length ≤ 20 := P.2.2.1
  have c8 : M.2.2.1.length ≤ 8 := P.1.1
  have X := tx_M (n := n) F
  rcases ho with h | h | h
  · have eo : owT o = (o : Int) := by unfold owT; rw [if_pos (by omega)]
    rw [eo]
    unfold T_byOwner
    rw [if_pos (by omega), if_neg (by omega)]
    obtain ⟨x, ex⟩ : ∃ x, M.1[o]? = some x := ⟨_, List.getElem?_eq_getElem h⟩
    obtain ⟨w, fw⟩ := hF o x ex
    have fw' : FnT σ n o w x := FnT_keepA (fun f hf i => F.2 f (fun z => by
      simp only [List.mem_cons, List.not_mem_nil, or_false] at hf z
      omega) i) X fw
    obtain ⟨σ1, q1, q2, q3⟩ := t_byF (by omega) fw'
    refine ⟨σ1, by rw [q1]; rfl, fr_sub q2 (by decide) (by decide), ?_⟩
    unfold gvW
    rw [if_pos (by omega), ex]
    exact q3
  · have eo : owT o = (o : Int) := by unfold owT; rw [if_pos (by omega)]
    rw [eo]
    unfold T_byOwner
    rw [if_pos (by omega), if_pos (by omega), w32_s (by omega) (by omega), show (o : Int) - 100 = ((o - 100 : Nat) : Int) by omega]
    obtain ⟨d, ed⟩ : ∃ d, M.2.2.2[o - 100]? = some d := ⟨_, List.getElem?_eq_getElem (by omega)⟩
    have iw' : InTw σ n M.2.2.1.length (o - 100) d := InTw_keep (fun f hf i => F.2 f (fun z => by
      simp only [List.mem_cons, List.not_mem_nil, or_false] at hf z
      omega) i) X (hI _ d ed)
    obtain ⟨σ1, q1, q2, q3⟩ := t_byI (by omega) c8 iw'
    refine ⟨σ1, by rw [q1]; rfl, q2, ?_⟩
    unfold gvW
    rw [if_neg (by omega), if_pos (by omega), ed]
    exact q3
  · have eo : owT o = -1 := by unfold owT; rw [if_neg (by omega)]
    rw [eo]
    unfold T_byOwner
    rw [if_neg (fun z => z rfl)]
    have F1 : fr [784, 792] [778, 798, 802, 806] σ (us σ 792 0) := fr_us (fr_refl _ _ _) (by decide)
    refine ⟨us σ 792 0, rfl, F1, ?_⟩
    unfold gvW
    rw [if_neg (by omega), if_neg (by omega)]
    exact ⟨rfl, by decide, fun i g e => by cases e⟩
/-- what a type is worked out to, while the machine runs -/
theorem t_outM (D : DcS σ0 n M) (F : fr WMS WMA σ0 σ) (V : GVT σ n gv) (hI : insF M.2.2.2 2700) (hG : gvF' M.2.2.2 gv) {T u : Ty} {x : Int} (kn : knT M.2.2.2 gv (QN σ0 n) 130 T u) (ct : tyT σ n T x) (hT : T ≠ .leaf) (ok : okF M.2.2.2 T) (hz : tsz T ≤ 1000000) : ∃ t' σ', T_outNow x σ = some (t', σ') ∧ fr [808, 812, 816, 823, 827, 836] [830, 834] σ σ' ∧ tyT σ' n u t' ∧ u ≠ .leaf := by
  have S := tyS_M F D.1
  have P := pgt_M F D.2.1
  obtain ⟨Dl, hw, hq⟩ := knT_130 (Nat.le_refl _) kn
  obtain ⟨σa, a1, a2, a3⟩ := t_told (ab := M.2.2.1) ⟨S, P, V⟩ (0, 0, [])
  have Fa : fr WMS WMA σ σa := fr_sub a2 (by decide) (by decide)
  have Xa := tx_M (n := n) Fa
  obtain ⟨t', σb, b1, b2, b3, b4, b5, b6, b7, b8⟩ := t_outN (Nat.le_refl 2700) hI hG (s := (0, 0, [])) (hw (0, 0, [])) a3 (tyT_mono Xa ct) hT ok hz (by show (0 : Nat) ≤ 60; omega) (by show (0 : Nat) ≤ 300; omega) D.2.2 (fun X hX => by
    obtain ⟨t, c⟩ := hq X hX
    exact ⟨t, tyT_mono (tx_M (fr_trans F Fa)) c⟩)
  refine ⟨t', σb, ?_, ⟨fun f hf => ?_, fun f hf i => ?_⟩, b7, b8⟩
  · unfold T_outNow
    rw [a1, Option.bind_some, b1, Option.bind_some]
  · by_cases q : f = 532
    · rw [q, b3.1.1, S.1.1]
    · rw [b2.1 f (fun z => hf (by simp only [List.mem_cons, List.not_mem_nil, or_false] at z ⊢; omega)), a2.1 f (fun z => hf (by simp only [List.mem_cons, List.not_mem_nil, or_false] at z ⊢; omega))]
  · by_cases q : f ∈ TYA
    · rw [b4 f q i, a2.2 f (by simp) i]
    · rw [b2.2 f (fun z => by
        rcases List.mem_append.mp z with y | y
        · exact q y
        · exact hf y) i, a2.2 f (by simp) i]
end LTB
