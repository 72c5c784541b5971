set_option maxRecDepth 100000
/-! THE TWIN's NAMES -/
/-- all else than these scalars and arrays is as it was -/
def fr (fs as : List Nat) (σ τ : tS) : Prop := (∀ f, f ∉ fs → gs τ f = gs σ f) ∧ ∀ f, f ∉ as → ∀ i, ga τ f i = ga σ f i
theorem fr_refl (fs as : List Nat) (σ : tS) : fr fs as σ σ := ⟨fun _ _ => rfl, fun _ _ _ => rfl⟩
theorem fr_trans {fs as : List Nat} {σ τ υ : tS} (A : fr fs as σ τ) (B : fr fs as τ υ) : fr fs as σ υ := ⟨fun f h => (B.1 f h).trans (A.1 f h), fun f h i => (B.2 f h i).trans (A.2 f h i)⟩
theorem fr_mono {fs as fs' as' : List Nat} {σ τ : tS} (A : fr fs as σ τ) (h1 : ∀ f ∈ fs, f ∈ fs') (h2 : ∀ f ∈ as, f ∈ as') : fr fs' as' σ τ := ⟨fun f h => A.1 f (fun q => h (h1 f q)), fun f h => A.2 f (fun q => h (h2 f q))⟩
theorem fr_us {fs as : List Nat} {σ τ : tS} (A : fr fs as σ τ) {f : Nat} {x : Int} (h : f ∈ fs) : fr fs as σ (us τ f x) := fr_trans A ⟨fun g hg => by rw [gs_us, if_neg]; intro e; rw [e] at hg; exact hg h, fun _ _ _ => rfl⟩
theorem fr_ua {fs as : List Nat} {σ τ : tS} (A : fr fs as σ τ) {f i : Nat} {x : Int} (h : f ∈ as) : fr fs as σ (ua τ f i x) := fr_trans A ⟨fun _ _ => rfl, fun g hg j => by rw [ga_ua, if_neg]; intro e; rw [e.1] at hg; exact hg h⟩
theorem b8_n : ∀ n : Nat, n < 256 → b8 ((n : Int) - 128) = (n : Int) - 128 := by decide +kernel
theorem b8_id {x : Int} (h0 : -128 ≤ x) (h1 : x ≤ 127) : b8 x = x := by
  have := b8_n (x + 128).toNat (by omega)
  rwa [show (((x + 128).toNat : Nat) : Int) - 128 = x by omega] at this
/-- a name's bytes -/
def nmT (σ : tS) (k : Nat) (w : List Int) : Prop := ga σ 494 k = (w.length : Int) ∧ w.length ≤ 10 ∧ ∀ (i : Nat) (x : Int), w[i]? = some x → ga σ 490 (10 * k + i) = x
/-- the names that there are -/
def NT (σ : tS) (N : List (List Int)) : Prop := gs σ 496 = (N.length : Int) ∧ N.length ≤ 2100 ∧ (∀ (k : Nat) (w : List Int), N[k]? = some w → nmT σ k w) ∧ N.Nodup
theorem txT_fr {fs as : List Nat} {σ τ : tS} {S : List Int} (A : fr fs as σ τ) (h1 : 420 ∉ fs) (h2 : 406 ∉ as) (T : txT σ S) : txT τ S := ⟨by rw [A.1 _ h1]; exact T.1, T.2.1, fun i x e => by rw [A.2 _ h2]; exact T.2.2.1 i x e, T.2.2.2⟩
theorem NT_fr {fs as : List Nat} {σ τ : tS} {N : List (List Int)} (A : fr fs as σ τ) (h1 : 496 ∉ fs) (h2 : 490 ∉ as) (h3 : 494 ∉ as) (T : NT σ N) : NT τ N := ⟨by rw [A.1 _ h1]; exact T.1, T.2.1, fun k w e => ⟨by rw [A.2 _ h3]; exact (T.2.2.1 k w e).1, (T.2.2.1 k w e).2.1, fun i x e2 => by rw [A.2 _ h2]; exact (T.2.2.1 k w e).2.2 i x e2⟩, T.2.2.2⟩
section LT2
variable {σ : tS} {S : List Int} {N : List (List Int)}
theorem t_cmp0 {l1 l2 l3 i : Int} : om_loop (T_name_30s l1 l2 l3 σ) (0, i) = some 0 := by
  refine om_loop_out ?_
  unfold T_name_30s
  simp only
  by_cases c : l2 ≤ i
  · rw [if_pos c]
  · rw [if_neg c]; simp
theorem t_cmp (T : txT σ S) {q n k : Nat} {u : List Int} (hu : nmT σ k u) (hk : k < 2100) (hl : u.length = n) (hqn : q + n ≤ S.length) : ∀ (u' : List Int) (i : Nat), u.drop i = u' → i ≤ n → om_loop (T_name_30s (q : Int) (n : Int) (k : Int) σ) (1, (i : Int)) = some (if (S.drop (q + i)).take (n - i) = u' then 1 else 0)
  | [], i, e, hi => by
    have e1 := drop_nil e
    refine om_loop_out ?_
    unfold T_name_30s
    simp only
    rw [if_pos (by omega)]
    simp
    omega
  | a :: r, i, e, hi => by
    obtain ⟨e1, e2, e3⟩ := drop_cons e
    have hS := T.2.1
    have h10 := hu.2.1
    have hlt : q + i < S.length := by omega
    have e0 : S.drop (q + i) = S[q + i] :: S.drop (q + (i + 1)) := by rw [List.drop_eq_getElem_cons hlt]; simp [Nat.add_assoc]
    have ea : ga σ 490 (w32 ((w32 (10 * (k : Int))) + (i : Int))).toNat = a := by
      rw [w32_s (x := 10 * (k : Int)) (by omega) (by omega), w32_s (by omega) (by omega), show (10 * (k : Int) + (i : Int)).toNat = 10 * k + i by omega]
      exact hu.2.2 i a e1
    have ec : ga σ 406 (w32 ((q : Int) + (i : Int))).toNat = S[q + i] := by
      rw [w32_s (by omega) (by omega), show ((q : Int) + (i : Int)).toNat = q + i by omega]
      exact T.2.2.1 _ _ (List.getElem?_eq_getElem hlt)
    have hst : T_name_30s (q : Int) (n : Int) (k : Int) σ (1, (i : Int)) = some (.inl (if a = S[q + i] then 1 else 0, ((i + 1 : Nat) : Int))) := by
      unfold T_name_30s
      simp only
      rw [if_neg (by omega), if_neg (by decide), if_pos ⟨by rw [w32_s (x := 10 * (k : Int)) (by omega) (by omega), w32_s (by omega) (by omega)]; omega, by rw [w32_s (x := 10 * (k : Int)) (by omega) (by omega), w32_s (by omega) (by omega)]; omega, by rw [w32_s (by omega) (by omega)]; omega, by rw [w32_s (by omega) (by omega)]; omega⟩, ea, ec, w32_s (by omega) (by omega)]
      by_cases c : a = S[q + i]
      · rw [if_neg (fun z => z c), if_pos c]; rfl
      · rw [if_pos c, if_neg c]; rfl
    rw [om_loop_in hst, e0, show n - i = (n - (i + 1)) + 1 by omega, List.take_succ_cons]
    by_cases c : a = S[q + i]
    · rw [if_pos c, t_cmp T hu hk hl hqn r (i + 1) e2 (by omega), c]
      simp
    · rw [if_neg c, t_cmp0, if_neg]
      intro z
      injection z with z1 z2
      exact c z1.symm
theorem t_find (T : txT σ S) (hN : NT σ N) {q n : Nat} {w : List Int} (hqn : q + n ≤ S.length) (hw : (S.drop q).take n = w) : ∀ (N' : List (List Int)) (k : Nat), N.drop k = N' → k ≤ N.length → om_loop (T_name_2s (q : Int) (n : Int) σ) (k : Int) = some (if w ∈ N' then .inl ((k + N'.idxOf w : Nat) : Int) else .inr ())
  | [], k, e, hk => by
    have e1 := drop_nil e
    refine om_loop_out ?_
    unfold T_name_2s
    rw [hN.1, if_pos (by omega)]
    rfl
  | u :: r, k, e, hk => by
    obtain ⟨e1, e2, e3⟩ := drop_cons e
    have h21 := hN.2.1
    have hu := hN.2.2.1 k u e1
    have hlen : w.length = n := by rw [← hw]; simp; omega
    have hst : T_name_2s (q : Int) (n : Int) σ (k : Int) = if u = w then some (.inr (.inl (k : Int))) else some (.inl ((k + 1 : Nat) : Int)) := by
      unfold T_name_2s
      rw [hN.1, if_neg (by omega), if_pos ⟨by omega, by omega⟩, show ((k : Int)).toNat = k by omega, hu.1]
      unfold T_name_25 T_name_78
      by_cases c : u.length = n
      · have hc := t_cmp T hu (by omega) c hqn u 0 (by simp) (by omega)
        simp only [Nat.add_zero, Nat.sub_zero, hw] at hc
        rw [if_neg (by omega), show ((0 : Int)) = ((0 : Nat) : Int) from rfl, hc]
        simp only [Option.bind_some]
        rw [w32_s (by omega) (by omega)]
        by_cases c2 : u = w
        · simp [c2]
        · simp [c2, show ¬ w = u from fun z => c2 z.symm]
      · rw [if_pos (by omega), t_cmp0]
        simp only [Option.bind_some]
        rw [w32_s (by omega) (by omega), if_neg (c := u = w)]
        · simp
        · intro z
          rw [z] at c
          exact c hlen
    by_cases c : u = w
    · rw [if_pos c] at hst
      rw [om_loop_out hst, c]
      simp
    · rw [if_neg c] at hst
      rw [om_loop_in hst, t_find T hN hqn hw r (k + 1) e2 (by omega)]
      have h1 : (w ∈ u :: r) ↔ w ∈ r := by
        rw [List.mem_cons]
        exact ⟨fun z => z.elim (fun y => absurd y.symm c) id, Or.inr⟩
      by_cases c2 : w ∈ r
      · rw [if_pos c2, if_pos (h1.mpr c2), List.idxOf_cons, show (u == w) = false by simpa using c]
        simp only [cond_false]
        congr 3
        omega
      · rw [if_neg c2, if_neg (fun z => c2 (h1.mp z))]
theorem t_write {q n m : Nat} (hm : m < 2100) (hn : n ≤ 10) : ∀ (j i : Nat) (σ : tS), i + j = n → txT σ S → gs σ 496 = (m : Int) → q + n ≤ S.length → ∃ τ, om_loop (T_name_93s (q : Int) (n : Int)) ((i : Int), σ) = some τ ∧ (∀ f, gs τ f = gs σ f) ∧ (∀ f, f ≠ 490 → ∀ p, ga τ f p = ga σ f p) ∧ (∀ p, p < 10 * m + i → ga τ 490 p = ga σ 490 p) ∧ ∀ (k : Nat) (x : Int), i ≤ k → k < n → S[q + k]? = some x → ga τ 490 (10 * m + k) = x
  | 0, i, σ, e, T, h, hqn => by
    refine ⟨σ, om_loop_out ?_, fun _ => rfl, fun _ _ _ => rfl, fun _ _ => rfl, fun k x h1 h2 => by omega⟩
    unfold T_name_93s
    simp only
    rw [if_pos (by omega)]
  | j + 1, i, σ, e, T, h, hqn => by
    have hS := T.2.1
    have hlt : q + i < S.length := by omega
    have es := List.getElem?_eq_getElem hlt
    have hx := T.2.2.2 _ (List.getElem_mem hlt)
    have ec : ga σ 406 (w32 ((q : Int) + (i : Int))).toNat = S[q + i] := by
      rw [w32_s (by omega) (by omega), show ((q : Int) + (i : Int)).toNat = q + i by omega]
      exact T.2.2.1 _ _ es
    have ei : (w32 ((w32 (10 * (m : Int))) + (i : Int))) = ((10 * m + i : Nat) : Int) := by rw [w32_s (x := 10 * (m : Int)) (by omega) (by omega), w32_s (by omega) (by omega)]; omega
    have hst : T_name_93s (q : Int) (n : Int) ((i : Int), σ) = some (.inl (((i + 1 : Nat) : Int), ua σ 490 (10 * m + i) S[q + i])) := by
      unfold T_name_93s
      simp only
      rw [h, ei, if_neg (by omega), if_pos ⟨by rw [w32_s (by omega) (by omega)]; omega, by rw [w32_s (by omega) (by omega)]; omega, by omega, by omega⟩, ec, b8_id hx.1 hx.2, w32_s (by omega) (by omega)]
      rfl
    have T' : txT (ua σ 490 (10 * m + i) S[q + i]) S := ⟨T.1, T.2.1, fun p x e => by rw [ga_ua, if_neg (by simp)]; exact T.2.2.1 p x e, T.2.2.2⟩
    obtain ⟨τ, w1, w2, w3, w4, w5⟩ := t_write hm hn j (i + 1) (ua σ 490 (10 * m + i) S[q + i]) (by omega) T' h hqn
    refine ⟨τ, by rw [om_loop_in hst]; exact w1, w2, fun f hf p => ?_, fun p hp => ?_, fun k x h1 h2 h3 => ?_⟩
    · rw [w3 f hf, ga_ua, if_neg (fun z => hf z.1)]
    · rw [w4 p (by omega), ga_ua, if_neg (by omega)]
    · by_cases c : k = i
      · rw [w4 _ (by omega), ga_ua, if_pos ⟨rfl, by omega⟩]
        rw [c, es] at h3
        exact Option.some.inj h3
      · exact w5 k x (by omega) h2 h3
/-- a name's number: the one it has, or the next -/
theorem t_name (T : txT σ S) (hN : NT σ N) {q n : Nat} {w : List Int} (hqn : q + n ≤ S.length) (hw : (S.drop q).take n = w) (hn : n ≤ 10) (hm : N.length < 2100) : ∃ τ, T_name (q : Int) (n : Int) σ = some ((N.idxOf w : Int), τ) ∧ NT τ (if w ∈ N then N else N ++ [w]) ∧ fr [496] [490, 494] σ τ := by
  have hlen : w.length = n := by rw [← hw]; simp; omega
  have hf := t_find T hN hqn hw N 0 (by simp) (by omega)
  unfold T_name
  rw [show (0 : Int) = ((0 : Nat) : Int) from rfl, hf]
  by_cases c : w ∈ N
  · rw [if_pos c, if_pos c]
    simp only [Option.bind_some, Sum.elim_inl]
    exact ⟨σ, by simp, hN, fr_refl _ _ _⟩
  · rw [if_neg c, if_neg c]
    simp only [Option.bind_some, Sum.elim_inr]
    obtain ⟨τ, w1, w2, w3, w4, w5⟩ := t_write (S := S) hm hn n 0 σ (by omega) T hN.1 hqn
    rw [w1]
    simp only [Option.bind_some]
    rw [w2 496, hN.1, if_pos ⟨by omega, by omega⟩, w32_s (x := (N.length : Int) + 1) (by omega) (by omega), w32_s (by omega) (by omega), show ((N.length : Int)).toNat = N.length by omega]
    refine ⟨us (ua τ 494 N.length (n : Int)) 496 ((N.length : Int) + 1), ?_, ⟨?_, ?_, ?_, ?_⟩, ?_, ?_⟩
    · rw [List.idxOf_eq_length c, show (N.length : Int) + 1 - 1 = (N.length : Int) by omega]
    · rw [gs_us, if_pos rfl]; simp
    · simp; omega
    · intro k u e
      by_cases ck : k < N.length
      · rw [List.getElem?_append_left ck] at e
        have hu := hN.2.2.1 k u e
        have h10 := hu.2.1
        refine ⟨?_, h10, fun i x ei => ?_⟩
        · rw [ga_us, ga_ua, if_neg (by omega), w3 494 (by decide)]; exact hu.1
        · have hi := (List.getElem?_eq_some_iff.mp ei).1
          rw [ga_us, ga_ua, if_neg (by simp), w4 _ (by omega)]
          exact hu.2.2 i x ei
      · have hk := (List.getElem?_eq_some_iff.mp e).1
        simp at hk
        have : k = N.length := by omega
        subst this
        simp at e
        subst e
        refine ⟨?_, by omega, fun i x ei => ?_⟩
        · rw [ga_us, ga_ua, if_pos ⟨rfl, rfl⟩, hlen]
        · have hi := (List.getElem?_eq_some_iff.mp ei).1
          rw [ga_us, ga_ua, if_neg (by simp)]
          refine w5 i x (by omega) (by omega) ?_
          rw [← hw, List.getElem?_take, if_pos (by omega), List.getElem?_drop] at ei
          exact ei
    · exact List.nodup_append.mpr ⟨hN.2.2.2, by simp, fun a ha b hb => by simp at hb; rw [hb]; intro z; rw [z] at ha; exact c ha⟩
    · intro f hf
      simp only [List.mem_singleton] at hf
      rw [gs_us, if_neg hf, gs_ua, w2]
    · intro f hf i
      simp only [List.mem_cons, List.not_mem_nil, or_false, not_or] at hf
      rw [ga_us, ga_ua, if_neg (fun z => hf.2 z.1), w3 f hf.1]
end LT2
