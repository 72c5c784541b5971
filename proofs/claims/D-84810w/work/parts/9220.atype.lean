set_option maxRecDepth 100000
/-! THE TWIN'S TYPES: a table, alike ones have one number -/
theorem bmod32 {x : Int} (h1 : -2147483648 ≤ x) (h2 : x ≤ 2147483647) : x.bmod (2 ^ 32) = x := by
  have e : w32 x = x.bmod (2 ^ 32) := Int32.toInt_ofInt
  rw [← e]; exact w32_s h1 h2
theorem and32_m (x : Int) : 0 ≤ and32 x 2147483647 ∧ and32 x 2147483647 ≤ 2147483647 := by
  unfold and32
  have hb : (Int32.ofInt x &&& Int32.ofInt 2147483647).toBitVec.msb = false := by
    rw [Int32.toBitVec_and, BitVec.msb_and]
    rw [show (Int32.ofInt 2147483647).toBitVec.msb = false by decide]
    simp
  show 0 ≤ (Int32.ofInt x &&& Int32.ofInt 2147483647).toBitVec.toInt ∧ (Int32.ofInt x &&& Int32.ofInt 2147483647).toBitVec.toInt ≤ 2147483647
  rw [BitVec.toInt_eq_toNat_of_msb hb]
  have := BitVec.msb_eq_false_iff_two_mul_lt.mp hb
  omega
theorem rem32_r {v : Int} (h1 : 0 ≤ v) (h2 : v ≤ 2147483647) : rem32 v 4096 = v % 4096 := by
  unfold rem32
  have e1 : (Int32.ofInt v).toInt = v := w32_s (by omega) (by omega)
  have e2 : (Int32.ofInt 4096).toInt = 4096 := by decide
  have e3 : (Int32.ofInt v / Int32.ofInt 4096).toInt = v / 4096 := by
    rw [Int32.toInt_div, e1, e2, Int.tdiv_eq_ediv_of_nonneg h1]
    exact bmod32 (by omega) (by omega)
  rw [Int32.toInt_sub, Int32.toInt_mul, e1, e2, e3, bmod32 (x := v / 4096 * 4096) (by omega) (by omega), bmod32 (by omega) (by omega)]
  omega
def tyH (k w o u : Int) : Int := rem32 (and32 (w32 ((w32 ((w32 ((w32 ((w32 (k * 31)) + w)) * 8191)) + (w32 (o * 127)))) + u)) 2147483647) 4096
theorem tyH_r (k w o u : Int) : 0 ≤ tyH k w o u ∧ tyH k w o u < 4096 := by
  unfold tyH
  have h := and32_m (w32 ((w32 ((w32 ((w32 ((w32 (k * 31)) + w)) * 8191)) + (w32 (o * 127)))) + u))
  rw [rem32_r h.1 h.2]
  omega
def chT (σ : tS) : Int → List Nat → Prop
  | f, [] => f = -1
  | f, t :: l => f = (t : Int) ∧ (t < 126000 ∧ ∀ x ∈ l, x < t) ∧ chT σ (ga σ 522 t) l
theorem chT_keep {σ τ : tS} : ∀ {f : Int} {l : List Nat}, chT σ f l → (∀ t ∈ l, ga τ 522 t = ga σ 522 t) → chT τ f l
  | _, [], c, _ => c
  | _, t :: l, ⟨c1, c2, c3⟩, k => ⟨c1, c2, by rw [k t List.mem_cons_self]; exact chT_keep c3 (fun u hu => k u (List.mem_cons_of_mem _ hu))⟩
/-- these are its kind, which, parts -/
def tyF (σ : tS) (t : Nat) (k w o u : Int) : Prop := ga σ 502 t = k ∧ ga σ 506 t = w ∧ ga σ 510 t = o ∧ ga σ 514 t = u
def tyP (σ : tS) (f t : Nat) : Prop := ga σ f t = -1 ∨ ∃ p : Nat, ga σ f t = (p : Int) ∧ p < t
/-- the table: so many types -/
def TyT (σ : tS) (n : Nat) : Prop := gs σ 532 = (n : Int) ∧ n ≤ 126000 ∧ (∀ t, t < n → (0 ≤ ga σ 502 t ∧ ga σ 502 t ≤ 3) ∧ tyP σ 510 t ∧ tyP σ 514 t ∧ (ga σ 530 t = 0 ∨ ga σ 530 t = 1)) ∧ (∀ t u, t < n → u < n → tyF σ t (ga σ 502 u) (ga σ 506 u) (ga σ 510 u) (ga σ 514 u) → t = u) ∧ ∀ hh : Nat, hh < 4096 → ∃ l : List Nat, chT σ (ga σ 526 hh) l ∧ ∀ t, t ∈ l ↔ t < n ∧ tyH (ga σ 502 t) (ga σ 506 t) (ga σ 510 t) (ga σ 514 t) = (hh : Int)
/-- looking along a chain -/
theorem ty_find {σ : tS} {k w o u hh : Int} : ∀ {f : Int} {l : List Nat}, chT σ f l → (∃ t ∈ l, tyF σ t k w o u ∧ om_loop (T_aType_37s k w o u hh σ) f = some (.inl (t : Int))) ∨ ((∀ t ∈ l, ¬ tyF σ t k w o u) ∧ om_loop (T_aType_37s k w o u hh σ) f = some (.inr ()))
  | f, [], c => by
    refine .inr ⟨fun t h => absurd h List.not_mem_nil, om_loop_out ?_⟩
    unfold T_aType_37s
    rw [if_pos (show f = -1 from c)]
  | f, t :: l, ⟨c1, ⟨c2, _⟩, c3⟩ => by
    have g : 0 ≤ (t : Int) ∧ (t : Int) < 126000 := by omega
    have tn : ((t : Int)).toNat = t := by omega
    by_cases q : tyF σ t k w o u
    · refine .inl ⟨t, List.mem_cons_self, q, om_loop_out ?_⟩
      unfold T_aType_37s
      rw [c1, if_neg (by omega), if_pos g, tn, if_neg (fun z => z q.1), if_pos g, if_neg (fun z => z q.2.1), if_pos g, if_neg (fun z => z q.2.2.1), if_pos g, if_neg (fun z => z q.2.2.2)]
    · have st : T_aType_37s k w o u hh σ f = some (.inl (ga σ 522 t)) := by
        have e91 : T_aType_91 k w o u hh (t : Int) σ = some (.inl (ga σ 522 t)) := by
          unfold T_aType_91
          rw [if_pos g, tn]
        unfold T_aType_37s
        rw [c1, if_neg (by omega), if_pos g, tn]
        by_cases q1 : ga σ 502 t = k
        · rw [if_neg (fun z => z q1), if_pos g]
          by_cases q2 : ga σ 506 t = w
          · rw [if_neg (fun z => z q2), if_pos g]
            by_cases q3 : ga σ 510 t = o
            · rw [if_neg (fun z => z q3), if_pos g]
              by_cases q4 : ga σ 514 t = u
              · exact absurd ⟨q1, q2, q3, q4⟩ q
              · rw [if_pos q4, e91]
            · rw [if_pos q3, e91]
          · rw [if_pos q2, e91]
        · rw [if_pos q1, e91]
      rcases ty_find (k := k) (w := w) (o := o) (u := u) (hh := hh) c3 with ⟨t', m, f', e⟩ | ⟨m, e⟩
      · exact .inl ⟨t', List.mem_cons_of_mem _ m, f', by rw [om_loop_in st]; exact e⟩
      · refine .inr ⟨fun t' ht' => ?_, by rw [om_loop_in st]; exact e⟩
        rcases List.mem_cons.mp ht' with rfl | ht'
        · exact q
        · exact m t' ht'
/-- what a table of types may write -/
abbrev TYA : List Nat := [502, 506, 510, 514, 518, 522, 526, 530]
/-- the size that a new one gets -/
def tySz (σ : tS) (o u : Int) : Int := w32 (w32 (1 + (if o = -1 then 0 else ga σ 518 o.toNat)) + (if u = -1 then 0 else ga σ 518 u.toNat))
def tyHs (σ : tS) (k o u : Int) : Int := if k = 2 ∨ (o ≠ -1 ∧ ga σ 530 o.toNat ≠ 0) ∨ (u ≠ -1 ∧ ga σ 530 u.toNat ≠ 0) then 1 else 0
section LTY
variable {σ τ : tS} {n : Nat} {k w o u : Int}
/-- a new type is written -/
def tyN (σ : tS) (n : Nat) (k w o u hh : Int) : tS := ua (ua (ua (ua (ua (ua (ua (ua (us σ 532 (w32 ((n : Int) + 1))) 502 n k) 506 n w) 510 n o) 514 n u) 518 n (tySz σ o u)) 530 n (tyHs σ k o u)) 522 n (ga σ 526 hh.toNat)) 526 hh.toNat (n : Int)
theorem aType_new (hn : gs σ 532 = (n : Int)) (h126 : n < 126000) (ho : o = -1 ∨ (0 ≤ o ∧ o < n)) (hu : u = -1 ∨ (0 ≤ u ∧ u < n)) (hh : Int) (hr : 0 ≤ hh ∧ hh < 4096) (h1 : ∀ t, t < n → ga σ 530 t = 0 ∨ ga σ 530 t = 1) :
    (if 0 ≤ gs σ 532 ∧ gs σ 532 < 126000 then (if o ≠ (-1) then T_aType_168 k o u hh (gs σ 532) (gs σ 532) 1 (ua (ua (ua (ua (us σ 532 (w32 ((gs σ 532) + 1))) 502 (gs σ 532).toNat k) 506 (gs σ 532).toNat w) 510 (gs σ 532).toNat o) 514 (gs σ 532).toNat u) else T_aType_174 k o u hh (gs σ 532) (gs σ 532) 1 0 (ua (ua (ua (ua (us σ 532 (w32 ((gs σ 532) + 1))) 502 (gs σ 532).toNat k) 506 (gs σ 532).toNat w) 510 (gs σ 532).toNat o) 514 (gs σ 532).toNat u)) else none) = some ((n : Int), tyN σ n k w o u hh) := by
  have nn : ((n : Int)).toNat = n := by omega
  rw [hn, if_pos (by omega), nn]
  have g : ∀ x, ga (ua (ua (ua (ua (us σ 532 (w32 ((n : Int) + 1))) 502 n k) 506 n w) 510 n o) 514 n u) 518 x = ga σ 518 x := fun x => by rw [ga_ua, if_neg (by omega), ga_ua, if_neg (by omega), ga_ua, if_neg (by omega), ga_ua, if_neg (by omega)]; rfl
  have g2 : ∀ x v, ga (ua (ua (ua (ua (ua (us σ 532 (w32 ((n : Int) + 1))) 502 n k) 506 n w) 510 n o) 514 n u) 518 n v) 530 x = ga σ 530 x := fun x v => by rw [ga_ua, if_neg (by omega), ga_ua, if_neg (by omega), ga_ua, if_neg (by omega), ga_ua, if_neg (by omega), ga_ua, if_neg (by omega)]; rfl
  have g3 : ∀ v x, ga (ua (ua (ua (ua (ua (us σ 532 (w32 ((n : Int) + 1))) 502 n k) 506 n w) 510 n o) 514 n u) 518 n v) 526 x = ga σ 526 x := fun v x => by rw [ga_ua, if_neg (by omega), ga_ua, if_neg (by omega), ga_ua, if_neg (by omega), ga_ua, if_neg (by omega), ga_ua, if_neg (by omega)]; rfl
  have e240 : ∀ (v y : Int), (y = 0 ∨ y = 1) → T_aType_240 hh (n : Int) (n : Int) y (ua (ua (ua (ua (ua (us σ 532 (w32 ((n : Int) + 1))) 502 n k) 506 n w) 510 n o) 514 n u) 518 n v) = some ((n : Int), ua (ua (ua (ua (ua (ua (ua (ua (us σ 532 (w32 ((n : Int) + 1))) 502 n k) 506 n w) 510 n o) 514 n u) 518 n v) 530 n y) 522 n (ga σ 526 hh.toNat)) 526 hh.toNat (n : Int)) := by
    intro v y hy
    unfold T_aType_240
    rw [if_pos ⟨by omega, by omega, hy, hr.1, hr.2, by omega, by omega⟩, nn, g3]
  have e192 : ∀ (s2 s3 : Int), T_aType_192 k o u hh (n : Int) (n : Int) s2 s3 (ua (ua (ua (ua (us σ 532 (w32 ((n : Int) + 1))) 502 n k) 506 n w) 510 n o) 514 n u) = some ((n : Int), ua (ua (ua (ua (ua (ua (ua (ua (us σ 532 (w32 ((n : Int) + 1))) 502 n k) 506 n w) 510 n o) 514 n u) 518 n (w32 (s2 + s3))) 530 n (tyHs σ k o u)) 522 n (ga σ 526 hh.toNat)) 526 hh.toNat (n : Int)) := by
    intro s2 s3
    unfold T_aType_192 T_aType_205 T_aType_219
    rw [if_pos (by omega), nn]
    by_cases k2 : k = 2
    · rw [if_pos k2, e240 _ 1 (.inr rfl)]
      unfold tyHs
      rw [if_pos (.inl k2)]
    · rw [if_neg k2, g2, g2]
      by_cases o1 : o = -1
      · rw [if_pos o1]
        by_cases u1 : u = -1
        · rw [if_pos u1, e240 _ 0 (.inl rfl)]
          unfold tyHs
          rw [if_neg (by rintro (z | z | z) <;> omega)]
        · rw [if_neg u1, if_pos (by omega)]
          by_cases u2 : ga σ 530 u.toNat = 0
          · rw [if_pos u2, e240 _ 0 (.inl rfl)]
            unfold tyHs
            rw [if_neg (by rintro (z | z | z); exact k2 z; exact z.1 o1; exact z.2 u2)]
          · rw [if_neg u2, e240 _ 1 (.inr rfl)]
            unfold tyHs
            rw [if_pos (.inr (.inr ⟨u1, u2⟩))]
      · rw [if_neg o1, if_pos (by omega)]
        by_cases o2 : ga σ 530 o.toNat = 0
        · rw [if_neg (fun z => z o2)]
          by_cases u1 : u = -1
          · rw [if_pos u1, e240 _ 0 (.inl rfl)]
            unfold tyHs
            rw [if_neg (by rintro (z | z | z); exact k2 z; exact z.2 o2; exact z.1 u1)]
          · rw [if_neg u1, if_pos (by omega)]
            by_cases u2 : ga σ 530 u.toNat = 0
            · rw [if_pos u2, e240 _ 0 (.inl rfl)]
              unfold tyHs
              rw [if_neg (by rintro (z | z | z); exact k2 z; exact z.2 o2; exact z.2 u2)]
            · rw [if_neg u2, e240 _ 1 (.inr rfl)]
              unfold tyHs
              rw [if_pos (.inr (.inr ⟨u1, u2⟩))]
        · rw [if_pos o2, e240 _ 1 (.inr rfl)]
          unfold tyHs
          rw [if_pos (.inr (.inl ⟨o1, o2⟩))]
  have e174 : ∀ (s3 : Int), s3 = (if o = -1 then 0 else ga σ 518 o.toNat) → T_aType_174 k o u hh (n : Int) (n : Int) 1 s3 (ua (ua (ua (ua (us σ 532 (w32 ((n : Int) + 1))) 502 n k) 506 n w) 510 n o) 514 n u) = some ((n : Int), tyN σ n k w o u hh) := by
    intro s3 e3
    unfold T_aType_174 tyN tySz
    rw [g, ← e3]
    by_cases u1 : u = -1
    · rw [if_neg (fun z => z u1), e192, if_pos u1]
    · rw [if_pos u1, if_pos (by omega), e192, if_neg u1]
  by_cases o1 : o = -1
  · rw [if_neg (fun z => z o1)]
    exact e174 0 (by rw [if_pos o1])
  · rw [if_pos o1]
    unfold T_aType_168
    rw [if_pos (by omega), g]
    exact e174 _ (by rw [if_neg o1])
/-- what a new type's table holds -/
theorem tyN_ga (hh : Int) : (ga (tyN σ n k w o u hh) 502 n = k ∧ ga (tyN σ n k w o u hh) 506 n = w ∧ ga (tyN σ n k w o u hh) 510 n = o ∧ ga (tyN σ n k w o u hh) 514 n = u ∧ ga (tyN σ n k w o u hh) 518 n = tySz σ o u ∧ ga (tyN σ n k w o u hh) 530 n = tyHs σ k o u ∧ ga (tyN σ n k w o u hh) 522 n = ga σ 526 hh.toNat ∧ ga (tyN σ n k w o u hh) 526 hh.toNat = (n : Int)) ∧ (∀ f x, f ≠ 526 → x ≠ n → ga (tyN σ n k w o u hh) f x = ga σ f x) ∧ (∀ x, x ≠ hh.toNat → ga (tyN σ n k w o u hh) 526 x = ga σ 526 x) ∧ (∀ f, f ∉ TYA → ∀ x, ga (tyN σ n k w o u hh) f x = ga σ f x) ∧ (∀ f, f ≠ 532 → gs (tyN σ n k w o u hh) f = gs σ f) ∧ gs (tyN σ n k w o u hh) 532 = w32 ((n : Int) + 1) := by
  unfold tyN
  refine ⟨⟨?_, ?_, ?_, ?_, ?_, ?_, ?_, ?_⟩, fun f x c1 c2 => ?_, fun x c => ?_, fun f c x => ?_, fun f c => ?_, ?_⟩
  · simp [ga_ua]
  · simp [ga_ua]
  · simp [ga_ua]
  · simp [ga_ua]
  · simp [ga_ua]
  · simp [ga_ua]
  · simp [ga_ua]
  · simp [ga_ua]
  · simp only [ga_ua]
    rw [if_neg (fun z => c1 z.1), if_neg (fun z => c2 z.2), if_neg (fun z => c2 z.2), if_neg (fun z => c2 z.2), if_neg (fun z => c2 z.2), if_neg (fun z => c2 z.2), if_neg (fun z => c2 z.2), if_neg (fun z => c2 z.2)]; rfl
  · simp only [ga_ua]
    rw [if_neg (fun z => c z.2), if_neg (by omega), if_neg (by omega), if_neg (by omega), if_neg (by omega), if_neg (by omega), if_neg (by omega), if_neg (by omega)]; rfl
  · simp only [List.mem_cons, List.not_mem_nil, or_false, not_or] at c
    simp only [ga_ua]
    rw [if_neg (by omega), if_neg (by omega), if_neg (by omega), if_neg (by omega), if_neg (by omega), if_neg (by omega), if_neg (by omega), if_neg (by omega)]; rfl
  · show gs (us σ 532 (w32 ((n : Int) + 1))) f = _
    rw [gs_us, if_neg c]
  · show gs (us σ 532 (w32 ((n : Int) + 1))) 532 = _
    rw [gs_us, if_pos rfl]
/-- THE TWIN'S TYPE THAT IS SO -/
theorem t_aType (T : TyT σ n) (hk : 0 ≤ k ∧ k ≤ 3) (ho : o = -1 ∨ (0 ≤ o ∧ o < n)) (hu : u = -1 ∨ (0 ≤ u ∧ u < n)) (h126 : n < 126000) : ∃ (t : Nat) (τ : tS) (n' : Nat), T_aType k w o u σ = some ((t : Int), τ) ∧ TyT τ n' ∧ t < n' ∧ n ≤ n' ∧ n' ≤ n + 1 ∧ tyF τ t k w o u ∧ fr [532] TYA σ τ ∧ (∀ f ∈ TYA, f ≠ 526 → ∀ x, x < n → ga τ f x = ga σ f x) ∧ (t = n → ga τ 518 t = tySz σ o u ∧ ga τ 530 t = tyHs σ k o u) ∧ (t < n → τ = σ) := by
  obtain ⟨T1, T2, T3, T4, T5⟩ := T
  have hr := tyH_r k w o u
  have hh : (tyH k w o u).toNat < 4096 := by omega
  have hhi : (((tyH k w o u).toNat : Nat) : Int) = tyH k w o u := by omega
  obtain ⟨l, c1, c2⟩ := T5 _ hh
  have eT : T_aType k w o u σ = (om_loop (T_aType_37s k w o u (tyH k w o u) σ) (ga σ 526 (tyH k w o u).toNat)).bind (Sum.elim (fun v1 => some (v1, σ)) (fun v1 => if 0 ≤ gs σ 532 ∧ gs σ 532 < 126000 then (if o ≠ (-1) then T_aType_168 k o u (tyH k w o u) (gs σ 532) (gs σ 532) 1 (ua (ua (ua (ua (us σ 532 (w32 ((gs σ 532) + 1))) 502 (gs σ 532).toNat k) 506 (gs σ 532).toNat w) 510 (gs σ 532).toNat o) 514 (gs σ 532).toNat u) else T_aType_174 k o u (tyH k w o u) (gs σ 532) (gs σ 532) 1 0 (ua (ua (ua (ua (us σ 532 (w32 ((gs σ 532) + 1))) 502 (gs σ 532).toNat k) 506 (gs σ 532).toNat w) 510 (gs σ 532).toNat o) 514 (gs σ 532).toNat u)) else none)) := by
    unfold T_aType
    exact if_pos hr
  rcases ty_find (k := k) (w := w) (o := o) (u := u) (hh := tyH k w o u) c1 with ⟨t, m, f, e⟩ | ⟨m, e⟩
  · have ht := (c2 t).mp m
    refine ⟨t, σ, n, by rw [eT, e]; rfl, ⟨T1, T2, T3, T4, T5⟩, ht.1, Nat.le_refl _, by omega, f, fr_refl _ _ _, fun _ _ _ _ _ => rfl, fun z => by omega, fun _ => rfl⟩
  · have hn1 : ∀ t, t < n → ga σ 530 t = 0 ∨ ga σ 530 t = 1 := fun t ht => (T3 t ht).2.2.2
    have eN := aType_new (w := w) T1 h126 ho hu (tyH k w o u) hr hn1 (k := k)
    obtain ⟨⟨a1, a2, a3, a4, a5, a6, a7, a8⟩, b1, b2, b3, b4, b5⟩ := tyN_ga (σ := σ) (n := n) (k := k) (w := w) (o := o) (u := u) (tyH k w o u)
    have nF : ∀ t, t < n → ¬ tyF σ t k w o u := fun t ht z => by
      refine m t ((c2 t).mpr ⟨ht, ?_⟩) z
      rw [z.1, z.2.1, z.2.2.1, z.2.2.2]; exact hhi.symm
    refine ⟨n, tyN σ n k w o u (tyH k w o u), n + 1, by rw [eT, e]; exact eN, ⟨?_, by omega, fun t ht => ?_, fun t v ht hv z => ?_, fun hv hlt => ?_⟩, by omega, by omega, by omega, ⟨a1, a2, a3, a4⟩, ⟨fun f hf => b4 f (by simpa using hf), fun f hf x => b3 f hf x⟩, fun f hf c x hx => b1 f x c (by omega), fun _ => ⟨a5, a6⟩, fun z => by omega⟩
    · rw [b5, w32_s (by omega) (by omega)]; rfl
    · by_cases c : t = n
      · rw [c]
        refine ⟨by rw [a1]; exact hk, ?_, ?_, ?_⟩
        · unfold tyP
          rw [a3]
          rcases ho with ho | ho
          · exact .inl ho
          · exact .inr ⟨o.toNat, by omega, by omega⟩
        · unfold tyP
          rw [a4]
          rcases hu with hu | hu
          · exact .inl hu
          · exact .inr ⟨u.toNat, by omega, by omega⟩
        · rw [a6]
          unfold tyHs
          split
          · exact .inr rfl
          · exact .inl rfl
      · unfold tyP
        rw [b1 502 t (by decide) c, b1 510 t (by decide) c, b1 514 t (by decide) c, b1 530 t (by decide) c]
        exact T3 t (by omega)
    · obtain ⟨z1, z2, z3, z4⟩ := z
      by_cases ct : t = n
      · by_cases cv : v = n
        · omega
        · rw [ct, a1, b1 502 v (by decide) cv] at z1
          rw [ct, a2, b1 506 v (by decide) cv] at z2
          rw [ct, a3, b1 510 v (by decide) cv] at z3
          rw [ct, a4, b1 514 v (by decide) cv] at z4
          exact absurd ⟨z1.symm, z2.symm, z3.symm, z4.symm⟩ (nF v (by omega))
      · by_cases cv : v = n
        · rw [cv, a1, b1 502 t (by decide) ct] at z1
          rw [cv, a2, b1 506 t (by decide) ct] at z2
          rw [cv, a3, b1 510 t (by decide) ct] at z3
          rw [cv, a4, b1 514 t (by decide) ct] at z4
          exact absurd ⟨z1, z2, z3, z4⟩ (nF t (by omega))
        · rw [b1 502 t (by decide) ct, b1 502 v (by decide) cv] at z1
          rw [b1 506 t (by decide) ct, b1 506 v (by decide) cv] at z2
          rw [b1 510 t (by decide) ct, b1 510 v (by decide) cv] at z3
          rw [b1 514 t (by decide) ct, b1 514 v (by decide) cv] at z4
          exact T4 t v (by omega) (by omega) ⟨z1, z2, z3, z4⟩
    · have key : ∀ t, t ≠ n → tyH (ga (tyN σ n k w o u (tyH k w o u)) 502 t) (ga (tyN σ n k w o u (tyH k w o u)) 506 t) (ga (tyN σ n k w o u (tyH k w o u)) 510 t) (ga (tyN σ n k w o u (tyH k w o u)) 514 t) = tyH (ga σ 502 t) (ga σ 506 t) (ga σ 510 t) (ga σ 514 t) := fun t c => by
        rw [b1 502 t (by decide) c, b1 506 t (by decide) c, b1 510 t (by decide) c, b1 514 t (by decide) c]
      by_cases ch : hv = (tyH k w o u).toNat
      · refine ⟨n :: l, ⟨by rw [ch]; exact a8, ⟨h126, fun x hx => ((c2 x).mp hx).1⟩, ?_⟩, fun t => ?_⟩
        · rw [a7]
          exact chT_keep c1 (fun t ht => b1 522 t (by decide) (by have := ((c2 t).mp ht).1; omega))
        · rw [List.mem_cons, c2 t]
          by_cases c : t = n
          · rw [c, a1, a2, a3, a4, ch]
            exact ⟨fun _ => ⟨by omega, hhi.symm⟩, fun _ => .inl rfl⟩
          · rw [key t c, ch]
            exact ⟨fun z => by rcases z with z | z; exact absurd z c; exact ⟨by omega, z.2⟩, fun z => .inr ⟨by omega, z.2⟩⟩
      · obtain ⟨l', d1, d2⟩ := T5 hv hlt
        refine ⟨l', ?_, fun t => ?_⟩
        · rw [b2 hv ch]
          exact chT_keep d1 (fun t ht => b1 522 t (by decide) (by have := ((d2 t).mp ht).1; omega))
        · rw [d2 t]
          by_cases c : t = n
          · rw [c, a1, a2, a3, a4]
            exact ⟨fun z => absurd z.1 (by omega), fun z => absurd z.2 (by omega)⟩
          · rw [key t c]
            exact ⟨fun z => ⟨by omega, z.2⟩, fun z => ⟨by omega, z.2⟩⟩
end LTY
