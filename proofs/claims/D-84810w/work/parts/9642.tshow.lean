set_option maxRecDepth 100000
/-! THE TWIN'S MACHINE: a thing is shown -/
/-- a number with its sign -/
def shI (z : Int) : List Int := (if z < 0 then [45] else []) ++ numB z.natAbs
/-- what is shown of a thing (true), of what follows in a list (false) -/
def shB : Vt → Bool → List Int
  | .leaf, true => [63]
  | .leaf, false => []
  | .inner t a _ l r, true => if t = 1 then shI a.1 else if t = 2 then (if a.1 = 1 then [116, 114, 117, 101] else [102, 97, 108, 115, 101]) else if t = 3 then (if a.1 = 0 then [91, 93] else [63]) else if t = 4 then 91 :: (shB l true ++ (shB r false ++ [93])) else if t = 5 then 40 :: (shB l true ++ (44 :: (shB r true ++ [41]))) else [63]
  | .inner t _ _ l r, false => if t = 4 then 44 :: (shB l true ++ shB r false) else []
noncomputable def put1S (x : Int) (σ : tS) : tS := if gs σ 1012 = 400 then σ else us (ua σ 1018 (gs σ 1012).toNat (b8 (b8 x))) 1012 (gs σ 1012 + 1)
noncomputable def putSL : List Int → tS → tS
  | [], σ => σ
  | x :: L, σ => putSL L (put1S x σ)
def ShT (σ : tS) (c : Nat) : Prop := gs σ 1012 = (c : Int) ∧ c ≤ 400
/-- how long a list is -/
def lenL : Vt → Nat
  | .leaf => 0
  | .inner t _ _ _ r => if t = 4 then lenL r + 1 else 0
section LSW
variable {M : MPg} {cd : Nat → Et → Int → Prop} {σ τ : tS} {c : Nat}
theorem putSL_app : ∀ {A B : List Int} {σ : tS}, putSL (A ++ B) σ = putSL B (putSL A σ)
  | [], _, _ => rfl
  | x :: A, B, σ => putSL_app (A := A) (B := B) (σ := put1S x σ)
theorem put1S_fr {x : Int} : fr [1012] [1018] σ (put1S x σ) := by
  unfold put1S
  split
  · exact fr_refl _ _ _
  · exact fr_us (fr_ua (fr_refl _ _ _) (by decide)) (by decide)
theorem putSL_fr : ∀ {L : List Int} {σ : tS}, fr [1012] [1018] σ (putSL L σ)
  | [], σ => fr_refl _ _ _
  | _ :: _, _ => fr_trans put1S_fr putSL_fr
theorem put1S_t {x : Int} (S : ShT σ c) : ShT (put1S x σ) (min 400 (c + 1)) := by
  obtain ⟨s1, s2⟩ := S
  unfold put1S
  by_cases q : c = 400
  · rw [if_pos (by omega)]
    exact ⟨by omega, by omega⟩
  · rw [if_neg (by omega)]
    refine ⟨?_, by omega⟩
    rw [gs_us, if_pos rfl, s1]
    omega
theorem putSL_t : ∀ {L : List Int} {σ : tS} {c : Nat}, ShT σ c → ShT (putSL L σ) (min 400 (c + L.length))
  | [], σ, c, S => by
    have e : min 400 (c + ([] : List Int).length) = c := by have := S.2; simp; omega
    rw [e]; exact S
  | x :: L, σ, c, S => by
    have h := putSL_t (L := L) (put1S_t (x := x) S)
    have e : min 400 (min 400 (c + 1) + L.length) = min 400 (c + (x :: L).length) := by rw [List.length_cons]; omega
    rw [← e]; exact h
theorem putSL_full : ∀ {L : List Int} {σ : tS}, gs σ 1012 = 400 → putSL L σ = σ
  | [], _, _ => rfl
  | x :: L, σ, h => by
    have e : put1S x σ = σ := if_pos h
    show putSL L (put1S x σ) = σ
    rw [e]; exact putSL_full h
theorem t_putS {x : Int} (S : ShT σ c) : T_put1 x σ = some (put1S x σ) := by
  obtain ⟨s1, s2⟩ := S
  unfold T_put1 put1S
  by_cases q : gs σ 1012 = 400
  · rw [if_neg (fun z => z q), if_pos q]
  · rw [if_pos q, if_neg q, if_pos (by omega), w32_s (by omega) (by omega)]
theorem bmod64 {x : Int} (h1 : -9223372036854775808 ≤ x) (h2 : x ≤ 9223372036854775807) : x.bmod (2 ^ 64) = x := by
  have e : w64 x = x.bmod (2 ^ 64) := Int64.toInt_ofInt
  rw [← e]; exact w64_eq h1 h2
theorem div64_n {a b : Nat} (ha : a ≤ 9223372036854775807) (hb : b ≤ 9223372036854775807) : div64 (a : Int) (b : Int) = ((a / b : Nat) : Int) := by
  unfold div64
  have e1 : (Int64.ofInt (a : Int)).toInt = (a : Int) := w64_eq (by omega) (by omega)
  have e2 : (Int64.ofInt (b : Int)).toInt = (b : Int) := w64_eq (by omega) (by omega)
  have e3 : (a : Int) / (b : Int) = ((a / b : Nat) : Int) := rfl
  have le := Nat.div_le_self a b
  rw [Int64.toInt_div, e1, e2, Int.tdiv_eq_ediv_of_nonneg (by omega), e3]
  clear e3
  generalize a / b = q at le ⊢
  exact bmod64 (by omega) (by omega)
theorem rem64_10 {a : Nat} (ha : a ≤ 9223372036854775807) : rem64 (a : Int) 10 = ((a % 10 : Nat) : Int) := by
  unfold rem64
  have e1 : (Int64.ofInt (a : Int)).toInt = (a : Int) := w64_eq (by omega) (by omega)
  have e2 : (Int64.ofInt 10).toInt = 10 := by decide
  have e3 : (Int64.ofInt (a : Int) / Int64.ofInt 10).toInt = (a : Int) / 10 := by
    rw [Int64.toInt_div, e1, e2, Int.tdiv_eq_ediv_of_nonneg (by omega)]
    exact bmod64 (by omega) (by omega)
  rw [Int64.toInt_sub, Int64.toInt_mul, e1, e2, e3, bmod64 (x := (a : Int) / 10 * 10) (by omega) (by omega), bmod64 (by omega) (by omega)]
  omega
theorem t_num1 {v : Nat} (hv : v ≤ 2147483648) : ∀ (d i : Nat), i + d = 10 → (i = 0 ∨ 9 < v / 10 ^ (i - 1)) → ∃ k, om_loop (T_showNumber_28s (v : Int) σ) ((10 ^ i : Nat) : Int) = some ((10 ^ k : Nat) : Int) ∧ k ≤ 9 ∧ v / 10 ^ k ≤ 9 ∧ (k = 0 ∨ 9 < v / 10 ^ (k - 1))
  | 0, i, e, c => by
    have i10 : i = 10 := by omega
    rw [i10] at c
    have : 9 < v / 10 ^ 9 := c.resolve_left (by omega)
    omega
  | d + 1, i, e, c => by
    have p0 : 0 < 10 ^ i := Nat.pow_pos (by decide)
    have p9 : 10 ^ i ≤ 1000000000 := by
      have := Nat.pow_le_pow_right (show 0 < 10 by decide) (show i ≤ 9 by omega)
      omega
    have dv := div64_n (show v ≤ 9223372036854775807 by omega) (show 10 ^ i ≤ 9223372036854775807 by omega)
    by_cases q : v / 10 ^ i ≤ 9
    · refine ⟨i, om_loop_out ?_, by omega, q, c⟩
      unfold T_showNumber_28s
      rw [if_pos (by omega), dv, if_pos (by omega)]
    · have mul : 10 * 10 ^ i ≤ v := by
        have h1 : 10 ≤ v / 10 ^ i := by omega
        exact (Nat.le_div_iff_mul_le p0).mp h1
      have st : T_showNumber_28s (v : Int) σ ((10 ^ i : Nat) : Int) = some (.inl ((10 ^ (i + 1) : Nat) : Int)) := by
        unfold T_showNumber_28s
        rw [if_pos (by omega), dv, if_neg (by omega), w64_eq (by omega) (by omega), Nat.pow_succ]
        push_cast
        rw [Int.mul_comm]
      obtain ⟨k, k1, k2⟩ := t_num1 hv d (i + 1) (by omega) (.inr (by rw [Nat.add_sub_cancel]; omega))
      exact ⟨k, by rw [om_loop_in st]; exact k1, k2⟩
theorem t_num2 {v : Nat} (hv : v ≤ 2147483648) : ∀ (k : Nat) (σ : tS) (c : Nat), k ≤ 9 → ShT σ c → om_loop (T_showNumber_50s (v : Int)) (((10 ^ k : Nat) : Int), σ) = some (putSL (dgB k v) σ)
  | k, σ, c, hk, S => by
    have p0 : 0 < 10 ^ k := Nat.pow_pos (by decide)
    have p9 : 10 ^ k ≤ 1000000000 := by
      have := Nat.pow_le_pow_right (show 0 < 10 by decide) hk
      omega
    have dv := div64_n (show v ≤ 9223372036854775807 by omega) (show 10 ^ k ≤ 9223372036854775807 by omega)
    have le := Nat.div_le_self v (10 ^ k)
    have d10 := div64_n (a := 10 ^ k) (b := 10) (by omega) (by omega)
    have b48 : l2i (w64 (48 + ((v / 10 ^ k % 10 : Nat) : Int))) = ((48 + v / 10 ^ k % 10 : Nat) : Int) := by
      rw [w64_eq (by omega) (by omega), l2i_w, w32_s (by omega) (by omega)]
      omega
    have st : T_showNumber_50s (v : Int) (((10 ^ k : Nat) : Int), σ) = some (.inl (((10 ^ k / 10 : Nat) : Int), put1S ((48 + v / 10 ^ k % 10 : Nat) : Int) σ)) := by
      unfold T_showNumber_50s
      simp only
      rw [if_neg (by omega), if_pos (by omega), dv, rem64_10 (by omega), b48, t_putS S, Option.bind_some, show (10 : Int) = ((10 : Nat) : Int) from rfl, d10]
    rw [om_loop_in st]
    have k1 := put1S_t (x := ((48 + v / 10 ^ k % 10 : Nat) : Int)) S
    match k, hk, k1 with
    | 0, _, k1 =>
      have e0 : 10 ^ 0 / 10 = 0 := by decide
      rw [e0]
      refine om_loop_out ?_
      unfold T_showNumber_50s
      simp only
      rw [if_pos (by omega)]
      show some (Sum.inr (put1S _ σ)) = some (Sum.inr (put1S _ σ))
      rw [Nat.pow_zero, Nat.div_one]
    | k + 1, hk, k1 =>
      have e1 : 10 ^ (k + 1) / 10 = 10 ^ k := by rw [Nat.pow_succ, Nat.mul_div_cancel _ (by decide)]
      rw [e1, t_num2 hv k _ _ (by omega) k1]
      rfl
theorem t_num24 {v : Nat} (hv : v ≤ 2147483648) (S : ShT σ c) : T_showNumber_24 (v : Int) σ = some (putSL (numB v) σ) := by
  obtain ⟨k, k1, k2, k3, k4⟩ := t_num1 (σ := σ) hv 10 0 rfl (.inl rfl)
  have k1' : om_loop (T_showNumber_28s (v : Int) σ) 1 = some ((10 ^ k : Nat) : Int) := k1
  unfold T_showNumber_24
  rw [k1', Option.bind_some, t_num2 hv k σ c k2 S, Option.bind_some]
  unfold numB
  rw [numBD_dg (by omega) k3 k4]
/-- A NUMBER -/
theorem t_showNum {z : Int} (h1 : -2147483648 ≤ z) (h2 : z ≤ 2147483647) (S : ShT σ c) : T_showNumber z σ = some (putSL (shI z) σ) := by
  unfold T_showNumber T_showNumber_12 shI
  by_cases q : 0 ≤ z
  · rw [if_pos q, if_pos q, if_neg (by omega)]
    have e : z = ((z.natAbs : Nat) : Int) := by omega
    have := t_num24 (v := z.natAbs) (by omega) S
    rw [← e] at this
    exact this
  · rw [if_neg q, t_putS S, Option.bind_some, if_neg q, if_pos (by omega), w64_eq (by omega) (by omega)]
    have e : -z = ((z.natAbs : Nat) : Int) := by omega
    rw [e]
    exact t_num24 (v := z.natAbs) (by omega) (put1S_t S)
theorem t_shows3 {L : Int} : ∀ (k : Nat) (σ : tS) (c : Nat), k < 8 → ShT σ c → om_loop (T_shows_3s L) (((8 * k : Nat) : Int), σ) = some (putSL (sgD L k) σ) := by
  have one : ∀ (k : Nat) (σ : tS) (c : Nat), k < 8 → ShT σ c → T_shows_3s L (((8 * k : Nat) : Int), σ) = some (.inl (((8 * k : Nat) : Int) + (-8), putSL (sg1 L k) σ)) := by
    intro k σ c hk S
    unfold T_shows_3s sg1
    simp only
    rw [if_neg (by omega), w32_s (by omega) (by omega)]
    by_cases q : and64 (shr64 L ((8 * k : Nat) : Int)) 255 = 0
    · rw [if_pos q, if_pos q]
      rfl
    · rw [if_neg q, if_neg q, t_putS S, Option.bind_some]
      rfl
  intro k
  induction k with
  | zero =>
    intro σ c hk S
    rw [om_loop_in (one 0 σ c (by omega) S)]
    refine om_loop_out ?_
    unfold T_shows_3s
    simp only
    rw [if_pos (by omega)]
    rfl
  | succ k ih =>
    intro σ c hk S
    rw [om_loop_in (one (k + 1) σ c hk S), show ((8 * (k + 1) : Nat) : Int) + (-8) = ((8 * k : Nat) : Int) by omega]
    have S2 := putSL_t (L := sg1 L (k + 1)) S
    rw [ih _ _ (by omega) S2]
    show some (putSL (sgD L k) (putSL (sg1 L (k + 1)) σ)) = some (putSL (sg1 L (k + 1) ++ sgD L k) σ)
    rw [putSL_app]
theorem t_shows {L : Int} {W : List Int} (e : sgD L 7 = W) (S : ShT σ c) : T_shows L σ = some (putSL W σ) := by
  unfold T_shows
  have := t_shows3 (L := L) 7 σ c (by omega) S
  have h : om_loop (T_shows_3s L) (56, σ) = some (putSL (sgD L 7) σ) := this
  rw [h, Option.bind_some, e]
theorem sg_false : sgD 439721161573 7 = [102, 97, 108, 115, 101] := by decide
theorem sg_true : sgD 1953658213 7 = [116, 114, 117, 101] := by decide
/-- a list's number tells how long it is -/
theorem len_det : ∀ {v v' : Vt} {x : Int}, vTw M cd σ v true x → vTw M cd σ v' true x → lenL v = lenL v'
  | .leaf, _, _, h, _ => h.elim
  | .inner _ _ _ _ _, .leaf, _, _, h => h.elim
  | .inner t a u l r, .inner t' a' u' l' r', x, h, h' => by
    have tag : ∀ {t a u l r}, vTw M cd σ (.inner t a u l r) true x → (t = 4 ↔ x % 8 = 3) := by
      intro t a u l r h
      rcases h with ⟨e, f⟩ | ⟨e, f⟩ | ⟨e, _, f⟩ | ⟨e, _, f⟩ | ⟨k, _, ⟨e, f, _⟩ | ⟨e, f, _⟩ | ⟨e, f, _⟩ | ⟨e, f, _⟩⟩
      all_goals omega
    have t1 := tag h
    have t2 := tag h'
    show (if t = 4 then lenL r + 1 else 0) = (if t' = 4 then lenL r' + 1 else 0)
    by_cases q : t = 4
    · rw [if_pos q, if_pos (t2.mpr (t1.mp q))]
      obtain ⟨k, _, e1, _, u2⟩ := vTw_45 h (.inl q)
      obtain ⟨k', _, e1', _, u2'⟩ := vTw_45 h' (.inl (t2.mpr (t1.mp q)))
      have ek : k = k' := by
        have : t' = 4 := t2.mpr (t1.mp q)
        have hx : xtg (.inner t a u l r : Vt) = t := rfl
        have hx' : xtg (.inner t' a' u' l' r' : Vt) = t' := rfl
        omega
      subst ek
      have : lenL r = lenL r' := len_det u2 u2'
      rw [this]
    · rw [if_neg q, if_neg (fun z => q (t1.mpr (t2.mp z)))]
/-- what stands for a thing, by its number -/
theorem sh_inv {t : Nat} {a : Int × Ow × Et} {u : Unit} {l r : Vt} {x : Int} {ty : Ty} (H : vT M (.inner t a u l r) (.inl ty)) (W : vTw M cd σ (.inner t a u l r) true x) (hk : gs σ 952 ≤ 4000) : (and64 x 7 = x % 8 ∧ l2i (and64 x 7) = x % 8 ∧ shr64 x 3 = x / 8) ∧ ((t = 1 ∧ x = 8 * a.1 ∧ -2147483648 ≤ a.1 ∧ a.1 ≤ 2147483647) ∨ (t = 2 ∧ x = 8 * a.1 + 1 ∧ (a.1 = 0 ∨ a.1 = 1)) ∨ (t = 3 ∧ a.1 = 0 ∧ x = 2) ∨ (t = 3 ∧ a.1 ≠ 0 ∧ x = 8 * a.1 + 6) ∨ ∃ k : Nat, k < 4000 ∧ ((t = 4 ∧ x = 8 * (k : Int) + 3 ∧ vTw M cd σ l true (ga σ 930 k) ∧ vTw M cd σ r true (ga σ 934 k) ∧ ∃ y, vT M l (.inl y) ∧ vT M r (.inl (tnd 1 2 y .leaf))) ∨ (t = 5 ∧ x = 8 * (k : Int) + 4 ∧ vTw M cd σ l true (ga σ 930 k) ∧ vTw M cd σ r true (ga σ 934 k) ∧ (∃ y, vT M l (.inl y)) ∧ ∃ y, vT M r (.inl y)) ∨ (t = 6 ∧ x = 8 * (k : Int) + 7) ∨ (t = 7 ∧ x = 8 * (k : Int) + 5))) := by
  have fin : lR x → and64 x 7 = x % 8 ∧ l2i (and64 x 7) = x % 8 ∧ shr64 x 3 = x / 8 := fun h => ⟨and_3 h, by rw [and_3 h, l2i_w, w32_s (by omega) (by omega)], shr_3 h⟩
  unfold lR at fin
  rcases W with ⟨e, f⟩ | ⟨e, f⟩ | ⟨e, z, f⟩ | ⟨e, z, f⟩ | ⟨k, k4, ⟨e, f, w1, w2⟩ | ⟨e, f, w1, w2⟩ | ⟨e, f, _⟩ | ⟨e, f, _⟩⟩
  · have b : -2147483648 ≤ a.1 ∧ a.1 ≤ 2147483647 := by
      rcases H with h | h | h | h | h | h | h
      · exact h.2.2
      all_goals exact absurd h.1 (by omega)
    exact ⟨fin (by omega), .inl ⟨e, f, b⟩⟩
  · have b : a.1 = 0 ∨ a.1 = 1 := by
      rcases H with h | h | h | h | h | h | h
      · exact absurd h.1 (by omega)
      · exact h.2.2
      all_goals exact absurd h.1 (by omega)
    exact ⟨fin (by omega), .inr (.inl ⟨e, f, b⟩)⟩
  · exact ⟨fin (by omega), .inr (.inr (.inl ⟨e, z, f⟩))⟩
  · have b : 0 ≤ a.1 ∧ a.1 < 5 := by
      rcases H with h | h | h | h | h | h | h
      · exact absurd h.1 (by omega)
      · exact absurd h.1 (by omega)
      · obtain ⟨_, k, _, _, h1, h2, _⟩ := h
        omega
      all_goals exact absurd h.1 (by omega)
    exact ⟨fin (by omega), .inr (.inr (.inr (.inl ⟨e, z, f⟩)))⟩
  · have b : ∃ y, vT M l (.inl y) ∧ vT M r (.inl (tnd 1 2 y .leaf)) := by
      rcases H with h | h | h | h | h | h | h
      · exact absurd h.1 (by omega)
      · exact absurd h.1 (by omega)
      · exact absurd h.1 (by omega)
      · obtain ⟨_, y, _, h1⟩ := h
        exact ⟨y, h1⟩
      all_goals exact absurd h.1 (by omega)
    exact ⟨fin (by omega), .inr (.inr (.inr (.inr ⟨k, by omega, .inl ⟨e, f, w1, w2, b⟩⟩)))⟩
  · have b : (∃ y, vT M l (.inl y)) ∧ ∃ y, vT M r (.inl y) := by
      rcases H with h | h | h | h | h | h | h
      · exact absurd h.1 (by omega)
      · exact absurd h.1 (by omega)
      · exact absurd h.1 (by omega)
      · exact absurd h.1 (by omega)
      · obtain ⟨_, y, z, _, h1, h2⟩ := h
        exact ⟨⟨y, h1⟩, z, h2⟩
      all_goals exact absurd h.1 (by omega)
    exact ⟨fin (by omega), .inr (.inr (.inr (.inr ⟨k, by omega, .inr (.inl ⟨e, f, w1, w2, b⟩)⟩)))⟩
  · exact ⟨fin (by omega), .inr (.inr (.inr (.inr ⟨k, by omega, .inr (.inr (.inl ⟨e, f⟩))⟩)))⟩
  · exact ⟨fin (by omega), .inr (.inr (.inr (.inr ⟨k, by omega, .inr (.inr (.inr ⟨e, f⟩))⟩)))⟩
theorem sh_gr {L : List Int} : mGr σ (putSL L σ) := mGr_fr putSL_fr (by decide) (by decide)
theorem sh_gr1 {x : Int} : mGr σ (put1S x σ) := mGr_fr put1S_fr (by decide) (by decide)
theorem sh_952 {L : List Int} : gs (putSL L σ) 952 = gs σ 952 := putSL_fr.1 952 (by decide)
theorem sh1_952 {x : Int} : gs (put1S x σ) 952 = gs σ 952 := put1S_fr.1 952 (by decide)
set_option maxHeartbeats 1000000 in
/-- A THING IS SHOWN -/
theorem t_sh : ∀ (v : Vt), (∀ (ty : Ty) (x : Int) (σ : tS) (c f : Nat), vT M v (.inl ty) → vTw M cd σ v true x → gs σ 952 ≤ 4000 → ShT σ c → 401 ≤ c + f → T_showD f x σ = some (putSL (shB v true) σ)) ∧ (∀ (y : Ty) (x l1 : Int) (v0 : Vt) (σ : tS) (c f : Nat), vT M v (.inl (tnd 1 2 y .leaf)) → vTw M cd σ v true x → vTw M cd σ v0 true l1 → lenL v < lenL v0 → gs σ 952 ≤ 4000 → ShT σ c → 401 ≤ c + f → om_loop (T_show_94s (T_showD f) l1) (x, σ) = some (putSL (shB v false) σ))
  | .leaf => ⟨fun _ _ _ _ _ h => h.elim, fun _ _ _ _ _ _ _ h => h.elim⟩
  | .inner t a u l r => by
    obtain ⟨il, _⟩ := t_sh l
    obtain ⟨ir, jr⟩ := t_sh r
    have s118 : ∀ (k : Nat) (x l1 : Int) (y : Ty) (σ : tS) (c f : Nat), k < 4000 → x = 8 * (k : Int) + 3 → vT M l (.inl y) → vTw M cd σ l true (ga σ 930 k) → gs σ 952 ≤ 4000 → ShT σ c → 401 ≤ c + f → T_show_118 (T_showD f) l1 x σ = some (.inl (ga σ 934 k, putSL (shB l true) σ)) := by
      intro k x l1 y σ c f k4 ex hl wl h952 S hf
      unfold T_show_118
      have en : l2i (shr64 x 3) = (k : Int) := by rw [ex]; exact th_num (by decide) (by decide) (by omega) (by omega)
      rw [en, if_pos (by omega), show ((k : Int)).toNat = k by omega, il y _ σ c f hl wl h952 S hf, Option.bind_some, if_pos (by omega), putSL_fr.2 934 (by decide)]
    refine ⟨fun ty x σ c f H W h952 S hf => ?_, fun y x l1 v0 σ c f H W W0 hln h952 S hf => ?_⟩
    · have c400 := S.2
      obtain ⟨g, ef⟩ : ∃ g, f = g + 1 := ⟨f - 1, by omega⟩
      rw [ef]
      show T_showB (T_showD g) x σ = _
      unfold T_showB
      by_cases q : gs σ 1012 = 400
      · rw [if_neg (fun z => z q), putSL_full q]
      · rw [if_pos q]
        have c4 : c < 400 := by
          have := S.1
          omega
        obtain ⟨⟨b1, b2, b3⟩, cs⟩ := sh_inv H W h952
        rw [b2]
        show _ = some (putSL (if t = 1 then shI a.1 else if t = 2 then (if a.1 = 1 then [116, 114, 117, 101] else [102, 97, 108, 115, 101]) else if t = 3 then (if a.1 = 0 then [91, 93] else [63]) else if t = 4 then 91 :: (shB l true ++ (shB r false ++ [93])) else if t = 5 then 40 :: (shB l true ++ (44 :: (shB r true ++ [41]))) else [63]) σ)
        have S1 : ∀ x, ShT (put1S x σ) (c + 1) := fun x => by
          have := put1S_t (x := x) S
          rw [show min 400 (c + 1) = c + 1 by omega] at this
          exact this
        rcases cs with ⟨e, f, r1, r2⟩ | ⟨e, f, r1⟩ | ⟨e, r1, f⟩ | ⟨e, r1, f⟩ | ⟨k, k4, ⟨e, f, w1, w2, y, y1, y2⟩ | ⟨e, f, w1, w2, ⟨y, y1⟩, z, z1⟩ | ⟨e, f⟩ | ⟨e, f⟩⟩
        · rw [if_pos (by omega), if_pos e, b3, show x / 8 = a.1 by omega, t_showNum r1 r2 S, Option.bind_some]
        · rw [if_neg (by omega), if_pos (by omega), b3, show x / 8 = a.1 by omega, if_neg (show ¬ t = 1 by omega), if_pos e]
          unfold T_show_80
          by_cases z : a.1 = 1
          · rw [if_neg (fun w => w z), if_pos z, t_shows sg_true S, Option.bind_some]
          · rw [if_pos z, if_neg z, t_shows sg_false S, Option.bind_some]
        · rw [if_neg (by omega), if_neg (by omega), if_pos (by omega), if_neg (by omega), if_neg (by omega), if_pos e, if_pos r1]
          unfold T_show_86
          rw [t_putS S, Option.bind_some, om_loop_out (b := put1S 91 σ) (by
            unfold T_show_94s
            simp only
            rw [b1, if_pos (by omega)]), Option.bind_some, t_putS (S1 91), Option.bind_some]
          rfl
        · rw [if_neg (by omega), if_neg (by omega), if_neg (by omega), if_neg (by omega), if_neg (by omega), if_neg (by omega), if_neg (by omega), if_pos e, if_neg r1, t_putS S, Option.bind_some]
          rfl
        · rw [if_neg (by omega), if_neg (by omega), if_neg (by omega), if_pos (by omega), if_neg (by omega), if_neg (by omega), if_neg (by omega), if_pos e]
          unfold T_show_86
          have s1 := s118 k x x y (put1S 91 σ) (c + 1) g k4 f y1 (by rw [put1S_fr.2 930 (by decide)]; exact vTw_gr sh_gr1 w1) (by rw [sh1_952]; exact h952) (S1 91) (by omega)
          have st : T_show_94s (T_showD g) x (x, put1S 91 σ) = some (.inl (ga (put1S 91 σ) 934 k, putSL (shB l true) (put1S 91 σ))) := by
            unfold T_show_94s
            simp only
            rw [b1, if_neg (by omega), if_pos trivial, s1]
          have S2 := putSL_t (L := shB l true) (S1 91)
          have G2 : mGr σ (putSL (shB l true) (put1S 91 σ)) := mGr_trans sh_gr1 sh_gr
          have tl := jr y (ga (put1S 91 σ) 934 k) x (.inner t a u l r) (putSL (shB l true) (put1S 91 σ)) _ g y2 (by rw [put1S_fr.2 934 (by decide)]; exact vTw_gr G2 w2) (vTw_gr G2 W) (by
            show lenL r < (if t = 4 then lenL r + 1 else 0)
            rw [if_pos e]
            omega) (by rw [sh_952, sh1_952]; exact h952) S2 (by omega)
          rw [t_putS S, Option.bind_some, om_loop_in st, tl, Option.bind_some, t_putS (putSL_t S2), Option.bind_some]
          show _ = some (putSL (shB l true ++ (shB r false ++ [93])) (put1S 91 σ))
          rw [putSL_app, putSL_app]
          rfl
        · rw [if_neg (by omega), if_neg (by omega), if_neg (by omega), if_neg (by omega), if_pos (by omega), if_neg (by omega), if_neg (by omega), if_neg (by omega), if_neg (by omega), if_pos e]
          have en : l2i (shr64 x 3) = (k : Int) := by rw [f]; exact th_num (by decide) (by decide) (by omega) (by omega)
          have S2 := putSL_t (L := shB l true) (S1 40)
          have S3 := put1S_t (x := 44) S2
          have G1 : mGr σ (put1S 40 σ) := sh_gr1
          have G3 : mGr σ (put1S 44 (putSL (shB l true) (put1S 40 σ))) := mGr_trans (mGr_trans G1 sh_gr) sh_gr1
          rw [t_putS S, Option.bind_some, en, if_pos (by omega), show ((k : Int)).toNat = k by omega, il y _ (put1S 40 σ) (c + 1) g y1 (by rw [put1S_fr.2 930 (by decide)]; exact vTw_gr G1 w1) (by rw [sh1_952]; exact h952) (S1 40) (by omega), Option.bind_some, t_putS S2, Option.bind_some, if_pos (by omega)]
          rw [ir z _ (put1S 44 (putSL (shB l true) (put1S 40 σ))) _ g z1 (by rw [put1S_fr.2 934 (by decide), putSL_fr.2 934 (by decide), put1S_fr.2 934 (by decide)]; exact vTw_gr G3 w2) (by rw [sh1_952, sh_952, sh1_952]; exact h952) S3 (by omega), Option.bind_some, t_putS (putSL_t S3), Option.bind_some]
          show _ = some (putSL (shB l true ++ (44 :: (shB r true ++ [41]))) (put1S 40 σ))
          rw [putSL_app]
          show _ = some (putSL (shB r true ++ [41]) (put1S 44 (putSL (shB l true) (put1S 40 σ))))
          rw [putSL_app]
          rfl
        · rw [if_neg (by omega), if_neg (by omega), if_neg (by omega), if_neg (by omega), if_neg (by omega), if_neg (by omega), if_neg (by omega), if_neg (by omega), if_neg (by omega), if_neg (by omega), t_putS S, Option.bind_some]
          rfl
        · rw [if_neg (by omega), if_neg (by omega), if_neg (by omega), if_neg (by omega), if_neg (by omega), if_neg (by omega), if_neg (by omega), if_neg (by omega), if_neg (by omega), if_neg (by omega), t_putS S, Option.bind_some]
          rfl
    · have c400 := S.2
      obtain ⟨⟨b1, b2, b3⟩, cs⟩ := sh_inv H W h952
      by_cases t4 : t = 4
      · obtain ⟨k, k4, e, ex, w1, w2, y', y1, y2⟩ : ∃ k : Nat, k < 4000 ∧ t = 4 ∧ x = 8 * (k : Int) + 3 ∧ vTw M cd σ l true (ga σ 930 k) ∧ vTw M cd σ r true (ga σ 934 k) ∧ ∃ y, vT M l (.inl y) ∧ vT M r (.inl (tnd 1 2 y .leaf)) := by
          rcases cs with h | h | h | h | ⟨k, k4, h | h | h | h⟩
          · exact absurd h.1 (by omega)
          · exact absurd h.1 (by omega)
          · exact absurd h.1 (by omega)
          · exact absurd h.1 (by omega)
          · exact ⟨k, k4, h⟩
          all_goals exact absurd h.1 (by omega)
        have xn : x ≠ l1 := fun z => by
          rw [← z] at W0
          have := len_det W W0
          omega
        have S1 := put1S_t (x := 44) S
        have s1 := s118 k x l1 y' (put1S 44 σ) _ f k4 ex y1 (by rw [put1S_fr.2 930 (by decide)]; exact vTw_gr sh_gr1 w1) (by rw [sh1_952]; exact h952) S1 (by omega)
        have st : T_show_94s (T_showD f) l1 (x, σ) = some (.inl (ga (put1S 44 σ) 934 k, putSL (shB l true) (put1S 44 σ))) := by
          unfold T_show_94s
          simp only
          rw [b1, if_neg (by omega), if_neg xn, t_putS S, Option.bind_some, s1]
        have S2 := putSL_t (L := shB l true) S1
        have G2 : mGr σ (putSL (shB l true) (put1S 44 σ)) := mGr_trans sh_gr1 sh_gr
        have tl := jr y' (ga (put1S 44 σ) 934 k) l1 v0 (putSL (shB l true) (put1S 44 σ)) _ f y2 (by rw [put1S_fr.2 934 (by decide)]; exact vTw_gr G2 w2) (vTw_gr G2 W0) (by
          have h : (if t = 4 then lenL r + 1 else 0) < lenL v0 := hln
          rw [if_pos t4] at h
          omega) (by rw [sh_952, sh1_952]; exact h952) S2 (by omega)
        rw [om_loop_in st, tl]
        show _ = some (putSL (if t = 4 then 44 :: (shB l true ++ shB r false) else []) σ)
        rw [if_pos t4]
        show _ = some (putSL (shB l true ++ shB r false) (put1S 44 σ))
        rw [putSL_app]
      · have x3 : x % 8 ≠ 3 := by
          rcases cs with h | h | h | h | ⟨k, k4, h | h | h | h⟩
          all_goals omega
        refine om_loop_out ?_
        unfold T_show_94s
        simp only
        rw [b1, if_pos x3]
        show some (Sum.inr σ) = some (Sum.inr (putSL (if t = 4 then 44 :: (shB l true ++ shB r false) else []) σ))
        rw [if_neg t4]
        rfl
theorem t_showM {v : Vt} {ty : Ty} {x : Int} (H : vT M v (.inl ty)) (W : vTw M cd σ v true x) (h : gs σ 952 ≤ 4000) (h12 : gs σ 1012 = 0) : T_show x σ = some (putSL (shB v true) σ) := (t_sh v).1 ty x σ 0 410 H W h ⟨h12, by decide⟩ (by decide)
end LSW
