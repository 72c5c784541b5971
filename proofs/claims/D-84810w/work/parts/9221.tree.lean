set_option maxRecDepth 100000
/-! TYPES AS TREES: a node has a kind (0 name, 1 constructor, 2 family, 3 arrow), which, two parts (leaf: none) -/
abbrev Ty : Type := Std.DTreeMap.Internal.Impl Nat (fun _ => Unit)
abbrev tnd (k w : Nat) (l r : Ty) : Ty := .inner k w () l r
abbrev tlf : Ty := .leaf
/-- the size, as both count it -/
def tszW : Ty → Int
  | .leaf => 0
  | .inner _ _ _ l r => w32 (w32 (1 + tszW l) + tszW r)
/-- whether there is a family in it -/
def thB : Ty → Bool
  | .leaf => false
  | .inner k _ _ l r => k == 2 || thB l || thB r
def thI (T : Ty) : Int := if thB T = true then 1 else 0
theorem thI_01 (T : Ty) : thI T = 0 ∨ thI T = 1 := by
  unfold thI
  split
  · exact .inr rfl
  · exact .inl rfl
/-- the twin's number of a type -/
def tyT (σ : tS) (n : Nat) : Ty → Int → Prop
  | .leaf, t => t = -1
  | .inner k w _ l r, t => ∃ m : Nat, t = (m : Int) ∧ m < n ∧ ga σ 502 m = (k : Int) ∧ ga σ 506 m = (w : Int) ∧ tyT σ n l (ga σ 510 m) ∧ tyT σ n r (ga σ 514 m)
/-- the table has grown -/
def tx (σ : tS) (n : Nat) (τ : tS) (n' : Nat) : Prop := n ≤ n' ∧ ∀ f ∈ TYA, f ≠ 526 → ∀ x, x < n → ga τ f x = ga σ f x
theorem tx_refl (σ : tS) (n : Nat) : tx σ n σ n := ⟨Nat.le_refl _, fun _ _ _ _ _ => rfl⟩
theorem tx_trans {σ τ υ : tS} {n n' n2 : Nat} (A : tx σ n τ n') (B : tx τ n' υ n2) : tx σ n υ n2 := ⟨Nat.le_trans A.1 B.1, fun f hf c x hx => (B.2 f hf c x (Nat.lt_of_lt_of_le hx A.1)).trans (A.2 f hf c x hx)⟩
theorem tx_same {σ τ : tS} {n : Nat} (A : ∀ f ∈ TYA, ∀ x, ga τ f x = ga σ f x) : tx σ n τ n := ⟨Nat.le_refl _, fun f hf _ x _ => A f hf x⟩
theorem tyT_mono {σ τ : tS} {n n' : Nat} (X : tx σ n τ n') : ∀ {T : Ty} {t : Int}, tyT σ n T t → tyT τ n' T t
  | .leaf, _, c => c
  | .inner _ _ _ _ _, _, ⟨m, c1, c2, c3, c4, c5, c6⟩ => by
    refine ⟨m, c1, Nat.lt_of_lt_of_le c2 X.1, ?_, ?_, ?_, ?_⟩
    · rw [X.2 502 (by decide) (by decide) m c2]; exact c3
    · rw [X.2 506 (by decide) (by decide) m c2]; exact c4
    · rw [X.2 510 (by decide) (by decide) m c2]; exact tyT_mono X c5
    · rw [X.2 514 (by decide) (by decide) m c2]; exact tyT_mono X c6
theorem tyT_fun {σ : tS} {n : Nat} : ∀ {T T' : Ty} {t : Int}, tyT σ n T t → tyT σ n T' t → T = T'
  | .leaf, .leaf, _, _, _ => rfl
  | .leaf, .inner _ _ _ _ _, _, c, ⟨m, d, _⟩ => by have c' : _ = (-1 : Int) := c; omega
  | .inner _ _ _ _ _, .leaf, _, ⟨m, d, _⟩, c => by have c' : _ = (-1 : Int) := c; omega
  | .inner k w _ l r, .inner k' w' _ l' r', t, ⟨m, c1, c2, c3, c4, c5, c6⟩, ⟨m', d1, d2, d3, d4, d5, d6⟩ => by
    have e : m' = m := by omega
    rw [e] at d3 d4 d5 d6
    have e1 : k = k' := by omega
    have e2 : w = w' := by omega
    rw [e1, e2, tyT_fun c5 d5, tyT_fun c6 d6]
theorem tyT_lt {σ : tS} {n : Nat} {T : Ty} {t : Int} (c : tyT σ n T t) : t = -1 ∨ (0 ≤ t ∧ t < n) := by
  cases T with
  | leaf => exact .inl c
  | inner k w u l r => obtain ⟨m, c1, c2, _⟩ := c; exact .inr (by omega)
theorem tyT_inj {σ : tS} {n : Nat} (H : TyT σ n) : ∀ {T : Ty} {t t' : Int}, tyT σ n T t → tyT σ n T t' → t = t'
  | .leaf, _, _, c, d => by have c' : _ = (-1 : Int) := c; have d' : _ = (-1 : Int) := d; omega
  | .inner k w _ l r, t, t', ⟨m, c1, c2, c3, c4, c5, c6⟩, ⟨m', d1, d2, d3, d4, d5, d6⟩ => by
    have e := H.2.2.2.1 m m' c2 d2 ⟨by rw [c3, d3], by rw [c4, d4], tyT_inj H c5 d5, tyT_inj H c6 d6⟩
    rw [c1, d1, e]
/-- the form that types have: names, constructors, families, arrows with their parts -/
def shZ (k w o u : Int) : Prop := (k = 0 ∧ o = -1 ∧ u = -1) ∨ (k = 1 ∧ (0 ≤ w ∧ w ≤ 3) ∧ (o = -1 ↔ w < 2) ∧ (u = -1 ↔ w ≠ 3)) ∨ (k = 2 ∧ o ≠ -1 ∧ u = -1) ∨ (k = 3 ∧ w = 0 ∧ o ≠ -1 ∧ u ≠ -1)
def shT (k w : Nat) (l r : Ty) : Prop := (k = 0 ∧ l = .leaf ∧ r = .leaf) ∨ (k = 1 ∧ w ≤ 3 ∧ (l = .leaf ↔ w < 2) ∧ (r = .leaf ↔ w ≠ 3)) ∨ (k = 2 ∧ l ≠ .leaf ∧ r = .leaf) ∨ (k = 3 ∧ w = 0 ∧ l ≠ .leaf ∧ r ≠ .leaf)
def wfT : Ty → Prop
  | .leaf => True
  | .inner k w _ l r => shT k w l r ∧ wfT l ∧ wfT r
/-- the table, with sizes -/
def TyS (σ : tS) (n : Nat) : Prop := TyT σ n ∧ (∀ t, t < n → ga σ 518 t = tySz σ (ga σ 510 t) (ga σ 514 t) ∧ ga σ 530 t = tyHs σ (ga σ 502 t) (ga σ 510 t) (ga σ 514 t)) ∧ ∀ t, t < n → shZ (ga σ 502 t) (ga σ 506 t) (ga σ 510 t) (ga σ 514 t)
theorem tyT_0 {σ : tS} {n : Nat} {T : Ty} {t : Int} (c : tyT σ n T t) : T = .leaf ↔ t = -1 := by
  rcases T with ⟨k, w, u, l, r⟩ | _
  · obtain ⟨m, c1, _⟩ := c
    exact ⟨fun z => (by cases z), fun z => (by omega)⟩
  · exact ⟨fun _ => c, fun _ => rfl⟩
theorem tyT_wf {σ : tS} {n : Nat} (H : TyS σ n) : ∀ {T : Ty} {t : Int}, tyT σ n T t → wfT T
  | .leaf, _, _ => trivial
  | .inner k w _ l r, t, ⟨m, c1, c2, c3, c4, c5, c6⟩ => by
    refine ⟨?_, tyT_wf H c5, tyT_wf H c6⟩
    have s := H.2.2 m c2
    rw [c3, c4] at s
    unfold shT
    simp only [ne_eq, tyT_0 c5, tyT_0 c6]
    unfold shZ at s
    omega
theorem tyT_sz {σ : tS} {n : Nat} (H : TyS σ n) : ∀ {T : Ty} {t : Int}, tyT σ n T t → T ≠ .leaf → ga σ 518 t.toNat = tszW T ∧ ga σ 530 t.toNat = thI T
  | .leaf, _, _, q => absurd rfl q
  | .inner k w _ l r, t, ⟨m, c1, c2, c3, c4, c5, c6⟩, _ => by
    have tm : t.toNat = m := by omega
    obtain ⟨s1, s2⟩ := H.2.1 m c2
    have L : (if ga σ 510 m = -1 then (0 : Int) else ga σ 518 (ga σ 510 m).toNat) = tszW l ∧ ((ga σ 510 m ≠ -1 ∧ ga σ 530 (ga σ 510 m).toNat ≠ 0) ↔ thB l = true) := by
      rcases l with ⟨k1, w1, u1, l1, r1⟩ | _
      · obtain ⟨i1, i2⟩ := tyT_sz H c5 (fun z => by cases z)
        have q := tyT_lt c5
        obtain ⟨m1, e1, _⟩ := c5
        refine ⟨by rw [if_neg (by omega), i1], ?_⟩
        rw [i2]; unfold thI
        constructor
        · intro z
          by_cases y : thB (.inner k1 w1 u1 l1 r1) = true
          · exact y
          · rw [if_neg y] at z; exact absurd rfl z.2
        · intro z
          rw [if_pos z]
          exact ⟨by omega, by decide⟩
      · have e : ga σ 510 m = -1 := c5
        rw [if_pos e]
        exact ⟨rfl, fun z => absurd e z.1, fun z => by cases z⟩
    have R : (if ga σ 514 m = -1 then (0 : Int) else ga σ 518 (ga σ 514 m).toNat) = tszW r ∧ ((ga σ 514 m ≠ -1 ∧ ga σ 530 (ga σ 514 m).toNat ≠ 0) ↔ thB r = true) := by
      rcases r with ⟨k1, w1, u1, l1, r1⟩ | _
      · obtain ⟨i1, i2⟩ := tyT_sz H c6 (fun z => by cases z)
        obtain ⟨m1, e1, _⟩ := c6
        refine ⟨by rw [if_neg (by omega), i1], ?_⟩
        rw [i2]; unfold thI
        constructor
        · intro z
          by_cases y : thB (.inner k1 w1 u1 l1 r1) = true
          · exact y
          · rw [if_neg y] at z; exact absurd rfl z.2
        · intro z
          rw [if_pos z]
          exact ⟨by omega, by decide⟩
      · have e : ga σ 514 m = -1 := c6
        rw [if_pos e]
        exact ⟨rfl, fun z => absurd e z.1, fun z => by cases z⟩
    rw [tm]
    refine ⟨?_, ?_⟩
    · rw [s1]; unfold tySz; rw [L.1, R.1]; rfl
    · rw [s2, c3]; unfold tyHs thI
      have e : ((k : Int) = 2 ∨ (ga σ 510 m ≠ -1 ∧ ga σ 530 (ga σ 510 m).toNat ≠ 0) ∨ (ga σ 514 m ≠ -1 ∧ ga σ 530 (ga σ 514 m).toNat ≠ 0)) ↔ thB (.inner k w () l r) = true := by
        rw [L.2, R.2]
        show _ ↔ (k == 2 || thB l || thB r) = true
        rw [Bool.or_eq_true, Bool.or_eq_true, beq_iff_eq, or_assoc]
        constructor
        · rintro (z | z)
          · exact .inl (by omega)
          · exact .inr z
        · rintro (z | z)
          · exact .inl (by omega)
          · exact .inr z
      by_cases y : thB (.inner k w () l r) = true
      · rw [if_pos y, if_pos (e.mpr y)]
      · rw [if_neg y, if_neg (fun z => y (e.mp z))]
/-- THE TWIN'S NUMBER OF A TREE whose parts are there -/
theorem t_get {σ : tS} {n k w : Nat} {o u : Int} {l r : Ty} (H : TyS σ n) (hk : k ≤ 3) (ho : tyT σ n l o) (hu : tyT σ n r u) (hn : n < 126000) (sh : shZ (k : Int) (w : Int) o u) : ∃ (t : Int) (τ : tS) (n' : Nat), T_aType (k : Int) (w : Int) o u σ = some (t, τ) ∧ TyS τ n' ∧ tx σ n τ n' ∧ n' ≤ n + 1 ∧ tyT τ n' (tnd k w l r) t ∧ fr [532] TYA σ τ ∧ (∀ x, x < n' → ¬ x < n → ga τ 502 x = (k : Int) ∧ ga τ 506 x = (w : Int)) ∧ ((∃ t0, tyT σ n (tnd k w l r) t0) → τ = σ ∧ n' = n) := by
  obtain ⟨t, τ, n', e, T', ht, h1, h2, f, F, K, S1, S2⟩ := t_aType (w := (w : Int)) H.1 (k := (k : Int)) (by omega) (tyT_lt ho) (tyT_lt hu) hn
  have X : tx σ n τ n' := ⟨h1, K⟩
  obtain ⟨f1, f2, f3, f4⟩ := f
  have new : tyT τ n' (tnd k w l r) (t : Int) := ⟨t, rfl, ht, f1, f2, by rw [f3]; exact tyT_mono X ho, by rw [f4]; exact tyT_mono X hu⟩
  have hp : ∀ x, x < n → ∀ g, g = 510 ∨ g = 514 → ga σ g x = -1 ∨ ∃ p : Nat, ga σ g x = (p : Int) ∧ p < n := by
    intro x hx g hg
    have q := H.1.2.2.1 x hx
    rcases hg with rfl | rfl
    · rcases q.2.1 with z | ⟨p, z1, z2⟩
      · exact .inl z
      · exact .inr ⟨p, z1, by omega⟩
    · rcases q.2.2.1 with z | ⟨p, z1, z2⟩
      · exact .inl z
      · exact .inr ⟨p, z1, by omega⟩
  have sz : ∀ o u : Int, (o = -1 ∨ ∃ p : Nat, o = (p : Int) ∧ p < n) → (u = -1 ∨ ∃ p : Nat, u = (p : Int) ∧ p < n) → tySz τ o u = tySz σ o u ∧ ∀ kk, tyHs τ kk o u = tyHs σ kk o u := by
    intro o u ho hu
    have go : o ≠ -1 → ga τ 518 o.toNat = ga σ 518 o.toNat ∧ ga τ 530 o.toNat = ga σ 530 o.toNat := fun z => by
      rcases ho with ho | ⟨p, p1, p2⟩
      · exact absurd ho z
      · have : o.toNat < n := by omega
        exact ⟨K 518 (by decide) (by decide) _ this, K 530 (by decide) (by decide) _ this⟩
    have gu : u ≠ -1 → ga τ 518 u.toNat = ga σ 518 u.toNat ∧ ga τ 530 u.toNat = ga σ 530 u.toNat := fun z => by
      rcases hu with hu | ⟨p, p1, p2⟩
      · exact absurd hu z
      · have : u.toNat < n := by omega
        exact ⟨K 518 (by decide) (by decide) _ this, K 530 (by decide) (by decide) _ this⟩
    unfold tySz tyHs
    by_cases zo : o = -1
    · by_cases zu : u = -1
      · simp only [zo, zu, if_true, ne_eq, not_true_eq_false, false_and, or_false]; exact ⟨trivial, fun _ => trivial⟩
      · simp only [zo, if_true, ne_eq, not_true_eq_false, false_and, false_or, if_neg zu, (gu zu).1, (gu zu).2]; exact ⟨trivial, fun _ => trivial⟩
    · by_cases zu : u = -1
      · simp only [zu, if_true, ne_eq, not_true_eq_false, false_and, or_false, if_neg zo, (go zo).1, (go zo).2]; exact ⟨trivial, fun _ => trivial⟩
      · simp only [if_neg zo, if_neg zu, (go zo).1, (go zo).2, (gu zu).1, (gu zu).2]; exact ⟨trivial, fun _ => trivial⟩
  have lo : o = -1 ∨ ∃ p : Nat, o = (p : Int) ∧ p < n := by
    rcases tyT_lt ho with z | z
    · exact .inl z
    · exact .inr ⟨o.toNat, by omega, by omega⟩
  have lu : u = -1 ∨ ∃ p : Nat, u = (p : Int) ∧ p < n := by
    rcases tyT_lt hu with z | z
    · exact .inl z
    · exact .inr ⟨u.toNat, by omega, by omega⟩
  have et : ∀ x, x < n' → ¬ x < n → x = t ∧ t = n := by
    intro x hx c
    have en : n' = n + 1 := by omega
    have et : t = n := by
      by_cases d : t < n
      · have q := S2 d
        have := T'.1; rw [q, H.1.1] at this
        omega
      · omega
    omega
  have HS : TyS τ n' := by
    refine ⟨T', fun x hx => ?_, fun x hx => ?_⟩
    rotate_left
    · by_cases c : x < n
      · rw [K 502 (by decide) (by decide) x c, K 506 (by decide) (by decide) x c, K 510 (by decide) (by decide) x c, K 514 (by decide) (by decide) x c]
        exact H.2.2 x c
      · rw [(et x hx c).1, f1, f2, f3, f4]
        exact sh
    by_cases c : x < n
    · rw [K 518 (by decide) (by decide) x c, K 530 (by decide) (by decide) x c, K 502 (by decide) (by decide) x c, K 510 (by decide) (by decide) x c, K 514 (by decide) (by decide) x c]
      obtain ⟨q1, q2⟩ := sz (ga σ 510 x) (ga σ 514 x) (hp x c 510 (.inl rfl)) (hp x c 514 (.inr rfl))
      rw [q1, q2]
      exact H.2.1 x c
    · have en : n' = n + 1 := by omega
      have ex : x = n := by omega
      have et : t = n := by
        by_cases d : t < n
        · have q := S2 d
          have := T'.1; rw [q, H.1.1] at this
          omega
        · omega
      rw [ex, ← et, f1, f3, f4]
      obtain ⟨q1, q2⟩ := sz o u lo lu
      rw [q1, q2]
      exact S1 et
  refine ⟨(t : Int), τ, n', e, HS, X, h2, new, F, fun x hx c => by rw [(et x hx c).1]; exact ⟨f1, f2⟩, ?_⟩
  rintro ⟨t0, z⟩
  have e0 := tyT_inj T' (tyT_mono X z) new
  have lt0 := tyT_lt z
  have : t < n := by
    obtain ⟨m, m1, m2, _⟩ := z
    omega
  have eq := S2 this
  refine ⟨eq, ?_⟩
  have := T'.1; rw [eq, H.1.1] at this
  omega
/-! how big types are, how deep -/
def tsz : Ty → Nat
  | .leaf => 0
  | .inner _ _ _ l r => 1 + tsz l + tsz r
def tdp : Ty → Nat
  | .leaf => 0
  | .inner _ _ _ l r => 1 + max (tdp l) (tdp r)
/-- a type, of at most so many pieces, so deep -/
def tyQ (q k : Nat) (T : Ty) : Prop := T ≠ .leaf ∧ tsz T ≤ q ∧ tdp T ≤ k ∧ tsz T ≤ 2700
/-- the same of a type that stands in a program -/
def tyM (T : Ty) : Prop := T ≠ .leaf ∧ tsz T ≤ 2700 ∧ tdp T ≤ 59
theorem tyQ_le {q q' k : Nat} {T : Ty} (H : tyQ q k T) (h : q ≤ q') : tyQ q' k T := ⟨H.1, Nat.le_trans H.2.1 h, H.2.2⟩
theorem tyQ_M {q : Nat} {T : Ty} (H : tyQ q 59 T) : tyM T := ⟨H.1, H.2.2.2, H.2.2.1⟩
/-- a row of types, of so many pieces in all -/
def szL (σ : tS) (n : Nat) (ts : List Int) (q k : Nat) : Prop := ∃ qs : List Nat, qs.length = ts.length ∧ qs.sum ≤ q ∧ ∀ (i z : Nat) (t : Int), ts[i]? = some t → qs[i]? = some z → (t = -1 ∨ ∃ T, tyQ z k T ∧ tyT σ n T t)
theorem szL_keep {σ τ : tS} {n n' : Nat} {ts : List Int} {q k : Nat} (up : ∀ T t, tyT σ n T t → tyT τ n' T t) (H : szL σ n ts q k) : szL τ n' ts q k := by
  obtain ⟨qs, h1, h2, h3⟩ := H
  refine ⟨qs, h1, h2, fun i z t e1 e2 => ?_⟩
  rcases h3 i z t e1 e2 with w | ⟨T, w1, w2⟩
  · exact .inl w
  · exact .inr ⟨T, w1, up T t w2⟩
theorem szL_app {σ : tS} {n : Nat} {ts vs : List Int} {q q2 k : Nat} (H : szL σ n ts q k) (H2 : szL σ n vs q2 k) : szL σ n (ts ++ vs) (q + q2) k := by
  obtain ⟨qs, h1, h2, h3⟩ := H
  obtain ⟨rs, g1, g2, g3⟩ := H2
  refine ⟨qs ++ rs, by rw [List.length_append, List.length_append, h1, g1], by rw [List.sum_append]; omega, fun i z t e1 e2 => ?_⟩
  rcases Nat.lt_or_ge i ts.length with w | w
  · rw [List.getElem?_append_left w] at e1
    rw [List.getElem?_append_left (by omega)] at e2
    exact h3 i z t e1 e2
  · rw [List.getElem?_append_right w] at e1
    rw [List.getElem?_append_right (by omega), h1] at e2
    exact g3 _ z t e1 e2
theorem szL_le {σ : tS} {n : Nat} {ts : List Int} {q q2 k : Nat} (H : szL σ n ts q k) (h : q ≤ q2) : szL σ n ts q2 k := by
  obtain ⟨qs, h1, h2, h3⟩ := H
  exact ⟨qs, h1, by omega, h3⟩
theorem sum_2 : ∀ qs : List Nat, qs.getD 0 0 + qs.getD 1 0 ≤ qs.sum
  | [] => by simp
  | [a] => by simp
  | a :: b :: r => by simp
/-- the pieces of a part -/
theorem sz_U {σ : tS} {n k : Nat} {ts : List Int} {qs : List Nat} (h1 : qs.length = ts.length) (h3 : ∀ (i z : Nat) (t : Int), ts[i]? = some t → qs[i]? = some z → (t = -1 ∨ ∃ T, tyQ z k T ∧ tyT σ n T t)) (an : ∀ t ∈ ts, t ≠ -1) {i : Nat} {U : Ty} (d : tyT σ n U (ts.getD i (-1))) : tsz U ≤ qs.getD i 0 ∧ tdp U ≤ k := by
  rcases Nat.lt_or_ge i ts.length with z | z
  · have e2 : ts.getD i (-1) = ts[i] := by rw [List.getD_eq_getElem?_getD, List.getElem?_eq_getElem z]; rfl
    have zq : i < qs.length := by omega
    have e3 : qs.getD i 0 = qs[i] := by rw [List.getD_eq_getElem?_getD, List.getElem?_eq_getElem zq]; rfl
    rw [e2] at d
    rw [e3]
    rcases h3 i _ _ (List.getElem?_eq_getElem z) (List.getElem?_eq_getElem zq) with w | ⟨T, w1, w2⟩
    · exact absurd w (an _ (List.getElem_mem z))
    · rw [tyT_fun d w2]
      exact ⟨w1.2.1, w1.2.2.1⟩
  · have e2 : ts.getD i (-1) = -1 := by rw [List.getD_eq_getElem?_getD, List.getElem?_eq_none z]; rfl
    rw [e2] at d
    rw [(tyT_0 d).mpr rfl]
    exact ⟨Nat.zero_le _, Nat.zero_le _⟩
