set_option maxRecDepth 100000
/-! EXS AS TREES, in the twin -/
/-- what judging may write -/
abbrev JFS : List Nat := [452, 456, 532, 788, 808, 812, 816, 823, 827, 836, 856, 880, 884, 888]
abbrev JFA : List Nat := TYA ++ [830, 834, 842, 846, 850, 854]
def tkP (σ : tS) (v p : Nat) : Prop := ∃ k : Nat, ga σ 542 v = (k : Int) ∧ k < 4100 ∧ ga σ 474 k = (p : Int)
/-- a name -/
def nmTw (σ : tS) (n : Nat) (lb : XL) (hi v : Nat) : Prop := (∃ k : Nat, ga σ 542 v = (k : Int) ∧ k < 4100 ∧ ga σ 482 k = (lb.2.2.2.1 : Int) ∧ lb.2.2.2.1 < 2100) ∧ ((lb.2.1 = 0 ∧ ga σ 550 v = (lb.2.2.1 : Int)) ∨ (lb.2.1 ≠ 0 ∧ ga σ 550 v = -1 ∧ ga σ 642 lb.2.2.2.1 = (lb.2.2.1 : Int) ∧ ((lb.2.1 = 1 ∧ ga σ 638 lb.2.2.2.1 = 1) ∨ (lb.2.1 = 2 ∧ ga σ 638 lb.2.2.2.1 = 2) ∨ (lb.2.1 = 3 ∧ ga σ 638 lb.2.2.2.1 ≠ 1 ∧ ga σ 638 lb.2.2.2.1 ≠ 2)))) ∧ ∃ os : List Nat, chain σ (ga σ 546 v) os ∧ os.length = lb.2.2.2.2.2.length ∧ ∀ (i o : Nat) (a : Ty × Nat), os[i]? = some o → lb.2.2.2.2.2[i]? = some a → (v < o ∧ o < hi) ∧ tkP σ o a.2 ∧ tyT σ n a.1 (ga σ 550 o)
def gPl {L : Type} (lab : L → XL) : Std.DTreeMap.Internal.Impl L (fun _ => Unit) → Nat
  | .leaf => 0
  | .inner _ a _ _ _ => (lab a).1
/-- an ex's node; Φ: what else there is at each node -/
def XTg {L : Type} (lab : L → XL) (Φ : L → Nat → Prop) (σ : tS) (n : Nat) : Std.DTreeMap.Internal.Impl L (fun _ => Unit) → Nat → Nat → Nat → Prop
  | .leaf, _, _, _ => False
  | .inner t a _ l r, lo, hi, v => (lo ≤ v ∧ v < hi ∧ hi ≤ 4200) ∧ ga σ 538 v = (t : Int) ∧ Φ a v ∧
    (if t = 10 then v = lo ∧ tkP σ v (lab a).1 ∧ nmTw σ n (lab a) hi v
    else if t = 11 then tkP σ v (lab a).1
    else if t = 12 then v + 1 = hi ∧ (lab a).1 = gPl lab l ∧ ∃ (m x y : Nat), ga σ 546 v = (x : Int) ∧ ga σ 550 v = (y : Int) ∧ XTg lab Φ σ n l lo m x ∧ XTg lab Φ σ n r m v y
    else if t = 13 then v + 1 = hi ∧ (lab a).1 = gPl lab l ∧ tkP σ v (lab a).2.1 ∧ ∃ (m x : Nat), m ≤ v ∧ ga σ 546 v = (x : Int) ∧ XTg lab Φ σ n l lo m x
    else if t = 14 then v + 1 = hi ∧ tkP σ v (lab a).1 ∧ tyT σ n (lbT (lab a)) (ga σ 550 v) ∧ ∃ (m x : Nat), lo ≤ m ∧ ga σ 554 v = (x : Int) ∧ XTg lab Φ σ n l m v x
    else if t = 15 then v + 1 = hi ∧ tkP σ v (lab a).1 ∧ tyT σ n (lbT (lab a)) (ga σ 550 v) ∧ ∃ (m m' x y : Nat), lo ≤ m ∧ ga σ 554 v = (x : Int) ∧ ga σ 558 v = (y : Int) ∧ XTg lab Φ σ n l m m' x ∧ XTg lab Φ σ n r m' v y
    else if t = 18 then v + 1 = hi ∧ tkP σ v (lab a).1 ∧ (∃ k : Nat, ga σ 542 v = (k : Int) ∧ k < 4100 ∧ ((ga σ 470 k = 60 ∨ ga σ 470 k = 17) ↔ ((lab a).2.1 = 60 ∨ (lab a).2.1 = 61))) ∧ ∃ (m x y : Nat), ga σ 546 v = (x : Int) ∧ ga σ 550 v = (y : Int) ∧ XTg lab Φ σ n l lo m x ∧ XTg lab Φ σ n r m v y
    else match r with
      | .leaf => False
      | .inner t' _ _ r1 r2 => v + 1 = hi ∧ tkP σ v (lab a).1 ∧ t' = 0 ∧
        if t = 16 then ∃ (m m' x y z : Nat), ga σ 546 v = (x : Int) ∧ ga σ 550 v = (y : Int) ∧ ga σ 554 v = (z : Int) ∧ XTg lab Φ σ n l lo m x ∧ XTg lab Φ σ n r1 m m' y ∧ XTg lab Φ σ n r2 m' v z
        else if t = 17 then ∃ (m m' x y z : Nat), ga σ 546 v = (x : Int) ∧ ga σ 550 v = (y : Int) ∧ ga σ 558 v = (z : Int) ∧ XTg lab Φ σ n l lo m x ∧ XTg lab Φ σ n r1 m m' y ∧ XTg lab Φ σ n r2 m' v z
        else False)
/-- the same, one step -/
def XTb {L : Type} (lab : L → XL) (Φ : L → Nat → Prop) (σ : tS) (n : Nat) (W : Std.DTreeMap.Internal.Impl L (fun _ => Unit) → Nat → Nat → Nat → Prop) (t : Nat) (a : L) (l r : Std.DTreeMap.Internal.Impl L (fun _ => Unit)) (lo hi v : Nat) : Prop := (lo ≤ v ∧ v < hi ∧ hi ≤ 4200) ∧ ga σ 538 v = (t : Int) ∧ Φ a v ∧
    (if t = 10 then v = lo ∧ tkP σ v (lab a).1 ∧ nmTw σ n (lab a) hi v
    else if t = 11 then tkP σ v (lab a).1
    else if t = 12 then v + 1 = hi ∧ (lab a).1 = gPl lab l ∧ ∃ (m x y : Nat), ga σ 546 v = (x : Int) ∧ ga σ 550 v = (y : Int) ∧ W l lo m x ∧ W r m v y
    else if t = 13 then v + 1 = hi ∧ (lab a).1 = gPl lab l ∧ tkP σ v (lab a).2.1 ∧ ∃ (m x : Nat), m ≤ v ∧ ga σ 546 v = (x : Int) ∧ W l lo m x
    else if t = 14 then v + 1 = hi ∧ tkP σ v (lab a).1 ∧ tyT σ n (lbT (lab a)) (ga σ 550 v) ∧ ∃ (m x : Nat), lo ≤ m ∧ ga σ 554 v = (x : Int) ∧ W l m v x
    else if t = 15 then v + 1 = hi ∧ tkP σ v (lab a).1 ∧ tyT σ n (lbT (lab a)) (ga σ 550 v) ∧ ∃ (m m' x y : Nat), lo ≤ m ∧ ga σ 554 v = (x : Int) ∧ ga σ 558 v = (y : Int) ∧ W l m m' x ∧ W r m' v y
    else if t = 18 then v + 1 = hi ∧ tkP σ v (lab a).1 ∧ (∃ k : Nat, ga σ 542 v = (k : Int) ∧ k < 4100 ∧ ((ga σ 470 k = 60 ∨ ga σ 470 k = 17) ↔ ((lab a).2.1 = 60 ∨ (lab a).2.1 = 61))) ∧ ∃ (m x y : Nat), ga σ 546 v = (x : Int) ∧ ga σ 550 v = (y : Int) ∧ W l lo m x ∧ W r m v y
    else match r with
      | .leaf => False
      | .inner t' _ _ r1 r2 => v + 1 = hi ∧ tkP σ v (lab a).1 ∧ t' = 0 ∧
        if t = 16 then ∃ (m m' x y z : Nat), ga σ 546 v = (x : Int) ∧ ga σ 550 v = (y : Int) ∧ ga σ 554 v = (z : Int) ∧ W l lo m x ∧ W r1 m m' y ∧ W r2 m' v z
        else if t = 17 then ∃ (m m' x y z : Nat), ga σ 546 v = (x : Int) ∧ ga σ 550 v = (y : Int) ∧ ga σ 558 v = (z : Int) ∧ W l lo m x ∧ W r1 m m' y ∧ W r2 m' v z
        else False)
theorem XTg_e {L : Type} {lab : L → XL} {Φ : L → Nat → Prop} {σ : tS} {n t : Nat} {a : L} {u : Unit} {l r : Std.DTreeMap.Internal.Impl L (fun _ => Unit)} {lo hi v : Nat} : XTg lab Φ σ n (.inner t a u l r) lo hi v = XTb lab Φ σ n (XTg lab Φ σ n) t a l r lo hi v := by
  cases r with
  | leaf => rw [XTg]; rfl
  | inner _ _ _ _ _ => rw [XTg]; rfl
theorem XTg_l {L : Type} {lab : L → XL} {Φ : L → Nat → Prop} {σ : tS} {n lo hi v : Nat} : ¬ XTg lab Φ σ n .leaf lo hi v := fun h => by rw [XTg] at h; exact h
section LXT
variable {L : Type} {lab : L → XL} {Φ Φ' : L → Nat → Prop} {σ τ : tS} {n n' : Nat}
theorem XTg_in : ∀ {t : Std.DTreeMap.Internal.Impl L (fun _ => Unit)} {lo hi v : Nat}, XTg lab Φ σ n t lo hi v → lo ≤ v ∧ v < hi ∧ hi ≤ 4200
  | .leaf, _, _, _, h => (XTg_l h).elim
  | .inner _ _ _ _ _, _, _, _, h => by rw [XTg_e] at h; exact h.1
/-- arrays of nodes and tokens are left -/
abbrev NDA : List Nat := [470, 474, 482, 538, 542, 546, 550, 554, 558, 562, 638, 642]
def frN (σ τ : tS) : Prop := True ∧ ∀ f, f ∈ NDA → ∀ i, ga τ f i = ga σ f i
theorem frN_fr (F : fr JFS JFA σ τ) : frN σ τ := ⟨trivial, fun f hf i => F.2 f ((by decide : ∀ f ∈ NDA, f ∉ JFA) f hf) i⟩
theorem tkP_keepN (F : frN σ τ) {v p : Nat} (H : tkP σ v p) : tkP τ v p := by
  obtain ⟨k, k1, k2, k3⟩ := H
  exact ⟨k, by rw [F.2 542 (by decide)]; exact k1, k2, by rw [F.2 474 (by decide)]; exact k3⟩
theorem nmT_keepN (F : frN σ τ) (X : tx σ n τ n') {lb : XL} {hi v : Nat} (H : nmTw σ n lb hi v) : nmTw τ n' lb hi v := by
  obtain ⟨⟨k, k1, k2, k3, k4⟩, h2, os, o1, o2, o3⟩ := H
  refine ⟨⟨k, by rw [F.2 542 (by decide)]; exact k1, k2, by rw [F.2 482 (by decide)]; exact k3, k4⟩, ?_, os, by rw [F.2 546 (by decide)]; exact chain_keep o1 (fun o _ => F.2 562 (by decide) o), o2, fun i o a e1 e2 => ?_⟩
  · rw [F.2 550 (by decide), F.2 642 (by decide), F.2 638 (by decide)]
    exact h2
  · obtain ⟨a1, a2, a3⟩ := o3 i o a e1 e2
    exact ⟨a1, tkP_keepN F a2, by rw [F.2 550 (by decide)]; exact tyT_mono X a3⟩
/-- induction, with what lies two steps below -/
theorem tr_ind {P : Std.DTreeMap.Internal.Impl L (fun _ => Unit) → Prop} (h0 : P .leaf) (h1 : ∀ t a u l r, P l → P r → (∀ t' a' u' r1 r2, r = .inner t' a' u' r1 r2 → P r1 ∧ P r2) → P (.inner t a u l r)) : ∀ t, P t := by
  have Q : ∀ t : Std.DTreeMap.Internal.Impl L (fun _ => Unit), P t ∧ ∀ t' a' u' r1 r2, t = .inner t' a' u' r1 r2 → P r1 ∧ P r2 := fun t => by
    induction t with
    | leaf => exact ⟨h0, fun _ _ _ _ _ e => by cases e⟩
    | inner t a u l r ihl ihr =>
      refine ⟨h1 t a u l r ihl.1 ihr.1 ihr.2, fun t' a' u' r1 r2 e => ?_⟩
      injection e with e1 e2 e3 e4 e5
      rw [← e4, ← e5]
      exact ⟨ihl.1, ihr.1⟩
  exact fun t => (Q t).1
/-- it stays while others are judged -/
theorem XTg_keepN (F : frN σ τ) (X : tx σ n τ n') {lo0 hi0 : Nat} (hΦ : ∀ a v, lo0 ≤ v → v < hi0 → Φ a v → Φ' a v) : ∀ (t : Std.DTreeMap.Internal.Impl L (fun _ => Unit)) (lo hi v : Nat), lo0 ≤ lo → hi ≤ hi0 → XTg lab Φ σ n t lo hi v → XTg lab Φ' τ n' t lo hi v := by
  refine tr_ind (fun _ _ _ _ _ h => (XTg_l h).elim) (fun t a u l r ihl ihr ihp => ?_)
  intro lo hi v g1 g2 h
  rw [XTg_e] at h ⊢
  unfold XTb at h ⊢
  obtain ⟨h1, h2, h3, h4⟩ := h
  have e538 := F.2 538 (by decide) v
  have e546 := F.2 546 (by decide) v
  have e550 := F.2 550 (by decide) v
  have e554 := F.2 554 (by decide) v
  have e558 := F.2 558 (by decide) v
  refine ⟨h1, by rw [e538]; exact h2, hΦ a v (by omega) (by omega) h3, ?_⟩
  by_cases t10 : t = 10
  · rw [if_pos t10] at h4 ⊢
    exact ⟨h4.1, tkP_keepN F h4.2.1, nmT_keepN F X h4.2.2⟩
  rw [if_neg t10] at h4 ⊢
  by_cases t11 : t = 11
  · rw [if_pos t11] at h4 ⊢
    exact tkP_keepN F h4
  rw [if_neg t11] at h4 ⊢
  by_cases t12 : t = 12
  · rw [if_pos t12] at h4 ⊢
    obtain ⟨a1, a2, m, x, y, a3, a4, a5, a6⟩ := h4
    exact ⟨a1, a2, m, x, y, by rw [e546]; exact a3, by rw [e550]; exact a4, ihl _ _ _ g1 (by have := XTg_in a6; omega) a5, ihr _ _ _ (by have := XTg_in a5; omega) (by omega) a6⟩
  rw [if_neg t12] at h4 ⊢
  by_cases t13 : t = 13
  · rw [if_pos t13] at h4 ⊢
    obtain ⟨a1, a2, a3, m, x, a4, a5, a6⟩ := h4
    exact ⟨a1, a2, tkP_keepN F a3, m, x, a4, by rw [e546]; exact a5, ihl _ _ _ g1 (by omega) a6⟩
  rw [if_neg t13] at h4 ⊢
  by_cases t14 : t = 14
  · rw [if_pos t14] at h4 ⊢
    obtain ⟨a1, a2, a3, m, x, a4, a5, a6⟩ := h4
    exact ⟨a1, tkP_keepN F a2, by rw [e550]; exact tyT_mono X a3, m, x, a4, by rw [e554]; exact a5, ihl _ _ _ (by omega) (by omega) a6⟩
  rw [if_neg t14] at h4 ⊢
  by_cases t15 : t = 15
  · rw [if_pos t15] at h4 ⊢
    obtain ⟨a1, a2, a3, m, m', x, y, a4, a5, a6, a7, a8⟩ := h4
    exact ⟨a1, tkP_keepN F a2, by rw [e550]; exact tyT_mono X a3, m, m', x, y, a4, by rw [e554]; exact a5, by rw [e558]; exact a6, ihl _ _ _ (by omega) (by have := XTg_in a8; omega) a7, ihr _ _ _ (by have := XTg_in a7; omega) (by omega) a8⟩
  rw [if_neg t15] at h4 ⊢
  by_cases t18 : t = 18
  · rw [if_pos t18] at h4 ⊢
    obtain ⟨a1, a2, ⟨k, k1, k2, k3⟩, m, x, y, a4, a5, a6, a7⟩ := h4
    exact ⟨a1, tkP_keepN F a2, ⟨k, by rw [F.2 542 (by decide)]; exact k1, k2, by rw [F.2 470 (by decide)]; exact k3⟩, m, x, y, by rw [e546]; exact a4, by rw [e550]; exact a5, ihl _ _ _ g1 (by have := XTg_in a7; omega) a6, ihr _ _ _ (by have := XTg_in a6; omega) (by omega) a7⟩
  rw [if_neg t18] at h4 ⊢
  cases r with
  | leaf => exact h4
  | inner t' a' u' r1 r2 =>
    obtain ⟨p1, p2⟩ := ihp t' a' u' r1 r2 rfl
    obtain ⟨a1, a2, a3, h5⟩ := h4
    refine ⟨a1, tkP_keepN F a2, a3, ?_⟩
    by_cases t16 : t = 16
    · rw [if_pos t16] at h5 ⊢
      obtain ⟨m, m', x, y, z, b1, b2, b3, b4, b5, b6⟩ := h5
      exact ⟨m, m', x, y, z, by rw [e546]; exact b1, by rw [e550]; exact b2, by rw [e554]; exact b3, ihl _ _ _ g1 (by have := XTg_in b5; have := XTg_in b6; omega) b4, p1 _ _ _ (by have := XTg_in b4; omega) (by have := XTg_in b6; omega) b5, p2 _ _ _ (by have := XTg_in b4; have := XTg_in b5; omega) (by omega) b6⟩
    rw [if_neg t16] at h5 ⊢
    by_cases t17 : t = 17
    · rw [if_pos t17] at h5 ⊢
      obtain ⟨m, m', x, y, z, b1, b2, b3, b4, b5, b6⟩ := h5
      exact ⟨m, m', x, y, z, by rw [e546]; exact b1, by rw [e550]; exact b2, by rw [e558]; exact b3, ihl _ _ _ g1 (by have := XTg_in b5; have := XTg_in b6; omega) b4, p1 _ _ _ (by have := XTg_in b4; omega) (by have := XTg_in b6; omega) b5, p2 _ _ _ (by have := XTg_in b4; have := XTg_in b5; omega) (by omega) b6⟩
    rw [if_neg t17] at h5
    exact h5.elim
theorem tkP_keep (F : fr JFS JFA σ τ) {v p : Nat} (H : tkP σ v p) : tkP τ v p := tkP_keepN (frN_fr F) H
theorem nmT_keep (F : fr JFS JFA σ τ) (X : tx σ n τ n') {lb : XL} {hi v : Nat} (H : nmTw σ n lb hi v) : nmTw τ n' lb hi v := nmT_keepN (frN_fr F) X H
theorem XTg_keep (F : fr JFS JFA σ τ) (X : tx σ n τ n') {lo0 hi0 : Nat} (hΦ : ∀ a v, lo0 ≤ v → v < hi0 → Φ a v → Φ' a v) : ∀ (t : Std.DTreeMap.Internal.Impl L (fun _ => Unit)) (lo hi v : Nat), lo0 ≤ lo → hi ≤ hi0 → XTg lab Φ σ n t lo hi v → XTg lab Φ' τ n' t lo hi v := XTg_keepN (frN_fr F) X hΦ
end LXT
