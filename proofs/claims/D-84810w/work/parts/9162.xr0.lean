set_option maxRecDepth 100000
section LX3
variable {G : om_G} {A : Nat} {S : List Int} {b : Nat} {h h' : om_H} {σ τ : tS}
theorem atW_in {z : Nat} : ∀ {ws os : List Nat} {lo hi alo ahi : Nat}, atW A S b h σ z ws os lo hi alo ahi → lo ≤ hi ∧ alo ≤ ahi ∧ (∀ o ∈ os, lo ≤ o ∧ o < hi) ∧ ws.length = os.length
  | [], [], _, _, _, _, r => ⟨Nat.le_of_eq r.1, r.2, fun _ h => absurd h List.not_mem_nil, rfl⟩
  | w :: ws, o :: os, lo, hi, alo, ahi, ⟨kk, a1, a2, p, q1, q3, r1, r2, r3⟩ => by
    obtain ⟨c1, c2, c3, c4⟩ := atW_in r3
    have i := WR_in r1
    refine ⟨by omega, by omega, fun o' ho => ?_, by simp [c4]⟩
    rcases List.mem_cons.mp ho with rfl | ho
    · omega
    · have := c3 o' ho; omega
  | [], _ :: _, _, _, _, _, r => r.elim
  | _ :: _, [], _, _, _, _, r => r.elim
/-- all nodes of a range are as they were -/
def nall (lo hi : Nat) (σ τ : tS) : Prop := ∀ f ∈ PA, ∀ i, lo ≤ i → i < hi → ga τ f i = ga σ f i
theorem nall_nk {lo hi lo' hi' n : Nat} (K : nall lo hi σ τ) (h1 : lo ≤ lo') (h2 : hi' ≤ hi) : nk lo' hi' n σ τ := ⟨fun f hf _ i c d => K f hf i (by omega) (by omega), fun i c d _ => K 562 (by simp) i (by omega) (by omega)⟩
theorem nd_nall {M lo hi : Nat} (D : nd σ τ M) (h : hi ≤ M) : nall lo hi σ τ := fun f hf i _ d => D.2 f hf i (by omega)
/-- the same at these addresses, but at z -/
def hkz (z alo ahi : Nat) (h h' : om_H) : Prop := ∀ a, alo ≤ a → a < ahi → a ≠ z → kd h' a = kd h a ∧ (∀ f, fI h' f a = fI h f a) ∧ (∀ f, fR h' f a = fR h f a) ∧ ll h' a = ll h a ∧ lc h' a = lc h a
theorem atW_keep {z : Nat} : ∀ {ws os : List Nat} {lo hi alo ahi : Nat}, atW A S b h σ z ws os lo hi alo ahi → hkz z alo ahi h h' → nall lo hi σ τ → atW A S b h' τ z ws os lo hi alo ahi
  | [], [], _, _, _, _, r, _, _ => r
  | w :: ws, o :: os, lo, hi, alo, ahi, ⟨kk, a1, a2, p, q1, q3, r1, r2, r3⟩, K, L => by
    obtain ⟨c1, c2, c3, c4⟩ := atW_in r3
    have i := WR_in r1
    exact ⟨kk, a1, a2, p, q1, q3, WR_keep r1 (fun x d e => K x (by omega) (by omega) (by omega)) (nall_nk L (Nat.le_refl _) (by omega)), by rw [L 546 (by simp) o (by omega) (by omega)]; exact r2, atW_keep r3 (fun x d e f => K x (by omega) (by omega) f) (fun f hf x d e => L f hf x (by omega) e)⟩
  | [], _ :: _, _, _, _, _, r, _, _ => r.elim
  | _ :: _, [], _, _, _, _, r, _, _ => r.elim
theorem atW_app {z : Nat} : ∀ {ws os : List Nat} {lo mid alo amid ahi a1 a2 w o p : Nat}, atW A S b h σ z ws os lo mid alo amid → amid ≤ a1 → (z < a1 ∨ a2 ≤ z) → a2 ≤ ahi → WR A S b h σ 59 mid o a1 a2 w p → ga σ 546 o = (p : Int) → atW A S b h σ z (ws ++ [w]) (os ++ [o]) lo (o + 1) alo ahi
  | [], [], lo, mid, alo, amid, ahi, a1, a2, w, o, p, r, h1, h2, h3, r1, r2 => ⟨0, a1, a2, p, by have := r.2; omega, h2, by rw [r.1]; exact r1, r2, rfl, h3⟩
  | w' :: ws, o' :: os, lo, mid, alo, amid, ahi, a1, a2, w, o, p, ⟨kk', a1', a2', p', q1, q3, s1, s2, s3⟩, h1, h2, h3, r1, r2 => ⟨kk', a1', a2', p', q1, q3, s1, s2, atW_app s3 h1 h2 h3 r1 r2⟩
  | [], _ :: _, _, _, _, _, _, _, _, _, _, _, r, _, _, _, _, _ => r.elim
  | _ :: _, [], _, _, _, _, _, _, _, _, _, _, r, _, _, _, _, _ => r.elim
theorem atW_wide {z : Nat} : ∀ {ws os : List Nat} {lo hi alo ahi ahi' : Nat}, atW A S b h σ z ws os lo hi alo ahi → ahi ≤ ahi' → atW A S b h σ z ws os lo hi alo ahi'
  | [], [], _, _, _, _, _, r, h => ⟨r.1, Nat.le_trans r.2 h⟩
  | w :: ws, o :: os, lo, hi, alo, ahi, ahi', ⟨kk, a1, a2, p, q1, q3, r1, r2, r3⟩, h => ⟨kk, a1, a2, p, q1, q3, r1, r2, atW_wide r3 h⟩
  | [], _ :: _, _, _, _, _, _, r, _ => r.elim
  | _ :: _, [], _, _, _, _, _, r, _ => r.elim
theorem Psi0_keep {lo hi alo ahi : Nat} (K : hk alo ahi h h') (L : nall lo hi σ τ) : psi lo hi alo ahi (Psi0 A S b h σ) (Psi0 A S b h' τ) := by
  intro tag lo' hi' alo' ahi' a n q i3 i4 i1 i2 w
  obtain ⟨k1, k2, k3, k4, k5⟩ := K a i3 i4
  have v1 := w.1
  have v2 := w.2.1
  replace w := w.2.2
  refine ⟨fun z => by rw [k3]; exact v1 z, fun z => by rw [k2, k2, k3, k3, k3, k3]; exact v2 z, ?_⟩
  by_cases c10 : tag = 19
  · rw [if_pos c10] at w ⊢
    obtain ⟨q1, q2, q3, q4⟩ := q (by rw [c10]; decide)
    obtain ⟨os, w1, w2, w3, w6⟩ := w
    rw [L 546 (by simp) n i1 i2, k3]
    obtain ⟨c1, c2, c3, c4⟩ := atW_in w6
    refine ⟨os, chain_keep w1 (fun o ho => L 562 (by simp) o (by have := c3 o ho; omega) (by have := c3 o ho; omega)), w2, w3, ?_⟩
    rw [(K _ (by omega) (by omega)).2.2.2.1]
    exact atW_keep w6 (fun x d e _ => K x (by omega) (by omega)) (fun f hf x d e => L f hf x (by omega) (by omega))
  · rw [if_neg c10] at w ⊢
    by_cases c14 : tag = 14
    · rw [if_pos c14] at w ⊢
      obtain ⟨q1, q2, q3, q4⟩ := q (by rw [c14]; decide)
      obtain ⟨kk, p, w1, w2⟩ := w
      exact ⟨kk, p, by rw [L 550 (by simp) n i1 i2]; exact w1, by rw [k3]; exact WR_keep w2 (hk_sub K q3 q4) (nall_nk L q1 q2)⟩
    · rw [if_neg c14] at w ⊢
      by_cases c15 : tag = 15
      · rw [if_pos c15] at w ⊢
        obtain ⟨q1, q2, q3, q4⟩ := q (by rw [c15]; decide)
        obtain ⟨kk, p, w1, w2⟩ := w
        exact ⟨kk, p, by rw [L 550 (by simp) n i1 i2]; exact w1, by rw [k3]; exact WR_keep w2 (hk_sub K q3 q4) (nall_nk L q1 q2)⟩
      · rw [if_neg c15] at w ⊢
        by_cases c13 : tag = 13
        · rw [if_pos c13] at w ⊢
          obtain ⟨q1, q2, q3, q4⟩ := q (by rw [c13]; decide)
          obtain ⟨kk, p, w1, w2⟩ := w
          exact ⟨kk, p, by rw [L 550 (by simp) n i1 i2]; exact w1, by rw [k3]; exact WR_keep w2 (hk_sub K q3 q4) (nall_nk L q1 q2)⟩
        · rw [if_neg c13] at w ⊢
          trivial
/-- an ex as it is just read -/
abbrev X0 (G : om_G) (A : Nat) (S : List Int) (b : Nat) (h : om_H) (σ : tS) : Nat → Nat → Nat → Nat → Nat → Nat → Nat → Prop := XR G A S b h σ (Psi0 A S b h σ)
theorem kp0 {lo hi alo ahi : Nat} (K : hk alo ahi h h') (L : nall lo hi σ τ) : kp lo hi alo ahi h h' σ τ (Psi0 A S b h σ) (Psi0 A S b h' τ) :=
  ⟨fun a c d => ⟨(K a c d).1, fun f _ => (K a c d).2.1 f, fun f _ => (K a c d).2.2.1 f, (K a c d).2.2.2.1⟩, fun i c d => ⟨fun f hf => L f (by simp only [List.mem_cons, List.not_mem_nil, or_false] at hf ⊢; omega) i c d, fun _ => L 562 (by simp) i c d, fun _ => L 550 (by simp) i c d⟩, Psi0_keep K L⟩
theorem X0_keep {k lo hi alo ahi a n : Nat} (w : X0 G A S b h σ k lo hi alo ahi a n) (K : hk alo ahi h h') (L : nall lo hi σ τ) : X0 G A S b h' τ k lo hi alo ahi a n := XR_keep w (kp0 K L)
theorem hk_refl {alo ahi : Nat} (h : om_H) : hk alo ahi h h := fun _ _ _ => ⟨rfl, fun _ => rfl, fun _ => rfl, rfl, rfl⟩
theorem hk_trans {alo ahi : Nat} {h1 h2 h3 : om_H} (K : hk alo ahi h1 h2) (L : hk alo ahi h2 h3) : hk alo ahi h1 h3 := fun a c d => ⟨(L a c d).1.trans (K a c d).1, fun f => ((L a c d).2.1 f).trans ((K a c d).2.1 f), fun f => ((L a c d).2.2.1 f).trans ((K a c d).2.2.1 f), (L a c d).2.2.2.1.trans (K a c d).2.2.2.1, (L a c d).2.2.2.2.trans (K a c d).2.2.2.2⟩
theorem hk_sR {alo ahi f a x : Nat} (ha : a < alo ∨ ahi ≤ a) (h : om_H) : hk alo ahi h (sR h f a x) := fun z c d => ⟨rfl, fun _ => rfl, fun g => by rw [fR_sR, if_neg (by omega)], rfl, rfl⟩
theorem hk_sI {alo ahi f a : Nat} {x : Int} (ha : a < alo ∨ ahi ≤ a) (h : om_H) : hk alo ahi h (sI h f a x) := fun z c d => ⟨rfl, fun g => by rw [fI_sI, if_neg (by omega)], fun _ => rfl, rfl, rfl⟩
theorem hk_nO {alo ahi : Nat} (k n : Nat) (h : om_H) (ha : ahi ≤ hz h) : hk alo ahi h (nO h k n) := fun z c d => ⟨by rw [kd_nO, if_neg (by omega)], fun g => by rw [fI_nO, if_neg (by omega)], fun g => by rw [fR_nO, if_neg (by omega)], rfl, rfl⟩
theorem hk_add {alo ahi a x : Nat} (h : om_H) (ha : a < alo ∨ ahi ≤ a) (hk' : kd h a = 42) (hl : (ll h a).length ≤ lc h a) : hk alo ahi h (addL h a x) := fun z c d => ⟨addL_kd _ _ _ _ hk', fun g => addL_fI _ _ _ _ _, fun g => addL_fR _ _ _ _ _, by rw [addL_ll _ _ _ _ hl, if_neg (by omega)], addL_lc _ _ _ _ (by omega)⟩
theorem nall_trans {lo hi : Nat} {υ : tS} (K : nall lo hi σ τ) (L : nall lo hi τ υ) : nall lo hi σ υ := fun f hf i c d => (L f hf i c d).trans (K f hf i c d)
end LX3
/-- what comes of reading an ex -/
def PX (G : om_G) (A : Nat) (S : List Int) (b K i M : Nat) (h : om_H) (j M' : Nat) (τ : tS) (h' : om_H) (v : Int) (w : Nat) : Prop := ∃ nT : Nat, v = (nT : Int) ∧ i < j ∧ X0 G A S b h' τ K M M' (hz h) (hz h') w nT ∧ M < M' ∧ M' + 1 ≤ M + 2 * (j - i) ∧ hz h' + 10 ≤ hz h + 20 * (j - i) ∧ hu h' + 100 ≤ hu h + 300 * (j - i)
def RXall (G : om_G) (A t : Nat) (N : List (List Int)) (S : List Int) (b m K : Nat) (n : Int) (rT : tS → Option (Int × tS)) (rC : Nat → om_H → Option ((Nat ⊕ Nat) × om_H)) : Prop :=
  ∀ (i M : Nat) (σ : tS) (h : om_H), At G A t N S b m i n M σ h → M + 3 * (m - i) + 60 ≤ 8400 → RO G A t N S b m i n M σ h (PX G A S b K i M h) (rT σ) (rC t h)
section LX4
variable {G : om_G} {A t : Nat} {N : List (List Int)} {S : List Int} {b m K : Nat} {nc : Int} {rT : tS → Option (Int × tS)} {rC : Nat → om_H → Option ((Nat ⊕ Nat) × om_H)}
theorem PX_n {i M j M' : Nat} {h h' : om_H} {τ : tS} {v : Int} {w : Nat} (P : PX G A S b K i M h j M' τ h' v w) : ∃ nT : Nat, v = (nT : Int) ∧ i < j ∧ X0 G A S b h' τ K M M' (hz h) (hz h') w nT ∧ M < M' ∧ M' + 1 ≤ M + 2 * (j - i) ∧ hz h' + 10 ≤ hz h + 20 * (j - i) ∧ hu h' + 100 ≤ hu h + 300 * (j - i) := P
/-- reading a type, as an outcome -/
theorem type_RO (hG : om_okG G) {i M : Nat} {σ : tS} {h : om_H} (hn : 0 ≤ nc ∧ nc ≤ 20) (H : At G A t N S b m i nc M σ h) (hM : M + 3 * (m - i) + 60 ≤ 8400) : RO G A t N S b m i nc M σ h (fun j M' τ h' v w => ∃ nT k : Nat, v = ((nT : Nat) : Int) ∧ i < j ∧ WR A S b h' τ 59 M M' (hz h) (hz h') w nT ∧ ga τ 562 nT = -1 ∧ M < M' ∧ M' ≤ M + (j - i) ∧ hz h' + 1 ≤ hz h + 8 * (j - i) ∧ hu h' + 30 ≤ hu h + 100 * (j - i)) (T_readType σ) (C_0_readType G t h) :=
  RelT_RO (by omega) (readType_rel hG (20 - nc).toNat 30 30 nc (by omega) hn.1 (by omega) (by omega) i M σ h H.1 H.2.1 H.2.2 (by omega))
theorem typeF30 (hn : 0 ≤ nc ∧ nc ≤ 20) : RFall N S b m nc 1 T_readType := typeF (by omega) 29
end LX4
