set_option maxRecDepth 100000
/-! READING BOTH: both stand at a token; an outcome is either good in both or a fault of the grammar at one place in both -/
def At (G : om_G) (A t : Nat) (N : List (List Int)) (S : List Int) (b m i : Nat) (n : Int) (M : Nat) (σ : tS) (h : om_H) : Prop := Tst σ N S b m i n M ∧ Cst G h t S i n ∧ fR h 1122 t = A
/-- the twin goes on behind a fault -/
def TFo {α : Type} (N : List (List Int)) (S : List Int) (b m : Nat) (p n : Int) (M0 : Nat) (σ0 : tS) (M c : Nat) (X : Option (α × tS)) : Prop := ∃ (v : α) (τ : tS) (M' : Nat), X = some (v, τ) ∧ Tfl τ N S b m p n M' ∧ nd σ0 τ M0 ∧ M ≤ M' ∧ M' ≤ M + c
/-- the outcome of reading, from the base i n M σ h on -/
def RO {α β : Type} (G : om_G) (A t : Nat) (N : List (List Int)) (S : List Int) (b m i : Nat) (n : Int) (M : Nat) (σ : tS) (h : om_H) (P : Nat → Nat → tS → om_H → α → β → Prop) (X : Option (α × tS)) (Y : Option ((Nat ⊕ β) × om_H)) : Prop :=
  (∃ (j M' : Nat) (τ : tS) (h' : om_H) (v : α) (w : β), X = some (v, τ) ∧ Y = some (.inr w, h') ∧ i ≤ j ∧ At G A t N S b m j n M' τ h' ∧ nd σ τ M ∧ hx t h h' ∧ M ≤ M' ∧ P j M' τ h' v w) ∨
  (∃ (jf M' : Nat) (τ : tS) (v : α) (e : Nat) (h' : om_H), X = some (v, τ) ∧ Y = some (.inl e, h') ∧ i ≤ jf ∧ jf ≤ m ∧ Tfl τ N S b m (tokq S jf) n M' ∧ nd σ τ M ∧ hx t h h' ∧ flt h' e 1 (tokq S jf) ∧ M ≤ M' ∧ M' ≤ M + 3 * (jf - i) + 20 ∧ hz h' ≤ hz h + 20 * (jf - i) + 20 ∧ hu h' ≤ hu h + 300 * (jf - i) + 300)
/-- from the base to where we are -/
def lnk (t i0 M0 : Nat) (σ0 : tS) (h0 : om_H) (i M : Nat) (σ : tS) (h : om_H) : Prop := i0 ≤ i ∧ nd σ0 σ M0 ∧ M0 ≤ M ∧ hx t h0 h ∧ hz h ≤ hz h0 + 20 * (i - i0) ∧ hu h ≤ hu h0 + 300 * (i - i0)
section LRO
variable {G : om_G} {A t : Nat} {N : List (List Int)} {S : List Int} {b m i i0 : Nat} {n nc nE p : Int} {M M0 M' c : Nat} {σ σ0 : tS} {h h0 : om_H} {α β γ δ : Type} {P : Nat → Nat → tS → om_H → γ → δ → Prop}
theorem lnk_refl : lnk t i M σ h i M σ h := ⟨Nat.le_refl _, nd_refl _ _, Nat.le_refl _, hx_refl _ _, by omega, by omega⟩
theorem At_i (H : At G A t N S b m i n M σ h) : i ≤ m := H.1.2.2.1
theorem At_tk (H : At G A t N S b m (i + 1) n M σ h) : tokk S i ≠ 0 := H.1.1.2.2.2 i (by have := At_i H; omega)
theorem At_kd (H : At G A t N S b m i n M σ h) : kd h t = 15 := Cst_kd H.2.1
theorem At_t (H : At G A t N S b m i n M σ h) : t < hz h := H.2.1.2.2.1
theorem At_onlyT {h' : om_H} {τ : tS} {j : Nat} (H : At G A t N S b m i n M σ h) (X : onlyT t h h') (K : Cst G h' t S j n) (T : Tst τ N S b m j n M) : At G A t N S b m j n M τ h' := ⟨T, K, by rw [X.2.2.2.2.2.2.2.2.2.2.2.2]; exact H.2.2⟩
/-- a write to an object of one's own -/
theorem At_sR (H : At G A t N S b m i n M σ h) {f a x : Nat} (ha : a ≠ t) : At G A t N S b m i n M σ (sR h f a x) := ⟨H.1, Cst_gen H.2.1 rfl rfl rfl (fun _ => rfl) (fun _ => rfl) (fun g => by rw [fR_sR, if_neg (fun z => ha z.2.symm)]) (Nat.le_refl _), by rw [fR_sR, if_neg (fun z => ha z.2.symm)]; exact H.2.2⟩
theorem At_sI (H : At G A t N S b m i n M σ h) {f a : Nat} {x : Int} (ha : a ≠ t) : At G A t N S b m i n M σ (sI h f a x) := ⟨H.1, Cst_gen H.2.1 rfl rfl rfl (fun _ => rfl) (fun g => by rw [fI_sI, if_neg (fun z => ha z.2.symm)]) (fun _ => rfl) (Nat.le_refl _), H.2.2⟩
theorem At_nO (H : At G A t N S b m i n M σ h) (k n' : Nat) : At G A t N S b m i n M σ (nO h k n') := by
  have h1 := H.2.1.2.2.1
  have h2 := H.2.1.2.2.2
  refine ⟨H.1, Cst_sameT H.2.1 (hx_nO h k n') ⟨fun f => by rw [fI_nO, if_neg (by omega)], fun f => by rw [fR_nO, if_neg (by omega)]⟩, by rw [fR_nO, if_neg (by omega)]; exact H.2.2⟩
theorem At_gL (H : At G A t N S b m i n M σ h) {a : Nat} {l : List Nat} {c n' u : Nat} (ha : a ≠ t) (hb : a ≠ A) : At G A t N S b m i n M σ (gL h a l c n' u) :=
  ⟨H.1, Cst_gen H.2.1 (by rw [kd_gL, if_neg (fun z => ha z.symm)]) (by rw [H.2.2, kd_gL, if_neg (fun z => hb z.symm)]) rfl (fun _ => rfl) (fun _ => rfl) (fun _ => rfl) (by rw [hz_gL]; omega), H.2.2⟩
theorem At_A (H : At G A t N S b m i n M σ h) : A < hz h := by have := H.2.1.2.2.2; rw [H.2.2] at this; exact this
theorem At_add (H : At G A t N S b m i n M σ h) {a x : Nat} (hk : kd h a = 42) (hl : (ll h a).length ≤ lc h a) (hc : lc h a ≤ 2 * (ll h a).length + 10) : At G A t N S b m i n M σ (addL h a x) := ⟨H.1, Cst_add H.2.1 hk hl hc, by rw [addL_fR]; exact H.2.2⟩
theorem RO_gd {q : Prop} {X : Option (γ × tS)} {Y : Option ((Nat ⊕ δ) × om_H)} (hq : q) (R : RO G A t N S b m i n M σ h P X Y) : RO G A t N S b m i n M σ h P X (gd q Y) := by rw [gd_pos hq]; exact R
/-- a fault found now -/
theorem RO_fault {X : Option (γ × tS)} {Y : Option ((Nat ⊕ δ) × om_H)} {jf e : Nat} {h' : om_H} (L : lnk t i0 M0 σ0 h0 i M σ h) (h1 : i ≤ jf) (h2 : jf ≤ m) (M1 : M ≤ M') (M2 : M' + c ≤ M0 + 3 * (jf - i0) + 20) (T : TFo N S b m (tokq S jf) nE M0 σ0 M' c X) (hY : Y = some (.inl e, h')) (x : hx t h h') (f : flt h' e 1 (tokq S jf)) (z1 : hz h' ≤ hz h + 20 * (jf - i) + 20) (z2 : hu h' ≤ hu h + 300 * (jf - i) + 300) : RO G A t N S b m i0 nE M0 σ0 h0 P X Y := by
  obtain ⟨v, τ, M2', e1, e2, e3, e4, e5⟩ := T
  obtain ⟨l1, l2, l3, l4, l5, l6⟩ := L
  exact .inr ⟨jf, M2', τ, v, e, h', e1, hY, by omega, h2, e2, e3, hx_trans l4 x, f, by omega, by omega, by omega, by omega⟩
theorem RO_bind {P1 : Nat → Nat → tS → om_H → α → β → Prop} {X : Option (α × tS)} {Y : Option ((Nat ⊕ β) × om_H)} {F : α × tS → Option (γ × tS)} {g : β → om_H → Option ((Nat ⊕ δ) × om_H)} (c : Nat) (L : lnk t i0 M0 σ0 h0 i M σ h) (hc : M + c ≤ M0 + 3 * (i - i0)) (h84 : M0 + 3 * (m - i0) + 60 ≤ 8400) (hi : i ≤ m) (R : RO G A t N S b m i nc M σ h P1 X Y)
    (ok : ∀ (j M' : Nat) (τ : tS) (h' : om_H) (v : α) (w : β), i ≤ j → At G A t N S b m j nc M' τ h' → nd σ τ M → hx t h h' → M ≤ M' → P1 j M' τ h' v w → RO G A t N S b m i0 nE M0 σ0 h0 P (F (v, τ)) (g w h'))
    (tf : ∀ (p : Int) (v : α) (τ : tS) (M' : Nat), Tfl τ N S b m p nc M' → nd σ0 τ M0 → M0 ≤ M' → M' + c ≤ 8400 → TFo N S b m p nE M0 σ0 M' c (F (v, τ))) :
    RO G A t N S b m i0 nE M0 σ0 h0 P (X.bind F) (xc Y (fun t h => some (.inl t, h)) g) := by
  rcases R with ⟨j, M', τ, h', v, w, q1, q2, q3, q4, q5, q6, q7, q8⟩ | ⟨jf, M', τ, v, e, h', q1, q2, q3, q4, q5, q6, q7, q8, q9, q10, q11, q12⟩
  · rw [q1, q2]
    exact ok j M' τ h' v w q3 q4 q5 q6 q7 q8
  · rw [q1, q2]
    exact RO_fault L q3 q4 q9 (by have := L.1; omega) (tf _ v τ M' q5 (nd_trans L.2.1 q6 L.2.2.1) (Nat.le_trans L.2.2.1 q9) (by have := L.1; omega)) rfl q7 q8 q11 q12
/-- the same, nothing behind it on the twin's side but a pair -/
theorem RO_id {P1 : Nat → Nat → tS → om_H → γ → δ → Prop} {X : Option (γ × tS)} {Y : Option ((Nat ⊕ δ) × om_H)} (R : RO G A t N S b m i n M σ h P1 X Y) (ok : ∀ j M' τ h' v w, P1 j M' τ h' v w → P j M' τ h' v w) : RO G A t N S b m i n M σ h P X Y := by
  rcases R with ⟨j, M', τ, h', v, w, q1, q2, q3, q4, q5, q6, q7, q8⟩ | R
  · exact .inl ⟨j, M', τ, h', v, w, q1, q2, q3, q4, q5, q6, q7, ok _ _ _ _ _ _ q8⟩
  · exact .inr R
theorem lnk_only {h' : om_H} {τ : tS} (L : lnk t i0 M0 σ0 h0 i M σ h) (X : onlyT t h h') (D : nd σ τ M) : lnk t i0 M0 σ0 h0 (i + 1) M τ h' := by
  obtain ⟨l1, l2, l3, l4, l5, l6⟩ := L
  have z : hz h' = hz h := X.2.2.2.2.2.2.2.2.1
  have y : hu h' = hu h := X.2.2.2.2.2.2.2.2.2.1
  exact ⟨by omega, nd_trans l2 D l3, l3, hx_trans l4 (hx_onlyT X), by omega, by omega⟩
theorem lnk_call {h' : om_H} {τ : tS} {j M' : Nat} (L : lnk t i0 M0 σ0 h0 i M σ h) (hj : i ≤ j) (D : nd σ τ M) (X : hx t h h') (hM : M ≤ M') (z : hz h' ≤ hz h + 20 * (j - i)) (y : hu h' ≤ hu h + 300 * (j - i)) : lnk t i0 M0 σ0 h0 j M' τ h' := by
  obtain ⟨l1, l2, l3, l4, l5, l6⟩ := L
  exact ⟨by omega, nd_trans l2 D l3, by omega, hx_trans l4 X, by omega, by omega⟩
theorem lnk_sR (L : lnk t i0 M0 σ0 h0 i M σ h) {f a x : Nat} (ha : hz h0 ≤ a) : lnk t i0 M0 σ0 h0 i M σ (sR h f a x) := ⟨L.1, L.2.1, L.2.2.1, hx_sR L.2.2.2.1 ha, L.2.2.2.2.1, L.2.2.2.2.2⟩
theorem lnk_sI (L : lnk t i0 M0 σ0 h0 i M σ h) {f a : Nat} {x : Int} (ha : hz h0 ≤ a) : lnk t i0 M0 σ0 h0 i M σ (sI h f a x) := ⟨L.1, L.2.1, L.2.2.1, hx_sI L.2.2.2.1 ha, L.2.2.2.2.1, L.2.2.2.2.2⟩
/-- a kind that has to be there: a sign -/
theorem RO_need (hG : om_okG G) {F : tS → Option (γ × tS)} {g : Unit → om_H → Option ((Nat ⊕ δ) × om_H)} (c : Nat) (H : At G A t N S b m i nc M σ h) (L : lnk t i0 M0 σ0 h0 i M σ h) (hc : M + c ≤ M0 + 3 * (i - i0) + 20) (h84 : M0 + 3 * (m - i0) + 60 ≤ 8400) {k v : Int} (hv : v = 256 ∨ v = 257 ∨ (40 ≤ v ∧ v ≤ 255)) (hk : sc v = k) (hk0 : k ≠ 0)
    (ok : tokk S i = k → ∀ (τ : tS) (h' : om_H), At G A t N S b m (i + 1) nc M τ h' → nd σ τ M → onlyT t h h' → lnk t i0 M0 σ0 h0 (i + 1) M τ h' → RO G A t N S b m i0 nE M0 σ0 h0 P (F τ) (g () h'))
    (tf : ∀ (p : Int) (τ : tS) (M' : Nat), Tfl τ N S b m p nc M' → nd σ0 τ M0 → M0 ≤ M' → M' + c ≤ 8400 → TFo N S b m p nE M0 σ0 M' c (F τ)) :
    RO G A t N S b m i0 nE M0 σ0 h0 P ((T_need k σ).bind F) (xc (C_14_need_2 G t v h) (fun t h => some (.inl t, h)) g) := by
  obtain ⟨t1, t2⟩ := t_need H.1 hk0
  obtain ⟨c1, c2⟩ := c_need2 hG H.2.1 hv
  rw [hk] at c1 c2
  have hi := At_i H
  by_cases q : tokk S i = k
  · obtain ⟨τ, u1, u2, u3⟩ := t1 q
    obtain ⟨h', v1, v2, v3⟩ := c1 q
    rw [u1, v1]
    exact ok q τ h' (At_onlyT H v3 v2 u2) u3 v3 (lnk_only L v3 u3)
  · obtain ⟨τ, u1, u2, u3⟩ := t2 q
    obtain ⟨e, h', v1, v2, v3, v4, v5⟩ := c2 q
    rw [u1, v1]
    exact RO_fault L (Nat.le_refl _) hi (Nat.le_refl _) (by omega) (tf _ τ M u2 (nd_trans L.2.1 u3 L.2.2.1) L.2.2.1 (by have := L.1; omega)) rfl v2 v3 (by omega) (by omega)
/-- a word -/
theorem RO_need3 (hG : om_okG G) {F : tS → Option (γ × tS)} {g : Unit → om_H → Option ((Nat ⊕ δ) × om_H)} (c : Nat) (H : At G A t N S b m i nc M σ h) (L : lnk t i0 M0 σ0 h0 i M σ h) (hc : M + c ≤ M0 + 3 * (i - i0) + 20) (h84 : M0 + 3 * (m - i0) + 60 ≤ 8400) {k : Int} {j : Nat} {bs : List Int} (hb : om_sb[j]? = some bs) (hk : (k, bs) ∈ wkT) (hk0 : k ≠ 0)
    (ok : tokk S i = k → ∀ (τ : tS) (h' : om_H), At G A t N S b m (i + 1) nc M τ h' → nd σ τ M → onlyT t h h' → lnk t i0 M0 σ0 h0 (i + 1) M τ h' → RO G A t N S b m i0 nE M0 σ0 h0 P (F τ) (g () h'))
    (tf : ∀ (p : Int) (τ : tS) (M' : Nat), Tfl τ N S b m p nc M' → nd σ0 τ M0 → M0 ≤ M' → M' + c ≤ 8400 → TFo N S b m p nE M0 σ0 M' c (F τ)) :
    RO G A t N S b m i0 nE M0 σ0 h0 P ((T_need k σ).bind F) (xc (C_14_need_3 G t j h) (fun t h => some (.inl t, h)) g) := by
  obtain ⟨t1, t2⟩ := t_need H.1 hk0
  obtain ⟨c1, c2⟩ := c_need3 hG H.2.1 hb hk
  have hi := At_i H
  by_cases q : tokk S i = k
  · obtain ⟨τ, u1, u2, u3⟩ := t1 q
    obtain ⟨h', v1, v2, v3⟩ := c1 q
    rw [u1, v1]
    exact ok q τ h' (At_onlyT H v3 v2 u2) u3 v3 (lnk_only L v3 u3)
  · obtain ⟨τ, u1, u2, u3⟩ := t2 q
    obtain ⟨e, h', v1, v2, v3, v4, v5⟩ := c2 q
    rw [u1, v1]
    exact RO_fault L (Nat.le_refl _) hi (Nat.le_refl _) (by omega) (tf _ τ M u2 (nd_trans L.2.1 u3 L.2.2.1) L.2.2.1 (by have := L.1; omega)) rfl v2 v3 (by omega) (by omega)
/-- a token of a kind, as a Word; its number is told -/
theorem RO_needK (hG : om_okG G) {F : Int × tS → Option (γ × tS)} {g : Nat → om_H → Option ((Nat ⊕ δ) × om_H)} (c : Nat) (H : At G A t N S b m i nc M σ h) (L : lnk t i0 M0 σ0 h0 i M σ h) (hc : M + c ≤ M0 + 3 * (i - i0) + 20) (h84 : M0 + 3 * (m - i0) + 60 ≤ 8400) {k : Int} {e : Nat} (he : 1 ≤ e ∧ e ≤ 4) (hk : k = (e : Int))
    (ok : tokk S i = k → ∀ (τ : tS) (h' : om_H), At G A t N S b m (i + 1) nc M τ h' → nd σ τ M → hx t h h' → wd h' A S (hz h) i → hz h' = hz h + 1 → hu h' = hu h + 3 → lnk t i0 M0 σ0 h0 (i + 1) M τ h' → RO G A t N S b m i0 nE M0 σ0 h0 P (F (((b + i : Nat) : Int), τ)) (g (hz h) h'))
    (tf : ∀ (p : Int) (v : Int) (τ : tS) (M' : Nat), Tfl τ N S b m p nc M' → nd σ0 τ M0 → M0 ≤ M' → M' + c ≤ 8400 → TFo N S b m p nE M0 σ0 M' c (F (v, τ))) :
    RO G A t N S b m i0 nE M0 σ0 h0 P ((T_needed k σ).bind F) (xc (C_14_need G t (om_cA G e) h) (fun t h => some (.inl t, h)) g) := by
  obtain ⟨t1, t2⟩ := t_needed H.1 (k := k) (by omega)
  obtain ⟨c1, c2⟩ := c_need hG H.2.1 he
  rw [← hk] at c1 c2
  have hi := At_i H
  by_cases q : tokk S i = k
  · obtain ⟨τ, u1, u2, u3⟩ := t1 q
    obtain ⟨h', v1, v2, v3, v4, v5, v6, v7⟩ := c1 q
    clear c1 c2 t1 t2
    rw [u1, v1]
    rw [H.2.2] at v4 v7
    exact ok q τ h' ⟨u2, v2, v7⟩ u3 v3 v4 v5 v6 (lnk_call L (by omega) u3 v3 (Nat.le_refl _) (by omega) (by omega))
  · obtain ⟨τ, u1, u2, u3⟩ := t2 q
    obtain ⟨e', h', v1, v2, v3, v4, v5⟩ := c2 q
    clear c1 c2 t1 t2
    rw [u1, v1]
    exact RO_fault L (Nat.le_refl _) hi (Nat.le_refl _) (by omega) (tf _ _ τ M u2 (nd_trans L.2.1 u3 L.2.2.1) L.2.2.1 (by have := L.1; omega)) rfl v2 v3 (by omega) (by omega)
/-- the same, its number isn't told -/
theorem RO_needW (hG : om_okG G) {F : tS → Option (γ × tS)} {g : Nat → om_H → Option ((Nat ⊕ δ) × om_H)} (c : Nat) (H : At G A t N S b m i nc M σ h) (L : lnk t i0 M0 σ0 h0 i M σ h) (hc : M + c ≤ M0 + 3 * (i - i0) + 20) (h84 : M0 + 3 * (m - i0) + 60 ≤ 8400) {k : Int} {e : Nat} (he : 1 ≤ e ∧ e ≤ 4) (hk : k = (e : Int))
    (ok : tokk S i = k → ∀ (τ : tS) (h' : om_H), At G A t N S b m (i + 1) nc M τ h' → nd σ τ M → hx t h h' → wd h' A S (hz h) i → hz h' = hz h + 1 → hu h' = hu h + 3 → lnk t i0 M0 σ0 h0 (i + 1) M τ h' → RO G A t N S b m i0 nE M0 σ0 h0 P (F τ) (g (hz h) h'))
    (tf : ∀ (p : Int) (τ : tS) (M' : Nat), Tfl τ N S b m p nc M' → nd σ0 τ M0 → M0 ≤ M' → M' + c ≤ 8400 → TFo N S b m p nE M0 σ0 M' c (F τ)) :
    RO G A t N S b m i0 nE M0 σ0 h0 P ((T_need k σ).bind F) (xc (C_14_need G t (om_cA G e) h) (fun t h => some (.inl t, h)) g) := by
  obtain ⟨t1, t2⟩ := t_need H.1 (k := k) (by omega)
  obtain ⟨c1, c2⟩ := c_need hG H.2.1 he
  rw [← hk] at c1 c2
  have hi := At_i H
  by_cases q : tokk S i = k
  · obtain ⟨τ, u1, u2, u3⟩ := t1 q
    obtain ⟨h', v1, v2, v3, v4, v5, v6, v7⟩ := c1 q
    clear c1 c2 t1 t2
    rw [u1, v1]
    rw [H.2.2] at v4 v7
    exact ok q τ h' ⟨u2, v2, v7⟩ u3 v3 v4 v5 v6 (lnk_call L (by omega) u3 v3 (Nat.le_refl _) (by omega) (by omega))
  · obtain ⟨τ, u1, u2, u3⟩ := t2 q
    obtain ⟨e', h', v1, v2, v3, v4, v5⟩ := c2 q
    clear c1 c2 t1 t2
    rw [u1, v1]
    exact RO_fault L (Nat.le_refl _) hi (Nat.le_refl _) (by omega) (tf _ τ M u2 (nd_trans L.2.1 u3 L.2.2.1) L.2.2.1 (by have := L.1; omega)) rfl v2 v3 (by omega) (by omega)
/-! the twin behind a fault, backwards -/
theorem TF_need {F : tS → Option (γ × tS)} {k : Int} {Mc : Nat} (H : Tfl σ N S b m p nc Mc) (R : TFo N S b m p nE M0 σ0 M c (F σ)) : TFo N S b m p nE M0 σ0 M c ((T_need k σ).bind F) := by rw [t_needF H]; exact R
theorem TF_takes {F : Int × tS → Option (γ × tS)} {k : Int} {Mc : Nat} (H : Tfl σ N S b m p nc Mc) (R : TFo N S b m p nE M0 σ0 M c (F (0, σ))) : TFo N S b m p nE M0 σ0 M c ((T_takes k σ).bind F) := by rw [t_takesF H]; exact R
theorem TF_needed {F : Int × tS → Option (γ × tS)} {k : Int} {Mc : Nat} (H : Tfl σ N S b m p nc Mc) (R : TFo N S b m p nE M0 σ0 M c (F (gs σ 432, σ))) : TFo N S b m p nE M0 σ0 M c ((T_needed k σ).bind F) := by rw [t_neededF H]; exact R
theorem TF_rec {r : tS → Option (Int × tS)} {F : Int × tS → Option (γ × tS)} (RF : RFall N S b m nc 1 r) (H : Tfl σ N S b m p nc M) (D : nd σ0 σ M0) (h1 : M0 ≤ M) (h2 : M + (c + 1) ≤ 8400) (R : ∀ (x : Int) (τ : tS) (M1 : Nat), Tfl τ N S b m p nc M1 → nd σ0 τ M0 → M0 ≤ M1 → M1 + c ≤ 8400 → TFo N S b m p nE M0 σ0 M1 c (F (x, τ))) : TFo N S b m p nE M0 σ0 M (c + 1) ((r σ).bind F) := by
  obtain ⟨x, τ, M1, e1, e2, e3, e4, e5⟩ := RF p M σ H (by omega)
  rw [e1]
  obtain ⟨v, υ, M2, f1, f2, f3, f4, f5⟩ := R x τ M1 e2 (nd_trans D e3 h1) (by omega) (by omega)
  exact ⟨v, υ, M2, f1, f2, f3, by omega, by omega⟩
theorem TF_node {k q a a2 a3 a4 : Int} {F : Int × tS → Option (γ × tS)} (H : Tfl σ N S b m p nc M) (D : nd σ0 σ M0) (h1 : M0 ≤ M) (h2 : M + (c + 1) ≤ 8400) (R : ∀ (x : Int) (τ : tS) (M1 : Nat), Tfl τ N S b m p nc M1 → nd σ0 τ M0 → M0 ≤ M1 → M1 + c ≤ 8400 → TFo N S b m p nE M0 σ0 M1 c (F (x, τ))) : TFo N S b m p nE M0 σ0 M (c + 1) ((T_node k q a a2 a3 a4 σ).bind F) := by
  obtain ⟨τ, e1, e2, e3⟩ := t_nodeF H (by omega) k q a a2 a3 a4
  rw [e1]
  obtain ⟨v, υ, M2, f1, f2, f3, f4, f5⟩ := R M τ (M + 1) e2 (nd_trans D e3 h1) (by omega) (by omega)
  exact ⟨v, υ, M2, f1, f2, f3, by omega, by omega⟩
theorem TF_end {v : γ} (H : Tfl σ N S b m p nE M) (D : nd σ0 σ M0) : TFo N S b m p nE M0 σ0 M c (some (v, σ)) := ⟨v, σ, M, rfl, H, D, Nat.le_refl _, by omega⟩
/-- the end of one that was begun -/
theorem TF_beg {v : γ} (H : Tfl σ N S b m p nc M) (D : nd σ0 σ M0) (h1 : M0 ≤ M) (hn : nc = nE + 1) (h0 : 0 ≤ nE ∧ nE ≤ 900) : TFo N S b m p nE M0 σ0 M c (some (v, us σ 436 (w32 ((gs σ 436) - 1)))) := by
  rw [H.2.2.1, w32_s (by omega) (by omega), show nc - 1 = nE by omega]
  obtain ⟨g1, g2⟩ := Tfl_beg (x := nE) H
  exact ⟨v, _, M, rfl, g1, nd_trans D g2 h1, Nat.le_refl _, by omega⟩
/-- reading a type -/
theorem RelT_RO {B : Nat} {X : Option (Int × tS)} {Y : Option ((Nat ⊕ Nat) × om_H)} (hB : B ≤ 59) (R : RelT B G A t N S b m i n M σ h X Y) : RO G A t N S b m i n M σ h (fun j M' τ h' v w => ∃ nT k : Nat, v = ((nT : Nat) : Int) ∧ i < j ∧ WR A S b h' τ 59 M M' (hz h) (hz h') w nT ∧ ga τ 562 nT = -1 ∧ M < M' ∧ M' ≤ M + (j - i) ∧ hz h' + 1 ≤ hz h + 8 * (j - i) ∧ hu h' + 30 ≤ hu h + 100 * (j - i)) X Y := by
  rcases R with ⟨j, M', τ, a, nT, h', k, q1, q2, q3, q4, q5, q6, q7, q8, q9, q10, qn, q11, q12, q13, q14⟩ | ⟨jf, M', τ, x, e, h', q1, q2, q3, q4, q5, q6, q7, q8, q9, q10, q11, q12⟩
  · exact .inl ⟨j, M', τ, h', nT, a, q3, q4, by omega, ⟨q5, q7, q9⟩, q6, q8, by omega, nT, k, rfl, q1, WR_le hB q10, qn, q11, q12, q13, q14⟩
  · exact .inr ⟨jf, M', τ, x, e, h', q3, q4, q1, q2, q5, q6, q7, q8, q9, by omega, by omega, by omega⟩
theorem At_84 {i0 : Nat} (L : lnk t i0 M0 σ0 h0 i M σ h) (hc : M ≤ M0 + 3 * (i - i0)) (h84 : M0 + 3 * (m - i0) + 60 ≤ 8400) (hi : i ≤ m) : M + 3 * (m - i) + 60 ≤ 8400 := by have := L.1; omega
end LRO
