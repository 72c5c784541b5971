set_option maxRecDepth 100000
/-! the program's lists: of the declared ones, of greats and names -/
abbrev PFs : List Nat := [82, 86, 90, 94, 98, 102, 106, 110]
def PL (G : om_G) (h : om_H) (pr t : Nat) (Z : Nat → Prop) : Prop := (kd h pr = 2 ∧ pr < hz h ∧ pr ≠ t) ∧ (∀ f ∈ PFs, okW G h (fR h f pr) ∧ Z (fR h f pr)) ∧ ∀ f ∈ PFs, ∀ g ∈ PFs, fR h f pr = fR h g pr → f = g
def lcs (h : om_H) (pr : Nat) : Nat := lc h (fR h 82 pr) + lc h (fR h 86 pr) + lc h (fR h 90 pr) + lc h (fR h 94 pr) + lc h (fR h 98 pr) + lc h (fR h 102 pr) + lc h (fR h 106 pr) + lc h (fR h 110 pr)
section LD1
variable {G : om_G} {h h' : om_H} {pr t : Nat} {Z : Nat → Prop}
theorem PL_keep (P : PL G h pr t Z) (z : hz h ≤ hz h') (k : ∀ a, a < hz h → kd h' a = kd h a) (r : ∀ f, fR h' f pr = fR h f pr) (l : ∀ f ∈ PFs, ll h' (fR h f pr) = ll h (fR h f pr) ∧ lc h' (fR h f pr) = lc h (fR h f pr)) : PL G h' pr t Z ∧ lcs h' pr = lcs h pr := by
  obtain ⟨p1, p2, p3⟩ := P
  refine ⟨⟨⟨by rw [k pr p1.2.1]; exact p1.1, by omega, p1.2.2⟩, fun f hf => ?_, fun f hf g hg => by rw [r, r]; exact p3 f hf g hg⟩, ?_⟩
  · rw [r]
    obtain ⟨⟨o0, o1, o2, o3, o4⟩, q⟩ := p2 f hf
    obtain ⟨l1, l2⟩ := l f hf
    exact ⟨⟨by omega, by rw [k _ o0]; exact o1, by rw [l1, l2]; exact o2, by rw [l2]; exact o3, fun y hy => objY_mono z k (o4 y (by rw [l1] at hy; exact hy))⟩, q⟩
  · unfold lcs
    rw [r, r, r, r, r, r, r, r, (l 82 (by simp)).2, (l 86 (by simp)).2, (l 90 (by simp)).2, (l 94 (by simp)).2, (l 98 (by simp)).2, (l 102 (by simp)).2, (l 106 (by simp)).2, (l 110 (by simp)).2]
theorem PL_hx (P : PL G h pr t Z) (X : hx t h h') : PL G h' pr t Z ∧ lcs h' pr = lcs h pr := PL_keep P X.1 X.2.2.1 (fun f => X.2.2.2.2.1 f pr P.1.2.1 P.1.2.2) (fun f hf => ⟨X.2.2.2.2.2.2.2.2.1 _ (P.2.1 f hf).1.1, X.2.2.2.2.2.2.2.2.2 _ (P.2.1 f hf).1.1⟩)
theorem PL_sR (P : PL G h pr t Z) {f a x : Nat} (ha : a ≠ pr) : PL G (sR h f a x) pr t Z ∧ lcs (sR h f a x) pr = lcs h pr := PL_keep P (Nat.le_refl _) (fun _ _ => rfl) (fun g => by rw [fR_sR, if_neg (fun z => ha z.2.symm)]) (fun _ _ => ⟨rfl, rfl⟩)
theorem PL_sI (P : PL G h pr t Z) {f a : Nat} {x : Int} : PL G (sI h f a x) pr t Z ∧ lcs (sI h f a x) pr = lcs h pr := PL_keep P (Nat.le_refl _) (fun _ _ => rfl) (fun _ => rfl) (fun _ _ => ⟨rfl, rfl⟩)
/-- a list that isn't one of these gets one more -/
theorem PL_hxL {L : Nat} (P : PL G h pr t Z) (X : hxL L h h') (hL : ¬ Z L) : PL G h' pr t Z ∧ lcs h' pr = lcs h pr := PL_keep P X.1 X.2.2.1 (fun f => X.2.2.2.2.1 f pr P.1.2.1) (fun f hf => ⟨X.2.2.2.2.2.2.2.2.1 _ (P.2.1 f hf).1.1 (fun z => hL (z ▸ (P.2.1 f hf).2)), X.2.2.2.2.2.2.2.2.2 _ (P.2.1 f hf).1.1 (fun z => hL (z ▸ (P.2.1 f hf).2))⟩)
/-- one of these gets one more -/
theorem PL_add {f x : Nat} (P : PL G h pr t Z) (hf : f ∈ PFs) (hx' : objY G h x) (hn : (ll h (fR h f pr)).length ≤ 40000) : ∃ h', P_J2_add G (fR h f pr) x h = some (1, h') ∧ hxL (fR h f pr) h h' ∧ PL G h' pr t Z ∧ (∀ g, fR h' g pr = fR h g pr) ∧ ll h' (fR h f pr) = ll h (fR h f pr) ++ [x] ∧ (∀ g ∈ PFs, g ≠ f → ll h' (fR h g pr) = ll h (fR h g pr)) ∧ hz h' ≤ hz h + 1 ∧ hu h' + 4 * lcs h pr ≤ hu h + 4 * lcs h' pr := by
  obtain ⟨p1, p2, p3⟩ := P
  obtain ⟨a1, a2, a3, a4, a5, a6⟩ := w_add (p2 f hf).1 hx' hn
  generalize addL h (fR h f pr) x = h' at a1 a2 a3 a4 a5 a6
  have r : ∀ g, fR h' g pr = fR h g pr := fun g => a2.2.2.2.2.1 g pr p1.2.1
  have ne : ∀ g ∈ PFs, g ≠ f → fR h g pr ≠ fR h f pr := fun g hg c z => c (p3 g hg f hf z)
  have l : ∀ g ∈ PFs, g ≠ f → ll h' (fR h g pr) = ll h (fR h g pr) := fun g hg c => a2.2.2.2.2.2.2.2.2.1 _ (p2 g hg).1.1 (ne g hg c)
  have c : ∀ g ∈ PFs, g ≠ f → lc h' (fR h g pr) = lc h (fR h g pr) := fun g hg c => a2.2.2.2.2.2.2.2.2.2 _ (p2 g hg).1.1 (ne g hg c)
  refine ⟨h', a1, a2, ⟨⟨by rw [a2.2.2.1 pr p1.2.1]; exact p1.1, by have := a2.1; omega, p1.2.2⟩, fun g hg => ?_, fun g hg g' hg' => by rw [r, r]; exact p3 g hg g' hg'⟩, r, a4, l, a5, ?_⟩
  · rw [r]
    by_cases q : g = f
    · rw [q]; exact ⟨a3, (p2 f hf).2⟩
    · obtain ⟨⟨o0, o1, o2, o3, o4⟩, q1⟩ := p2 g hg
      exact ⟨⟨by have := a2.1; omega, by rw [a2.2.2.1 _ o0]; exact o1, by rw [l g hg q, c g hg q]; exact o2, by rw [c g hg q]; exact o3, fun y hy => objY_mono a2.1 a2.2.2.1 (o4 y (by rw [l g hg q] at hy; exact hy))⟩, q1⟩
  · unfold lcs
    rw [r, r, r, r, r, r, r, r]
    have c82 := c 82 (by simp)
    have c86 := c 86 (by simp)
    have c90 := c 90 (by simp)
    have c94 := c 94 (by simp)
    have c98 := c 98 (by simp)
    have c102 := c 102 (by simp)
    have c106 := c 106 (by simp)
    have c110 := c 110 (by simp)
    clear l c ne r a1 a2 a3 a4 a5 p2 p3
    simp only [List.mem_cons, List.not_mem_nil, or_false] at hf
    rcases hf with rfl | rfl | rfl | rfl | rfl | rfl | rfl | rfl
    · rw [c86 (by decide), c90 (by decide), c94 (by decide), c98 (by decide), c102 (by decide), c106 (by decide), c110 (by decide)]; omega
    · rw [c82 (by decide), c90 (by decide), c94 (by decide), c98 (by decide), c102 (by decide), c106 (by decide), c110 (by decide)]; omega
    · rw [c82 (by decide), c86 (by decide), c94 (by decide), c98 (by decide), c102 (by decide), c106 (by decide), c110 (by decide)]; omega
    · rw [c82 (by decide), c86 (by decide), c90 (by decide), c98 (by decide), c102 (by decide), c106 (by decide), c110 (by decide)]; omega
    · rw [c82 (by decide), c86 (by decide), c90 (by decide), c94 (by decide), c102 (by decide), c106 (by decide), c110 (by decide)]; omega
    · rw [c82 (by decide), c86 (by decide), c90 (by decide), c94 (by decide), c98 (by decide), c106 (by decide), c110 (by decide)]; omega
    · rw [c82 (by decide), c86 (by decide), c90 (by decide), c94 (by decide), c98 (by decide), c102 (by decide), c110 (by decide)]; omega
    · rw [c82 (by decide), c86 (by decide), c90 (by decide), c94 (by decide), c98 (by decide), c102 (by decide), c106 (by decide)]; omega
end LD1
/-! THE OUTCOME OF READING A DECLARATION, from a state σ0 h0 on -/
def FH (G : om_G) (t : Nat) (Z : Nat → Prop) (pr : Nat) (h0 : om_H) (HZ HU : Nat) (h' : om_H) : Prop := hp Z t h0 h' ∧ PL G h' pr t Z ∧ hz h' ≤ HZ ∧ hu h' ≤ HU + 4 * lcs h' pr
/-- where we are; how much room is left -/
def DS (G : om_G) (t m : Nat) (Z : Nat → Prop) (pr : Nat) (σ0 : tS) (M0 d0 : Nat) (h0 : om_H) (HZ HU : Nat) (sz su sM i M : Nat) (σ : tS) (h : om_H) : Prop := ndD σ0 σ M0 d0 ∧ M0 ≤ M ∧ hp Z t h0 h ∧ PL G h pr t Z ∧ hz h + 20 * (m - i) + sz ≤ HZ ∧ hu h + 300 * (m - i) + su ≤ HU + 4 * lcs h pr ∧ M + 2 * (m - i) + sM ≤ 2700
def TFd {ρ : Type} (N : List (List Int)) (S : List Int) (b m : Nat) (n : Int) (σ0 : tS) (M0 d0 : Nat) (p : Int) (st : ρ → tS) (X : Option ρ) : Prop := ∃ r M', X = some r ∧ Tfl (st r) N S b m p n M' ∧ ndD σ0 (st r) M0 d0
def RD {ρ β : Type} (G : om_G) (A t : Nat) (N : List (List Int)) (S : List Int) (b m : Nat) (n : Int) (Z : Nat → Prop) (pr : Nat) (σ0 : tS) (M0 d0 : Nat) (h0 : om_H) (HZ HU : Nat) (st : ρ → tS) (P : Nat → Nat → ρ → om_H → β → Prop) (X : Option ρ) (Y : Option ((Nat ⊕ β) × om_H)) : Prop :=
  (∃ j M' r h' w, X = some r ∧ Y = some (.inr w, h') ∧ At G A t N S b m j n M' (st r) h' ∧ P j M' r h' w) ∨
  (∃ jf M' r e h', X = some r ∧ Y = some (.inl e, h') ∧ jf ≤ m ∧ Tfl (st r) N S b m (tokq S jf) n M' ∧ ndD σ0 (st r) M0 d0 ∧ FH G t Z pr h0 HZ HU h' ∧ flt h' e 1 (tokq S jf))
section LD2
variable {G : om_G} {A t : Nat} {N : List (List Int)} {S : List Int} {b m : Nat} {n : Int} {Z : Nat → Prop} {pr : Nat} {σ0 : tS} {M0 d0 : Nat} {h0 : om_H} {HZ HU sz su sM i M : Nat} {σ τ : tS} {h h' : om_H} {ρ β : Type} {st : ρ → tS} {P : Nat → Nat → ρ → om_H → β → Prop}
theorem DS_step {sz' su' sM' j M' : Nat} (Q : DS G t m Z pr σ0 M0 d0 h0 HZ HU sz su sM i M σ h) (D : nd σ τ M) (X : hx t h h') (hM : M ≤ M') (z : hz h' + 20 * (m - j) + sz' ≤ hz h + 20 * (m - i) + sz) (y : hu h' + 300 * (m - j) + su' ≤ hu h + 300 * (m - i) + su) (x : M' + 2 * (m - j) + sM' ≤ M + 2 * (m - i) + sM) : DS G t m Z pr σ0 M0 d0 h0 HZ HU sz' su' sM' j M' τ h' := by
  obtain ⟨q1, q2, q3, q4, q5, q6, q7⟩ := Q
  obtain ⟨p1, p2⟩ := PL_hx q4 X
  exact ⟨ndD_nd q1 D q2, by omega, hp_trans q3 (hx_hp X), p1, by omega, by rw [p2]; omega, by omega⟩
theorem RD_gd {q : Prop} {X : Option ρ} {Y : Option ((Nat ⊕ β) × om_H)} (hq : q) (R : RD G A t N S b m n Z pr σ0 M0 d0 h0 HZ HU st P X Y) : RD G A t N S b m n Z pr σ0 M0 d0 h0 HZ HU st P X (gd q Y) := by rw [gd_pos hq]; exact R
theorem RD_fault {X : Option ρ} {Y : Option ((Nat ⊕ β) × om_H)} {jf e : Nat} (Q : DS G t m Z pr σ0 M0 d0 h0 HZ HU sz su sM i M σ h) (hs : 20 ≤ sz ∧ 300 ≤ su) (h1 : i ≤ jf) (h2 : jf ≤ m) (T : TFd N S b m n σ0 M0 d0 (tokq S jf) st X) (hY : Y = some (.inl e, h')) (x : hx t h h') (f : flt h' e 1 (tokq S jf)) (z1 : hz h' ≤ hz h + 20 * (jf - i) + 20) (z2 : hu h' ≤ hu h + 300 * (jf - i) + 300) : RD G A t N S b m n Z pr σ0 M0 d0 h0 HZ HU st P X Y := by
  obtain ⟨r, M', e1, e2, e3⟩ := T
  obtain ⟨q1, q2, q3, q4, q5, q6, q7⟩ := Q
  obtain ⟨p1, p2⟩ := PL_hx q4 x
  exact .inr ⟨jf, M', r, e, h', e1, hY, h2, e2, e3, ⟨hp_trans q3 (hx_hp x), p1, by omega, by rw [p2]; omega⟩, f⟩
/-- a sign that has to be there -/
theorem RD_need (hG : om_okG G) {F : tS → Option ρ} {g : Unit → om_H → Option ((Nat ⊕ β) × om_H)} (H : At G A t N S b m i n M σ h) (Q : DS G t m Z pr σ0 M0 d0 h0 HZ HU sz su sM i M σ h) (hs : 20 ≤ sz ∧ 300 ≤ su) {k v : Int} (hv : v = 256 ∨ v = 257 ∨ (40 ≤ v ∧ v ≤ 255)) (hk : sc v = k) (hk0 : k ≠ 0)
    (ok : tokk S i = k → ∀ (τ : tS) (h' : om_H), At G A t N S b m (i + 1) n M τ h' → nd σ τ M → onlyT t h h' → RD G A t N S b m n Z pr σ0 M0 d0 h0 HZ HU st P (F τ) (g () h'))
    (tf : ∀ (p : Int) (τ : tS), Tfl τ N S b m p n M → ndD σ0 τ M0 d0 → TFd N S b m n σ0 M0 d0 p st (F τ)) :
    RD G A t N S b m n Z pr σ0 M0 d0 h0 HZ HU st P ((T_need k σ).bind F) (xc (C_14_need_2 G t v h) (fun t h => some (.inl t, h)) g) := by
  obtain ⟨t1, t2⟩ := t_need H.1 hk0
  obtain ⟨c1, c2⟩ := c_need2 hG H.2.1 hv
  rw [hk] at c1 c2
  by_cases q : tokk S i = k
  · obtain ⟨τ, u1, u2, u3⟩ := t1 q
    obtain ⟨h', v1, v2, v3⟩ := c1 q
    rw [u1, v1]
    exact ok q τ h' (At_onlyT H v3 v2 u2) u3 v3
  · obtain ⟨τ, u1, u2, u3⟩ := t2 q
    obtain ⟨e, h', v1, v2, v3, v4, v5⟩ := c2 q
    rw [u1, v1]
    exact RD_fault Q hs (Nat.le_refl _) (At_i H) (tf _ τ u2 (ndD_nd Q.1 u3 Q.2.1)) rfl v2 v3 (by omega) (by omega)
/-- a great or a name that has to be there; its token is told -/
theorem RD_needK (hG : om_okG G) {F : Int × tS → Option ρ} {g : Nat → om_H → Option ((Nat ⊕ β) × om_H)} (H : At G A t N S b m i n M σ h) (Q : DS G t m Z pr σ0 M0 d0 h0 HZ HU sz su sM i M σ h) (hs : 20 ≤ sz ∧ 300 ≤ su) {k : Int} {e : Nat} (he : 1 ≤ e ∧ e ≤ 4) (hk : k = (e : Int))
    (ok : tokk S i = k → ∀ (τ : tS) (h' : om_H), At G A t N S b m (i + 1) n M τ h' → nd σ τ M → hx t h h' → wd h' A S (hz h) i → hz h' = hz h + 1 → hu h' = hu h + 3 → RD G A t N S b m n Z pr σ0 M0 d0 h0 HZ HU st P (F (((b + i : Nat) : Int), τ)) (g (hz h) h'))
    (tf : ∀ (p v : Int) (τ : tS), Tfl τ N S b m p n M → ndD σ0 τ M0 d0 → TFd N S b m n σ0 M0 d0 p st (F (v, τ))) :
    RD G A t N S b m n Z pr σ0 M0 d0 h0 HZ HU st P ((T_needed k σ).bind F) (xc (C_14_need G t (om_cA G e) h) (fun t h => some (.inl t, h)) g) := by
  obtain ⟨t1, t2⟩ := t_needed H.1 (k := k) (by omega)
  obtain ⟨c1, c2⟩ := c_need hG H.2.1 he
  rw [← hk] at c1 c2
  by_cases q : tokk S i = k
  · obtain ⟨τ, u1, u2, u3⟩ := t1 q
    obtain ⟨h', v1, v2, v3, v4, v5, v6, v7⟩ := c1 q
    rw [u1, v1]
    rw [H.2.2] at v4 v7
    exact ok q τ h' ⟨u2, v2, v7⟩ u3 v3 v4 v5 v6
  · obtain ⟨τ, u1, u2, u3⟩ := t2 q
    obtain ⟨e', h', v1, v2, v3, v4, v5⟩ := c2 q
    rw [u1, v1]
    exact RD_fault Q hs (Nat.le_refl _) (At_i H) (tf _ _ τ u2 (ndD_nd Q.1 u3 Q.2.1)) rfl v2 v3 (by omega) (by omega)
/-- the same, its token isn't told -/
theorem RD_needW (hG : om_okG G) {F : tS → Option ρ} {g : Nat → om_H → Option ((Nat ⊕ β) × om_H)} (H : At G A t N S b m i n M σ h) (Q : DS G t m Z pr σ0 M0 d0 h0 HZ HU sz su sM i M σ h) (hs : 20 ≤ sz ∧ 300 ≤ su) {k : Int} {e : Nat} (he : 1 ≤ e ∧ e ≤ 4) (hk : k = (e : Int))
    (ok : tokk S i = k → ∀ (τ : tS) (h' : om_H), At G A t N S b m (i + 1) n M τ h' → nd σ τ M → hx t h h' → wd h' A S (hz h) i → hz h' = hz h + 1 → hu h' = hu h + 3 → RD G A t N S b m n Z pr σ0 M0 d0 h0 HZ HU st P (F τ) (g (hz h) h'))
    (tf : ∀ (p : Int) (τ : tS), Tfl τ N S b m p n M → ndD σ0 τ M0 d0 → TFd N S b m n σ0 M0 d0 p st (F τ)) :
    RD G A t N S b m n Z pr σ0 M0 d0 h0 HZ HU st P ((T_need k σ).bind F) (xc (C_14_need G t (om_cA G e) h) (fun t h => some (.inl t, h)) g) := by
  obtain ⟨t1, t2⟩ := t_need H.1 (k := k) (by omega)
  obtain ⟨c1, c2⟩ := c_need hG H.2.1 he
  rw [← hk] at c1 c2
  by_cases q : tokk S i = k
  · obtain ⟨τ, u1, u2, u3⟩ := t1 q
    obtain ⟨h', v1, v2, v3, v4, v5, v6, v7⟩ := c1 q
    rw [u1, v1]
    rw [H.2.2] at v4 v7
    exact ok q τ h' ⟨u2, v2, v7⟩ u3 v3 v4 v5 v6
  · obtain ⟨τ, u1, u2, u3⟩ := t2 q
    obtain ⟨e', h', v1, v2, v3, v4, v5⟩ := c2 q
    rw [u1, v1]
    exact RD_fault Q hs (Nat.le_refl _) (At_i H) (tf _ τ u2 (ndD_nd Q.1 u3 Q.2.1)) rfl v2 v3 (by omega) (by omega)
/-- a type or an ex -/
theorem RD_bind {α γ : Type} {P1 : Nat → Nat → tS → om_H → α → γ → Prop} {X : Option (α × tS)} {Y : Option ((Nat ⊕ γ) × om_H)} {F : α × tS → Option ρ} {g : γ → om_H → Option ((Nat ⊕ β) × om_H)} (Q : DS G t m Z pr σ0 M0 d0 h0 HZ HU sz su sM i M σ h) (hs : 20 ≤ sz ∧ 300 ≤ su ∧ 40 ≤ sM) (R : RO G A t N S b m i n M σ h P1 X Y)
    (ok : ∀ (j M' : Nat) (τ : tS) (h' : om_H) (v : α) (w : γ), i ≤ j → At G A t N S b m j n M' τ h' → nd σ τ M → hx t h h' → M ≤ M' → P1 j M' τ h' v w → RD G A t N S b m n Z pr σ0 M0 d0 h0 HZ HU st P (F (v, τ)) (g w h'))
    (tf : ∀ (p : Int) (v : α) (τ : tS) (M' : Nat), Tfl τ N S b m p n M' → ndD σ0 τ M0 d0 → M0 ≤ M' → M' + 20 ≤ 8400 → TFd N S b m n σ0 M0 d0 p st (F (v, τ))) :
    RD G A t N S b m n Z pr σ0 M0 d0 h0 HZ HU st P (X.bind F) (xc Y (fun t h => some (.inl t, h)) g) := by
  rcases R with ⟨j, M', τ, h', v, w, q1, q2, q3, q4, q5, q6, q7, q8⟩ | ⟨jf, M', τ, v, e, h', q1, q2, q3, q4, q5, q6, q7, q8, q9, q10, q11, q12⟩
  · rw [q1, q2]
    exact ok j M' τ h' v w q3 q4 q5 q6 q7 q8
  · rw [q1, q2]
    have s7 := Q.2.2.2.2.2.2
    exact RD_fault Q ⟨hs.1, hs.2.1⟩ q3 q4 (tf _ v τ M' q5 (ndD_nd Q.1 q6 Q.2.1) (Nat.le_trans Q.2.1 q9) (by omega)) rfl q7 q8 q11 q12
end LD2
/-! the twin behind a fault -/
section LD3
variable {N : List (List Int)} {S : List Int} {b m : Nat} {n p : Int} {σ0 σ : tS} {M0 d0 M : Nat} {ρ : Type} {st : ρ → tS}
theorem Fd_need {F : tS → Option ρ} {k : Int} (H : Tfl σ N S b m p n M) (R : TFd N S b m n σ0 M0 d0 p st (F σ)) : TFd N S b m n σ0 M0 d0 p st ((T_need k σ).bind F) := by rw [t_needF H]; exact R
theorem Fd_takes {F : Int × tS → Option ρ} {k : Int} (H : Tfl σ N S b m p n M) (R : TFd N S b m n σ0 M0 d0 p st (F (0, σ))) : TFd N S b m n σ0 M0 d0 p st ((T_takes k σ).bind F) := by rw [t_takesF H]; exact R
theorem Fd_needed {F : Int × tS → Option ρ} {k : Int} (H : Tfl σ N S b m p n M) (R : TFd N S b m n σ0 M0 d0 p st (F (gs σ 432, σ))) : TFd N S b m n σ0 M0 d0 p st ((T_needed k σ).bind F) := by rw [t_neededF H]; exact R
theorem Fd_rec {r : tS → Option (Int × tS)} {F : Int × tS → Option ρ} (RF : RFall N S b m n 1 r) (H : Tfl σ N S b m p n M) (D : ndD σ0 σ M0 d0) (h1 : M0 ≤ M) (h2 : M + 1 ≤ 8400) (R : ∀ (x : Int) (τ : tS) (M1 : Nat), Tfl τ N S b m p n M1 → ndD σ0 τ M0 d0 → M ≤ M1 → M1 ≤ M + 1 → TFd N S b m n σ0 M0 d0 p st (F (x, τ))) : TFd N S b m n σ0 M0 d0 p st ((r σ).bind F) := by
  obtain ⟨x, τ, M1, e1, e2, e3, e4, e5⟩ := RF p M σ H h2
  rw [e1]
  exact R x τ M1 e2 (ndD_nd D e3 h1) e4 e5
theorem Fd_node {k q a a2 a3 a4 : Int} {F : Int × tS → Option ρ} (H : Tfl σ N S b m p n M) (D : ndD σ0 σ M0 d0) (h1 : M0 ≤ M) (h2 : M + 1 ≤ 8400) (R : ∀ (τ : tS), Tfl τ N S b m p n (M + 1) → ndD σ0 τ M0 d0 → TFd N S b m n σ0 M0 d0 p st (F ((M : Int), τ))) : TFd N S b m n σ0 M0 d0 p st ((T_node k q a a2 a3 a4 σ).bind F) := by
  obtain ⟨τ, e1, e2, e3⟩ := t_nodeF H (by omega) k q a a2 a3 a4
  rw [e1]
  exact R τ e2 (ndD_nd D e3 h1)
end LD3
