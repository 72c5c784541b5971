set_option maxRecDepth 100000
/-! EXS THAT ARE KNOWN: what holds of their nodes -/
/-- a type in both -/
def TYp (N : List (List Int)) (cs : List Nat) (rest : List (Nat × List Nat)) (h : om_H) (us : List Nat) (σ : tS) (n q : Nat) (x : Nat) (t : Int) : Prop := ∃ T, tyQ q 59 T ∧ tyC h N (clF cs) (UU us rest) T x ∧ tyT σ n T t
/-- a name that is known, d names being bound around it -/
def nmR (S : List Int) (b : Nat) (fo : List Nat) (F : FT) (mo : List (List Nat)) (Ms : List FT) (h : om_H) (σ : tS) (d a v : Nat) : Prop := ∃ j : Nat, ga σ 542 v = ((b + j : Nat) : Int) ∧ ((∃ up k : Nat, fI h 1464 a = (up : Int) ∧ ga σ 550 v = (k : Int) ∧ up + k + 1 = d ∧ fI h 1476 a = -1 ∧ fR h 1470 a = 0 ∧ fR h 1474 a = 0) ∨ (ga σ 550 v = -1 ∧ nmF fo F mo Ms h a (tokw S j) ∧ ¬ (btI (tokw S j) = none ∧ FI id (tokw S j) F = none ∧ MI (tokw S j) Ms = none)))
def Psi1 (S : List Int) (b : Nat) (N : List (List Int)) (cs : List Nat) (rest : List (Nat × List Nat)) (fo : List Nat) (F : FT) (mo : List (List Nat)) (Ms : List FT) (z0 : Nat) (h : om_H) (us : List Nat) (σ : tS) (n : Nat) (d : Nat) (tag lo hi _alo _ahi a v : Nat) : Prop :=
  (tag ∈ [10, 11, 14, 15, 16, 17, 19, 30, 32] → fR h 1382 a = 0) ∧ (tag = 10 ∨ tag = 19 → fR h 1482 a = 0 ∧ nmR S b fo F mo Ms h σ d a v) ∧ (tag = 10 → fR h 1462 a = 0) ∧ (tag = 14 → TYp N cs rest h us σ n (hi - lo) (fR h 1394 a) (ga σ 550 v)) ∧ (tag = 15 → TYp N cs rest h us σ n (hi - lo) (fR h 1410 a) (ga σ 550 v)) ∧ (tag = 19 → ∃ (os ys : List Nat), chain σ (ga σ 546 v) os ∧ (∀ o ∈ os, lo < o ∧ o < hi) ∧ (z0 ≤ fR h 1462 a ∧ fR h 1462 a < hz h ∧ kd h (fR h 1462 a) = 42 ∧ ll h (fR h 1462 a) = ys) ∧ ys.length = os.length ∧ ∀ (i o y : Nat), os[i]? = some o → ys[i]? = some y → TYp N cs rest h us σ n (hi - lo) y (ga σ 550 o))
section LP1
variable {G : om_G} {A : Nat} {S : List Int} {b m : Nat} {N : List (List Int)} {cs : List Nat} {K : KT} {pr Ln : Nat} {Ls : List (List Int)} {sc : List Nat} {tb : Nat} {rest : List (Nat × List Nat)} {fo : List Nat} {F : FT} {mo : List (List Nat)} {Ms : List FT} {rs so Lb : Nat} {bLs : List (List Int)} {bd : List Nat} {z0 d : Nat}
variable {h h' h0 : om_H} {σ τ σ0 : tS} {n n' n0 q lo hi alo ahi sp a : Nat} {X XC XT : Int} {L : List Int} {r : Int → tS → Option tS}
theorem TYp_kp {us us' : List Nat} {x qq : Nat} {t : Int} (k1 : ∀ T y, tyC h N (clF cs) (UU us rest) T y → tyC h' N (clF cs) (UU us' rest) T y) (X : tx σ n τ n') (H : TYp N cs rest h us σ n qq x t) : TYp N cs rest h' us' τ n' qq x t := by
  obtain ⟨T, c0, c1, c2⟩ := H
  exact ⟨T, c0, k1 T x c1, tyT_mono X c2⟩
theorem nmF_eq (e1 : ∀ f, fI h' f a = fI h f a) (e2 : ∀ f, fR h' f a = fR h f a) (H : nmF fo F mo Ms h a L) : nmF fo F mo Ms h' a L := by
  unfold nmF at *
  rw [e1, e1, e2, e2]
  exact H
/-- what is known stays so -/
theorem Psi1_keep {us us' : List Nat} (K1 : hk alo ahi h h') (L1 : nall lo hi σ τ) (k1 : ∀ T y, tyC h N (clF cs) (UU us rest) T y → tyC h' N (clF cs) (UU us' rest) T y) (X : tx σ n τ n') (z1 : hz h ≤ hz h') (kl : ∀ y, z0 ≤ y → y < hz h → kd h y = 42 → kd h' y = 42 ∧ ll h' y = ll h y) : psi lo hi alo ahi (Psi1 S b N cs rest fo F mo Ms z0 h us σ n d) (Psi1 S b N cs rest fo F mo Ms z0 h' us' τ n' d) := by
  intro tag lo' hi' alo' ahi' a v q i3 i4 i1 i2 w
  obtain ⟨k2, k3, k4, k5, k6⟩ := K1 a i3 i4
  have g5 : ga τ 550 v = ga σ 550 v := L1 550 (by decide) v i1 i2
  have g4 : ga τ 542 v = ga σ 542 v := L1 542 (by decide) v i1 i2
  obtain ⟨w1, w2, w3, w4, w5, w6⟩ := w
  refine ⟨fun z => by rw [k4]; exact w1 z, fun z => ?_, fun z => by rw [k4]; exact w3 z, fun z => by rw [k4, g5]; exact TYp_kp k1 X (w4 z), fun z => by rw [k4, g5]; exact TYp_kp k1 X (w5 z), fun z => ?_⟩
  · obtain ⟨v1, j, v2, v3⟩ := w2 z
    refine ⟨by rw [k4]; exact v1, j, by rw [g4]; exact v2, ?_⟩
    rcases v3 with ⟨up, k, u1, u2, u3, u4, u5, u6⟩ | ⟨u1, u2, u3⟩
    · exact .inl ⟨up, k, by rw [k3]; exact u1, by rw [g5]; exact u2, u3, by rw [k3]; exact u4, by rw [k4]; exact u5, by rw [k4]; exact u6⟩
    · exact .inr ⟨by rw [g5]; exact u1, nmF_eq k3 k4 u2, u3⟩
  · obtain ⟨os, ys, v1, v2, v3, v4, v5⟩ := w6 z
    obtain ⟨q1, q2, q3, q4⟩ := q (by rw [z]; decide)
    have g6 : ga τ 546 v = ga σ 546 v := L1 546 (by decide) v i1 i2
    have kk := kl _ v3.1 v3.2.1 v3.2.2.1
    refine ⟨os, ys, by rw [g6]; exact chain_keep v1 (fun o ho => L1 562 (by decide) o (by have := v2 o ho; omega) (by have := v2 o ho; omega)), v2, ⟨by rw [k4]; exact v3.1, by rw [k4]; have := v3.2.1; omega, by rw [k4]; exact kk.1, by rw [k4, kk.2]; exact v3.2.2.2⟩, v4, fun i o y ho hy => ?_⟩
    have ob := v2 o (List.mem_of_getElem? ho)
    rw [L1 550 (by decide) o (by omega) (by omega)]
    exact TYp_kp k1 X (v5 i o y ho hy)
end LP1
