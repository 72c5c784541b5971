set_option maxRecDepth 100000
/-- what an instance's scope holds when its conditions are read -/
def insS (A : Nat) (S : List Int) (b s Ls Lg Lh lo m1 a0 a1 : Nat) (first : Int) (xs os : List Nat) (σ : tS) (h : om_H) : Prop := scpO h s Ls Lg ∧ (kd h Lh = 42 ∧ ll h Lh = [] ∧ lc h Lh ≤ 10) ∧ (kd h Lg = 42 ∧ ll h Lg = xs) ∧ grows A S b h σ xs os lo m1 a0 a1 ∧ chain σ first os ∧ ∀ x ∈ xs, fR h 1350 x = 0 ∧ fR h 1354 x = 0 ∧ fR h 1358 x = 0 ∧ (True → fR h 1346 x = 0)
/-- an instance as it is read: the object f, the declaration d; j0 its first token -/
def insR (G : om_G) (A : Nat) (S : List Int) (b : Nat) (h : om_H) (σ : tS) (lo hi z0 ahi f d j0 : Nat) (nb : Int) : Prop := ∃ (s Ls Lg Lh Ll cn con fam fw j1 jc jn m1 m2 a0 a1 a2 am : Nat) (first : Int) (xs os ws ls ns : List Nat) (dv dv' : Nat → Int), insS A S b s Ls Lg Lh lo m1 a0 a1 first xs os σ h ∧ insO h f s Lh Ll cn con fam fw (tokq S j0 : Int) nb ∧ (z0 ≤ cn ∧ cn < am ∧ wd h A S cn jc ∧ tokk S jc = 3) ∧ (z0 ≤ con ∧ con < am ∧ wd h A S con jn ∧ tokk S jn = 3) ∧ (kd h Ls = 42 ∧ ll h Ls = ws ∧ wrow A S h z0 a2 j1 ws) ∧ famR A S b z0 am m1 m2 fam fw dv dv' σ h ∧ (kd h Ll = 42 ∧ ll h Ll = ls ∧ lrows G A S b h σ ls ns m2 hi am ahi ∧ chain σ (ga σ 602 d) ns ∧ ∀ x ∈ ls, fR h 1370 x = 0) ∧ (∀ g ∈ DA, g ≠ 602 → ga σ g d = dv' g) ∧ (dv 570 = 6 ∧ dv 574 = ((b + j0 : Nat) : Int) ∧ dv 578 = ((b + jc : Nat) : Int) ∧ dv 582 = ((b + jn : Nat) : Int) ∧ (ws = [] ∨ dv 586 = ((b + j1 : Nat) : Int)) ∧ dv 590 = (ws.length : Int) ∧ dv 606 = first ∧ dv 610 = -1 ∧ dv 614 = -1) ∧ ((z0 ≤ f ∧ f < am) ∧ (z0 ≤ s ∧ s < am) ∧ (z0 ≤ Ls ∧ Ls < am) ∧ (z0 ≤ Lg ∧ Lg < am) ∧ (z0 ≤ Lh ∧ Lh < am ∧ Lh ≠ Ll ∧ Lh ≠ Ls ∧ Lh ≠ Lg) ∧ (z0 ≤ Ll ∧ Ll < am) ∧ z0 ≤ a0 ∧ a1 ≤ am ∧ a2 ≤ am ∧ am ≤ ahi ∧ lo ≤ m1 ∧ m1 ≤ m2 ∧ m2 ≤ hi)
def insPost (G : om_G) (A t : Nat) (S : List Int) (b m : Nat) (Z : Nat → Prop) (pr : Nat) (σ0 : tS) (M0 d0 : Nat) (h0 : om_H) (HZ HU Mb d j0 : Nat) (nb : Int) (Lf : Nat → List Nat) (j M' : Nat) (τ : tS) (h' : om_H) : Prop :=
  j0 < j ∧ DS G t m Z pr σ0 M0 d0 h0 HZ HU 20 300 60 j M' τ h' ∧ Mb ≤ M' ∧ ∃ f, insR G A S b h' τ Mb M' (hz h0) (hz h') f d j0 nb ∧ PC h' pr (updL Lf 86 f)
section LI2
variable {G : om_G} {A t : Nat} {N : List (List Int)} {S : List Int} {b m i : Nat} {M : Nat} {σ τ : tS} {h h' h1 h2 : om_H} {c pr : Nat} {Z Z' : Nat → Prop}
variable {σ0 : tS} {M0 d0 : Nat} {h0 : om_H} {HZ HU : Nat}
theorem insS_Kp {z0 am : Nat} {X : List Nat} {s Ls Lg Lh lo m1 a0 a1 : Nat} {first : Int} {xs os : List Nat} (r1 : z0 ≤ s ∧ s < am ∧ s ∉ X) (r2 : z0 ≤ Lh ∧ Lh < am ∧ Lh ∉ X) (r3 : z0 ≤ Lg ∧ Lg < am ∧ Lg ∉ X) (r4 : z0 ≤ a0 ∧ a1 ≤ am) (r5 : ∀ x ∈ X, x < a0 ∨ a1 ≤ x) (r6 : m1 ≤ M) (r7 : ∀ o ∈ os, o < m1) (r8 : ∀ x ∈ xs, a0 ≤ x ∧ x < a1) : Kp z0 am X M (insS A S b s Ls Lg Lh lo m1 a0 a1 first xs os) := by
  have k1 : Kp z0 am X M (fun _ h => scpO h s Ls Lg) := fun σ τ h h' sm _ W => scpO_keep W (sm s r1.1 r1.2.1 r1.2.2)
  have k2 : Kp z0 am X M (fun _ h => kd h Lh = 42 ∧ ll h Lh = [] ∧ lc h Lh ≤ 10) := Kp_nil ⟨r2.1, r2.2.1⟩ r2.2.2
  have k3 : Kp z0 am X M (fun _ h => kd h Lg = 42 ∧ ll h Lg = xs) := Kp_list ⟨r3.1, r3.2.1⟩ r3.2.2
  have k4 : Kp z0 am X M (fun σ h => grows A S b h σ xs os lo m1 a0 a1) := Kp_grows r4 r5 r6
  have k5 : Kp z0 am X M (fun σ _ => chain σ first os) := Kp_chain (fun o ho => by have := r7 o ho; omega)
  have k6 : Kp z0 am X M (fun _ h => ∀ x ∈ xs, fR h 1350 x = 0 ∧ fR h 1354 x = 0 ∧ fR h 1358 x = 0 ∧ (True → fR h 1346 x = 0)) := Kp_init (fun x hx => ⟨by have := r8 x hx; omega, by have := r8 x hx; omega, fun z => by have := r8 x hx; have := r5 x z; omega⟩)
  exact Kp_and k1 (Kp_and k2 (Kp_and k3 (Kp_and k4 (Kp_and k5 k6))))
/-- the loops over the names of a head -/
noncomputable def TNi (d : Int) (x : tS) : Option tS := (om_loop (T_anInstance_61s d) x).bind fun y5 => (T_need 41 y5).bind fun p6 => T_anInstance_102 d p6
theorem TNi_in {d : Nat} (hd : d < 700) {σ τ : tS} (e : T_takes 2 σ = some (1, τ)) : TNi (d : Int) σ = TNi (d : Int) (ua τ 590 d (w32 (ga τ 590 d + 1))) := by
  have s : T_anInstance_61s (d : Int) σ = some (.inl (ua τ 590 d (w32 (ga τ 590 d + 1)))) := by
    unfold T_anInstance_61s
    rw [e]
    simp only [Option.bind_some]
    rw [if_neg (by decide), if_pos (by omega), show ((d : Int)).toNat = d by omega]
  unfold TNi
  rw [om_loop_in s]
theorem TNi_end {d n : Int} (H : Tst σ N S b m i n M) (c : tokk S i ≠ 2) : TNi d σ = (T_need 41 σ).bind fun p6 => T_anInstance_102 d p6 := by
  have s : T_anInstance_61s d σ = some (.inr σ) := by
    unfold T_anInstance_61s
    rw [(t_takes H (k := 2) (by decide)).2 c]
    rfl
  unfold TNi
  rw [om_loop_out s]
  rfl
theorem TNi_F {n p : Int} {d : Nat} (H : Tfl σ N S b m p n M) (D : ndD σ0 σ M0 d0) : TFv N S b m n σ0 M0 d0 p (TNi (d : Int) σ) := by
  have s : T_anInstance_61s (d : Int) σ = some (.inr σ) := by
    unfold T_anInstance_61s
    rw [t_takesF H]
    rfl
  unfold TNi
  rw [om_loop_out s]
  exact Fd_need H (anInstance_102F H D _)
noncomputable def CNi (G : om_G) (t f : Nat) (x : om_H) : Option ((Nat ⊕ Unit) × om_H) := (om_loop (C_1_readInstance_142s G t f) x).bind (Sum.elim (fun v3 => gd (kd v3 t = 15) (xc (C_14_need_2 G t 41 v3) (fun t h => some (.inl t, h)) (fun p4 h4 => C_1_readInstance_179 G t f h4))) (fun v4 => some v4))
theorem CNi_in {f s L : Nat} {n : Int} (hG : om_okG G) (H : Cst G h t S i n) (c2 : tokk S i = 2) (o : kd h f = 21 ∧ fR h 1286 f = s ∧ kd h s = 5 ∧ fR h 162 s = L) : CNi G t f h = xc (C_14_need G t (om_cA G 2) h) (fun t h => some (.inl t, h)) (fun p1 h1 => gd (kd h1 L = 42) ((P_J2_add G L p1 h1).bind fun p2 => CNi G t f p2.2)) := by
  have e2 := Cst_kind hG H (e := 2) (by decide)
  have s2 := kE_s (tokk_r S i).1 (e := 2) (by decide)
  unfold CNi
  rw [om_loop_eq]
  unfold C_1_readInstance_142s
  rw [gd_pos (Cst_kd H), if_neg (fun z => z (e2.mpr (s2.mpr c2))), o.2.1, o.2.2.2, gd_pos ⟨o.1, o.2.2.1, Cst_kd H⟩]
  simp only [xc_bind, gd_bind, Option.bind_assoc, Option.bind_some, Sum.elim_inl, Sum.elim_inr]
theorem CNi_end {f : Nat} {n : Int} (hG : om_okG G) (H : Cst G h t S i n) (c2 : tokk S i ≠ 2) : CNi G t f h = gd (kd h t = 15) (xc (C_14_need_2 G t 41 h) (fun t h => some (.inl t, h)) (fun p4 h4 => C_1_readInstance_179 G t f h4)) := by
  have e2 := Cst_kind hG H (e := 2) (by decide)
  have s2 := kE_s (tokk_r S i).1 (e := 2) (by decide)
  unfold CNi
  rw [om_loop_eq]
  unfold C_1_readInstance_142s
  rw [gd_pos (Cst_kd H), if_pos (fun z => c2 (s2.mp (e2.mp z)))]
  rfl
set_option maxHeartbeats 1000000 in
/-- the body, from the head on -/
theorem inst_body (hG : om_okG G) (hN : ∃ N', N = [110, 105, 108] :: [99, 111, 110, 115] :: N') {d f s Ls Lg Lh Ll cn con j0 j1 jc jn lo m1 a0 a1 a2 : Nat} {first nb : Int} {xs os ws : List Nat} {Lf : Nat → List Nat} {dv : Nat → Int} (ht : t < hz h0) (hpr : pr < hz h0) (hZ : ∀ a, Z a → a < hz h0) (hd : d < 700 ∧ d0 ≤ d) (hib : j0 < i)
    (r1 : hz h0 ≤ f ∧ f < hz h ∧ f ≠ Ll ∧ f ≠ s ∧ f ≠ Ls ∧ f ≠ Lg ∧ f ≠ Lh ∧ f ≠ cn ∧ f ≠ con) (r2 : hz h0 ≤ s ∧ s < hz h ∧ s ≠ Ll) (r3 : hz h0 ≤ Ls ∧ Ls < hz h ∧ Ls ≠ Ll) (r4 : hz h0 ≤ Lg ∧ Lg < hz h ∧ Lg ≠ Ll) (r5 : hz h0 ≤ Lh ∧ Lh < hz h ∧ Lh ≠ Ll ∧ Lh ≠ Ls ∧ Lh ≠ Lg) (r6 : hz h0 ≤ Ll ∧ Ll < hz h) (r7 : hz h0 ≤ cn ∧ cn < hz h ∧ cn ≠ Ll) (r8 : hz h0 ≤ con ∧ con < hz h ∧ con ≠ Ll) (r9 : hz h0 ≤ a0 ∧ a1 ≤ hz h ∧ f < a0 ∧ Ll < a0) (r10 : lo ≤ m1 ∧ m1 ≤ M ∧ M ≤ m1) (r11 : a2 ≤ hz h) (rw' : ∀ w ∈ ws, w ≠ f ∧ w ≠ Ll)
    (H : At G A t N S b m i 0 M σ h) (Q : DS G t m Z pr σ0 M0 d0 h0 HZ HU 20 340 60 i M σ h) (W : insS A S b s Ls Lg Lh lo m1 a0 a1 first xs os σ h) (I : insO h f s Lh Ll cn con 0 0 (tokq S j0 : Int) nb) (wc : wd h A S cn jc ∧ tokk S jc = 3) (wn : wd h A S con jn ∧ tokk S jn = 3) (wr : kd h Ls = 42 ∧ ll h Ls = ws ∧ wrow A S h (hz h0) a2 j1 ws) (On : okV G h Ll) (Oe : ll h Ll = []) (C : PC h pr (updL Lf 86 f)) (hdv : ∀ g ∈ DA, g ≠ 602 → ga σ g d = dv g) (h602 : ga σ 602 d = -1)
    (hv : dv 570 = 6 ∧ dv 574 = ((b + j0 : Nat) : Int) ∧ dv 578 = ((b + jc : Nat) : Int) ∧ dv 582 = ((b + jn : Nat) : Int) ∧ (ws = [] ∨ dv 586 = ((b + j1 : Nat) : Int)) ∧ dv 590 = (ws.length : Int) ∧ dv 606 = first ∧ dv 610 = -1 ∧ dv 614 = -1) :
    RD G A t N S b m 0 Z pr σ0 M0 d0 h0 HZ HU (fun τ : tS => τ) (fun j M' τ h' _ => insPost G A t S b m Z pr σ0 M0 d0 h0 HZ HU lo d j0 nb Lf j M' τ h') (T_anInstance_102 (d : Int) σ) (C_1_readInstance_179 G t f h) := by
  have Wi := grows_in W.2.2.2.1
  have kS : Kp (hz h0) (hz h) [f, Ll] M (insS A S b s Ls Lg Lh lo m1 a0 a1 first xs os) := insS_Kp ⟨r2.1, r2.2.1, by simp; omega⟩ ⟨r5.1, r5.2.1, by simp; omega⟩ ⟨r4.1, r4.2.1, by simp; omega⟩ ⟨r9.1, r9.2.1⟩ (fun x hx => by
    simp only [List.mem_cons, List.not_mem_nil, or_false] at hx
    omega) r10.2.1 (fun o ho => (Wi.2.2.1 o ho).2) (fun x hx => Wi.2.2.2.1 x hx)
  refine RD_mono (inst_179 (ib := j0 + 1) (R := fun σ g => insS A S b s Ls Lg Lh lo m1 a0 a1 first xs os σ g ∧ (wd g A S cn jc ∧ (wd g A S con jn ∧ ((kd g Ls = 42 ∧ ll g Ls = ws) ∧ wrow A S g (hz h0) a2 j1 ws)))) (Lf := updL Lf 86 f) hG hN ht hpr hZ hd hib (Kp_and kS (Kp_and (Kp_wd ⟨r7.1, r7.2.1⟩ (by simp; omega)) (Kp_and (Kp_wd ⟨r8.1, r8.2.1⟩ (by simp; omega)) (Kp_and (Kp_list ⟨r3.1, r3.2.1⟩ (by simp; omega)) (Kp_wrow ⟨Nat.le_refl _, r11⟩ (fun w hw => by simp; exact rw' w hw)))))) ⟨r1.1, r1.2.1, r1.2.2.1⟩ r6 H Q ⟨W, wc.1, wn.1, ⟨wr.1, wr.2.1⟩, wr.2.2⟩ I On Oe C hdv h602) (fun j M' τ h' _ w => ?_)
  obtain ⟨w1, am, Mb, fam, fw, dv', ls, ns, w2, w3, w4, B1, B2, B3, B4, B5, B6, B7, B8, B9⟩ := w
  have Bi := lrows_in B4
  have eM : m1 = M := by omega
  refine ⟨w1, DSL_DS B2 w4, by omega, f, ⟨s, Ls, Lg, Lh, Ll, cn, con, fam, fw, j1, jc, jn, m1, Mb, a0, a1, a2, am, first, xs, os, ws, ls, ns, dv, dv', B9.1.1.1, B9.1.2, ⟨r7.1, by omega, B9.1.1.2.1, wc.2⟩, ⟨r8.1, by omega, B9.1.1.2.2.1, wn.2⟩, ⟨B9.1.1.2.2.2.1.1, B9.1.1.2.2.2.1.2, B9.1.1.2.2.2.2⟩, by rw [eM]; exact B9.2, ⟨B2.2.1, B3, B4, B5, B6⟩, B7, hv, by omega⟩, B8⟩
end LI2
