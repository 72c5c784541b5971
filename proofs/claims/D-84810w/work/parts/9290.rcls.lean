set_option maxRecDepth 100000
/-! RESOLVE, classes: methods, in the component (the twin's type beside it) -/
/-- breaks lie from token j0 on -/
def bj (S : List Int) (j0 : Nat) (B : List Int) : Prop := ∀ y ∈ B, y = 2147483647 ∨ ∃ j, j0 ≤ j ∧ y = (tokq S j : Int)
/-- breaks in both ways behind one another -/
def lbE (A B : List Int) : Prop := lb A B ∧ lb B A
section LRC
variable {G : om_G} {A : Nat} {S : List Int} {b m : Nat} {N : List (List Int)} {cs : List Nat} {K : KT} {pr Ln : Nat} {Ls : List (List Int)} {sc : List Nat} {tb : Nat} {rest : List (Nat × List Nat)} {fo : List Nat} {F : FT} {mo : List (List Nat)} {Ms : List FT}
variable {h h' h2 : om_H} {us fs us' fs' us2 fs2 : List Nat} {σ τ : tS} {n n' q q2 z u z2 u2 lo hi alo ahi a0 amid a c : Nat} {B B2 : List Int} {X : Int} {P : Nat → Prop}
theorem hkF_refl : hkF alo ahi h h := fun _ _ _ => ⟨rfl, fun _ _ => rfl, fun _ _ => rfl, rfl, rfl⟩
theorem hkF_trans (A1 : hkF alo ahi h h') (B1 : hkF alo ahi h' h2) : hkF alo ahi h h2 := fun y c d => by
  obtain ⟨a1, a2, a3, a4, a5⟩ := A1 y c d
  obtain ⟨b1, b2, b3, b4, b5⟩ := B1 y c d
  exact ⟨b1.trans a1, fun f hf => (b2 f hf).trans (a2 f hf), fun f hf => (b3 f hf).trans (a3 f hf), b4.trans a4, b5.trans a5⟩
theorem hkF_hk (H : hk alo ahi h h') : hkF alo ahi h h' := fun y c d => ⟨(H y c d).1, fun f _ => (H y c d).2.1 f, fun f _ => (H y c d).2.2.1 f, (H y c d).2.2.2⟩
theorem hkF_ru (D : dj h tb fs pr alo ahi) : hkF alo ahi h (ruH h pr B) := fun y c d => ⟨rfl, fun f _ => fI_na (fun e => by have := D pr (.inr rfl); omega), fun _ _ => rfl, rfl, rfl⟩
theorem hkF_hG (Y : hG a h h') : hkF alo ahi h h' := fun y _ _ => ⟨hG_kd Y y, fun f hf => hG_fI Y (fun z => hf (by simp only [List.mem_cons, List.not_mem_nil, or_false] at z ⊢; omega)) y, fun f hf => hG_fR Y (fun z => hf (by simp only [List.mem_cons, List.not_mem_nil, or_false] at z ⊢; omega)) y, hG_ll Y y⟩
/-- the same, but for what resolve writes -/
def hkV (alo ahi : Nat) (h h' : om_H) : Prop := ∀ y, alo ≤ y → y < ahi → kd h' y = kd h y ∧ (∀ f, f ∉ GD ++ ND ++ Wi → fI h' f y = fI h f y) ∧ (∀ f, f ∉ Wr → fR h' f y = fR h f y) ∧ ll h' y = ll h y ∧ lc h' y = lc h y ∧ an h' y = an h y ∧ ∀ k, aR h' y k = aR h y k
theorem hkV_F (H : hkV alo ahi h h') : hkF alo ahi h h' := fun y c d => by
  obtain ⟨a1, a2, a3, a4, a5, a6, a7⟩ := H y c d
  exact ⟨a1, fun f hf => a2 f (fun z => hf (by simp only [List.mem_append, List.mem_cons, List.not_mem_nil, or_false] at z ⊢; omega)), fun f hf => a3 f (fun z => hf (by simp only [List.mem_cons, List.not_mem_nil, or_false] at z ⊢; omega)), a4, a5⟩
theorem hkV_refl : hkV alo ahi h h := fun _ _ _ => ⟨rfl, fun _ _ => rfl, fun _ _ => rfl, rfl, rfl, rfl, fun _ => rfl⟩
theorem hkV_sub {blo bhi : Nat} (H : hkV alo ahi h h') (h1 : alo ≤ blo) (h2 : bhi ≤ ahi) : hkV blo bhi h h' := fun y c d => H y (by omega) (by omega)
theorem hkV_trans (A1 : hkV alo ahi h h') (B1 : hkV alo ahi h' h2) : hkV alo ahi h h2 := fun y c d => by
  obtain ⟨a1, a2, a3, a4, a5, a6, a7⟩ := A1 y c d
  obtain ⟨b1, b2, b3, b4, b5, b6, b7⟩ := B1 y c d
  exact ⟨b1.trans a1, fun f hf => (b2 f hf).trans (a2 f hf), fun f hf => (b3 f hf).trans (a3 f hf), b4.trans a4, b5.trans a5, b6.trans a6, fun k => (b7 k).trans (a7 k)⟩
theorem hkV_eq (H : ∀ y, alo ≤ y → y < ahi → eqA y h h') : hkV alo ahi h h' := fun y c d => by
  obtain ⟨b1, b2, b3, b4, b5, b6, b7, b8⟩ := H y c d
  exact ⟨b1, fun f _ => b2 f, fun f _ => b3 f, b7, b8, b4, b6⟩
theorem hkV_ru (D : dj h tb fs pr alo ahi) : hkV alo ahi h (ruH h pr B) := fun y c d => ⟨rfl, fun f _ => fI_na (fun e => by have := D pr (.inr rfl); omega), fun _ _ => rfl, rfl, rfl, rfl, fun _ => rfl⟩
theorem hG_aR (Y : hG a h h') (y : Nat) : an h' y = an h y ∧ ∀ k, aR h' y k = aR h y k := by
  by_cases c : y = a
  · rw [c]; exact ⟨Y.2.2.2.2.2.1, Y.2.2.2.2.2.2.2.1⟩
  · exact ⟨(Y.2.1 y c).2.2.2.1, (Y.2.1 y c).2.2.2.2.2.1⟩
theorem hkV_hG (Y : hG a h h') : hkV alo ahi h h' := fun y _ _ => ⟨hG_kd Y y, fun f hf => hG_fI Y (fun z => hf (List.mem_append_right _ z)) y, fun f hf => hG_fR Y hf y, (hG_ll Y y).1, (hG_ll Y y).2, hG_aR Y y⟩
theorem mrows_keepF {c : Nat} : ∀ {k : Nat} {xs os : List Nat} {lo hi alo ahi : Nat}, mrows A S b h σ c k xs os lo hi alo ahi → hkF alo ahi h h' → nall lo hi σ τ → mrows A S b h' τ c k xs os lo hi alo ahi
  | _, [], [], _, _, _, _, r, _, _ => r
  | k, x :: xs, o :: os, lo, hi, alo, ahi, ⟨kk, a1, a2, p, j, q1, q2, q3, q4, q5⟩, H, L => by
    obtain ⟨c1, c2, c3, c4, c5⟩ := mrows_in q5
    have i := WR_in q1
    obtain ⟨k1, k2, k3, k4, k5⟩ := H x (by omega) (by omega)
    refine ⟨kk, a1, a2, p, j, by rw [k3 1246 (by decide)]; exact WR_keepF q1 (hkF_sub H (by omega) (by omega)) (nall_nk L (Nat.le_refl _) (by omega)), ⟨by rw [L 538 (by simp) o (by omega) (by omega)]; exact q2.1, by rw [L 542 (by simp) o (by omega) (by omega)]; exact q2.2.1, q2.2.2.1, by rw [L 546 (by simp) o (by omega) (by omega)]; exact q2.2.2.2⟩, by rw [k3 1242 (by decide)]; exact q3, ⟨by rw [k1]; exact q4.1, by rw [k3 1242 (by decide)]; exact wd_hkF H (by omega) (by omega) q4.2.1, by rw [k3 1250 (by decide)]; exact q4.2.2.1, by rw [k2 1252 (by decide)]; exact q4.2.2.2⟩, mrows_keepF q5 (hkF_sub H (by omega) (Nat.le_refl _)) (fun f hf x d e => L f hf x (by omega) e)⟩
  | _, [], _ :: _, _, _, _, _, r, _, _ => r.elim
  | _, _ :: _, [], _, _, _, _, r, _, _ => r.elim
theorem bj_app (h1 : bj S n B) (h2 : bj S n B2) : bj S n (B ++ B2) := fun y hy => (List.mem_append.mp hy).elim (h1 y) (h2 y)
theorem bj_nil : bj S n [] := fun y hy => absurd hy List.not_mem_nil
theorem bj_brk {j0 : Nat} (k : brk S b m σ lo hi X) (nv : ∀ i : Nat, lo ≤ i → i < hi → ((b + j0 : Nat) : Int) ≤ ga σ 542 i) : bj S j0 [X] := fun y hy => by
  rw [List.mem_singleton.mp hy]
  rcases k with k | ⟨v, j, k1, k2, k3, k4, k5⟩
  · exact .inl k
  · have := nv v k1 k2
    rw [k3] at this
    exact .inr ⟨j, by omega, k5⟩
/-- a class and its methods, while they are gone through -/
def clF1 (h : om_H) (pr tb c Lm Ln : Nat) (Ls : List (List Int)) (ms : List Nat) : Prop := kd h c = 18 ∧ (fR h 1230 c = Lm ∧ kd h Lm = 42 ∧ ll h Lm = ms ∧ ms.length ≤ 1300) ∧ (fR h 1234 c = Ln ∧ SCc h Ln Ls ∧ Ln ≠ fR h 122 tb) ∧ fR h 78 pr = tb
/-- what runs need: room and distance -/
def RR (S : List Int) (lo hi alo ahi pr tb : Nat) (h : om_H) (us fs : List Nat) (n : Nat) : Prop := KR S lo hi alo ahi pr tb h us fs n
theorem clF1_step {Lm : Nat} {ms : List Nat} (H : clF1 h pr tb c Lm Ln Ls ms) (D : dj h tb fs pr a0 amid) (K1 : hkV a0 amid h h') (rc : a0 ≤ c ∧ c < amid) (rL : a0 ≤ Lm ∧ Lm < amid) (rN : a0 ≤ Ln ∧ Ln < amid) (C : SCc h' Ln Ls) (e1 : fR h' 122 tb = fR h 122 tb) (e2 : fR h' 78 pr = fR h 78 pr) : clF1 h' pr tb c Lm Ln Ls ms := by
  obtain ⟨h1, ⟨h2, h3, h4, h5⟩, ⟨h6, h7, h8⟩, h9⟩ := H
  obtain ⟨k1, k2, k3, k4, k5, k6⟩ := K1 c rc.1 rc.2
  obtain ⟨l1, l2, l3, l4, l5, l6⟩ := K1 Lm rL.1 rL.2
  exact ⟨by rw [k1]; exact h1, ⟨by rw [k3 1230 (by decide)]; exact h2, by rw [l1]; exact h3, by rw [l4]; exact h4, h5⟩, ⟨by rw [k3 1234 (by decide)]; exact h6, C, by rw [e1]; exact h8⟩, by rw [e2]; exact h9⟩
/-- one method -/
theorem rc_one {Lm x v j k a1 a2 : Nat} {ms : List Nat} (H : RX G A S N cs K pr tb rest fo F mo Ms h us fs) (HU : KU S b m N K sc σ n) (C : clF1 h pr tb c Lm Ln Ls ms) (rN : a0 ≤ Ln ∧ Ln < amid) (ex : ms[k]? = some x) (kx : kd h x = 19) (rx : a0 ≤ x ∧ x < amid) (W : WR A S b h σ 59 lo hi a1 a2 (fR h 1246 x) v) (r1 : a0 ≤ a1 ∧ a2 ≤ amid) (wj : kd h (fR h 1242 x) = 17 ∧ fI h 1188 (fR h 1242 x) = (tokq S j : Int)) (R : KR S lo hi a0 amid pr tb h us fs n) :
    ∃ (t : Int) (τ : tS) (n' y : Nat) (h' : om_H) (us' fs' : List Nat) (XC XT : Int), T_known (v : Int) σ = some (t, τ) ∧ C_1_resolveClass_114s G pr c ((k : Int), h) = some (.inl (((k + 1 : Nat) : Int), h')) ∧ RS G A S N cs K pr tb rest fo F mo Ms a0 amid h us fs h' us' fs' (hi - lo) 0 0 ((if k < 4 then [] else [(tokq S j : Int)]) ++ [XC]) ∧ hkV a0 amid h h' ∧ SCc h' Ln Ls ∧ fR h' 1262 x = y ∧ (∀ y, a0 ≤ y → y < amid → y ≠ x → eqA y h h') ∧ ST S b m N K sc σ n τ n' (hi - lo) XT ∧ brk S b m σ lo hi XC ∧ brk S b m σ lo hi XT ∧ tR N cs rest (scA N sc Ls) h' us' τ n' [y] [t] XC XT (hi - lo) 59 ∧ (∀ T, tyT τ n' T t → T ≠ .leaf → bp τ = 2147483647 → nmIn sc T) := by
  obtain ⟨c1, ⟨c2, c3, c4, c5⟩, ⟨c6, c7, c8⟩, c9⟩ := C
  have kp := H.1.2.2.1.1.1
  have kl : k < ms.length := (List.getElem?_eq_some_iff.mp ex).1
  have ewk : w32 ((k : Int) + 1) = ((k + 1 : Nat) : Int) := by rw [w32_s (by omega) (by omega)]; rfl
  have H1 := RS_ruH (alo := a0) (ahi := amid) H (if k < 4 then [] else [(tokq S j : Int)])
  have tm := c_tooMany (G := G) (h := h) (pr := pr) (x := (tokq S j : Int)) (i := k) (n := 4) kp
  have D := R.2.1
  have K1 : hkV a0 amid h (ruH h pr (if k < 4 then [] else [(tokq S j : Int)])) := hkV_ru D
  have S1 : SCc (ruH h pr (if k < 4 then [] else [(tokq S j : Int)])) Ln Ls := hF_SCc ruH_F (by decide) c7
  have R1 : KR S lo hi a0 amid pr tb (ruH h pr (if k < 4 then [] else [(tokq S j : Int)])) us fs n := R
  have W1 : WR A S b (ruH h pr (if k < 4 then [] else [(tokq S j : Int)])) σ 59 lo hi a1 a2 (fR h 1246 x) v := WR_keepF W (hkF_sub (hkV_F K1) r1.1 r1.2) (nall_nk (fun _ _ _ _ _ => rfl) (Nat.le_refl _) (Nat.le_refl _))
  have e46 : fR (ruH h pr (if k < 4 then [] else [(tokq S j : Int)])) 1246 x = fR h 1246 x := rfl
  have e34 : fR (ruH h pr (if k < 4 then [] else [(tokq S j : Int)])) 1234 c = Ln := c6
  have e78 : fR (ruH h pr (if k < 4 then [] else [(tokq S j : Int)])) 78 pr = tb := c9
  have e22 : fR (ruH h pr (if k < 4 then [] else [(tokq S j : Int)])) 122 tb = fR h 122 tb := rfl
  have kx1 : kd (ruH h pr (if k < 4 then [] else [(tokq S j : Int)])) x = 19 := kx
  have kc1 : kd (ruH h pr (if k < 4 then [] else [(tokq S j : Int)])) c = 18 := c1
  have kp1 : kd (ruH h pr (if k < 4 then [] else [(tokq S j : Int)])) pr = 2 := kp
  have eq1 : ∀ y, a0 ≤ y → y < amid → eqA y h (ruH h pr (if k < 4 then [] else [(tokq S j : Int)])) := fun y d1 d2 => ⟨rfl, fun f => fI_na (fun e => by have := D pr (.inr rfl); omega), fun _ => rfl, rfl, fun _ => rfl, fun _ => rfl, rfl, rfl⟩
  have z1 : hz (ruH h pr (if k < 4 then [] else [(tokq S j : Int)])) = hz h := rfl
  generalize ruH h pr (if k < 4 then [] else [(tokq S j : Int)]) = h1 at *
  have HK := KC_of H1.1 S1 (by rw [e22]; exact c8)
  obtain ⟨t, τ, n', y, h3, us', fs', XC, XT, f1, f2, f3, f4, f5, f6, f7⟩ := known_rel 59 60 60 (by decide) (by decide) lo hi a1 a2 (fR h 1246 x) v h1 us fs σ n HK HU W1 (KR_sub R1 (Nat.le_refl _) (Nat.le_refl _) r1.1 r1.2)
  have H3 := RS_SC (alo := a0) (ahi := amid) H1.1 f3
  have zA := R1.1.2.1
  have kx3 : kd h3 x = 19 := by rw [f3.2.1.1.2.2.1 x (by omega)]; exact kx1
  have H4 := RS_hG (a := x) (alo := a0) (ahi := amid) H3.1 (hG_sR (f := 1262) (x := y) (by decide)) (by rw [kx3]; decide) rx
  have ff : C_1_typeOf G pr (fR h 1246 x) Ln tb h1 = some (y, h3) := f2
  have k13 : ∀ y, a0 ≤ y → y < amid → eqA y h1 h3 := fun y' d1 d2 => f3.2.1.1.2.2.2 y' (by omega) (fun e => by
    rcases e with e | e
    · have := R1.2.1 y' (.inl e); omega
    · have := R1.2.1 y' (.inr e); omega)
  refine ⟨t, τ, n', y, sR h3 1262 x y, us', fs', XC, XT, f1, ?_, ?_, hkV_trans (hkV_trans K1 (hkV_eq k13)) (hkV_hG (hG_sR (f := 1262) (x := y) (by decide))), hG_SCc (hG_sR (f := 1262) (x := y) (by decide)) f3.1.2.2.2.1, fR_eq, fun y' d1 d2 d3 => ?_, f4, f5, f6, ?_, fun T hT hn hb => ?_⟩
  · unfold C_1_resolveClass_114s
    simp only
    have e1 : P_J2_size G (fR h 1230 c) h = some ((ms.length : Nat) : Int) := by unfold P_J2_size; rw [c2, gd_pos c3, c4]
    have e2 : P_J2_get G (fR h 1230 c) (k : Int) h = some x := by unfold P_J2_get; rw [c2, gd_pos ⟨c3, by omega⟩, c4, show ((k : Int)).toNat = k by omega, ex]
    rw [gd_pos ⟨c1, by rw [c2]; exact c3⟩, e1, Option.bind_some, if_neg (by omega), gd_pos ⟨c1, by rw [c2]; exact c3⟩, e2, Option.bind_some, gd_pos ⟨.inr kx, kx, wj.1, kp⟩, wj.2, show (4 : Int) = ((4 : Nat) : Int) from rfl, tm, Option.bind_some, gd_pos ⟨kx1, kc1, kp1⟩, e46, e34, e78, ff, Option.bind_some, gd_pos kx3, ewk]
  · have := RS_trans (RS_trans H1 H3) H4
    rw [List.append_nil] at this
    exact RS_le this (by omega) (by omega) (by omega)
  · have e1 := eq1 y' d1 d2
    have e3 : eqA y' h1 h3 := f3.2.1.1.2.2.2 y' (by omega) (fun e => by
      rcases e with e | e
      · have := R1.2.1 y' (.inl e); omega
      · have := R1.2.1 y' (.inr e); omega)
    have e4 : eqA y' h3 (sR h3 1262 x y) := (hG_sR (f := 1262) (x := y) (by decide)).2.1 y' d3
    exact ⟨e4.1.trans (e3.1.trans e1.1), fun f => (e4.2.1 f).trans ((e3.2.1 f).trans (e1.2.1 f)), fun f => (e4.2.2.1 f).trans ((e3.2.2.1 f).trans (e1.2.2.1 f)), e4.2.2.2.1.trans (e3.2.2.2.1.trans e1.2.2.2.1), fun k => (e4.2.2.2.2.1 k).trans ((e3.2.2.2.2.1 k).trans (e1.2.2.2.2.1 k)), fun k => (e4.2.2.2.2.2.1 k).trans ((e3.2.2.2.2.2.1 k).trans (e1.2.2.2.2.2.1 k)), e4.2.2.2.2.2.2.1.trans (e3.2.2.2.2.2.2.1.trans e1.2.2.2.2.2.2.1), e4.2.2.2.2.2.2.2.trans (e3.2.2.2.2.2.2.2.trans e1.2.2.2.2.2.2.2)⟩
  · obtain ⟨g1, g2, g3, g4⟩ := f7
    have up : ∀ T y', tyC h3 N (clF cs) (UU us' rest) T y' → tyC (sR h3 1262 x y) N (clF cs) (UU us' rest) T y' := fun T y' => H4.2.1.2.2.2.2.2.1 T y'
    exact ⟨g1, fun y' hy => ⟨(g2 y' hy).1, by obtain ⟨T, hT⟩ := (g2 y' hy).2; exact ⟨T, up T y' hT⟩⟩, g3, fun sA => ⟨(g4 sA).1, fun e i y' t' e1 e2 => by obtain ⟨T, T1, T2, T3⟩ := (g4 sA).2 e i y' t' e1 e2; exact ⟨T, T1, up T y' T2, T3⟩⟩⟩
  · rcases rd_known 59 60 60 (by decide) (by decide) lo hi a1 a2 (fR h 1246 x) v h1 us fs σ n HK HU W1 (KR_sub R1 (Nat.le_refl _) (Nat.le_refl _) r1.1 r1.2) t τ n' f1 f4.1 with e | ⟨T', q1, q2⟩
    · exact absurd ((tyT_0 hT).mpr e) hn
    · rw [tyT_fun hT q1]
      exact RdT_nm (fun w q => q hb) q2
end LRC
