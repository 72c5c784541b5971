set_option maxRecDepth 100000
/-! RESOLVE, classes: methods in both; in the component alone -/
section LRM
variable {G : om_G} {A : Nat} {S : List Int} {b m : Nat} {N : List (List Int)} {cs : List Nat} {K : KT} {pr Ln : Nat} {Ls : List (List Int)} {sc : List Nat} {tb : Nat} {rest : List (Nat × List Nat)} {fo : List Nat} {F : FT} {mo : List (List Nat)} {Ms : List FT}
variable {h h' h2 : om_H} {us fs us' fs' us2 fs2 : List Nat} {σ τ υ : tS} {n n' q q2 z u z2 u2 lo hi alo ahi a0 amid a c : Nat} {B B2 : List Int} {X : Int} {P : Nat → Prop}
theorem T_nameAt_fr {fs' as : List Nat} (R : fr fs' as σ τ) (d : ∀ f ∈ [470, 474, 478, 482], f ∉ as) (x : Int) : T_nameAt x τ = T_nameAt x σ := by
  unfold T_nameAt
  first
  | rw [R.2 482 (d 482 (by simp))]
  | rw [R.2 478 (d 478 (by simp))]
  | rw [R.2 474 (d 474 (by simp))]
  | rw [R.2 470 (d 470 (by simp))]
/-- the twin's inner loop: the type of a method is put where its name stands -/
theorem t_50 {ci o mm w j : Nat} {t : Int} (hc : ci < 8) (ho : o < 8400) (hm : mm ≤ 4) (TT1 : TT τ N S b m) (em : ga τ 678 ci = (mm : Int)) (eo : ga τ 542 o = ((b + j : Nat) : Int)) (en : T_nameAt ((b + j : Nat) : Int) τ = some (w : Int)) : ∀ (d i : Nat) (υ : tS), i + d = mm → fr [] [686] τ υ → (∀ y, ga υ 686 y = if 4 * ci ≤ y ∧ y < 4 * ci + i ∧ ga τ 682 y = (w : Int) then t else ga τ 686 y) →
    ∃ υ', om_loop (T_fillClass_50s (ci : Int) (o : Int) t) (((4 * ci + i : Nat) : Int), υ) = some υ' ∧ fr [] [686] τ υ' ∧ ∀ y, ga υ' 686 y = if 4 * ci ≤ y ∧ y < 4 * ci + mm ∧ ga τ 682 y = (w : Int) then t else ga τ 686 y
  | 0, i, υ, hd, R, H => by
    refine ⟨υ, om_loop_out ?_, R, by rw [show mm = i by omega]; exact H⟩
    have w1 : w32 (4 * (ci : Int)) = 4 * (ci : Int) := w32_s (by omega) (by omega)
    have w2 : w32 (4 * (ci : Int) + (mm : Int)) = 4 * (ci : Int) + (mm : Int) := w32_s (by omega) (by omega)
    unfold T_fillClass_50s
    simp only
    rw [if_pos (by omega), show ((ci : Int)).toNat = ci by omega, R.2 678 (by decide), em, w1, w2, if_pos (by omega)]
  | d + 1, i, υ, hd, R, H => by
    have w1 : w32 (4 * (ci : Int)) = 4 * (ci : Int) := w32_s (by omega) (by omega)
    have w2 : w32 (4 * (ci : Int) + (mm : Int)) = 4 * (ci : Int) + (mm : Int) := w32_s (by omega) (by omega)
    have w3 : w32 (((4 * ci + i : Nat) : Int) + 1) = ((4 * ci + (i + 1) : Nat) : Int) := by rw [w32_s (by omega) (by omega)]; omega
    have en' : T_nameAt ((b + j : Nat) : Int) υ = some (w : Int) := by rw [T_nameAt_fr R (by decide)]; exact en
    have st : ∀ υ2, T_fillClass_50s (ci : Int) (o : Int) t (((4 * ci + i : Nat) : Int), υ) = some (.inl (((4 * ci + (i + 1) : Nat) : Int), υ2)) → fr [] [686] τ υ2 → (∀ y, ga υ2 686 y = if 4 * ci ≤ y ∧ y < 4 * ci + (i + 1) ∧ ga τ 682 y = (w : Int) then t else ga τ 686 y) → ∃ υ', om_loop (T_fillClass_50s (ci : Int) (o : Int) t) (((4 * ci + i : Nat) : Int), υ) = some υ' ∧ fr [] [686] τ υ' ∧ ∀ y, ga υ' 686 y = if 4 * ci ≤ y ∧ y < 4 * ci + mm ∧ ga τ 682 y = (w : Int) then t else ga τ 686 y := fun υ2 e1 e2 e3 => by
      rw [om_loop_in e1]
      exact t_50 hc ho hm TT1 em eo en d (i + 1) υ2 (by omega) e2 e3
    by_cases c : ga τ 682 (4 * ci + i) = (w : Int)
    · refine st (ua υ 686 (4 * ci + i) t) ?_ ⟨fun f hf => R.1 f hf, fun f hf y => ?_⟩ (fun y => ?_)
      · unfold T_fillClass_50s
        simp only
        rw [if_pos (by omega), show ((ci : Int)).toNat = ci by omega, R.2 678 (by decide), em, w1, w2, if_neg (by omega), if_pos (by omega), show ((o : Int)).toNat = o by omega, show (((4 * ci + i : Nat) : Int)).toNat = 4 * ci + i by omega, R.2 542 (by decide), eo, en', Option.bind_some, R.2 682 (by decide), if_neg (fun z => z c), if_pos (by omega), w3]
      · rw [ga_ua, if_neg (fun z => hf (by rw [z.1]; simp))]; exact R.2 f hf y
      · rw [ga_ua, H y]
        by_cases e : y = 4 * ci + i
        · rw [if_pos ⟨rfl, e⟩, if_pos ⟨by omega, by omega, by rw [e]; exact c⟩]
        · rw [if_neg (fun z => e z.2)]
          by_cases r : 4 * ci ≤ y ∧ y < 4 * ci + i ∧ ga τ 682 y = (w : Int)
          · rw [if_pos r, if_pos ⟨r.1, by omega, r.2.2⟩]
          · rw [if_neg r, if_neg (fun z => r ⟨z.1, by omega, z.2.2⟩)]
    · refine st υ ?_ R (fun y => ?_)
      · unfold T_fillClass_50s
        simp only
        rw [if_pos (by omega), show ((ci : Int)).toNat = ci by omega, R.2 678 (by decide), em, w1, w2, if_neg (by omega), if_pos (by omega), show ((o : Int)).toNat = o by omega, show (((4 * ci + i : Nat) : Int)).toNat = 4 * ci + i by omega, R.2 542 (by decide), eo, en', Option.bind_some, R.2 682 (by decide), if_pos c, w3]
      · rw [H y]
        by_cases r : 4 * ci ≤ y ∧ y < 4 * ci + i ∧ ga τ 682 y = (w : Int)
        · rw [if_pos r, if_pos ⟨r.1, by omega, r.2.2⟩]
        · rw [if_neg r]
          by_cases r2 : 4 * ci ≤ y ∧ y < 4 * ci + (i + 1) ∧ ga τ 682 y = (w : Int)
          · exact absurd (show ga τ 682 (4 * ci + i) = (w : Int) by rw [show 4 * ci + i = y by omega]; exact r2.2.2) c
          · rw [if_neg r2]
/-- the methods in the component alone: the twin's state is a witness only -/
theorem rc_alone {Lm j0 lo0 : Nat} {ms : List Nat} (HU : KU S b m N K sc σ n) (rc : a0 ≤ c ∧ c < amid) (rL : a0 ≤ Lm ∧ Lm < amid) (rN : a0 ≤ Ln ∧ Ln < amid) (nv : ∀ i : Nat, lo0 ≤ i → i < hi → ((b + j0 : Nat) : Int) ≤ ga σ 542 i) : ∀ (xs os : List Nat) (k lo alo : Nat) (h : om_H) (us fs P : List Nat), mrows A S b h σ c k xs os lo hi alo amid → a0 ≤ alo → lo0 ≤ lo → RX G A S N cs K pr tb rest fo F mo Ms h us fs → clF1 h pr tb c Lm Ln Ls ms → ms = P ++ xs → P.length = k → KR S lo hi a0 amid pr tb h us fs n →
    ∃ (h' : om_H) (us' fs' : List Nat) (B : List Int), om_loop (C_1_resolveClass_114s G pr c) ((k : Int), h) = some h' ∧ RS G A S N cs K pr tb rest fo F mo Ms a0 amid h us fs h' us' fs' (hi - lo) 0 0 B ∧ hkV a0 amid h h' ∧ bj S j0 B ∧ SCc h' Ln Ls
  | [], [], k, lo, alo, h, us, fs, P, W, _, _, H, C, eP, pk, R => by
    obtain ⟨c1, ⟨c2, c3, c4, c5⟩, ⟨c6, c7, c8⟩, c9⟩ := C
    refine ⟨h, us, fs, [], om_loop_out ?_, RS_le (RS_refl H) (by omega) (by omega) (by omega), hkV_refl, bj_nil, c7⟩
    unfold C_1_resolveClass_114s
    simp only
    have e1 : P_J2_size G (fR h 1230 c) h = some ((ms.length : Nat) : Int) := by unfold P_J2_size; rw [c2, gd_pos c3, c4]
    rw [gd_pos ⟨c1, by rw [c2]; exact c3⟩, e1, Option.bind_some, if_pos (by rw [eP, List.append_nil]; omega)]
  | x :: xs, o :: os, k, lo, alo, h, us, fs, P, ⟨kk, a1, a2, p, j, q1, q2, q3, q4, q5⟩, ha, hl, H, C, eP, pk, R => by
    obtain ⟨d1, d2, d3, d4, d5⟩ := mrows_in q5
    have i := WR_in q1
    have ex : ms[k]? = some x := by rw [eP, ← pk]; exact at_len
    obtain ⟨t, τ, n', y, h1, us1, fs1, XC, XT, f1, f2, f3, f4, f4', f5, f6, f7, f8, f9, f10⟩ := rc_one (hi := o) H HU C rN ex q4.1 ⟨by omega, by omega⟩ q1 ⟨by omega, by omega⟩ (j := j) ⟨q4.2.1.1, q4.2.1.2.2.1⟩ (KR_sub R (Nat.le_refl _) (by omega) (Nat.le_refl _) (Nat.le_refl _))
    have zA := R.1.2.1
    have z1 := f3.2.1.1.1
    have l1 := f3.2.1.2.2.2.1
    have C1 := clF1_step C R.2.1 f4 rc rL rN f4' (f3.2.1.2.2.2.2.1.2 122) (f3.2.2.1.2 78)
    have R1 : KR S (o + 1) hi a0 amid pr tb h1 us1 fs1 n := ⟨⟨R.1.1, by omega, R.1.2.2⟩, dj_CS R.2.1 f3.2.1 zA, by have := R.2.2.1; omega, by have := R.2.2.2; omega⟩
    obtain ⟨h3, us3, fs3, B3, g1, g2, g3, g4, g5⟩ := rc_alone HU rc rL rN nv xs os (k + 1) (o + 1) a2 h1 us1 fs1 (P ++ [x]) (mrows_keepF q5 (hkF_sub (hkV_F f4) (by omega) (Nat.le_refl _)) (fun _ _ _ _ _ => rfl)) (by omega) (by omega) f3.1 C1 (by rw [eP, List.append_assoc]; rfl) (by rw [List.length_append, pk]; rfl) R1
    refine ⟨h3, us3, fs3, _, by rw [om_loop_in f2]; exact g1, RS_le (RS_trans f3 g2) (by omega) (by omega) (by omega), hkV_trans f4 g3, bj_app (bj_app ?_ (bj_brk f8 (fun i x y => nv i (by omega) (by omega)))) g4, g5⟩
    split
    · exact bj_nil
    · intro y' hy
      have := nv o (by omega) (by omega)
      rw [q2.2.1] at this
      exact .inr ⟨j, by omega, List.mem_singleton.mp hy⟩
  | [], _ :: _, _, _, _, _, _, _, _, W, _, _, _, _, _, _, _ => W.elim
  | _ :: _, [], _, _, _, _, _, _, _, W, _, _, _, _, _, _, _ => W.elim
end LRM
