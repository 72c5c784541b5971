set_option maxRecDepth 100000
/-! WHAT JUDGING LEAVES, for telling -/
section LJN
variable {G : om_G} {A : Nat} {S : List Int} {b m : Nat} {N : List (List Int)} {pr tb z0 : Nat} {cs fo : List Nat} {mo : List (List Nat)} {K : KT} {F : FT} {Ms : List FT} {hr : om_H} {σr : tS} {M : Nat} {qs : List dcl} {ps : List PD} {rs : List (Nat × Nat × Nat × Nat)} {h h3 h' : om_H} {ul fl us' fs' : List Nat} {τ σ3 σ' : tS} {n n' : Nat} {Sl Sl0 Gx W : Nat → Prop} {cl : List Cp} {il : List IX} {fl' : List FX} {Lp q z u : Nat} {Dk Dk' : Nat → Prop} {ds ds' : List Nat} {dm' : Nat} {l : List JB}
theorem DkL_of {Sl' : Nat → Prop} (P : PoolC G h' tb Sl' Dk' ds' dm') (sL : Sl' Lp) : DkL h' tb Lp Dk' := fun d hd => by
  obtain ⟨⟨_, a2, a3⟩, b1, b2⟩ := P.2.2.2.2.2.1 d hd
  refine ⟨⟨a2, a3⟩, fun z => ?_, fun z => ?_⟩
  · rcases b1 with w | w
    · exact absurd w z
    · exact ⟨w.1, w.2.2.2.2, fun e => w.2.2.1 (by rw [e]; exact sL)⟩
  · rcases b2 with w | w
    · exact absurd w z
    · exact ⟨w.1, w.2.2.2.2, fun e => w.2.2.1 (by rw [e]; exact sL)⟩
theorem tar_58 (X : AX G A S b m N pr tb z0 cs fo mo K F Ms hr σr M qs ps rs h ul fl τ n Sl0 cl il) {y : Nat} (w : tAr K cs h y) : kd h y = 58 := by
  obtain ⟨c, hc, e⟩ := w
  have ex : cl[c]? = some (cl[c]'(by rw [X.1.1]; exact hc)) := List.getElem?_eq_getElem _
  obtain ⟨_, co, _⟩ := X.1.2 c _ ex
  rw [e]
  exact co.2.2.2.2.2.2.1.2.1
theorem jdn_of (R : RA G A S b m N pr tb z0 cs fo mo K F Ms hr σr M qs ps rs h ul fl τ n) (X : AX G A S b m N pr tb z0 cs fo mo K F Ms hr σr M qs ps rs h ul fl τ n Sl0 cl il) (Xf : FXs G A S b m N pr tb z0 cs fo mo K F Ms hr σr M qs ps rs h ul fl τ n Sl0 fl') (O : TOk cl il) (Og : ∀ (f : Nat) (x : FX), fl'[f]? = some x → gvOk x.2.2.2.2.2.1.2.1) (hl : l.length = qs.length) (H : ∀ (i : Nat) (j : JB), l[i]? = some j → DJ G S N cs fo mo ps rs h ul τ n Sl0 Sl cl il fl' (hz h) i j) (hJ : JdK G N (clF cs) tb pr (ssA h il fl') Sl Sl0 Gx (ioF il) (clF fo) (moF mo) (abS cl) (inS il) (fnS fl') (mtS cl) il.length F.length (hz h) h' us' fs' Dk' ds' dm' σ' n' l) (TX : tx τ n σ' n') (e856 : l ≠ [] → gs σ' 856 = 0) (n11 : n' ≤ 110000) (Fr : fr JAS (726 :: JAA) τ σ') (T3 : tF pr (tI il) (tAr K cs h) h h3) (K3 : KB N (clF cs) tb [] (ssA h il fl') Sl0 Gx W h3 ul fl Dk ds 0 h' us' fs' Dk' ds' dm' q z u) (LDs : ∀ (j : Nat) (x : IX) (y : Cp), il[j]? = some x → cl[x.2.2.2.2.1.1]? = some y → LnD h τ x y.2.2.2.2 j h3 σ3) (e726 : ∀ i, ga σ' 726 i = ga σ3 726 i) (m0 : ∀ a, Sl0 a → Sl a) (sLp : Sl Lp) (n0 : ¬ Sl0 Lp) (NTr : NT σr N) (N9 : ∀ w, w ≤ 3 → N[9 + w]? = some (cnN w)) : ∃ (Sl' : Nat → Prop) (lo : Nat) (ess : List (List Et)) (s0 s' : JS), (∀ a, Sl a → Sl' a) ∧ BQ G h' N (clF cs) tb us' fs' [] Sl' Gx (ioF il) (abS cl) (inS il) (ssA h il fl') Dk' ds' dm' s'.1 ∧ JDn G A S b m N pr tb z0 cs fo mo K F Ms hr σr M qs ps rs h ul fl τ n Sl Sl0 cl il fl' Lp h' us' Dk' ds' dm' σ' n' l Sl' lo ess s0 s' := by
  obtain ⟨Sl', lo, ess, s0, s', mm, jj, B', PP, AD, JJ, TJ', JTJ, JT, ab, tT, tC⟩ := hJ
  have k21 : ∀ y, tI il y → kd h y = 21 := fun y w => (il_rg R X w).2
  have XS := hSF_trans (tF_hS (Sl := Sl0) T3 (fun y w => by rw [k21 y w]; decide) (fun y w => by rw [tar_58 X w]; decide)) K3.1
  have kp0 := RA_ty R T3 k21 (fun y w => tar_58 X w)
  have nm : ∀ (w : Nat) (L : List Int), N[w]? = some L → w < 2100 ∧ nmT σ' w L := fun w L e => by
    have lt := (List.getElem?_eq_some_iff.mp e).1
    obtain ⟨a1, a2, a3⟩ := NTr.2.2.1 w L e
    have f1 := R.2.2.2.2.2.1.2.2.2.2
    have n2 := NTr.2.1
    exact ⟨by omega, by rw [Fr.2 494 (by decide), f1.2 494 (by decide)]; exact a1, a2, fun i x ex => by rw [Fr.2 490 (by decide), f1.2 490 (by decide)]; exact a3 i x ex⟩
  refine ⟨Sl', lo, ess, s0, s', mm, B', ⟨R, X, Xf, O, Og⟩, ⟨hl, H⟩, ⟨XS, fun T a c => K3.2.2.2.2.2.2.2.1 T a (kp0 T a c)⟩, ⟨jj, JJ, tC, tT⟩, ⟨TJ', JTJ, JT, Fr, TX, ⟨nm, N9, fun c x ex => ?_⟩, e856, n11⟩, ⟨fun a w => mm a (m0 a w), n0, B'.2.1.2.2.1, B'.2.1.1, B'.2.1.2.1, B'.2.1.2.2.2⟩, PP, AD, DkL_of B'.2.2.2.2.1 (mm _ sLp), ab, fun j x y ex ey k hk => ?_⟩
  · obtain ⟨cT, _⟩ := X.1.2 c x ex
    exact ⟨by rw [Fr.2 662 (by decide)]; exact cT.1.1, by rw [Fr.2 674 (by decide)]; exact cT.2.2.2.1.1⟩
  · obtain ⟨_, _, _, _, _, _, w⟩ := LDs j x y ex ey
    rw [e726, w k hk]
end LJN
