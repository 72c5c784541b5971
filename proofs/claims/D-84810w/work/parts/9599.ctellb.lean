set_option maxRecDepth 100000
/-! A TERM IS TOLD BYTE BY BYTE, in the component -/
section LCB
variable {G : om_G} {h : om_H} {N : List (List Int)} {cl : Nat → Nat} {tb l0 sc pv Lp te s tm : Nat} {us fs : List Nat} {rest : List (Nat × List Nat)} {Sl : Nat → Prop} {io : Nat → Nat} {ab : List (Option Nat)} {ins : List INs} {gv : List GVs} {nm con fam cnm : Nat → List Int} {ns : List Nat} {L1 : List Int}
theorem c_tellB (R : TlR G h N cl tb l0 us fs rest pv Lp te s tm) (e204 : fI h 204 s = 2147483647) (hm : tm < hz h) (e378 : fR h 378 tm = sc) (e382 : fR h 382 tm = tb) (T : TermC G h N cl tb l0 us fs rest Sl io ab ins pv Lp te s tm nm con fam cnm sc ns gv (fR h 386 tm) (fR h 390 tm) L1) (hl : (allB nm ns ++ givB nm con fam cnm 0 gv ++ L1).length < 1000000000) (l2 : Int) : ∃ h', C_6_term G te tm l2 h = some (.inr (), h') ∧ TvP G h' N cl tb l0 us fs rest pv Lp te s ∧ KM N cl tb l0 pv Lp s tm rest us fs h h' ∧ (fI h' 192 s = ((allB nm ns ++ givB nm con fam cnm 0 gv ++ L1).length : Int) ∧ fI h' 204 s = 2147483647) ∧ (∀ (i : Nat) (x : Int), l2 = (i : Int) → (allB nm ns ++ givB nm con fam cnm 0 gv ++ L1)[i]? = some x → fI h' 200 s = x) ∧ ((l2 < 0 ∨ ((allB nm ns ++ givB nm con fam cnm 0 gv ++ L1).length : Int) ≤ l2) → fI h' 200 s = -1) := by
  obtain ⟨nd, wo, hI, TP, m13, htl⟩ := R
  obtain ⟨Q, I, hN, S, B⟩ := T
  have KB := KM_B (tm := tm) nd TP m13 Q l2
  obtain ⟨E2, _, _, ⟨S0, i196, i200, i204⟩, _⟩ := c_begT nd TP Q l2
  have R' : (fR h 390 tm = 0 ∧ RXt G te s (fun h => TvE G h N cl tb l0 sc us fs rest Sl io ab ins gv pv Lp te s) (KTe N cl tb l0 pv Lp s rest us fs) (hBt h s l0 sc tb l2) (C_6_plain G) (fR h 386 tm) L1) ∨ (fR h 390 tm ≠ 0 ∧ ∀ h' M, okD (fun h => TvE G h N cl tb l0 sc us fs rest Sl io ab ins gv pv Lp te s) (KTe N cl tb l0 pv Lp s rest us fs) s (hBt h s l0 sc tb l2) h' (L1 ++ M) → TDw (fun h => TvE G h N cl tb l0 sc us fs rest Sl io ab ins gv pv Lp te s) (KTe N cl tb l0 pv Lp s rest us fs) s h' wDr (C_6_dictionary G te (fR h 390 tm) h') L1) := by
    rcases B with ⟨r1, r2⟩ | ⟨r1, r2⟩
    · exact .inl ⟨r1, r2 _ E2 KB⟩
    · exact .inr ⟨r1, r2 _ E2 KB⟩
  obtain ⟨h2, c1, E3, K3, Sy⟩ := c_termT nd hN wo TP Q l2 (ns := ns) (nm := nm) (con := con) (fam := fam) (cnm := cnm) (L1 := L1) ⟨hm, m13⟩ e378 e382 htl (InH_KM TP m13 KB I) (ScT_KM TP m13 KB S) R' hl
  obtain ⟨y1, _, _, y4⟩ := Sy
  have j192 : fI (hBt h s l0 sc tb l2) 192 s = 0 := S0
  rw [i204, e204] at y1 y4
  rw [j192] at y1
  obtain ⟨z1, z2⟩ := y1 (by omega)
  have sk : snk s (hBt h s l0 sc tb l2) = (0, l2, -1, 2147483647) := by
    unfold snk
    rw [j192, i196, i200, i204, e204]
  rw [sk] at z1
  obtain ⟨w1, w2, w3, w4, w5⟩ := snL_at (allB nm ns ++ givB nm con fam cnm 0 gv ++ L1) (0, l2, -1, 2147483647) 0 rfl (by omega)
  have g200 : fI h2 200 s = (snL (allB nm ns ++ givB nm con fam cnm 0 gv ++ L1) (0, l2, -1, 2147483647)).2.2.1 := by rw [← z1]; rfl
  refine ⟨h2, c1, TvP_of E3, KM_trans KB (KM_KTe (tm := tm) K3), ⟨by rw [z2]; omega, y4⟩, fun i x ei ex => ?_, fun w => ?_⟩
  · rw [g200]
    exact w4 i x (by show l2 = _; rw [Nat.zero_add]; exact ei) ex
  · rw [g200]
    refine w5 ?_
    show l2 < ((0 : Nat) : Int) ∨ ((0 + (allB nm ns ++ givB nm con fam cnm 0 gv ++ L1).length : Nat) : Int) ≤ l2
    rw [Nat.zero_add]
    exact w
end LCB
