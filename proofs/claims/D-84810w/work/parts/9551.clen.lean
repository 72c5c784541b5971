set_option maxRecDepth 100000
/-! HOW LONG A TERM IS, in the component -/
section LLE
variable {G : om_G} {h h1 : om_H} {N : List (List Int)} {cl : Nat → Nat} {tb l0 sc pv Lp te s tm B : Nat} {us fs : List Nat} {rest : List (Nat × List Nat)} {Sl : Nat → Prop} {io : Nat → Nat} {ab : List (Option Nat)} {ins : List INs} {gv : List GVs} {nm con fam cnm : Nat → List Int} {ns : List Nat}
/-- what a term is made of is told, in any heap of the like -/
def BdT (G : om_G) (h : om_H) (N : List (List Int)) (cl : Nat → Nat) (tb l0 sc : Nat) (us fs : List Nat) (rest : List (Nat × List Nat)) (Sl : Nat → Prop) (io : Nat → Nat) (ab : List (Option Nat)) (ins : List INs) (gv : List GVs) (pv Lp te s tm x y : Nat) (L1 : List Int) : Prop := (y = 0 ∧ ∀ hB, TvE G hB N cl tb l0 sc us fs rest Sl io ab ins gv pv Lp te s → KM N cl tb l0 pv Lp s tm rest us fs h hB → RXt G te s (fun h => TvE G h N cl tb l0 sc us fs rest Sl io ab ins gv pv Lp te s) (KTe N cl tb l0 pv Lp s rest us fs) hB (C_6_plain G) x L1) ∨ (y ≠ 0 ∧ ∀ hB, TvE G hB N cl tb l0 sc us fs rest Sl io ab ins gv pv Lp te s → KM N cl tb l0 pv Lp s tm rest us fs h hB → ∀ h' M, okD (fun h => TvE G h N cl tb l0 sc us fs rest Sl io ab ins gv pv Lp te s) (KTe N cl tb l0 pv Lp s rest us fs) s hB h' (L1 ++ M) → TDw (fun h => TvE G h N cl tb l0 sc us fs rest Sl io ab ins gv pv Lp te s) (KTe N cl tb l0 pv Lp s rest us fs) s h' wDr (C_6_dictionary G te y h') L1)
/-- A TERM's LENGTH -/
theorem c_lenT (nd : ndN N) (hN : gvN gv) (wo : whyO G) (P : TvP G h N cl tb l0 us fs rest pv Lp te s) {m0 : Nat} (hm0 : m0 < hz h ∧ kd h m0 = 1 ∧ fR h 54 m0 = te) (hm : tm < hz h ∧ kd h tm = 13) (e378 : fR h 378 tm = sc) (e382 : fR h 382 tm = tb) (htl : tl us fs + 2700 ≤ 149000) (Q : PrgC h N cl tb sc us rest Sl io ab ins gv Lp) (I : InH (hdC N cl nm con fam h) ins gv B) (S : ScT N cl (UU us rest) (fun a => a ≠ fR h 122 tb ∧ a ≠ Lp) nm con fam cnm h sc ns gv) {L1 : List Int} (R : BdT G h N cl tb l0 sc us fs rest Sl io ab ins gv pv Lp te s tm (fR h 386 tm) (fR h 390 tm) L1) (hl : (allB nm ns ++ givB nm con fam cnm 0 gv ++ L1).length < 1000000000) : ∃ (n : Nat) (h' : om_H), C_0_length G m0 tm 60000 h = some (.inr (n : Int), h') ∧ TvP G h' N cl tb l0 us fs rest pv Lp te s ∧ KM N cl tb l0 pv Lp s tm rest us fs h h' ∧ ((allB nm ns ++ givB nm con fam cnm 0 gv ++ L1).length ≤ 60000 → n = (allB nm ns ++ givB nm con fam cnm 0 gv ++ L1).length) ∧ (60000 < (allB nm ns ++ givB nm con fam cnm 0 gv ++ L1).length → 60000 < n) ∧ n ≤ (allB nm ns ++ givB nm con fam cnm 0 gv ++ L1).length := by
  generalize eL : allB nm ns ++ givB nm con fam cnm 0 gv ++ L1 = L at *
  have m13 := hm.2
  obtain ⟨_, _, _, _, _, ⟨⟨t1, t2⟩, t3, _⟩, s1, s2⟩ := id P
  have wr : ∀ (h : om_H) (x : Int), hT (fun z => z = s ∨ z = tm) h (sI h 204 s x) := fun h x => ⟨Nat.le_refl _, Nat.le_refl _, fun _ _ => rfl, fun z _ nz => ⟨rfl, fun g => fI_na (fun e => nz (.inl e)), fun _ => rfl, rfl, fun _ => rfl, fun _ => rfl, rfl, rfl⟩⟩
  obtain ⟨P1, K1⟩ := TvP_w nd P m13 (wr h 60000) rfl rfl (fun _ => rfl)
  have Q1 := PrgC_KM P m13 K1 Q
  have KB := KM_trans K1 (KM_B (tm := tm) nd P1 m13 Q1 (-1))
  obtain ⟨E2, _, _, ⟨S0, _, _, i204⟩, _⟩ := c_begT nd P1 Q1 (-1)
  have R' : (fR (sI h 204 s 60000) 390 tm = 0 ∧ RXt G te s (fun h => TvE G h N cl tb l0 sc us fs rest Sl io ab ins gv pv Lp te s) (KTe N cl tb l0 pv Lp s rest us fs) (hBt (sI h 204 s 60000) s l0 sc tb (-1)) (C_6_plain G) (fR (sI h 204 s 60000) 386 tm) L1) ∨ (fR (sI h 204 s 60000) 390 tm ≠ 0 ∧ ∀ h' M, okD (fun h => TvE G h N cl tb l0 sc us fs rest Sl io ab ins gv pv Lp te s) (KTe N cl tb l0 pv Lp s rest us fs) s (hBt (sI h 204 s 60000) s l0 sc tb (-1)) h' (L1 ++ M) → TDw (fun h => TvE G h N cl tb l0 sc us fs rest Sl io ab ins gv pv Lp te s) (KTe N cl tb l0 pv Lp s rest us fs) s h' wDr (C_6_dictionary G te (fR (sI h 204 s 60000) 390 tm) h') L1) := by
    rcases R with ⟨r1, r2⟩ | ⟨r1, r2⟩
    · exact .inl ⟨r1, r2 _ E2 KB⟩
    · exact .inr ⟨r1, r2 _ E2 KB⟩
  obtain ⟨h2, c1, E3, K3, Sy⟩ := c_termT nd hN wo P1 Q1 (-1) (ns := ns) (nm := nm) (con := con) (fam := fam) (cnm := cnm) (L1 := L1) hm e378 e382 htl (InH_KM P m13 KB I) (ScT_KM P m13 KB S) R' (by rw [eL]; exact hl)
  rw [eL] at Sy
  have K2 := KM_trans KB (KM_KTe (tm := tm) K3)
  have em := KM_eq P m13 K2 hm0.1 (by omega)
  have em13 : kd h2 tm = 13 := by rw [K2.1.2.2.1 tm hm.1]; exact hm.2
  obtain ⟨P3, K4⟩ := TvP_w nd (TvP_of E3) em13 (wr h2 2147483647) rfl rfl (fun _ => rfl)
  have j204 : fI (hBt (sI h 204 s 60000) s l0 sc tb (-1)) 204 s = 60000 := by
    rw [i204]
    exact fI_eq
  have j192 : fI (hBt (sI h 204 s 60000) s l0 sc tb (-1)) 192 s = 0 := S0
  obtain ⟨y1, y2, ⟨y3, y4⟩, y5⟩ := Sy
  rw [j204, j192] at y1 y2
  rw [j192] at y3 y4
  refine ⟨(fI h2 192 s).toNat, sI h2 204 s 2147483647, ?_, P3, KM_trans K2 K4, fun w => ?_, fun w => ?_, by omega⟩
  · obtain ⟨_, _, _, _, ⟨⟨u1, _⟩, u3, _⟩, u4, _⟩ := E3
    unfold C_0_length
    rw [hm0.2.2, t3, gd_pos ⟨hm0.2.1, t1, s1⟩, c1, xc_v, em.2.2.1, hm0.2.2, u3, gd_pos ⟨by rw [em.1]; exact hm0.2.1, u1, u4⟩, show ((fI h2 192 s).toNat : Int) = fI h2 192 s by omega]
  · have := (y1 (by omega)).2
    omega
  · have := y2 (by omega)
    omega
end LLE
