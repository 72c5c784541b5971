set_option maxRecDepth 100000
/-! TERMS OF A KNOWN LENGTH, in the component -/
section LLP
variable {G : om_G} {h hM : om_H} {N : List (List Int)} {cl : Nat → Nat} {tb l0 sc pv Lp te s tm m0 B : Nat} {us fs : List Nat} {rest : List (Nat × List Nat)} {Sl : Nat → Prop} {io : Nat → Nat} {ab : List (Option Nat)} {ins : List INs} {gv : List GVs} {nm con fam cnm : Nat → List Int} {ns : List Nat}
theorem BdT_KM {x y : Nat} {L1 : List Int} (A : KM N cl tb l0 pv Lp s tm rest us fs hM h) (R : BdT G hM N cl tb l0 sc us fs rest Sl io ab ins gv pv Lp te s tm x y L1) : BdT G h N cl tb l0 sc us fs rest Sl io ab ins gv pv Lp te s tm x y L1 := by
  rcases R with ⟨r1, r2⟩ | ⟨r1, r2⟩
  · exact .inl ⟨r1, fun hB e k => r2 hB e (KM_trans A k)⟩
  · exact .inr ⟨r1, fun hB e k => r2 hB e (KM_trans A k)⟩
theorem LenP_of (nd : ndN N) (hN : gvN gv) (wo : whyO G) (P : TvP G hM N cl tb l0 us fs rest pv Lp te s) (hm0 : m0 < hz hM ∧ kd hM m0 = 1 ∧ fR hM 54 m0 = te) (hm : tm < hz hM ∧ kd hM tm = 13) (htl : tl us fs + 2700 ≤ 149000) (Q : PrgC hM N cl tb sc us rest Sl io ab ins gv Lp) (I : InH (hdC N cl nm con fam hM) ins gv B) (S : ScT N cl (UU us rest) (fun a => a ≠ fR hM 122 tb ∧ a ≠ Lp) nm con fam cnm hM sc ns gv) {x y e : Nat} {L1 : List Int} (R : BdT G hM N cl tb l0 sc us fs rest Sl io ab ins gv pv Lp te s tm x y L1) (hl : (allB nm ns ++ givB nm con fam cnm 0 gv ++ L1).length < 1000000000) : LenP G N cl tb l0 us fs rest pv Lp te s tm m0 hM sc tb x y e (allB nm ns ++ givB nm con fam cnm 0 gv ++ L1).length := by
  refine ⟨hl, fun h Ph A => ?_⟩
  have m13 := hm.2
  have kt : kd h tm = 13 := by rw [A.1.2.2.1 tm hm.1]; exact hm.2
  have em := KM_eq P m13 A hm0.1 (by omega)
  have X : hT (fun z => z = s ∨ z = tm) h (hTm h tm sc tb x y e) := by
    refine ⟨Nat.le_refl _, Nat.le_refl _, fun _ _ => rfl, fun z _ nz => ⟨rfl, fun _ => rfl, fun g => ?_, rfl, fun _ => rfl, fun _ => rfl, rfl, rfl⟩⟩
    have nt : z ≠ tm := fun w => nz (.inr w)
    unfold hTm
    rw [fR_na nt, fR_na nt, fR_na nt, fR_na nt, fR_na nt]
  obtain ⟨P1, K1⟩ := TvP_w nd Ph kt X rfl rfl (fun _ => rfl)
  have KA := KM_trans A K1
  have hz0 := A.1.1
  have mt : m0 ≠ tm := fun w => by rw [w] at hm0; omega
  have f378 : fR (hTm h tm sc tb x y e) 378 tm = sc := by
    unfold hTm
    rw [fR_ne (by decide), fR_ne (by decide), fR_ne (by decide), fR_ne (by decide), fR_eq]
  have f382 : fR (hTm h tm sc tb x y e) 382 tm = tb := by
    unfold hTm
    rw [fR_ne (by decide), fR_ne (by decide), fR_ne (by decide), fR_eq]
  have f386 : fR (hTm h tm sc tb x y e) 386 tm = x := by
    unfold hTm
    rw [fR_ne (by decide), fR_ne (by decide), fR_eq]
  have f390 : fR (hTm h tm sc tb x y e) 390 tm = y := by
    unfold hTm
    rw [fR_ne (by decide), fR_eq]
  have f54 : fR (hTm h tm sc tb x y e) 54 m0 = te := by
    unfold hTm
    rw [fR_na mt, fR_na mt, fR_na mt, fR_na mt, fR_na mt, em.2.2.1]
    exact hm0.2.2
  obtain ⟨n, h', c1, c2, c3, c4⟩ := c_lenT (m0 := m0) (ns := ns) (nm := nm) (con := con) (fam := fam) (cnm := cnm) (L1 := L1) nd hN wo P1 ⟨Nat.lt_of_lt_of_le hm0.1 hz0, by show kd h m0 = 1; rw [em.1]; exact hm0.2.1, f54⟩ ⟨Nat.lt_of_lt_of_le hm.1 hz0, kt⟩ f378 f382 htl (PrgC_KM P m13 KA Q) (InH_KM P m13 KA I) (ScT_KM P m13 KA S) (by rw [f386, f390]; exact BdT_KM KA R) hl
  exact ⟨n, h', c1, c2, KM_trans KA c3, c4⟩
end LLP
