set_option maxRecDepth 100000
/-! THE COMPONENT TELLS A TERM -/
/-- the teller at rest -/
def TvP (G : om_G) (h : om_H) (N : List (List Int)) (cl : Nat → Nat) (tb l0 : Nat) (us fs : List Nat) (rest : List (Nat × List Nat)) (pv Lp te s : Nat) : Prop := TB G h N cl tb us fs rest ∧ (kd h l0 = 9 ∧ l0 < hz h ∧ fI h 220 l0 = 0) ∧ ((kd h pv = 6 ∧ pv < hz h) ∧ fR h 170 pv = Lp) ∧ (okV G h Lp ∧ (ll h Lp).Nodup ∧ (∀ y ∈ ll h Lp, y ≠ 0 ∧ y < hz h ∧ kd h y = 39) ∧ (ll h Lp).length ≤ 9000) ∧ Lp ≠ fR h 122 tb ∧ ((kd h te = 7 ∧ te < hz h) ∧ fR h 182 te = s ∧ fR h 186 te = pv ∧ fR h 190 te = l0) ∧ (kd h s = 8 ∧ s < hz h)
/-- the program, as the finder sees it -/
def PrgC (h : om_H) (N : List (List Int)) (cl : Nat → Nat) (tb sc : Nat) (us : List Nat) (rest : List (Nat × List Nat)) (Sl : Nat → Prop) (io : Nat → Nat) (ab : List (Option Nat)) (ins : List INs) (gv : List GVs) (Lp : Nat) : Prop := (fR h 122 tb ≠ 0 ∧ ¬ Sl (fR h 122 tb) ∧ (∀ a, Sl a → a < hz h ∧ kd h a = 42) ∧ ∀ c, cl c < hz h) ∧ PGC h N cl (UU us rest) Sl io ab ins ∧ GVC h N cl (UU us rest) Sl sc gv ∧ ¬ Sl Lp
/-- the heap when telling begins -/
noncomputable def hBt (h : om_H) (s l0 sc tb : Nat) (l2 : Int) : om_H := sR (sR (sI (sI (sI h 192 s 0) 196 s l2) 200 s (-1)) 210 l0 sc) 214 l0 tb
section LTM
variable {G : om_G} {h h1 : om_H} {N : List (List Int)} {cl : Nat → Nat} {tb l0 sc pv Lp te s B : Nat} {us fs : List Nat} {rest : List (Nat × List Nat)} {Sl : Nat → Prop} {io : Nat → Nat} {ab : List (Option Nat)} {ins : List INs} {gv : List GVs} {nm con fam cnm : Nat → List Int}
theorem TvP_of (E : TvE G h N cl tb l0 sc us fs rest Sl io ab ins gv pv Lp te s) : TvP G h N cl tb l0 us fs rest pv Lp te s := ⟨E.1.1, ⟨E.1.2.1.1.1, E.1.2.1.1.2.1, E.1.2.2.2.2.2.1⟩, E.2.1, E.2.2.1, E.2.2.2.1.1, E.2.2.2.2.1, E.2.2.2.2.2⟩
/-- telling begins -/
theorem c_begT (nd : ndN N) (P : TvP G h N cl tb l0 us fs rest pv Lp te s) (Q : PrgC h N cl tb sc us rest Sl io ab ins gv Lp) (l2 : Int) : TvE G (hBt h s l0 sc tb l2) N cl tb l0 sc us fs rest Sl io ab ins gv pv Lp te s ∧ hT (fun z => z = s ∨ z = l0) h (hBt h s l0 sc tb l2) ∧ (∀ T a, tyC h N cl (UU us rest) T a → tyC (hBt h s l0 sc tb l2) N cl (UU us rest) T a) ∧ (SkC s (hBt h s l0 sc tb l2) 0 ∧ fI (hBt h s l0 sc tb l2) 196 s = l2 ∧ fI (hBt h s l0 sc tb l2) 200 s = -1 ∧ fI (hBt h s l0 sc tb l2) 204 s = fI h 204 s) ∧ hz (hBt h s l0 sc tb l2) = hz h ∧ hu (hBt h s l0 sc tb l2) = hu h ∧ ∀ z, lc (hBt h s l0 sc tb l2) z = lc h z := by
  obtain ⟨T, ⟨k9, l9, i220⟩, ⟨⟨p1, p2⟩, p3⟩, ⟨p5, p6, p7, p8⟩, n1, ⟨⟨t1, t2⟩, t3, t4, t5⟩, s1, s2⟩ := P
  obtain ⟨⟨g1, g2, g3, hcl⟩, PG, GV, nL⟩ := Q
  have sl : s ≠ l0 := fun z => by rw [z] at s1; omega
  generalize eh : hBt h s l0 sc tb l2 = h2
  unfold hBt at eh
  have kk : ∀ z, kd h2 z = kd h z := fun z => by rw [← eh]; rfl
  have zz : hz h2 = hz h := by rw [← eh]; rfl
  have uu : hu h2 = hu h := by rw [← eh]; rfl
  have lll : ∀ z, ll h2 z = ll h z := fun z => by rw [← eh]; rfl
  have lcc : ∀ z, lc h2 z = lc h z := fun z => by rw [← eh]; rfl
  have X : hT (fun z => z = s ∨ z = l0) h h2 := by
    rw [← eh]
    refine ⟨Nat.le_refl _, Nat.le_refl _, fun _ _ => rfl, fun z _ nz => ⟨rfl, fun g => ?_, fun g => ?_, rfl, fun _ => rfl, fun _ => rfl, rfl, rfl⟩⟩
    · show fI (sI (sI (sI h 192 s 0) 196 s l2) 200 s (-1)) g z = _
      rw [fI_na (fun e => nz (.inl e)), fI_na (fun e => nz (.inl e)), fI_na (fun e => nz (.inl e))]
    · rw [fR_na (fun e => nz (.inr e)), fR_na (fun e => nz (.inr e))]
      rfl
  have X' : hT (fun z => (z = s ∨ z = l0) ∧ z < hz h) h h2 := ⟨X.1, X.2.1, X.2.2.1, fun z hz' nz => X.2.2.2 z hz' (fun w => nz ⟨w, hz'⟩)⟩
  have dk : ∀ z, (z = s ∨ z = l0) → kd h z = 8 ∨ kd h z = 9 := fun z w => by
    rcases w with w | w
    · exact .inl (by rw [w]; exact s1)
    · exact .inr (by rw [w]; exact k9)
  have dk' : dOK (fun z => (z = s ∨ z = l0) ∧ z < hz h) h h2 := fun z w => by
    have := dk z w.1
    exact ⟨by omega, by omega, fun e => by omega⟩
  have T1 : TB G h2 N cl tb us fs rest := TB_hT T nd X' (fun z w _ => by
    have := dk z w.1
    refine ⟨by omega, by omega, by omega, fun e => ?_⟩
    have k122 := T.2.1.1.2.1
    rw [← e] at k122
    omega) dk'
  have tbl := TB_3 T
  have etb := X.2.2.2 tb tbl.2.2 (fun w => by have := dk tb w; omega)
  have epv := X.2.2.2 pv p2 (fun w => by have := dk pv w; omega)
  have ete := X.2.2.2 te t2 (fun w => by have := dk te w; omega)
  have nLD : ¬ (Lp = s ∨ Lp = l0) := fun w => by
    have := dk Lp w
    have := p5.2.1
    omega
  have kp : ∀ T a, tyC h N cl (UU us rest) T a → tyC h2 N cl (UU us rest) T a := fun X0 a0 c0 => tyC_hT (D := fun z => (z = s ∨ z = l0) ∧ z < hz h) X' dk' (fun z w w' => by
    have u34 := (TB_U34 T w).1
    have := dk z w'.1
    omega) (fun _ w => w) (fun _ _ z => z) c0
  have hSS : hS Sl h h2 := hS_hT X (fun z hz' w => by
    have q := dk z w
    refine ⟨fun m => ?_, by omega, by omega, by omega, fun sl => ?_⟩
    · simp only [List.mem_cons, List.not_mem_nil, or_false] at m
      omega
    · have := (g3 z sl).2
      omega)
  have f214 : fR h2 214 l0 = tb := by rw [← eh, fR_eq]
  have f210 : fR h2 210 l0 = sc := by rw [← eh, fR_ne (by decide), fR_eq]
  have i220' : fI h2 220 l0 = 0 := by
    rw [← eh]
    show fI (sI (sI (sI h 192 s 0) 196 s l2) 200 s (-1)) 220 l0 = 0
    rw [fI_ne (by decide), fI_ne (by decide), fI_ne (by decide)]
    exact i220
  have F1 : FnC G h2 N cl tb l0 sc us fs rest Sl io ab ins gv 1 0 (0, 0, []) := by
    refine ⟨T1, ⟨⟨by rw [kk]; exact k9, by rw [zz]; exact l9, f214⟩, f210⟩, ⟨by rw [etb.2.2.1]; exact g1, by rw [etb.2.2.1]; exact g2, fun a ha => ⟨by rw [zz]; exact (g3 a ha).1, by rw [kk]; exact (g3 a ha).2⟩, fun c => by rw [zz]; exact hcl c⟩, PGC_hS hSS kp PG (fun c hc => ?_), GVC_hS hSS kp GV, i220', fun z => by omega, fun z => by omega⟩
    obtain ⟨a1, a2, a3, a4⟩ := hc
    have k18 : kd h (cl c) = 18 := by rw [← kk]; exact a3
    exact ⟨a1, hcl c, k18, by rw [← (hSS.2.2.1 _ (hcl c) (by rw [k18]; decide)).1 1200 (by decide)]; exact a4⟩
  refine ⟨⟨F1, ⟨⟨by rw [kk]; exact p1, by rw [zz]; exact p2⟩, by rw [epv.2.2.1]; exact p3⟩, ⟨okV_hT p5 X nLD, by rw [lll]; exact p6, fun y hy => ?_, by rw [lll]; exact p8⟩, ⟨by rw [etb.2.2.1]; exact n1, nL⟩, ⟨⟨by rw [kk]; exact t1, by rw [zz]; exact t2⟩, by rw [ete.2.2.1]; exact t3, by rw [ete.2.2.1]; exact t4, by rw [ete.2.2.1]; exact t5⟩, by rw [kk]; exact s1, by rw [zz]; exact s2⟩, X, kp, ⟨?_, ?_, ?_, ?_⟩, zz, uu, lcc⟩
  · rw [lll] at hy
    rw [zz, kk]
    exact p7 y hy
  · unfold SkC
    rw [← eh]
    show fI (sI (sI (sI h 192 s 0) 196 s l2) 200 s (-1)) 192 s = _
    rw [fI_ne (by decide), fI_ne (by decide), fI_eq]
    rfl
  · rw [← eh]
    show fI (sI (sI (sI h 192 s 0) 196 s l2) 200 s (-1)) 196 s = _
    rw [fI_ne (by decide), fI_eq]
  · rw [← eh]
    show fI (sI (sI (sI h 192 s 0) 196 s l2) 200 s (-1)) 200 s = _
    rw [fI_eq]
  · rw [← eh]
    show fI (sI (sI (sI h 192 s 0) 196 s l2) 200 s (-1)) 204 s = _
    rw [fI_ne (by decide), fI_ne (by decide), fI_ne (by decide)]
/-- A TERM IS TOLD -/
theorem c_termT (nd : ndN N) (hN : gvN gv) (wo : whyO G) (P : TvP G h N cl tb l0 us fs rest pv Lp te s) (Q : PrgC h N cl tb sc us rest Sl io ab ins gv Lp) (l2 : Int) {tm : Nat} {ns : List Nat} {L1 : List Int} (hm : tm < hz h ∧ kd h tm = 13) (e378 : fR h 378 tm = sc) (e382 : fR h 382 tm = tb) (htl : tl us fs + 2700 ≤ 149000) (I0 : InH (hdC N cl nm con fam (hBt h s l0 sc tb l2)) ins gv B) (S : ScT N cl (UU us rest) (fun a => a ≠ fR (hBt h s l0 sc tb l2) 122 tb ∧ a ≠ Lp) nm con fam cnm (hBt h s l0 sc tb l2) sc ns gv) (R : (fR h 390 tm = 0 ∧ RXt G te s (fun h => TvE G h N cl tb l0 sc us fs rest Sl io ab ins gv pv Lp te s) (KTe N cl tb l0 pv Lp s rest us fs) (hBt h s l0 sc tb l2) (C_6_plain G) (fR h 386 tm) L1) ∨ (fR h 390 tm ≠ 0 ∧ ∀ h' M, okD (fun h => TvE G h N cl tb l0 sc us fs rest Sl io ab ins gv pv Lp te s) (KTe N cl tb l0 pv Lp s rest us fs) s (hBt h s l0 sc tb l2) h' (L1 ++ M) → TDw (fun h => TvE G h N cl tb l0 sc us fs rest Sl io ab ins gv pv Lp te s) (KTe N cl tb l0 pv Lp s rest us fs) s h' wDr (C_6_dictionary G te (fR h 390 tm) h') L1)) (hl : (allB nm ns ++ givB nm con fam cnm 0 gv ++ L1).length < 1000000000) : ∃ h', C_6_term G te tm l2 h = some (.inr (), h') ∧ TvE G h' N cl tb l0 sc us fs rest Sl io ab ins gv pv Lp te s ∧ KTe N cl tb l0 pv Lp s rest us fs (hBt h s l0 sc tb l2) h' ∧ SyC s (hBt h s l0 sc tb l2) (allB nm ns ++ givB nm con fam cnm 0 gv ++ L1) h' := by
  obtain ⟨E2, X, kp, ⟨S0, _, _, _⟩, zz, _, _⟩ := c_begT nd P Q l2
  obtain ⟨T, ⟨k9, l9, i220⟩, ⟨⟨p1, p2⟩, p3⟩, _, n1, ⟨⟨t1, t2⟩, t3, t4, t5⟩, s1, s2⟩ := P
  have I := TI_of nd hN wo E2 I0 htl
  have H := I.1
  have o : okD (fun h => TvE G h N cl tb l0 sc us fs rest Sl io ab ins gv pv Lp te s) (KTe N cl tb l0 pv Lp s rest us fs) s (hBt h s l0 sc tb l2) (hBt h s l0 sc tb l2) ((allB nm ns ++ givB nm con fam cnm 0 gv) ++ L1) := ⟨E2, KTe_refl, 0, S0, by omega⟩
  have etm := X.2.2.2 tm hm.1 (fun w => by
    rcases w with w | w
    · rw [w, s1] at hm; omega
    · rw [w, k9] at hm; omega)
  have em : ∀ h', KTe N cl tb l0 pv Lp s rest us fs (hBt h s l0 sc tb l2) h' → eqA tm h h' := fun h' k => eqA_trans etm (KTe_eq E2 k (by rw [zz]; exact hm.1) (by rw [etm.1]; omega))
  have main : TDw (fun h => TvE G h N cl tb l0 sc us fs rest Sl io ab ins gv pv Lp te s) (KTe N cl tb l0 pv Lp s rest us fs) s (hBt h s l0 sc tb l2) wDr ((C_6_scope G te sc (hBt h s l0 sc tb l2)).bind fun p3 => gd (kd p3 tm = 13) (if (fR p3 390 tm) = 0 then gd (kd p3 tm = 13 ∧ kd p3 te = 7) (xc (C_6_ex G (C_6_plain G) te (fR p3 386 tm) p3) (fun t h => some (Sum.inl t, h)) (fun p4 h4 => some (Sum.inr (), h4))) else gd (kd p3 tm = 13 ∧ kd p3 te = 7) (xc (C_6_dictionary G te (fR p3 390 tm) p3) (fun t h => some (Sum.inl t, h)) (fun p5 h5 => some (Sum.inr (), h5))))) ((allB nm ns ++ givB nm con fam cnm 0 gv) ++ L1) := by
    refine TDi H o (c_scopeT I S o) (fun h3 o3 => ?_)
    have e3 := em h3 o3.2.1
    have k3 : kd h3 tm = 13 := by rw [e3.1]; exact hm.2
    rw [gd_pos k3, e3.2.2.1, e3.2.2.1, gd_pos ⟨k3, (TH_g H o3.1).1⟩, gd_pos ⟨k3, (TH_g H o3.1).1⟩]
    rcases R with ⟨r1, r2⟩ | ⟨r1, r2⟩
    · rw [if_pos r1]
      exact c_exE I r2 o3
    · rw [if_neg r1]
      exact TDw_nil (TDw_xc H (okD_nil o3) (r2 h3 [] (okD_nil o3)) (fun _ o4 => TDw_end H o4.1))
  obtain ⟨h', m1, m2, m3, m4⟩ := main
  refine ⟨h', ?_, m2, m3, m4⟩
  rw [← show _ = some (Sum.inr (), h') from m1]
  have q := TH_g H o.1
  have k2t : kd (hBt h s l0 sc tb l2) tm = 13 := by rw [etm.1]; exact hm.2
  unfold C_6_term C_7_begin C_8_is
  rw [t3, gd_pos ⟨t1, s1⟩, gd_pos s1, Option.bind_some]
  show gd (kd h te = 7 ∧ kd h tm = 13 ∧ kd h (fR h 190 te) = 9) ((gd (kd h (fR h 190 te) = 9) (some (sR (sR (sI (sI (sI h 192 s 0) 196 s l2) 200 s (-1)) 210 (fR h 190 te) (fR h 378 tm)) 214 (fR h 190 te) (fR h 382 tm)))).bind _) = _
  rw [t5, e378, e382, gd_pos ⟨t1, hm.2, k9⟩, gd_pos k9, Option.bind_some]
  show gd (kd (hBt h s l0 sc tb l2) tm = 13 ∧ kd (hBt h s l0 sc tb l2) te = 7) ((C_6_scope G te (fR (hBt h s l0 sc tb l2) 378 tm) (hBt h s l0 sc tb l2)).bind _) = _
  rw [gd_pos ⟨k2t, q.1⟩, etm.2.2.1, e378]
end LTM
