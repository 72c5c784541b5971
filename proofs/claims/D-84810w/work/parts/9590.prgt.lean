set_option maxRecDepth 100000
/-! A JUDGED PROGRAM IS TOLD: the end of a program, in both -/
/-- a program that is judged and told -/
def PrT (G : om_G) (A : Nat) (S : List Int) (m : Nat) (N : List (List Int)) (pr tb z0 Lp l0 pv te s tm : Nat) (OldL : Nat → Prop) (fl0 : List Nat) (h' h2 : om_H) (σe : tS) : Prop := ∃ (cs fo : List Nat) (mo : List (List Nat)) (K : KT) (F : FT) (Ms : List FT) (hr : om_H) (σr : tS) (M : Nat) (qs : List dcl) (ps : List PD) (rs : List (Nat × Nat × Nat × Nat)) (h : om_H) (ul fl : List Nat) (τ : tS) (n : Nat) (cl : List Cp) (il : List IX) (fl' : List FX) (us2 fs2 : List Nat) (Dk2 : Nat → Prop) (ds2 : List Nat) (dm2 n' lo : Nat) (l : List JB) (Sl' : Nat → Prop) (ess : List (List Et)) (s0 s' : JS) (σ' σa σ2 : tS) (fs : List ((List Nat × List GVs × Ty) × Et)) (is : List (INs × List Et × Option Dc)), (JDn G A S 0 m N pr tb z0 cs fo mo K F Ms hr σr M qs ps rs h ul fl τ n (slS OldL z0 h) (slA (fun y => OldL y ∧ y ≠ Lp) hr qs z0 h) cl il fl' Lp h' us2 Dk2 ds2 dm2 σ' n' l Sl' lo ess s0 s' ∧ TlR G h' N (clF cs) tb l0 us2 fs2 [] pv Lp te s tm ∧ lt10 (nmN N) cnN (fmN K) (kcN K) ∧ (∀ y ∈ fs2, y ∈ fl0 ∨ z0 ≤ y) ∧ ∀ L ∈ N, L ∈ Nal ∨ ∃ j, L = tokw S j ∧ (tokk S j = 2 ∨ tokk S j = 3)) ∧ (TvP G h2 N (clF cs) tb l0 us2 fs2 [] pv Lp te s ∧ KM N (clF cs) tb l0 pv Lp s tm [] us2 fs2 h' h2) ∧ (fs.map Prod.fst = fnS fl' ∧ is.map Prod.fst = inS il) ∧ (∀ (f : Nat) (p : (List Nat × List GVs × Ty) × Et), fs[f]? = some p → FnsA σ' n' (fnS fl') (mtS cl) (abS cl) (inS il) (nmN N) cnN (fmN K) (kcN K) 2700 f p.1 p.2) ∧ (∀ (i : Nat) (p : INs × List Et × Option Dc), is[i]? = some p → InsA σ' n' (fnS fl') (mtS cl) (abS cl) (inS il) (nmN N) cnN (fmN K) (kcN K) 2700 i p.1 p.2.1 p.2.2) ∧ TmsK σa (fnsB (nmN N) cnN (fmN K) (kcN K) (abS cl) (inS il) 0 fs ++ inssB (nmN N) cnN (fmN K) (kcN K) (abS cl) (inS il) 0 is) σ2 ∧ (gs σa 904 = 0 ∧ gs σa 908 = 60000 ∧ (∀ i, i < 125 → ga σa 902 i = -1) ∧ fr [904, 908] [902] σ' σa) ∧ (tmB (fnsB (nmN N) cnN (fmN K) (kcN K) (abS cl) (inS il) 0 fs ++ inssB (nmN N) cnN (fmN K) (kcN K) (abS cl) (inS il) 0 is)).length ≤ 60000 ∧ σe = us (us (us (us σ2 1088 (gs σ2 484)) 1092 (gs σ2 564)) 1096 (gs σ2 532)) 1100 (gs σ2 496)
theorem t_289 {σ : tS} : T_isProgram_289 σ = some (if gs σ 452 ≠ 0 then 0 else 1, us (us (us (us σ 1088 (gs σ 484)) 1092 (gs σ 564)) 1096 (gs σ 532)) 1100 (gs σ 496)) := by
  unfold T_isProgram_289 T_isProgram_333
  by_cases c : gs σ 452 ≠ 0
  · rw [if_pos c, if_pos (.inl rfl), if_pos c]
  · rw [if_neg c, if_pos (.inr rfl), if_neg c]
abbrev MTS : List Nat := [904, 908] ++ WPS ++ [452, 456, 1088, 1092, 1096, 1100]
abbrev MTA : List Nat := [902] ++ WPA
/-- what measuring may write -/
def wM (h : om_H) (tb : Nat) (fl0 : List Nat) (z0 l0 pv Lp s tm a : Nat) : Prop := a = tb ∨ a = fR h 122 tb ∨ a = fR h 134 tb ∨ a ∈ fl0 ∨ z0 ≤ a ∨ a = l0 ∨ a = pv ∨ a = Lp ∨ a = s ∨ a = tm ∨ kd h a = 39
section LPT
theorem oFr_KM {G : om_G} {h' h1 : om_H} {N : List (List Int)} {cl : Nat → Nat} {tb l0 pv Lp te s tm z0 : Nat} {us fs fl0 : List Nat} (P : TvP G h' N cl tb l0 us fs [] pv Lp te s) (k13 : kd h' tm = 13) (X : KM N cl tb l0 pv Lp s tm [] us fs h' h1) (fsub : ∀ y ∈ fs, y ∈ fl0 ∨ z0 ≤ y) : oFr (wM h' tb fl0 z0 l0 pv Lp s tm) h' h1 := by
  have HT := X.1
  have kDT : ∀ a, DT h' tb fs a → kd h' a = 3 ∨ kd h' a = 42 ∨ kd h' a = 56 ∨ kd h' a = 34 := fun a w => by
    rcases w with w | w | w | w
    · rw [w]; exact .inl (TB_3 P.1).1
    · rw [w]; exact .inr (.inl P.1.2.1.1.2.1)
    · rw [w]; exact .inr (.inr (.inl P.1.1.2.1.2.1.2.1))
    · exact .inr (.inr (.inr (P.1.2.1.2.2.2.2 a (List.mem_append_right _ w)).1))
  refine ⟨HT.1, HT.2.2.1, fun a ha nw _ => HT.2.2.2 a ha (fun w => ?_), fun a ha k22 => ?_⟩
  · rcases w with w | w | w | w | w | w | w
    · rcases w with w | w | w | w
      · exact nw (.inl w)
      · exact nw (.inr (.inl w))
      · exact nw (.inr (.inr (.inl w)))
      · rcases fsub a w with v | v
        · exact nw (.inr (.inr (.inr (.inl v))))
        · exact nw (.inr (.inr (.inr (.inr (.inl v)))))
    · exact nw (.inr (.inr (.inr (.inr (.inr (.inl w))))))
    · exact nw (.inr (.inr (.inr (.inr (.inr (.inr (.inl w)))))))
    · exact nw (.inr (.inr (.inr (.inr (.inr (.inr (.inr (.inl w))))))))
    · exact nw (.inr (.inr (.inr (.inr (.inr (.inr (.inr (.inr (.inl w)))))))))
    · exact nw (.inr (.inr (.inr (.inr (.inr (.inr (.inr (.inr (.inr (.inl w))))))))))
    · exact nw (.inr (.inr (.inr (.inr (.inr (.inr (.inr (.inr (.inr (.inr w))))))))))
  · have e := HT.2.2.2 a ha (fun w => by
      rcases w with w | w | w | w | w | w | w
      · have := kDT a w; omega
      · rw [w, P.2.1.1] at k22; omega
      · rw [w, P.2.2.1.1.1] at k22; omega
      · rw [w, P.2.2.2.1.1.2.1] at k22; omega
      · rw [w, P.2.2.2.2.2.2.1] at k22; omega
      · rw [w, k13] at k22; omega
      · omega)
    exact ⟨fun f _ => e.2.1 f, fun f _ => e.2.2.1 f, e.2.2.1 1358⟩
variable {G : om_G} {A : Nat} {S : List Int} {m : Nat} {N : List (List Int)} {pr tb z0 Lp l0 pv te s tm m0 : Nat} {OldL : Nat → Prop} {fl0 : List Nat} {h' : om_H} {σ' : tS} {l2 : Int}
/-- A PROGRAM's END -/
theorem prog_tell (J : PrJ G A S m N pr tb z0 Lp l0 pv te s tm OldL fl0 h' σ') (Mn : MnP h' m0 tm te pr) (f0 : gs σ' 452 = 0) (e420 : gs σ' 420 = l2) : ∃ (v : Int) (σe : tS) (r : Nat ⊕ Unit) (h2 : om_H), T_isProgram_278 σ' = some (v, σe) ∧ C_0_measure G m0 pr l2 h' = some (r, h2) ∧ (oFr (wM h' tb fl0 z0 l0 pv Lp s tm) h' h2 ∧ fr MTS MTA σ' σe) ∧ ((v = 0 ∧ (gs σe 452 = 8 ∧ gs σe 456 = l2) ∧ ∃ a, r = .inl a ∧ flt h2 a 8 l2) ∨ (v = 1 ∧ r = .inr () ∧ gs σe 452 = 0 ∧ PrT G A S m N pr tb z0 Lp l0 pv te s tm OldL fl0 h' h2 σe)) := by
  obtain ⟨cs, fo, mo, K, F, Ms, hr, σr, M, qs, ps, rs, h, ul, fl, τ, n, cl, il, fl', us2, fs2, Dk2, ds2, dm2, n', lo, l, Sl', ess, s0, s', D, TR, L, fsub, lN⟩ := J
  obtain ⟨fs, is, tot, e1, e2, TB, FA, IA, ⟨σa, σ2, a1, a2, a3⟩, m1, m2⟩ := tell_both (l2 := l2) D L TR Mn
  have F2 : ∀ f, f ∉ [904, 908] → f ∉ WPS → gs σ2 f = gs σ' f := fun f h1 h2 => by rw [a1.1.2.2.2.1.1 f h2, a2.2.2.2.1 f h1]
  have st : T_isProgram_278 σ' = (T_sayProgram σ').bind fun p1 => T_isProgram_289 p1 := by
    unfold T_isProgram_278
    rw [if_neg (fun z => z f0)]
  have Fm : fr MTS MTA σ' σ2 := fr_trans (fr_mono a2.2.2.2 (fun f hf => List.mem_append_left _ (List.mem_append_left _ hf)) (fun f hf => List.mem_append_left _ hf)) (fr_mono a1.1.2.2.2.1 (fun f hf => List.mem_append_left _ (List.mem_append_right _ hf)) (fun f hf => List.mem_append_right _ hf))
  by_cases c : tot ≤ 60000
  · obtain ⟨h2, b1, b2, b3⟩ := m1 c
    have g0 : gs σ2 452 = 0 := by rw [F2 452 (by decide) (by decide)]; exact f0
    refine ⟨1, _, .inr (), h2, ?_, b1, ⟨oFr_KM TR.2.2.2.1 TR.2.2.2.2.1 b3 fsub, fr_us (fr_us (fr_us (fr_us Fm (by decide)) (by decide)) (by decide)) (by decide)⟩, .inr ⟨rfl, rfl, ?_, cs, fo, mo, K, F, Ms, hr, σr, M, qs, ps, rs, h, ul, fl, τ, n, cl, il, fl', us2, fs2, Dk2, ds2, dm2, n', lo, l, Sl', ess, s0, s', σ', σa, σ2, fs, is, ⟨D, TR, L, fsub, lN⟩, ⟨b2, b3⟩, e1, FA, IA, a1, a2, by rw [← e2]; exact c, rfl⟩⟩
    · rw [st, a3, if_pos c, Option.bind_some, t_289, if_neg (fun z => z g0)]
    · exact g0
  · obtain ⟨h1, h2, b1, b2, b3, b4, b5, b6⟩ := m2 (by omega)
    have O1 := oFr_KM TR.2.2.2.1 TR.2.2.2.2.1 b4 fsub
    have O2 : oFr (wM h' tb fl0 z0 l0 pv Lp s tm) h' h2 := by
      have z1 := O1.1
      have z2 : hz h1 ≤ hz h2 := b5.1.1
      refine ⟨by omega, fun a ha => ((b6 a (by omega)).1).trans (O1.2.1 a ha), fun a ha nw k => eqA_tr (O1.2.2.1 a ha nw k) (b6 a (by omega)), fun a ha k => ?_⟩
      obtain ⟨v1, v2, v3⟩ := O1.2.2.2 a ha k
      have e := b6 a (by omega)
      exact ⟨fun f hf => (e.2.1 f).trans (v1 f hf), fun f hf => (e.2.2.1 f).trans (v2 f hf), (e.2.2.1 1358).trans v3⟩
    refine ⟨0, us (us (us (us (us (us σ2 452 8) 456 (gs σ2 420)) 1088 (gs (us (us σ2 452 8) 456 (gs σ2 420)) 484)) 1092 (gs (us (us σ2 452 8) 456 (gs σ2 420)) 564)) 1096 (gs (us (us σ2 452 8) 456 (gs σ2 420)) 532)) 1100 (gs (us (us σ2 452 8) 456 (gs σ2 420)) 496), .inl (hz h1), h2, ?_, b1, ⟨O2, fr_us (fr_us (fr_us (fr_us (fr_us (fr_us Fm (by decide)) (by decide)) (by decide)) (by decide)) (by decide)) (by decide)⟩, .inl ⟨rfl, ⟨rfl, ?_⟩, hz h1, rfl, b2⟩⟩
    · rw [st, a3, if_neg c, Option.bind_some, t_289, if_pos (show gs (us (us σ2 452 8) 456 (gs σ2 420)) 452 ≠ 0 from (by rw [gs_us, if_neg (by decide), gs_us, if_pos rfl]; decide))]
    · show gs σ2 420 = l2
      rw [F2 420 (by decide) (by decide)]
      exact e420
end LPT
