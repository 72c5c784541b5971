set_option maxRecDepth 100000
/-! WHAT TELLING NEEDS OF A PROGRAM, out of what was judged -/
/-- letters: of names, of types that are there always, of families, of classes -/
def nmN (N : List (List Int)) (w : Nat) : List Int := (N[w]?).getD []
def cnN (w : Nat) : List Int := if w ≤ 3 then (om_sb[24 + w]?).getD [] else []
def fmN (K : KT) (c : Nat) : List Int := ((K[c]?).bind Prod.snd).getD []
def kcN (K : KT) (c : Nat) : List Int := ((K[c]?).bind Prod.fst).getD []
/-- families are families of classes -/
def hFam (K : KT) (k w : Nat) : Prop := k = 2 → ∃ (o : Option (List Int)) (L : List Int), K[w]? = some (o, some L)
theorem fmK_all {K : KT} : ∀ {T : Ty}, fmK K T → allH (hFam K) T
  | .leaf, _ => trivial
  | .inner _ _ _ _ _, ⟨a, b, c⟩ => ⟨a, fmK_all b, fmK_all c⟩
theorem cnN_3 {w : Nat} (h : w ≤ 3) : om_sb[24 + w]? = some (cnN w) ∧ (cnN w).length ≤ 100000 := by
  unfold cnN
  rw [if_pos h]
  have : w = 0 ∨ w = 1 ∨ w = 2 ∨ w = 3 := by omega
  rcases this with e | e | e | e <;> subst e <;> exact ⟨rfl, by decide⟩
theorem cnN_10 (w : Nat) : (cnN w).length ≤ 10 := by
  by_cases h : w ≤ 3
  · unfold cnN
    rw [if_pos h]
    have : w = 0 ∨ w = 1 ∨ w = 2 ∨ w = 3 := by omega
    rcases this with e | e | e | e <;> subst e <;> decide
  · unfold cnN
    rw [if_neg h]
    exact Nat.zero_le _
theorem nmN_e {N : List (List Int)} {w : Nat} {L : List Int} (e : N[w]? = some L) : nmN N w = L := by unfold nmN; rw [e]; rfl
section LPG
variable {G : om_G} {A : Nat} {S : List Int} {b m : Nat} {N : List (List Int)} {pr tb z0 : Nat} {cs fo : List Nat} {mo : List (List Nat)} {K : KT} {F : FT} {Ms : List FT} {hr : om_H} {σr : tS} {M : Nat} {qs : List dcl} {ps : List PD} {rs : List (Nat × Nat × Nat × Nat)} {h h1 : om_H} {ul fl us : List Nat} {τ : tS} {n : Nat} {Sl0 : Nat → Prop} {cl : List Cp} {il : List IX} {fl' : List FX} {g : Prop}
/-- few letters -/
theorem lt10_of (X : AX G A S b m N pr tb z0 cs fo mo K F Ms hr σr M qs ps rs h ul fl τ n Sl0 cl il) (h10 : ∀ L ∈ N, L.length ≤ 10) : lt10 (nmN N) cnN (fmN K) (kcN K) := fun w => by
  have hk : ∀ c, (fmN K c).length ≤ 10 ∧ (kcN K c).length ≤ 10 := fun c => by
    cases q : K[c]? with
    | none =>
      unfold fmN kcN
      rw [q]
      exact ⟨Nat.zero_le _, Nat.zero_le _⟩
    | some k =>
      have lt := (List.getElem?_eq_some_iff.mp q).1
      have ex : cl[c]? = some (cl[c]'(by rw [X.1.1]; exact lt)) := List.getElem?_eq_getElem _
      obtain ⟨_, _, _, ⟨L1, e1, o, e2, e3⟩, _⟩ := X.1.2 c _ ex
      unfold fmN kcN
      rw [e2]
      refine ⟨?_, h10 L1 (List.mem_of_getElem? e1)⟩
      rcases e3 with ⟨_, eo⟩ | ⟨w2, L2, _, e4, eo⟩
      · rw [eo]; exact Nat.zero_le _
      · rw [eo]; exact h10 L2 (List.mem_of_getElem? e4)
  refine ⟨?_, cnN_10 w, hk w⟩
  unfold nmN
  cases q : N[w]? with
  | none => exact Nat.zero_le _
  | some L => exact h10 L (List.mem_of_getElem? q)
theorem tyHk (R : RA G A S b m N pr tb z0 cs fo mo K F Ms hr σr M qs ps rs h ul fl τ n) {T : Ty} {t : Int} (c : tyT τ n T t) : allH (hFam K) T := fmK_all (tyT_fk R.2.2.2.2.2.1.1.1.1 c)
/-- names, in the component -/
theorem nmc_of (X : AX G A S b m N pr tb z0 cs fo mo K F Ms hr σr M qs ps rs h ul fl τ n Sl0 cl il) (XS : hSg g Sl0 h h1) : NmC h1 N (clF cs) (hFam K) (nmN N) cnN (fmN K) := by
  refine ⟨fun w L e => nmN_e e, fun w hw => cnN_3 hw, fun w cO hw => ?_⟩
  obtain ⟨o, L, ek⟩ := hw rfl
  have lt := (List.getElem?_eq_some_iff.mp ek).1
  have ex : cl[w]? = some (cl[w]'(by rw [X.1.1]; exact lt)) := List.getElem?_eq_getElem _
  obtain ⟨_, Co, _, ⟨L1, e1, o', e2, e3⟩, _⟩ := X.1.2 w _ ex
  rw [ek] at e2
  injection Option.some.inj e2 with e4 e5
  obtain ⟨c1, _, _, _, c5, _⟩ := Co
  rcases e3 with ⟨_, eo⟩ | ⟨w2, L2, ew, e6, eo⟩
  · rw [eo] at e5; cases e5
  rcases c5 with ⟨z, _⟩ | ⟨w3, z1, z2, z3⟩
  · rw [z] at ew; cases ew
  have ew3 : w2 = w3 := Option.some.inj (ew.symm.trans z1)
  have eL : L2 = L := by
    rw [eo] at e5
    exact (Option.some.inj e5).symm
  have W := wN_hS XS z3
  have e14 : fR h1 1214 (clF cs w) = fR h 1214 (clF cs w) := (XS.2.2.1 _ c1.2.1 (by rw [c1.2.2.1]; decide)).2 1214 (by decide)
  have ff : fmN K w = L := by unfold fmN; rw [ek]; rfl
  rw [e14, ff]
  obtain ⟨⟨w4, w5⟩, L', w6, w7⟩ := W
  have eL' : L' = L := by
    rw [← ew3, e6] at w6
    rw [← Option.some.inj w6]; exact eL
  rw [eL'] at w7
  exact ⟨⟨cO.2.1, cO.2.2.1, w4, w5⟩, w7⟩
/-- class's names, numbers -/
theorem nmp_of (R : RA G A S b m N pr tb z0 cs fo mo K F Ms hr σr M qs ps rs h ul fl τ n) (X : AX G A S b m N pr tb z0 cs fo mo K F Ms hr σr M qs ps rs h ul fl τ n Sl0 cl il) (XS : hSg g Sl0 h h1) {gv : List GVs} (hg : ∀ x ∈ gv, x.1 < 100 → x.1 < K.length) : NmP h1 (clF cs) (kcN K) (ioF il) (abS cl) (inS il) gv := by
  have la : (abS cl).length = K.length := by unfold abS; rw [List.length_map]; exact X.1.1
  refine ⟨fun i d e => ?_, fun c hc => ?_, fun x hx h1 => by rw [la]; exact hg x hx h1, fun k k' e => ?_, fun d hd p hp => ?_, fun c w j x e1 e2 => ?_⟩
  · obtain ⟨x, ex, exd⟩ := inS_get e
    obtain ⟨i20, _, _, _, ic, _⟩ := X.2.2 i x ex
    obtain ⟨⟨a1, a2, a3, a4, _⟩, _⟩ := ic
    unfold ioC
    rw [ioF_at ex]
    exact ⟨by rw [XS.2.1 _ a2]; exact a3, Nat.lt_of_lt_of_le a2 XS.1, by rw [(XS.2.2.1 _ a2 (by rw [a3]; decide)).1 1280 (by decide)]; exact a4, by omega⟩
  · rw [la] at hc
    have ex : cl[c]? = some (cl[c]'(by rw [X.1.1]; exact hc)) := List.getElem?_eq_getElem _
    obtain ⟨_, Co, _, ⟨L1, e1, o', e2, e3⟩, _⟩ := X.1.2 c _ ex
    obtain ⟨c1, c2, _⟩ := Co
    have cO := clO_hS XS c1
    have e06 : fR h1 1206 (clF cs c) = fR h 1206 (clF cs c) := (XS.2.2.1 _ c1.2.1 (by rw [c1.2.2.1]; decide)).2 1206 (by decide)
    obtain ⟨⟨w4, w5⟩, L', w6, w7⟩ := wN_hS XS c2
    have eL : L' = L1 := Option.some.inj (w6.symm.trans e1)
    have ff : kcN K c = L1 := by unfold kcN; rw [e2]; rfl
    unfold cnC
    rw [e06, ff, ← eL]
    exact ⟨⟨cO.2.1, cO.2.2.1, w4, w5⟩, w7⟩
  · unfold abS at e
    rw [List.getElem?_map] at e
    cases q : cl[k]? with
    | none => rw [q] at e; cases e
    | some x =>
      rw [q] at e
      have e' : x.2.2.1 = some k' := Option.some.inj e
      obtain ⟨cT, _⟩ := X.1.2 k x q
      have kl := (List.getElem?_eq_some_iff.mp q).1
      have := cT.2.2.1.2 k' e'
      rw [la, ← X.1.1]
      omega
  · obtain ⟨j, x, ex, exd⟩ := inS_at hd
    obtain ⟨_, _, _, Tw, _⟩ := X.2.2 j x ex
    rw [exd] at Tw
    obtain ⟨i, hi, ei⟩ := List.getElem_of_mem hp
    have w := Tw.2.2.2.1.2.2 i p (by rw [List.getElem?_eq_getElem hi, ei])
    have hN := Tw.2.2.1.2.1
    have lt := w.2.2.2
    rw [hN] at lt
    unfold pN at lt
    refine ⟨by rw [la]; exact w.2.2.1, fun z => ?_, fun z => ?_⟩
    · split at lt <;> omega
    · split at lt
      · have := Tw.2.1.2
        omega
      · omega
  · unfold gCl at e1
    obtain ⟨y, y1, y2⟩ := ixF_some e1
    have ey : y = x := Option.some.inj (y1.symm.trans e2)
    rw [ey] at y2
    simp only [Bool.and_eq_true, decide_eq_true_eq] at y2
    exact y2.1.1
end LPG
