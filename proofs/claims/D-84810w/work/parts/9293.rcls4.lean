set_option maxRecDepth 100000
/-! RESOLVE, classes: the one above, in the component -/
section LRA
variable {G : om_G} {A : Nat} {S : List Int} {b m : Nat} {N : List (List Int)} {cs : List Nat} {K : KT} {pr Ln : Nat} {Ls : List (List Int)} {sc : List Nat} {tb : Nat} {rest : List (Nat × List Nat)} {fo : List Nat} {F : FT} {mo : List (List Nat)} {Ms : List FT}
variable {h h' h2 : om_H} {us fs us' fs' us2 fs2 : List Nat} {σ τ υ : tS} {n n' q lo hi alo ahi a0 amid a c w k : Nat} {B B2 : List Int} {X : Int} {L : List Int}
theorem ab_done (C : CLS h pr cs K) (W : wb h w L) (kc : kd h c = 18) (e10 : fR h 1210 c = w) (ne : fR h 1226 c ≠ 0) (hk : k ≤ K.length) : ∀ d i : Nat, i + d = k → om_loop (C_1_resolveClass_20s G pr c (k : Int)) ((i : Int), h) = some h
  | 0, i, hd => by
    refine om_loop_out ?_
    unfold C_1_resolveClass_20s
    simp only
    rw [if_pos (by omega)]
  | d + 1, i, hd => by
    obtain ⟨c1, c2, c3, c4, c5⟩ := id C
    have il : i < cs.length := by omega
    have ik : i < K.length := by omega
    have ec : cs[i]? = some cs[i] := List.getElem?_eq_getElem il
    have ek : K[i]? = some K[i] := List.getElem?_eq_getElem ik
    generalize cs[i] = c' at ec
    generalize K[i] = k' at ek
    obtain ⟨d1, d2, d3⟩ := c5 i c' k' ec ek
    obtain ⟨f1, f2⟩ := CLw_eq (G := G) d2 W
    have eg : P_J2_get G (fR h 82 pr) (i : Int) h = some c' := by
      unfold P_J2_get
      rw [gd_pos ⟨c2.2.1, by omega⟩, c2.2.2, show ((i : Int)).toNat = i by omega, ec]
    have ew : w32 ((i : Int) + 1) = ((i + 1 : Nat) : Int) := by rw [w32_s (by omega) (by omega)]; rfl
    have st : C_1_resolveClass_20s G pr c (k : Int) ((i : Int), h) = some (.inl (((i + 1 : Nat) : Int), h)) := by
      unfold C_1_resolveClass_20s
      simp only
      rw [if_neg (by omega), gd_pos ⟨c1.1, c2.2.1⟩, eg, Option.bind_some, gd_pos ⟨.inr d1.2.2.1, d1.2.2.1⟩]
      by_cases z : fI h 1219 c' = 0
      · rw [if_pos z, ew]
      · obtain ⟨g1, g2⟩ := f2 z
        rw [if_neg z, gd_pos ⟨c1.1, c2.2.1⟩, Option.bind_some, gd_pos ⟨.inr d1.2.2.1, d1.2.2.1, kc, g1⟩, e10, g2, Option.bind_some]
        by_cases y : k'.1 = some L
        · rw [if_pos y, if_neg (by decide), gd_pos kc, if_pos ne, ew]
        · rw [if_neg y, if_pos rfl, ew]
    rw [om_loop_in st]
    exact ab_done C W kc e10 ne hk d (i + 1) (by omega)
/-- the heap behind the search -/
def abH (h : om_H) (c : Nat) (cs : List Nat) : Option Nat → om_H
  | none => h
  | some i => sR h 1226 c (cs.getD i 0)
theorem ab_loop (H : RX G A S N cs K pr tb rest fo F mo Ms h us fs) (W : wb h w L) (kc : kd h c = 18) (e10 : fR h 1210 c = w) (e26 : fR h 1226 c = 0) (hk : k ≤ K.length) : ∀ d i : Nat, i + d = k → om_loop (C_1_resolveClass_20s G pr c (k : Int)) ((i : Int), h) = some (abH h c cs ((FI Prod.fst L ((K.take k).drop i)).map (· + i)))
  | 0, i, hd => by
    rw [List.drop_eq_nil_of_le (by rw [List.length_take]; omega)]
    refine om_loop_out ?_
    unfold C_1_resolveClass_20s
    simp only
    rw [if_pos (by omega)]
    rfl
  | d + 1, i, hd => by
    obtain ⟨c1, c2, c3, c4, c5⟩ := id H.1.2.2.1
    have il : i < cs.length := by omega
    have ik : i < K.length := by omega
    have ec : cs[i]? = some cs[i] := List.getElem?_eq_getElem il
    have ek : K[i]? = some K[i] := List.getElem?_eq_getElem ik
    generalize cs[i] = c' at ec
    generalize K[i] = k' at ek
    obtain ⟨d1, d2, d3⟩ := c5 i c' k' ec ek
    obtain ⟨f1, f2⟩ := CLw_eq (G := G) d2 W
    have eg : P_J2_get G (fR h 82 pr) (i : Int) h = some c' := by
      unfold P_J2_get
      rw [gd_pos ⟨c2.2.1, by omega⟩, c2.2.2, show ((i : Int)).toNat = i by omega, ec]
    have ew : w32 ((i : Int) + 1) = ((i + 1 : Nat) : Int) := by rw [w32_s (by omega) (by omega)]; rfl
    have et : (K.take k)[i]? = some k' := by rw [List.getElem?_take, if_pos (by omega)]; exact ek
    rw [drop_c et]
    show _ = some (abH h c cs ((if k'.1 = some L then some 0 else (FI Prod.fst L ((K.take k).drop (i + 1))).map (· + 1)).map (· + i)))
    by_cases y : k'.1 = some L
    · rw [if_pos y]
      have z : ¬ fI h 1219 c' = 0 := fun z => f1 z y
      obtain ⟨g1, g2⟩ := f2 z
      have st : C_1_resolveClass_20s G pr c (k : Int) ((i : Int), h) = some (.inl (((i + 1 : Nat) : Int), sR h 1226 c c')) := by
        unfold C_1_resolveClass_20s
        simp only
        rw [if_neg (by omega), gd_pos ⟨c1.1, c2.2.1⟩, eg, Option.bind_some, gd_pos ⟨.inr d1.2.2.1, d1.2.2.1⟩, if_neg z, gd_pos ⟨c1.1, c2.2.1⟩, Option.bind_some, gd_pos ⟨.inr d1.2.2.1, d1.2.2.1, kc, g1⟩, e10, g2, Option.bind_some, if_pos y, if_neg (by decide), gd_pos kc, if_neg (fun q => q e26), gd_pos ⟨c1.1, c2.2.1⟩, Option.bind_some, gd_pos ⟨.inr d1.2.2.1, kc⟩, ew]
      have Y : hG c h (sR h 1226 c c') := hG_sR (by decide)
      have R := (RX_hG H Y (by rw [kc]; decide)).1
      have e0 : (Option.map (· + i) (some 0 : Option Nat)) = some i := by show some (0 + i) = some i; rw [Nat.zero_add]
      rw [om_loop_in st, ab_done R.1.2.2.1 (hG_wb Y W) kc (by rw [hG_fR Y (by decide)]; exact e10) (by rw [fR_eq]; exact d1.1) hk d (i + 1) (by omega), e0]
      show some (sR h 1226 c c') = some (sR h 1226 c (cs.getD i 0))
      rw [List.getD_eq_getElem?_getD, ec]
      rfl
    · rw [if_neg y]
      have st : C_1_resolveClass_20s G pr c (k : Int) ((i : Int), h) = some (.inl (((i + 1 : Nat) : Int), h)) := by
        unfold C_1_resolveClass_20s
        simp only
        rw [if_neg (by omega), gd_pos ⟨c1.1, c2.2.1⟩, eg, Option.bind_some, gd_pos ⟨.inr d1.2.2.1, d1.2.2.1⟩]
        by_cases z : fI h 1219 c' = 0
        · rw [if_pos z, ew]
        · obtain ⟨g1, g2⟩ := f2 z
          rw [if_neg z, gd_pos ⟨c1.1, c2.2.1⟩, Option.bind_some, gd_pos ⟨.inr d1.2.2.1, d1.2.2.1, kc, g1⟩, e10, g2, Option.bind_some, if_neg y, if_pos rfl, ew]
      rw [om_loop_in st, ab_loop H W kc e10 e26 hk d (i + 1) (by omega)]
      cases FI Prod.fst L ((K.take k).drop (i + 1)) with
      | none => rfl
      | some v => show some (abH h c cs (some (v + (i + 1)))) = some (abH h c cs (some (v + 1 + i))); rw [show v + (i + 1) = v + 1 + i by omega]
/-- the head of a class -/
theorem rc_head {j0 : Nat} {ab : Option Nat} (H : RX G A S N cs K pr tb rest fo F mo Ms h us fs) (kc : kd h c = 18) (e96 : fI h 1196 c = (tokq S j0 : Int)) (oc : oC A S h a0 amid (fR h 1210 c) ab) (e26 : fR h 1226 c = 0) (hk : k ≤ K.length) (rc : a0 ≤ c ∧ c < amid) (D : dj h tb fs pr a0 amid) :
    ∃ h', C_1_resolveClass G pr c (k : Int) h = C_1_resolveClass_112 G pr c h' ∧ RS G A S N cs K pr tb rest fo F mo Ms a0 amid h us fs h' us fs 0 0 0 ((if k < 8 then [] else [(tokq S j0 : Int)]) ++ abB S (K.take k) ab) ∧ hkV a0 amid h h' ∧ fR h' 1226 c = clA cs (ab.elim none (fun a => FI Prod.fst (tokw S a) (K.take k))) ∧ ∀ y, a0 ≤ y → y < amid → y ≠ c → eqA y h h' := by
  have kp := H.1.2.2.1.1.1
  have tm := c_tooMany (G := G) (h := h) (pr := pr) (x := (tokq S j0 : Int)) (i := k) (n := 8) kp
  have H1 := RS_ruH (alo := a0) (ahi := amid) H (if k < 8 then [] else [(tokq S j0 : Int)])
  have K1 : hkV a0 amid h (ruH h pr (if k < 8 then [] else [(tokq S j0 : Int)])) := hkV_ru D
  have eq1 : ∀ y, a0 ≤ y → y < amid → eqA y h (ruH h pr (if k < 8 then [] else [(tokq S j0 : Int)])) := fun y d1 d2 => ⟨rfl, fun f => fI_na (fun e => by have := D pr (.inr rfl); omega), fun _ => rfl, rfl, fun _ => rfl, fun _ => rfl, rfl, rfl⟩
  have kc1 : kd (ruH h pr (if k < 8 then [] else [(tokq S j0 : Int)])) c = 18 := kc
  have D1 : dj (ruH h pr (if k < 8 then [] else [(tokq S j0 : Int)])) tb fs pr a0 amid := D
  have e10 : ∀ f, fR (ruH h pr (if k < 8 then [] else [(tokq S j0 : Int)])) f c = fR h f c := fun _ => rfl
  have kk : ∀ y, kd (ruH h pr (if k < 8 then [] else [(tokq S j0 : Int)])) y = kd h y := fun _ => rfl
  have un : C_1_resolveClass G pr c (k : Int) h = (gd (kd (ruH h pr (if k < 8 then [] else [(tokq S j0 : Int)])) c = 18) (if (fR (ruH h pr (if k < 8 then [] else [(tokq S j0 : Int)])) 1210 c) = 0 then C_1_resolveClass_112 G pr c (ruH h pr (if k < 8 then [] else [(tokq S j0 : Int)])) else (om_loop (C_1_resolveClass_20s G pr c (k : Int)) (0, (ruH h pr (if k < 8 then [] else [(tokq S j0 : Int)])))).bind fun y2 => gd (kd y2 c = 18) (if (fR y2 1226 c) ≠ 0 then C_1_resolveClass_112 G pr c y2 else gd (kd y2 c = 18 ∧ kd y2 (fR y2 1210 c) = 17 ∧ kd y2 pr = 2) ((C_1_rule G pr (fI y2 1188 (fR y2 1210 c)) y2).bind fun p3 => C_1_resolveClass_112 G pr c p3)))) := by
    unfold C_1_resolveClass
    rw [gd_pos ⟨kc, kp⟩, e96, show (8 : Int) = ((8 : Nat) : Int) from rfl, tm, Option.bind_some]
  have wd1 : ∀ {w j}, wd h A S w j → wd (ruH h pr (if k < 8 then [] else [(tokq S j0 : Int)])) A S w j := fun W => hF_wd ruH_F (by decide) W
  rw [un]
  clear un tm
  generalize ruH h pr (if k < 8 then [] else [(tokq S j0 : Int)]) = h1 at *
  rcases oc with ⟨o1, o2⟩ | ⟨a, o1, o2, o3⟩
  · rw [gd_pos kc1, e10, if_pos o2, o1]
    exact ⟨h1, rfl, by rw [show abB S (K.take k) none = [] from rfl, List.append_nil]; exact H1, K1, by rw [e10]; exact e26, fun y d1 d2 _ => eq1 y d1 d2⟩
  · have X1 := H1.1.1.2.1.1
    have W1 := wd_wb X1 (wd1 o3.2.2)
    have lp := ab_loop (G := G) (k := k) H1.1 W1 kc1 (by rw [e10]) (by rw [e10]; exact e26) hk k 0 (by omega)
    rw [show ((0 : Nat) : Int) = 0 from rfl, List.drop_zero] at lp
    rw [gd_pos kc1, e10, if_neg o2, lp, Option.bind_some, o1]
    show ∃ h', _ ∧ RS G A S N cs K pr tb rest fo F mo Ms a0 amid h us fs h' us fs 0 0 0 (_ ++ if FI Prod.fst (tokw S a) (K.take k) = none then [(tokq S a : Int)] else []) ∧ hkV a0 amid h h' ∧ fR h' 1226 c = clA cs (FI Prod.fst (tokw S a) (K.take k)) ∧ _
    cases e : FI Prod.fst (tokw S a) (K.take k) with
    | none =>
      have kp1 := H1.1.1.2.2.1.1.1
      have ea : abH h1 c cs (Option.map (fun x => x + 0) none) = h1 := rfl
      rw [ea]
      have pl : fI h1 1188 (fR h 1210 c) = (tokq S a : Int) := (wd1 o3.2.2).2.2.1
      rw [gd_pos kc1, if_neg (show ¬ fR h1 1226 c ≠ 0 from fun z => z (by rw [e10]; exact e26)), e10 1210, gd_pos ⟨kc1, W1.1, kp1⟩, pl, c_rule' kp1, Option.bind_some, if_pos rfl]
      refine ⟨_, rfl, RS_trans H1 (RS_ruH H1.1 _), hkV_trans K1 (hkV_ru D1), by show fR h1 1226 c = 0; rw [e10]; exact e26, fun y d1 d2 _ => eqA_trans (eq1 y d1 d2) ⟨rfl, fun f => fI_na (fun e => by have := D pr (.inr rfl); omega), fun _ => rfl, rfl, fun _ => rfl, fun _ => rfl, rfl, rfl⟩⟩
    | some i =>
      have Y : hG c h1 (sR h1 1226 c (cs.getD i 0)) := hG_sR (by decide)
      have R := RS_hG (alo := a0) (ahi := amid) H1.1 Y (by rw [kc1]; decide) rc
      have il : i < (K.take k).length := FI_lt e
      rw [List.length_take] at il
      obtain ⟨c1, c2, c3, c4, c5⟩ := H1.1.1.2.2.1
      have ec : cs[i]? = some cs[i] := List.getElem?_eq_getElem (by omega)
      have ek : K[i]? = some K[i] := List.getElem?_eq_getElem (by omega)
      have d1 := (c5 i _ _ ec ek).1
      have eD : cs.getD i 0 = cs[i] := by rw [List.getD_eq_getElem?_getD, ec]; rfl
      have ea : abH h1 c cs (Option.map (fun x => x + 0) (some i)) = sR h1 1226 c (cs.getD i 0) := rfl
      rw [ea, gd_pos (show kd (sR h1 1226 c (cs.getD i 0)) c = 18 from kc1), if_pos (show fR (sR h1 1226 c (cs.getD i 0)) 1226 c ≠ 0 by rw [fR_eq, eD]; exact d1.1), if_neg (show ¬ (some i = (none : Option Nat)) by simp), List.append_nil]
      refine ⟨_, rfl, ?_, hkV_trans K1 (hkV_hG Y), fR_eq, fun y d1 d2 d3 => eqA_trans (eq1 y d1 d2) (Y.2.1 y d3)⟩
      have := RS_trans H1 R
      rwa [List.append_nil] at this
end LRA
