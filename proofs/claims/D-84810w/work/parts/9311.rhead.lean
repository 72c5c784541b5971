set_option maxRecDepth 100000
/-! RESOLVE: the head of an inst as a type, in the component -/
/-- a name of the head as a type -/
def hdN (sc : List Nat) (i : Nat) : Ty := match sc[i]? with
  | some w => tnd 0 w .leaf .leaf
  | none => .leaf
section LRV
variable {G : om_G} {A : Nat} {S : List Int} {b m : Nat} {N : List (List Int)} {cs : List Nat} {K : KT} {pr Ln : Nat} {Ls : List (List Int)} {sc : List Nat} {tb : Nat} {rest : List (Nat × List Nat)} {fo : List Nat} {F : FT} {mo : List (List Nat)} {Ms : List FT}
variable {h h' h2 hr : om_H} {ul fl ul' fl' : List Nat} {n n' q z u lo hi alo ahi a0 amid a c w k : Nat} {B B2 : List Int} {X : Int} {L : List Int}
theorem mnl_max : ∀ {B : List Int} {x : Int}, (∀ y ∈ B, x ≤ y) → mnl x B = x
  | [], _, _ => rfl
  | y :: B, x, h => by
    show mnl (min x y) B = x
    rw [show min x y = x by have := h y List.mem_cons_self; omega]
    exact mnl_max (fun z hz => h z (List.mem_cons_of_mem _ hz))
theorem RS_un (H : RX G A S N cs K pr tb rest fo F mo Ms h ul fl) (C : RS G A S N cs K pr tb rest fo F mo Ms alo ahi h ul fl h' ul' fl' q z u B) (hB : ∀ y ∈ B, y = 2147483647) : RS G A S N cs K pr tb rest fo F mo Ms alo ahi h ul fl h' ul' fl' q z u [] := ⟨C.1, C.2.1, C.2.2.1, by
  rw [C.2.2.2.1, mnl_max (fun y hy => by rw [hB y hy]; exact H.1.2.2.2.2)]
  rfl, C.2.2.2.2⟩
theorem nm_get {i : Nat} (H : RX G A S N cs K pr tb rest fo F mo Ms h ul fl) (Sc : SCc h Ln Ls) (nz : ∀ w ∈ ll h Ln, w ≠ 0) (e22 : Ln ≠ fR h 122 tb) (bd : bdL N sc Ls) (hi : i < Ls.length) (hn : tl ul fl ≤ 149000) : ∃ (v x : Nat) (h' : om_H) (ul' fl' : List Nat), P_J2_get G Ln (i : Int) h = some v ∧ kd h v = 17 ∧ C_2_name G tb v h = some (x, h') ∧ SC G A S N cs K pr Ln Ls tb rest h ul fl h' ul' fl' 1 2147483647 ∧ tyC h' N (clF cs) (UU ul' rest) (hdN sc i) x := by
  have eL : Ls[i]? = some Ls[i] := List.getElem?_eq_getElem hi
  have i2 : i < sc.length := by have := bd.1; omega
  have es : sc[i]? = some sc[i] := List.getElem?_eq_getElem i2
  obtain ⟨v, v1, v2, v3, v4, v5⟩ := WL_at (G := G) Sc eL
  have HK := KC_of H Sc e22
  have v0 : v ≠ 0 := nz v (List.mem_of_getElem? v1)
  obtain ⟨x, h', ul', fl', e1, e2, e3, e4⟩ := SC_get (k := 0) (w := sc[i]) (con := 0) (nm := v) (fam := 0) (l := .leaf) (r := .leaf) (a := 0) (a' := 0) HK (.inl ⟨rfl, rfl, rfl, v0, ⟨v2, v3⟩, _, bd.2 i _ _ es eL, v4⟩) rfl rfl hn
  refine ⟨v, x, h', ul', fl', v5, v4.1, c_nameT (TB_3 H.1.1.1).1 e1, e2, ?_⟩
  unfold hdN
  rw [es]
  exact e3
set_option maxHeartbeats 1000000 in
/-- the head is made a type, if nothing was broken so far -/
theorem ri_hd {f so : Nat} {oc : Option Nat} (H : RX G A S N cs K pr tb rest fo F mo Ms h ul fl) (kf : kd h f = 21) (rf : a0 ≤ f ∧ f < amid) (e86 : fR h 1286 f = so) (ks : kd h so = 5 ∧ fR h 162 so = Ln) (rso : (a0 ≤ so ∧ so < amid) ∧ a0 ≤ Ln ∧ Ln < amid) (Sc : SCc h Ln Ls) (nz : ∀ w ∈ ll h Ln, w ≠ 0) (e78 : fR h 78 pr = tb) (e04 : fI h 1304 f = oI oc) (bd : bdL N sc Ls) (D : dj h tb fl pr a0 amid) (hA : amid ≤ hz h) (hn : tl ul fl + 3 ≤ 149000) :
    ∃ (h' : om_H) (ul' fl' : List Nat), C_1_resolveInstance_185 G pr f h = C_1_resolveInstance_294 G pr f h' ∧ RS G A S N cs K pr tb rest fo F mo Ms a0 amid h ul fl h' ul' fl' 3 0 0 [] ∧ hkV a0 amid h h' ∧ SCc h' Ln Ls ∧ (∀ y, a0 ≤ y → y < amid → y ≠ f → eqA y h h') ∧ (∀ g, g ≠ 1318 → fR h' g f = fR h g f) ∧ (∀ g, fI h' g f = fI h g f) ∧ (∀ c, oc = some c → fI h 112 pr = 2147483647 → tyC h' N (clF cs) (UU ul' rest) (tnd 1 c (hdN sc 0) (hdN sc 1)) (fR h' 1318 f)) := by
  have kp := H.1.2.2.1.1.1
  have nL : Ln ≠ fR h 122 tb := fun e => by have := D Ln (.inl (.inr (.inl e))); omega
  unfold C_1_resolveInstance_185
  rw [gd_pos kf, e04]
  have skip : (oc = none ∨ fI h 112 pr ≠ 2147483647) → ∃ (h' : om_H) (ul' fl' : List Nat), C_1_resolveInstance_294 G pr f h = C_1_resolveInstance_294 G pr f h' ∧ RS G A S N cs K pr tb rest fo F mo Ms a0 amid h ul fl h' ul' fl' 3 0 0 [] ∧ hkV a0 amid h h' ∧ SCc h' Ln Ls ∧ (∀ y, a0 ≤ y → y < amid → y ≠ f → eqA y h h') ∧ (∀ g, g ≠ 1318 → fR h' g f = fR h g f) ∧ (∀ g, fI h' g f = fI h g f) ∧ (∀ c, oc = some c → fI h 112 pr = 2147483647 → tyC h' N (clF cs) (UU ul' rest) (tnd 1 c (hdN sc 0) (hdN sc 1)) (fR h' 1318 f)) := fun o => ⟨h, ul, fl, rfl, RS_le (RS_refl H) (by omega) (by omega) (by omega), hkV_refl, Sc, fun _ _ _ _ => eqA_refl _ _, fun _ _ => rfl, fun _ => rfl, fun c e1 e2 => by
    rcases o with o | o
    · rw [o] at e1; cases e1
    · exact absurd e2 o⟩
  cases oc with
  | none =>
    rw [if_pos (show oI none < 0 by decide)]
    exact skip (.inl rfl)
  | some c =>
    rw [if_neg (show ¬ oI (some c) < 0 by show ¬ ((c : Int) < 0); omega), gd_pos kp]
    by_cases mx : fI h 112 pr = 2147483647
    · rw [if_neg (fun z => z mx)]
      have len := WL_len Sc.2.2.2
      have t3 := (TB_3 H.1.1.1).1
      have es : P_J2_size G Ln h = some (((ll h Ln).length : Nat) : Int) := by unfold P_J2_size; rw [gd_pos Sc.2.1]
      rw [e86, ks.2, e78, gd_pos ⟨kp, kf, ks.1, Sc.2.1⟩, es, Option.bind_some]
      -- the constructor, at the end
      have fin : ∀ (g : om_H) (ug fg : List Nat) (x0 x1 qq : Nat), qq ≤ 2 → RS G A S N cs K pr tb rest fo F mo Ms a0 amid h ul fl g ug fg qq 0 0 [] → (∀ y, a0 ≤ y → y < amid → eqA y h g) → SCc g Ln Ls → tyC g N (clF cs) (UU ug rest) (hdN sc 0) x0 → tyC g N (clF cs) (UU ug rest) (hdN sc 1) x1 → ∃ (h' : om_H) (ul' fl' : List Nat), C_1_resolveInstance_288 G pr f f tb (oI (some c)) x0 x1 g = C_1_resolveInstance_294 G pr f h' ∧ RS G A S N cs K pr tb rest fo F mo Ms a0 amid h ul fl h' ul' fl' 3 0 0 [] ∧ hkV a0 amid h h' ∧ SCc h' Ln Ls ∧ (∀ y, a0 ≤ y → y < amid → y ≠ f → eqA y h h') ∧ (∀ g, g ≠ 1318 → fR h' g f = fR h g f) ∧ (∀ g, fI h' g f = fI h g f) ∧ (∀ c', some c = some c' → fI h 112 pr = 2147483647 → tyC h' N (clF cs) (UU ul' rest) (tnd 1 c' (hdN sc 0) (hdN sc 1)) (fR h' 1318 f)) := by
        intro g ug fg x0 x1 qq hq Rg qg Sg T0 T1
        have lg := Rg.2.1.2.2.2.1
        have Dg := dj_CS D Rg.2.1 hA
        have zg := Rg.2.1.1.1
        have e22 : fR g 122 tb = fR h 122 tb := Rg.2.1.2.2.2.2.1.2 122
        have HK := KC_of Rg.1 Sg (by rw [e22]; exact nL)
        obtain ⟨y, h4, ul4, fl4, y1, y2, y3, y4⟩ := SC_get (k := 1) (w := c) (con := (c : Int)) (nm := 0) (fam := 0) HK (.inr (.inl ⟨rfl, rfl, rfl, rfl⟩)) T0 T1 (by omega)
        have t3g := (TB_3 Rg.1.1.1.1).1
        have H4 := RS_SC (alo := a0) (ahi := amid) Rg.1 y2
        have eq4 : ∀ y', a0 ≤ y' → y' < amid → eqA y' g h4 := fun y' d1 d2 => y2.2.1.1.2.2.2 y' (by omega) (fun e => by
          rcases e with e | e
          · have := Dg y' (.inl e); omega
          · have := Dg y' (.inr e); omega)
        have kf4 : kd h4 f = 21 := by rw [(eq4 f rf.1 rf.2).1, (qg f rf.1 rf.2).1]; exact kf
        have Y : hG f h4 (sR h4 1318 f y) := hG_sR (by decide)
        have H5 := RS_hG (alo := a0) (ahi := amid) H4.1 Y (by rw [kf4]; decide) rf
        refine ⟨sR h4 1318 f y, ul4, fl4, ?_, ?_, hkV_trans (hkV_trans (hkV_eq qg) (hkV_eq eq4)) (hkV_hG Y), hG_SCc Y y2.1.2.2.2.1, fun y' d1 d2 d3 => eqA_trans (qg y' d1 d2) (eqA_trans (eq4 y' d1 d2) (Y.2.1 y' d3)), fun g' hg => ?_, fun g' => ?_, fun c' ec _ => ?_⟩
        · unfold C_1_resolveInstance_288
          rw [gd_pos t3g, show C_2_con G tb (oI (some c)) x0 x1 g = some (y, h4) from c_con t3g y1, Option.bind_some, gd_pos kf4]
        · have := RS_trans (RS_trans Rg H4) H5
          exact RS_le (RS_un H this (fun y hy => by simpa using hy)) (by omega) (by omega) (by omega)
        · rw [fR_ne hg, (eq4 f rf.1 rf.2).2.2.1, (qg f rf.1 rf.2).2.2.1]
        · show fI h4 g' f = fI h g' f
          rw [(eq4 f rf.1 rf.2).2.1, (qg f rf.1 rf.2).2.1]
        · rw [fR_eq, ← Option.some.inj ec]
          exact H5.2.1.2.2.2.2.2.1 _ y y3
      -- the second name
      have sec : ∀ (g : om_H) (ug fg : List Nat) (x0 qq : Nat), qq ≤ 1 → RS G A S N cs K pr tb rest fo F mo Ms a0 amid h ul fl g ug fg qq 0 0 [] → (∀ y, a0 ≤ y → y < amid → eqA y h g) → SCc g Ln Ls → tyC g N (clF cs) (UU ug rest) (hdN sc 0) x0 → ∃ (h' : om_H) (ul' fl' : List Nat), C_1_resolveInstance_249 G pr f f tb (oI (some c)) x0 g = C_1_resolveInstance_294 G pr f h' ∧ RS G A S N cs K pr tb rest fo F mo Ms a0 amid h ul fl h' ul' fl' 3 0 0 [] ∧ hkV a0 amid h h' ∧ SCc h' Ln Ls ∧ (∀ y, a0 ≤ y → y < amid → y ≠ f → eqA y h h') ∧ (∀ g, g ≠ 1318 → fR h' g f = fR h g f) ∧ (∀ g, fI h' g f = fI h g f) ∧ (∀ c', some c = some c' → fI h 112 pr = 2147483647 → tyC h' N (clF cs) (UU ul' rest) (tnd 1 c' (hdN sc 0) (hdN sc 1)) (fR h' 1318 f)) := by
        intro g ug fg x0 qq hq Rg qg Sg T0
        have lg := Rg.2.1.2.2.2.1
        have e22 : fR g 122 tb = fR h 122 tb := Rg.2.1.2.2.2.2.1.2 122
        have eg86 : fR g 1286 f = so := by rw [(qg f rf.1 rf.2).2.2.1]; exact e86
        have eg62 : fR g 162 so = Ln := by rw [(qg so rso.1.1 rso.1.2).2.2.1]; exact ks.2
        have eg78 : fR g 78 pr = tb := by rw [Rg.2.2.1.2]; exact e78
        have kgf : kd g f = 21 := by rw [(qg f rf.1 rf.2).1]; exact kf
        have kgs : kd g so = 5 := by rw [(qg so rso.1.1 rso.1.2).1]; exact ks.1
        have kgp := Rg.1.1.2.2.1.1.1
        have elg : ll g Ln = ll h Ln := (qg Ln rso.2.1 rso.2.2).2.2.2.2.2.2.1
        have esg : P_J2_size G Ln g = some (((ll h Ln).length : Nat) : Int) := by unfold P_J2_size; rw [gd_pos Sg.2.1, elg]
        have t3g := (TB_3 Rg.1.1.1.1).1
        unfold C_1_resolveInstance_249
        rw [eg86, eg62, gd_pos ⟨kgf, kgs, Sg.2.1⟩, esg, Option.bind_some]
        by_cases l1 : (ll h Ln).length ≤ 1
        · rw [if_pos (by omega)]
          have e1 : hdN sc 1 = .leaf := by unfold hdN; rw [List.getElem?_eq_none (by have := bd.1; omega)]
          exact fin g ug fg x0 0 qq (by omega) Rg qg Sg T0 (by rw [e1]; rfl)
        · rw [if_neg (by omega), gd_pos ⟨kgp, kgf, kgs, Sg.2.1⟩]
          obtain ⟨v, x, g2, ug2, fg2, y1, y2, y3, y4, y5⟩ := nm_get (G := G) (i := 1) Rg.1 Sg (by rw [elg]; exact nz) (by rw [e22]; exact nL) bd (by omega) (by omega)
          have y1' : P_J2_get G Ln 1 g = some v := y1
          have H4 := RS_SC (alo := a0) (ahi := amid) Rg.1 y4
          have Dg := dj_CS D Rg.2.1 hA
          have zg := Rg.2.1.1.1
          have eq4 : ∀ y', a0 ≤ y' → y' < amid → eqA y' g g2 := fun y' d1 d2 => y4.2.1.1.2.2.2 y' (by omega) (fun e => by
            rcases e with e | e
            · have := Dg y' (.inl e); omega
            · have := Dg y' (.inr e); omega)
          rw [y1', Option.bind_some, eg78, gd_pos ⟨.inr y2, t3g⟩, y3, Option.bind_some]
          have Rn := RS_un H (RS_trans Rg H4) (fun y hy => by simpa using hy)
          exact fin g2 ug2 fg2 x0 x (qq + 1) (by omega) (RS_le Rn (Nat.le_refl _) (by omega) (by omega)) (fun y' d1 d2 => eqA_trans (qg y' d1 d2) (eq4 y' d1 d2)) y4.1.2.2.2.1 (y4.2.1.2.2.2.2.2.1 _ _ T0) y5
      by_cases l0 : (ll h Ln).length ≤ 0
      · rw [if_pos (by omega)]
        have e0 : hdN sc 0 = .leaf := by unfold hdN; rw [List.getElem?_eq_none (by have := bd.1; omega)]
        exact sec h ul fl 0 0 (by omega) (RS_refl H) (fun _ _ _ => eqA_refl _ _) Sc (by rw [e0]; rfl)
      · rw [if_neg (by omega), gd_pos ⟨kp, kf, ks.1, Sc.2.1⟩]
        obtain ⟨v, x, g2, ug2, fg2, y1, y2, y3, y4, y5⟩ := nm_get (G := G) (i := 0) H Sc nz nL bd (by omega) (by omega)
        have y1' : P_J2_get G Ln 0 h = some v := y1
        have H4 := RS_SC (alo := a0) (ahi := amid) H y4
        have eq4 : ∀ y', a0 ≤ y' → y' < amid → eqA y' h g2 := fun y' d1 d2 => y4.2.1.1.2.2.2 y' (by omega) (fun e => by
          rcases e with e | e
          · have := D y' (.inl e); omega
          · have := D y' (.inr e); omega)
        rw [y1', Option.bind_some, gd_pos ⟨.inr y2, t3⟩, y3, Option.bind_some]
        have Rn := RS_un H H4 (fun y hy => by simpa using hy)
        exact sec g2 ug2 fg2 x 1 (by omega) Rn eq4 y4.1.2.2.2.1 y5
    · rw [if_pos mx]
      exact skip (.inr mx)
end LRV
