set_option maxRecDepth 100000
/-! THE TWIN SAYS NAMES, with their types and reasons -/
/-- what there is while a term is told -/
def EnvT (σ : tS) (n : Nat) (E : JE) (B : Nat) (nm con fam cnm : Nat → List Int) : Prop := (TyS σ n ∧ JTE σ n E) ∧ InO σ nm con fam E.2.2.2.1 E.2.2.2.2 B ∧ (JOk E B ∧ n + 9000 < 126000) ∧ ((∀ g ∈ E.2.2.2.2, g.1 < 100 → g.1 < E.2.2.1.length) ∧ ∀ k, k < E.2.2.1.length → clN σ cnm k) ∧ (∀ f ∈ E.1, ∀ g ∈ f.2.1, (g.1 < 100 → g.1 < E.2.2.1.length) ∧ (100 ≤ g.1 → tOn nm con fam σ g.2.2 ∧ hdO nm con fam σ 2 (g.1 - 100))) ∧ ∀ m, some m ∈ E.2.1 → m.1 < E.2.2.1.length
/-- a name's letters and types can be said -/
def lbO (σ : tS) (ins : List INs) (nm con fam : Nat → List Int) (lb : XL) : Prop := nmT σ lb.2.2.2.1 (nm lb.2.2.2.1) ∧ ∀ p ∈ lb.2.2.2.2.2, (tyOk ins p.1 ∧ tsz p.1 ≤ 2700 ∧ tdp p.1 < 70) ∧ tOn nm con fam σ p.1
/-- a saying that goes on from any state of the like; m: room on the spine -/
def RZ (σ0 : tS) (m : Nat) (r : Int → tS → Option tS) (x : Int) (L : List Int) : Prop := ∀ (σ : tS) (t : Nat), fr WZS WZA σ0 σ → SkT σ t → (0 ≤ gs σ 856 ∧ gs σ 856 + (m : Int) ≤ 4200) → t + L.length < 1000000000 → ∃ σ', r x σ = some σ' ∧ SyZ σ L σ'
section LNM
variable {E : JE} {ab : List (Option Nat)} {ins : List INs} {gv : List GVs} {B n : Nat} {σ σ0 τ : tS} {nm con fam cnm : Nat → List Int} {Q Q' : Ty → Prop}
theorem EnvT_Z (F : fr WZS WZA σ τ) (H : EnvT σ n E B nm con fam cnm) : EnvT τ n E B nm con fam cnm := by
  obtain ⟨⟨h1, h2⟩, h3, h4, ⟨h5, h6⟩, h7, h8⟩ := H
  exact ⟨⟨TyS_Z F h1, JTE_Z F h2⟩, InO_Z F h3, h4, ⟨h5, fun k hk => clN_Z F (h6 k hk)⟩, fun f hf g hg => ⟨(h7 f hf g hg).1, fun w => ⟨tOn_Z F ((h7 f hf g hg).2 w).1, hdO_Z F ((h7 f hf g hg).2 w).2⟩⟩, h8⟩
theorem lbO_Z {lb : XL} (F : fr WZS WZA σ τ) (H : lbO σ ins nm con fam lb) : lbO τ ins nm con fam lb := ⟨nmT_Z F H.1, fun p hp => ⟨(H.2 p hp).1, tOn_Z F (H.2 p hp).2⟩⟩
theorem dcK_mono (h : ∀ X, Q X → Q' X) : ∀ {f c : Nat} {T : Ty}, dcK ab ins gv Q f c T → dcK ab ins gv Q' f c T
  | 0, _, _, k => k
  | f + 1, c, T, k => by
    obtain ⟨u, k1, k0, k2⟩ := k
    exact ⟨u, knT_mono h k1, k0, fun k w x l r e1 e2 i d e3 e4 p hp => dcK_mono h (k2 k w x l r e1 e2 i d e3 e4 p hp)⟩
theorem oneK_mono (h : ∀ X, Q X → Q' X) {T U : Ty} (k : oneK ins gv Q T U) : oneK ins gv Q' T U := fun e => by
  obtain ⟨w, k1, k2, k3⟩ := k e
  exact ⟨w, knT_mono h k1, fun z => knT_mono h (k2 z), k3⟩
theorem oneK_kn {T U : Ty} (k : oneK ins gv (QN σ n) T U) (e : T ≠ U) : ∃ w, kn1 σ n ins gv T w ∧ (U ≠ w → kn1 σ n ins gv U w) := by
  obtain ⟨w, k1, k2, _⟩ := k e
  exact ⟨w, k1, k2⟩
/-- the @s of a name -/
theorem t_ats (hn : n ≤ 126000) {l1 l2 : Int} : ∀ (as : List (Ty × Nat)) (os : List Nat) (f : Int), chain σ0 f os → os.length = as.length → (∀ (i o : Nat) (a : Ty × Nat), os[i]? = some o → as[i]? = some a → o < 4200 ∧ tyT σ0 n a.1 (ga σ0 550 o)) → (∀ p ∈ as, (p.1 ≠ .leaf ∧ wfT p.1 ∧ tdp p.1 < 70) ∧ tOn nm con fam σ0 p.1) → ∀ (σ : tS) (t : Nat), fr WZS WZA σ0 σ → SkT σ t → t + ((as.map (fun p => 91 :: tyB nm con fam p.1 ++ [93])).flatten).length < 1000000000 → ∃ σ', om_loop (T_sayNamed_34s l1 l2) (f, σ) = some σ' ∧ SyZ σ ((as.map (fun p => 91 :: tyB nm con fam p.1 ++ [93])).flatten) σ'
  | [], [], f, ch, _, _, _, σ, t, F, S, ht => by
    have ef : f = -1 := ch
    refine ⟨σ, om_loop_out ?_, SyZ_of (SyW_of SyO_nil)⟩
    unfold T_sayNamed_34s
    simp only
    rw [if_pos ef]
  | [], _ :: _, _, _, h, _, _, _, _, _, _, _ => by cases h
  | _ :: _, [], _, _, h, _, _, _, _, _, _, _ => by cases h
  | a :: as, o :: os, f, ch, hl, hT, hO, σ, t, F, S, ht => by
    obtain ⟨ef, ch2⟩ : f = (o : Int) ∧ chain σ0 (ga σ0 562 o) os := ch
    obtain ⟨o42, cT⟩ := hT 0 o a rfl rfl
    obtain ⟨⟨q1, q2, q3⟩, q4⟩ := hO a List.mem_cons_self
    rw [List.map_cons, List.flatten_cons] at ht ⊢
    simp only [List.length_append, List.length_cons, List.length_nil] at ht
    obtain ⟨b1, b2, b3⟩ := sz_b S (by omega) 91
    have F1 := fr_trans F b2.2.2.2.1
    obtain ⟨σ2, c1, c2⟩ := t_sayTypeD (nm := nm) (con := con) (fam := fam) hn 70 a.1 _ _ _ q1 (tyT_Z F1 cT) q3 q2 (tOn_Z F1 q4) b3 (by omega)
    have C2 := SyZ_of (SyW_of c2)
    obtain ⟨t2, S2, t2a, t2b⟩ := SyO_t b3 c2
    obtain ⟨d1, d2, d3⟩ := sz_b S2 (by omega) 93
    have F3 := fr_trans F1 (fr_trans C2.2.2.2.1 d2.2.2.2.1)
    have st : T_sayNamed_34s l1 l2 (f, σ) = some (.inl (ga σ0 562 o, say1 σ2 93)) := by
      unfold T_sayNamed_34s T_sayType
      simp only
      rw [ef, if_neg (by omega), b1, Option.bind_some, if_pos (by omega), show ((o : Int)).toNat = o by omega, F1.2 550 (by decide), c1, Option.bind_some, d1, Option.bind_some, if_pos (by omega), F3.2 562 (by decide)]
    obtain ⟨σ4, g1, g2⟩ := t_ats hn (l1 := l1) (l2 := l2) as os _ ch2 (by simpa using hl) (fun i o' a' e1 e2 => hT (i + 1) o' a' e1 e2) (fun p hp => hO p (List.mem_cons_of_mem _ hp)) _ _ F3 d3 (by omega)
    refine ⟨σ4, by rw [om_loop_in st]; exact g1, ?_⟩
    have := SyZ_trans (SyZ_trans (SyZ_trans b2 C2) d2) g2
    rw [show 91 :: tyB nm con fam a.1 ++ [93] = [91] ++ tyB nm con fam a.1 ++ [93] by simp]
    exact this
theorem tyOk_GTy {T : Ty} (h : tyOk ins T) (hz : tsz T ≤ 1000000) (ho : tOn nm con fam σ T) : GTy σ ins nm con fam T := ⟨h.2.1, h.2.2, hz, ho⟩
/-- a reason, between signs -/
theorem t_rsn {T : Ty} {D : Dc} {c t : Nat} {x : Int} (V : EnvT σ n E B nm con fam cnm) (hc : c < E.2.2.1.length) (k : dcK E.2.2.1 E.2.2.2.1 E.2.2.2.2 (QN σ n) 70 c T) (e : dcT E.2.2.1 E.2.2.2.1 E.2.2.2.2 70 c T = some D) (hT : T ≠ .leaf) (gT : GTy σ E.2.2.2.1 nm con fam T) (cx : tyT σ n T x) (S : SkT σ t) (ht : t + (evB nm con fam cnm E.2.2.1 E.2.2.2.1 E.2.2.2.2 D).length + 2 < 1000000000) : ∃ σ1 σ2, T_say 123 σ = some σ1 ∧ T_sayDictionary (c : Int) x σ1 = some σ2 ∧ SyZ σ (123 :: evB nm con fam cnm E.2.2.1 E.2.2.2.1 E.2.2.2.2 D) σ2 := by
  obtain ⟨⟨h1, h2⟩, h3, h4, ⟨h5, h6⟩, h7, h8⟩ := V
  obtain ⟨b1, b2, b3⟩ := sw_b S (by omega) 123
  have := h4.1.1.1
  obtain ⟨_, R⟩ := t_sayDictD h3 (KW_J h1 h2) (by omega) h5 h6 70 c T D x 70 (Nat.le_refl _) k e hc hT gT cx
  obtain ⟨σ2, c1, c2⟩ := R _ _ b2.2.2.2 b3 (by omega)
  refine ⟨_, σ2, b1, c1, ?_⟩
  exact SyZ_of (SyW_trans b2 c2)
theorem t_rsn1 {T U : Ty} {t : Nat} {x y : Int} (V : EnvT σ n E B nm con fam cnm) (k2 : kn2 σ n E.2.2.2.1 E.2.2.2.2 nm con fam T U) (cx : tyT σ n T x) (cy : tyT σ n U y) (S : SkT σ t) (ht : t + (oneB nm con fam E.2.2.2.1 E.2.2.2.2 T U).length + 2 < 1000000000) : ∃ σ1 σ2, T_say 123 σ = some σ1 ∧ T_sayOne x y σ1 = some σ2 ∧ SyZ σ (123 :: oneB nm con fam E.2.2.2.1 E.2.2.2.2 T U) σ2 := by
  obtain ⟨⟨h1, h2⟩, h3, h4, ⟨h5, h6⟩, h7, h8⟩ := V
  obtain ⟨b1, b2, b3⟩ := sw_b S (by omega) 123
  have := h4.1.1.1
  obtain ⟨σ2, c1, c2⟩ := t_sayOne h3 (KW_J h1 h2) (by omega) k2 cx cy _ _ b2.2.2.2 b3 (by omega)
  exact ⟨_, σ2, b1, c1, SyZ_of (SyW_trans b2 c2)⟩
/-- the reasons of a function's name -/
theorem t_rsnL (V : EnvT σ0 n E B nm con fam cnm) {lb : XL} {hi v : Nat} (v84 : v < 4200 ∧ hi ≤ 4200) (H : nmTw σ0 n lb hi v) (O : lbO σ0 E.2.2.2.1 nm con fam lb) (k1 : lb.2.1 = 1) {f : List Nat × List GVs × Ty} (ef : E.1[lb.2.2.1]? = some f) (hl : lb.2.2.2.2.2.length = f.1.length) : ∀ (l : List GVs) (Ds : List Dc) (j : Nat) (σ : tS) (t : Nat), f.2.1.drop j = l → j ≤ f.2.1.length → gvK E (QN σ0 n) (f.1.zip (lb.2.2.2.2.2.map Prod.fst)) l Ds → fr WZS WZA σ0 σ → SkT σ t → t + ((Ds.map (fun D => 123 :: evB nm con fam cnm E.2.2.1 E.2.2.2.1 E.2.2.2.2 D ++ [125])).flatten).length < 1000000000 → ∃ σ', om_loop (T_sayNamed_73s (v : Int) (lb.2.2.2.1 : Int)) ((j : Int), σ) = some σ' ∧ SyZ σ ((Ds.map (fun D => 123 :: evB nm con fam cnm E.2.2.1 E.2.2.2.1 E.2.2.2.2 D ++ [125])).flatten) σ' := by
  have gof : ∀ σ, fr WZS WZA σ0 σ → T_givensOf (lb.2.2.2.1 : Int) σ = some ((f.2.1.length : Nat) : Int) ∧ f.2.1.length ≤ 4 := fun σ F => by
    have il := (List.getElem?_eq_some_iff.mp ef).1
    have := V.1.2.2.1.1
    obtain ⟨_, ⟨b4, b5, _⟩, _⟩ := V.1.2.2.1.2 _ f ef
    obtain ⟨_, nm2, nm3⟩ := nmT_638 H (by omega)
    have nm3' : ga σ0 638 lb.2.2.2.1 = 1 := by
      rcases nm3 with y | y | y
      · exact y.2
      · omega
      · omega
    have nm1 : lb.2.2.2.1 < 2100 := by obtain ⟨k', _, _, _, y4⟩ := H.1; exact y4
    refine ⟨?_, b5⟩
    unfold T_givensOf
    rw [if_pos (by omega), show ((lb.2.2.2.1 : Int)).toNat = lb.2.2.2.1 by omega, F.2 638 (by decide), nm3', if_neg (fun z => z rfl), F.2 642 (by decide), nm2, if_pos (by omega), show ((lb.2.2.1 : Int)).toNat = lb.2.2.1 by omega, F.2 746 (by decide), b4]
  intro l
  induction l with
  | nil =>
    intro Ds j σ t el hj gk F S ht
    obtain ⟨g1, g2⟩ := gof σ F
    have jl : f.2.1.length ≤ j := List.drop_eq_nil_iff.mp el
    cases Ds with
    | cons D Ds => exact gk.elim
    | nil =>
      refine ⟨σ, om_loop_out ?_, SyZ_of (SyW_of SyO_nil)⟩
      unfold T_sayNamed_73s
      simp only
      rw [g1, Option.bind_some, if_pos (by omega)]
  | cons g l ih =>
    intro Ds j σ t el hj gk F S ht
    cases Ds with
    | nil => exact gk.elim
    | cons D Ds =>
    obtain ⟨gk1, gk2⟩ := gk
    obtain ⟨g1, g2⟩ := gof σ F
    have jl : j < f.2.1.length := Classical.byContradiction (fun z => by
      rw [List.drop_eq_nil_iff.mpr (by omega)] at el
      cases el)
    have ek := List.drop_eq_getElem_cons jl
    rw [el] at ek
    injection ek with ek1 ek2
    have eg : f.2.1[j]? = some g := by rw [List.getElem?_eq_getElem jl, ek1]
    have gm := List.mem_of_getElem? eg
    have fm := List.mem_of_getElem? ef
    have Vσ := EnvT_Z F V
    obtain ⟨h7a, h7b⟩ := V.2.2.2.2.1 f fm g gm
    obtain ⟨_, _, Jg⟩ := V.2.2.1.1.2.1 f fm
    have ok2 : ∀ a ∈ lb.2.2.2.2.2, tyOk E.2.2.2.1 a.1 ∧ tsz a.1 ≤ 2700 := fun a ha => ⟨(O.2 a ha).1.1, (O.2 a ha).1.2.1⟩
    obtain ⟨σ2, p1, p2, p3, p4, p5, Tf, p6, p7⟩ := t_gput1 V.2.2.1.1 Vσ.1.1 Vσ.1.2 v84 (nmTw_Z F H) k1 ef ok2 hl eg V.2.2.1.2 (fun w => by
      rw [if_neg (by omega)] at gk1
      exact ⟨QN_Z F gk1.2.2.1.1, QN_Z F gk1.2.2.1.2⟩)
    have F2 := fr_trans F p2.2.2.2.1
    have V2 := EnvT_Z F2 V
    obtain ⟨t2, S2, t2a, t2b⟩ := SyZ_t S p2
    have t2c : t2 ≤ t := t2b
    rw [List.map_cons, List.flatten_cons] at ht ⊢
    simp only [List.length_append, List.length_cons, List.length_nil] at ht
    obtain ⟨pa, pa1, pa2⟩ := List.mem_map.mp p7
    have okT := (O.2 pa pa1).1
    rw [pa2] at okT
    have onT : tOn nm con fam σ0 Tf := by rw [← pa2]; exact (O.2 pa pa1).2
    rw [p6] at gk1 p4 p5
    -- the reason
    obtain ⟨σ3, σ4, r1, r2, r3⟩ : ∃ σ3 σ4, T_say 123 σ2 = some σ3 ∧ (if 100 ≤ (g.1 : Int) then T_sayOne (gs σ2 884) (gs σ2 888) σ3 else T_sayDictionary (gs σ2 880) (gs σ2 884) σ3) = some σ4 ∧ SyZ σ2 (123 :: evB nm con fam cnm E.2.2.1 E.2.2.2.1 E.2.2.2.2 D) σ4 := by
      by_cases c : g.1 < 100
      · rw [if_pos c] at gk1
        obtain ⟨σ3, σ4, r1, r2, r3⟩ := t_rsn V2 (h7a c) (dcK_mono (fun X hX => QN_Z F2 hX) gk1.2) gk1.1 okT.1.1 (tyOk_GTy okT.1 (Nat.le_trans okT.2.1 (by decide)) (tOn_Z F2 onT)) (p4 c) S2 (by omega)
        exact ⟨σ3, σ4, r1, by rw [if_neg (by omega), p3]; exact r2, r3⟩
      · rw [if_neg c] at gk1
        obtain ⟨eD, k2, ⟨q1, q2⟩, z1, z2⟩ := gk1
        obtain ⟨_, d2⟩ := Jg g gm
        obtain ⟨d3, d4, d5, d6, d7⟩ := d2 (by omega)
        have hθ : ∀ p ∈ f.1.zip (lb.2.2.2.2.2.map Prod.fst), (tyOk E.2.2.2.1 p.2 ∧ tsz p.2 ≤ 2700) ∧ tOn nm con fam σ0 p.2 := fun p hp => by
          obtain ⟨a, x1, x2⟩ := List.mem_map.mp (List.of_mem_zip hp).2
          rw [← x2]; exact ⟨ok2 a x1, (O.2 a x1).2⟩
        have hzs : tsz (sbT (f.1.zip (lb.2.2.2.2.2.map Prod.fst)) g.2.2) ≤ 2700 * 2700 := by
          have := sbT_tsz (B := 2700) (by decide) (fun p hp => (hθ p hp).1.2) d4.2.1
          have h2 : 2700 * tsz g.2.2 ≤ 2700 * 2700 := Nat.mul_le_mul_left _ d5
          omega
        have zU := tszW_eq (T := sbT (f.1.zip (lb.2.2.2.2.2.map Prod.fst)) g.2.2) (by omega)
        have okU : tyOk E.2.2.2.1 (sbT (f.1.zip (lb.2.2.2.2.2.map Prod.fst)) g.2.2) := tyOk_sb (fun p hp => (hθ p hp).1.1) d4
        have okF2 : tyOk E.2.2.2.1 (tnd 2 (g.1 - 100) Tf .leaf) := ⟨(by intro z; cases z), ⟨.inr (.inr (.inl ⟨rfl, okT.1.1, rfl⟩)), okT.1.2.1, trivial⟩, ⟨fun _ => ⟨by omega, d7⟩, okT.1.2.2, trivial⟩⟩
        obtain ⟨h7c, h7d⟩ := h7b (by omega)
        obtain ⟨p51, p52⟩ := p5 (by omega)
        have tz : tsz (tnd 2 (g.1 - 100) Tf .leaf) = 1 + tsz Tf + 0 := rfl
        have dU := tdp_tsz (sbT (f.1.zip (lb.2.2.2.2.2.map Prod.fst)) g.2.2)
        have kk : kn2 σ2 n E.2.2.2.1 E.2.2.2.2 nm con fam (tnd 2 (g.1 - 100) Tf .leaf) (sbT (f.1.zip (lb.2.2.2.2.2.map Prod.fst)) g.2.2) := ⟨⟨okF2.1, okU.1⟩, ⟨tyOk_GTy okF2 (by have := okT.2.1; show 1 + tsz Tf + tsz .leaf ≤ 1000000; have : tsz (.leaf : Ty) = 0 := rfl; omega) ⟨hdO_Z F2 h7d, tOn_Z F2 onT, trivial⟩, tyOk_GTy okU (by omega) (tOn_Z F2 (tOn_sb (fun p hp => (hθ p hp).2) h7c))⟩, fun z => by rw [z]; omega, fun z => oneK_kn (oneK_mono (fun X hX => QN_Z F2 hX) k2) z⟩
        have eB : evB nm con fam cnm E.2.2.1 E.2.2.2.1 E.2.2.2.2 D = oneB nm con fam E.2.2.2.1 E.2.2.2.2 (tnd 2 (g.1 - 100) Tf .leaf) (sbT (f.1.zip (lb.2.2.2.2.2.map Prod.fst)) g.2.2) := by
          rw [eD]
          rfl
        rw [eB] at ht ⊢
        obtain ⟨σ3, σ4, r1, r2, r3⟩ := t_rsn1 V2 kk p51 p52 S2 (by omega)
        exact ⟨σ3, σ4, r1, by rw [if_pos (by omega)]; exact r2, r3⟩
    obtain ⟨t4, S4, t4a, t4b⟩ := SyZ_t S2 r3
    rw [List.length_cons] at t4b
    obtain ⟨e1, e2, e3⟩ := sz_b S4 (by omega) 125
    have F4 := fr_trans F2 (fr_trans r3.2.2.2.1 e2.2.2.2.1)
    have st : T_sayNamed_73s (v : Int) (lb.2.2.2.1 : Int) ((j : Int), σ) = some (.inl (((j + 1 : Nat) : Int), say1 σ4 125)) := by
      have wj : w32 ((j : Int) + 1) = ((j + 1 : Nat) : Int) := (w32_s (by omega) (by omega)).trans (by omega)
      unfold T_sayNamed_73s
      simp only
      rw [g1, Option.bind_some, if_neg (by omega), p1, Option.bind_some, r1, Option.bind_some, p3]
      by_cases c : 100 ≤ (g.1 : Int)
      · rw [if_pos c] at r2
        rw [if_pos c, r2, Option.bind_some]
        unfold T_sayNamed_139
        rw [e1, Option.bind_some, wj]
      · rw [if_neg c] at r2
        rw [p3] at r2
        rw [if_neg c, r2, Option.bind_some]
        unfold T_sayNamed_139
        rw [e1, Option.bind_some, wj]
    obtain ⟨σ6, i1, i2⟩ := ih Ds (j + 1) _ _ ek2.symm (by omega) gk2 F4 e3 (by omega)
    refine ⟨σ6, by rw [om_loop_in st]; exact i1, ?_⟩
    have := SyZ_trans (SyZ_trans (SyZ_trans p2 r3) e2) i2
    rw [show 123 :: evB nm con fam cnm E.2.2.1 E.2.2.2.1 E.2.2.2.2 D ++ [125] = [] ++ (123 :: evB nm con fam cnm E.2.2.1 E.2.2.2.1 E.2.2.2.2 D) ++ [125] by simp]
    exact this
/-- A NAME IS SAID -/
theorem t_sayNamed (V : EnvT σ0 n E B nm con fam cnm) {lb : XL} {hi v m : Nat} {ev : List Dc} (v84 : v < 4200 ∧ hi ≤ 4200) (H : nmTw σ0 n lb hi v) (O : lbO σ0 E.2.2.2.1 nm con fam lb) (K : nmK2 E (QN σ0 n) lb ev) : RZ σ0 m (fun x σ => T_sayNamed x σ) (v : Int) (nmB nm con fam cnm E.2.2.1 E.2.2.2.1 E.2.2.2.2 lb ev) := by
  intro σ t F S _ ht
  unfold nmB at ht ⊢
  simp only [List.length_append] at ht
  obtain ⟨⟨k, y1, y2, y3, y4⟩, y5, os, o1, o2, o3⟩ := id H
  have hn : n ≤ 126000 := by have := V.2.2.1.2; omega
  have vN : ((v : Int)).toNat = v := by omega
  have n1 := t_sayName (nmT_Z F O.1) y4 S (by omega)
  have N1 := SyZ_of (SyW_of (SyO_L (L := nm lb.2.2.2.1) S (by omega)))
  have S1 := sayL_t (L := nm lb.2.2.2.1) S (by omega)
  have F1 := fr_trans F N1.2.2.2.1
  show ∃ σ', T_sayNamed (v : Int) σ = some σ' ∧ _
  have head : T_sayNamed (v : Int) σ = if (ga σ0 550 v) = (-1) then (om_loop (T_sayNamed_34s (v : Int) (lb.2.2.2.1 : Int)) (ga σ0 546 v, sayL (nm lb.2.2.2.1) σ)).bind fun y3 => (om_loop (T_sayNamed_73s (v : Int) (lb.2.2.2.1 : Int)) (0, y3)).bind fun y4 => some y4 else some (sayL (nm lb.2.2.2.1) σ) := by
    unfold T_sayNamed T_nameAt
    rw [if_pos (by omega), vN, F.2 542 (by decide), y1, if_pos (by omega), show ((k : Int)).toNat = k by omega, F.2 482 (by decide), y3, Option.bind_some, n1, Option.bind_some, if_pos (by omega), F1.2 550 (by decide)]
    by_cases e5 : ga σ0 550 v = -1
    · rw [if_pos e5, if_pos e5, if_pos (by omega), F1.2 546 (by decide)]
    · rw [if_neg e5, if_neg e5]
  rw [head]
  rcases K with ⟨k0, ke, kv⟩ | ⟨k0, kl, kk⟩
  · have e550 : ga σ0 550 v ≠ -1 := by
      rcases y5 with y | y
      · rw [y.2]; omega
      · exact absurd k0 y.1
    rw [if_neg e550, ke, kv]
    refine ⟨_, rfl, ?_⟩
    show SyZ σ (nm lb.2.2.2.1 ++ [] ++ []) _
    rw [List.append_nil, List.append_nil]
    exact N1
  · have e550 : ga σ0 550 v = -1 := by
      rcases y5 with y | y
      · exact absurd y.1 k0
      · exact y.2.1
    rw [if_pos e550]
    obtain ⟨σ2, a1, a2⟩ := t_ats (nm := nm) (con := con) (fam := fam) hn (l1 := (v : Int)) (l2 := (lb.2.2.2.1 : Int)) lb.2.2.2.2.2 os _ o1 o2 (fun i o a e1 e2 => by
      obtain ⟨p1, p2, p3⟩ := o3 i o a e1 e2
      exact ⟨by omega, p3⟩) (fun p hp => ⟨⟨(O.2 p hp).1.1.1, (O.2 p hp).1.1.2.1, (O.2 p hp).1.2.2⟩, (O.2 p hp).2⟩) _ _ F1 S1 (by omega)
    obtain ⟨t2, S2, t2a, t2b⟩ := SyZ_t S1 a2
    have F2 := fr_trans F1 a2.2.2.2.1
    rw [a1, Option.bind_some]
    have fin : ∀ σ', om_loop (T_sayNamed_73s (v : Int) (lb.2.2.2.1 : Int)) (0, σ2) = some σ' ∧ SyZ σ2 ((ev.map (fun D => 123 :: evB nm con fam cnm E.2.2.1 E.2.2.2.1 E.2.2.2.2 D ++ [125])).flatten) σ' → ∃ σ', ((om_loop (T_sayNamed_73s (v : Int) (lb.2.2.2.1 : Int)) (0, σ2)).bind fun y4 => some y4) = some σ' ∧ SyZ σ (nm lb.2.2.2.1 ++ (lb.2.2.2.2.2.map (fun p => 91 :: tyB nm con fam p.1 ++ [93])).flatten ++ (ev.map (fun D => 123 :: evB nm con fam cnm E.2.2.1 E.2.2.2.1 E.2.2.2.2 D ++ [125])).flatten) σ' := fun σ' h => ⟨σ', by rw [h.1, Option.bind_some], SyZ_trans (SyZ_trans N1 a2) h.2⟩
    rcases kk with ⟨k1, f, ef, gk⟩ | ⟨k2, m', D, em, eD, ed, dk⟩ | ⟨k1, k2, eD⟩
    · have hl : lb.2.2.2.2.2.length = f.1.length := by
        rw [kl]
        unfold jnN
        rw [if_pos k1, ef]
        rfl
      obtain ⟨σ3, b1, b2⟩ := t_rsnL V v84 H O k1 ef hl f.2.1 ev 0 σ2 t2 rfl (Nat.zero_le _) gk F2 S2 (by omega)
      exact fin σ3 ⟨b1, b2⟩
    · have l1 : lb.2.2.2.2.2.length = 1 := by
        rw [kl]
        unfold jnN
        rw [if_neg (by omega), if_pos k2]
      obtain ⟨⟨T, pa⟩, ea⟩ : ∃ p, lb.2.2.2.2.2 = [p] := List.length_eq_one_iff.mp l1
      obtain ⟨_, nm2, nm3⟩ := nmT_638 H k0
      have nm3' : ga σ0 638 lb.2.2.2.1 = 2 := by
        rcases nm3 with y | y | y
        · omega
        · exact y.2
        · omega
      have gof : ∀ σ, fr WZS WZA σ0 σ → T_givensOf (lb.2.2.2.1 : Int) σ = some 1 := fun σ F => by
        unfold T_givensOf
        rw [if_pos (by omega), show ((lb.2.2.2.1 : Int)).toNat = lb.2.2.2.1 by omega, F.2 638 (by decide), nm3', if_pos (by decide), if_pos (by omega), if_neg (fun z => z rfl)]
      have V2 := EnvT_Z F2 V
      obtain ⟨σ3, p1, p2, p3, p4⟩ := t_gput2 V2.1.2 v84 (nmTw_Z F2 H) k2 em ea
      have F3 := fr_trans F2 p2.2.2.2.1
      have V3 := EnvT_Z F3 V
      obtain ⟨t3, S3, t3a, t3b⟩ := SyZ_t S2 p2
      have t3c : t3 ≤ t2 := t3b
      have okT := O.2 (T, pa) (by rw [ea]; exact List.mem_cons_self)
      have eT : (lb.2.2.2.2.2.map Prod.fst)[0]?.getD .leaf = T := by rw [ea]; rfl
      rw [eT] at ed dk
      rw [eD] at ht fin
      have hLn : ([D].map (fun D => 123 :: evB nm con fam cnm E.2.2.1 E.2.2.2.1 E.2.2.2.2 D ++ [125])).flatten = [] ++ (123 :: evB nm con fam cnm E.2.2.1 E.2.2.2.1 E.2.2.2.2 D) ++ [125] := by simp
      rw [hLn] at ht fin
      simp only [List.length_append, List.length_cons, List.length_nil] at ht
      have hm := V.2.2.2.2.2 m' (List.mem_of_getElem? em)
      obtain ⟨σ4, σ5, r1, r2, r3⟩ := t_rsn V3 hm (dcK_mono (fun X hX => QN_Z F3 hX) dk) ed okT.1.1.1 (tyOk_GTy okT.1.1 (Nat.le_trans okT.1.2.1 (by decide)) (tOn_Z F3 okT.2)) p4 S3 (by omega)
      obtain ⟨t5, S5, t5a, t5b⟩ := SyZ_t S3 r3
      rw [List.length_cons] at t5b
      obtain ⟨e1, e2, e3⟩ := sz_b S5 (by omega) 125
      have m8 : m'.1 < 8 := by have := V.1.2.1.1.1.1; omega
      have st : T_sayNamed_73s (v : Int) (lb.2.2.2.1 : Int) (0, σ2) = some (.inl (1, say1 σ5 125)) := by
        unfold T_sayNamed_73s
        simp only
        rw [gof σ2 F2, Option.bind_some, if_neg (by omega), p1, Option.bind_some, r1, Option.bind_some, p3, if_neg (by omega), r2, Option.bind_some]
        unfold T_sayNamed_139
        rw [e1, Option.bind_some, show w32 (0 + 1) = 1 from (w32_s (by omega) (by omega)).trans (by omega)]
      have F5 := fr_trans F3 (fr_trans r3.2.2.2.1 e2.2.2.2.1)
      have st2 : T_sayNamed_73s (v : Int) (lb.2.2.2.1 : Int) (1, say1 σ5 125) = some (.inr (say1 σ5 125)) := by
        unfold T_sayNamed_73s
        simp only
        rw [gof _ F5, Option.bind_some, if_pos (Int.le_refl _)]
      rw [eD, hLn]
      exact fin _ ⟨by rw [om_loop_in st, om_loop_out st2], SyZ_trans (SyZ_trans p2 r3) e2⟩
    · obtain ⟨_, nm2, nm3⟩ := nmT_638 H k0
      have nm3' : ga σ0 638 lb.2.2.2.1 ≠ 1 ∧ ga σ0 638 lb.2.2.2.1 ≠ 2 := by
        rcases nm3 with y | y | y
        · omega
        · omega
        · exact y.2
      have st2 : T_sayNamed_73s (v : Int) (lb.2.2.2.1 : Int) (0, σ2) = some (.inr σ2) := by
        unfold T_sayNamed_73s T_givensOf
        simp only
        rw [if_pos (by omega), show ((lb.2.2.2.1 : Int)).toNat = lb.2.2.2.1 by omega, F2.2 638 (by decide), if_pos nm3'.1, if_pos (by omega), if_pos nm3'.2, Option.bind_some, if_pos (Int.le_refl _)]
      refine fin σ2 ⟨om_loop_out st2, ?_⟩
      rw [eD]
      exact SyZ_of (SyW_of SyO_nil)
end LNM
