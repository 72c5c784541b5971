set_option maxRecDepth 100000
/-! THE TWIN SAYS why a type is what it is worked out to -/
/-- a type that is there -/
def QN (σ : tS) (n : Nat) (X : Ty) : Prop := ∃ t, tyT σ n X t
section LWD2
variable {ab : List (Option Nat)} {ins : List INs} {gv : List GVs} {B n : Nat} {σ0 : tS} {nm con fam : Nat → List Int}
theorem gby_lt (hi : ins.length ≤ 20) (hg : gv.length ≤ 4) {v : Ty} {b : Nat} (e : gby ins gv v = some b) : b < 200 ∧ tL v ≠ .leaf := by
  rcases v with ⟨k, f, u, ⟨k', w, u', l, r⟩ | _, r'⟩ | _
  · refine ⟨?_, fun z => (by cases z)⟩
    have e' : (if k = 2 then (if k' = 1 then iOf ins f w else if k' = 0 then (gFm gv f w).map (fun g => 100 + g) else none) else none) = some b := e
    by_cases k2 : k = 2
    · rw [if_pos k2] at e'
      by_cases k1 : k' = 1
      · rw [if_pos k1] at e'
        obtain ⟨d, i1, i2⟩ := ixF_some e'
        have lt := (List.getElem?_eq_some_iff.mp i1).1
        omega
      · rw [if_neg k1] at e'
        by_cases k0 : k' = 0
        · rw [if_pos k0] at e'
          cases q : gFm gv f w with
          | none => rw [q] at e'; cases e'
          | some g =>
            rw [q] at e'
            have e2 : 100 + g = b := Option.some.inj e'
            obtain ⟨d, i1, i2⟩ := ixF_some q
            have lt := (List.getElem?_eq_some_iff.mp i1).1
            omega
        · rw [if_neg k0] at e'
          cases e'
    · rw [if_neg k2] at e'
      cases e'
  · cases e
  · cases e
/-- WHY A TYPE IS WHAT IT IS WORKED OUT TO -/
theorem t_sayWhyD (I : InO σ0 nm con fam ins gv B) (K0 : KW σ0 n ab ins gv) (hn : n + B < 126000) : ∀ (f : Nat), f ≤ 130 → ∀ (T u : Ty) (x : Int) (f1 f2 : Nat), f ≤ f1 → f ≤ f2 → knT ins gv (QN σ0 n) f T u → T ≠ .leaf → tyT σ0 n T x → GTy σ0 ins nm con fam T → RW σ0 (T_sayWhyD f1) x ((whyB nm con fam ins gv f2 T).getD (altB nm con fam T)) := by
  intro f
  induction f using Nat.strongRecOn with
  | ind f ih =>
  intro hf T u x f1 f2 h1 h2 kn hT ct qT σ t F S ht
  have f0 : 0 < f := by
    obtain ⟨D, bg, hw, _⟩ := kn
    cases f with
    | zero => cases hw (0, 0, [])
    | succ f => omega
  obtain ⟨f1', rfl⟩ : ∃ a, f1 = a + 1 := ⟨f1 - 1, by omega⟩
  obtain ⟨f2', rfl⟩ : ∃ a, f2 = a + 1 := ⟨f2 - 1, by omega⟩
  obtain ⟨wT, okT, zT, oT⟩ := id qT
  obtain ⟨hB, hI, hG⟩ := I.1
  have n126 : n ≤ 126000 := by omega
  show ∃ σ', T_sayWhyB (T_sayWhyD f1') x σ = some σ' ∧ _
  unfold T_sayWhyB
  by_cases c : gs σ 904 ≤ gs σ 908
  rotate_left
  · rw [if_neg c]
    exact ⟨σ, rfl, SyW_skip c⟩
  rw [if_pos c]
  obtain ⟨t', σ1, a1, a2, a3, a4, a5⟩ := t_outW hB hI hG (KW_W F K0) hf kn (fun X hX => ⟨_, tyT_W F hX.choose_spec⟩) (tyT_W F ct) hT okT zT hn
  have F1 := fr_trans F a2.2.2.2
  obtain ⟨t1, S1, t1a, t1b⟩ := SyW_t S a2
  have t1b' : t1 ≤ t := t1b
  rw [a1, Option.bind_some]
  by_cases e : t' = x
  · have wn := (why_none (nm := nm) (con := con) (fam := fam) hf h2 kn).mpr (a4.mp e)
    rw [wn] at ht ⊢
    have ht' : t + (altB nm con fam T).length < 1000000000 := ht
    show ∃ σ', (if ¬ t' = x then _ else _) = some σ' ∧ SyW σ (altB nm con fam T) σ'
    rw [if_neg (fun z => z e)]
    obtain ⟨σ2, b1, b2⟩ := t_sayAlike n126 (tyT_W F1 ct) hT (by rw [← a4.mp e]; exact (knT_fit I kn hT qT).2.2) wT (tOn_W F1 oT) S1 (by omega)
    exact ⟨σ2, by show (T_sayAlike x σ1).bind _ = _; rw [b1, Option.bind_some], by have zz := SyW_trans a2 (SyW_of b2); exact zz⟩
  · have uT : u ≠ T := fun z => e (a4.mpr z)
    show ∃ σ', (if ¬ t' = x then _ else _) = some σ' ∧ _
    rw [if_pos e]
    have th : thB T = true := Classical.byContradiction (fun z => uT (knT_no kn z))
    obtain ⟨g, eg⟩ := knT_2 kn th
    subst eg
    obtain ⟨_, sp, s3, s4⟩ := knT_step (by omega) kn th
    obtain ⟨⟨gv1, gv2, gv3, gv4⟩, gv5⟩ := kn_step I (by omega) kn th qT
    obtain ⟨σa, t3, σ3, b1, b2, b3, b4, b5, b6, b7⟩ := t_partsW hB hI hG (KW_W F1 K0) (by omega) kn th (fun X hX => ⟨_, tyT_W F1 hX.choose_spec⟩) (tyT_W F1 ct) hT okT zT hn
    have F3 := fr_trans F1 b3.2.2.2
    obtain ⟨t3', S3, t3a, t3b⟩ := SyW_t S1 b3
    have t3c : t3' ≤ t := by have : t3' ≤ t1 := t3b; omega
    show ∃ σ', (T_told1 σ1).bind _ = some σ' ∧ _
    rw [b1, Option.bind_some, b2, Option.bind_some]
    -- parts that are worked out
    generalize ev : innT ins gv T = v at *
    obtain ⟨m, em⟩ : ∃ m : Nat, t3 = (m : Int) := by
      rcases tyT_lt b4 with z | z
      · exact absurd ((tyT_0 b4).mpr z) b6
      · exact ⟨t3.toNat, by omega⟩
    subst em
    have ctv : tyT σ0 n v (m : Int) := tyT_W (fr_symm F3) b4
    have tv : m < n ∧ tyT σ0 n (tL v) (ga σ0 510 m) := by
      rcases v with ⟨k, w, y, l, r⟩ | _
      · obtain ⟨m', c1, c2, c3, c4, c5, c6⟩ := ctv
        have : m' = m := by omega
        subst this
        exact ⟨c2, c5⟩
      · exact absurd rfl b6
    have qtl : tdp (tL v) < 70 ∧ wfT (tL v) ∧ tOn nm con fam σ0 (tL v) := by
      rcases v with ⟨k, w, y, l, r⟩ | _
      · exact ⟨gv4, gv1.1.2.1, gv1.2.2.2.2.1⟩
      · exact absurd rfl b6
    -- the parts are said
    have hW : WPs σ0 (T_sayWhyD f1') x (wpB0 (nm := nm) (con := con) (fam := fam) (whyB nm con fam ins gv f2') T) := by
      have wfT0 := tyT_wf K0.1 ct
      have spT := sp hT
      rcases T with ⟨k, w, y, l, r'⟩ | _
      rotate_left
      · exact absurd rfl hT
      obtain ⟨m1, c1, c2, c3, c4, c5, c6⟩ := id ct
      subst c1
      obtain ⟨ql, qr⟩ := GTy_l qT
      have th' : (k == 2 || thB l || thB r') = true := th
      have hk : (k = 1 ∨ k = 2 ∨ k = 3) ∧ l ≠ .leaf := by
        rcases wfT0.1 with s | s | s | s
        · rw [s.1, s.2.1, s.2.2] at th'
          exact absurd th' (by decide)
        · refine ⟨.inl s.1, fun z => ?_⟩
          have w2 := s.2.2.1.mp z
          have r0 := s.2.2.2.mpr (by omega)
          rw [s.1, z, r0] at th'
          exact absurd th' (by decide)
        · exact ⟨.inr (.inl s.1), s.2.1⟩
        · exact ⟨.inr (.inr s.1), s.2.2.1⟩
      have h3 : k = 3 → r' ≠ .leaf := fun z => by
        rcases wfT0.1 with s | s | s | s
        · omega
        · omega
        · omega
        · exact s.2.2.2
      have kl : knT ins gv (QN σ0 n) g l (tL v) := by
        rcases spT.1 with z | z
        · exact absurd z.1 hk.2
        · exact z
      have kr : r' ≠ .leaf → knT ins gv (QN σ0 n) g r' (tR' v) := fun h => by
        rcases spT.2 with z | z
        · exact absurd z.1 h
        · exact z
      intro K σ t F S ht
      exact t_wp (u := y) (by omega) c3 c4 oT.1 hk.1 hk.2 h3 (tyT_not c6) (ih g (by omega) (by omega) l _ _ f1' f2' (by omega) (by omega) kl hk.2 c5 ql) (fun h => ih g (by omega) (by omega) r' _ _ f1' f2' (by omega) (by omega) (kr h) h c6 qr) F S ht
    have ew : ∃ w0, whyB nm con fam ins gv (f2' + 1) T = some w0 := by
      cases q : whyB nm con fam ins gv (f2' + 1) T with
      | none => exact absurd ((why_none hf h2 kn).mp q) uT
      | some w0 => exact ⟨w0, rfl⟩
    obtain ⟨w0, ew⟩ := ew
    have ew' := ew
    rw [whyB_s, ev] at ew'
    rw [ew] at ht ⊢
    show ∃ σ', (if ((m : Nat) : Int) = x then _ else _) = some σ' ∧ SyW σ w0 σ'
    have ht' : t + w0.length < 1000000000 := ht
    have K3 := KW_W F3 K0
    have fin : ∀ l3 : Int, l3 = (if tyE v T = true then 0 else 1) → ∃ σ', T_sayWhy_47 (T_sayWhyD f1') x (m : Int) l3 σ3 = some σ' ∧ SyW σ w0 σ' := by
      intro l3 e3
      rw [t_sw47 K3 b6 b7 b4]
      cases gb : gby ins gv v with
      | none =>
        rw [gb] at ew'
        have nv : ¬ tyE v T = true := fun z => uT ((s3 gb).trans (tyE_iff.mp z))
        have ew2 : (if tyE v T = true then none else some (wpB nm con fam (whyB nm con fam ins gv f2') T)) = some w0 := ew'
        rw [if_neg nv, wpB_0 hT] at ew2
        rw [if_neg nv] at e3
        subst e3
        have ew3 := Option.some.inj ew2
        unfold T_sayWhy_78
        show ∃ σ', (if (-1 : Int) ≠ -1 then _ else _) = some σ' ∧ _
        rw [if_neg (fun z => z rfl)]
        unfold T_sayWhy_102
        rw [if_pos (show oI none = -1 from rfl), show oI none = -1 from rfl, t_126n]
        obtain ⟨σ', k1, k2⟩ := t_159n (l2 := (m : Int)) (l5 := (m : Int)) hW F3 S3 (by rw [ew3]; omega)
        exact ⟨σ', k1, by rw [← ew3]; have zz := SyW_trans a2 (SyW_trans b3 k2); exact zz⟩
      | some b =>
        rw [gb] at ew'
        obtain ⟨qg, kg, _⟩ := s4 b gb
        obtain ⟨hb, hl⟩ := gby_lt K0.2.1.2.2.1 K0.2.2.2.1 gb
        -- what it goes to
        obtain ⟨k, w, y, l, rr, evv⟩ : ∃ k w y l rr, v = .inner k w y l rr := by
          rcases v with ⟨k, w, y, l, rr⟩ | _
          · exact ⟨k, w, y, l, rr, rfl⟩
          · exact absurd rfl b6
        have k2' : k = 2 := by
          rw [evv] at gb
          rcases l with ⟨k', w', y', l', r'⟩ | _
          · have e' : (if k = 2 then _ else none) = some b := gb
            by_cases k2 : k = 2
            · exact k2
            · rw [if_neg k2] at e'
              cases e'
          · cases gb
        have etl : tL v = l := by rw [evv]; rfl
        have evv2 : v = .inner 2 w y (tL v) rr := by rw [etl, ← k2']; exact evv
        have tv3 : tyT σ3 n (tL v) (ga σ3 510 m) := by rw [F3.2 510 (by decide)]; exact tyT_W F3 tv.2
        obtain ⟨t4, σ4, n', g1, g2, g3, g4, g5, g6, g7, g8, g9, g10⟩ := t_goesTo hI hG K3.1 K3.2.1 K3.2.2 (f := w) (u := y) (r' := rr) tv3 qtl.2.1 (by rw [← evv2]; exact b7) (by rw [← evv2]; exact gb) (by omega)
        obtain ⟨en, es⟩ := g10 ⟨_, tyT_W F3 qg.choose_spec⟩
        rw [en] at g3 g5
        have Y4 : SyW σ3 [] σ4 := SyW_out (fr_sub g2 (by decide) (fun _ h => h)) es (by rw [g3.1.1, K3.1.1.1])
        have F4 := fr_trans F3 Y4.2.2.2
        have ct4 : tyT σ0 n (gto ins gv b (tL v)) t4 := tyT_W (fr_symm F4) g5
        obtain ⟨t5, σ5, o1, o2, o3, o4, o5⟩ := t_outW hB hI hG (KW_W F4 K0) (by omega) kg (fun X hX => ⟨_, tyT_W F4 hX.choose_spec⟩) g5 g6 g7 (gv5 b gb).1.2.2.1 hn
        have F5 := fr_trans F4 o2.2.2.2
        obtain ⟨t5', S5, t5a, t5b⟩ := SyW_t S3 (SyW_trans Y4 o2)
        have t5c : t5' ≤ t := by have : t5' ≤ t3' := t5b; omega
        have Y5 : SyW σ [] σ5 := SyW_trans a2 (SyW_trans b3 (SyW_trans Y4 o2))
        have Rn := ih (g + 1) (by omega) (by omega) _ _ t4 f1' f2' (by omega) (by omega) kg g6 ct4 (gv5 b gb).1
        have wn := why_none (nm := nm) (con := con) (fam := fam) (f2 := f2') (by omega) (by omega) kg
        -- whether it goes on
        obtain ⟨l6, e6, h6, ei6, eW⟩ : ∃ l6 : Int, (if t5 = t4 then T_sayWhy_126 (T_sayWhyD f1') x (m : Int) l3 (b : Int) t4 0 σ5 else T_sayWhy_126 (T_sayWhyD f1') x (m : Int) l3 (b : Int) t4 1 σ5) = T_sayWhy_126 (T_sayWhyD f1') x (m : Int) l3 (b : Int) t4 l6 σ5 ∧ (l6 = 0 ∨ l6 = 1) ∧ (l6 ≠ 0 → True) ∧ whyB nm con fam ins gv f2' (gto ins gv b (tL v)) = if l6 = 0 then none else some ((whyB nm con fam ins gv f2' (gto ins gv b (tL v))).getD (altB nm con fam (gto ins gv b (tL v)))) := by
          by_cases z : t5 = t4
          · exact ⟨0, by rw [if_pos z], .inl rfl, fun _ => trivial, by rw [if_pos rfl]; exact wn.mpr (o4.mp z)⟩
          · refine ⟨1, by rw [if_neg z], .inr rfl, fun _ => trivial, ?_⟩
            rw [if_neg (by decide)]
            cases q : whyB nm con fam ins gv f2' (gto ins gv b (tL v)) with
            | none => exact absurd (o4.mpr (wn.mp q)) z
            | some a => rfl
        have go : T_sayWhy_78 (T_sayWhyD f1') x (m : Int) l3 (b : Int) σ3 = T_sayWhy_126 (T_sayWhyD f1') x (m : Int) l3 (b : Int) t4 l6 σ5 := by
          unfold T_sayWhy_78
          rw [if_pos (show (b : Int) ≠ -1 by omega), if_pos (by omega), show ((m : Int)).toNat = m by omega, g1, Option.bind_some]
          show T_sayWhy_102 (T_sayWhyD f1') x (m : Int) l3 (b : Int) t4 σ4 = _
          unfold T_sayWhy_102
          rw [if_neg (show ¬ (b : Int) = -1 by omega), o1, Option.bind_some]
          exact e6
        show ∃ σ', T_sayWhy_78 (T_sayWhyD f1') x (m : Int) l3 (b : Int) σ3 = some σ' ∧ _
        rw [go]
        have ew2 : thnB (thnB (if tyE v T = true then none else some (wpB nm con fam (whyB nm con fam ins gv f2') T)) (some (goB nm con fam b v))) (whyB nm con fam ins gv f2' (gto ins gv b (tL v))) = some w0 := ew'
        rw [whF_thn (.inr (fun z => (by cases z))) (fun _ z => (by cases z)), eW] at ew2
        have ew3 := Option.some.inj ew2
        by_cases ce : tyE v T = true
        · rw [if_pos ce] at ew3 e3
          subst e3
          rw [t_126q h6]
          obtain ⟨σ', k1, k2⟩ := t_159q (l1 := x) (by omega) F5 S5 h6 (fun _ => Rn) hb tv.1 tv.2 hl qtl.1 qtl.2.1 qtl.2.2 (by rw [ew3]; omega)
          exact ⟨σ', k1, by rw [← ew3]; exact SyW_trans Y5 k2⟩
        · rw [if_neg ce, wpB_0 hT] at ew3
          rw [if_neg ce] at e3
          subst e3
          rw [t_126b h6]
          obtain ⟨σ', k1, k2⟩ := t_159b (by omega) hW F5 S5 h6 (fun _ => Rn) hb tv.1 tv.2 hl qtl.1 qtl.2.1 qtl.2.2 (by rw [ew3]; omega)
          exact ⟨σ', k1, by rw [← ew3]; exact SyW_trans Y5 k2⟩
    by_cases z : ((m : Nat) : Int) = x
    · rw [if_pos z]
      exact fin 0 (by rw [if_pos (tyE_iff.mpr (b5.mp z))])
    · rw [if_neg z]
      exact fin 1 (by rw [if_neg (fun y => z (b5.mpr (tyE_iff.mp y)))])
end LWD2
section LWO
variable {ab : List (Option Nat)} {ins : List INs} {gv : List GVs} {B n : Nat} {σ0 : tS} {nm con fam : Nat → List Int}
/-- a type that is worked out, and all is there -/
def kn1 (σ : tS) (n : Nat) (ins : List INs) (gv : List GVs) (T u : Ty) : Prop := knT ins gv (QN σ n) 130 T u
/-- that two types are one can be told -/
def kn2 (σ : tS) (n : Nat) (ins : List INs) (gv : List GVs) (nm con fam : Nat → List Int) (T U : Ty) : Prop := (T ≠ .leaf ∧ U ≠ .leaf) ∧ (GTy σ ins nm con fam T ∧ GTy σ ins nm con fam U) ∧ (T = U → tdp T < 70) ∧ (T ≠ U → ∃ w, kn1 σ n ins gv T w ∧ (U ≠ w → kn1 σ n ins gv U w))
/-- TWO TYPES ARE ONE: it is told why -/
theorem t_sayOne (I : InO σ0 nm con fam ins gv B) (K0 : KW σ0 n ab ins gv) (hn : n + B < 126000) {T U : Ty} {x y : Int} (k2 : kn2 σ0 n ins gv nm con fam T U) (cx : tyT σ0 n T x) (cy : tyT σ0 n U y) : RW σ0 (fun _ σ => T_sayOne x y σ) 0 (oneB nm con fam ins gv T U) := by
  obtain ⟨⟨hT, hU⟩, ⟨gT, gU⟩, hd, hk⟩ := k2
  intro σ t F S ht
  show ∃ σ', T_sayOne x y σ = some σ' ∧ _
  have n126 : n ≤ 126000 := by omega
  unfold T_sayOne
  by_cases c : gs σ 904 ≤ gs σ 908
  rotate_left
  · rw [if_neg c]
    exact ⟨σ, rfl, SyW_skip c⟩
  rw [if_pos c]
  unfold oneB at ht ⊢
  by_cases e : T = U
  · rw [if_pos (tyE_iff.mpr e)] at ht ⊢
    have exy : x = y := by rw [← e] at cy; exact tyT_inj K0.1.1 cx cy
    rw [if_neg (fun z => z exy)]
    obtain ⟨σ2, b1, b2⟩ := t_sayAlike n126 (tyT_W F cx) hT (hd e) gT.1 (tOn_W F gT.2.2.2) S ht
    exact ⟨σ2, by rw [b1, Option.bind_some], SyW_of b2⟩
  · rw [if_neg (fun z => e (tyE_iff.mp z))] at ht ⊢
    have exy : x ≠ y := fun z => e (by rw [← z] at cy; exact tyT_fun cx cy)
    rw [if_pos exy]
    obtain ⟨w, kT, kU⟩ := hk e
    obtain ⟨t', σ1, a1, a2, a3, a4, a5⟩ := t_outW I.1.1 I.1.2.1 I.1.2.2 (KW_W F K0) (Nat.le_refl _) kT (fun X hX => ⟨_, tyT_W F hX.choose_spec⟩) (tyT_W F cx) hT gT.2.1 gT.2.2.1 hn
    have F1 := fr_trans F a2.2.2.2
    obtain ⟨t1, S1, t1a, t1b⟩ := SyW_t S a2
    have t1b' : t1 ≤ t := t1b
    have wT := why_none (nm := nm) (con := con) (fam := fam) (f2 := 130) (Nat.le_refl _) (Nat.le_refl _) kT
    have RT : RW σ0 T_sayWhy x ((whyB nm con fam ins gv 130 T).getD (altB nm con fam T)) := t_sayWhyD I K0 hn 130 (Nat.le_refl _) T w x 130 130 (Nat.le_refl _) (Nat.le_refl _) kT hT cx gT
    have yw : y = t' ↔ w = U := ⟨fun z => tyT_fun a3 (by rw [← z]; exact tyT_W F1 cy), fun z => tyT_inj (KW_W F1 K0).1.1 (tyT_W F1 cy) (by rw [← z]; exact a3)⟩
    rw [a1, Option.bind_some]
    show ∃ σ', (if y ≠ t' then (if x ≠ t' then _ else _) else _) = some σ' ∧ _
    by_cases eU : w = U
    · have whU : whyB nm con fam ins gv 130 U = none := by rw [← eU]; exact why_nf (Nat.le_refl _) kT
      rw [if_neg (fun z => z (yw.mpr eU))]
      cases qT : whyB nm con fam ins gv 130 T with
      | none => exact absurd ((wT.mp qT).symm.trans eU) e
      | some a =>
        rw [qT, whU] at ht
        rw [qT] at RT
        rw [whU]
        have ht' : t + a.length < 1000000000 := ht
        show ∃ σ', (T_sayWhy x σ1).bind _ = some σ' ∧ SyW σ a σ'
        obtain ⟨σ2, b1, b2⟩ := RT σ1 t1 F1 S1 (by show t1 + a.length < 1000000000; omega)
        exact ⟨σ2, by rw [b1, Option.bind_some], by have zz := SyW_trans a2 b2; exact zz⟩
    · rw [if_pos (fun z => eU (yw.mp z))]
      have kU := kU (fun z => eU z.symm)
      have wU := why_none (nm := nm) (con := con) (fam := fam) (f2 := 130) (Nat.le_refl _) (Nat.le_refl _) kU
      have RU : RW σ0 T_sayWhy y ((whyB nm con fam ins gv 130 U).getD (altB nm con fam U)) := t_sayWhyD I K0 hn 130 (Nat.le_refl _) U w y 130 130 (Nat.le_refl _) (Nat.le_refl _) kU hU cy gU
      cases qU : whyB nm con fam ins gv 130 U with
      | none => exact absurd (wU.mp qU) eU
      | some b =>
      rw [qU] at ht RU
      by_cases eT : w = T
      · have whT := wT.mpr eT
        rw [whT] at ht ⊢
        have ht' : t + (126 :: b).length < 1000000000 := ht
        rw [List.length_cons] at ht'
        rw [if_neg (fun z => z (a4.mpr eT).symm)]
        show ∃ σ', (T_say 126 σ1).bind _ = some σ' ∧ SyW σ ([126] ++ b) σ'
        obtain ⟨p1, p2, p3⟩ := sw_b S1 (by omega) 126
        rw [p1, Option.bind_some]
        obtain ⟨σ2, b1, b2⟩ := RU _ _ (fr_trans F1 p2.2.2.2) p3 (by show t1 + 1 + b.length < 1000000000; omega)
        exact ⟨σ2, by rw [b1, Option.bind_some], by have zz := SyW_trans a2 (SyW_trans p2 b2); exact zz⟩
      · rw [if_pos (fun z => eT (a4.mp z.symm))]
        cases qT : whyB nm con fam ins gv 130 T with
        | none => exact absurd (wT.mp qT) eT
        | some a =>
        rw [qT] at ht RT
        have ht' : t + (40 :: a ++ [59] ++ 126 :: b ++ [41]).length < 1000000000 := ht
        simp only [List.length_append, List.length_cons, List.length_nil] at ht'
        show ∃ σ', (T_say 40 σ1).bind _ = some σ' ∧ SyW σ (40 :: a ++ [59] ++ 126 :: b ++ [41]) σ'
        obtain ⟨p1, p2, p3⟩ := sw_b S1 (by omega) 40
        rw [p1, Option.bind_some]
        have F2 := fr_trans F1 p2.2.2.2
        obtain ⟨σ2, b1, b2⟩ := RT _ _ F2 p3 (by show t1 + 1 + a.length < 1000000000; omega)
        obtain ⟨t2, S2, t2a, t2b⟩ := SyW_t p3 b2
        have t2b' : t2 ≤ t1 + 1 + a.length := t2b
        rw [b1, Option.bind_some]
        have F3 := fr_trans F2 b2.2.2.2
        obtain ⟨c1, c2, c3⟩ := sw_b S2 (by omega) 59
        rw [c1, Option.bind_some]
        obtain ⟨d1, d2, d3⟩ := sw_b c3 (by omega) 126
        rw [d1, Option.bind_some]
        obtain ⟨σ4, f1, f2⟩ := RU _ _ (fr_trans F3 (fr_trans c2.2.2.2 d2.2.2.2)) d3 (by show t2 + 1 + 1 + b.length < 1000000000; omega)
        obtain ⟨t4, S4, t4a, t4b⟩ := SyW_t d3 f2
        have t4b' : t4 ≤ t2 + 1 + 1 + b.length := t4b
        rw [f1, Option.bind_some]
        obtain ⟨g1, g2, g3⟩ := sw_b S4 (by omega) 41
        refine ⟨_, by rw [g1, Option.bind_some], ?_⟩
        rw [show 40 :: a ++ [59] ++ 126 :: b ++ [41] = [] ++ [40] ++ a ++ [59] ++ [126] ++ b ++ [41] by simp]
        exact SyW_trans (SyW_trans (SyW_trans (SyW_trans (SyW_trans (SyW_trans a2 p2) b2) c2) d2) f2) g2
end LWO
