set_option maxRecDepth 100000
/-! WHAT STANDS, in the component: all greats, then names -/
theorem tokn_pos {S : List Int} {j : Nat} (h : tokk S j ≠ 0) : 0 < tokn S j := by
  unfold tokk tK at h
  unfold tokn tK
  cases e : (S.map u8).drop (tq (S.map u8) (tokp (S.map u8) j)) with
  | nil => rw [e] at h; exact absurd rfl h
  | cons c r => have := (tk_facts c r).1; omega
theorem tokq_lt {S : List Int} {i j : Nat} (h : tokk S i ≠ 0) (lt : i < j) : tokq S i < tokq S j := by
  have a := tokq_step S i
  have b := tokq_mono S (i := i + 1) (j := j) (by omega)
  have := tokn_pos h
  omega
/-- the flags of all classes -/
def flG (S : List Int) (h : om_H) : List dcl → List PD → PS → Prop
  | q :: qs, p :: ps, s => (p.1 = 5 → flC h q.2.1 (kEn S s p)) ∧ flG S h qs ps (pst S s p)
  | _, _, _ => True
section LNA
variable {G : om_G} {A pr : Nat} {S : List Int} {h h' hr : om_H} {c k w : Nat} {L : List Int} {p : PD} {nb : Int} {Lf LT : Nat → List Nat} {s : PS} {q : dcl} {qs : List dcl} {ps : List PD} {Tg Tn : List (List Int)} {a0 amid alo ahi : Nat}
theorem prC_le : ∀ {qs : List dcl} {ps : List PD} {Lf : Nat → List Nat} {alo : Nat}, prC A S h qs ps Lf alo ahi → alo ≤ ahi
  | [], [], _, _, H => H
  | _ :: _, _ :: _, _, _, ⟨a0, amid, h1, _, _, h4⟩ => by have := prC_le h4; omega
  | [], _ :: _, _, _, H => H.elim
  | _ :: _, [], _, _, H => H.elim
theorem dcl_in {a0 amid : Nat} (D : (p.1 = 5 ∧ clsC A S h a0 amid q.2.1 p ((Lf 82).length : Int)) ∨ (p.1 = 6 ∧ insC S h a0 amid q.2.1 p ((Lf 86).length : Int)) ∨ (p.1 = 2 ∧ funC A S h a0 amid q.2.1 p ((Lf 90).length : Int))) : a0 ≤ q.2.1 ∧ q.2.1 < amid := by
  rcases D with ⟨_, D⟩ | ⟨_, D⟩ | ⟨_, D⟩ <;> exact D.1
theorem g_loop (B : CBs A S hr pr LT Tg Tn) (hh : ahi ≤ hz hr) : ∀ (qs : List dcl) (ps : List PD) (Lf : Nat → List Nat) (alo : Nat) (s : PS) (h : om_H), prC A S hr qs ps Lf alo ahi → LSt hr Lf s → (∀ f, LT f = prgL hr qs Lf f) → Tg = (ps.foldl (pst S) s).2.2.2.1 → hF FD hr h → (∀ a, alo ≤ a → fI h 1223 a = fI hr 1223 a) →
    ∃ h', om_loop (C_1_stands_2s G pr) ((((Lf 94).length : Nat) : Int), h) = some h' ∧ hF GD h h' ∧ (∀ f a, a < alo → fI h' f a = fI h f a) ∧ (∀ f a, kd hr a ≠ 18 → fI h' f a = fI h f a) ∧ flG S h' qs ps s
  | [], [], Lf, alo, s, h, P, _, eL, eT, F, _ => by
    refine ⟨h, om_loop_out ?_, hF_refl, fun _ _ _ => rfl, fun _ _ _ => rfl, trivial⟩
    have e : LT 94 = Lf 94 := eL 94
    unfold C_1_stands_2s
    simp only
    rw [gd_pos (CB_kd B F (by simp)), CB_size B F (by simp), Option.bind_some, if_pos (by rw [e]; exact Int.le_refl _)]
  | q :: qs, p :: ps, Lf, alo, s, h, ⟨a0, amid, r1, r2, D, P⟩, L, eL, eT, F, f0 => by
    have am := prC_le P
    have L' := LS_step B.1.1 B.1.2 (by omega) r2 D L
    have di := dcl_in D
    obtain ⟨T1, t1⟩ := prgL_pre (h := hr) 94 qs (dclLf hr Lf q)
    obtain ⟨T2, t2⟩ := prgL_pre (h := hr) 102 qs (dclLf hr Lf q)
    obtain ⟨T3, U3, t3, u3⟩ := pss_pre (S := S) ps (pst S s p)
    have eT' : Tg = (ps.foldl (pst S) (pst S s p)).2.2.2.1 := eT
    have e94 : LT 94 = dclLf hr Lf q 94 ++ T1 := (eL 94).trans t1
    have e102 : LT 102 = dclLf hr Lf q 102 ++ T2 := (eL 102).trans t2
    by_cases p5 : p.1 = 5
    · have C : clsC A S hr a0 amid q.2.1 p ((Lf 82).length : Int) := by
        rcases D with ⟨_, D⟩ | ⟨d, D⟩ | ⟨d, D⟩
        · exact D
        · omega
        · omega
      have e : dclLf hr Lf q = clsLf Lf hr q.2.1 := by unfold dclLf; rw [if_pos (by omega)]
      rw [e] at e94 e102
      have t5 : (pst S s p).2.2.2.1 = s.2.2.2.1 ++ [tokw S (p.2.1 + 1)] ++ oW S p.2.2.2.1 := by rw [pst_5 p5]
      rw [t5] at t3
      obtain ⟨h1, g1, g2, g3, g4⟩ := g_cls (G := G) (T1 := T1) (T2 := T2) (T3 := T3) B F (by rw [← L.2.2.1.1]; exact C) L (by rw [e94]; exact List.append_assoc _ _ _) (by rw [e102]; exact List.append_assoc _ _ _) (by rw [eT', t3]; simp [List.append_assoc]) (by rw [f0 _ (by omega)]; exact C.2.2.2.2.2.2.2.1.2.1) (fun f hf => by
        have t := tokq_lt (S := S) (i := p.2.1 + 1) (j := f) (by rw [C.2.2.2.2.2.2.2.2.1]; decide) (by have := C.2.2.2.2.2.2.2.2.2.1 f hf; omega)
        omega)
      obtain ⟨h2, i1, i2, i3, i5, i4⟩ := g_loop B hh qs ps (dclLf hr Lf q) amid (pst S s p) h1 P L' (fun f => eL f) eT (hF_trans F (hF_mono g2 (by decide))) (fun a ha => by rw [g3 1223 a (by omega)]; exact f0 a (by omega))
      refine ⟨h2, by rw [g1]; rw [e] at i1; exact i1, hF_trans g2 i2, fun f a ha => by rw [i3 f a (by omega), g3 f a (by omega)], fun f a ha => by rw [i5 f a ha, g3 f a (fun e => ha (by rw [e]; exact C.2.1.1))], fun _ => ?_, i4⟩
      exact ⟨by rw [i3 1219 _ di.2]; exact g4.1, by rw [i3 1223 _ di.2]; exact g4.2⟩
    · have e : dclLf hr Lf q 94 = Lf 94 := by
        rcases D with ⟨d, _⟩ | ⟨d, D⟩ | ⟨d, D⟩
        · exact absurd d p5
        · unfold dclLf; rw [if_neg (by omega), if_pos (by omega)]; rfl
        · unfold dclLf; rw [if_neg (by omega), if_neg (by omega)]; rfl
      obtain ⟨h2, i1, i2, i3, i5, i4⟩ := g_loop B hh qs ps (dclLf hr Lf q) amid (pst S s p) h P L' (fun f => eL f) eT F (fun a ha => f0 a (by omega))
      rw [e] at i1
      exact ⟨h2, i1, i2, fun f a ha => i3 f a (by omega), i5, fun z => absurd z p5, i4⟩
  | [], _ :: _, _, _, _, _, P, _, _, _, _, _ => P.elim
  | _ :: _, [], _, _, _, _, P, _, _, _, _, _ => P.elim
/-- one name: a method's -/
theorem n_171m (B : CBs A S hr pr LT Tg Tn) (F : hF FD hr h) {x : Nat} (e1 : (LT 110)[k]? = some x) (hx : x ≠ 0) (kx : kd hr x = 19) (ko : kd hr (fR hr 1250 x) = 18) (s0 : Int) : C_1_stands_171 G pr (k : Int) s0 h = some (.inl (((k + 1 : Nat) : Int), sI h 1259 x (if s0 ≠ 0 ∧ fI h 1219 (fR hr 1250 x) ≠ 0 ∧ fI hr 1252 x < 4 then 1 else 0))) := by
  have kx' : kd h x = 19 := by rw [(F.2 x).1]; exact kx
  have e50 : fR h 1250 x = fR hr 1250 x := (F.2 x).2.2.1 1250
  have ko' : kd h (fR hr 1250 x) = 18 := by rw [(F.2 _).1]; exact ko
  have kl : k < (LT 110).length := (List.getElem?_eq_some_iff.mp e1).1
  have x4 := (B.2.2.1 110 (by simp)).2.2.2
  have ew : w32 ((k : Int) + 1) = ((k + 1 : Nat) : Int) := by rw [w32_s (by omega) (by omega)]; rfl
  unfold C_1_stands_171
  rw [gd_pos (CB_kd B F (by simp)), CB_get B F (by simp) e1, Option.bind_some, gd_pos (.inr kx'), if_pos hx]
  by_cases z : s0 = 0
  · rw [if_pos z, if_neg (fun q => q.1 z)]
    unfold C_1_stands_261
    rw [gd_pos ⟨.inl rfl, kx'⟩, ew]
  · rw [if_neg z, e50, gd_pos ⟨kx', ko'⟩]
    by_cases y : fI h 1219 (fR hr 1250 x) = 0
    · rw [if_pos y, if_neg (fun q => q.2.1 y)]
      unfold C_1_stands_261
      rw [gd_pos ⟨.inl rfl, kx'⟩, ew]
    · rw [if_neg y, gd_pos kx', (F.2 x).2.1 1252 (by decide)]
      by_cases v : 4 ≤ fI hr 1252 x
      · rw [if_pos v, if_neg (fun q => by have := q.2.2; omega)]
        unfold C_1_stands_261
        rw [gd_pos ⟨.inl rfl, kx'⟩, ew]
      · rw [if_neg v, if_pos ⟨z, y, by omega⟩]
        unfold C_1_stands_261
        rw [gd_pos ⟨.inr rfl, kx'⟩, ew]
/-- a function's -/
theorem n_171f (B : CBs A S hr pr LT Tg Tn) (F : hF FD hr h) {x : Nat} (e0 : (LT 110)[k]? = some 0) (e1 : (LT 106)[k]? = some x) (kx : kd hr x = 33) (s0 : Int) : C_1_stands_171 G pr (k : Int) s0 h = some (.inl (((k + 1 : Nat) : Int), sI h 1539 x (if s0 ≠ 0 ∧ fI hr 1532 x < 24 then 1 else 0))) := by
  have kx' : kd h x = 33 := by rw [(F.2 x).1]; exact kx
  have kl : k < (LT 110).length := (List.getElem?_eq_some_iff.mp e0).1
  have x4 := (B.2.2.1 110 (by simp)).2.2.2
  have ew : w32 ((k : Int) + 1) = ((k + 1 : Nat) : Int) := by rw [w32_s (by omega) (by omega)]; rfl
  unfold C_1_stands_171
  rw [gd_pos (CB_kd B F (by simp)), CB_get B F (by simp) e0, Option.bind_some, gd_pos (.inl rfl), if_neg (fun z => z rfl), gd_pos (CB_kd B F (by simp)), CB_get B F (by simp) e1, Option.bind_some, gd_pos (.inr kx')]
  by_cases z : s0 = 0
  · rw [if_pos z, if_neg (fun q => q.1 z)]
    unfold C_1_stands_227
    rw [gd_pos ⟨.inl rfl, kx'⟩, ew]
  · rw [if_neg z, gd_pos (CB_kd B F (by simp)), Option.bind_some, gd_pos ⟨.inr kx', kx'⟩, (F.2 x).2.1 1532 (by decide)]
    by_cases v : 24 ≤ fI hr 1532 x
    · rw [if_pos v, if_neg (fun q => by have := q.2; omega)]
      unfold C_1_stands_227
      rw [gd_pos ⟨.inl rfl, kx'⟩, ew]
    · rw [if_neg v, if_pos ⟨z, by omega⟩]
      unfold C_1_stands_227
      rw [gd_pos ⟨.inr rfl, kx'⟩, ew]
theorem n_step (B : CBs A S hr pr LT Tg Tn) (F : hF FD hr h) (e2 : (LT 98)[k]? = some w) (e3 : Tn[k]? = some L) : C_1_stands_127s G pr ((k : Int), h) = C_1_stands_171 G pr (k : Int) (if btI L = none ∧ L ∉ Tn.take k then 1 else 0) h := by
  have kl : k < (LT 98).length := (List.getElem?_eq_some_iff.mp e2).1
  have Sn := CB_SCn B F
  obtain ⟨v, v1, v2, v3, v4, v5⟩ := WL_at (G := G) Sn e3
  have ev : v = w := by
    have := CB_get (G := G) B F (f := 98) (by simp) e2
    rw [v5] at this
    exact Option.some.inj this
  rw [ev] at v4 v5
  unfold C_1_stands_127s
  simp only
  rw [gd_pos (CB_kd B F (by simp)), CB_size B F (by simp), Option.bind_some, if_neg (by omega), gd_pos (CB_kd B F (by simp)), v5, Option.bind_some, gd_pos (.inr v4.1), c_builtOf v4, Option.bind_some]
  cases z : btI L with
  | some i => rw [if_pos (show 0 ≤ oI (some i) by show (0 : Int) ≤ (i : Int); omega), if_neg (fun q => by cases q.1)]
  | none =>
    rw [if_neg (show ¬ 0 ≤ oI none by decide), gd_pos (CB_kd B F (f := 98) (by simp)).1, c_isTold Sn e3, Option.bind_some]
    by_cases y : L ∈ Tn.take k
    · rw [if_pos y, if_pos (by decide), if_neg (fun q => q.2 y)]
    · rw [if_neg y, if_neg (by decide), if_pos ⟨rfl, y⟩]
end LNA
