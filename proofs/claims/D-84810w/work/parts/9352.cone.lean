set_option maxRecDepth 100000
/-! WHETHER TWO TYPES ARE ONE: in the component -/
/-- a finder between askings -/
def FnQ (G : om_G) (h : om_H) (N : List (List Int)) (cl : Nat → Nat) (tb l0 sc : Nat) (us fs : List Nat) (rest : List (Nat × List Nat)) (Sl : Nat → Prop) (io : Nat → Nat) (ab : List (Option Nat)) (ins : List INs) (gv : List GVs) (tot : Nat) : Prop := TB G h N cl tb us fs rest ∧ ((kd h l0 = 9 ∧ l0 < hz h ∧ fR h 214 l0 = tb) ∧ fR h 210 l0 = sc) ∧ (fR h 122 tb ≠ 0 ∧ ¬ Sl (fR h 122 tb) ∧ (∀ a, Sl a → a < hz h ∧ kd h a = 42) ∧ ∀ c, cl c < hz h) ∧ PGC h N cl (UU us rest) Sl io ab ins ∧ GVC h N cl (UU us rest) Sl sc gv ∧ fI h 227 l0 ≠ 0 ∧ fI h 128 tb = (tot : Int)
/-- what came of a question that began with tot -/
def AskC (G : om_G) (N : List (List Int)) (cl : Nat → Nat) (tb l0 sc : Nat) (rest : List (Nat × List Nat)) (Sl : Nat → Prop) (io : Nat → Nat) (ab : List (Option Nat)) (ins : List INs) (gv : List GVs) (B : Nat) (h : om_H) (us fs : List Nat) (tot : Nat) (ts : List Ty) (z : Option (Bool × WS)) (pl : Int) (v : Nat ⊕ Int) (h' : om_H) (us' fs' : List Nat) : Prop := (z = none → ∃ a, v = .inl a ∧ TB G h' N cl tb us' fs' rest ∧ flt h' a 7 pl ∧ KF N cl tb l0 rest h us fs h' us' fs' (81 * 60 + B) 1 8) ∧ ∀ b s', z = some (b, s') → v = .inr (if b = true then 1 else 0) ∧ FnQ G h' N cl tb l0 sc us' fs' rest Sl io ab ins gv s'.2.1 ∧ tot ≤ s'.2.1 ∧ s'.2.1 ≤ tot + 60 ∧ s'.2.1 ≤ 300 ∧ KF N cl tb l0 rest h us fs h' us' fs' (81 * (s'.2.1 - tot)) 0 0 ∧ ∃ D, s'.2.2 = ts ++ D ∧ ∀ X ∈ D, ∃ y, tyC h' N cl (UU us' rest) X y
section LCN
variable {G : om_G} {N : List (List Int)} {cl : Nat → Nat} {tb l0 sc : Nat} {rest : List (Nat × List Nat)} {Sl : Nat → Prop} {io : Nat → Nat} {ab : List (Option Nat)} {ins : List INs} {gv : List GVs} {B bg tot : Nat} {h h' : om_H} {us fs us' fs' : List Nat} {q z u : Nat}
theorem FnQ_C {s : WS} (F : FnC G h N cl tb l0 sc us fs rest Sl io ab ins gv 2 bg s) : FnQ G h N cl tb l0 sc us fs rest Sl io ab ins gv s.2.1 := ⟨F.1, F.2.1, F.2.2.1, F.2.2.2.1, F.2.2.2.2.1, (F.2.2.2.2.2.2.1 rfl).1, (F.2.2.2.2.2.2.1 rfl).2.2⟩
theorem c_begin8 (F : FnQ G h N cl tb l0 sc us fs rest Sl io ab ins gv tot) (ts : List Ty) : ∃ h', C_8_begin G l0 h = some h' ∧ KF N cl tb l0 rest h us fs h' us fs 0 0 0 ∧ FnC G h' N cl tb l0 sc us fs rest Sl io ab ins gv 2 0 (0, tot, ts) := by
  obtain ⟨T, ⟨⟨f1, f2, f3⟩, f4⟩, g, P, V, k1, k2⟩ := id F
  have t3 := (TB_3 T).1
  have nt : tb ≠ l0 := fun z => by rw [z, f1] at t3; omega
  have K : KF N cl tb l0 rest h us fs (sI (sI h 216 l0 0) 220 l0 0) us fs 0 0 0 := KF_trans (KF_sI f1 t3 (.inl rfl)) (KF_sI (h := sI h 216 l0 0) f1 t3 (.inr rfl))
  have T2 : TB G (sI (sI h 216 l0 0) 220 l0 0) N cl tb us fs rest := TB_sI (by decide) (TB_sI (by decide) T)
  have X : hS Sl h (sI (sI h 216 l0 0) 220 l0 0) := hS_KF T f1 K g.2.1 (fun a ha => (g.2.2.1 a ha).2)
  have kp : ∀ T a, tyC h N cl (UU us rest) T a → tyC (sI (sI h 216 l0 0) 220 l0 0) N cl (UU us rest) T a := fun T a c => K.2.2.2.2.2.2.1 T a c
  refine ⟨sI (sI h 216 l0 0) 220 l0 0, ?_, K, T2, ⟨⟨f1, f2, f3⟩, f4⟩, g, PGC_hS X kp P (fun c hc => ?_), GVC_hS X kp V, fI_eq, fun _ => ⟨?_, ?_, ?_⟩, fun z => by omega⟩
  · unfold C_8_begin
    rw [gd_pos f1]
  · obtain ⟨a1, a2, a3, a4⟩ := hc
    exact ⟨a1, a2, a3, by rw [fI_ne (by decide), fI_ne (by decide)] at a4; exact a4⟩
  · rw [fI_ne (by decide), fI_ne (by decide)]; exact k1
  · rw [fI_ne (by decide), fI_eq]; rfl
  · rw [fI_na nt, fI_na nt]; exact k2
/-- a type is worked out, in an asking -/
theorem c_worked2 (nd : ndN N) (hB : B ≤ 2700) (hI : insF ins B) (hG : gvF' ins gv) (hGN : gvN gv) {s : WS} {T : Ty} {x : Nat} {z : Option (Ty × WS)} (pl : Int) (e : wk 2 ins gv 130 false 0 s T = some z) (F : FnC G h N cl tb l0 sc us fs rest Sl io ab ins gv 2 0 s) (cx : tyC h N cl (UU us rest) T x) (hT : T ≠ .leaf) (wf : wfT T) (ok : okF ins T) (hZ : tsz T ≤ 1000000) (h60 : s.1 ≤ 60) (h300 : s.2.1 ≤ 300) (R : tl us fs + 81 * (60 - s.1) + B ≤ 149000) : ∃ v h' us' fs', C_8_worked G l0 x pl h = some (v, h') ∧ CkO G N cl tb l0 rest 2 B 80 0 h us fs s z pl v h' us' fs' :=
  (c_wk (G := G) (cl := cl) (tb := tb) (l0 := l0) (sc := sc) (rest := rest) (Sl := Sl) (io := io) (ab := ab) nd (.inr rfl) hB hI hG hGN 130 0 (fun _ => by decide) (by decide)).1 130 (Nat.le_refl _) s T z h us fs x pl e F cx hT wf ok hZ h60 h300 ⟨fun _ => R, fun h => by omega⟩
/-- the same, nothing being counted: all types are there -/
theorem c_worked0 (nd : ndN N) (hB : B ≤ 2700) (hI : insF ins B) (hG : gvF' ins gv) (hGN : gvN gv) {s : WS} {T u : Ty} {x f : Nat} {D : List Ty} (hf : f ≤ 130) (pl : Int) (e : wk 0 ins gv f false 0 s T = some (some (u, s.1, s.2.1, s.2.2 ++ D))) (F : FnC G h N cl tb l0 sc us fs rest Sl io ab ins gv 0 0 s) (cx : tyC h N cl (UU us rest) T x) (hT : T ≠ .leaf) (wf : wfT T) (ok : okF ins T) (hZ : tsz T ≤ 1000000) (h60 : s.1 ≤ 60) (h300 : s.2.1 ≤ 300) (R : tl us fs + B ≤ 149000) (hD : ∀ X ∈ D, ∃ y, tyC h N cl (UU us rest) X y) : ∃ y h', C_8_worked G l0 x pl h = some (.inr y, h') ∧ tyC h' N cl (UU us rest) u y ∧ KF N cl tb l0 rest h us fs h' us fs 0 0 0 ∧ FnC G h' N cl tb l0 sc us fs rest Sl io ab ins gv 0 0 s := by
  obtain ⟨v, h', us', fs', g1, _, g3⟩ := (c_wk (G := G) (cl := cl) (tb := tb) (l0 := l0) (sc := sc) (rest := rest) (Sl := Sl) (io := io) (ab := ab) nd (.inl rfl) hB hI hG hGN f 0 (fun _ => by decide) (by omega)).1 130 hf s T _ h us fs x pl e F cx hT wf ok hZ h60 h300 ⟨fun h => by omega, fun _ => ⟨R, u, D, rfl, hD⟩⟩
  obtain ⟨y, ey, S⟩ := g3 u _ rfl
  obtain ⟨w1, w2, w3⟩ := S.2.2.2.2.2 rfl
  subst ey w1 w2
  exact ⟨y, h', g1, S.2.1, w3, FnC_next F w3 S.1 S.2.2.1 (fun z => by omega)⟩
/-- TWO TYPES ARE ONE -/
theorem c_areOne (nd : ndN N) (hB : B ≤ 2700) (hI : insF ins B) (hG : gvF' ins gv) (hGN : gvN gv) {T U : Ty} {x y : Nat} {ts : List Ty} {z : Option (Bool × WS)} (pl : Int) (e : oneP ins gv (0, tot, ts) T U = some z) (F : FnQ G h N cl tb l0 sc us fs rest Sl io ab ins gv tot) (cx : tyC h N cl (UU us rest) T x) (cy : tyC h N cl (UU us rest) U y) (hT : T ≠ .leaf) (hU : U ≠ .leaf) (wfT' : wfT T) (wfU : wfT U) (okT : okF ins T) (okU : okF ins U) (hzT : tsz T ≤ 1000000) (hzU : tsz U ≤ 1000000) (h300 : tot ≤ 300) (R : tl us fs + 81 * 60 + B ≤ 149000) : ∃ v h' us' fs', C_8_areOne G l0 x y pl h = some (v, h') ∧ AskC G N cl tb l0 sc rest Sl io ab ins gv B h us fs tot ts z pl v h' us' fs' := by
  unfold oneP at e
  unfold C_8_areOne
  by_cases hh : T = U
  · rw [if_pos (tyE_iff.mpr hh)] at e
    subst hh
    have ez : z = some (true, (0, tot, ts)) := (Option.some.inj e).symm
    rw [if_neg (fun q => q (F.1.2.2.1 _ _ _ cx cy))]
    refine ⟨.inr 1, h, us, fs, rfl, fun q => (by rw [ez] at q; cases q), fun b s' q => ?_⟩
    rw [ez] at q
    injection Option.some.inj q with q1 q2
    subst q1 q2
    exact ⟨rfl, F, Nat.le_refl _, Nat.le_add_right _ _, h300, KF_refl, [], by rw [List.append_nil], fun X hX => absurd hX List.not_mem_nil⟩
  · rw [if_neg (fun q => hh (tyE_iff.mp q))] at e
    rw [if_pos (fun q => hh (tyC_fun nd cx (by rw [q]; exact cy))), gd_pos F.2.1.1.1]
    obtain ⟨h0, b1, K0, F0⟩ := c_begin8 F ts
    rw [b1, Option.bind_some]
    have k90 := FnC_kd F0
    rw [gd_pos k90.1]
    cases q1 : wk 2 ins gv 130 false 0 (0, tot, ts) T with
    | none => rw [q1] at e; cases e
    | some a =>
    rw [q1, Option.bind_some] at e
    have cx0 := K0.2.2.2.2.2.2.1 _ _ cx
    have cy0 := K0.2.2.2.2.2.2.1 _ _ cy
    obtain ⟨v1, h1, us1, fs1, g1, o1, o2⟩ := c_worked2 nd hB hI hG hGN pl q1 F0 cx0 hT wfT' okT hzT (Nat.zero_le _) h300 R
    rw [g1]
    cases a with
    | none =>
      have ez : z = none := (Option.some.inj e).symm
      obtain ⟨a, ea, c1, c2, c3, c4⟩ := o1 rfl
      subst ea
      exact ⟨.inl a, h1, us1, fs1, rfl, fun _ => ⟨a, rfl, c1, c3, KF_le (KF_trans K0 c4) (by show 0 + (81 * (60 - 0) + B) ≤ _; omega) (by omega) (by omega)⟩, fun b s' q => by rw [ez] at q; cases q⟩
    | some p =>
    obtain ⟨uu, s1⟩ := p
    obtain ⟨y1, ey1, S1⟩ := o2 uu s1 rfl
    subst ey1
    rw [xc_v]
    have F1 := CkS_F (.inr rfl) F0 S1
    have k91 := FnC_kd F1
    obtain ⟨D1, d1, x1, _⟩ := wk_st q1
    have s1e : s1.1 = 0 + d1 := by rw [x1.1]
    have s1t : s1.2.1 = tot + d1 := by rw [x1.1]
    have s60 : s1.1 ≤ 60 := by rw [s1e]; exact x1.2.2 rfl (Nat.zero_le _)
    have y5 : s1.2.2 = ts ++ D1 := by rw [x1.1]
    have K1 : KF N cl tb l0 rest h0 us fs h1 us1 fs1 (80 * (s1.1 - 0)) 0 0 := (S1.2.2.2.1 rfl).2.2
    have s300 := (S1.2.2.2.1 rfl).2.1
    have lens := K1.2.2.2.1
    simp only at e
    rw [gd_pos k91.1]
    cases q2 : wk 2 ins gv 130 false 0 s1 U with
    | none => rw [q2] at e; cases e
    | some b =>
    rw [q2, Option.bind_some] at e
    obtain ⟨v2, h2, us2, fs2, g2, r1, r2⟩ := c_worked2 nd hB hI hG hGN pl q2 F1 (K1.2.2.2.2.2.2.1 _ _ cy0) hU wfU okU hzU s60 s300 (by omega)
    rw [g2]
    have K01 := KF_trans K0 K1
    cases b with
    | none =>
      have ez : z = none := (Option.some.inj e).symm
      obtain ⟨a, ea, c1, c2, c3, c4⟩ := r1 rfl
      subst ea
      exact ⟨.inl a, h2, us2, fs2, rfl, fun _ => ⟨a, rfl, c1, c3, KF_le (KF_trans K01 c4) (by omega) (by omega) (by omega)⟩, fun b s' q => by rw [ez] at q; cases q⟩
    | some p2 =>
    obtain ⟨vv, s2⟩ := p2
    have ez : z = some (tyE uu vv, s2) := (Option.some.inj e).symm
    obtain ⟨y2, ey2, S2⟩ := r2 vv s2 rfl
    subst ey2
    rw [xc_v]
    have F2 := CkS_F (.inr rfl) F1 S2
    obtain ⟨D2, d2, x2, _⟩ := wk_st q2
    have s2e : s2.1 = s1.1 + d2 := by rw [x2.1]
    have s2t : s2.2.1 = s1.2.1 + d2 := by rw [x2.1]
    have s60' : s2.1 ≤ 60 := by rw [s2e]; exact x2.2.2 rfl s60
    have y6 : s2.2.2 = s1.2.2 ++ D2 := by rw [x2.1]
    have K2 : KF N cl tb l0 rest h1 us1 fs1 h2 us2 fs2 (80 * (s2.1 - s1.1)) 0 0 := (S2.2.2.2.1 rfl).2.2
    have c1 : tyC h2 N cl (UU us2 rest) uu y1 := K2.2.2.2.2.2.2.1 _ _ S1.2.1
    have eqv : (if y1 ≠ y2 then C_8_areOne_35 G 0 h2 else C_8_areOne_35 G 1 h2) = some (.inr (if tyE uu vv = true then 1 else 0), h2) := by
      unfold C_8_areOne_35
      by_cases qe : uu = vv
      · rw [if_pos (tyE_iff.mpr qe), if_neg (fun z => z (S2.1.2.2.1 _ _ _ c1 (by rw [qe]; exact S2.2.1))), gd_pos (.inr rfl)]
      · rw [if_neg (fun z => qe (tyE_iff.mp z)), if_pos (fun z => qe (tyC_fun nd c1 (by rw [z]; exact S2.2.1))), gd_pos (.inl rfl)]
    refine ⟨_, h2, us2, fs2, eqv, fun q => (by rw [ez] at q; cases q), fun b s' q => ?_⟩
    rw [ez] at q
    injection Option.some.inj q with z1 z2
    subst z1 z2
    refine ⟨rfl, FnQ_C F2, by omega, by omega, (S2.2.2.2.1 rfl).2.1, KF_le (KF_trans K01 K2) ?_ (by omega) (by omega), D1 ++ D2, by rw [y6, y5, List.append_assoc], fun X hX => ?_⟩
    · omega
    · rcases List.mem_append.mp hX with h | h
      · obtain ⟨tX, hx⟩ := S1.2.2.2.2.1 D1 y5 X h
        exact ⟨tX, K2.2.2.2.2.2.2.1 _ _ hx⟩
      · exact S2.2.2.2.2.1 D2 y6 X h
end LCN
