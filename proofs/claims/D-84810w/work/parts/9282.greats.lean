set_option maxRecDepth 100000
/-! WHAT STANDS, in the component: greats -/
abbrev GD : List Nat := [1219, 1223]
abbrev ND : List Nat := [1259, 1539]
/-- what a class's row says -/
def kEn (S : List Int) (s : PS) (p : PD) : Option (List Int) × Option (List Int) := if s.1.length < 8 then clsK S s.2.2.2.1 (p.2.1 + 1) p.2.2.2.1 else (none, none)
def mE (S : List Int) (s : PS) (p : PD) : FT := if s.1.length < 8 then mthF S (nwG S s.2.2.2.1 (p.2.1 + 1)) s.2.2.2.2.1 0 p.2.2.2.2 else p.2.2.2.2.map (fun _ => none)
def fE (S : List Int) (s : PS) (p : PD) : Option (List Int) := if nwF S s.2.2.2.2.1 s.2.1.length p.2.1 then some (tokw S p.2.1) else none
/-- the program and its lists at the end of reading -/
def CBs (A : Nat) (S : List Int) (hr : om_H) (pr : Nat) (LT : Nat → List Nat) (Tg Tn : List (List Int)) : Prop := (txC hr A S ∧ A < hz hr) ∧ (kd hr pr = 2 ∧ pr < hz hr) ∧ (∀ f ∈ PFs, fR hr f pr < hz hr ∧ kd hr (fR hr f pr) = 42 ∧ ll hr (fR hr f pr) = LT f ∧ (LT f).length ≤ 1300) ∧ WL hr (LT 94) Tg ∧ WL hr (LT 98) Tn
section LGR
variable {G : om_G} {A pr : Nat} {S : List Int} {h h' hr : om_H} {c k w : Nat} {L : List Int} {p : PD} {nb : Int} {Lf LT : Nat → List Nat} {s : PS} {q : dcl} {qs : List dcl} {ps : List PD} {Tg Tn : List (List Int)} {a0 amid : Nat}
theorem FD_w : ∀ f ∈ [1188, 1192], f ∉ FD := by decide
theorem hF_mono {D D' : List Nat} (H : hF D h h') (d : ∀ f ∈ D, f ∈ D') : hF D' h h' := ⟨H.1, fun a => ⟨(H.2 a).1, fun f hf => (H.2 a).2.1 f (fun z => hf (d f z)), (H.2 a).2.2⟩⟩
theorem CB_SCg (B : CBs A S hr pr LT Tg Tn) (F : hF FD hr h) : SCc h (fR h 94 pr) Tg := by
  obtain ⟨b1, b2, b3, b4, b5⟩ := B
  obtain ⟨x1, x2, x3, x4⟩ := b3 94 (by simp)
  rw [(F.2 pr).2.2.1]
  exact hF_SCc F FD_w ⟨x1, x2, by rw [x3]; exact x4, by rw [x3]; exact b4⟩
theorem CB_SCn (B : CBs A S hr pr LT Tg Tn) (F : hF FD hr h) : SCc h (fR h 98 pr) Tn := by
  obtain ⟨b1, b2, b3, b4, b5⟩ := B
  obtain ⟨x1, x2, x3, x4⟩ := b3 98 (by simp)
  rw [(F.2 pr).2.2.1]
  exact hF_SCc F FD_w ⟨x1, x2, by rw [x3]; exact x4, by rw [x3]; exact b5⟩
theorem CB_kd (B : CBs A S hr pr LT Tg Tn) (F : hF FD hr h) {f : Nat} (hf : f ∈ PFs) : kd h pr = 2 ∧ kd h (fR h f pr) = 42 := by
  obtain ⟨b1, b2, b3, b4, b5⟩ := B
  obtain ⟨x1, x2, x3, x4⟩ := b3 f hf
  exact ⟨by rw [(F.2 pr).1]; exact b2.1, by rw [(F.2 pr).2.2.1, (F.2 _).1]; exact x2⟩
theorem CB_get (B : CBs A S hr pr LT Tg Tn) (F : hF FD hr h) {f : Nat} (hf : f ∈ PFs) {x : Nat} (e : (LT f)[k]? = some x) : P_J2_get G (fR h f pr) (k : Int) h = some x := by
  obtain ⟨x1, x2, x3, x4⟩ := B.2.2.1 f hf
  unfold P_J2_get
  rw [gd_pos ⟨(CB_kd B F hf).2, by omega⟩, (F.2 pr).2.2.1, (F.2 _).2.2.2.2.2.2.1, x3, show ((k : Int)).toNat = k by omega, e]
theorem CB_size (B : CBs A S hr pr LT Tg Tn) (F : hF FD hr h) {f : Nat} (hf : f ∈ PFs) : P_J2_size G (fR h f pr) h = some (((LT f).length : Nat) : Int) := by
  obtain ⟨x1, x2, x3, x4⟩ := B.2.2.1 f hf
  unfold P_J2_size
  rw [gd_pos (CB_kd B F hf).2, (F.2 pr).2.2.1, (F.2 _).2.2.2.2.2.2.1, x3]
theorem ifsw {P Q R : Prop} [Decidable P] [Decidable Q] [Decidable R] (i : P ↔ Q) : (if P ∧ R then (1 : Int) else 0) = if Q ∧ R then 1 else 0 := by
  by_cases p : P
  · by_cases r : R
    · rw [if_pos ⟨p, r⟩, if_pos ⟨i.mp p, r⟩]
    · rw [if_neg (fun z => r z.2), if_neg (fun z => r z.2)]
  · rw [if_neg (fun z => p z.1), if_neg (fun z => p (i.mpr z.1))]
/-- one great -/
theorem g_58 (B : CBs A S hr pr LT Tg Tn) (F : hF FD hr h) (e2 : (LT 94)[k]? = some w) (kc : kd hr c = 18) (s0 : Int) : C_1_stands_58 G pr (k : Int) c s0 h = some (.inl (((k + 1 : Nat) : Int), if w = fR hr 1206 c then sI h 1219 c (if s0 ≠ 0 ∧ fI hr 1200 c < 8 then 1 else 0) else sI h 1223 c (if s0 ≠ 0 ∧ fI h 1219 c ≠ 0 then 1 else 0))) := by
  have kc' : kd h c = 18 := by rw [(F.2 c).1]; exact kc
  have kl : k < (LT 94).length := (List.getElem?_eq_some_iff.mp e2).1
  have x4 := (B.2.2.1 94 (by simp)).2.2.2
  have ew : w32 ((k : Int) + 1) = ((k + 1 : Nat) : Int) := by rw [w32_s (by omega) (by omega)]; rfl
  unfold C_1_stands_58
  rw [gd_pos (CB_kd B F (by simp)), CB_get B F (by simp) e2, Option.bind_some, gd_pos kc', (F.2 c).2.2.1 1206]
  by_cases e : w = fR hr 1206 c
  · rw [if_neg (fun z => z e), if_pos e]
    by_cases z : s0 = 0
    · rw [if_pos z, if_neg (fun q => q.1 z)]
      unfold C_1_stands_93
      rw [gd_pos ⟨.inl rfl, kc'⟩, ew]
    · rw [if_neg z, gd_pos kc', (F.2 c).2.1 1200 (by decide)]
      by_cases y : 8 ≤ fI hr 1200 c
      · rw [if_pos y, if_neg (fun q => by have := q.2; omega)]
        unfold C_1_stands_93
        rw [gd_pos ⟨.inl rfl, kc'⟩, ew]
      · rw [if_neg y, if_pos ⟨z, by omega⟩]
        unfold C_1_stands_93
        rw [gd_pos ⟨.inr rfl, kc'⟩, ew]
  · rw [if_pos e, if_neg e]
    by_cases z : s0 = 0
    · rw [if_pos z, if_neg (fun q => q.1 z)]
      unfold C_1_stands_116
      rw [gd_pos ⟨.inl rfl, kc'⟩, ew]
    · rw [if_neg z, gd_pos kc']
      by_cases y : fI h 1219 c = 0
      · rw [if_pos y, if_neg (fun q => q.2 y)]
        unfold C_1_stands_116
        rw [gd_pos ⟨.inl rfl, kc'⟩, ew]
      · rw [if_neg y, if_pos ⟨z, y⟩]
        unfold C_1_stands_116
        rw [gd_pos ⟨.inr rfl, kc'⟩, ew]
theorem g_step (B : CBs A S hr pr LT Tg Tn) (F : hF FD hr h) (e1 : (LT 102)[k]? = some c) (e2 : (LT 94)[k]? = some w) (e3 : Tg[k]? = some L) (kc : kd hr c = 18) : C_1_stands_2s G pr ((k : Int), h) = some (.inl (((k + 1 : Nat) : Int), if w = fR hr 1206 c then sI h 1219 c (if (cnI L = none ∧ L ∉ Tg.take k) ∧ fI hr 1200 c < 8 then 1 else 0) else sI h 1223 c (if (cnI L = none ∧ L ∉ Tg.take k) ∧ fI h 1219 c ≠ 0 then 1 else 0))) := by
  have kc' : kd h c = 18 := by rw [(F.2 c).1]; exact kc
  have kl : k < (LT 94).length := (List.getElem?_eq_some_iff.mp e2).1
  have Sg := CB_SCg B F
  obtain ⟨v, v1, v2, v3, v4, v5⟩ := WL_at (G := G) Sg e3
  have ev : v = w := by
    have := CB_get (G := G) B F (f := 94) (by simp) e2
    rw [v5] at this
    exact Option.some.inj this
  rw [ev] at v4 v5
  unfold C_1_stands_2s
  simp only
  rw [gd_pos (CB_kd B F (by simp)), CB_size B F (by simp), Option.bind_some, if_neg (by omega), gd_pos (CB_kd B F (by simp)), CB_get B F (by simp) e1, Option.bind_some, gd_pos ⟨.inr kc', CB_kd B F (by simp)⟩, v5, Option.bind_some, gd_pos (.inr v4.1), c_isCon v4, Option.bind_some]
  by_cases z : cnI L = none
  · rw [if_pos z, if_neg (by decide), gd_pos (CB_kd B F (f := 94) (by simp)).1, c_isTold Sg e3, Option.bind_some]
    by_cases y : L ∈ Tg.take k
    · have i0 : ((0 : Int) ≠ 0) ↔ (cnI L = none ∧ L ∉ Tg.take k) := ⟨fun q => absurd rfl q, fun q => absurd y q.2⟩
      rw [if_pos y, if_pos (by decide), g_58 B F e2 kc, ifsw (R := fI hr 1200 c < 8) i0, ifsw (R := fI h 1219 c ≠ 0) i0]
    · have i1 : ((1 : Int) ≠ 0) ↔ (cnI L = none ∧ L ∉ Tg.take k) := ⟨fun _ => ⟨z, y⟩, fun _ => by decide⟩
      rw [if_neg y, if_neg (by decide), g_58 B F e2 kc, ifsw (R := fI hr 1200 c < 8) i1, ifsw (R := fI h 1219 c ≠ 0) i1]
  · have i0 : ((0 : Int) ≠ 0) ↔ (cnI L = none ∧ L ∉ Tg.take k) := ⟨fun q => absurd rfl q, fun q => absurd q.1 z⟩
    rw [if_neg z, if_pos (by decide), g_58 B F e2 kc, ifsw (R := fI hr 1200 c < 8) i0, ifsw (R := fI h 1219 c ≠ 0) i0]
/-- the flags of a class -/
def flC (h : om_H) (c : Nat) (k : Option (List Int) × Option (List Int)) : Prop := (fI h 1219 c ≠ 0 ↔ k.1 ≠ none) ∧ (fI h 1223 c ≠ 0 ↔ k.2 ≠ none)
theorem if10 {P : Prop} [Decidable P] : (if P then (1 : Int) else 0) ≠ 0 ↔ P := by
  by_cases q : P
  · rw [if_pos q]; exact ⟨fun _ => q, fun _ => by decide⟩
  · rw [if_neg q]; exact ⟨fun z => absurd rfl z, fun z => absurd z q⟩
theorem at_len {α : Type} {P T : List α} {x : α} : (P ++ x :: T)[P.length]? = some x := by
  rw [List.getElem?_append_right (Nat.le_refl _), Nat.sub_self]
  rfl
theorem take_pre {α : Type} {P T : List α} : (P ++ T).take P.length = P := by
  rw [List.take_append_of_le_length (Nat.le_refl _), List.take_length]
theorem wd_ne {h : om_H} {w v i j : Nat} (a : wd h A S w i) (b : wd h A S v j) (lt : tokq S i ≠ tokq S j) : w ≠ v := fun e => by
  have x := a.2.2.1
  have y := b.2.2.1
  rw [e, y] at x
  omega
set_option maxHeartbeats 1000000 in
theorem g_cls (B : CBs A S hr pr LT Tg Tn) (F : hF FD hr h) (C : clsC A S hr a0 amid c p (s.1.length : Int)) (Ls : LSt hr Lf s) {T1 T2 : List Nat} {T3 : List (List Int)} (e94 : LT 94 = Lf 94 ++ (clsG hr c ++ T1)) (e102 : LT 102 = Lf 102 ++ ((clsG hr c).map (fun _ => c) ++ T2)) (eT : Tg = s.2.2.2.1 ++ ([tokw S (p.2.1 + 1)] ++ oW S p.2.2.2.1 ++ T3)) (f0 : fI h 1223 c = 0) (nq : ∀ f ∈ p.2.2.2.1, tokq S (p.2.1 + 1) ≠ tokq S f) :
    ∃ h', om_loop (C_1_stands_2s G pr) ((((Lf 94).length : Nat) : Int), h) = om_loop (C_1_stands_2s G pr) ((((Lf 94 ++ clsG hr c).length : Nat) : Int), h') ∧ hF GD h h' ∧ (∀ f a, a ≠ c → fI h' f a = fI h f a) ∧ flC h' c (kEn S s p) := by
  obtain ⟨c1, ⟨c2, c2', c2''⟩, c3, c4, c5, c6⟩ := C
  obtain ⟨l1, l2, l3, l4, l5, l6⟩ := Ls
  have len := WL_len l1
  have eT0 : Tg.take (Lf 94).length = s.2.2.2.1 := by rw [eT, len]; exact take_pre
  have eT1 : Tg[(Lf 94).length]? = some (tokw S (p.2.1 + 1)) := by rw [eT, len]; exact at_len
  have x94 : (LT 94)[(Lf 94).length]? = some (fR hr 1206 c) := by rw [e94]; exact at_len
  have x102 : (LT 102)[(Lf 94).length]? = some c := by rw [e102, ← l4]; exact at_len
  have st := g_step (G := G) B F x102 x94 eT1 c2
  rw [if_pos rfl, eT0, c2''] at st
  have F1 : hF GD h (sI h 1219 c (if (cnI (tokw S (p.2.1 + 1)) = none ∧ tokw S (p.2.1 + 1) ∉ s.2.2.2.1) ∧ (s.1.length : Int) < 8 then 1 else 0)) := hF_sI (by decide)
  have v1 : fI (sI h 1219 c (if (cnI (tokw S (p.2.1 + 1)) = none ∧ tokw S (p.2.1 + 1) ∉ s.2.2.2.1) ∧ (s.1.length : Int) < 8 then 1 else 0)) 1219 c ≠ 0 ↔ (nwG S s.2.2.2.1 (p.2.1 + 1) ∧ s.1.length < 8) := by
    rw [fI_eq, if10]
    exact ⟨fun z => ⟨z.1, by have := z.2; omega⟩, fun z => ⟨z.1, by have := z.2; omega⟩⟩
  have w1 : ∀ f a, a ≠ c → fI (sI h 1219 c (if (cnI (tokw S (p.2.1 + 1)) = none ∧ tokw S (p.2.1 + 1) ∉ s.2.2.2.1) ∧ (s.1.length : Int) < 8 then 1 else 0)) f a = fI h f a := fun f a na => fI_na na
  have u1 : fI (sI h 1219 c (if (cnI (tokw S (p.2.1 + 1)) = none ∧ tokw S (p.2.1 + 1) ∉ s.2.2.2.1) ∧ (s.1.length : Int) < 8 then 1 else 0)) 1223 c = 0 := by rw [fI_ne (by decide)]; exact f0
  generalize sI h 1219 c (if (cnI (tokw S (p.2.1 + 1)) = none ∧ tokw S (p.2.1 + 1) ∉ s.2.2.2.1) ∧ (s.1.length : Int) < 8 then 1 else 0) = h1 at st F1 v1 w1 u1
  have k1 : (kEn S s p).1 ≠ none ↔ (nwG S s.2.2.2.1 (p.2.1 + 1) ∧ s.1.length < 8) := by
    unfold kEn clsK
    by_cases a : s.1.length < 8
    · rw [if_pos a]
      by_cases b : nwG S s.2.2.2.1 (p.2.1 + 1)
      · rw [if_pos b]; exact ⟨fun _ => ⟨b, a⟩, fun _ => by simp⟩
      · rw [if_neg b]; exact ⟨fun z => absurd rfl z, fun z => absurd z.1 b⟩
    · rw [if_neg a]; exact ⟨fun z => absurd rfl z, fun z => absurd z.2 a⟩
  have k2 : (kEn S s p).2 ≠ none ↔ (nwG S s.2.2.2.1 (p.2.1 + 1) ∧ s.1.length < 8) ∧ famK S (s.2.2.2.1 ++ [tokw S (p.2.1 + 1)]) p.2.2.2.1 ≠ none := by
    unfold kEn clsK
    by_cases a : s.1.length < 8
    · rw [if_pos a]
      by_cases b : nwG S s.2.2.2.1 (p.2.1 + 1)
      · rw [if_pos b]; exact ⟨fun z => ⟨⟨b, a⟩, z⟩, fun z => z.2⟩
      · rw [if_neg b]; exact ⟨fun z => absurd rfl z, fun z => absurd z.1.1 b⟩
    · rw [if_neg a]; exact ⟨fun z => absurd rfl z, fun z => absurd z.1.2 a⟩
  rw [om_loop_in st]
  rcases c5 with ⟨e, e0⟩ | ⟨f, e, e0, e1⟩
  · have eG : clsG hr c = [fR hr 1206 c] := by unfold clsG; rw [if_pos e0]
    rw [eG, List.length_append]
    refine ⟨h1, rfl, F1, w1, v1.trans k1.symm, ?_⟩
    rw [u1, k2, e]
    exact ⟨fun z => absurd rfl z, fun z => absurd rfl z.2⟩
  · have eG : clsG hr c = [fR hr 1206 c, fR hr 1214 c] := by unfold clsG; rw [if_neg e0]
    rw [eG] at e94 e102
    rw [e] at eT
    have eT' : Tg = (s.2.2.2.1 ++ [tokw S (p.2.1 + 1)]) ++ (tokw S f :: T3) := by rw [eT]; simp [oW]
    have pl : (s.2.2.2.1 ++ [tokw S (p.2.1 + 1)]).length = (Lf 94).length + 1 := by rw [List.length_append, len]; rfl
    have y0 : Tg.take ((Lf 94).length + 1) = s.2.2.2.1 ++ [tokw S (p.2.1 + 1)] := by rw [eT', ← pl]; exact take_pre
    have y1 : Tg[(Lf 94).length + 1]? = some (tokw S f) := by rw [eT', ← pl]; exact at_len
    have y94 : (LT 94)[(Lf 94).length + 1]? = some (fR hr 1214 c) := by
      rw [e94, show Lf 94 ++ ([fR hr 1206 c, fR hr 1214 c] ++ T1) = (Lf 94 ++ [fR hr 1206 c]) ++ (fR hr 1214 c :: T1) by rw [List.append_assoc]; rfl, show (Lf 94).length + 1 = (Lf 94 ++ [fR hr 1206 c]).length by rw [List.length_append]; rfl]
      exact at_len
    have y102 : (LT 102)[(Lf 94).length + 1]? = some c := by
      rw [e102, show Lf 102 ++ ([fR hr 1206 c, fR hr 1214 c].map (fun _ => c) ++ T2) = (Lf 102 ++ [c]) ++ (c :: T2) by rw [List.append_assoc]; rfl, show (Lf 94).length + 1 = (Lf 102 ++ [c]).length by rw [List.length_append, l4]; rfl]
      exact at_len
    have st2 := g_step (G := G) B (hF_trans F (hF_mono F1 (by decide))) y102 y94 y1 c2
    rw [if_neg (fun z => wd_ne c3.2.2 e1.2.2 (nq f e) z.symm), y0] at st2
    have F2 : hF GD h1 (sI h1 1223 c (if (cnI (tokw S f) = none ∧ tokw S f ∉ s.2.2.2.1 ++ [tokw S (p.2.1 + 1)]) ∧ fI h1 1219 c ≠ 0 then 1 else 0)) := hF_sI (by decide)
    refine ⟨_, by rw [om_loop_in st2, eG, List.length_append]; rfl, hF_trans F1 F2, fun g a na => (fI_na na).trans (w1 g a na), ?_, ?_⟩
    · rw [fI_ne (by decide)]; exact v1.trans k1.symm
    · rw [fI_eq, if10, k2, v1, e]
      have ef : famK S (s.2.2.2.1 ++ [tokw S (p.2.1 + 1)]) (some f) ≠ none ↔ (cnI (tokw S f) = none ∧ tokw S f ∉ s.2.2.2.1 ++ [tokw S (p.2.1 + 1)]) := by
        show (if nwG S (s.2.2.2.1 ++ [tokw S (p.2.1 + 1)]) f then some (tokw S f) else none) ≠ none ↔ _
        by_cases b : nwG S (s.2.2.2.1 ++ [tokw S (p.2.1 + 1)]) f
        · rw [if_pos b]; exact ⟨fun _ => b, fun _ => by simp⟩
        · rw [if_neg b]; exact ⟨fun z => absurd rfl z, fun z => absurd z b⟩
      rw [ef]
      exact ⟨fun z => ⟨z.2, z.1⟩, fun z => ⟨z.2, z.1⟩⟩
end LGR
