set_option maxRecDepth 100000
/-! ALL FUNCTIONS AND INSTS ARE JUDGED, in the component -/
section LJL0
variable (fn : List (List Nat × List GVs × Ty)) (mt : List (Option (Nat × Nat × Ty))) (ab : List (Option Nat)) (ins : List INs)
/-- room that a job takes -/
def jbQ (j : JB) : Nat := if j.1 = 2 then jcC (fn, mt, ab, ins, j.2.2.2.1.1) j.2.2.2.1.2.2.1 else if j.1 = 6 then lnQ (fn, mt, ab, ins, gvI j.2.2.2.2.1) (j.2.2.2.2.2.2.map Prod.fst) else 0
def jbX (j : JB) : Nat := if j.1 = 2 then xnN j.2.2.2.1.2.2.1 else if j.1 = 6 then lnX (j.2.2.2.2.2.2.map Prod.fst) else 0
def jbN (j : JB) : Nat := 1 + if j.1 = 6 then j.2.2.2.2.2.2.length else 0
def jsQ (l : List JB) : Nat := (l.map (jbQ fn mt ab ins)).sum
def jsX (l : List JB) : Nat := (l.map jbX).sum
def jsN (l : List JB) : Nat := (l.map jbN).sum
theorem jsQ_c {j : JB} {l : List JB} : jsQ fn mt ab ins (j :: l) = jbQ fn mt ab ins j + jsQ fn mt ab ins l := by unfold jsQ; rw [List.map_cons, List.sum_cons]
theorem jsX_c {j : JB} {l : List JB} : jsX (j :: l) = jbX j + jsX l := by unfold jsX; rw [List.map_cons, List.sum_cons]
theorem jsN_c {j : JB} {l : List JB} : jsN (j :: l) = jbN j + jsN l := by unfold jsN; rw [List.map_cons, List.sum_cons]
end LJL0
/-- lists that stand always, or stand and are not empty -/
def sqL (Sl0 : Nat → Prop) (h : om_H) (Sl : Nat → Prop) (a : Nat) : Prop := Sl0 a ∨ neL h Sl a
/-- what jobs may write -/
def wJb (j : JB) (a : Nat) : Prop := (j.2.2.1.1 ≤ a ∧ a < j.2.2.1.2) ∧ ((j.1 = 2 ∧ j.2.2.2.1.2.2.2.2.1 ≤ a ∧ a < j.2.2.2.1.2.2.2.2.2) ∨ (j.1 = 6 ∧ WLn (j.2.2.2.2.2.2.map Prod.fst) a))
def WJb (l : List JB) (a : Nat) : Prop := ∃ j ∈ l, wJb j a
/-- judged, one after another -/
def JbsJ (G : om_G) (N : List (List Int)) (cl : Nat → Nat) (rest : List (Nat × List Nat)) (io fo mo : Nat → Nat) (fn : List (List Nat × List GVs × Ty)) (mt : List (Option (Nat × Nat × Ty))) (ab : List (Option Nat)) (ins : List INs) (lo H0 : Nat) (h : om_H) (us : List Nat) (Dk : Nat → Prop) (ds : List Nat) (dm : Nat) (Sl : Nat → Prop) : List JB → List (List Et) → Nat → Prop
  | [], [], _ => True
  | j :: l, es :: ess, f => JbJ G N cl rest io fo mo fn mt ab ins lo H0 h us Dk ds dm Sl j f es ∧ (j.2.2.1.1 ≤ j.2.2.2.1.2.2.2.2.1 ∧ j.2.2.2.1.2.2.2.2.2 ≤ j.2.2.1.2 ∨ j.1 ≠ 2) ∧ JbsJ G N cl rest io fo mo fn mt ab ins lo H0 h us Dk ds dm Sl l ess (if j.1 = 2 then f + 1 else f)
  | _, _, _ => False
section LJL
variable {G : om_G} {N : List (List Int)} {cl : Nat → Nat} {tb pr : Nat} {rest : List (Nat × List Nat)} {ss : List (Nat × List GVs)} {Sl0 Gx : Nat → Prop} {io fo mo : Nat → Nat} {ab : List (Option Nat)} {ins : List INs} {fn : List (List Nat × List GVs × Ty)} {mt : List (Option (Nat × Nat × Ty))} {lo H0 nF nI : Nat}
/-- what one job comes to -/
def JbO (G : om_G) (N : List (List Int)) (cl : Nat → Nat) (tb pr : Nat) (rest : List (Nat × List Nat)) (ss : List (Nat × List GVs)) (Sl0 Gx : Nat → Prop) (io fo mo : Nat → Nat) (ab : List (Option Nat)) (ins : List INs) (fn : List (List Nat × List GVs × Ty)) (mt : List (Option (Nat × Nat × Ty))) (lo H0 : Nat) (h : om_H) (us fs : List Nat) (Dk : Nat → Prop) (ds : List Nat) (dm : Nat) (Sl : Nat → Prop) (st : JS) (j : JB) (f i : Nat) (z1 : (Nat × Nat) ⊕ (List Et × JS)) : Prop := ∃ (h' : om_H) (us' fs' : List Nat) (Dk' : Nat → Prop) (ds' : List Nat) (dm' : Nat), (∀ k p, z1 = .inl (k, p) → ∃ a', C_1_judge_129s G pr ((f : Int), (i : Int), h) = some (.inr (.inr (.inl a', h'))) ∧ FtB G N cl tb rest ss (sqL Sl0 h Sl) Gx (wJb j) h us fs Dk ds dm (k : Int) (p : Int) a' h' us' fs' Dk' ds' dm' (jbQ fn mt ab ins j + 142 * (464 - st.1)) (16 * jbX j + 3 * jbN j + 2) (192 * jbX j + 110 * jbN j + 40) ∧ dm' ≤ dm + 5 * (464 - st.1) + 4 * jbX j) ∧ ∀ es s', z1 = .inr (es, s') → ∃ Sl', C_1_judge_129s G pr ((f : Int), (i : Int), h) = some (.inl (((if j.1 = 2 then f + 1 else f : Nat) : Int), ((if j.1 = 6 then i + 1 else i : Nat) : Int), h')) ∧ (∀ a, Sl a → Sl' a) ∧ BQ G h' N cl tb us' fs' rest Sl' Gx io ab ins ss Dk' ds' dm' s'.1 ∧ (st.1 ≤ s'.1 ∧ s'.1 ≤ 300) ∧ (∃ Slm, (∀ a, Sl0 a → Slm a) ∧ (∀ a, neL h Sl a → Slm a) ∧ (∀ a, Sl a → j.2.2.1.2 ≤ a → Slm a) ∧ KB N cl tb rest ss Slm Gx (wJb j) h us fs Dk ds dm h' us' fs' Dk' ds' dm' (jbQ fn mt ab ins j + 142 * (s'.1 - st.1)) (16 * jbX j + 3 * jbN j) (192 * jbX j + 110 * jbN j)) ∧ dm' ≤ dm + 5 * (s'.1 - st.1) + 4 * jbX j ∧ tsD N cl rest st.2 s'.2 h' us' ∧ JbJ G N cl rest io fo mo fn mt ab ins lo H0 h' us' Dk' ds' dm' Sl' j f es
/-- A FUNCTION's JOB -/
theorem job_f (hI : intO G) (nd : ndN N) {h : om_H} {us fs : List Nat} {Dk : Nat → Prop} {ds : List Nat} {dm f i : Nat} {Sl : Nat → Prop} {st : JS} {j : JB} {l : List JB} {z1 : (Nat × Nat) ⊕ (List Et × JS)} (w : j.1 = 2) (ez : jj1 fn mt ab ins j st = some z1) (A : JbsC G N cl rest ss io fo mo fn mt ab ins H0 nF nI Sl0 h us Sl (j :: l) f i) (pw : ∀ j' ∈ l, j.2.1 < j'.2.1) (hn : nF ≤ 900 ∧ nI ≤ 900) (Q : BQ G h N cl tb us fs rest Sl Gx io ab ins ss Dk ds dm st.1) (S0 : ∀ a, Sl0 a → Sl a) (JC0 : JCE N cl fo mo (fn, mt, ab, ins, []) h (UU us rest) Sl0) (Pr : JPr h tb pr Sl0 io fo nI nF) (R : RmJ us fs ds dm st.1 (jbQ fn mt ab ins j) (4 * jbX j)) (hl : lo ≤ dm ∧ H0 ≤ hz h) : JbO G N cl tb pr rest ss Sl0 Gx io fo mo ab ins fn mt lo H0 h us fs Dk ds dm Sl st j f i z1 := by
  have ej : jbQ fn mt ab ins j = jcC (fn, mt, ab, ins, j.2.2.2.1.1) j.2.2.2.1.2.2.1 ∧ jbX j = xnN j.2.2.2.1.2.2.1 ∧ jbN j = 1 := by
    unfold jbQ jbX jbN
    rw [if_pos w, if_pos w, if_neg (by omega)]
    exact ⟨rfl, rfl, rfl⟩
  unfold JbO
  rw [ej.1, ej.2.1] at R
  rw [ej.1, ej.2.1, ej.2.2]
  have le := JbsC_le A.2.2
  rw [if_pos w] at le
  have run := st_f (G := G) Pr A w pw
  obtain ⟨⟨a1, a2, a3⟩, ⟨b1, b2, b3⟩, c, t, r, d1, d2, d3, d4, ⟨d5, d6⟩, d7, d8⟩ := A.1 w
  unfold jj1 at ez
  rw [if_pos w] at ez
  obtain ⟨zz, ezz⟩ : ∃ zz, (jb (jd (fn, mt, ab, ins, j.2.2.2.1.1) j.2.2.2.1.2.2.1 [] st) fun a => jw (fn, mt, ab, ins, j.2.2.2.1.1) j.2.2.2.1.2.1 a.1 a.2) = some zz := by
    rcases jb_cs ez with ⟨kp, e1, _⟩ | ⟨a, e1, _⟩
    · exact ⟨_, e1⟩
    · exact ⟨_, e1⟩
  have PL0 := PoolC_less S0 Q.2.2.2.2.1
  have Xs := Ph0_KB (KB_refl (N := N) (cl := cl) (rest := rest) (ss := ss) (Gx := Gx) (W := fun _ => False) (us := us) (fs := fs) PL0) S0 (fun _ _ _ _ w => w) (fun w => absurd rfl w) c
  obtain ⟨⟨p1, p2, p3⟩, ⟨q1, q2, q3, q4, q5⟩, ⟨s1, s2, s3, s4, s5⟩⟩ := id Pr
  obtain ⟨h', us', fs', Dk', ds', dm', r2, r3⟩ := c_212f (B := 2700) (b := 2700) (s := (fR h 1542 (fo f), j.2.2.2.1.1)) (W := wJb j) (l2 := (i : Int)) hI nd d7 d8 Q a1 (JCE_more S0 JC0) ⟨p1, p2, p3⟩ ⟨s2, s3, s5 f (by omega)⟩ ⟨a2, a3, rfl, rfl, rfl⟩ (by omega) Xs (Nat.le_succ_of_le d1) d2 ⟨Nat.le_refl _, d3⟩ d4 R hl (by omega) t d5 d6 (fun a h1 h2 => ⟨⟨by omega, by omega⟩, .inl ⟨w, h1, h2⟩⟩) ezz
  dsimp only at r2 r3
  refine ⟨h', us', fs', Dk', ds', dm', fun k p v => ?_, fun es s' v => ?_⟩
  · rcases jb_cs ez with ⟨kp, e1, e2⟩ | ⟨a, e1, e2⟩
    · have e3 : zz = .inl kp := Option.some.inj (ezz.symm.trans e1)
      rw [e2] at v
      have v' := Sum.inl.inj v
      obtain ⟨a', g1, ⟨g2, g3, g4, g5⟩, g6⟩ := r2 k p (by rw [e3, v'])
      refine ⟨a', by rw [run]; exact g1, ⟨g2, g3, PoolC_less (fun y v => v.elim (S0 y) And.left) g4, KB_le (KB_less (fun y v => v.elim (S0 y) And.left) g5) (fun _ _ w => w) (by omega) (by omega) (by omega)⟩, by omega⟩
    · have : z1 = .inr ([a.1], a.2) := (Option.some.inj e2).symm
      rw [this] at v; cases v
  · rcases jb_cs ez with ⟨kp, e1, e2⟩ | ⟨⟨e0, s0⟩, e1, e2⟩
    · rw [e2] at v; cases v
    · have e3 : zz = .inr (e0, s0) := Option.some.inj (ezz.symm.trans e1)
      have e4 : z1 = .inr ([e0], s0) := (Option.some.inj e2).symm
      rw [e4] at v
      injection Sum.inr.inj v with v1 v2
      rw [← v1, ← v2]
      obtain ⟨Sl', g1, g2, g3, g4, g5, g6, g7, g8, g9⟩ := r3 e0 s0 e3
      refine ⟨Sl', by rw [run, if_pos w, if_neg (by omega)]; exact g1, g2, g3, g5, ⟨Sl, S0, fun a v => v.1, fun a v _ => v, KB_le g6 (fun _ _ w => w) (by omega) (by omega) (by omega)⟩, by omega, g8, ⟨fun _ => ⟨e0, rfl, ⟨Nat.lt_of_lt_of_le a3 g6.1.1, by rw [g6.1.2.1 _ a3]; exact a2⟩, ?_⟩, fun v => by omega⟩⟩
      have e54 : fR h' 1554 (fo f) = fR h 1554 (fo f) := (g6.1.2.2.1 _ a3 (by rw [a2]; decide)).2 1554 (by decide)
      rw [e54]
      exact g9
/-- AN INST's JOB -/
theorem job_i (hI : intO G) (nd : ndN N) {h : om_H} {us fs : List Nat} {Dk : Nat → Prop} {ds : List Nat} {dm f i : Nat} {Sl : Nat → Prop} {st : JS} {j : JB} {l : List JB} {z1 : (Nat × Nat) ⊕ (List Et × JS)} (w : j.1 = 6) (ez : jj1 fn mt ab ins j st = some z1) (A : JbsC G N cl rest ss io fo mo fn mt ab ins H0 nF nI Sl0 h us Sl (j :: l) f i) (pw : ∀ j' ∈ l, j.2.1 < j'.2.1) (hn : nF ≤ 900 ∧ nI ≤ 900) (Q : BQ G h N cl tb us fs rest Sl Gx io ab ins ss Dk ds dm st.1) (S0 : ∀ a, Sl0 a → Sl a) (PG0 : PGC h N cl (UU us rest) Sl0 io ab ins) (GV0 : ∀ t ∈ ss, GVC h N cl (UU us rest) Sl0 t.1 t.2) (JC0 : JCE N cl fo mo (fn, mt, ab, ins, []) h (UU us rest) Sl0) (Pr : JPr h tb pr Sl0 io fo nI nF) (R : RmJ us fs ds dm st.1 (jbQ fn mt ab ins j) (4 * jbX j)) (hl : lo ≤ dm ∧ H0 ≤ hz h) : JbO G N cl tb pr rest ss Sl0 Gx io fo mo ab ins fn mt lo H0 h us fs Dk ds dm Sl st j f i z1 := by
  have ej : jbQ fn mt ab ins j = lnQ (fn, mt, ab, ins, gvI j.2.2.2.2.1) (j.2.2.2.2.2.2.map Prod.fst) ∧ jbX j = lnX (j.2.2.2.2.2.2.map Prod.fst) ∧ jbN j = 1 + (j.2.2.2.2.2.2.map Prod.fst).length := by
    unfold jbQ jbX jbN
    have n2 : ¬ j.1 = 2 := by omega
    rw [if_neg n2, if_neg n2, if_pos w, if_pos w, if_pos w, List.length_map]
    exact ⟨rfl, rfl, rfl⟩
  unfold JbO
  rw [ej.1, ej.2.1] at R
  rw [ej.1, ej.2.1, ej.2.2]
  have le := JbsC_le A.2.2
  rw [if_pos w] at le
  have run := st_i (G := G) Pr A w pw
  obtain ⟨a1, IW, a3, L, r, LW, c1, c2, c3, c4, c5⟩ := A.2.1 w
  unfold jj1 at ez
  rw [if_neg (by omega), if_pos w] at ez
  have ez' : jls (fn, mt, ab, ins, gvI j.2.2.2.2.1) ((j.2.2.2.2.2.2.map Prod.fst).map (ldT j.2.2.2.2.2.1 j.2.2.2.2.1)) st = some z1 := by rw [List.map_map]; exact ez
  obtain ⟨⟨p1, p2, p3⟩, ⟨q1, q2, q3, q4, q5⟩, ⟨s1, s2, s3, s4, s5⟩⟩ := id Pr
  obtain ⟨h', us', fs', Dk', ds', dm', r2, r3⟩ := c_jlns (B := 2700) (s := (fR h 1286 (io i), gvI j.2.2.2.2.1)) (o := io i) (wc := j.2.2.2.2.2.1) (d := j.2.2.2.2.1) (lns := j.2.2.2.2.2.2.map Prod.fst) hI nd c4 c5 a1 c3 (by rw [List.length_map]; exact c2) Q S0 PG0 GV0 JC0 ⟨p1, p2, p3⟩ IW rfl L (fun y hy => (LW y hy).1) c1 R hl ez'
  dsimp only at r2 r3
  have wi : w32 ((i : Int) + 1) = ((i + 1 : Nat) : Int) := by rw [w32_s (by omega) (by omega)]; rfl
  have k21 := IW.1.1
  have go : C_1_judge_212 G pr (f : Int) (i : Int) 0 h = xc (C_1_judgeLines G pr (io i) h) (fun t h => some (.inr (.inr (.inl t, h)))) (fun p2 h2 => some (.inl ((f : Int), ((i + 1 : Nat) : Int), h2))) := by
    unfold C_1_judge_212
    rw [if_pos rfl, gd_pos ⟨p1, q3⟩, jp_get q3 (q5 i (by omega)), Option.bind_some, gd_pos ⟨.inr k21, p1⟩, wi]
  rw [run, go]
  have wln : ∀ a, WLn (j.2.2.2.2.2.2.map Prod.fst) a → j.2.2.1.1 ≤ a ∧ a < j.2.2.1.2 := fun a v => by
    obtain ⟨y, y1, y2, y3⟩ := v
    have := (LW y y1).2
    omega
  have mq : ∀ a, sqL Sl0 h Sl a → Sl a ∧ a ≠ fR h 1322 (io i) := fun a v => by
    rcases v with v | v
    · exact ⟨S0 a v, fun e => L.2.1 (by rw [← e]; exact v)⟩
    · exact ⟨v.1, fun e => v.2 (by rw [e]; exact L.2.2.2)⟩
  refine ⟨h', us', fs', Dk', ds', dm', fun k p v => ?_, fun es s' v => ?_⟩
  · obtain ⟨a', g1, ⟨g2, g3, g4, g5⟩, g6⟩ := r2 k p v
    refine ⟨a', by rw [g1, xc_t], ⟨g2, g3, PoolC_less mq g4, KB_le (KB_less mq g5) (fun a _ v => ⟨wln a v, .inr ⟨w, v⟩⟩) (by omega) (by omega) (by omega)⟩, by omega⟩
  · obtain ⟨Sl', g1, g2, g3, g5, g6, g7, g8, g9, g10⟩ := r3 es s' v
    refine ⟨Sl', by rw [g1, xc_v, if_neg (by omega), if_pos w], g2, g3, g5, ⟨fun a => Sl a ∧ a ≠ fR h 1322 (io i), fun a v => mq a (.inl v), fun a v => mq a (.inr v), fun a v1 v2 => ⟨v1, fun e => by rw [e] at v2; omega⟩, KB_le g6 (fun a _ v => ⟨wln a v, .inr ⟨w, v⟩⟩) (by omega) (by omega) (by omega)⟩, by omega, g8, ⟨fun v => by omega, fun _ => ⟨by rw [g9, List.length_map], fun k y e e1 e2 => ⟨g10 k y e e1 e2, ?_⟩⟩⟩⟩
    have ly := LW y (List.mem_of_getElem? e1)
    have XJ := (g10 k y e e1 e2).1
    have yl : y.2.2.2.2.2.1 < y.2.2.2.2.2.2 := by
      cases e with
      | leaf => exact (XCg_l XJ).elim
      | inner tg lx un el er =>
        obtain ⟨He, ra, rh, _, _⟩ := XCg_ex XJ
        omega
    have := ly.1.2.2.1
    exact ⟨this.1, by omega, ly.2.1, ly.2.2⟩
end LJL
