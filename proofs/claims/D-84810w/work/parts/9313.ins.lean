set_option maxRecDepth 100000
/-! RESOLVE: an inst in both -/
abbrev IRA : List Nat := [702, 706, 778, 710, 714, 718, 722, 550, 782, 850] ++ TYA
/-- an inst that is known: ii its place in the twin's tables -/
def InK (G : om_G) (A : Nat) (S : List Int) (b : Nat) (N : List (List Int)) (cs : List Nat) (K : KT) (rest : List (Nat × List Nat)) (fo : List Nat) (F : FT) (mo : List (List Nat)) (Ms : List FT) (h : om_H) (ul : List Nat) (τ : tS) (n f ii d z1 lo hi a0 amid jc jn : Nat) (Ls : List (List Int)) (gv lsA ns : List Nat) : Prop :=
  ∃ (sc : List Nat) (c0 c1 : Nat), (FI Prod.fst (tokw S jc) K = some c0 ∧ fR h 1302 f = clF cs c0) ∧ (cnI (tokw S jn) = some c1 ∧ pN c1 = Ls.length ∧ fI h 1304 f = (c1 : Int)) ∧ bdL N sc Ls ∧ (ga τ 702 ii = (Ls.length : Int) ∧ ∀ i w : Nat, i < 2 → sc[i]? = some w → ga τ 706 (2 * ii + i) = (w : Int)) ∧ (ga τ 710 ii = (gv.length : Int) ∧ gv.length ≤ 4 ∧ ∀ i x : Nat, gv[i]? = some x → CdK A S N cs K sc h τ (4 * ii + i) x) ∧ ((fR h 1310 f = 0 → ga τ 722 ii = -1) ∧ (fR h 1310 f ≠ 0 → (∃ jf, wd h A S (fR h 1298 f) jf ∧ FI Prod.snd (tokw S jf) K ≠ none) ∧ ∃ T : Ty, tyM T ∧ tyC h N (clF cs) (UU ul rest) T (fR h 1314 f) ∧ tyT τ n T (ga τ 722 ii) ∧ ∃ p m1 m2 x1 x2 : Nat, ga τ 614 d = (p : Int) ∧ (lo ≤ m1 ∧ m2 ≤ hi ∧ a0 ≤ x1 ∧ x2 ≤ amid) ∧ WR A S b h τ 59 m1 m2 x1 x2 (fR h 1310 f) p ∧ RdT S b K τ (fun w => bp τ = 2147483647 → w ∈ sc) m1 m2 59 p T)) ∧ tyC h N (clF cs) (UU ul rest) (tnd 1 c1 (hdN sc 0) (hdN sc 1)) (fR h 1318 f) ∧
    ∀ i x : Nat, lsA[i]? = some x → ∃ (lo' hi' al ah p z0 o : Nat), (lo ≤ lo' ∧ hi' ≤ hi ∧ a0 ≤ al ∧ ah ≤ amid ∧ z1 ≤ z0 ∧ lnO lsA ns a0 i x o lo' hi' al ah) ∧ ns[i]? = some o ∧ ga τ 546 o = (p : Int) ∧ XS G A S b h τ (Psi1 S b N cs rest fo F mo Ms z0 h ul τ n) 100 0 lo' hi' al ah (fR h 1366 x) p
theorem ar1 {n n3 n4 lo m1 m2 hi X : Nat} (h : n + (hi - lo) ≤ X) (a : n3 ≤ n + (m1 - lo)) (b : n4 ≤ n3 + (m2 - m1)) (c : lo ≤ m1 ∧ m1 ≤ m2 ∧ m2 ≤ hi) : n4 + (hi - m2) ≤ X := by omega
theorem ar2 {n n3 n4 n5 lo m1 m2 hi X : Nat} (h : n + (hi - lo) + 3 ≤ X) (a : n3 ≤ n + (m1 - lo)) (b : n4 ≤ n3 + (m2 - m1)) (e : n5 ≤ n4 + 3) (c : lo ≤ m1 ∧ m1 ≤ m2 ∧ m2 ≤ hi) : n5 + (hi - m2) ≤ X := by omega
theorem ar3 {lo m1 m2 hi : Nat} (c : lo ≤ m1 ∧ m1 ≤ m2 ∧ m2 ≤ hi) : 0 + 0 + (m1 - lo) + (m2 - m1) + 3 + (hi - m2) ≤ hi - lo + 3 := by omega
theorem ar4 {lo m1 m2 hi : Nat} (c : lo ≤ m1 ∧ m1 ≤ m2 ∧ m2 ≤ hi) : 0 + 0 + 0 + 0 + 0 + 8 * (hi - m2) ≤ 8 * (hi - lo) := by omega
theorem ar5 {lo m1 m2 hi : Nat} (c : lo ≤ m1 ∧ m1 ≤ m2 ∧ m2 ≤ hi) : 0 + 0 + 0 + 0 + 0 + 300 * (hi - m2) ≤ 300 * (hi - lo) := by omega
theorem ar6 {n n3 n4 n6 lo m1 m2 hi : Nat} (a : n3 ≤ n + (m1 - lo)) (b : n4 ≤ n3 + (m2 - m1)) (e : n6 ≤ n4 + (hi - m2)) (c : lo ≤ m1 ∧ m1 ≤ m2 ∧ m2 ≤ hi) : n6 ≤ n + (hi - lo) := by omega
theorem tq_max {S : List Int} {j : Nat} (hS : S.length ≤ 2000) (e : (tokq S j : Int) = 2147483647) : False := by
  have := tok_le S j
  omega
section LIN
variable {G : om_G} {A : Nat} {S : List Int} {b m : Nat} {N : List (List Int)} {cs : List Nat} {K : KT} {pr Ln : Nat} {Ls : List (List Int)} {sc : List Nat} {tb : Nat} {rest : List (Nat × List Nat)} {fo : List Nat} {F : FT} {mo : List (List Nat)} {Ms : List FT}
variable {h h' h2 hr : om_H} {ul fl ul' fl' : List Nat} {σ τ υ σr : tS} {n n' q z u lo hi alo ahi a0 amid a c w k : Nat} {B B2 : List Int} {X : Int} {L : List Int}
theorem lrows_keepF : ∀ {xs os : List Nat} {lo hi alo ahi : Nat}, lrows G A S b h σ xs os lo hi alo ahi → hkF alo ahi h h' → nall lo hi σ τ → lrows G A S b h' τ xs os lo hi alo ahi
  | [], [], _, _, _, _, r, _, _ => r
  | x :: xs, o :: os, lo, hi, alo, ahi, ⟨a1, a2, p, j, q1, q2, q3, q4, q5⟩, H, L => by
    obtain ⟨c1, c2, c3, c4, c5⟩ := lrows_in q5
    have i := XR_in _ _ _ _ _ _ _ q1
    obtain ⟨k1, k2, k3, k4, k5⟩ := H x (by omega) (by omega)
    exact ⟨a1, a2, p, j, by rw [k3 1366 (by decide)]; exact X0_keepF q1 (hkF_sub H (by omega) (by omega)) (fun f hf x d e => L f hf x d (by omega)), ⟨by rw [L 538 (by simp) o (by omega) (by omega)]; exact q2.1, by rw [L 542 (by simp) o (by omega) (by omega)]; exact q2.2.1, q2.2.2.1, by rw [L 546 (by simp) o (by omega) (by omega)]; exact q2.2.2.2⟩, by rw [k3 1362 (by decide)]; exact q3, ⟨by rw [k1]; exact q4.1, by rw [k3 1362 (by decide)]; exact wd_hkF H (by omega) (by omega) q4.2⟩, lrows_keepF q5 (hkF_sub H (by omega) (Nat.le_refl _)) (fun f hf x d e => L f hf x (by omega) e)⟩
  | [], _ :: _, _, _, _, _, r, _, _ => r.elim
  | _ :: _, [], _, _, _, _, r, _, _ => r.elim
theorem nmBI_mem : ∀ {js : List Nat} {tn : List (List Int)} {y : Int}, y ∈ nmBI S tn js → ∃ j ∈ js, y = (tokq S j : Int)
  | [], _, y, h => absurd h List.not_mem_nil
  | j :: js, tn, y, h => by
    rcases List.mem_append.mp h with h | h
    · split at h
      · exact ⟨j, List.mem_cons_self, List.mem_singleton.mp h⟩
      · exact absurd h List.not_mem_nil
    · obtain ⟨i, h1, h2⟩ := nmBI_mem h
      exact ⟨i, List.mem_cons_of_mem _ h1, h2⟩
theorem nmBI_nd (hS : S.length ≤ 2000) : ∀ {js : List Nat} {tn : List (List Int)}, (∀ y ∈ nmBI S tn js, y = 2147483647) → tn.Nodup → (tn ++ js.map (tokw S)).Nodup
  | [], tn, _, h => by rw [List.map_nil, List.append_nil]; exact h
  | j :: js, tn, h, n => by
    have nt : tokw S j ∉ tn := fun z => tq_max hS (h (tokq S j : Int) (List.mem_append_left _ (by rw [if_pos z]; simp)))
    have n2 : (tn ++ [tokw S j]).Nodup := by
      rw [List.nodup_append]
      exact ⟨n, List.nodup_cons.mpr ⟨List.not_mem_nil, List.nodup_nil⟩, fun a ha b hb e => nt (by rw [← List.mem_singleton.mp hb, ← e]; exact ha)⟩
    have := nmBI_nd hS (fun y hy => h y (List.mem_append_right _ hy)) n2
    rw [List.append_assoc] at this
    exact this
theorem lb_max {P Q : List Int} (h1 : lb P Q) (h2 : ∀ y ∈ Q, y = 2147483647) : ∀ y ∈ P, 2147483647 ≤ y := fun y hy => by
  obtain ⟨z, z1, z2⟩ := h1 y hy
  rw [h2 z z1] at z2
  exact z2
theorem ls_n {P L : List Nat} (h : ∀ g ∈ P, g ∉ L) {g : Nat} (hg : g ∈ P) : g ∉ L := h g hg
/-- nodes ahead of the lines stay -/
theorem fam_n {τ4 τ5 : tS} {m2 : Nat} {fs : List Nat} (e7 : ∀ i, (m2 ≤ i ∧ i < hi) ∨ ga τ5 550 i = ga τ4 550 i) (e6 : fr fs (550 :: 782 :: 850 :: TYA) τ4 τ5) (Hn : nall lo hi σr τ4) (r13 : m2 ≤ hi) : ∀ g ∈ PA, ∀ i, lo ≤ i → i < m2 → ga τ5 g i = ga σr g i := fun g hg i i1 i2 => by
  by_cases q : g = 550
  · rcases e7 i with e | e
    · omega
    · rw [q, e]; exact Hn 550 (by simp) i i1 (by omega)
  · rw [e6.2 g ((by decide : ∀ g ∈ PA, g ≠ 550 → g ∉ (550 :: 782 :: 850 :: TYA)) g hg q)]
    exact Hn g hg i i1 (by omega)
theorem fam_W {τ5 : tS} {h5 h6 : om_H} {m1 m2 x1 x2 fw p am : Nat} (v6 : WR A S b hr σr 59 m1 m2 x1 x2 fw p) (F : hkF a0 amid hr h5) (E : ∀ y, a0 ≤ y → y < am → eqA y h5 h6) (n5 : ∀ g ∈ PA, ∀ i, lo ≤ i → i < m2 → ga τ5 g i = ga σr g i) (z : lo ≤ m1) (v7 : a0 ≤ x1) (v8 : x2 ≤ am) (ham : am ≤ amid) : WR A S b h6 τ5 59 m1 m2 x1 x2 fw p :=
  WR_keep (WR_keepF v6 (hkF_sub F v7 (by omega)) (nall_nk (τ := τ5) (lo := m1) (hi := m2) (fun g hg i i1 i2 => n5 g hg i (by omega) i2) (Nat.le_refl _) (Nat.le_refl _))) (fun y y1 y2 => by
    have e := E y (by omega) (by omega)
    exact ⟨e.1, e.2.1, e.2.2.1, e.2.2.2.2.2.2.1, e.2.2.2.2.2.2.2⟩) ⟨fun g _ _ i _ _ => rfl, fun i _ _ _ => rfl⟩
theorem fam_R {τ3 τ4 τ5 : tS} {m1 m2 p : Nat} {T : Ty} {sc : List Nat} (T5 : RdT S b K τ3 (fun w => bp τ4 = 2147483647 → w ∈ sc) m1 m2 59 p T) (n5 : ∀ g ∈ PA, ∀ i, lo ≤ i → i < m2 → ga τ5 g i = ga σr g i) (n3 : ∀ g ∈ PA, ∀ i, lo ≤ i → i < m2 → ga τ3 g i = ga σr g i) (z : lo ≤ m1) (hb : bp τ5 = 2147483647 → bp τ4 = 2147483647) : RdT S b K τ5 (fun w => bp τ5 = 2147483647 → w ∈ sc) m1 m2 59 p T :=
  RdT_imp (fun w q e => q (hb e)) (RdT_eq (fun g hg i i1 i2 => by
    have hg' : g ∈ PA := by simp only [List.mem_cons, List.not_mem_nil, or_false] at hg ⊢; omega
    rw [n5 g hg' i (by omega) i2, n3 g hg' i (by omega) i2]) T5)
set_option maxHeartbeats 12000000 in
/-- AN INST: the component whole, the twin behind its head -/
theorem ins_core {f d j0 ii : Nat} {nb : Int} (em : tokk S m = 0) (hm : m ≤ 1300) (W : insR G A S b hr σr lo hi a0 amid f d j0 nb) (nv : nvR ((b + j0 : Nat) : Int) lo hi d σr) (V : hkV a0 amid hr h) (Hn : nall lo hi σr τ) (Hd : ∀ g ∈ DA, ga τ g d = ga σr g d) (H : RX G A S N cs K pr tb rest fo F mo Ms h ul fl) (U : TU S b m N K F Ms τ n) (R : KR S lo hi a0 amid pr tb h ul fl n) (R3 : tl ul fl + (hi - lo) + 3 ≤ 149000) (e78 : fR h 78 pr = tb) (h42 : hi - lo ≤ 4200) (hd : d < 700) (hii : ii < 20) :
    ∃ (h' : om_H) (ul' fl' : List Nat) (τ' : tS) (n' : Nat) (BC B : List Int) (jc jn len : Nat), (ga τ 578 d = ((b + jc : Nat) : Int) ∧ tokk S jc = 3 ∧ ga τ 582 d = ((b + jn : Nat) : Int) ∧ tokk S jn = 3 ∧ ga τ 590 d = (len : Int) ∧ j0 ≤ jc ∧ j0 ≤ jn) ∧ C_1_resolveInstance G pr f (k : Int) h = some h' ∧ T_fillInstance_113 (ii : Int) (d : Int) τ = some τ' ∧ RS G A S N cs K pr tb rest fo F mo Ms a0 amid h ul fl h' ul' fl' (hi - lo + 3) (8 * (hi - lo)) (300 * (hi - lo)) BC ∧ TU S b m N K F Ms τ' n' ∧ fr [452, 456, 532, 784, 788, 856] IRA τ τ' ∧ (∀ i, (lo ≤ i ∧ i < hi) ∨ ga τ' 550 i = ga τ 550 i) ∧ ((∀ g ∈ [702, 710, 722], ∀ i, i ≠ ii → ga τ' g i = ga τ g i) ∧ (∀ i, (i < 2 * ii ∨ 2 * ii + 2 ≤ i) → ga τ' 706 i = ga τ 706 i) ∧ ∀ g ∈ [714, 718], ∀ i, (i < 4 * ii ∨ 4 * ii + 4 ≤ i) → ga τ' g i = ga τ g i) ∧ tx τ n τ' n' ∧ n' ≤ n + (hi - lo) ∧ bp τ' = mnl (bp τ) B ∧ lbE BC ((((if k < 20 then [] else [(tokq S j0 : Int)]) ++ icB S K jc) ++ inB S jn len) ++ B) ∧ bj S j0 BC ∧ bj S 0 B ∧
      ((∀ y ∈ (icB S K jc ++ inB S jn len) ++ B, y = 2147483647) → k < 20 → fI h 112 pr = 2147483647 → ∃ (j1 : Nat) (ns : List Nat), chain τ' (ga τ' 602 d) ns ∧ ((∀ x ∈ ll hr (fR hr 166 (fR hr 1286 f)), fR h' 1338 x = fR hr 1338 x ∧ fR h' 1342 x = fR hr 1342 x) ∧ fR h' 1298 f = fR hr 1298 f ∧ fR h' 1310 f = fR hr 1310 f ∧ (∃ y0 y1, wrow A S hr y0 y1 j1 (ll hr (fR hr 162 (fR hr 1286 f))) ∧ ((List.range' j1 (ll hr (fR hr 162 (fR hr 1286 f))).length).map (tokw S)).Nodup)) ∧ InK G A S b N cs K rest fo F mo Ms h' ul' τ' n' f ii d (hz h) lo hi a0 amid jc jn ((List.range' j1 (ll hr (fR hr 162 (fR hr 1286 f))).length).map (tokw S)) (ll hr (fR hr 166 (fR hr 1286 f))) (ll hr (fR hr 1326 f)) ns) := by
  obtain ⟨so, Lsa, Lg, Lh, Ll, cn, con, fam, fw, j1, jc, jn, m1, m2, g0, g1, g2, am, first, xs, os, ws, lsA, ns, dv, dv', b1, b2, b3, b4, b5, b6, b7, b8, b9, ⟨r1, r2, r3, r4, r5, r6, r7, r8, r9, r10, r11, r12, r13⟩⟩ := W
  obtain ⟨⟨o1, o2, o3, o4, o5, o6, o7, o8, o9, o10⟩, _⟩ := b2
  obtain ⟨⟨s1, s2, s3⟩, _, ⟨s4, s5⟩, s6, s7, s8⟩ := b1
  have gi := grows_in s6
  have li := lrows_in b7.2.2.1
  have lls : lsA.length ≤ 5000 := by have := pw_len (lrows_pw b7.2.2.1) li.2.2.1; have := li.2.2.2.2; omega
  have gl : xs.length ≤ 5000 := by have := pw_len (grows_pw s6) gi.2.2.1; have := gi.2.2.2.2; omega
  have rF : a0 ≤ f ∧ f < amid := ⟨r1.1, Nat.lt_of_lt_of_le r1.2 r10⟩
  have rso : a0 ≤ so ∧ so < amid := ⟨r2.1, Nat.lt_of_lt_of_le r2.2 r10⟩
  have rLs : a0 ≤ Lsa ∧ Lsa < amid := ⟨r3.1, Nat.lt_of_lt_of_le r3.2 r10⟩
  have rLg : a0 ≤ Lg ∧ Lg < amid := ⟨r4.1, Nat.lt_of_lt_of_le r4.2 r10⟩
  have rLl : a0 ≤ Ll ∧ Ll < amid := ⟨r6.1, Nat.lt_of_lt_of_le r6.2 r10⟩
  have famr : fw ≠ 0 → a0 ≤ fam ∧ fam < am := fun z => by
    rcases b6 with e | ⟨jf, kk, p, x1, x2, w1, w2, w3, w4⟩
    · exact absurd e.2.1 z
    · exact w3
  have dvE : ∀ g, g ≠ 610 → g ≠ 614 → dv' g = dv g := fun g h1 h2 => by
    rcases b6 with z | ⟨jf, kk, p, x1, x2, _, _, _, _, _, _, _, _, z⟩
    · rw [z.2.2.2]
    · rw [z]; unfold updD; rw [if_neg h2, if_neg h1]
  have Hdv : ∀ g ∈ DA, g ≠ 602 → g ≠ 610 → g ≠ 614 → ga τ g d = dv g := fun g hg h1 h2 h3 => by rw [Hd g hg, b8 g hg h1, dvE g h2 h3]
  have e578 : ga τ 578 d = ((b + jc : Nat) : Int) := by rw [Hdv 578 (by simp) (by decide) (by decide) (by decide)]; exact b9.2.2.1
  have e582 : ga τ 582 d = ((b + jn : Nat) : Int) := by rw [Hdv 582 (by simp) (by decide) (by decide) (by decide)]; exact b9.2.2.2.1
  have e590 : ga τ 590 d = (ws.length : Int) := by rw [Hdv 590 (by simp) (by decide) (by decide) (by decide)]; exact b9.2.2.2.2.2.1
  have e586 : ws.length = 0 ∨ ga τ 586 d = ((b + j1 : Nat) : Int) := by
    rw [Hdv 586 (by simp) (by decide) (by decide) (by decide)]
    rcases b9.2.2.2.2.1 with e | e
    · exact .inl (by rw [e]; rfl)
    · exact .inr e
  have e606 : ga τ 606 d = first := by rw [Hdv 606 (by simp) (by decide) (by decide) (by decide)]; exact b9.2.2.2.2.2.2.1
  have jc0 : j0 ≤ jc := by have := nv.1 578 (by simp); rw [← Hd 578 (by simp), e578] at this; omega
  have jn0 : j0 ≤ jn := by have := nv.1 582 (by simp); rw [← Hd 582 (by simp), e582] at this; omega
  have j10 : ws.length = 0 ∨ j0 ≤ j1 := by
    rcases e586 with e | e
    · exact .inl e
    · have := nv.1 586 (by simp)
      rw [← Hd 586 (by simp), e] at this
      exact .inr (by omega)
  have Vf := hkV_F V
  have zA := R.1.2.1
  have hS := R.1.2.2.2
  have D := R.2.1
  have X1 := H.1.2.1
  have hN := H.1.1.2
  obtain ⟨x1, x2, x3, _⟩ := V f rF.1 rF.2
  obtain ⟨y1, y2, y3, _⟩ := V so rso.1 rso.2
  obtain ⟨l1, l2, l3, l4, _⟩ := V Lsa rLs.1 rLs.2
  have W1 : wrow A S h a0 g2 j1 ws := wrow_hkF (hkF_sub Vf (Nat.le_refl _) (by omega)) b5.2.2
  have el : ll h Lsa = ws := by rw [l4]; exact b5.2.1
  have kLs : kd h Lsa = 42 := by rw [l1]; exact b5.1
  obtain ⟨Sc, lw, tk⟩ := wrow_SCc (Ln := Lsa) em hm X1.1 X1.2 (show g2 ≤ hz h by omega) kLs (by omega) el W1
  have lr : ((List.range' j1 ws.length).map (tokw S)).length = ws.length := by rw [List.length_map, List.length_range']
  -- class and constructor
  obtain ⟨h1, c1, c2, c3, c4, c5, c6, c7⟩ := ri_head (G := G) (k := k) (j0 := j0) (ws := ws) (so := so) (Ln := Lsa) (cn := cn) (con := con) H (by rw [x1]; exact o1) rF (by rw [x2 1276 (by decide)]; exact o2) (by rw [x3 1286 (by decide)]; exact o4) ⟨by rw [y1]; exact s1, by rw [y3 162 (by decide)]; exact s2⟩ ⟨kLs, el⟩ (by rw [x3 1290 (by decide)]; exact o5) (wd_hkF Vf b3.1 (Nat.lt_of_lt_of_le b3.2.1 r10) b3.2.2.1) (by rw [x3 1294 (by decide)]; exact o6) (wd_hkF Vf b4.1 (by omega) b4.2.2.1) D zA
  have V1 := hkV_trans V c3
  have V1f := hkV_F V1
  have z1 : hz h ≤ hz h1 := c2.2.1.1.1
  have D1 := dj_CS D c2.2.1 zA
  obtain ⟨p1, p2, p3, _⟩ := V1 so rso.1 rso.2
  obtain ⟨t1, t2, t3, t4, _⟩ := V1 Lsa rLs.1 rLs.2
  have W2 : wrow A S h1 a0 g2 j1 ws := wrow_hkF (hkF_sub V1f (Nat.le_refl _) (by omega)) b5.2.2
  have el1 : ll h1 Lsa = ws := by rw [t4]; exact b5.2.1
  have Sc1 := (wrow_SCc (Ln := Lsa) em hm c2.1.1.2.1.1 c2.1.1.2.1.2 (show g2 ≤ hz h1 by omega) (by rw [t1]; exact b5.1) (by omega) el1 W2).1
  have kf1 : kd h1 f = 21 := by rw [(V1 f rF.1 rF.2).1]; exact o1
  have e86 : fR h1 1286 f = so := by rw [c7 1286 (by decide), x3 1286 (by decide)]; exact o4
  have kp1 := c2.1.1.2.2.1.1.1
  -- the names
  have nm := c_nmI (G := G) (S := S) (f := f) (so := so) (Ln := Lsa) (pr := pr) (Ls := (List.range' j1 ws.length).map (tokw S)) (List.range' j1 ws.length) 0 [] h1 kf1 e86 (by rw [p1]; exact s1) (by rw [p3 162 (by decide)]; exact s2) kp1 Sc1 rfl rfl (fun i j e => by
    have il := (List.getElem?_eq_some_iff.mp e).1
    rw [List.length_range'] at il
    have ew : ws[i]? = some ws[i] := List.getElem?_eq_getElem il
    obtain ⟨u1, u2, u3⟩ := wrow_get W2 ew
    have ej : j = j1 + i := by
      rw [List.getElem?_range' il] at e
      have := Option.some.inj e
      omega
    refine ⟨ws[i], by rw [el1, Nat.zero_add]; exact ew, ?_⟩
    rw [ej]
    exact u2.2.2.1)
  rw [show ((0 : Nat) : Int) = 0 from rfl] at nm
  have H2 := RS_ruH (alo := a0) (ahi := amid) c2.1 (nmBI S [] (List.range' j1 ws.length))
  have D2 : dj (ruH h1 pr (nmBI S [] (List.range' j1 ws.length))) tb fl pr a0 amid := D1
  have V12 : hkV a0 amid h1 (ruH h1 pr (nmBI S [] (List.range' j1 ws.length))) := hkV_ru D1
  have q12 : ∀ y, a0 ≤ y → y < amid → eqA y h1 (ruH h1 pr (nmBI S [] (List.range' j1 ws.length))) := fun y d1 d2 => eqA_ru D1 d1 d2
  have Sc2 : SCc (ruH h1 pr (nmBI S [] (List.range' j1 ws.length))) Lsa ((List.range' j1 ws.length).map (tokw S)) := hF_SCc ruH_F (by decide) Sc1
  have zz2 : hz (ruH h1 pr (nmBI S [] (List.range' j1 ws.length))) = hz h1 := rfl
  have e78a : fR (ruH h1 pr (nmBI S [] (List.range' j1 ws.length))) 78 pr = tb := by show fR h1 78 pr = tb; rw [c2.2.2.1.2]; exact e78
  have un : C_1_resolveInstance G pr f (k : Int) h = (om_loop (C_1_resolveGivens_2s G pr so) (0, ruH h1 pr (nmBI S [] (List.range' j1 ws.length)))).bind fun p2 => CRi G pr f p2 := by
    rw [c1, CRi_eq, nm, Option.bind_some, gd_pos ⟨kf1, kp1⟩]
    unfold C_1_resolveGivens
    have e86' : fR (ruH h1 pr (nmBI S [] (List.range' j1 ws.length))) 1286 f = so := e86
    rw [e86']
    cases om_loop (C_1_resolveGivens_2s G pr so) (0, ruH h1 pr (nmBI S [] (List.range' j1 ws.length))) with
    | none => rfl
    | some y => rfl
  rw [un]
  clear un nm
  generalize ruH h1 pr (nmBI S [] (List.range' j1 ws.length)) = h2 at *
  -- the twin's names
  have R0 : fr [784] [702, 778] τ (ua (sc0 τ) 702 ii (ga τ 590 d)) := fr_ua (fr_wide sc0_fr (by simp) (by simp)) (by simp)
  have U0' := (KU_sc U sc0_fr sc0_sc).1
  obtain ⟨U0, eb0⟩ := KU_tab (as := [702]) U0' (fr_ua (σ := sc0 τ) (f := 702) (i := ii) (x := ga τ 590 d) (fr_refl _ _ _) (by simp)) (by decide)
  have eb0' : bp (ua (sc0 τ) 702 ii (ga τ 590 d)) = bp τ := by rw [eb0]; exact (KU_sc U sc0_fr sc0_sc).2
  have e702 : ga (ua (sc0 τ) 702 ii (ga τ 590 d)) 702 ii = (ws.length : Int) := by rw [ga_ua, if_pos ⟨rfl, rfl⟩]; exact e590
  have e702' : ∀ i, i ≠ ii → ga (ua (sc0 τ) 702 ii (ga τ 590 d)) 702 i = ga τ 702 i := fun i hi => by rw [ga_ua, if_neg (fun z => hi z.2)]; rfl
  have l1000 := names_1000 hS tk
  obtain ⟨τ1, sc', n1, n2, n3, n4, n5, n6, n7⟩ := t_nmI (K := K) (n := n) (b := b) (m := m) (f := ii) hN hS hii hd l1000 tk ws.length 0 [] [] (ua (sc0 τ) 702 ii (ga τ 590 d)) (by omega) (by rw [R0.2 586 (by decide), R0.2 590 (by decide)]; exact ⟨e586, e590⟩) U0 rfl ⟨rfl, fun i w L e => (by cases e)⟩ (fun i w _ e => (by cases e))
  rw [Nat.add_zero, List.nil_append] at n5
  rw [Nat.add_zero, eb0'] at n4
  rw [show ((0 : Nat) : Int) = 0 from rfl] at n1
  have sA := scA_bdL hN n5
  generalize hτ0 : ua (sc0 τ) 702 ii (ga τ 590 d) = τ0 at *
  have R2 : fr [] [710] τ1 (ua τ1 710 ii 0) := fr_ua (fr_refl _ _ _) (by simp)
  obtain ⟨U2, eb2⟩ := KU_tab n2 R2 (by decide)
  have e710 : ga (ua τ1 710 ii 0) 710 ii = ((0 : Nat) : Int) := by rw [ga_ua, if_pos ⟨rfl, rfl⟩]; rfl
  have e710' : ∀ i, i ≠ ii → ga (ua τ1 710 ii 0) 710 i = ga τ1 710 i := fun i hi => by rw [ga_ua, if_neg (fun z => hi z.2)]
  have F02 : fr [452, 456, 784] [702, 706, 710, 778] τ (ua τ1 710 ii 0) := fr_trans (fr_wide R0 (by decide) (by decide)) (fr_trans (fr_wide n3 (by decide) (by decide)) (fr_wide R2 (by simp) (by simp)))
  have X02 : tx τ n (ua τ1 710 ii 0) n := tx_same (fun g hg i => F02.2 g (ls_n (by decide) hg) i)
  have w702 : ga (ua τ1 710 ii 0) 702 ii = (ws.length : Int) := by rw [R2.2 702 (by decide), n3.2 702 (by decide)]; exact e702
  have w702' : ∀ i, i ≠ ii → ga (ua τ1 710 ii 0) 702 i = ga τ 702 i := fun i hi => by rw [R2.2 702 (by decide), n3.2 702 (by decide), e702' i hi]
  have w706 : ∀ i w : Nat, i < 2 → sc'[i]? = some w → ga (ua τ1 710 ii 0) 706 (2 * ii + i) = (w : Int) := fun i w hi e => by rw [R2.2 706 (by decide)]; exact n6 i w hi e
  have w706' : ∀ i, (i < 2 * ii ∨ 2 * ii + 2 ≤ i) → ga (ua τ1 710 ii 0) 706 i = ga τ 706 i := fun i hi => by rw [R2.2 706 (by decide), n7 i hi, R0.2 706 (by decide)]
  have w710' : ∀ i, i ≠ ii → ga (ua τ1 710 ii 0) 710 i = ga τ 710 i := fun i hi => by rw [e710' i hi, n3.2 710 (by decide), R0.2 710 (by decide)]
  have w606 : ga τ1 606 d = first := by rw [n3.2 606 (by decide), R0.2 606 (by decide)]; exact e606
  have bp2 : bp (ua τ1 710 ii 0) = mnl (bp τ) (nmBI S [] (List.range' j1 ws.length)) := by rw [eb2]; exact n4
  generalize hτ2 : ua τ1 710 ii 0 = τ2 at *
  have Hn2 : nall lo hi σr τ2 := fun g hg i e1 e2 => (F02.2 g (ls_n (by decide) hg) i).trans (Hn g hg i e1 e2)
  -- the conditions
  have V2 := hkV_trans V1 V12
  have V2f := hkV_F V2
  obtain ⟨u1, u2, u3, _⟩ := V2 so rso.1 rso.2
  obtain ⟨v1, v2, v3, v4, _⟩ := V2 Lg rLg.1 rLg.2
  have nL2 : Lsa ≠ fR h2 122 tb := fun e => by have := D2 Lsa (.inl (.inr (.inl e))); omega
  have sg : sgF h2 pr tb so Lg Lsa ((List.range' j1 ws.length).map (tokw S)) xs := ⟨⟨by rw [u1]; exact s1, by rw [u3 166 (by decide)]; exact s3, by rw [u3 162 (by decide)]; exact s2⟩, ⟨by rw [v1]; exact s4, by rw [v4]; exact s5, gl⟩, ⟨Sc2, nL2⟩, e78a⟩
  have Wg : grows A S b h2 τ2 xs os lo m1 g0 g1 := grows_keepF s6 (hkF_sub V2f (by omega) (by omega)) (fun g hg i e1 e2 => Hn2 g hg i e1 (by omega))
  have ch : chain τ2 (ga τ1 606 d) os := by
    rw [w606]
    exact chain_keep s7 (fun o ho => Hn2 562 (by simp) o (gi.2.2.1 o ho).1 (by have := (gi.2.2.1 o ho).2; omega))
  have plx : ∀ x ∈ xs, fR h2 1346 x = 0 := fun x hx => by
    have := gi.2.2.2.1 x hx
    rw [(V2 x (by omega) (by omega)).2.2.1 1346 (by decide)]
    exact (s8 x hx).2.2.2 trivial
  obtain ⟨h3, ul3, fl3, τ3, n3', BCg, Bg, k1, k2, k3, k4, k5, k6, k7, k8, k9, k10, k11, k12⟩ := gji (G := G) (d := d) (ahi := g1) (hi := m1) (amid := amid) hii rso rLg (by omega) sA xs os 0 lo g0 h2 ul fl [] τ2 n (ga τ1 606 d) Wg plx ch (by omega) H2.1 sg U2 e710 (by omega) rfl rfl ⟨⟨R.1.1, by omega, by have := R.1.2.2.1; omega, hS⟩, D2, by have := R.2.2.1; omega, by have := R.2.2.2; omega⟩
  rw [show ((0 : Nat) : Int) = 0 from rfl] at k1
  rw [k1, Option.bind_some]
  obtain ⟨t1', t2', t3', t4', t5', t6'⟩ := k7
  have z3 := k3.2.1.1.1
  have ll3 := k3.2.1.2.2.2.1
  have V3 := hkV_trans V2 k4
  have V3f := hkV_F V3
  have D3 := dj_CS D2 k3.2.1 (by omega)
  have nL3 : Lsa ≠ fR h3 122 tb := fun e => by have := D3 Lsa (.inl (.inr (.inl e))); omega
  have Hn3 : nall lo hi σr τ3 := fun g hg i e1 e2 => (t2'.2 g (ls_n (by decide) hg) i).trans (Hn2 g hg i e1 e2)
  have F03 : fr [452, 456, 532, 784] ([702, 706, 710, 714, 718, 778] ++ TYA) τ τ3 := fr_trans (fr_wide F02 (by decide) (by decide)) (fr_wide t2' (by decide) (by decide))
  have nfx : f ∉ xs := fun e => by have := grows_kd s6 f e; rw [o1] at this; omega
  have q13 : eqA f h1 h3 := eqA_trans (q12 f rF.1 rF.2) (k6 f rF.1 rF.2 nfx)
  have v3f := (V3 f rF.1 rF.2).2.2.1
  have v3s := V3 so rso.1 rso.2
  have e78c : fR h3 78 pr = tb := by rw [k3.2.2.1.2 78]; exact e78a
  -- the family's line
  have e610 : ga τ3 610 d = dv' 610 := by rw [F03.2 610 (by decide), Hd 610 (by simp)]; exact b8 610 (by simp) (by decide)
  have e614 : ga τ3 614 d = dv' 614 := by rw [F03.2 614 (by decide), Hd 614 (by simp)]; exact b8 614 (by simp) (by decide)
  have fW : (fam = 0 ∧ fw = 0 ∧ m2 = m1 ∧ ga τ3 610 d = -1) ∨ ∃ jf p a1 a2 : Nat, fw ≠ 0 ∧ wd h3 A S fam jf ∧ tokk S jf = 3 ∧ WR A S b h3 τ3 59 m1 m2 a1 a2 fw p ∧ a0 ≤ a1 ∧ a2 ≤ amid ∧ ga τ3 610 d = ((b + jf : Nat) : Int) ∧ ga τ3 614 d = (p : Int) := by
    rcases b6 with ⟨w1, w2, w3, w4⟩ | ⟨jf, kk, p, x1, x2, w1, w2, w3, w4, w5, w6, w7, w8, w9⟩
    · exact .inl ⟨w1, w2, w3, by rw [e610, w4]; exact b9.2.2.2.2.2.2.2.1⟩
    · refine .inr ⟨jf, p, x1, x2, w2, wd_hkF V3f w3.1 (by omega) w4, w5, WR_keepF w6 (hkF_sub V3f (by omega) (by omega)) (nall_nk (fun g hg i e1 e2 => Hn3 g hg i (by omega) (by omega)) (Nat.le_refl _) (Nat.le_refl _)), w7, by omega, ?_, ?_⟩
      · rw [e610, w9]; unfold updD; rw [if_neg (by decide), if_pos rfl]
      · rw [e614, w9]; unfold updD; rw [if_pos rfl]
  obtain ⟨h4, ul4, fl4, τ4, n4', BCf, Bf, a1', a2', a3', a4', a5', a6', a7', a8', a9', a10', a11', a12', a13', a14', a14b, a15', a16', a17'⟩ := fam_res (ii := ii) (a0 := a0) (amid := amid) k3.1 (by rw [(V3 f rF.1 rF.2).1]; exact o1) rF (by rw [v3f 1286 (by decide)]; exact o4) ⟨by rw [v3s.1]; exact s1, by rw [v3s.2.2.1 162 (by decide)]; exact s2⟩ rso ⟨k5, nL3⟩ e78c (by rw [v3f 1310 (by decide)]; exact o8) (by rw [v3f 1298 (by decide)]; exact o7) fW t1' ⟨⟨R.1.1, by omega, by have := R.1.2.2.1; omega, hS⟩, D3, by have := R.2.2.1; omega, by have := R.2.2.2; omega⟩ hii hd
  rw [a1']
  have z4 := a3'.2.1.1.1
  have ll4 := a3'.2.1.2.2.2.1
  have V4 := hkV_trans V3 a4'
  have V4f := hkV_F V4
  have D4 := dj_CS D3 a3'.2.1 (by omega)
  have v4f := (V4 f rF.1 rF.2).2.2.1
  have v4s := V4 so rso.1 rso.2
  have v4L := V4 Lsa rLs.1 rLs.2
  have F04 : fr [452, 456, 532, 784] ([702, 706, 710, 714, 718, 722, 778] ++ TYA) τ τ4 := fr_trans (fr_wide F03 (by decide) (by decide)) (fr_wide a10' (by decide) (by decide))
  have Hn4 : nall lo hi σr τ4 := fun g hg i e1 e2 => (F04.2 g (ls_n (by decide) hg) i).trans (Hn g hg i e1 e2)
  have ell4 : ll h4 Lsa = ws := by rw [v4L.2.2.2.1]; exact b5.2.1
  have nz4 : ∀ w ∈ ll h4 Lsa, w ≠ 0 := fun w hw => by
    rw [ell4] at hw
    have := (wrow_mem b5.2.2 w hw).1
    have := R.1.1
    omega
  -- the head as a type
  obtain ⟨h5, ul5, fl5, d1', d2', d3', d4', d5', d6', d7'⟩ := ri_hd (a0 := a0) (amid := amid) (oc := cnI (tokw S jn)) a3'.1 (by rw [(V4 f rF.1 rF.2).1]; exact o1) rF (by rw [v4f 1286 (by decide)]; exact o4) ⟨by rw [v4s.1]; exact s1, by rw [v4s.2.2.1 162 (by decide)]; exact s2⟩ ⟨rso, rLs⟩ a5' nz4 (by rw [a3'.2.2.1.2 78]; exact e78c) (by rw [a8', q13.2.1]; exact c6) n5 D4 (by omega) (by omega)
  rw [d1']
  have z5 := d2'.2.1.1.1
  have ll5 := d2'.2.1.2.2.2.1
  have V5 := hkV_trans V4 d3'
  have V5f := hkV_F V5
  have D5 := dj_CS D4 d2'.2.1 (by omega)
  have v5f := (V5 f rF.1 rF.2).2.2.1
  have v5s := V5 so rso.1 rso.2
  have v5L := V5 Ll rLl.1 rLl.2
  have e78e : fR h5 78 pr = tb := by rw [d2'.2.2.1.2 78, a3'.2.2.1.2 78]; exact e78c
  have nL5 : Lsa ≠ fR h5 122 tb := fun e => by have := D5 Lsa (.inl (.inr (.inl e))); omega
  have iF : inF h5 pr tb f Ll so Lsa ((List.range' j1 ws.length).map (tokw S)) lsA := ⟨⟨by rw [(V5 f rF.1 rF.2).1]; exact o1, by rw [v5f 1326 (by decide)]; exact o10, by rw [v5f 1286 (by decide)]; exact o4⟩, ⟨by rw [v5L.1]; exact b7.1, by rw [v5L.2.2.2.1]; exact b7.2.1, lls⟩, ⟨by rw [v5s.1]; exact s1, by omega, by rw [v5s.2.2.1 162 (by decide)]; exact s2⟩, ⟨d4', nL5⟩, e78e⟩
  have Ke : KE S b m N K sc' F Ms τ4 n4' := ⟨a9', ⟨by rw [F04.1 788 (by decide)]; exact U.2.1.1, by rw [F04.1 856 (by decide)]; exact U.2.1.2⟩, fun w L e => by rw [F04.2 638 (by decide)]; exact U.2.2 w L e⟩
  have Wl : lrows G A S b h5 τ4 lsA ns m2 hi am amid := lrows_keepF b7.2.2.1 (hkF_sub V5f (by omega) (Nat.le_refl _)) (fun g hg i e1 e2 => Hn4 g hg i (by omega) e2)
  have e602 : ga τ4 602 d = ga σr 602 d := by rw [F04.2 602 (by decide)]; exact Hd 602 (by simp)
  have chl : chain τ4 (ga τ4 602 d) ns := by
    rw [e602]
    exact chain_keep b7.2.2.2.1 (fun o ho => Hn4 562 (by simp) o (by have := (li.2.2.1 o ho).1; omega) (li.2.2.1 o ho).2)
  have nv4 : ∀ i : Nat, m2 ≤ i → i < hi → ((b + j0 : Nat) : Int) ≤ ga τ4 542 i ∧ (ga τ4 538 i = 17 → ((b + j0 : Nat) : Int) ≤ ga τ4 554 i) := fun i e1 e2 => by
    rw [Hn4 542 (by simp) i (by omega) e2, Hn4 538 (by simp) i (by omega) e2, Hn4 554 (by simp) i (by omega) e2]
    exact nv.2 i (by omega) e2
  have zA5 : amid ≤ hz h5 := Nat.le_trans zA (Nat.le_trans z1 (Nat.le_trans (Nat.le_of_eq zz2.symm) (Nat.le_trans z3 (Nat.le_trans z4 z5))))
  obtain ⟨h6, ul6, fl6, τ5, n6', BCl, Bl, e1', e2', e3', e4', e5', e6', e7', e8', e9', e10', e11', e12', e13', e14'⟩ := lj (G := G) (j0 := j0) (a0 := a0) (amid := amid) (ahi := amid) rF lsA ns 0 m2 am h5 ul5 fl5 [] τ4 n4' (ga τ4 602 d) Wl chl r1.2 r6.2 r2.2 r3.2 ⟨r6.1, r2.1, r3.1⟩ (Nat.le_refl _) d2'.1 iF Ke rfl rfl ⟨⟨R.1.1, zA5, R.1.2.2⟩, D5, ar1 R.2.2.1 t4' a13' ⟨r11, r12, r13⟩, ar2 R3 ll3 ll4 ll5 ⟨r11, r12, r13⟩⟩ (Nat.le_trans (Nat.sub_le_sub_left (Nat.le_trans r11 r12) hi) h42) nv4
  rw [show ((0 : Nat) : Int) = 0 from rfl] at e1'
  have F05 : fr [452, 456, 532, 784, 788, 856] IRA τ τ5 := fr_trans (fr_wide F04 (by decide) (by decide)) (fr_wide e6' (by decide) (by decide))
  have R4 := RS_trans (RS_trans (RS_trans c2 H2) k3) a3'
  have R6 := RS_trans (RS_trans R4 d2') e3'
  rw [List.append_nil] at R6
  have gE := k8
  have fE := a15' sA
  have lE := e11' sA
  refine ⟨h6, ul6, fl6, τ5, n6', _, ((nmBI S [] (List.range' j1 ws.length) ++ Bg) ++ Bf) ++ Bl, jc, jn, ws.length, ⟨e578, b3.2.2.2, e582, b4.2.2.2, e590, jc0, jn0⟩, ?_, ?_, RS_le R6 (ar3 ⟨r11, r12, r13⟩) (ar4 ⟨r11, r12, r13⟩) (ar5 ⟨r11, r12, r13⟩), ⟨⟨e5'.1.1, e5'.1.2.1, e5'.1.2.2.1, e5'.1.2.2.2.2.1, e5'.1.2.2.2.2.2⟩, e5'.2.1, e5'.2.2⟩, F05, fun i => ?_, ⟨fun g hg i hi => ?_, fun i hi => ?_, fun g hg i hi => ?_⟩, tx_trans X02 (tx_trans t3' (tx_trans a12' e8')), ar6 t4' a13' e9' ⟨r11, r12, r13⟩, ?_, ?_, ?_, bj_app (bj_app (bj_app (fun y hy => by obtain ⟨j, _, q2⟩ := nmBI_mem hy; exact .inr ⟨j, Nat.zero_le _, q2⟩) t6') a14b) (bj0_of e13'), fun hB hk mx => ?_⟩
  · unfold C_1_resolveInstance_294
    rw [e1', Option.bind_some]
  · unfold T_fillInstance_113
    have iN : ((ii : Int)).toNat = ii := by omega
    have dN : ((d : Int)).toNat = d := by omega
    rw [if_pos (by omega), iN, dN]
    show (om_loop (T_fillInstance_133s (ii : Int) (d : Int)) (0, ua (sc0 τ) 702 ii (ga τ 590 d))).bind _ = _
    rw [hτ0, n1, Option.bind_some, if_pos (by omega), hτ2]
    rw [k2 (fun v => T_fillInstance_404 (ii : Int) (d : Int) v), a2']
    unfold T_fillInstance_467
    rw [if_pos (by omega), dN, e2', Option.bind_some]
  · rcases e7' i with e | e
    · exact .inl ⟨Nat.le_trans (Nat.le_trans r11 r12) e.1, e.2⟩
    · exact .inr (by rw [e, F04.2 550 (by decide)])
  · have hg' : g = 702 ∨ g = 710 ∨ g = 722 := by simpa using hg
    rcases hg' with e | e | e
    · rw [e, e6'.2 702 (by decide), a10'.2 702 (by decide), t2'.2 702 (by decide)]; exact w702' i hi
    · rw [e, e6'.2 710 (by decide), a10'.2 710 (by decide), k11 i hi]; exact w710' i hi
    · rw [e, e6'.2 722 (by decide), a11' i hi, F03.2 722 (by decide)]
  · rw [e6'.2 706 (by decide), a10'.2 706 (by decide), t2'.2 706 (by decide)]; exact w706' i hi
  · have hg' : g = 714 ∨ g = 718 := by simpa using hg
    rcases hg' with e | e
    · rw [e, e6'.2 714 (by decide), a10'.2 714 (by decide), k12 714 (by simp) i (by omega), F02.2 714 (by decide)]
    · rw [e, e6'.2 718 (by decide), a10'.2 718 (by decide), k12 718 (by simp) i (by omega), F02.2 718 (by decide)]
  · rw [e10', a14', t5', bp2, ← mnl_app, ← mnl_app, ← mnl_app]
    simp only [List.append_assoc]
  · simp only [List.append_assoc]
    exact ⟨lb_both lb_refl (lb_both lb_refl (lb_both lb_refl (lb_both lb_refl (lb_both gE.1 (lb_both fE.1 lE.1))))), lb_both lb_refl (lb_both lb_refl (lb_both lb_refl (lb_both lb_refl (lb_both gE.2 (lb_both fE.2 lE.2)))))⟩
  · as_aux_lemma =>
      have nv3 : ∀ i : Nat, lo ≤ i → i < hi → ((b + j0 : Nat) : Int) ≤ ga τ3 542 i := fun i e1 e2 => by rw [Hn3 542 (by simp) i e1 e2]; exact (nv.2 i e1 e2).1
      refine bj_app (bj_app (bj_app (bj_app (bj_app (bj_app (bj_if (Nat.le_refl _)) ?_) ?_) ?_) (k9 j0 (fun i e1 e2 => by rw [Hn2 542 (by simp) i e1 (by omega)]; exact (nv.2 i e1 (by omega)).1))) (a16' j0 (fun i e1 e2 => nv3 i (by omega) (by omega)) ?_)) e12'
      · intro y hy
        unfold icB at hy
        split at hy
        · exact .inr ⟨jc, jc0, List.mem_singleton.mp hy⟩
        · exact absurd hy List.not_mem_nil
      · intro y hy
        unfold inB at hy
        split at hy
        · split at hy
          · exact absurd hy List.not_mem_nil
          · exact .inr ⟨jn, jn0, List.mem_singleton.mp hy⟩
        · exact .inr ⟨jn, jn0, List.mem_singleton.mp hy⟩
      · intro y hy
        obtain ⟨j, q1, q2⟩ := nmBI_mem hy
        rw [List.mem_range'_1] at q1
        rcases j10 with e | e
        · omega
        · exact .inr ⟨j, by omega, q2⟩
      · have := nv.1 610 (by simp)
        rw [F03.2 610 (by decide), Hd 610 (by simp)]
        exact this
  · as_aux_lemma =>
      have hIc : ∀ y ∈ icB S K jc, y = 2147483647 := fun y hy => hB y (List.mem_append_left _ (List.mem_append_left _ hy))
      have hIn : ∀ y ∈ inB S jn ws.length, y = 2147483647 := fun y hy => hB y (List.mem_append_left _ (List.mem_append_right _ hy))
      have hNm : ∀ y ∈ nmBI S [] (List.range' j1 ws.length), y = 2147483647 := fun y hy => hB y (List.mem_append_right _ (List.mem_append_left _ (List.mem_append_left _ (List.mem_append_left _ hy))))
      have hBg : ∀ y ∈ Bg, y = 2147483647 := fun y hy => hB y (List.mem_append_right _ (List.mem_append_left _ (List.mem_append_left _ (List.mem_append_right _ hy))))
      have hBf : ∀ y ∈ Bf, y = 2147483647 := fun y hy => hB y (List.mem_append_right _ (List.mem_append_left _ (List.mem_append_right _ hy)))
      have hBl : ∀ y ∈ Bl, y = 2147483647 := fun y hy => hB y (List.mem_append_right _ (List.mem_append_right _ hy))
      obtain ⟨c0, hc0⟩ : ∃ c0, FI Prod.fst (tokw S jc) K = some c0 := by
        cases e : FI Prod.fst (tokw S jc) K with
        | some c => exact ⟨c, rfl⟩
        | none => exact (tq_max (j := jc) hS (hIc (tokq S jc : Int) (by unfold icB; rw [if_pos e]; simp))).elim
      obtain ⟨cc, hcc, hpc⟩ : ∃ cc, cnI (tokw S jn) = some cc ∧ pN cc = ws.length := by
        cases e : cnI (tokw S jn) with
        | none => exact (tq_max hS (hIn (tokq S jn : Int) (by unfold inB; rw [e]; simp))).elim
        | some c =>
          refine ⟨c, rfl, Decidable.byContradiction (fun z => tq_max hS (hIn (tokq S jn : Int) ?_))⟩
          unfold inB
          rw [e]
          show _ ∈ (if pN c = ws.length then [] else [(tokq S jn : Int)])
          rw [if_neg z]
          simp
      have least : fI h4 112 pr = 2147483647 := by
        rw [R4.2.2.2.1, mx]
        refine mnl_max (fun y hy => ?_)
        rcases List.mem_append.mp hy with hy | hy
        · rcases List.mem_append.mp hy with hy | hy
          · rcases List.mem_append.mp hy with hy | hy
            · rcases List.mem_append.mp hy with hy | hy
              · rcases List.mem_append.mp hy with hy | hy
                · rw [if_pos hk] at hy; exact absurd hy List.not_mem_nil
                · rw [hIc y hy]; exact Int.le_refl _
              · rw [hIn y hy]; exact Int.le_refl _
            · rw [hNm y hy]; exact Int.le_refl _
          · exact lb_max gE.1 hBg y hy
        · exact lb_max fE.1 hBf y hy
      have l162 : ll hr (fR hr 162 (fR hr 1286 f)) = ws := by rw [o4, s2]; exact b5.2.1
      have l166 : ll hr (fR hr 166 (fR hr 1286 f)) = xs := by rw [o4, s3]; exact s5
      have l326 : ll hr (fR hr 1326 f) = lsA := by rw [o10]; exact b7.2.1
      rw [l162, l166, l326]
      have ef6 := e4' f r1.1 r1.2
      have eq36 : ∀ y, a0 ≤ y → y < am → y ≠ f → eqA y h3 h6 := fun y y1 y2 y3 => eqA_trans (a6' y y1 (Nat.lt_of_lt_of_le y2 r10) y3) (eqA_trans (d5' y y1 (Nat.lt_of_lt_of_le y2 r10) y3) (e4' y y1 y2))
      have kf3 : kd h3 f = 21 := by rw [(V3 f rF.1 rF.2).1]; exact o1
      have e10f : fR h6 1310 f = fw := by rw [ef6.2.2.1, d6' 1310 (by decide), a7' 1310 (by decide), v3f 1310 (by decide)]; exact o8
      have e98f : fR h6 1298 f = fam := by rw [ef6.2.2.1, d6' 1298 (by decide), a7' 1298 (by decide), v3f 1298 (by decide)]; exact o7
      obtain ⟨y1', y2', y3'⟩ := k10 hBg
      obtain ⟨fm1, fm2⟩ := a17' sA hBf
      have gvw : ∀ x ∈ xs, fR h6 1338 x = fR hr 1338 x ∧ fR h6 1342 x = fR hr 1342 x := fun x hx => by
        have xr := gi.2.2.2.1 x hx
        have xr1 : a0 ≤ x := Nat.le_trans r7 xr.1
        have xr2 : x < am := Nat.lt_of_lt_of_le xr.2 r8
        have e := eq36 x xr1 xr2 (fun z => by have := grows_kd s6 x hx; rw [z, o1] at this; exact absurd this (by decide))
        have x3' := (V3 x xr1 (Nat.lt_of_lt_of_le xr2 r10)).2.2.1
        exact ⟨by rw [e.2.2.1, x3' 1338 (by decide)], by rw [e.2.2.1, x3' 1342 (by decide)]⟩
      refine ⟨j1, ns, ?_, ⟨gvw, by rw [e98f, o7], by rw [e10f, o8], _, _, b5.2.2, nmBI_nd hS hNm List.nodup_nil⟩, sc', c0, cc, ⟨hc0, ?_⟩, ⟨hcc, by rw [lr]; exact hpc, ?_⟩, n5, ⟨?_, fun i w hi e => ?_⟩, ⟨?_, by rw [Nat.zero_add] at y2'; exact y2', fun i x e => ?_⟩, ⟨fun z => ?_, fun z => ?_⟩, ?_, fun i x e => ?_⟩
      · rw [e6'.2 602 (by decide)]
        exact chain_keep chl (fun o _ => e6'.2 562 (by decide) o)
      · rw [ef6.2.2.1, d6' 1302 (by decide), a7' 1302 (by decide), q13.2.2.1, c5, hc0]; rfl
      · rw [ef6.2.1, d7'.1, a8', q13.2.1, c6, hcc]; rfl
      · rw [lr, e6'.2 702 (by decide), a10'.2 702 (by decide), t2'.2 702 (by decide)]; exact w702
      · rw [e6'.2 706 (by decide), a10'.2 706 (by decide), t2'.2 706 (by decide)]; exact w706 i w hi e
      · rw [e6'.2 710 (by decide), a10'.2 710 (by decide), y1', Nat.zero_add]
      · have g0' := y3' i x e
        rw [Nat.zero_add] at g0'
        have hx := List.mem_of_getElem? e
        have xr := gi.2.2.2.1 x hx
        have xr1 : a0 ≤ x := Nat.le_trans r7 xr.1
        have xr2 : x < am := Nat.lt_of_lt_of_le xr.2 r8
        refine CdK_keep g0' (eq36 x xr1 xr2 (fun z => by have := grows_kd s6 x hx; rw [z, o1] at this; exact absurd this (by decide))) (fun w' hw => ?_) (fun g hg => by
          have hg' : g = 714 ∨ g = 718 := by simpa using hg
          rcases hg' with e | e
          · rw [e, e6'.2 714 (by decide), a10'.2 714 (by decide)]
          · rw [e, e6'.2 718 (by decide), a10'.2 718 (by decide)])
        have hw' := grows_wd s6 x hx
        obtain ⟨x1', x2', x3', _⟩ := V3 x xr1 (Nat.lt_of_lt_of_le xr2 r10)
        rw [x3' 1338 (by decide), x3' 1342 (by decide)] at hw
        have hw2 : w' = fR hr 1338 x ∨ w' = fR hr 1342 x := by simpa using hw
        have wr' : g0 ≤ w' ∧ w' < g1 ∧ kd hr w' = 17 := by
          rcases hw2 with e | e
          · rw [e]; exact hw'.1
          · rw [e]; exact hw'.2
        exact eq36 w' (Nat.le_trans r7 wr'.1) (Nat.lt_of_lt_of_le wr'.2.1 r8) (fun z => by rw [z, o1] at wr'; exact absurd wr'.2.2 (by decide))
      · rw [e6'.2 722 (by decide)]
        rw [e10f] at z
        exact fm1 z
      · rw [e10f] at z
        obtain ⟨⟨jf, w1, w2⟩, T, T1, T2, T3, p', T4, T5⟩ := fm2 z
        have fr' := famr z
        refine ⟨⟨jf, ?_, w2⟩, T, T1, ?_, ?_, ?_⟩
        · rw [e98f]
          exact wd_eqA (eq36 fam fr'.1 fr'.2 (fun z => by have := w1.1; rw [z, kf3] at this; exact absurd this (by decide))) w1
        · rw [ef6.2.2.1, d6' 1314 (by decide)]
          exact e3'.2.1.2.2.2.2.2.1 T _ (d2'.2.1.2.2.2.2.2.1 T _ T2)
        · rw [e6'.2 722 (by decide)]
          exact tyT_mono e8' T3
        · rcases b6 with q | ⟨jf', kk, p, x1, x2, v1, v2, v3, v4, v5, v6, v7, v8, v9⟩
          · exact absurd q.2.1 z
          · have e614' : ga τ3 614 d = (p : Int) := by rw [e614, v9]; unfold updD; rw [if_pos rfl]
            have pp : p' = p := Int.ofNat.inj (T4.symm.trans e614')
            rw [pp] at T5
            have n5 := fam_n e7' e6' Hn4 r13
            rw [e10f]
            exact ⟨p, m1, m2, x1, x2, (e6'.2 614 (by decide) d).trans ((a10'.2 614 (by decide) d).trans e614'), ⟨r11, r13, v7, Nat.le_trans v8 r10⟩, fam_W v6 V5f e4' n5 r11 v7 v8 r10, fam_R T5 n5 (fun g hg i i1 i2 => Hn3 g hg i i1 (Nat.lt_of_lt_of_le i2 r13)) r11 (fun e => Int.le_antisymm a9'.2.2.2.2.2 (by rw [← e, e10']; exact mnl_le.1))⟩
      · rw [ef6.2.2.1]
        exact e3'.2.1.2.2.2.2.2.1 _ _ (d7'.2 cc hcc least)
      · obtain ⟨lo', hi', al, ah, p, z0, o, ⟨w1, w2, w3, w4, w5, ⟨l1, l2, l3⟩, l4, l5⟩, w6, w7, w8⟩ := e14' sA hBl i x e
        exact ⟨lo', hi', al, ah, p, z0, o, ⟨Nat.le_trans (Nat.le_trans r11 r12) w1, w2, Nat.le_trans (Nat.le_trans r1.1 (Nat.le_of_lt r1.2)) w3, w4, Nat.le_trans (Nat.le_trans z1 (Nat.le_trans (Nat.le_of_eq zz2.symm) (Nat.le_trans z3 (Nat.le_trans z4 z5)))) w5, ⟨l1, l2, Nat.le_trans (Nat.le_trans r1.1 (Nat.le_of_lt r1.2)) l3⟩, l4, l5⟩, w6, w7, w8⟩
end LIN
