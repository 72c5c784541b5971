set_option maxRecDepth 100000
/-! RESOLVE: an inst in both; an inst that is one too many -/
section LI2
variable {G : om_G} {A : Nat} {S : List Int} {b m : Nat} {N : List (List Int)} {cs : List Nat} {K : KT} {pr Ln : Nat} {Ls : List (List Int)} {sc : List Nat} {tb : Nat} {rest : List (Nat × List Nat)} {fo : List Nat} {F : FT} {mo : List (List Nat)} {Ms : List FT}
variable {h h' h2 hr : om_H} {ul fl ul' fl' : List Nat} {σ τ υ σr : tS} {n n' q z u lo hi alo ahi a0 amid a c w k : Nat} {B B2 : List Int} {X : Int} {L : List Int}
theorem insR_j {f d j0 : Nat} {nb : Int} (W : insR G A S b hr σr lo hi a0 amid f d j0 nb) : ∃ jc jn len : Nat, ga σr 578 d = ((b + jc : Nat) : Int) ∧ tokk S jc = 3 ∧ ga σr 582 d = ((b + jn : Nat) : Int) ∧ tokk S jn = 3 ∧ ga σr 590 d = (len : Int) := by
  obtain ⟨so, Lsa, Lg, Lh, Ll, cn, con, fam, fw, j1, jc, jn, m1, m2, g0, g1, g2, am, first, xs, os, ws, lsA, ns, dv, dv', b1, b2, b3, b4, b5, b6, b7, b8, b9, b10⟩ := W
  have dvE : ∀ g, g ≠ 610 → g ≠ 614 → dv' g = dv g := fun g h1 h2 => by
    rcases b6 with z | ⟨jf, kk, p, x1, x2, _, _, _, _, _, _, _, _, z⟩
    · rw [z.2.2.2]
    · rw [z]; unfold updD; rw [if_neg h2, if_neg h1]
  exact ⟨jc, jn, ws.length, by rw [b8 578 (by simp) (by decide), dvE 578 (by decide) (by decide)]; exact b9.2.2.1, b3.2.2.2, by rw [b8 582 (by simp) (by decide), dvE 582 (by decide) (by decide)]; exact b9.2.2.2.1, b4.2.2.2, by rw [b8 590 (by simp) (by decide), dvE 590 (by decide) (by decide)]; exact b9.2.2.2.2.2.1⟩
theorem bj_ib (S : List Int) (K : KT) (jc jn len : Nat) : bj S 0 (icB S K jc ++ inB S jn len) := by
  refine bj_app (fun y hy => ?_) (fun y hy => ?_)
  · unfold icB at hy
    split at hy
    · exact .inr ⟨jc, Nat.zero_le _, List.mem_singleton.mp hy⟩
    · exact absurd hy List.not_mem_nil
  · unfold inB at hy
    split at hy
    · split at hy
      · exact absurd hy List.not_mem_nil
      · exact .inr ⟨jn, Nat.zero_le _, List.mem_singleton.mp hy⟩
    · exact .inr ⟨jn, Nat.zero_le _, List.mem_singleton.mp hy⟩
/-- AN INST BECOMES KNOWN ALIKE -/
theorem ins_res {f d j0 ii : Nat} {nb : Int} (em : tokk S m = 0) (hm : m ≤ 1300) (W : insR G A S b hr σr lo hi a0 amid f d j0 nb) (nv : nvR ((b + j0 : Nat) : Int) lo hi d σr) (V : hkV a0 amid hr h) (Hn : nall lo hi σr τ) (Hd : ∀ g ∈ DA, ga τ g d = ga σr g d) (H : RX G A S N cs K pr tb rest fo F mo Ms h ul fl) (U : TU S b m N K F Ms τ n) (R : KR S lo hi a0 amid pr tb h ul fl n) (R3 : tl ul fl + (hi - lo) + 3 ≤ 149000) (e78 : fR h 78 pr = tb) (h42 : hi - lo ≤ 4200) (hd : d < 700) (hk : k < 20) (hii : ii < 20) (e690 : ga τ 690 ii = (d : Int)) :
    ∃ (h' : om_H) (ul' fl' : List Nat) (τ' : tS) (n' : Nat) (BC B : List Int), C_1_resolveInstance G pr f (k : Int) h = some h' ∧ T_fillInstance (ii : Int) τ = some τ' ∧ RS G A S N cs K pr tb rest fo F mo Ms a0 amid h ul fl h' ul' fl' (hi - lo + 3) (8 * (hi - lo)) (300 * (hi - lo)) BC ∧ TU S b m N K F Ms τ' n' ∧ fr [452, 456, 532, 784, 788, 856] (694 :: 698 :: IRA) τ τ' ∧ (∀ i, (lo ≤ i ∧ i < hi) ∨ ga τ' 550 i = ga τ 550 i) ∧ ((∀ g ∈ [694, 698, 702, 710, 722], ∀ i, i ≠ ii → ga τ' g i = ga τ g i) ∧ (∀ i, (i < 2 * ii ∨ 2 * ii + 2 ≤ i) → ga τ' 706 i = ga τ 706 i) ∧ ∀ g ∈ [714, 718], ∀ i, (i < 4 * ii ∨ 4 * ii + 4 ≤ i) → ga τ' g i = ga τ g i) ∧ tx τ n τ' n' ∧ n' ≤ n + (hi - lo) ∧ bp τ' = mnl (bp τ) B ∧ bj S 0 B ∧ lbE BC B ∧
      ((∀ y ∈ B, y = 2147483647) → fI h 112 pr = 2147483647 → ∃ (j1 jc jn c0 c1 : Nat) (ns : List Nat), (FI Prod.fst (tokw S jc) K = some c0 ∧ ga τ' 694 ii = (c0 : Int)) ∧ (cnI (tokw S jn) = some c1 ∧ ga τ' 698 ii = (c1 : Int)) ∧ chain τ' (ga τ' 602 d) ns ∧ ((∀ x ∈ ll hr (fR hr 166 (fR hr 1286 f)), fR h' 1338 x = fR hr 1338 x ∧ fR h' 1342 x = fR hr 1342 x) ∧ fR h' 1298 f = fR hr 1298 f ∧ fR h' 1310 f = fR hr 1310 f ∧ (∃ y0 y1, wrow A S hr y0 y1 j1 (ll hr (fR hr 162 (fR hr 1286 f))) ∧ ((List.range' j1 (ll hr (fR hr 162 (fR hr 1286 f))).length).map (tokw S)).Nodup)) ∧ InK G A S b N cs K rest fo F mo Ms h' ul' τ' n' f ii d (hz h) lo hi a0 amid jc jn ((List.range' j1 (ll hr (fR hr 162 (fR hr 1286 f))).length).map (tokw S)) (ll hr (fR hr 166 (fR hr 1286 f))) (ll hr (fR hr 1326 f)) ns) := by
  obtain ⟨jc, jn, len, i1, i2, i3, i4, i5⟩ := insR_j W
  obtain ⟨υ, t1, t2, t3, t4, t5, t6⟩ := t_ihead (d := d) U R.1.2.2.2 hii hd e690 (by rw [Hd 578 (by simp)]; exact i1) i2 (by rw [Hd 582 (by simp)]; exact i3) i4 (by rw [Hd 590 (by simp)]; exact i5)
  have Hn' : nall lo hi σr υ := fun g hg i e1 e2 => (t3.2 g (by simp only [List.mem_cons, List.not_mem_nil, or_false] at hg ⊢; omega) i).trans (Hn g hg i e1 e2)
  have Hd' : ∀ g ∈ DA, ga υ g d = ga σr g d := fun g hg => (t3.2 g (by simp only [List.mem_cons, List.not_mem_nil, or_false] at hg ⊢; omega) d).trans (Hd g hg)
  obtain ⟨h', ul', fl', τ', n', BC, B, jc', jn', len', ⟨j1, j2, j3, j4, j5, j6, j7⟩, c1, c2, c3, c4, c5, c6, ⟨c7, c8, c9⟩, c10, c11, c12, c13, c14, c14b, c15⟩ := ins_core (k := k) em hm W nv V Hn' Hd' H t2 R R3 e78 h42 hd hii
  rw [Hd' 578 (by simp), i1] at j1
  rw [Hd' 582 (by simp), i3] at j3
  rw [Hd' 590 (by simp), i5] at j5
  have ejc : jc' = jc := by omega
  have ejn : jn' = jn := by omega
  have eln : len' = len := by omega
  rw [ejc, ejn, eln, if_pos hk, List.nil_append] at c13
  rw [ejc, ejn, eln] at c15
  have X1 : tx τ n υ n := tx_same (fun g hg i => t3.2 g (fun z => by simp only [List.mem_cons, List.not_mem_nil, or_false] at z hg; omega) i)
  have F1 : fr [452, 456, 532, 784, 788, 856] (694 :: 698 :: IRA) τ τ' := fr_trans (fr_wide t3 (by decide) (by decide)) (fr_wide c5 (fun _ h => h) (fun _ h => List.mem_cons_of_mem _ (List.mem_cons_of_mem _ h)))
  refine ⟨h', ul', fl', τ', n', BC, (icB S K jc ++ inB S jn len) ++ B, c1, by rw [t1]; exact c2, c3, c4, F1, fun i => ?_, ⟨fun g hg i hi' => ?_, fun i hi' => ?_, fun g hg i hi' => ?_⟩, tx_trans X1 c10, c11, by rw [c12, t4, ← mnl_app], bj_app (bj_ib S K jc jn len) c14b, c13, fun hB mx => ?_⟩
  · rcases c6 i with e | e
    · exact .inl e
    · exact .inr (by rw [e, t3.2 550 (by decide)])
  · have hg' : g = 694 ∨ g = 698 ∨ g = 702 ∨ g = 710 ∨ g = 722 := by simpa using hg
    rcases hg' with e | e | e
    · rw [e, c5.2 694 (by decide)]; exact t5.2 i hi'
    · rw [e, c5.2 698 (by decide)]; exact t6.2 i hi'
    · rw [c7 g (by rcases e with e | e | e <;> rw [e] <;> simp) i hi', t3.2 g (by rcases e with e | e | e <;> rw [e] <;> decide)]
  · rw [c8 i hi', t3.2 706 (by decide)]
  · rw [c9 g hg i hi']
    have hg' : g = 714 ∨ g = 718 := by simpa using hg
    rcases hg' with e | e <;> rw [e, t3.2 _ (by decide)]
  · obtain ⟨j1', ns, k1, k3, k2⟩ := c15 hB hk mx
    obtain ⟨sc', c0, cc, ⟨y1, y1'⟩, ⟨y2, y2'⟩, y3⟩ := id k2
    exact ⟨j1', jc, jn, c0, cc, ns, ⟨y1, by rw [c5.2 694 (by decide)]; exact t5.1 c0 y1⟩, ⟨y2, by rw [c5.2 698 (by decide)]; exact t6.1 cc y2⟩, k1, k3, k2⟩
/-- AN INST in the component alone -/
theorem ins_alone {f d j0 : Nat} {nb : Int} (em : tokk S m = 0) (hm : m ≤ 1300) (W : insR G A S b hr σr lo hi a0 amid f d j0 nb) (nv : nvR ((b + j0 : Nat) : Int) lo hi d σr) (V : hkV a0 amid hr h) (Hn : nall lo hi σr τ) (Hd : ∀ g ∈ DA, ga τ g d = ga σr g d) (H : RX G A S N cs K pr tb rest fo F mo Ms h ul fl) (U : TU S b m N K F Ms τ n) (R : KR S lo hi a0 amid pr tb h ul fl n) (R3 : tl ul fl + (hi - lo) + 3 ≤ 149000) (e78 : fR h 78 pr = tb) (h42 : hi - lo ≤ 4200) (hd : d < 700) (hk : ¬ k < 20) :
    ∃ (h' : om_H) (ul' fl' : List Nat) (BC : List Int), C_1_resolveInstance G pr f (k : Int) h = some h' ∧ RS G A S N cs K pr tb rest fo F mo Ms a0 amid h ul fl h' ul' fl' (hi - lo + 3) (8 * (hi - lo)) (300 * (hi - lo)) BC ∧ lbE BC [(tokq S j0 : Int)] := by
  obtain ⟨h', ul', fl', τ', n', BC, B, jc', jn', len', _, c1, c2, c3, c4, c5, c6, _, c10, c11, c12, c13, c14, c14b, c15⟩ := ins_core (k := k) (ii := 0) em hm W nv V Hn Hd H U R R3 e78 h42 hd (by omega)
  rw [if_neg hk] at c13
  exact ⟨h', ul', fl', BC, c1, c3, bj_lb R.1.2.2.2 c14, fun y hy => c13.2 y (List.mem_append_left _ (List.mem_append_left _ (List.mem_append_left _ hy)))⟩
end LI2
