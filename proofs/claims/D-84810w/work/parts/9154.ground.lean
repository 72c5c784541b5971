set_option maxRecDepth 100000
/-- the last one of a row of nodes -/
def lastOf (ns : List Nat) (last f : Int) : Prop := (ns = [] ∧ last = -1 ∧ f = -1) ∨ ∃ (ns' : List Nat) (l : Nat), ns = ns' ++ [l] ∧ last = (l : Int)
section LG
variable {G : om_G} {A t : Nat} {N : List (List Int)} {S : List Int} {b m : Nat} {n : Int} {rT : tS → Option (Int × tS)} {rC : Nat → om_H → Option ((Nat ⊕ Nat) × om_H)}
/-- a great whose pieces are being read, since the state σb and the heap hb, at the token i; its first piece's token is i1 -/
def Gst (B : Nat) (G : om_G) (A t : Nat) (S : List Int) (b : Nat) (σb : tS) (hb : om_H) (n0 a0 L w i1 i M : Nat) (σ : tS) (h : om_H) (last : Int) : Prop :=
  ∃ (ns : List Nat) (k amid : Nat), n0 < M ∧ ga σ 562 n0 = -1 ∧ ga σ 538 n0 = 1 ∧ ga σ 542 n0 = ((b + (i1 - 1) : Nat) : Int) ∧ chain σ (ga σ 546 n0) ns ∧ lastOf ns last (ga σ 546 n0) ∧
    hz hb ≤ a0 ∧ hz hb ≤ L ∧ hz hb ≤ w ∧ a0 < amid ∧ L < amid ∧ w < amid ∧ a0 ≠ L ∧ amid ≤ hz h ∧ t < hz hb ∧ kd h a0 = 20 ∧ fR h 1274 a0 = L ∧ fR h 1266 a0 = w ∧ fI h 1271 a0 = 1 ∧ wd h A S w (i1 - 1) ∧ kd h L = 42 ∧ (ll h L).length ≤ lc h L ∧ lc h L ≤ 2 * (ll h L).length + 10 ∧ (∀ y ∈ ll h L, kd h y = 20) ∧
    rows2 (WR A S b h σ (B + 1)) (ll h L) ns (n0 + 1) M amid (hz h) ∧ nd σb σ n0 ∧ hx t hb h ∧ (ll h L).length ≤ i - i1 ∧ i1 ≤ i ∧ hz h ≤ hz hb + 3 + 8 * (i - i1) ∧ hu h + 30 * (ll h L).length ≤ hu hb + 9 + 100 * (i - i1) + 4 * lc h L
/-- the twin's link to a new piece -/
theorem link_step {n0 M M' nT : Nat} {σ τ : tS} {last : Int} {ns : List Nat} (D : nd σ τ M) (hn0 : n0 < M) (hM : M ≤ nT ∧ nT < M') (h84 : M' ≤ 8400) (hnx : ga τ 562 nT = -1) (hin : ∀ x ∈ ns, n0 < x ∧ x < M) (hp : ns.Pairwise (· < ·))
    (hc : chain σ (ga σ 546 n0) ns) (hl : lastOf ns last (ga σ 546 n0)) :
    ∃ υ, (if last ≠ (-1) then if 0 ≤ last ∧ last < 8400 then (some (Sum.inl ((nT : Int), (ua τ 562 last.toNat (nT : Int)))) : Option ((Int × tS) ⊕ tS)) else none else if 0 ≤ (n0 : Int) ∧ (n0 : Int) < 8400 then (some (Sum.inl ((nT : Int), (ua τ 546 ((n0 : Int)).toNat (nT : Int))))) else none) = some (.inl ((nT : Int), υ)) ∧
      chain υ (ga υ 546 n0) (ns ++ [nT]) ∧ (∀ f, gs υ f = gs τ f) ∧ (∀ f ∈ PA, f ≠ 546 → f ≠ 562 → ∀ i, ga υ f i = ga τ f i) ∧ (∀ i, i ≠ n0 → ga υ 546 i = ga τ 546 i) ∧ (∀ i, i ∉ ns → ga υ 562 i = ga τ 562 i) ∧ fr [] [546, 562] τ υ := by
  rcases hl with ⟨rfl, rfl, h3⟩ | ⟨ns', l, rfl, rfl⟩
  · refine ⟨ua τ 546 n0 (nT : Int), ?_, ?_, fun _ => rfl, fun f _ c _ i => ?_, fun i c => ?_, fun i _ => ?_, fr_ua (fr_refl _ _ _) (by simp)⟩
    · rw [if_neg (by simp), if_pos ⟨by omega, by omega⟩, show ((n0 : Int)).toNat = n0 by omega]
    · rw [ga_ua, if_pos ⟨rfl, rfl⟩]
      refine ⟨rfl, ?_⟩
      rw [ga_ua, if_neg (by simp)]
      exact hnx
    · rw [ga_ua, if_neg (fun z => c z.1)]
    · rw [ga_ua, if_neg (fun z => c z.2)]
    · rw [ga_ua, if_neg (by simp)]
  · have hlm := hin l (by simp)
    have h46 : ga (ua τ 562 l (nT : Int)) 546 n0 = ga σ 546 n0 := by rw [ga_ua, if_neg (by simp)]; exact D.2 546 (by simp) n0 hn0
    refine ⟨ua τ 562 l (nT : Int), ?_, ?_, fun _ => rfl, fun f _ _ c i => ?_, fun i _ => ?_, fun i c => ?_, fr_ua (fr_refl _ _ _) (by simp)⟩
    · rw [if_pos (by omega), if_pos ⟨by omega, by omega⟩, show ((l : Int)).toNat = l by omega]
    · rw [h46]
      refine chain_app ?_ hc (fun x hx => ?_) ?_
      · rw [ga_ua, if_neg (by omega)]; exact hnx
      · have hlt : x < l := by
          have := (List.pairwise_append.mp hp).2.2 x hx l (by simp)
          exact this
        have := hin x (List.mem_append_left _ hx)
        rw [ga_ua, if_neg (by omega)]
        exact D.2 562 (by simp) x (by omega)
      · rw [ga_ua, if_pos ⟨rfl, rfl⟩]
    · rw [ga_ua, if_neg (fun z => c z.1)]
    · rw [ga_ua, if_neg (by simp)]
    · rw [ga_ua, if_neg]
      intro z
      exact c (by rw [z.2]; simp)
set_option maxHeartbeats 4000000 in
theorem ground_step {B : Nat} (hG : om_okG G) (R : RTall (B + 1) G A t N S b m n rT rC) (RF : RFall N S b m n 1 rT) {i M i1 : Nat} {σ σb : tS} {h hb : om_H} {n0 a0 L w : Nat} {last : Int} (H : Tst σ N S b m i n M) (K : Cst G h t S i n) (hA : fR h 1122 t = A) (hM : M + (m - i) + 60 ≤ 8400) (Q : Gst B G A t S b σb hb n0 a0 L w i1 i M σ h last)
    (hc : tokk S i = 3 ∨ tokk S i = 2 ∨ tokk S i = 40) :
    (∃ (j M' : Nat) (τ : tS) (h' : om_H) (last' : Int), i < j ∧ T_ground_39s rT (n0 : Int) (last, σ) = some (.inl (last', τ)) ∧ C_0_readGround_31s G rC t a0 h = some (.inl h') ∧ Tst τ N S b m j n M' ∧ Cst G h' t S j n ∧ fR h' 1122 t = A ∧ M' + (m - j) + 60 ≤ 8400 ∧ Gst B G A t S b σb hb n0 a0 L w i1 j M' τ h' last' ∧ M' ≤ M + (j - i) ∧ M ≤ M') ∨
    (∃ (jf M' : Nat) (τ : tS) (e : Nat) (h' : om_H), i ≤ jf ∧ jf ≤ m ∧ om_loop (T_ground_39s rT (n0 : Int)) (last, σ) = some τ ∧ C_0_readGround_31s G rC t a0 h = some (.inr (.inr (.inl e, h'))) ∧ Tfl τ N S b m (tokq S jf) n M' ∧ nd σb τ n0 ∧ hx t hb h' ∧ flt h' e 1 (tokq S jf) ∧ M ≤ M' ∧ M' ≤ M + (jf - i) + 3 ∧ hz h' ≤ hz hb + 8 * (jf - i1) + 11 ∧ hu h' ≤ hu hb + 100 * (jf - i1) + 149) := by
  obtain ⟨ns, k, amid, g1, g2, g3, g4, g5, g6, g7, g8, g9, g10, g11, g12, g13, g14, g15, g16, g17, g18, g19, g20, g21, g22, g23, g24, g25, g26, g27, g28, g29, g30, g31⟩ := Q
  have ht := K.2.2.1
  have hz1 := g27.1
  have rin := rows2_in (fun w => WR_in w) g25
  have h3 := Cst_kind hG K (e := 3) (by decide)
  have h2 := Cst_kind hG K (e := 2) (by decide)
  have s3 := kE_s (tokk_r S i).1 (e := 3) (by decide)
  have s2 := kE_s (tokk_r S i).1 (e := 2) (by decide)
  have hC : C_0_readGround_31s G rC t a0 h = C_0_readGround_60 G rC t a0 h := by
    unfold C_0_readGround_31s
    rw [gd_pos (Cst_kd K), gd_pos (Cst_kd K), gd_pos (Cst_kd K)]
    by_cases c3 : tokk S i = 3
    · rw [if_pos (h3.mpr (s3.mpr c3))]
    · rw [if_neg (fun z => c3 (s3.mp (h3.mp z)))]
      by_cases c2 : tokk S i = 2
      · rw [if_pos (h2.mpr (s2.mpr c2))]
      · rw [if_neg (fun z => c2 (s2.mp (h2.mp z))), c_isSign hG K (v := 40) (.inr (.inr (by omega))), if_pos (by show tokk S i = 40; omega)]
        simp
  have hP : T_isPiece σ = some 1 := by rw [t_isPiece H, if_pos hc]
  have hT : T_ground_39s rT (n0 : Int) (last, σ) = (T_piece rT σ).bind fun p2 => if last ≠ (-1) then if 0 ≤ last ∧ last < 8400 then (some (.inl (p2.1, ((ua p2.2 562 last.toNat p2.1))))) else none else if 0 ≤ (n0 : Int) ∧ (n0 : Int) < 8400 then (some (.inl (p2.1, ((ua p2.2 546 ((n0 : Int)).toNat p2.1))))) else none := by
    unfold T_ground_39s
    simp only
    rw [hP]
    simp
  rw [hC]
  unfold C_0_readGround_60
  rw [gd_pos g16, g17]
  rcases piece_rel hG R RF H K hA hM with ⟨j, M1, τ1, a, nT, h1, k1, q1, q2, q3, q4, q5, q6, q7, q8, q9, q10, qn, q11, q12, q13, q14⟩ | ⟨jf, M1, τ1, x, e, h1, q1, q2, q3, q4, q5, q6, q7, q8, q9, q10, q11, q12⟩
  · have wi := WR_in q10
    obtain ⟨υ, l1, l2, l3, l4, l5, l6, l7⟩ := link_step (last := last) q6 g1 ⟨wi.1, wi.2.1⟩ (by omega) qn (fun x hx => by have := rin.2.2.1 x hx; omega) rin.2.2.2.2 g5 g6
    obtain ⟨c0, c1, c2, c3, c4, c5, c6, c7, c8, c9⟩ := q8
    have hLt : L ≠ t := by omega
    have ha0t : a0 ≠ t := by omega
    have e42 : kd h1 L = 42 := by rw [c2 L (by omega)]; exact g21
    have ell : ll h1 L = ll h L := c8 L (by omega)
    have elc : lc h1 L = lc h L := c9 L (by omega)
    have o1 : okL G h1 L := ⟨e42, by rw [ell, elc]; exact g22, by rw [ell, elc]; exact g23, fun y hy => by
      rw [ell] at hy
      exact om_obj_kd (K := 20) (by decide) (by decide) (by rw [c2 y (by have := rin.2.2.2.1 y hy; omega)]; exact g24 y hy)⟩
    have ka : kd h1 a = 20 := by
      exact q10.2.2.2.2.1
    have hnl : (ll h1 L).length ≤ 100000 := by rw [ell]; have := H.1.2.1; omega
    have ad := c_add (x := a) o1 (om_obj_kd (K := 20) (by decide) (by decide) ka) hnl
    obtain ⟨r1, r2, r3, r4, r5, r6, r7⟩ := addL_room h1 L a o1.2.1 o1.2.2.1
    refine .inl ⟨j, M1, υ, addL h1 L a, (nT : Int), q1, ?_, ?_, ?_, ?_, ?_, by omega, ?_, by omega, by omega⟩
    · rw [hT, q3]
      simp only [Option.bind_some]
      exact l1
    · rw [q4]
      simp only [xc_v]
      rw [gd_pos e42, ad]
      rfl
    · have A1 : fr PF PA τ1 υ := fr_mono l7 (by simp) (by simp)
      exact ⟨TT_fr A1 q5.1, by rw [l3]; exact q5.2.1, q5.2.2.1, by rw [l3]; exact q5.2.2.2.1, by rw [l3]; exact q5.2.2.2.2.1, by rw [l3]; exact q5.2.2.2.2.2⟩
    · exact Cst_add q7 e42 o1.2.1 o1.2.2.1
    · rw [addL_fR]; exact q9
    · refine ⟨ns ++ [nT], k, amid, by omega, ?_, ?_, ?_, l2, .inr ⟨ns, nT, rfl, rfl⟩, g7, g8, g9, g10, g11, g12, g13, by omega, g15, ?_, ?_, ?_, ?_, ?_, ?_, ?_, ?_, ?_, ?_, ?_, ?_, ?_, by omega, ?_, ?_⟩
      · rw [l6 n0 (fun z => by have := rin.2.2.1 n0 z; omega), q6.2 562 (by simp) n0 g1]; exact g2
      · rw [l4 538 (by simp) (by decide) (by decide), q6.2 538 (by simp) n0 g1]; exact g3
      · rw [l4 542 (by simp) (by decide) (by decide), q6.2 542 (by simp) n0 g1]; exact g4
      · rw [addL_kd _ _ _ _ e42, c2 a0 (by omega)]; exact g16
      · rw [addL_fR, c4 _ a0 (by omega) ha0t]; exact g17
      · rw [addL_fR, c4 _ a0 (by omega) ha0t]; exact g18
      · rw [addL_fI, c3 _ a0 (by omega) ha0t]; exact g19
      · obtain ⟨d1, d2, d3, d4⟩ := g20
        exact ⟨by rw [addL_kd _ _ _ _ e42, c2 w (by omega)]; exact d1, by rw [addL_fR, c4 _ w (by omega) (by omega)]; exact d2, by rw [addL_fI, c3 _ w (by omega) (by omega)]; exact d3, by rw [addL_fI, c3 _ w (by omega) (by omega)]; exact d4⟩
      · rw [addL_kd _ _ _ _ e42]; exact e42
      · rw [addL_ll _ _ _ _ o1.2.1, if_pos rfl]; simp; omega
      · rw [addL_ll _ _ _ _ o1.2.1, if_pos rfl]; simp; omega
      · intro y hy
        rw [addL_ll _ _ _ _ o1.2.1, if_pos rfl, ell] at hy
        rw [addL_kd _ _ _ _ e42]
        rcases List.mem_append.mp hy with hy | hy
        · rw [c2 y (by have := rin.2.2.2.1 y hy; omega)]; exact g24 y hy
        · simp at hy; rw [hy]; exact ka
      · rw [addL_ll _ _ _ _ o1.2.1, if_pos rfl, ell]
        have hkA : hk amid (hz h1) h1 (addL h1 L a) := fun z d e => ⟨addL_kd _ _ _ _ e42, fun f => addL_fI _ _ _ _ _, fun f => addL_fR _ _ _ _ _, by rw [addL_ll _ _ _ _ o1.2.1, if_neg (by omega)], addL_lc _ _ _ _ (by omega)⟩
        have hkB : hk amid (hz h) h (addL h1 L a) := by
          intro z d e
          obtain ⟨b1, b2, b3, b4, b5⟩ := hkA z d (by omega)
          exact ⟨by rw [b1]; exact c2 z e, fun f => by rw [b2]; exact c3 f z e (by omega), fun f => by rw [b3]; exact c4 f z e (by omega), by rw [b4]; exact c8 z e, by rw [b5]; exact c9 z e⟩
        refine rows2_app (mid := M) (amid := hz h) (rows2_keep (Z := fun z => z ∈ ns) g25 hkB (fun f hf c z d e => ?_) (fun z d e c => ?_) (fun z hz _ _ => hz)) (fun alo' hal => ?_)
        · by_cases c46 : f = 546
          · rw [c46, l5 z (by omega)]; exact q6.2 546 (by simp) z e
          · rw [l4 f hf c46 c]; exact q6.2 f hf z e
        · rw [l6 z c]; exact q6.2 562 (by simp) z e
        · refine WR_wide (WR_keep q10 (hk_sub hkA (by omega) (Nat.le_refl _)) ⟨fun f hf c z d e => ?_, fun z d e c => ?_⟩) hal (by omega)
          · by_cases c46 : f = 546
            · rw [c46, l5 z (by omega)]
            · rw [l4 f hf c46 c]
          · exact l6 z (fun hz => by have := rin.2.2.1 z hz; omega)
      · exact nd_trans g26 ⟨fr_trans q6.1 (fr_mono l7 (by simp) (by simp)), fun f hf z d => by
          by_cases c46 : f = 546
          · rw [c46, l5 z (by omega)]; exact q6.2 546 (by simp) z (by omega)
          · by_cases c62 : f = 562
            · rw [c62, l6 z (fun hz => by have := rin.2.2.1 z hz; omega)]; exact q6.2 562 (by simp) z (by omega)
            · rw [l4 f hf c46 c62]; exact q6.2 f hf z (by omega)⟩ (Nat.le_refl _)
      · exact hx_add (hx_trans g27 ⟨c0, c1, c2, c3, c4, c5, c6, c7, c8, c9⟩) g8 e42 o1.2.1 o1.2.2.1
      · rw [addL_ll _ _ _ _ o1.2.1, if_pos rfl, ell]; simp; omega
      · omega
      · rw [addL_ll _ _ _ _ o1.2.1, if_pos rfl, ell]
        simp only [List.length_append, List.length_singleton]
        rw [elc] at r7
        omega
  · have hL : ∃ υ, (if last ≠ (-1) then if 0 ≤ last ∧ last < 8400 then (some (Sum.inl (x, (ua τ1 562 last.toNat x))) : Option ((Int × tS) ⊕ tS)) else none else if 0 ≤ (n0 : Int) ∧ (n0 : Int) < 8400 then (some (Sum.inl (x, (ua τ1 546 ((n0 : Int)).toNat x)))) else none) = some (.inl (x, υ)) ∧ (∀ f, gs υ f = gs τ1 f) ∧ fr PF PA τ1 υ ∧ ∀ f ∈ PA, ∀ z, z < n0 → ga υ f z = ga τ1 f z := by
      rcases g6 with ⟨p1, p2, p3⟩ | ⟨ns', l, p1, p2⟩
      · refine ⟨ua τ1 546 n0 x, by rw [if_neg (by rw [p2]; simp), if_pos ⟨by omega, by omega⟩, show ((n0 : Int)).toNat = n0 by omega], fun _ => rfl, fr_ua (fr_refl _ _ _) (by simp), fun f _ z hz => ?_⟩
        rw [ga_ua, if_neg (by omega)]
      · have := rin.2.2.1 l (by rw [p1]; simp)
        refine ⟨ua τ1 562 l x, by rw [p2, if_pos (by omega), if_pos ⟨by omega, by omega⟩, show ((l : Int)).toNat = l by omega], fun _ => rfl, fr_ua (fr_refl _ _ _) (by simp), fun f _ z hz => ?_⟩
        rw [ga_ua, if_neg (by omega)]
    obtain ⟨υ, u1, u2, u3, u4⟩ := hL
    have F : Tfl υ N S b m (tokq S jf) n M1 := by
      obtain ⟨a1, ⟨ii, a2, a3⟩, a4, a5, a6, a7⟩ := q5
      exact ⟨TT_fr u3 a1, ⟨ii, a2, by rw [u2]; exact a3⟩, by rw [u2]; exact a4, by rw [u2]; exact a5, by rw [u2]; exact a6, by rw [u2]; exact a7⟩
    refine .inr ⟨jf, M1, υ, e, h1, q1, q2, ?_, ?_, F, ?_, hx_trans g27 q7, q8, q9, q10, by omega, by omega⟩
    · have hst : T_ground_39s rT (n0 : Int) (last, σ) = some (.inl (x, υ)) := by
        rw [hT, q3]
        simp only [Option.bind_some]
        exact u1
      rw [om_loop_in hst]
      refine om_loop_out ?_
      unfold T_ground_39s
      simp only
      rw [t_isPieceF F]
      simp
    · rw [q4]
      rfl
    · exact nd_trans g26 ⟨fr_trans q6.1 u3, fun f hf z hz => by rw [u4 f hf z hz]; exact q6.2 f hf z (by omega)⟩ (Nat.le_refl _)
/-- all pieces of a great -/
theorem ground_loop {B : Nat} (hG : om_okG G) (R : RTall (B + 1) G A t N S b m n rT rC) (RF : RFall N S b m n 1 rT) {i1 : Nat} {σb : tS} {hb : om_H} {n0 a0 L w : Nat} : ∀ (q i M : Nat) (σ : tS) (h : om_H) (last : Int), m - i ≤ q → Tst σ N S b m i n M → Cst G h t S i n → fR h 1122 t = A → M + (m - i) + 60 ≤ 8400 → Gst B G A t S b σb hb n0 a0 L w i1 i M σ h last →
    (∃ (j M' : Nat) (τ : tS) (h' : om_H) (last' : Int), i ≤ j ∧ om_loop (T_ground_39s rT (n0 : Int)) (last, σ) = some τ ∧ om_loop (C_0_readGround_31s G rC t a0) h = some (.inl h') ∧ Tst τ N S b m j n M' ∧ Cst G h' t S j n ∧ fR h' 1122 t = A ∧ Gst B G A t S b σb hb n0 a0 L w i1 j M' τ h' last' ∧ M' ≤ M + (j - i)) ∨
    (∃ (jf M' : Nat) (τ : tS) (e : Nat) (h' : om_H), i ≤ jf ∧ jf ≤ m ∧ om_loop (T_ground_39s rT (n0 : Int)) (last, σ) = some τ ∧ om_loop (C_0_readGround_31s G rC t a0) h = some (.inr (.inl e, h')) ∧ Tfl τ N S b m (tokq S jf) n M' ∧ nd σb τ n0 ∧ hx t hb h' ∧ flt h' e 1 (tokq S jf) ∧ M ≤ M' ∧ M' ≤ M + (jf - i) + 3 ∧ hz h' ≤ hz hb + 8 * (jf - i1) + 11 ∧ hu h' ≤ hu hb + 100 * (jf - i1) + 149)
  | q, i, M, σ, h, last, hq, H, K, hA, hM, Q => by
    by_cases hc : tokk S i = 3 ∨ tokk S i = 2 ∨ tokk S i = 40
    · rcases ground_step hG R RF H K hA hM Q hc with ⟨j, M', τ, h', last', p1, p2, p3, p4, p5, p6, p7, p8, p9⟩ | ⟨jf, M', τ, e, h', p1, p2, p3, p4, p5, p6, p7, p8, p9, p10, p11, p12⟩
      · cases q with
        | zero =>
          have := p4.2.2.1
          omega
        | succ q =>
          have hjm := p4.2.2.1
          rw [om_loop_in p2, om_loop_in p3]
          rcases ground_loop hG R RF q j M' τ h' last' (by omega) p4 p5 p6 p7 p8 with ⟨j2, M2, τ2, h2, l2, r1, r2, r3, r4, r5, r6, r7, r8⟩ | ⟨jf, M2, τ2, e, h2, r1, r2, r3, r4, r5, r6, r7, r8, r9, r10, r11, r12⟩
          · exact .inl ⟨j2, M2, τ2, h2, l2, by omega, r2, r3, r4, r5, r6, r7, by omega⟩
          · have : M ≤ M' := by
              obtain ⟨ns, k, amid, g1, g2, g3, g4, g5, g6, g7, g8, g9, g10, g11, g12, g13, g14, g15, g16, g17, g18, g19, g20, g21, g22, g23, g24, g25, g26, g27, g28, g29, g30, g31⟩ := Q
              exact p9.2
            exact .inr ⟨jf, M2, τ2, e, h2, by omega, r2, r3, r4, r5, r6, r7, r8, by omega, by have := p9.1; omega, r11, r12⟩
      · exact .inr ⟨jf, M', τ, e, h', p1, p2, p3, om_loop_out p4, p5, p6, p7, p8, p9, p10, p11, p12⟩
    · have h3 := Cst_kind hG K (e := 3) (by decide)
      have h2 := Cst_kind hG K (e := 2) (by decide)
      have s3 := kE_s (tokk_r S i).1 (e := 3) (by decide)
      have s2 := kE_s (tokk_r S i).1 (e := 2) (by decide)
      refine .inl ⟨i, M, σ, h, last, Nat.le_refl _, om_loop_out ?_, om_loop_out ?_, H, K, hA, Q, by omega⟩
      · unfold T_ground_39s
        simp only
        rw [t_isPiece H, if_neg hc]
        simp
      · unfold C_0_readGround_31s
        rw [gd_pos (Cst_kd K), gd_pos (Cst_kd K), gd_pos (Cst_kd K), if_neg (fun z => hc (.inl (s3.mp (h3.mp z)))), if_neg (fun z => hc (.inr (.inl (s2.mp (h2.mp z))))), c_isSign hG K (v := 40) (.inr (.inr (by omega))), if_neg (show ¬ tokk S i = sc 40 from fun z => hc (.inr (.inr z)))]
        simp
end LG
