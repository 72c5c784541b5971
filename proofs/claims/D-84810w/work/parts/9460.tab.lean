set_option maxRecDepth 100000
/-! THE ONE ABOVE IS HAD FOR EACH INST (plain; the twin) -/
/-- insts with their places, one after another; none: out of fuel; faults (kind, place) -/
def abJ (ab : List (Option Nat)) (ins : List INs) : List (INs × Nat) → JS → Option ((Nat × Nat) ⊕ JS)
  | [], s => some (.inr s)
  | (d, q) :: l, s => match ab[d.1]? with
    | some (some c) => (hd ab ins (gvI d) 70 (0, s.1, s.2) c (hdI d)).bind (fun z => match z with
      | none => some (.inl (7, q))
      | some (b, s') => if b = true then abJ ab ins l (s'.2.1, s'.2.2 ++ [hdI d]) else some (.inl (3, q)))
    | _ => abJ ab ins l s
section LTB
variable {ab : List (Option Nat)} {ins : List INs}
theorem gvI_100 {d : INs} (hc : ∀ c ∈ d.2.2.2.1, c.1 < 100) : ∀ g ∈ gvI d, g.1 < 100 := fun g hg => by
  unfold gvI at hg
  obtain ⟨c, h1, h2⟩ := List.mem_map.mp hg
  rw [← h2]
  exact hc c h1
theorem GVT_f2 {σ τ : tS} {n n' : Nat} {gv : List GVs} (e : gs τ 792 = gs σ 792) (g : ∀ f ∈ [798, 802, 806], ∀ i, ga τ f i = ga σ f i) (X : tx σ n τ n') (H : GVT σ n gv) : GVT τ n' gv := by
  obtain ⟨h1, h2, h3⟩ := H
  refine ⟨by rw [e]; exact h1, h2, fun i x ex => ?_⟩
  obtain ⟨a1, a2, a3, a4⟩ := h3 i x ex
  exact ⟨by rw [g 798 (by simp)]; exact a1, by rw [g 802 (by simp)]; exact a2, by rw [g 806 (by simp)]; exact tyT_mono X a3, a4⟩
theorem PGT_f2 {σ τ : tS} {n n' : Nat} (e : gs τ 648 = gs σ 648) (g : ∀ f ∈ [670, 694, 698, 702, 706, 710, 714, 718, 722], ∀ i, ga τ f i = ga σ f i) (X : tx σ n τ n') (H : PGT σ n ab ins) : PGT τ n' ab ins := by
  obtain ⟨⟨h1, h2⟩, h3, h4, h5⟩ := H
  refine ⟨⟨h1, fun c o eo => by rw [g 670 (by simp)]; exact h2 c o eo⟩, by rw [e]; exact h3, h4, fun i d ed => ?_⟩
  obtain ⟨⟨a1, a1'⟩, ⟨a2, a2'⟩, ⟨a3, a4, a5⟩, ⟨a6, a7, a8⟩, a9⟩ := h5 i d ed
  exact ⟨⟨by rw [g 694 (by simp)]; exact a1, a1'⟩, ⟨by rw [g 698 (by simp)]; exact a2, a2'⟩, ⟨by rw [g 702 (by simp)]; exact a3, a4, fun j w e => by rw [g 706 (by simp)]; exact a5 j w e⟩, ⟨by rw [g 710 (by simp)]; exact a6, a7, fun j c e => by rw [g 714 (by simp), g 718 (by simp)]; exact a8 j c e⟩, by rw [g 722 (by simp)]; exact tyT_mono X a9⟩
/-- what the loop writes -/
abbrev ABS : List Nat := [452, 456, 532, 784, 792, 808, 812, 816, 823, 827, 836]
abbrev ABA : List Nat := TYA ++ [778, 798, 802, 806, 830, 834]
set_option maxHeartbeats 2000000 in
/-- THE ONE ABOVE, in the twin -/
theorem t_abv (hI : insF ins 2700) (hN : ∀ d ∈ ins, d.2.2.1.length = pN d.2.1) (hcd : ∀ d ∈ ins, ∀ c ∈ d.2.2.2.1, c.1 < 100) {pl : Nat → Nat} {dc jt : Nat → Nat} (hpl : ∀ f, pl f ≤ 2000) : ∀ (k f : Nat) (s : JS) (z : (Nat × Nat) ⊕ JS) (σ : tS) (n : Nat), f + k = ins.length → abJ ab ins ((ins.drop f).zip ((List.range' f k).map pl)) s = some z → TyS σ n → PGT σ n ab ins → (∀ i, i < ins.length → ga σ 690 i = (dc i : Int) ∧ dc i < 700 ∧ ga σ 578 (dc i) = (jt i : Int) ∧ jt i < 4100 ∧ ga σ 474 (jt i) = (pl i : Int)) → gs σ 452 = 0 → gs σ 812 = (s.1 : Int) → s.1 ≤ 300 → n + 3 * k + 81 * (360 - s.1) + 2700 + 100 < 126000 → ∃ τ n', om_loop T_third_538s ((f : Int), σ) = some τ ∧ fr ABS ABA σ τ ∧ TyS τ n' ∧ tx σ n τ n' ∧ n' ≤ n + 3 * k + 81 * (360 - s.1) + 2700 ∧ (∀ kk p, z = .inl (kk, p) → gs τ 452 = (kk : Int) ∧ gs τ 456 = (p : Int)) ∧ (∀ s', z = .inr s' → gs τ 452 = 0 ∧ gs τ 812 = (s'.1 : Int) ∧ (s.1 ≤ s'.1 ∧ s'.1 ≤ 300) ∧ n' ≤ n + 3 * k + 81 * (s'.1 - s.1) ∧ ∃ D, s'.2 = s.2 ++ D ∧ ∀ X ∈ D, ∃ t, tyT τ n' X t)
  | 0, f, s, z, σ, n, e, ez, S, P, _, f0, g812, h300, R => by
    have ef : ins.drop f = [] := List.drop_eq_nil_iff.mpr (by omega)
    rw [ef] at ez
    have ez' : z = .inr s := (Option.some.inj ez).symm
    refine ⟨σ, n, om_loop_out ?_, fr_refl _ _ _, S, tx_refl _ _, by omega, fun kk p w => (by rw [ez'] at w; cases w), fun s' w => ?_⟩
    · unfold T_third_538s
      simp only
      rw [P.2.1, if_pos (by omega)]
    · rw [ez'] at w
      rw [← Sum.inr.inj w]
      exact ⟨f0, g812, ⟨Nat.le_refl _, h300⟩, by omega, [], by simp, fun X hX => absurd hX List.not_mem_nil⟩
  | k + 1, f, s, z, σ, n, e, ez, S, P, Pl, f0, g812, h300, R => by
    have ed : ins[f]? = some (ins[f]'(by omega)) := List.getElem?_eq_getElem (by omega)
    generalize hdd : ins[f]'(by omega) = d at ed
    have dm := List.mem_of_getElem? ed
    have edr : ins.drop f = d :: ins.drop (f + 1) := by rw [← hdd]; exact List.drop_eq_getElem_cons (by omega)
    have err : (List.range' f (k + 1)).map pl = pl f :: (List.range' (f + 1) k).map pl := by rw [List.range'_succ]; rfl
    rw [edr, err, List.zip_cons_cons] at ez
    obtain ⟨⟨a1, a1'⟩, ⟨a2, a2'⟩, ⟨a3, a4, a5⟩, ⟨a6, a7, a8⟩, a9⟩ := P.2.2.2 f d ed
    have i20 := P.2.2.1
    have fN : ((f : Int)).toNat = f := by omega
    have cN : ((d.1 : Int)).toNat = d.1 := by omega
    have ab8 := P.1.1
    have eab : ab[d.1]? = some (ab[d.1]) := List.getElem?_eq_getElem a1'
    obtain ⟨g670, gab⟩ := P.1.2 d.1 _ eab
    have wk : w32 ((f : Int) + 1) = ((f + 1 : Nat) : Int) := by rw [w32_s (by omega) (by omega)]; rfl
    cases hab : ab[d.1] with
    | none =>
      rw [hab] at g670 eab
      have ez' : abJ ab ins ((ins.drop (f + 1)).zip ((List.range' (f + 1) k).map pl)) s = some z := by
        unfold abJ at ez
        rw [eab] at ez
        exact ez
      have st : T_third_538s ((f : Int), σ) = some (.inl (((f + 1 : Nat) : Int), σ)) := by
        unfold T_third_538s
        simp only
        rw [P.2.1, if_neg (by omega), f0, if_neg (fun z => z rfl), fN, a1, if_pos (by omega), cN, g670, if_neg (fun z => z rfl), wk]
      obtain ⟨τ, n', r1, r2, r3, r4, r5, r6, r7⟩ := t_abv hI hN hcd (pl := pl) (dc := dc) (jt := jt) hpl k (f + 1) s z σ n (by omega) ez' S P Pl f0 g812 h300 (by omega)
      refine ⟨τ, n', by rw [om_loop_in st]; exact r1, r2, r3, r4, by omega, r6, fun s' w => ?_⟩
      obtain ⟨q1, q2, q3, q4, q5⟩ := r7 s' w
      exact ⟨q1, q2, q3, by omega, q5⟩
    | some c =>
      rw [hab] at g670 eab gab
      have hc := gab c rfl
      have g670' : ga σ 670 d.1 = (c : Int) := g670
      -- what is given, and the head
      obtain ⟨σ1, b1, F1, V1⟩ := t_byI (σ := σ) (n := n) (f := f) (C := ab.length) (d := d) (by omega) ab8 ⟨⟨a1, a1'⟩, ⟨a2, a2'⟩, ⟨a3, a4, a5⟩, ⟨a6, a7, a8⟩, a9⟩
      have Fq : fr [784, 792, 808, 816, 823, 827] [778, 798, 802, 806] σ (us (us (us (us σ1 808 0) 816 0) 823 0) 827 0) := fr_us (fr_us (fr_us (fr_us (fr_wide F1 (by simp) (by simp)) (by simp)) (by simp)) (by simp)) (by simp)
      have V2 : GVT (us (us (us (us σ1 808 0) 816 0) 823 0) 827 0) n (gvI d) := GVT_f2 (σ := σ1) (by rw [gs_us, if_neg (by decide), gs_us, if_neg (by decide), gs_us, if_neg (by decide), gs_us, if_neg (by decide)]) (fun _ _ _ => rfl) ⟨Nat.le_refl _, fun _ _ _ _ _ => rfl⟩ V1
      have q808 : gs (us (us (us (us σ1 808 0) 816 0) 823 0) 827 0) 808 = 0 := by rw [gs_us, if_neg (by decide), gs_us, if_neg (by decide), gs_us, if_neg (by decide), gs_us, if_pos rfl]
      have q816 : gs (us (us (us (us σ1 808 0) 816 0) 823 0) 827 0) 816 = 0 := by rw [gs_us, if_neg (by decide), gs_us, if_neg (by decide), gs_us, if_pos rfl]
      have q823 : gs (us (us (us (us σ1 808 0) 816 0) 823 0) 827 0) 823 = 0 := by rw [gs_us, if_neg (by decide), gs_us, if_pos rfl]
      have q827 : gs (us (us (us (us σ1 808 0) 816 0) 823 0) 827 0) 827 = 0 := by rw [gs_us, if_pos rfl]
      have ask : T_asks σ1 = some (us (us (us (us σ1 808 0) 816 0) 823 0) 827 0) := rfl
      generalize us (us (us (us σ1 808 0) 816 0) 823 0) 827 0 = σ2 at *
      have X2 : tx σ n σ2 n := tx_same (fun g hg i => Fq.2 g ((by decide : ∀ g ∈ TYA, g ∉ [778, 798, 802, 806]) g hg) i)
      have S2 : TyS σ2 n := TyS_same (Fq.1 532 (by decide)) (fun g hg i => Fq.2 g ((by decide : ∀ g ∈ TYA, g ∉ [778, 798, 802, 806]) g hg) i) S
      have P2 : PGT σ2 n ab ins := PGT_f2 (Fq.1 648 (by decide)) (fun g hg i => Fq.2 g ((by decide : ∀ g ∈ [670, 694, 698, 702, 706, 710, 714, 718, 722], g ∉ [778, 798, 802, 806]) g hg) i) X2 P
      obtain ⟨t, σ3, n3, c1, F3, S3, X3, l3, ct⟩ := t_hdI (σ := σ2) (n := n) (f := f) (C := ab.length) (d := d) (by omega) S2 (by omega) (by
        obtain ⟨⟨u1, u1'⟩, ⟨u2, u2'⟩, ⟨u3, u4, u5⟩, ⟨u6, u7, u8⟩, u9⟩ := P2.2.2.2 f d ed
        exact ⟨⟨u1, u1'⟩, ⟨u2, u2'⟩, ⟨u3, u4, u5⟩, ⟨u6, u7, u8⟩, u9⟩)
      have P3 : PGT σ3 n3 ab ins := PGT_f2 (F3.1 648 (by decide)) (fun g hg i => F3.2 g ((by decide : ∀ g ∈ [670, 694, 698, 702, 706, 710, 714, 718, 722], g ∉ TYA) g hg) i) X3 P2
      have V3 : GVT σ3 n3 (gvI d) := GVT_f2 (F3.1 792 (by decide)) (fun g hg i => F3.2 g ((by decide : ∀ g ∈ [798, 802, 806], g ∉ TYA) g hg) i) X3 V2
      have W3 : WkC σ3 n3 ab ins (gvI d) 2 0 (0, s.1, s.2) := ⟨S3, P3, V3, by rw [F3.1 816 (by decide)]; exact q816, by rw [F3.1 823 (by decide)]; exact q823, fun _ => ⟨by rw [F3.1 827 (by decide)]; exact q827, by rw [F3.1 808 (by decide)]; exact q808, by rw [F3.1 812 (by decide), Fq.1 812 (by decide)]; exact g812⟩, fun z => by omega⟩
      have g100 := gvI_100 (hcd d dm)
      have hwf : wfT (hdI d) := tyT_wf S3 ct
      have hok : okF ins (hdI d) := by
        unfold hdI
        refine ⟨fun z => (by cases z), ?_, ?_⟩
        · unfold hdN; split
          · exact ⟨fun z => (by cases z), trivial, trivial⟩
          · trivial
        · unfold hdN; split
          · exact ⟨fun z => (by cases z), trivial, trivial⟩
          · trivial
      have hsz : tsz (hdI d) ≤ 1000000 := by
        have s1 : ∀ i, tsz (hdN d.2.2.1 i) ≤ 1 := fun i => by
          unfold hdN
          split
          · exact (show (1 + 0 + 0 : Nat) ≤ 1 by omega)
          · exact Nat.zero_le 1
        have := s1 0
        have := s1 1
        show 1 + tsz (hdN d.2.2.1 0) + tsz (hdN d.2.2.1 1) ≤ _
        omega
      unfold abJ at ez
      rw [eab] at ez
      simp only at ez
      cases q : hd ab ins (gvI d) 70 (0, s.1, s.2) c (hdI d) with
      | none => rw [q] at ez; cases ez
      | some a =>
      rw [q, Option.bind_some] at ez
      obtain ⟨v, σ4, n4, h1, o1, o2, o3, o4, o5, o6⟩ := t_had (ab := ab) (B := 2700) (by omega) hI (fun g hg h => by have := g100 g hg; omega) (fun g hg h => by
        unfold gvI at hg
        obtain ⟨cc, h1, h2⟩ := List.mem_map.mp hg
        obtain ⟨j, hj, ej⟩ := List.getElem_of_mem h1
        rw [← h2]
        exact (a8 j cc (by rw [List.getElem?_eq_getElem hj, ej])).2.2.1) 70 (0, s.1, s.2) c (hdI d) a σ3 n3 t q W3 ct (by intro z; cases z) hok hsz (Nat.zero_le _) h300 (by show n3 + 81 * (60 - 0) + 2700 < 126000; omega)
      have h1' : T_had (c : Int) t σ3 = some (v, σ4) := h1
      have F04 : fr ABS ABA σ σ4 := fr_trans (fr_trans (fr_wide Fq (by decide) (by decide)) (fr_wide F3 (by decide) (by decide))) (fr_wide o1 (by decide) (by decide))
      obtain ⟨e90, d700, e578, j41, e474⟩ := Pl f (by omega)
      have st : T_third_538s ((f : Int), σ) = if (gs σ4 823) = 0 then if v ≠ 0 then some (.inl (((f + 1 : Nat) : Int), σ4)) else ((T_breaks 3 (jt f : Int) σ4).bind fun p5 => some (.inl (((f + 1 : Nat) : Int), p5))) else ((T_breaks 7 (jt f : Int) σ4).bind fun p6 => some (.inl (((f + 1 : Nat) : Int), p6))) := by
        unfold T_third_538s
        simp only
        rw [P.2.1, if_neg (by omega), f0, if_neg (fun z => z rfl), fN, a1, if_pos (by omega), cN, g670', if_pos (by omega), b1, Option.bind_some, ask, Option.bind_some, c1, Option.bind_some]
        dsimp only
        rw [h1', Option.bind_some]
        dsimp only
        rw [F04.2 690 (by decide), e90, show ((dc f : Int)).toNat = dc f by omega, F04.2 578 (by decide), e578, wk]
        by_cases z1 : gs σ4 823 = 0
        · rw [if_pos z1, if_pos z1]
          by_cases z2 : v ≠ 0
          · rw [if_pos z2, if_pos z2]
          · rw [if_neg z2, if_neg z2, if_pos (by omega)]
        · rw [if_neg z1, if_neg z1, if_pos (by omega)]
      have f4 : gs σ4 452 = 0 := by rw [o1.1 452 (by decide), F3.1 452 (by decide), Fq.1 452 (by decide)]; exact f0
      have X4 : tx σ n σ4 n4 := tx_trans (tx_trans X2 X3) o3
      -- a fault ends it
      have flt : ∀ kk : Nat, kk ≠ 0 → T_third_538s ((f : Int), σ) = ((T_breaks (kk : Int) (jt f : Int) σ4).bind fun p => some (.inl (((f + 1 : Nat) : Int), p))) → z = .inl (kk, pl f) → n4 ≤ n + 3 * (k + 1) + 81 * (360 - s.1) + 2700 → ∃ τ n', om_loop T_third_538s ((f : Int), σ) = some τ ∧ fr ABS ABA σ τ ∧ TyS τ n' ∧ tx σ n τ n' ∧ n' ≤ n + 3 * (k + 1) + 81 * (360 - s.1) + 2700 ∧ (∀ kk p, z = .inl (kk, p) → gs τ 452 = (kk : Int) ∧ gs τ 456 = (p : Int)) ∧ (∀ s', z = .inr s' → gs τ 452 = 0 ∧ gs τ 812 = (s'.1 : Int) ∧ (s.1 ≤ s'.1 ∧ s'.1 ≤ 300) ∧ n' ≤ n + 3 * (k + 1) + 81 * (s'.1 - s.1) ∧ ∃ D, s'.2 = s.2 ++ D ∧ ∀ X ∈ D, ∃ t, tyT τ n' X t) := fun kk k0 e1 e2 hn => by
        obtain ⟨σ5, u1, u2, u3, u4⟩ := t_brk (σ := σ4) (w := (kk : Int)) j41 (by rw [F04.2 474 (by decide)]; exact e474) (hpl f) (by omega)
        have b4 : bp σ4 = 2147483647 := by unfold bp; rw [if_pos f4]
        have b5 := bp_at (σ := σ5) (p := (pl f : Int)) (by rw [u4, b4]; have := hpl f; omega) (by have := hpl f; omega)
        rw [u1, Option.bind_some] at e1
        have en : T_third_538s (((f + 1 : Nat) : Int), σ5) = some (.inr σ5) := by
          unfold T_third_538s
          simp only
          by_cases z1 : gs σ5 648 ≤ ((f + 1 : Nat) : Int)
          · rw [if_pos z1]
          · rw [if_neg z1, if_pos b5.1]
        refine ⟨σ5, n4, by rw [om_loop_in e1, om_loop_out en], fr_trans F04 (fr_wide u2 (by decide) (by simp)), ?_, ?_, hn, fun kk' p w => ?_, fun s' w => by rw [e2] at w; cases w⟩
        · exact TyS_same (u2.1 532 (by decide)) (fun g hg i => u2.2 g (by simp) i) o2
        · exact tx_trans X4 (tx_same (fun g hg i => u2.2 g (by simp) i))
        · rw [e2] at w
          injection Sum.inl.inj w with w1 w2
          rw [← w1, ← w2]
          exact ⟨u3, b5.2⟩
      cases a with
      | none =>
        obtain ⟨v1, v2, v3⟩ := o5 rfl
        have v3' : n4 ≤ n3 + 81 * (60 - 0) + 2700 := v3
        rw [v2, if_neg (by decide)] at st
        exact flt 7 (by decide) st (Option.some.inj ez).symm (by omega)
      | some pb =>
        obtain ⟨bb, s'⟩ := pb
        obtain ⟨v1, v2, v3, v4, v5, v6, v7, v8, D, v9, v10⟩ := o6 bb s' rfl
        have cnt : s'.2.1 + 0 = s.1 + s'.1 := hd_cnt q
        have v8' : n4 ≤ n3 + 81 * (s'.1 - 0) := v8
        simp only at ez
        rw [v1, if_pos rfl] at st
        cases bb with
        | false =>
          rw [if_neg (by decide)] at ez v2
          rw [v2, if_neg (fun z => z rfl)] at st
          exact flt 3 (by decide) st (Option.some.inj ez).symm (by omega)
        | true =>
          rw [if_pos rfl] at ez v2
          rw [v2, if_pos (by decide)] at st
          have P4 : PGT σ4 n4 ab ins := PGT_f2 (F04.1 648 (by decide)) (fun g hg i => F04.2 g ((by decide : ∀ g ∈ [670, 694, 698, 702, 706, 710, 714, 718, 722], g ∉ ABA) g hg) i) X4 P
          obtain ⟨τ, n', r1, r2, r3, r4, r5, r6, r7⟩ := t_abv hI hN hcd (pl := pl) (dc := dc) (jt := jt) hpl k (f + 1) (s'.2.1, s'.2.2 ++ [hdI d]) z σ4 n4 (by omega) ez o2 P4 (fun i hi => by
            rw [F04.2 690 (by decide), F04.2 578 (by decide), F04.2 474 (by decide)]
            exact Pl i hi) f4 v4 v6 (by show n4 + 3 * k + 81 * (360 - s'.2.1) + 2700 + 100 < 126000; omega)
          have r5' : n' ≤ n4 + 3 * k + 81 * (360 - s'.2.1) + 2700 := r5
          refine ⟨τ, n', by rw [om_loop_in st]; exact r1, fr_trans F04 r2, r3, tx_trans X4 r4, by omega, r6, fun s2 w => ?_⟩
          obtain ⟨q1, q2, q3, q4, D', q5, q6⟩ := r7 s2 w
          have q3' : s'.2.1 ≤ s2.1 ∧ s2.1 ≤ 300 := q3
          have q4' : n' ≤ n4 + 3 * k + 81 * (s2.1 - s'.2.1) := q4
          have v9' : s'.2.2 = s.2 ++ D := v9
          refine ⟨q1, q2, ⟨by omega, q3'.2⟩, by omega, D ++ [hdI d] ++ D', by rw [q5]; show s'.2.2 ++ [hdI d] ++ D' = _; rw [v9', List.append_assoc, List.append_assoc, List.append_assoc], fun X hX => ?_⟩
          rcases List.mem_append.mp hX with hX | hX
          · rcases List.mem_append.mp hX with hX | hX
            rotate_left
            · rw [List.mem_singleton.mp hX]
              exact ⟨_, tyT_mono r4 (tyT_mono o3 ct)⟩
            obtain ⟨t0, ht⟩ := v10 X hX
            exact ⟨t0, tyT_mono r4 ht⟩
          · exact q6 X hX
end LTB
