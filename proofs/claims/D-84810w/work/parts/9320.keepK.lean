set_option maxRecDepth 100000
/-! RESOLVE: what is known of classes and insts stays while other declarations become known -/
section LKK
variable {G : om_G} {A : Nat} {S : List Int} {b m : Nat} {N : List (List Int)} {cs : List Nat} {K : KT} {rest : List (Nat × List Nat)} {fo : List Nat} {F : FT} {mo : List (List Nat)} {Ms : List FT}
variable {h h' hr : om_H} {ul ul' : List Nat} {τ υ σr : tS} {n n' hi ahi : Nat}
theorem rdy_all {kk : Nat} : ∀ {qs : List dcl} {rs : List (Nat × Nat × Nat × Nat)} {d : Nat} {Lf : Nat → List Nat} {lo alo : Nat}, prR G A S b hr σr hi ahi d qs rs Lf lo alo → hkV alo ahi hr h → nall lo hi σr τ → rdy kk hr h σr τ qs rs
  | [], [], _, _, _, _, _, _, _ => trivial
  | q :: qs, r :: rs, d, Lf, lo, alo, ⟨r1, r2, D, P⟩, V, L => by
    have pin := prR_in P
    exact ⟨fun _ => ⟨fun y y1 y2 => V y (by omega) (by omega), fun g hg i i1 i2 => L g hg i (by omega) (by omega)⟩, rdy_all P (fun y y1 y2 => V y (by omega) y2) (fun g hg i i1 i2 => L g hg i (by omega) i2)⟩
  | [], _ :: _, _, _, _, _, P, _, _ => P.elim
  | _ :: _, [], _, _, _, _, P, _, _ => P.elim
theorem ink_in {kk y : Nat} : ∀ {qs : List dcl} {rs : List (Nat × Nat × Nat × Nat)} {d : Nat} {Lf : Nat → List Nat} {lo alo : Nat}, prR G A S b hr σr hi ahi d qs rs Lf lo alo → ink kk y qs rs → alo ≤ y ∧ y < ahi
  | [], [], _, _, _, _, _, H => H.elim
  | q :: qs, r :: rs, d, Lf, lo, alo, ⟨r1, r2, D, P⟩, H => by
    have pin := prR_in P
    rcases H with H | H
    · omega
    · have := ink_in P H; omega
  | [], _ :: _, _, _, _, _, P, _ => P.elim
  | _ :: _, [], _, _, _, _, P, _ => P.elim
theorem ink_not {kk kk' y : Nat} (ne : kk ≠ kk') : ∀ {qs : List dcl} {rs : List (Nat × Nat × Nat × Nat)} {d : Nat} {Lf : Nat → List Nat} {lo alo : Nat}, prR G A S b hr σr hi ahi d qs rs Lf lo alo → ink kk y qs rs → ¬ ink kk' y qs rs
  | [], [], _, _, _, _, _, H, _ => H.elim
  | q :: qs, r :: rs, d, Lf, lo, alo, ⟨r1, r2, D, P⟩, H, H' => by
    rcases H with H | H
    · rcases H' with H' | H'
      · omega
      · have := ink_in P H'; omega
    · rcases H' with H' | H'
      · have := ink_in P H; omega
      · exact ink_not ne P H H'
  | [], _ :: _, _, _, _, _, P, _, _ => P.elim
  | _ :: _, [], _, _, _, _, P, _, _ => P.elim
theorem inkN_in {kk i : Nat} : ∀ {qs : List dcl} {rs : List (Nat × Nat × Nat × Nat)} {d : Nat} {Lf : Nat → List Nat} {lo alo : Nat}, prR G A S b hr σr hi ahi d qs rs Lf lo alo → inkN kk i qs rs → lo ≤ i ∧ i < hi
  | [], [], _, _, _, _, _, H => H.elim
  | q :: qs, r :: rs, d, Lf, lo, alo, ⟨r1, r2, D, P⟩, H => by
    have pin := prR_in P
    rcases H with H | H
    · omega
    · have := inkN_in P H; omega
  | [], _ :: _, _, _, _, _, P, _ => P.elim
  | _ :: _, [], _, _, _, _, P, _ => P.elim
theorem inkN_not {kk kk' i : Nat} (ne : kk ≠ kk') : ∀ {qs : List dcl} {rs : List (Nat × Nat × Nat × Nat)} {d : Nat} {Lf : Nat → List Nat} {lo alo : Nat}, prR G A S b hr σr hi ahi d qs rs Lf lo alo → inkN kk i qs rs → ¬ inkN kk' i qs rs
  | [], [], _, _, _, _, _, H, _ => H.elim
  | q :: qs, r :: rs, d, Lf, lo, alo, ⟨r1, r2, D, P⟩, H, H' => by
    rcases H with H | H
    · rcases H' with H' | H'
      · omega
      · have := inkN_in P H'; omega
    · rcases H' with H' | H'
      · have := inkN_in P H; omega
      · exact inkN_not ne P H H'
  | [], _ :: _, _, _, _, _, P, _, _ => P.elim
  | _ :: _, [], _, _, _, _, P, _, _ => P.elim
/-- classes stay known -/
theorem clT_keep (ty : ∀ T y, tyC h N (clF cs) (UU ul rest) T y → tyC h' N (clF cs) (UU ul' rest) T y) (X : tx τ n υ n') (g : ∀ i, ga υ 686 i = ga τ 686 i) (hb : bp υ = 2147483647 → bp τ = 2147483647) : ∀ {qs : List dcl} {ps : List PD} {rs : List (Nat × Nat × Nat × Nat)} {d : Nat} {Lf : Nat → List Nat} {lo alo : Nat} {s : PS}, prR G A S b hr σr hi ahi d qs rs Lf lo alo → (∃ x, prC A S hr qs ps Lf x ahi) → clT S N cs rest hr h ul τ n qs ps s → (∀ y, ink 5 y qs rs → eqA y h h') → clT S N cs rest hr h' ul' υ n' qs ps s
  | [], [], [], _, _, _, _, _, _, _, _, _ => trivial
  | q :: qs, p :: ps, r :: rs, d, Lf, lo, alo, s, ⟨r1, r2, D, P⟩, C, H, E => by
    obtain ⟨x0, a0', amid', r1', r2', D', C'⟩ := C
    refine ⟨fun p5 s8 => ?_, clT_keep ty X g hb P ⟨amid', C'⟩ H.2 (fun y hy => E y (.inr hy))⟩
    have q5 : q.1 = 5 := by omega
    have W : clsR A S b hr σr r.1 r.2.1 r.2.2.1 r.2.2.2 q.2.1 d q.2.2 ((Lf 82).length : Int) := by
      rcases D with ⟨_, D⟩ | ⟨e, _⟩ | ⟨e, _⟩
      · exact D
      · omega
      · omega
    obtain ⟨w1, w2, Lm, Ln, ar, ab, fam, am, ms, ns, a1, a2, a3, a4, a5, a6, a7, a8, a9⟩ := W
    have mi := mrows_in a8
    have eLm : fR hr 1230 q.2.1 = Lm := a1.2.2.1.1
    obtain ⟨k1, k2⟩ := H.1 p5 s8
    have Ec := E q.2.1 (.inl ⟨q5, by omega, by omega⟩)
    refine ⟨by rw [Ec.2.2.1]; exact k1, fun n1 n2 i x e => ?_⟩
    obtain ⟨T, t1, t2, t3⟩ := k2 n1 n2 i x e
    have hx := mi.2.2.2.1 x (by have := List.mem_of_getElem? e; rw [eLm, a7.2] at this; exact this)
    exact ⟨T, ⟨t1.1, fun eb => t1.2 (hb eb)⟩, by rw [(E x (.inl ⟨q5, by omega, by omega⟩)).2.2.1]; exact ty T _ t2, by rw [g]; exact tyT_mono X t3⟩
  | [], _ :: _, _, _, _, _, _, _, _, C, _, _ => (by obtain ⟨_, C⟩ := C; exact C.elim)
  | _ :: _, [], _, _, _, _, _, _, _, C, _, _ => (by obtain ⟨_, C⟩ := C; exact C.elim)
  | [], [], _ :: _, _, _, _, _, _, P, _, _, _ => P.elim
  | _ :: _, _ :: _, [], _, _, _, _, _, P, _, _, _ => P.elim
/-- insts stay known -/
theorem inT_keep {Z : Nat} (n5 : ∀ o, ga υ 546 o = ga τ 546 o) (n6 : ∀ o, ga υ 562 o = ga τ 562 o) (n60 : ∀ i, ga υ 602 i = ga τ 602 i) (n14 : ∀ i, ga υ 614 i = ga τ 614 i) (nb : bp υ = 2147483647 → bp τ = 2147483647) (ty : ∀ T y, tyC h N (clF cs) (UU ul rest) T y → tyC h' N (clF cs) (UU ul' rest) T y) (X : tx τ n υ n') (zz : hz h ≤ hz h') (kl : ∀ y, Z ≤ y → y < hz h → kd h y = 42 → kd h' y = 42 ∧ ll h' y = ll h y) (t1 : ∀ g ∈ [694, 698, 702, 706, 710, 714, 718, 722], ∀ i, ga υ g i = ga τ g i) :
    ∀ {qs : List dcl} {ps : List PD} {rs : List (Nat × Nat × Nat × Nat)} {d : Nat} {Lf : Nat → List Nat} {lo alo : Nat} {s : PS}, prR G A S b hr σr hi ahi d qs rs Lf lo alo → (∃ x, prC A S hr qs ps Lf x ahi) → inT G A S b N cs K rest fo F mo Ms hr h ul τ n Z qs ps rs d s → hs alo ahi hr h → (∀ y, ink 6 y qs rs → eqA y h h') → (∀ g ∈ PA, ∀ i, inkN 6 i qs rs → ga υ g i = ga τ g i) → inT G A S b N cs K rest fo F mo Ms hr h' ul' υ n' Z qs ps rs d s
  | [], [], [], _, _, _, _, _, _, _, _, _, _, _ => trivial
  | q :: qs, p :: ps, r :: rs, d, Lf, lo, alo, s, ⟨r1, r2, D, P⟩, C, H, V, E, L => by
    have pin := prR_in P
    obtain ⟨x0, a0', amid', r1', r2', D', C'⟩ := C
    refine ⟨fun p6 s20 => ?_, inT_keep n5 n6 n60 n14 nb ty X zz kl t1 P ⟨amid', C'⟩ H.2 (fun y y1 y2 => V y (by omega) y2) (fun y hy => E y (.inr hy)) (fun g hg i hi => L g hg i (.inr hi))⟩
    have q6 : q.1 = 6 := by omega
    have W : insR G A S b hr σr r.1 r.2.1 r.2.2.1 r.2.2.2 q.2.1 d q.2.2 ((Lf 86).length : Int) := by
      rcases D with ⟨e, _⟩ | ⟨_, D⟩ | ⟨e, _⟩
      · omega
      · exact D
      · omega
    obtain ⟨wf, wg, wfa, wl⟩ := insR_gv W
    obtain ⟨j1, jc, jn, c0, c1, ns, y1, y2, y3, y8, y7⟩ := H.1 p6 s20
    have vf := (V q.2.1 (by omega) (by omega)).2.2.1
    refine ⟨j1, jc, jn, c0, c1, ns, ⟨y1.1, by rw [t1 694 (by simp)]; exact y1.2⟩, ⟨y2.1, by rw [t1 698 (by simp)]; exact y2.2⟩, by rw [n60]; exact chain_keep y3 (fun o _ => n6 o), y8, InK_keep y7 (Nat.le_refl _) (fun y v1 v2 => E y (.inl ⟨q6, v1, v2⟩)) wf (fun x hx => ?_) (fun z => ?_) wl (fun g hg i v1 v2 => L g hg i (.inl ⟨q6, v1, v2⟩)) n5 (n14 _) nb ty X zz kl (fun g hg => t1 g (by simp only [List.mem_cons, List.not_mem_nil, or_false] at hg ⊢; omega) _) (fun i _ => t1 706 (by simp) _) (fun g hg i _ => t1 g (by simp only [List.mem_cons, List.not_mem_nil, or_false] at hg ⊢; omega) _)⟩
    · have xr := (wg x hx).1
      have vx := (V x (by omega) (by omega)).2.2.1
      rw [vx 1338 (by decide), vx 1342 (by decide)]
      exact wg x hx
    · rw [vf 1310 (by decide)] at z
      rw [vf 1298 (by decide)]
      exact wfa z
  | [], _ :: _, _, _, _, _, _, _, _, C, _, _, _, _ => (by obtain ⟨_, C⟩ := C; exact C.elim)
  | _ :: _, [], _, _, _, _, _, _, _, C, _, _, _, _ => (by obtain ⟨_, C⟩ := C; exact C.elim)
  | [], [], _ :: _, _, _, _, _, _, P, _, _, _, _, _ => P.elim
  | _ :: _, _ :: _, [], _, _, _, _, _, P, _, _, _, _, _ => P.elim
/-- the program's classes lie in its range -/
theorem prC_82 : ∀ (qs : List dcl) (ps : List PD) (Lf : Nat → List Nat) (alo : Nat), prC A S h qs ps Lf alo ahi → ∀ c ∈ prgL h qs Lf 82, c ∈ Lf 82 ∨ (alo ≤ fR h 1230 c ∧ fR h 1230 c < ahi)
  | [], [], _, _, _, c, hc => .inl hc
  | q :: qs, p :: ps, Lf, alo, ⟨a0, amid, r1, r2, D, C⟩, c, hc => by
    have le := prC_le C
    rcases prC_82 qs ps (dclLf h Lf q) amid C c hc with e | e
    · unfold dclLf at e
      rcases D with ⟨k, D⟩ | ⟨k, D⟩ | ⟨k, D⟩
      · rw [if_pos (by omega)] at e
        have e' : c ∈ Lf 82 ++ [q.2.1] := e
        rcases List.mem_append.mp e' with e | e
        · exact .inl e
        · rw [List.mem_singleton.mp e]
          have := D.2.2.2.2.2.1.1
          exact .inr ⟨by omega, by omega⟩
      · rw [if_neg (by omega), if_pos (by omega)] at e
        exact .inl e
      · rw [if_neg (by omega), if_neg (by omega)] at e
        exact .inl e
    · exact .inr ⟨by omega, e.2⟩
  | [], _ :: _, _, _, C, _, _ => C.elim
  | _ :: _, [], _, _, C, _, _ => C.elim
theorem prC_oK : ∀ (qs : List dcl) (ps : List PD) (Lf : Nat → List Nat) (alo : Nat), prC A S h qs ps Lf alo ahi → ∀ p ∈ ps, (p.1 = 5 ∨ p.1 = 6 ∨ p.1 = 2) ∧ oK p
  | [], [], _, _, _, _, hp => absurd hp List.not_mem_nil
  | q :: qs, p :: ps, Lf, alo, ⟨a0, amid, r1, r2, D, C⟩, p', hp => by
    rcases List.mem_cons.mp hp with e | hp
    · rw [e]
      rcases D with ⟨k, D⟩ | ⟨k, D⟩ | ⟨k, D⟩
      · refine ⟨.inl k, fun _ => ?_⟩
        obtain ⟨_, _, _, _, _, _, _, _, d1, d2, d3, d4⟩ := D
        refine ⟨fun f hf => by have := d2 f hf; omega, fun j hj => ?_, d4⟩
        have h3 := d3 j hj
        have h2 := r2.2.2
        have : j ≠ p.2.1 := fun z => by rw [z] at h3; rw [h3.2] at h2; omega
        omega
      · exact ⟨.inr (.inl k), fun z => by omega⟩
      · exact ⟨.inr (.inr k), fun z => by omega⟩
    · exact prC_oK qs ps (dclLf h Lf q) amid C p' hp
  | [], _ :: _, _, _, C, _, _ => C.elim
  | _ :: _, [], _, _, C, _, _ => C.elim
end LKK
