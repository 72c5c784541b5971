set_option maxRecDepth 100000
/-! A PROGRAM AS A WHOLE, in both: read, judged, measured -/
abbrev PTS : List Nat := PBS ++ (JTS ++ MTS)
abbrev PTA : List Nat := PBA ++ (JTA ++ MTA)
noncomputable def cRun (G : om_G) (m0 pr t : Nat) (n : Int) (h : om_H) : Option ((Nat ⊕ Unit) × om_H) := xc (C_1_read G pr t h) (fun a h => some (.inl a, h)) (fun _ h4 => gd (kd h4 pr = 2) (xc (C_1_judge G pr h4) (fun a h => some (.inl a, h)) (fun _ h5 => gd (kd h5 m0 = 1) (C_0_measure G m0 pr n h5))))
theorem oFr_w {W W' : Nat → Prop} {h0 h2 : om_H} (m : ∀ a, a < hz h0 → W a → W' a) (X : oFr W h0 h2) : oFr W' h0 h2 := ⟨X.1, X.2.1, fun a ha nw k => X.2.2.1 a ha (fun w => nw (m a ha w)) k, X.2.2.2⟩
theorem oFr_tr {W W1 W' : Nat → Prop} {h0 h1 h2 : om_H} (X : oFr W h0 h1) (Y : oFr W1 h1 h2) (m1 : ∀ a, a < hz h0 → W1 a → W a ∨ W' a) : oFr (fun a => W a ∨ W' a) h0 h2 := by
  have z1 := X.1
  have z2 := Y.1
  refine ⟨by omega, fun a ha => (Y.2.1 a (by omega)).trans (X.2.1 a ha), fun a ha nw k => ?_, fun a ha k => ?_⟩
  · have k1 := X.2.1 a ha
    exact eqA_tr (X.2.2.1 a ha (fun w => nw (.inl w)) k) (Y.2.2.1 a (by omega) (fun w => (m1 a ha w).elim (fun w => nw (.inl w)) (fun w => nw (.inr w))) (by rw [k1]; exact k))
  · have k1 := X.2.1 a ha
    obtain ⟨v1, v2, v3⟩ := X.2.2.2 a ha k
    obtain ⟨u1, u2, u3⟩ := Y.2.2.2 a (by omega) (by rw [k1]; exact k)
    exact ⟨fun f hf => (u1 f hf).trans (v1 f hf), fun f hf => (u2 f hf).trans (v2 f hf), u3.trans v3⟩
section LPA
variable {G : om_G} {A t : Nat} {S : List Int} {σ : tS} {h0 : om_H} {m0 pr tb f1 : Nat} {Z OldL : Nat → Prop} {fl : List Nat} {Dk : Nat → Prop} {ds : List Nat} {l0 pv Lp te s tm : Nat}
/-- A PROGRAM -/
theorem prog_both (hG : om_okG G) (hI : intO G) (wo : whyO G) (hf : (f1, 50, 2000) ∈ tw_arr) (f6 : f1 ≠ 406) (hA : f1 ∉ ALR) (hS : S.length ≤ 1300) (hb : ∀ x ∈ S, -128 ≤ x ∧ x ≤ 127) (hT : ∀ (i : Nat) (x : Int), S[i]? = some x → ga σ f1 i = x) (NB : NodB σ) (C0 : PS0 G h0 m0 pr tb t A S Z OldL fl Dk ds l0 pv Lp te s tm) (Ct : Cst G h0 t S 0 0) (eA : fR h0 1122 t = A) (PL0 : PL G h0 pr t Z) (PC0 : ∀ f ∈ PFs, ll h0 (fR h0 f pr) = []) : ∃ (v : Int) (σe : tS) (r : Nat ⊕ Unit) (h2 : om_H), T_isProgram f1 (S.length : Int) σ = some (v, σe) ∧ cRun G m0 pr t (S.length : Int) h0 = some (r, h2) ∧ oFr (fun a => wLd h0 pr tb t Z fl Dk OldL a ∨ a = l0 ∨ a = pv ∨ a = Lp ∨ a = s ∨ a = tm ∨ kd h0 a = 39) h0 h2 ∧ (fr PTS PTA σ σe ∧ NodB σe) ∧ ((∃ (k p : Int) (a : Nat), v = 0 ∧ (gs σe 452 = k ∧ k ≠ 0 ∧ gs σe 456 = p) ∧ r = .inl a ∧ flt h2 a k p) ∨ (v = 1 ∧ r = .inr () ∧ gs σe 452 = 0 ∧ ∃ (m : Nat) (N : List (List Int)) (h' : om_H), PrT G A S m N pr tb (hz h0) Lp l0 pv te s tm OldL fl h' h2 σe)) := by
  obtain ⟨σ0, m, n, N, b1, T0, NT0, b4, al, Ty, z6, e420, Fb⟩ := t_prgB hf f6 hA hS hb hT
  have NB0 : NodB σ0 := fun i => by
    rw [Fb.2 842 (by decide)]
    exact NB i
  have hN : ∃ N', N = [110, 105, 108] :: [99, 111, 110, 115] :: N' := by
    obtain ⟨T, e⟩ := NT0.2.2.1
    exact ⟨Nal.drop 2 ++ T, by rw [← e]; rfl⟩
  have m13 : m ≤ 1300 := by omega
  have hZ : ∀ a, Z a → a < hz h0 := fun a w => (C0.2.2.1.2.2 a (C0.2.2.1.2.1 a w)).1
  have At0 : At G A t N S 0 m 0 0 0 σ0 h0 := ⟨T0, Ct, eA⟩
  have PB0 : PB G A t S 0 m Z pr σ0 h0 (hz h0 + 20 * m + 40) (hu h0 + 300 * m + 600) 0 0 σ0 h0 [] := ⟨⟨fr_refl _ _ _, fun _ _ _ _ => rfl, fun _ _ _ _ => rfl⟩, hp_refl Z t h0, PL0, ⟨by omega, by omega, by omega⟩, z6.1, ⟨by simp, List.Pairwise.nil, fun q hq => absurd hq List.not_mem_nil⟩, ⟨rfl, Nat.le_refl _⟩, PC0, fun f hf => by rw [PC0 f hf]; exact Nat.le_refl _⟩
  rcases prog_loop hG hN C0.1.2.2.2 hZ PL0.1.2.1 m13 (m + 1) 0 0 σ0 h0 [] (by omega) At0 PB0 with ⟨j, M', τ, hr, qs, x1, x2, x3, x4, x5⟩ | ⟨jf, M', τ, e, hr, x1, x2, x3, x4, x5, x6, x7⟩
  · have x2' : C_1_read G pr t h0 = some (.inr (), hr) := x2
    obtain ⟨r, h, h', σ', y1, y2, FR, TBf, ⟨y4, Fj, NBj⟩, y5⟩ := prog_jt hI wo m13 hS x3 x5 C0 x1 T0 NT0 al Ty z6 NB0
    have kr : kd hr pr = 2 := x5.2.2.1.1.1
    have Fσ : fr PTS PTA σ σ' := fr_trans (fr_mono Fb (fun f hf => List.mem_append_left _ hf) (fun f hf => List.mem_append_left _ hf)) (fr_mono Fj (fun f hf => List.mem_append_right _ (List.mem_append_left _ hf)) (fun f hf => List.mem_append_right _ (List.mem_append_left _ hf)))
    have ru : cRun G m0 pr t (S.length : Int) h0 = xc (some (r, h')) (fun a h => some (.inl a, h)) (fun _ h5 => gd (kd h5 m0 = 1) (C_0_measure G m0 pr (S.length : Int) h5)) := by
      unfold cRun
      rw [x2', xc_v, gd_pos kr, y1]
    have tu : T_isProgram f1 (S.length : Int) σ = T_isProgram_278 σ' := by
      rw [b1, x1, Option.bind_some, y2]
    rcases y5 with ⟨k, p, a, w1, w2, ⟨w3, w4⟩, w5⟩ | ⟨w1, w2, w3, w4⟩
    · have n0 : gs σ' 452 ≠ 0 := by rw [w3]; exact w4
      have t2 : T_isProgram_278 σ' = some (0, us (us (us (us σ' 1088 (gs σ' 484)) 1092 (gs σ' 564)) 1096 (gs σ' 532)) 1100 (gs σ' 496)) := by
        unfold T_isProgram_278
        rw [if_pos n0, t_289, if_pos n0]
      refine ⟨0, us (us (us (us σ' 1088 (gs σ' 484)) 1092 (gs σ' 564)) 1096 (gs σ' 532)) 1100 (gs σ' 496), .inl a, h', by rw [tu]; exact t2, by rw [ru, w1]; rfl, oFr_w (fun a _ w => .inl w) FR, ⟨fr_us (fr_us (fr_us (fr_us Fσ (by decide)) (by decide)) (by decide)) (by decide), NBj⟩, .inl ⟨k, p, a, rfl, ⟨w3, w4, w5⟩, rfl, w2⟩⟩
    · obtain ⟨v, σe, r2, h2, u1, u2, ⟨O2, Fm⟩, u3⟩ := prog_tell (l2 := (S.length : Int)) w4 w3 w2 (by rw [y4]; exact e420)
      have k1 : kd h' m0 = 1 := w3.1.2.1
      refine ⟨v, σe, r2, h2, by rw [tu]; exact u1, by rw [ru, w1, xc_v, gd_pos k1]; exact u2, oFr_tr FR O2 (fun a ha w => ?_), ⟨fr_trans Fσ (fr_mono Fm (fun f hf => List.mem_append_right _ (List.mem_append_right _ hf)) (fun f hf => List.mem_append_right _ (List.mem_append_right _ hf))), fun i => by rw [Fm.2 842 (by decide)]; exact NBj i⟩, ?_⟩
      · have ntb := TB_3 (C0.2.1.2.1 N (fun _ => 0))
        have etb : fR h' 122 tb = fR h0 122 tb ∧ fR h' 134 tb = fR h0 134 tb := ⟨TBf 122, TBf 134⟩
        rcases w with w | w | w | w | w | w
        · exact .inl (.inr (.inr (.inr (.inl w))))
        · exact .inl (.inr (.inr (.inr (.inr (.inr (.inr (.inr (.inl ⟨by rw [w, etb.1]; exact (C0.2.1.2.1 N (fun _ => 0)).2.1.1.2.1, by rw [w, etb.1]; exact C0.2.2.2.1.2.2.2⟩))))))))
        · exact .inl (.inr (.inr (.inr (.inr (.inl (by rw [← etb.2]; exact w))))))
        · exact .inl (.inr (.inr (.inr (.inr (.inr (.inl w))))))
        · omega
        · exact .inr (w.imp id (fun w => w.imp id (fun w => w.imp id (fun w => w.imp id (fun w => w.imp id (fun w => by rw [← FR.2.1 a ha]; exact w))))))
      rcases u3 with ⟨v0, ⟨g1, g2⟩, a, g3, g4⟩ | ⟨v1, g1, g2, g3⟩
      · exact .inl ⟨8, (S.length : Int), a, v0, ⟨g1, by decide, g2⟩, g3, g4⟩
      · exact .inr ⟨v1, g1, g2, m, N, h', g3⟩
  · have x2' : C_1_read G pr t h0 = some (.inl e, hr) := x2
    refine ⟨0, τ, .inl e, hr, ?_, ?_, ?_, ⟨fr_trans (fr_mono Fb (fun f hf => List.mem_append_left _ hf) (fun f hf => List.mem_append_left _ hf)) (fr_mono x5.1 (fun f hf => List.mem_append_right _ (List.mem_append_left _ (List.mem_append_left _ (List.mem_append_left _ hf)))) (fun f hf => List.mem_append_right _ (List.mem_append_left _ (List.mem_append_left _ (List.mem_append_left _ hf))))), fun i => by rw [x5.1.2 842 (by decide)]; exact NB0 i⟩, .inl ⟨1, (tokq S jf : Int), e, rfl, ⟨x4.2.2.2.1, by decide, x4.2.2.2.2.1⟩, rfl, x7⟩⟩
    · rw [b1, x1, Option.bind_some]
      unfold T_isProgram_148
      rw [if_neg (by rw [x4.2.2.2.1]; decide)]
    · unfold cRun
      rw [x2']
      rfl
    · have X := x6.1
      refine ⟨X.1, X.2.2.1, fun a ha nw _ => hp_eq X ha (fun z => nw (.inl (.inl z))) (fun z => nw (.inl (.inr (.inl z)))), fun a ha k22 => ?_⟩
      have e := hp_eq X ha (fun z => by have := C0.1.2.2.1; rw [← z] at this; omega) (fun z => by have := (C0.2.2.1.2.2 a (C0.2.2.1.2.1 a z)).2; omega)
      exact ⟨fun f _ => e.2.1 f, fun f _ => e.2.2.1 f, e.2.2.1 1358⟩
end LPA
