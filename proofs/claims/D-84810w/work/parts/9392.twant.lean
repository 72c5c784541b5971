set_option maxRecDepth 100000
/-! THE TWIN: an ex is to be of a type; of a type of a form -/
/-- what came of it: a cast may be set at v -/
def WO {α : Type} (σ : tS) (n : Nat) (s : JS) (v : Nat) (z : (Nat × Nat) ⊕ (α × JS)) (C Z : Nat) (σ' : tS) (n' : Nat) : Prop := (fr NFS (846 :: NFA) σ σ' ∧ ∀ i, i ≠ v → ga σ' 846 i = ga σ 846 i) ∧ TyS σ' n' ∧ tx σ n σ' n' ∧ (∀ k p, z = .inl (k, p) → k ≠ 0 ∧ gs σ' 452 = (k : Int) ∧ gs σ' 456 = (p : Int) ∧ n' ≤ n + C + 142 * (300 - s.1) + Z) ∧ ∀ a s', z = .inr (a, s') → gs σ' 452 = 0 ∧ gs σ' 812 = (s'.1 : Int) ∧ (s.1 ≤ s'.1 ∧ s'.1 ≤ 300) ∧ n' ≤ n + C + 142 * (s'.1 - s.1) ∧ ∃ D, s'.2 = s.2 ++ D ∧ ∀ X ∈ D, ∃ t, tyT σ' n' X t
section LTW2
variable {σ : tS} {n : Nat} {E : JE} {B : Nat}
theorem fr_NW {σ τ : tS} (F : fr NFS NFA σ τ) : fr NFS (846 :: NFA) σ τ := fr_sub F (fun _ h => h) (fun _ h => List.mem_cons_of_mem _ h)
theorem fr_WJ {σ τ : tS} (F : fr NFS (846 :: NFA) σ τ) : fr JFS JFA σ τ := fr_sub F (fun f h => by
  simp only [List.mem_cons, List.not_mem_nil, or_false] at h ⊢
  omega) (fun f h => by
  simp only [List.mem_append, List.mem_cons, List.not_mem_nil, or_false] at h ⊢
  omega)
/-- judged exs stay -/
theorem XTe_keep {τ : tS} {n' : Nat} (F : fr JFS JFA σ τ) (X : tx σ n τ n') {e : Et} {lo hi v : Nat} (k : ∀ i, lo ≤ i → i < hi → ga τ 842 i = ga σ 842 i ∧ ga τ 846 i = ga σ 846 i) (H : XTe σ n e lo hi v) : XTe τ n' e lo hi v := XTg_keep F X (lo0 := lo) (hi0 := hi) (fun a x g1 g2 p => ⟨by rw [(k x g1 g2).1]; exact tyT_mono X p.1, by rw [(k x g1 g2).2]; exact tyT_mono X p.2⟩) e lo hi v (Nat.le_refl _) (Nat.le_refl _) H
theorem ua846 {τ : tS} {m : Nat} {v : Nat} {c : Int} (S : TyS τ m) : fr NFS (846 :: NFA) τ (ua τ 846 v c) ∧ TyS (ua τ 846 v c) m ∧ tx τ m (ua τ 846 v c) m ∧ (∀ i, i ≠ v → ga (ua τ 846 v c) 846 i = ga τ 846 i) ∧ (∀ f, gs (ua τ 846 v c) f = gs τ f) ∧ ∀ f i, f ≠ 846 → ga (ua τ 846 v c) f i = ga τ f i := by
  have g : ∀ f i, f ≠ 846 → ga (ua τ 846 v c) f i = ga τ f i := fun f i hf => by rw [ga_ua, if_neg (fun z => hf z.1)]
  refine ⟨⟨fun _ _ => rfl, fun f hf i => g f i (fun z => hf (by rw [z]; exact List.mem_cons_self))⟩, TyS_same (σ := τ) (τ := ua τ 846 v c) rfl (fun f hf i => g f i (fun z => by rw [z] at hf; revert hf; decide)) S, ⟨Nat.le_refl _, fun f hf _ x _ => g f x (fun z => by rw [z] at hf; revert hf; decide)⟩, fun i hi => by rw [ga_ua, if_neg (fun z => hi z.2)], fun _ => rfl, g⟩
/-- AN EX IS TO BE OF A TYPE -/
theorem t_wanted (J : JOk E B) (S : TyS σ n) (JT : JTE σ n E) {e : Et} {lo hi v : Nat} (H : XTe σ n e lo hi v) {T : Ty} {t : Int} (ct : tyT σ n T t) (okT : tyOk E.2.2.2.1 T) (hzT : tsz T ≤ 1000000) (okE : tyOk E.2.2.2.1 (eTy e)) (hzE : tsz (eTy e) ≤ 1000000) {s : JS} {z : (Nat × Nat) ⊕ (Et × JS)} (ez : jw E T e s = some z) (e812 : gs σ 812 = (s.1 : Int)) (h300 : s.1 ≤ 300) (R : n + 8900 < 126000) (f0 : gs σ 452 = 0) : ∃ σ' n', T_wanted (v : Int) t σ = some σ' ∧ WO σ n s v z 0 8900 σ' n' ∧ ∀ e' s', z = .inr (e', s') → XTe σ' n' e' lo hi v := by
  obtain ⟨σ1, a1, F1, S1, X1, W1⟩ := asks_W S JT (s := s) e812
  have FJ1 : fr JFS JFA σ σ1 := fr_sub F1 (by decide) (by decide)
  have i84 := XTg_in H
  have vN : ((v : Int)).toNat = v := by omega
  have hB := J.1.1
  have cE := XTe_ty H
  have e842 : ga σ1 842 v = ga σ 842 v := F1.2 842 (by decide) v
  have cE1 : tyT σ1 n (eTy e) (ga σ1 842 v) := by rw [e842]; exact tyT_mono X1 cE
  have ct1 : tyT σ1 n T t := tyT_mono X1 ct
  have H1 : XTe σ1 n e lo hi v := XTe_keep FJ1 X1 (fun i _ _ => ⟨F1.2 842 (by decide) i, F1.2 846 (by decide) i⟩) H
  obtain ⟨a, q⟩ := one_ends (ins := E.2.2.2.1) (gv := E.2.2.2.2) (0, s.1, s.2) (eTy e) T (Nat.zero_le _)
  obtain ⟨w, σ2, n2, g1, o1, o2, o3, o4, o5, o6⟩ := t_one (ab := E.2.2.1) J.1.1 J.1.2.1 J.1.2.2.1 q W1 cE1 ct1 okE.1 okT.1 okE.2.2 okT.2.2 hzE hzT (Nat.zero_le _) h300 (by show n + 81 * (60 - 0) + B < 126000; omega)
  have N1 : fr NFS NFA σ σ1 := fr_sub F1 (by decide) (by decide)
  have N2 : fr NFS NFA σ σ2 := fr_trans N1 (fr_ON o1)
  have X2 := tx_trans X1 o3
  have f2 : gs σ2 452 = 0 := by rw [o1.1 452 (by decide), F1.1 452 (by decide)]; exact f0
  have H2 : XTe σ2 n2 e lo hi v := XTe_keep (fr_NJ (fr_ON o1)) o3 (fun i _ _ => ⟨o1.2 842 (by decide) i, o1.2 846 (by decide) i⟩) H1
  have pl2 := t_placeOf e lo hi v H2
  rw [ePl_g] at pl2
  have base : T_wanted (v : Int) t σ = (if w ≠ 0 then if 0 ≤ (v : Int) ∧ (v : Int) < 8400 then (if ga σ2 842 v = t then some σ2 else if 0 ≤ (v : Int) ∧ (v : Int) < 8400 then some (ua σ2 846 v t) else none) else none else if gs σ2 823 = 0 then T_wanted_42 (v : Int) 4 σ2 else T_wanted_42 (v : Int) 7 σ2) := by
    unfold T_wanted
    rw [if_pos f0, a1, Option.bind_some, if_pos (by omega), vN, g1, Option.bind_some]
  rw [base]
  have flt : ∀ k : Nat, k ≠ 0 → n2 ≤ n + 142 * (300 - s.1) + 8900 → z = .inl (k, ePl e) → ∃ σ' n', T_wanted_42 (v : Int) (k : Int) σ2 = some σ' ∧ WO σ n s v z 0 8900 σ' n' ∧ ∀ e' s', z = .inr (e', s') → XTe σ' n' e' lo hi v := fun k hk hn ez' => by
    obtain ⟨u1, u2, u3⟩ := fails_f (σ := σ2) (k := (k : Int)) (p := ((ePl e : Nat) : Int))
    refine ⟨_, n2, by unfold T_wanted_42; rw [pl2, Option.bind_some, t_fails f2]; rfl, ⟨⟨fr_NW (fr_trans N2 (fr_sub u1 (by decide) (by decide))), fun i _ => by rw [gaus, gaus]; exact N2.2 846 (by decide) i⟩, TyS_u (TyS_u o2 (by decide)) (by decide), tx_trans X2 ⟨Nat.le_refl _, fun _ _ _ _ _ => rfl⟩, fun k' p' q' => ?_, fun a s' q' => by rw [ez'] at q'; cases q'⟩, fun e' s' q' => by rw [ez'] at q'; cases q'⟩
    rw [ez'] at q'
    injection Sum.inl.inj q' with q1 q2
    rw [← q1, ← q2]
    exact ⟨hk, u2, u3, by omega⟩
  unfold jw at ez
  by_cases same : tyE (eTy e) T = true
  · rw [if_pos same] at ez
    have ez' : z = .inr (e, s) := (Option.some.inj ez).symm
    have eq : eTy e = T := tyE_iff.mp same
    unfold oneP at q
    rw [if_pos same] at q
    have ea : a = some (true, (0, s.1, s.2)) := (Option.some.inj q).symm
    obtain ⟨b1, b2, b3, b4, b5, b6, b7, b8, D, b9, b10⟩ := o6 true (0, s.1, s.2) ea
    rw [if_pos rfl] at b2
    have tt : ga σ2 842 v = t := by
      have c1 := XTe_ty H2
      rw [eq] at c1
      exact tyT_inj o2.1 c1 (tyT_mono o3 ct1)
    rw [b2, if_pos (by decide), if_pos (by omega), if_pos tt]
    refine ⟨σ2, n2, rfl, ⟨⟨fr_NW N2, fun i _ => N2.2 846 (by decide) i⟩, o2, X2, fun k p q' => (by rw [ez'] at q'; cases q'), fun a s' q' => ?_⟩, fun e' s' q' => ?_⟩
    · rw [ez'] at q'
      injection Sum.inr.inj q' with q1 q2
      rw [← q2]
      have b8' : n2 ≤ n + 81 * (0 - 0) := b8
      exact ⟨f2, b4, ⟨Nat.le_refl _, h300⟩, by omega, [], by rw [List.append_nil], fun X hX => absurd hX List.not_mem_nil⟩
    · rw [ez'] at q'
      injection Sum.inr.inj q' with q1 q2
      rw [← q1]; exact H2
  · rw [if_neg same, q, Option.bind_some] at ez
    have ne : eTy e ≠ T := fun w => same (tyE_iff.mpr w)
    cases a with
    | none =>
      obtain ⟨b1, b2, b3⟩ := o5 rfl
      have b3' : n2 ≤ n + 81 * (60 - 0) + B := b3
      have ez' : z = .inl (7, ePl e) := (Option.some.inj ez).symm
      rw [b1, if_neg (fun z => z rfl), b2, if_neg (by decide)]
      exact flt 7 (by decide) (by omega) ez'
    | some pb =>
      obtain ⟨b, s'⟩ := pb
      obtain ⟨b1, b2, b3, b4, b5, b6, b7, b8, D, b9, b10⟩ := o6 b s' rfl
      have sd : s'.2.1 + 0 = s.1 + s'.1 := one_cnt q
      have b8' : n2 ≤ n + 81 * (s'.1 - 0) := b8
      simp only at ez
      cases b with
      | false =>
        rw [if_neg (by decide)] at ez b2
        have ez' : z = .inl (4, ePl e) := (Option.some.inj ez).symm
        rw [b2, if_neg (fun z => z rfl), b1, if_pos rfl]
        exact flt 4 (by decide) (by omega) ez'
      | true =>
        rw [if_pos rfl] at ez b2
        have ez' : z = .inr (eCs T e, s'.2.1, s'.2.2) := (Option.some.inj ez).symm
        have tt : ¬ ga σ2 842 v = t := fun w => ne (tyT_fun (XTe_ty H2) (by rw [w]; exact tyT_mono o3 ct1))
        rw [b2, if_pos (by decide), if_pos (by omega), if_neg tt, if_pos (by omega)]
        obtain ⟨u1, u2, u3, u4, u5, u6⟩ := ua846 (v := v) (c := t) o2
        refine ⟨_, n2, rfl, ⟨⟨fr_trans (fr_NW N2) u1, fun i hi => by rw [u4 i hi]; exact N2.2 846 (by decide) i⟩, u2, tx_trans X2 u3, fun k p q' => (by rw [ez'] at q'; cases q'), fun a s2 q' => ?_⟩, fun e' s2 q' => ?_⟩
        · rw [ez'] at q'
          injection Sum.inr.inj q' with q1 q2
          rw [← q2]
          exact ⟨by rw [u5]; exact f2, by rw [u5]; exact b4, ⟨by show s.1 ≤ s'.2.1; omega, b6⟩, by show n2 ≤ n + 0 + 142 * (s'.2.1 - s.1); omega, D, b9, fun X hX => by obtain ⟨t0, h0⟩ := b10 X hX; exact ⟨t0, tyT_mono u3 h0⟩⟩
        · rw [ez'] at q'
          injection Sum.inr.inj q' with q1 q2
          rw [← q1]
          exact XTe_cast H2 (tyT_mono o3 ct1)
end LTW2
