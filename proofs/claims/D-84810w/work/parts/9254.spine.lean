set_option maxRecDepth 100000
/-! LEFT SIDES THAT LIE IN ONE ANOTHER: the twin's row of them -/
/-- nodes that lie left in one another, told one by one -/
def spineS {α : Type} (I : Nat → Nat → Nat → Nat → Nat → α → Nat → Prop) : List α → List Nat → Nat → Nat → Nat → Nat → Nat → Nat → Prop
  | [], [], l, lo, hi, alo, ahi, top => l = top ∧ lo = hi ∧ alo ≤ ahi
  | x :: xs, s :: ss, l, lo, hi, alo, ahi, top => ∃ mid amid, I lo mid alo amid l x s ∧ spineS I xs ss s mid hi amid ahi top
  | _, _, _, _, _, _, _, _ => False
theorem spineR_S {α : Type} {I : Nat → Nat → Nat → Nat → Nat → α → Nat → Prop} : ∀ {xs : List α} {l lo hi alo ahi top : Nat}, spineR I xs l lo hi alo ahi top → ∃ ss, spineS I xs ss l lo hi alo ahi top
  | [], _, _, _, _, _, _, r => ⟨[], r⟩
  | x :: xs, l, lo, hi, alo, ahi, top, ⟨mid, amid, s, w, r⟩ => by
    obtain ⟨ss, q⟩ := spineR_S r
    exact ⟨s :: ss, mid, amid, w, q⟩
theorem spineS_R {α : Type} {I : Nat → Nat → Nat → Nat → Nat → α → Nat → Prop} : ∀ {xs : List α} {ss : List Nat} {l lo hi alo ahi top : Nat}, spineS I xs ss l lo hi alo ahi top → spineR I xs l lo hi alo ahi top
  | [], [], _, _, _, _, _, _, r => r
  | x :: xs, s :: ss, l, lo, hi, alo, ahi, top, ⟨mid, amid, w, r⟩ => ⟨mid, amid, s, w, spineS_R r⟩
  | [], _ :: _, _, _, _, _, _, _, r => r.elim
  | _ :: _, [], _, _, _, _, _, _, r => r.elim
theorem spineS_in {α : Type} {I : Nat → Nat → Nat → Nat → Nat → α → Nat → Prop} (hI : inI I) : ∀ {xs : List α} {ss : List Nat} {l lo hi alo ahi top : Nat}, spineS I xs ss l lo hi alo ahi top → lo + xs.length ≤ hi ∧ alo ≤ ahi ∧ xs.length = ss.length ∧ ∀ s ∈ ss, lo ≤ s ∧ s < hi
  | [], [], _, _, _, _, _, _, r => ⟨by have := r.2.1; simp; omega, r.2.2, rfl, fun s hs => absurd hs List.not_mem_nil⟩
  | x :: xs, s :: ss, l, lo, hi, alo, ahi, top, ⟨mid, amid, w, r⟩ => by
    obtain ⟨w1, w2, w3⟩ := hI _ _ _ _ _ _ _ w
    obtain ⟨r1, r2, r3, r4⟩ := spineS_in hI r
    refine ⟨by simp; omega, by omega, by simp [r3], fun y hy => ?_⟩
    rcases List.mem_cons.mp hy with rfl | hy
    · omega
    · have := r4 y hy; omega
  | [], _ :: _, _, _, _, _, _, _, r => r.elim
  | _ :: _, [], _, _, _, _, _, _, r => r.elim
/-- a node is put on the row -/
def psh (σ : tS) (s : Nat) : tS := us (ua σ 850 (gs σ 856).toNat (s : Int)) 856 (gs σ 856 + 1)
def pshL : List Nat → tS → tS
  | [], σ => σ
  | s :: ss, σ => psh (pshL ss σ) s
theorem pshL_gs {σ : tS} : ∀ (ss : List Nat), gs (pshL ss σ) 856 = gs σ 856 + (ss.length : Int)
  | [] => by simp [pshL]
  | s :: ss => by
    show gs (us _ 856 (gs (pshL ss σ) 856 + 1)) 856 = _
    rw [gs_us, if_pos rfl, pshL_gs ss]
    simp
    omega
theorem pshL_fr {σ : tS} : ∀ (ss : List Nat), fr [856] [850] σ (pshL ss σ)
  | [] => fr_refl _ _ _
  | s :: ss => by
    obtain ⟨a1, a2⟩ := pshL_fr (σ := σ) ss
    refine ⟨fun f hf => ?_, fun f hf i => ?_⟩
    · show gs (us _ 856 _) f = _
      rw [gs_us, if_neg (fun z => hf (by rw [z]; decide))]
      exact a1 f hf
    · show ga (ua (pshL ss σ) 850 _ _) f i = _
      rw [ga_ua, if_neg (fun z => hf (by rw [z.1]; decide))]
      exact a2 f hf i
/-- what stands on the row, the lowest first -/
def onR (σ : tS) (sp : Nat) : List Nat → Prop
  | [] => True
  | s :: ss => ga σ 850 (sp + ss.length) = (s : Int) ∧ onR σ sp ss
theorem onR_keep {σ τ : tS} {sp : Nat} : ∀ {ss : List Nat}, onR σ sp ss → (∀ i, i < sp + ss.length → ga τ 850 i = ga σ 850 i) → onR τ sp ss
  | [], _, _ => trivial
  | s :: ss, ⟨o1, o2⟩, k => ⟨by rw [k _ (by simp)]; exact o1, onR_keep o2 (fun i hi => k i (by simp; omega))⟩
theorem pshL_on {σ : tS} {sp : Nat} (e : gs σ 856 = (sp : Int)) : ∀ (ss : List Nat), onR (pshL ss σ) sp ss ∧ ∀ i, i < sp → ga (pshL ss σ) 850 i = ga σ 850 i
  | [] => ⟨trivial, fun _ _ => rfl⟩
  | s :: ss => by
    obtain ⟨o1, o2⟩ := pshL_on e ss
    have g := pshL_gs (σ := σ) ss
    have t : (gs (pshL ss σ) 856).toNat = sp + ss.length := by rw [g, e]; omega
    have k : ∀ i, i ≠ sp + ss.length → ga (pshL (s :: ss) σ) 850 i = ga (pshL ss σ) 850 i := fun i hi => by
      show ga (ua (pshL ss σ) 850 (gs (pshL ss σ) 856).toNat (s : Int)) 850 i = _
      rw [t, ga_ua, if_neg (fun z => hi z.2)]
    refine ⟨⟨?_, onR_keep o1 (fun i hi => k i (by omega))⟩, fun i hi => (k i (by omega)).trans (o2 i hi)⟩
    show ga (ua (pshL ss σ) 850 (gs (pshL ss σ) 856).toNat (s : Int)) 850 (sp + ss.length) = _
    rw [t, ga_ua, if_pos ⟨rfl, rfl⟩]
/-- the twin goes down -/
theorem spine_down {α : Type} {I : Nat → Nat → Nat → Nat → Nat → α → Nat → Prop} {σ : tS} {sp : Nat} {r : Int → tS → Option tS} {l2 : Int} (hI : ∀ lo hi alo ahi l x s, I lo hi alo ahi l x s → ga σ 546 s = (l : Int) ∧ (ga σ 538 s = 12 ∨ ga σ 538 s = 13 ∨ ga σ 538 s = 18) ∧ lo ≤ s ∧ s + 1 = hi ∧ alo ≤ ahi) (e : gs σ 856 = (sp : Int)) : ∀ {xs : List α} {ss : List Nat} {l lo hi alo ahi top : Nat}, spineS I xs ss l lo hi alo ahi top → hi ≤ 8400 → sp + xs.length ≤ 4200 → om_loop (T_exKnown_7s r l2) ((top : Int), σ) = om_loop (T_exKnown_7s r l2) ((l : Int), pshL ss σ)
  | [], [], l, lo, hi, alo, ahi, top, q, _, _ => by rw [q.1]; rfl
  | x :: xs, s :: ss, l, lo, hi, alo, ahi, top, ⟨mid, amid, w, q⟩, h8, h4 => by
    obtain ⟨w1, w2, w3, w4, w5⟩ := hI _ _ _ _ _ _ _ w
    have hin := spineS_in (fun lo hi alo ahi l x s w => by have := hI lo hi alo ahi l x s w; exact ⟨this.2.2.1, this.2.2.2.1, this.2.2.2.2⟩) q
    rw [spine_down hI e q h8 (by simp at h4; omega)]
    have F := pshL_fr (σ := σ) ss
    have g := pshL_gs (σ := σ) ss
    have k1 : ga (pshL ss σ) 538 s = ga σ 538 s := F.2 538 (by decide) s
    have k2 : ga (pshL ss σ) 546 s = ga σ 546 s := F.2 546 (by decide) s
    have hs : s < 8400 := by omega
    refine om_loop_in ?_
    unfold T_exKnown_7s
    simp only
    have h4' : sp + ss.length < 4200 := by simp at h4; have := hin.2.2.1; omega
    rw [hasLeft1 hs (by rw [k1]; exact w2), Option.bind_some, if_neg (by decide), if_pos (by rw [g, e]; omega), show ((s : Int)).toNat = s by omega, k2, w1, w32_s (by rw [g, e]; omega) (by rw [g, e]; omega)]
    rfl
  | [], _ :: _, _, _, _, _, _, _, q, _, _ => q.elim
  | _ :: _, [], _, _, _, _, _, _, q, _, _ => q.elim
/-- the twin takes the lowest one from its row -/
theorem spine_pop {σ : tS} {sp : Nat} {r : Int → tS → Option tS} {l2 : Int} {s : Nat} {ss : List Nat} (hl : l2 ≤ (sp : Int)) (e : gs σ 856 = ((sp + ss.length + 1 : Nat) : Int)) (o : ga σ 850 (sp + ss.length) = (s : Int)) (h4 : sp + ss.length < 4200) (hs : s < 8400) : T_exKnown_50s r l2 σ = if ga σ 538 s ≠ 13 then T_exKnown_108 r l2 (s : Int) (us σ 856 ((sp + ss.length : Nat) : Int)) else T_exKnown_89 r l2 (s : Int) (us σ 856 ((sp + ss.length : Nat) : Int)) := by
  have w : w32 (gs σ 856 - 1) = ((sp + ss.length : Nat) : Int) := by rw [e, w32_s (by omega) (by omega)]; omega
  have t : (((sp + ss.length : Nat) : Int)).toNat = sp + ss.length := by omega
  unfold T_exKnown_50s
  rw [if_neg (by rw [e]; omega), w, t, o, if_pos (by omega), show ((s : Int)).toNat = s by omega]
section LSG
variable {S : List Int} {b m : Nat} {N : List (List Int)} {K : KT} {sc : List Nat} {F : FT} {Ms : List FT} {bd : List Nat} {σ τ υ : tS} {n n' n2 q q2 lo hi sp s1 s2 : Nat} {X X2 : Int}
/-- a step of the twin from a longer row to another one -/
def SG (S : List Int) (b m : Nat) (N : List (List Int)) (K : KT) (sc : List Nat) (F : FT) (Ms : List FT) (bd : List Nat) (sp s1 lo hi : Nat) (σ : tS) (n : Nat) (τ : tS) (n' q : Nat) (X : Int) : Prop :=
  EU S b m N K sc F Ms τ n' bd s1 ∧ fr [452, 456, 532, 788, 856] (550 :: 782 :: 850 :: TYA) σ τ ∧ (∀ i, (lo ≤ i ∧ i < hi ∧ ga σ 538 i ∈ [10, 13, 14, 15, (19 : Int)]) ∨ ga τ 550 i = ga σ 550 i) ∧ (∀ i, i < bd.length → ga τ 782 i = ga σ 782 i) ∧ (∀ i, i < sp → ga τ 850 i = ga σ 850 i) ∧ tx σ n τ n' ∧ n' ≤ n + q ∧ bp τ = min (bp σ) X
theorem SG_SU : SG S b m N K sc F Ms bd sp sp lo hi σ n τ n' q X ↔ SU S b m N K sc F Ms bd sp lo hi σ n τ n' q X := Iff.rfl
theorem SG_of (C : SU S b m N K sc F Ms bd s1 lo hi σ n τ n' q X) (h : sp ≤ s1) : SG S b m N K sc F Ms bd sp s1 lo hi σ n τ n' q X := ⟨C.1, C.2.1, C.2.2.1, C.2.2.2.1, fun i hi => C.2.2.2.2.1 i (by omega), C.2.2.2.2.2⟩
theorem SG_trans (A1 : SG S b m N K sc F Ms bd sp s1 lo hi σ n τ n' q X) (B1 : SG S b m N K sc F Ms bd sp s2 lo hi τ n' υ n2 q2 X2) : SG S b m N K sc F Ms bd sp s2 lo hi σ n υ n2 (q + q2) (min X X2) := by
  obtain ⟨a1, a2, a3, a4, a5, a6, a7, a8⟩ := A1
  obtain ⟨b1, b2, b3, b4, b5, b6, b7, b8⟩ := B1
  refine ⟨b1, fr_trans a2 b2, fun i => ?_, fun i hi => (b4 i hi).trans (a4 i hi), fun i hi => (b5 i hi).trans (a5 i hi), tx_trans a6 b6, by omega, by omega⟩
  rcases b3 i with z | z
  · exact .inl ⟨z.1, z.2.1, by rw [a2.2 538 (by decide)] at z; exact z.2.2⟩
  · rcases a3 i with y | y
    · exact .inl y
    · exact .inr (z.trans y)
theorem EU_856 {τ : tS} (H : EU S b m N K sc F Ms σ n bd sp) (R : fr [856] [850] σ τ) (e : gs τ 856 = (s1 : Int)) : EU S b m N K sc F Ms τ n bd s1 := by
  obtain ⟨h1, ⟨h2, h3⟩, h4, h5⟩ := H
  have e1 : gs τ 452 = gs σ 452 := R.1 452 (by decide)
  have e2 : gs τ 456 = gs σ 456 := R.1 456 (by decide)
  exact ⟨KU_step h1 R (by decide) (by decide) (TyK_same (R.1 532 (by decide)) (fun f hf i => R.2 f (fun z => by rw [List.mem_singleton.mp z] at hf; exact absurd hf (by decide)) i) h1.1) (by rw [e1]; exact h1.2.2.2.2.1) (by rw [bp_eq e1 e2]; omega), ⟨by rw [R.1 788 (by decide)]; exact h2, fun i v hv => by rw [R.2 782 (by decide)]; exact h3 i v hv⟩, e, fun w L hw => by rw [R.2 638 (by decide)]; exact h5 w L hw⟩
/-- the row is made longer, or shorter -/
theorem SG_856 {τ : tS} {s0 : Nat} (H : EU S b m N K sc F Ms σ n bd s0) (R : fr [856] [850] σ τ) (e : gs τ 856 = (s1 : Int)) (k : ∀ i, i < sp → ga τ 850 i = ga σ 850 i) : SG S b m N K sc F Ms bd sp s1 lo hi σ n τ n 0 2147483647 := by
  have g : ∀ f, f ≠ 850 → ∀ i, ga τ f i = ga σ f i := fun f hf i => R.2 f (fun z => hf (List.mem_singleton.mp z)) i
  have bx := H.1.2.2.2.2.2
  exact ⟨EU_856 H R e, ⟨fun f hf => R.1 f (fun z => hf (by rw [List.mem_singleton.mp z]; decide)), fun f hf i => g f (fun z => hf (by rw [z]; decide)) i⟩, fun i => .inr (g 550 (by decide) i), fun i _ => g 782 (by decide) i, k, tx_same (fun f hf i => g f (fun z => by rw [z] at hf; exact absurd hf (by decide)) i), by omega, by rw [bp_eq (σ := σ) (τ := τ) (R.1 452 (by decide)) (R.1 456 (by decide))]; omega⟩
theorem fr_us856 {x : Int} : fr [856] [850] σ (us σ 856 x) := ⟨fun f hf => by rw [gs_us, if_neg (fun z => hf (by rw [z]; decide))], fun f _ i => rfl⟩
end LSG
