set_option maxRecDepth 100000
/-! PHASE ONE in the twin: declarations -/
/-- what a class's coming leaves as it was -/
def kFr (c : Nat) (σ τ : tS) : Prop := fr [452, 456, 644] (CA ++ HA) σ τ ∧ (∀ f ∈ HA, ∀ i, i ≠ c → ga τ f i = ga σ f i) ∧ ∀ i, (i < 4 * c ∨ 4 * c + 4 ≤ i) → ga τ 682 i = ga σ 682 i
section LPG4
variable {S : List Int} {N : List (List Int)} {b m j d jn jv : Nat} {σ τ υ : tS} {K : KT} {F Fm : FT} {Ms : List FT} {tg tn : List (List Int)} {L : List Int} {w c : Nat} {ab fam : Option Nat} {ns js : List Nat}
theorem kFr_trans (A : kFr c σ τ) (B : kFr c τ υ) : kFr c σ υ := ⟨fr_trans A.1 B.1, fun f hf i h => (B.2.1 f hf i h).trans (A.2.1 f hf i h), fun i h => (B.2.2 i h).trans (A.2.2 i h)⟩
set_option maxHeartbeats 1000000 in
/-- a class, one of the first eight -/
theorem t_standC (nd : ndN N) (hS : S.length ≤ 2000) (hK : K.length = Ms.length) (hM : Ms.length < 8) (hd : d < 700) (T : TT σ N S b m) (e0 : ga σ 570 d = 5) (ec : gs σ 644 = (Ms.length : Int)) (en : ga σ 578 d = ((b + jn : Nat) : Int)) (kn : tokk S jn = 3) (ev : ga σ 582 d = ((b + jv : Nat) : Int)) (kv : tokk S jv = 2) (ea : ga σ 586 d = oT b ab) (ka : ∀ a ∈ ab, tokk S a = 3) (ef : ga σ 610 d = oT b fam) (kf : ∀ f ∈ fam, tokk S f = 3) (C : chain σ (ga σ 602 d) ns) (M : mT S b σ ns js) (A : GT σ N K tg) (H : XM σ N F Ms tn) (hf : gs σ 452 = 0 ∨ gs σ 452 = 2) :
    ∃ τ, T_stand (d : Int) σ = some τ ∧ kFr Ms.length σ τ ∧ gs τ 644 = (Ms.length : Int) + 1 ∧ (gs τ 452 = 0 ∨ gs τ 452 = 2) ∧ bp τ = mnl (bp σ) (abB S K ab ++ clbB S tg tn jn fam js) ∧ GT τ N (K ++ [clsK S tg jn fam]) (tg ++ [tokw S jn] ++ oW S fam) ∧ XM τ N F (Ms ++ [mthF S (nwG S tg jn) tn 0 js]) (tn ++ js.map (tokw S)) ∧ cRow S N τ Ms.length d jn jv ab fam K tg (mthF S (nwG S tg jn) tn 0 js) := by
  obtain ⟨σ1, q1, q2, q3, q4, q5, q6, q7, q8, q9, q10⟩ := t_clhead hM hd T e0 ec en kn ev kv
  have nin : ∀ f, f ∉ HA → ∀ i, ga σ1 f i = ga σ f i := fun f h i => q2.2 f h i
  have f1 : gs σ1 452 = 0 ∨ gs σ1 452 = 2 := by rw [q2.1 452 (by decide)]; exact hf
  have b1 : bp σ1 = bp σ := bp_eq (q2.1 452 (by decide)) (q2.1 456 (by decide))
  have A1 : GT σ1 N K tg := GT_same (fun g hg i => nin g (fun z => by simp only [List.mem_cons, List.not_mem_nil, or_false] at z hg; omega) i) A
  have T1 : TT σ1 N S b m := TT_fr2 q2 (by decide) T
  obtain ⟨σ2, r1, r2, r3, r4, r5, r6⟩ := t_stand137 hS hd hM T1 A1 (ab := ab) (by rw [nin 586 (by decide)]; exact ea) ka q8 f1
  have nin2 : ∀ f, f ≠ 670 → ∀ i, ga σ2 f i = ga σ1 f i := fun f h i => r2.2 f (by simpa using h) i
  have nin3 : ∀ f, f ∉ HA → ∀ i, ga σ2 f i = ga σ f i := fun f h i => by rw [nin2 f (fun z => h (by rw [z]; decide)), nin f h]
  obtain ⟨τ, t1, t2, t3, t4, t5, t6, t7, t8⟩ := t_stand184 nd hS hK hM hd (σ := σ2) (jn := jn) (fam := fam) (tg := tg) (K := K) (TT_fr2 r2 (by decide) T1) (by rw [nin3 602 (by decide)]; exact chain_keep C (fun x _ => nin3 562 (by decide) x)) (mT_keep (fun x => nin3 542 (by decide) x) M) (by rw [nin3 578 (by decide)]; exact en) kn (by rw [nin3 610 (by decide)]; exact ef) kf (GT_same (fun g hg i => nin3 g (fun z => by simp only [List.mem_cons, List.not_mem_nil, or_false] at z hg; omega) i) A) (XM_cls (XM_same (fun g hg i => nin3 g (fun z => by simp only [List.mem_cons, List.not_mem_nil, or_false] at z hg; omega) i) H)) ⟨by rw [nin2 678 (by decide), q10]; rfl, fun i L e => by simp at e⟩ (by rw [nin2 674 (by decide), q9]) r4
  have tin : ∀ f, f ∉ CA → ∀ i, ga τ f i = ga σ2 f i := fun f h i => t2.1.2 f h i
  refine ⟨τ, by rw [q1, r1, t1], ⟨?_, fun f hf' i hi => ?_, fun i hi => ?_⟩, ?_, t3, ?_, t5, t6, ?_, ?_, ?_, ?_, t8, t7⟩
  · exact fr_trans (fr_wide q2 (by simp) (fun f h => List.mem_append_right _ h)) (fr_trans (fr_wide r2 (by simp) (by simp)) (fr_wide t2.1 (by simp) (fun f h => List.mem_append_left _ h)))
  · have g1 : ga σ2 f i = ga σ f i := by
      by_cases z : f = 670
      · rw [z, r3 i hi, q4 670 i hi]
      · rw [nin2 f z, q4 f i hi]
    rw [← g1]
    by_cases z8 : f = 678
    · rw [z8]; exact (t2.2.1 i hi).1
    · by_cases z4 : f = 674
      · rw [z4]; exact (t2.2.1 i hi).2
      · exact tin f (fun z => by simp only [List.mem_cons, List.not_mem_nil, or_false] at z hf'; omega) i
  · rw [t2.2.2 i hi, nin3 682 (by decide)]
  · rw [t2.1.1 644 (by decide), r2.1 644 (by decide), q3]
  · rw [mnl_app, ← b1, ← r5]; exact t4
  · rw [tin 658 (by decide), nin2 658 (by decide)]; exact q5
  · rw [tin 662 (by decide), nin2 662 (by decide)]; exact q6
  · rw [tin 666 (by decide), nin2 666 (by decide)]; exact q7
  · rw [tin 670 (by decide)]; exact r6
set_option maxHeartbeats 1000000 in
/-- a class behind the first eight -/
theorem t_standC8 (nd : ndN N) (hS : S.length ≤ 2000) {j0 : Nat} (hj : j0 ≤ m) (hd : d < 700) (T : TT σ N S b m) (e0 : ga σ 570 d = 5) (e4 : ga σ 574 d = ((b + j0 : Nat) : Int)) (ec : gs σ 644 = 8) (en : ga σ 578 d = ((b + jn : Nat) : Int)) (kn : tokk S jn = 3) (ef : ga σ 610 d = oT b fam) (kf : ∀ f ∈ fam, tokk S f = 3) (C : chain σ (ga σ 602 d) ns) (M : mT S b σ ns js) (A : GT σ N K tg) (H : XM σ N F Ms tn) :
    ∃ τ, T_stand (d : Int) σ = some τ ∧ fr [452, 456] [770, 774] σ τ ∧ gs τ 452 = 2 ∧ bp τ = min (bp σ) (tokq S j0 : Int) ∧ GT τ N (K ++ [(none, none)]) (tg ++ [tokw S jn] ++ oW S fam) ∧ XM τ N F (Ms ++ [js.map (fun _ => none)]) (tn ++ js.map (tokw S)) := by
  have d7 : (0 : Int) ≤ (d : Int) ∧ (d : Int) < 700 := by omega
  obtain ⟨τ, e1, e2, e3, e5⟩ := t_breaks T (j := j0) hj hS (w := 2) (by decide)
  have T1 : TT τ N S b m := TT_fr2 e2 (by decide) T
  obtain ⟨w, w1, w2, w3⟩ := t_nameAt T1 (.inr kn)
  have A1 : GT τ N K tg := GT_same (fun g _ i => e2.2 g (by simp) i) A
  have w4 := GT_w A1 w2
  have f1 : fr [452, 456] [770, 774] σ (ua τ 770 w 1) := fr_ua (fr_wide e2 (by simp) (by simp)) (by simp)
  obtain ⟨τ2, t1, t2, t3, t4⟩ := t_tells nd hd (σ := ua τ 770 w 1) (Fm := []) (fam := fam) (TT_fr2 f1 (by decide) T) (by rw [f1.2 602 (by decide)]; exact chain_keep C (fun x _ => f1.2 562 (by decide) x)) (mT_keep (fun x => f1.2 542 (by decide) x) M) (by rw [f1.2 610 (by decide)]; exact ef) kf (GT_nn (GT_mark nd A1 w2)) (XM_cls (XM_same (fun g hg i => by rw [ga_ua, if_neg (fun z => by rw [z.1] at hg; exact absurd hg (by decide)), e2.2 g (by simp)]) H))
  refine ⟨τ2, ?_, fr_trans f1 (fr_wide t2 (by simp) (by simp)), ?_, ?_, t3, t4⟩
  · unfold T_stand
    rw [if_pos d7, Int.toNat_natCast, if_neg (fun z => z e0), ec, if_neg (by decide), if_pos d7, e4, e1]
    simp only [Option.bind_some]
    rw [if_pos d7, e2.2 578 (by simp), en, w1]
    simp only [Option.bind_some]
    rw [if_pos ⟨by omega, by omega⟩, Int.toNat_natCast, t1]
    rfl
  · rw [t2.1 452 (by simp)]; exact e3
  · rw [bp_eq (t2.1 452 (by simp)) (t2.1 456 (by simp))]; exact e5
/-- an inst -/
theorem t_standI (hS : S.length ≤ 2000) {j0 ni : Nat} (hj : j0 ≤ m) (hd : d < 700) (T : TT σ N S b m) (e0 : ga σ 570 d = 6) (e4 : ga σ 574 d = ((b + j0 : Nat) : Int)) (ec : gs σ 648 = ((min 20 ni : Nat) : Int)) (hf : gs σ 452 = 0 ∨ gs σ 452 = 2) :
    ∃ τ, T_stand (d : Int) σ = some τ ∧ fr [452, 456, 648] [690] σ τ ∧ (gs τ 452 = 0 ∨ gs τ 452 = 2) ∧ gs τ 648 = ((min 20 (ni + 1) : Nat) : Int) ∧ bp τ = mnl (bp σ) (if ni < 20 then [] else [(tokq S j0 : Int)]) ∧ (∀ i, i ≠ ni → ga τ 690 i = ga σ 690 i) ∧ (ni < 20 → ga τ 690 ni = (d : Int)) := by
  have d7 : (0 : Int) ≤ (d : Int) ∧ (d : Int) < 700 := by omega
  unfold T_stand
  rw [if_pos d7, Int.toNat_natCast, if_pos (by omega), if_pos d7, if_neg (fun z => z e0), ec]
  by_cases q : ni < 20
  · have e : ((min 20 ni : Nat) : Int) = (ni : Int) := by omega
    rw [e, if_pos (by omega), if_pos ⟨by omega, by omega⟩, Int.toNat_natCast, w32_s (by omega) (by omega)]
    refine ⟨_, rfl, fr_us (fr_ua (fr_refl _ _ _) (by simp)) (by simp), ?_, ?_, ?_, fun i hi => ?_, fun _ => ?_⟩
    · rw [gs_us, if_neg (by decide)]; exact hf
    · rw [gs_us, if_pos rfl]; omega
    · rw [if_pos q]
      exact bp_eq (by rw [gs_us, if_neg (by decide)]; rfl) (by rw [gs_us, if_neg (by decide)]; rfl)
    · show ga (ua σ 690 ni (d : Int)) 690 i = ga σ 690 i
      rw [ga_ua, if_neg (fun z => hi z.2)]
    · show ga (ua σ 690 ni (d : Int)) 690 ni = (d : Int)
      rw [ga_ua, if_pos ⟨rfl, rfl⟩]
  · have e : ((min 20 ni : Nat) : Int) = 20 := by omega
    obtain ⟨τ, e1, e2, e3, e5⟩ := t_breaks T (j := j0) hj hS (w := 2) (by decide)
    rw [e, if_neg (by decide), if_pos d7, e4, e1]
    refine ⟨τ, rfl, fr_wide e2 (by simp) (by simp), .inr e3, ?_, ?_, fun i _ => e2.2 690 (by simp) i, fun z => absurd z q⟩
    · rw [e2.1 648 (by decide), ec]; omega
    · rw [if_neg q]; exact e5
end LPG4
