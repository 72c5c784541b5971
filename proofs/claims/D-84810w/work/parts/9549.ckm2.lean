set_option maxRecDepth 100000
/-! TERMS ARE TOLD ONE AFTER ANOTHER in the component: what can be told stays so -/
section LKM2
variable {G : om_G} {h h1 : om_H} {N : List (List Int)} {cl : Nat → Nat} {tb l0 sc pv Lp te s tm B : Nat} {us fs : List Nat} {rest : List (Nat × List Nat)} {Sl : Nat → Prop} {io : Nat → Nat} {ab : List (Option Nat)} {ins : List INs} {gv : List GVs} {nm con fam cnm : Nat → List Int} {ns : List Nat}
theorem wLt_KM (P : TvP G h N cl tb l0 us fs rest pv Lp te s) (m13 : kd h tm = 13) (A : KM N cl tb l0 pv Lp s tm rest us fs h h1) {a : Nat} {L : List Int} (W : wLt h a L) : wLt h1 a L := by
  obtain ⟨⟨b3, b4⟩, b5⟩ := W
  have k17 := b5.1
  have k50 := b5.2.1
  have c2 := KM_eq P m13 A b3 (by omega)
  have c3 := KM_eq P m13 A b4 (by omega)
  have z := A.1.1
  exact ⟨⟨by omega, by rw [c2.2.2.1]; omega⟩, wb_keep b5 c2.1 c3.1 c2.2.1 c2.2.2.1 c3.2.2.2.1 c3.2.2.2.2.1⟩
theorem hdC_KM (P : TvP G h N cl tb l0 us fs rest pv Lp te s) (m13 : kd h tm = 13) (A : KM N cl tb l0 pv Lp s tm rest us fs h h1) {k w : Nat} (H : hdC N cl nm con fam h k w) : hdC N cl nm con fam h1 k w := ⟨H.1, H.2.1, fun q => by
  obtain ⟨⟨b1, b2, b3, b4⟩, b5⟩ := H.2.2 q
  have c1 := KM_eq P m13 A b1 (by omega)
  obtain ⟨w1, w2⟩ := wLt_KM P m13 A (a := fR h 1214 (cl w)) ⟨⟨b3, b4⟩, b5⟩
  have z := A.1.1
  rw [c1.2.2.1]
  exact ⟨⟨by omega, by rw [c1.1]; exact b2, w1.1, w1.2⟩, w2⟩⟩
theorem tOc_KM (P : TvP G h N cl tb l0 us fs rest pv Lp te s) (m13 : kd h tm = 13) (A : KM N cl tb l0 pv Lp s tm rest us fs h h1) : ∀ {T : Ty}, tOc N cl nm con fam h T → tOc N cl nm con fam h1 T
  | .leaf, _ => trivial
  | .inner _ _ _ _ _, ⟨a, d, e⟩ => ⟨hdC_KM P m13 A a, tOc_KM P m13 A d, tOc_KM P m13 A e⟩
theorem GTH_KM (P : TvP G h N cl tb l0 us fs rest pv Lp te s) (m13 : kd h tm = 13) (A : KM N cl tb l0 pv Lp s tm rest us fs h h1) {T : Ty} (H : GTH ins (hdC N cl nm con fam h) T) : GTH ins (hdC N cl nm con fam h1) T := ⟨H.1, H.2.1, H.2.2.1, tOc_KM P m13 A H.2.2.2⟩
theorem InH_KM (P : TvP G h N cl tb l0 us fs rest pv Lp te s) (m13 : kd h tm = 13) (A : KM N cl tb l0 pv Lp s tm rest us fs h h1) (H : InH (hdC N cl nm con fam h) ins gv B) : InH (hdC N cl nm con fam h1) ins gv B := ⟨H.1, H.2.1, fun d hd => tOc_KM P m13 A (H.2.2.1 d hd), fun g hg w => tOc_KM P m13 A (H.2.2.2 g hg w)⟩
theorem tyG_KM (P : TvP G h N cl tb l0 us fs rest pv Lp te s) (m13 : kd h tm = 13) (A : KM N cl tb l0 pv Lp s tm rest us fs h h1) {T : Ty} (H : tyG N cl nm con fam h T) : tyG N cl nm con fam h1 T := ⟨H.1, H.2.1, H.2.2.1, tOc_KM P m13 A H.2.2.2⟩
theorem QC_KM (A : KM N cl tb l0 pv Lp s tm rest us fs h h1) {X : Ty} (H : QC h N cl (UU us rest) X) : QC h1 N cl (UU us rest) X := by
  obtain ⟨y, c⟩ := H
  exact ⟨y, A.2.1 _ _ c⟩
theorem kn2C_KM (P : TvP G h N cl tb l0 us fs rest pv Lp te s) (m13 : kd h tm = 13) (A : KM N cl tb l0 pv Lp s tm rest us fs h h1) {T V : Ty} (H : kn2C h N cl (UU us rest) ins gv nm con fam T V) : kn2C h1 N cl (UU us rest) ins gv nm con fam T V := ⟨H.1, ⟨GTH_KM P m13 A H.2.1.1, GTH_KM P m13 A H.2.1.2⟩, H.2.2.1, fun e => by
  obtain ⟨u0, a, b⟩ := H.2.2.2.1 e
  exact ⟨u0, knT_mono (fun X hX => QC_KM A hX) a, knT_mono (fun X hX => QC_KM A hX) b⟩, H.2.2.2.2⟩
theorem cnC_KM (P : TvP G h N cl tb l0 us fs rest pv Lp te s) (m13 : kd h tm = 13) (A : KM N cl tb l0 pv Lp s tm rest us fs h h1) {c : Nat} (H : cnC cl cnm h c) : cnC cl cnm h1 c := by
  obtain ⟨⟨b1, b2, b3, b4⟩, b5⟩ := H
  have c1 := KM_eq P m13 A b1 (by omega)
  obtain ⟨w1, w2⟩ := wLt_KM P m13 A (a := fR h 1206 (cl c)) ⟨⟨b3, b4⟩, b5⟩
  have z := A.1.1
  unfold cnC
  rw [c1.2.2.1]
  exact ⟨⟨by omega, by rw [c1.1]; exact b2, w1.1, w1.2⟩, w2⟩
theorem ioC_KM (P : TvP G h N cl tb l0 us fs rest pv Lp te s) (m13 : kd h tm = 13) (A : KM N cl tb l0 pv Lp s tm rest us fs h h1) {i : Nat} (H : ioC io h i) : ioC io h1 i := by
  obtain ⟨b1, b2, b3, b4⟩ := H
  have e := KM_eq P m13 A b2 (by omega)
  exact ⟨by rw [e.1]; exact b1, Nat.lt_of_lt_of_le b2 A.1.1, by rw [e.2.1]; exact b3, b4⟩
theorem evT_KM (P : TvP G h N cl tb l0 us fs rest pv Lp te s) (m13 : kd h tm = 13) (A : KM N cl tb l0 pv Lp s tm rest us fs h h1) {D : Dc} (H : evT N cl (UU us rest) ab ins gv nm con fam h D) : evT N cl (UU us rest) ab ins gv nm con fam h1 D := by
  rcases H with ⟨c, T, k1, k2, k3, k4, k5⟩ | ⟨T, V, e, k, n, ⟨g1, g2⟩, d⟩
  · exact .inl ⟨c, T, dcK_mono (fun X hX => QC_KM A hX) k1, k2, k3, k4, GTH_KM P m13 A k5⟩
  · exact .inr ⟨T, V, e, oneK_mono (fun X hX => QC_KM A hX) k, n, ⟨GTH_KM P m13 A g1, GTH_KM P m13 A g2⟩, d⟩
/-- what a term begins with can be told -/
theorem ScT_KM (P : TvP G h N cl tb l0 us fs rest pv Lp te s) (m13 : kd h tm = 13) (A : KM N cl tb l0 pv Lp s tm rest us fs h h1) (S : ScT N cl (UU us rest) (fun a => a ≠ fR h 122 tb ∧ a ≠ Lp) nm con fam cnm h sc ns gv) : ScT N cl (UU us rest) (fun a => a ≠ fR h1 122 tb ∧ a ≠ Lp) nm con fam cnm h1 sc ns gv := by
  obtain ⟨⟨s1, s2⟩, ⟨⟨a1, a2, a3⟩, a4, a5⟩, ⟨⟨b1, b2, b3⟩, b4, b5⟩⟩ := S
  have z := A.1.1
  have e := KM_eq P m13 A s1 (by omega)
  have e1 := KM_ll P m13 A a1 a2 a3.1 a3.2
  have e2 := KM_ll P m13 A b1 b2 b3.1 b3.2
  have e122 := A.2.2.1.2.2 122
  unfold ScT
  rw [e.2.2.1, e.2.2.1, e1.2.2.2.2.2.2.1, e2.2.2.2.2.2.2.1, e122]
  refine ⟨⟨by omega, by rw [e.1]; exact s2⟩, ⟨⟨by omega, by rw [e1.1]; exact a2, a3⟩, a4, fun i y w i1 i2 => ?_⟩, ⟨⟨by omega, by rw [e2.1]; exact b2, b3⟩, b4, fun i y g i1 i2 => ?_⟩⟩
  · obtain ⟨k17, W⟩ := a5 i y w i1 i2
    have ey := KM_eq P m13 A W.1.1 (by omega)
    exact ⟨by rw [ey.1]; exact k17, wLt_KM P m13 A W⟩
  · obtain ⟨⟨y1, y2⟩, W1, W2, n1, n2⟩ := b5 i y g i1 i2
    have ey := KM_eq P m13 A y1 (by omega)
    refine ⟨⟨by omega, by rw [ey.1]; exact y2⟩, by rw [ey.2.2.1]; exact wLt_KM P m13 A W1, by rw [ey.2.2.1]; exact wLt_KM P m13 A W2, fun c => by rw [ey.2.2.1]; exact n1 c, fun c => ?_⟩
    obtain ⟨m1, m2, m3⟩ := n2 c
    exact ⟨by rw [ey.2.2.1]; exact m1, by rw [ey.2.2.1]; exact A.2.1 _ _ m2, tyG_KM P m13 A m3⟩
/-- exs that can be told -/
theorem eT_KM (P : TvP G h N cl tb l0 us fs rest pv Lp te s) (m13 : kd h tm = 13) (A : KM N cl tb l0 pv Lp s tm rest us fs h h1) : ∀ {e : Et}, eT N cl nm con fam h (kn2C h N cl (UU us rest) ins gv nm con fam) (evT N cl (UU us rest) ab ins gv nm con fam h) e → eT N cl nm con fam h1 (kn2C h1 N cl (UU us rest) ins gv nm con fam) (evT N cl (UU us rest) ab ins gv nm con fam h1) e
  | .leaf, _ => trivial
  | .inner _ _ _ _ _, ⟨a1, a2, a3, a4, a5, a6, a7, a8⟩ => ⟨fun t0 c => ⟨kn2C_KM P m13 A (a1 t0 c).1, (a1 t0 c).2⟩, a2, fun t => ⟨fun p hp => tyG_KM P m13 A ((a3 t).1 p hp), fun D hD => evT_KM P m13 A ((a3 t).2 D hD)⟩, a4, fun t => tyG_KM P m13 A (a5 t), a6, fun q1 q2 => eT_KM P m13 A (a7 q1 q2), fun q1 q2 q3 => eT_KM P m13 A (a8 q1 q2 q3)⟩
/-- reasons -/
theorem evC_KM {E : JE} {lo dm : Nat} {ds : List Nat} {Dk : Nat → Prop} (P : TvP G h N cl tb l0 us fs rest pv Lp te s) (m13 : kd h tm = 13) (A : KM N cl tb l0 pv Lp s tm rest us fs h h1) (hD : ∀ d, Dk d → (d < hz h ∧ kd h d = 36) ∧ (fR h 1630 d ≠ 0 → (fR h 1630 d < hz h ∧ kd h (fR h 1630 d) = 42) ∧ fR h 1630 d ≠ fR h 122 tb ∧ fR h 1630 d ≠ Lp) ∧ (fR h 1634 d ≠ 0 → (fR h 1634 d < hz h ∧ kd h (fR h 1634 d) = 42) ∧ fR h 1634 d ≠ fR h 122 tb ∧ fR h 1634 d ≠ Lp)) {D : Dc} {y : Nat} (C : evC N cl rest io E lo h us Dk ds dm D y) : evC N cl rest io E lo h1 us Dk ds dm D y := by
  obtain ⟨⟨c1, c2⟩, c3⟩ := C
  have e := KM_eq P m13 A c1 (by omega)
  refine ⟨⟨Nat.lt_of_lt_of_le c1 A.1.1, by rw [e.1]; exact c2⟩, ?_⟩
  rw [e.2.2.1, e.2.2.1, e.2.2.1]
  rcases c3 with ⟨d, d0, d1, d2, d3, d4, d5⟩ | ⟨T, V, d1, d2, d3, d4⟩
  · refine .inl ⟨d, d0, d1, d2, d3, ?_, d5⟩
    exact DcX_keep (fun d w => KM_eq P m13 A (hD d w.1).1.1 (by have := (hD d w.1).1.2; omega)) (fun d w => ⟨fun n => (KM_ll P m13 A ((hD d w.1).2.1 n).1.1 ((hD d w.1).2.1 n).1.2 ((hD d w.1).2.1 n).2.1 ((hD d w.1).2.1 n).2.2).2.2.2.2.2.2.1, fun n => (KM_ll P m13 A ((hD d w.1).2.2 n).1.1 ((hD d w.1).2.2 n).1.2 ((hD d w.1).2.2 n).2.1 ((hD d w.1).2.2 n).2.2).2.2.2.2.2.2.1⟩) A.1.2.2.1 A.1.1 (fun _ w => w) A.2.1 d4
  · exact .inr ⟨T, V, d1, d2, A.2.1 _ _ d3, A.2.1 _ _ d4⟩
end LKM2
