set_option maxRecDepth 100000
/-! THE COMPONENT's judge: a function's givens -/
/-- types that were made and are there -/
def tsD (N : List (List Int)) (cl : Nat → Nat) (rest : List (Nat × List Nat)) (ts ts' : List Ty) (h' : om_H) (us' : List Nat) : Prop := ∃ D, ts' = ts ++ D ∧ ∀ X ∈ D, ∃ y, tyC h' N cl (UU us' rest) X y
/-- reasons, in a row -/
def evLs (N : List (List Int)) (cl : Nat → Nat) (rest : List (Nat × List Nat)) (io : Nat → Nat) (E : JE) (lo : Nat) (h : om_H) (us : List Nat) (Dk : Nat → Prop) (ds : List Nat) (dm : Nat) (Ds : List Dc) (evs : List Nat) : Prop := evs.length = Ds.length ∧ ∀ (i y : Nat) (D : Dc), evs[i]? = some y → Ds[i]? = some D → evC N cl rest io E lo h us Dk ds dm D y
/-- a name, while its givens are asked for -/
def NmS (N : List (List Int)) (cl : Nat → Nat) (tb : Nat) (rest : List (Nat × List Nat)) (Lb : Nat) (io : Nat → Nat) (E : JE) (lo H0 : Nat) (Sl : Nat → Prop) (h : om_H) (us : List Nat) (Dk : Nat → Prop) (ds : List Nat) (dm nm pl Lt : Nat) (Ds : List Dc) (evs : List Nat) : Prop := (nm < hz h ∧ kd h nm = 28 ∧ fI h 1372 nm = (pl : Int) ∧ fR h 1462 nm = Lt) ∧ rsN h tb Sl Dk nm evs ∧ Lb ≠ fR h 1482 nm ∧ evLs N cl rest io E lo h us Dk ds dm Ds evs ∧ lo ≤ dm ∧ H0 ≤ hz h ∧ ∀ y ∈ evs, H0 ≤ y
/-- a name stays, but for its reasons -/
def nmK (h h' : om_H) (nm : Nat) : Prop := (∀ f, f ≠ 1482 → fR h' f nm = fR h f nm) ∧ ∀ f, fI h' f nm = fI h f nm
/-- what is done behind the givens -/
noncomputable def fnK (G : om_G) (nm x : Nat) : om_H ⊕ (om_H ⊕ ((Nat ⊕ Nat) × om_H)) → Option ((Nat ⊕ Nat) × om_H) := Sum.elim (fun v1 => gd (kd (nO v1 16 8) nm = 28 ∧ kd (nO v1 16 8) (hz v1) = 16) ((C_15_init G (hz v1) 6 (fI (nO v1 16 8) 1372 nm) (nO v1 16 8)).bind fun p2 => gd ((hz v1) ≠ 0) (some (.inl (hz v1), p2)))) (Sum.elim (fun v2 => some (.inr x, v2)) (fun v2 => some v2))
/-- an equality -/
noncomputable def eqB (G : om_G) (l0 : Nat) (l1 : Nat) (l2 : Nat) (p2 p3 : Nat) (i : Int) (h : om_H) : Option ((Int × om_H) ⊕ (om_H ⊕ om_H ⊕ ((Nat ⊕ Nat) × om_H))) := gd (kd h l0 = 37 ∧ kd h p2 = 22 ∧ kd h (fR h 1650 l0) = 3) ((C_2_family G (fR h 1650 l0) (fR h 1350 p2) p3 h).bind fun p5 => gd (kd p5.2 l1 = 28) (xc (C_8_fit G p5.1 (fI p5.2 1372 l1) p5.2) (fun t h => some (.inr (.inr (.inr (.inl t, h))))) (fun p6 h6 => gd (kd h6 l0 = 37 ∧ kd h6 p2 = 22 ∧ kd h6 l2 = 33 ∧ kd h6 (fR h6 1542 l2) = 5 ∧ kd h6 l1 = 28 ∧ kd h6 (fR h6 1646 l0) = 9) (xc (C_8_put G (fR h6 1646 l0) (fR h6 1354 p2) (fR h6 162 (fR h6 1542 l2)) (fR h6 1462 l1) (fI h6 1372 l1) h6) (fun t h => some (.inr (.inr (.inr (.inl t, h))))) (fun p7 h7 => gd (kd h7 l0 = 37 ∧ kd h7 l1 = 28 ∧ kd h7 (fR h7 1646 l0) = 9) (xc (C_8_areOne G (fR h7 1646 l0) p6 p7 (fI h7 1372 l1) h7) (fun t h => some (.inr (.inr (.inr (.inl t, h))))) (fun p8 h8 => if p8 ≠ 0 then gd (kd (nO h8 38 3) (hz h8) = 38) ((C_38_init G (hz h8) 0 p6 p7 (nO h8 38 3)).bind fun p9 => gd (kd p9 l1 = 28) ((C_28_because G l1 (hz h8) p9).bind fun p10 => some (.inl ((w32 (i + 1)), p10)))) else some (.inr (.inl h8)))))))))
/-- where an equality's things lie -/
def FB (h : om_H) (tb l0 jg nm pl Lt fi so Ln p2 c1 yv : Nat) : Prop := (kd h jg = 37 ∧ jg < hz h ∧ fR h 1646 jg = l0 ∧ fR h 1650 jg = tb) ∧ (kd h p2 = 22 ∧ p2 < hz h ∧ fR h 1350 p2 = c1 ∧ fR h 1354 p2 = yv) ∧ (kd h fi = 33 ∧ fi < hz h ∧ fR h 1542 fi = so) ∧ (kd h so = 5 ∧ so < hz h ∧ fR h 162 so = Ln) ∧ (kd h nm = 28 ∧ nm < hz h ∧ fI h 1372 nm = (pl : Int) ∧ fR h 1462 nm = Lt)
section LFN
variable {G : om_G} {N : List (List Int)} {cl : Nat → Nat} {tb l0 sc jg Lb : Nat} {rest : List (Nat × List Nat)} {Sl Gx U U' : Nat → Prop} {io fo mo : Nat → Nat} {E : JE} {B lo H0 : Nat} {Γ : List Ty} {tot q z u alo ahi nm pl Lt : Nat} {Ds : List Dc} {evs : List Nat} {h : om_H} {us fs : List Nat} {Dk : Nat → Prop} {ds : List Nat} {dm : Nat} {h1 : om_H} {us1 fs1 : List Nat} {Dk1 : Nat → Prop} {ds1 : List Nat} {dm1 : Nat} {h2 : om_H} {us2 fs2 : List Nat} {Dk2 : Nat → Prop} {ds2 : List Nat} {dm2 : Nat}
theorem tsD_refl {ts : List Ty} : tsD N cl rest ts ts h us := ⟨[], by simp, fun X hX => absurd hX List.not_mem_nil⟩
theorem tsD_trans {a b c : List Ty} (A : tsD N cl rest a b h1 us1) (kp : ∀ T x, tyC h1 N cl (UU us1 rest) T x → tyC h2 N cl (UU us2 rest) T x) (C : tsD N cl rest b c h2 us2) : tsD N cl rest a c h2 us2 := by
  obtain ⟨D, e, d⟩ := A
  obtain ⟨D', e', d'⟩ := C
  refine ⟨D ++ D', by rw [e', e, List.append_assoc], fun X hX => ?_⟩
  rcases List.mem_append.mp hX with w | w
  · obtain ⟨y, hy⟩ := d X w
    exact ⟨y, kp _ _ hy⟩
  · exact d' X w
theorem nmK_trans (A : nmK h h1 nm) (C : nmK h1 h2 nm) : nmK h h2 nm := ⟨fun f hf => (C.1 f hf).trans (A.1 f hf), fun f => (C.2 f).trans (A.2 f)⟩
theorem nmK_eq (e : eqA nm h h1) : nmK h h1 nm := ⟨fun f _ => e.2.2.1 f, e.2.1⟩
theorem dm_le (H : JQ G N cl tb l0 sc rest Gx io E jg Lb h us fs Dk ds dm Sl Γ tot) : dm ≤ ds.length := H.1.2.1.2.2.1.2.1
/-- a name stays in a step elsewhere -/
theorem NmS_KJ (H : JQ G N cl tb l0 sc rest Gx io E jg Lb h us fs Dk ds dm Sl Γ tot) (M : NmS N cl tb rest Lb io E lo H0 Sl h us Dk ds dm nm pl Lt Ds evs) (K : KJ N cl tb l0 sc rest Gx Lb Sl nm nm h us fs Dk ds dm h1 us1 fs1 Dk1 ds1 dm1 q z u) (hL : fR h 1482 nm ≠ 0 → noW h1 tb Sl Dk1 (fR h 1482 nm) ∧ eqA (fR h 1482 nm) h h1) : NmS N cl tb rest Lb io E lo H0 Sl h1 us1 Dk1 ds1 dm1 nm pl Lt Ds evs ∧ nmK h h1 nm := by
  obtain ⟨⟨n1, n2, n3, n4⟩, rs, nb, ev, hlo, h0, h00⟩ := M
  have e := K.2.1.2.1 nm n1 (by rw [n2]; unfold dyK; omega) (by omega)
  have X := KJ_hS K
  have dl := dm_le H
  refine ⟨⟨⟨Nat.lt_of_lt_of_le n1 X.1, by rw [e.1]; exact n2, by rw [e.2.1]; exact n3, by rw [e.2.2.1]; exact n4⟩, ?_, by rw [e.2.2.1]; exact nb, ⟨ev.1, fun i y D e1 e2 => evC_keep H.1.2.1 K (by omega) (by omega) (ev.2 i y D e1 e2)⟩, by have := (KJ_n K).2; omega, Nat.le_trans h0 X.1, h00⟩, nmK_eq e⟩
  rcases rs with ⟨r1, r2⟩ | ⟨r1, ⟨a1, a2, a3⟩, ⟨b1, b2, b3⟩, b4, b5⟩
  · exact .inl ⟨r1, by rw [e.2.2.1]; exact r2⟩
  · obtain ⟨w, eL⟩ := hL a1
    refine .inr ⟨r1, ?_⟩
    unfold rsL
    rw [e.2.2.1]
    exact ⟨⟨a1, Nat.lt_of_lt_of_le a2 X.1, by rw [eL.1]; exact a3⟩, ⟨by rw [eL.2.2.2.2.2.2.2]; exact b1, by rw [eL.2.2.2.2.2.2.1]; exact b2, b3⟩, fun y hy => ⟨Nat.lt_of_lt_of_le (b4 y hy).1 X.1, by rw [X.2.1 y (b4 y hy).1]; exact (b4 y hy).2⟩, w.2⟩
/-- .. in a step that is none of dictionaries -/
theorem NmS_KF (H : JQ G N cl tb l0 sc rest Gx io E jg Lb h us fs Dk ds dm Sl Γ tot) (M : NmS N cl tb rest Lb io E lo H0 Sl h us Dk ds dm nm pl Lt Ds evs) (K : KF N cl tb l0 rest h us fs h1 us1 fs1 q z u) (T' : TB G h1 N cl tb us1 fs1 rest) : NmS N cl tb rest Lb io E lo H0 Sl h1 us1 Dk ds dm nm pl Lt Ds evs ∧ nmK h h1 nm := by
  refine NmS_KJ H M (JQ_KF H K T').1 (fun w => ?_)
  rcases M.2.1 with r | ⟨_, ⟨a1, a2, a3⟩, _, _, b5, b6, b7, b8⟩
  · exact absurd r.2 w
  have et : ∀ f, fR h1 f tb = fR h f tb := K.2.2.2.2.1.2
  have k9 := H.1.1.2.1.1.1
  have T := H.1.1.1
  refine ⟨⟨a1, b5, by rw [et]; exact b6, by rw [et]; exact b7, fun d hd => ?_⟩, KF_Sl T k9 K a2 a3 b6⟩
  have w := (H.1.2.1.2.2.2.2.2.1 d hd).1
  have e := KF_kd T k9 K w.2.1 (by omega)
  rw [e.2.2.1, e.2.2.1]
  exact b8 d hd
/-- one more reason -/
theorem NmS_add (nd : ndN N) (H : JQ G N cl tb l0 sc rest Gx io E jg Lb h us fs Dk ds dm Sl Γ tot) (M : NmS N cl tb rest Lb io E lo H0 Sl h us Dk ds dm nm pl Lt Ds evs) {D : Dc} {ev : Nat} (he : evC N cl rest io E lo h us Dk ds dm D ev) (hev : H0 ≤ ev) (len : evs.length < 4) : ∃ h1, C_28_because G nm ev h = some h1 ∧ JQ G N cl tb l0 sc rest Gx io E jg Lb h1 us fs Dk ds dm Sl Γ tot ∧ KJ N cl tb l0 sc rest Gx Lb Sl nm (nm + 1) h us fs Dk ds dm h1 us fs Dk ds dm 0 2 7 ∧ NmS N cl tb rest Lb io E lo H0 Sl h1 us Dk ds dm nm pl Lt (Ds ++ [D]) (evs ++ [ev]) ∧ nmK h h1 nm := by
  obtain ⟨⟨n1, n2, n3, n4⟩, rs, nb, ev', hlo, h0, h00⟩ := M
  obtain ⟨h1, a1, a2, a3, a4, a5, a6, a7⟩ := JQ_because nd H ⟨n1, n2⟩ rs nb he.1 len
  have X := KJ_hS a3
  have dl := dm_le H
  have ne : ∀ {D y}, evC N cl rest io E lo h us Dk ds dm D y → evC N cl rest io E lo h1 us Dk ds dm D y := fun {D y} w => evC_keep H.1.2.1 a3 (by
    have : y ≠ nm := fun e => by have := w.1.2; rw [e, n2] at this; omega
    omega) (by omega) w
  refine ⟨h1, a1, a2, a3, ⟨⟨Nat.lt_of_lt_of_le n1 X.1, by rw [X.2.1 _ n1]; exact n2, by rw [a7]; exact n3, by rw [a6 _ (by decide)]; exact n4⟩, a4, a5, ⟨by rw [List.length_append, List.length_append, ev'.1]; rfl, fun i y D' e1 e2 => ?_⟩, hlo, Nat.le_trans h0 X.1, fun y hy => ?_⟩, a6, a7⟩
  rotate_left
  · rcases List.mem_append.mp hy with w | w
    · exact h00 y w
    · rw [List.mem_singleton.mp w]; exact hev
  by_cases q : i < evs.length
  · rw [List.getElem?_append_left q] at e1
    rw [List.getElem?_append_left (by rw [← ev'.1]; exact q)] at e2
    exact ne (ev'.2 i y D' e1 e2)
  · have il := (List.getElem?_eq_some_iff.mp e1).1
    rw [List.length_append, List.length_singleton] at il
    have ei : i = evs.length := by omega
    rw [ei, List.getElem?_append_right (Nat.le_refl _), Nat.sub_self] at e1
    rw [ei, ev'.1, List.getElem?_append_right (Nat.le_refl _), Nat.sub_self] at e2
    have w1 : ev = y := Option.some.inj e1
    have w2 : D = D' := Option.some.inj e2
    rw [← w1, ← w2]
    exact ne he
/-- A CLASS THAT IS GIVEN -/
theorem c_gvC (nd : ndN N) (J : JOk E B) (J2 : JOk2 E) {c x : Nat} {T : Ty} {s : JS} {zz : (Nat × Nat) ⊕ (Dc × JS)} (e : jcl E pl c T s = some zz) (H : JQ G N cl tb l0 sc rest Gx io E jg Lb h us fs Dk ds dm Sl Γ s.1) (M : NmS N cl tb rest Lb io E lo H0 Sl h us Dk ds dm nm pl Lt Ds evs) (hc : clO h cl c) (cx : tyC h N cl (UU us rest) T x) (ok : tyOk E.2.2.2.1 T) (hzT : tsz T ≤ 1000000) (R : RmJ us fs ds dm s.1 0 1) (len : evs.length < 4) : ∃ (v : Nat ⊕ Nat) (h1 : om_H) (us1 fs1 : List Nat) (Dk1 : Nat → Prop) (ds1 : List Nat) (dm1 : Nat), C_37_classFor G jg (cl c) x (pl : Int) h = some (v, h1) ∧ (∀ k p, zz = .inl (k, p) → ∃ a, v = .inl a ∧ JF G N cl tb l0 sc rest Gx Lb Sl nm (nm + 1) h us fs Dk ds dm h1 us1 fs1 Dk1 ds1 dm1 0 0 0 1 s.1 k p a) ∧ ∀ D s', zz = .inr (D, s') → ∃ y h2, v = .inr y ∧ kd h1 nm = 28 ∧ C_28_because G nm y h1 = some h2 ∧ JQ G N cl tb l0 sc rest Gx io E jg Lb h2 us1 fs1 Dk1 ds1 dm1 Sl Γ s'.1 ∧ (s.1 ≤ s'.1 ∧ s'.1 ≤ 300) ∧ KRm N cl tb l0 sc rest Gx Lb Sl nm (nm + 1) h us fs Dk ds dm h2 us1 fs1 Dk1 ds1 dm1 0 3 10 1 (s'.1 - s.1) ∧ tsD N cl rest s.2 s'.2 h2 us1 ∧ NmS N cl tb rest Lb io E lo H0 Sl h2 us1 Dk1 ds1 dm1 nm pl Lt (Ds ++ [D]) (evs ++ [y]) ∧ nmK h h2 nm := by
  obtain ⟨Lr, hr, hL0⟩ : ∃ Lr, (Lr < hz h ∧ kd h Lr = 42 ∧ (Lr = Lb ∨ noW h tb Sl Dk Lr)) ∧ (fR h 1482 nm ≠ 0 → Lr = fR h 1482 nm) := by
    rcases M.2.1 with r | ⟨_, ⟨a1, a2, a3⟩, _, _, b5, b6, b7, b8⟩
    · exact ⟨Lb, ⟨H.2.2.1.1.1, H.2.2.1.1.2.1, .inl rfl⟩, fun w => absurd r.2 w⟩
    · exact ⟨_, ⟨a2, a3, .inr ⟨a1, b5, b6, b7, b8⟩⟩, fun _ => rfl⟩
  obtain ⟨v, h1, us1, fs1, Dk1, ds1, dm1, a1, a2, a3⟩ := c_classFor (alo := nm) (ahi := nm) nd J J2 e H hc cx ok hzT R M.2.2.2.2.1 hr
  refine ⟨v, h1, us1, fs1, Dk1, ds1, dm1, a1, fun k p w => ?_, fun D s' w => ?_⟩
  · obtain ⟨a, b1, b2⟩ := a2 k p w
    exact ⟨a, b1, JF_mono b2 (Nat.le_refl _) (by omega)⟩
  · obtain ⟨y, b1, b2, b3, b4, b5, b6, b7, b8, b9⟩ := a3 D s' w
    obtain ⟨M1, k1⟩ := NmS_KJ H M b4.1 (fun w => by rw [← hL0 w]; exact ⟨b6, b7⟩)
    obtain ⟨h2, c1, c2, c3, c4, c5⟩ := NmS_add nd b2 M1 b9 (Nat.le_trans M.2.2.2.2.2.1 b8) len
    refine ⟨y, h2, b1, M1.1.2.1, c1, c2, b3, KR_le (KR_trans (KR_mono b4 (Nat.le_refl _) (by omega)) (KR_KJ (q' := 0) (d := 0) c3 (by omega))) (by omega) (by omega) (by omega) (by omega) (by omega), ?_, c4, nmK_trans k1 c5⟩
    obtain ⟨D', d1, d2⟩ := b5
    exact ⟨D', d1, fun X hX => by obtain ⟨t, ht⟩ := d2 X hX; exact ⟨t, KJ_ty c3 _ _ ht⟩⟩
theorem FB_KF {fi so Ln p2 c1 yv : Nat} (T : TB G h N cl tb us fs rest) (k9 : kd h l0 = 9) (K : KF N cl tb l0 rest h us fs h1 us1 fs1 q z u) (F : FB h tb l0 jg nm pl Lt fi so Ln p2 c1 yv) : FB h1 tb l0 jg nm pl Lt fi so Ln p2 c1 yv := by
  obtain ⟨⟨a1, a2, a3, a4⟩, ⟨b1, b2, b3, b4⟩, ⟨c1, c2, c3⟩, ⟨d1, d2, d3⟩, ⟨f1, f2, f3, f4⟩⟩ := F
  have e1 := KF_kd T k9 K a2 (by omega)
  have e2 := KF_kd T k9 K b2 (by omega)
  have e3 := KF_kd T k9 K c2 (by omega)
  have e4 := KF_kd T k9 K d2 (by omega)
  have e5 := KF_kd T k9 K f2 (by omega)
  have hl := K.1.1
  exact ⟨⟨by rw [e1.1]; exact a1, by omega, by rw [e1.2.2.1]; exact a3, by rw [e1.2.2.1]; exact a4⟩, ⟨by rw [e2.1]; exact b1, by omega, by rw [e2.2.2.1]; exact b3, by rw [e2.2.2.1]; exact b4⟩, ⟨by rw [e3.1]; exact c1, by omega, by rw [e3.2.2.1]; exact c3⟩, ⟨by rw [e4.1]; exact d1, by omega, by rw [e4.2.2.1]; exact d3⟩, ⟨by rw [e5.1]; exact f1, by omega, by rw [e5.2.1]; exact f3, by rw [e5.2.2.1]; exact f4⟩⟩
/-- a fault behind a step of types -/
theorem JF_KF2 {k p a : Nat} (H : JQ G N cl tb l0 sc rest Gx io E jg Lb h us fs Dk ds dm Sl Γ tot) (T' : TB G h2 N cl tb us2 fs2 rest) (f : flt h2 a (k : Int) (p : Int)) (K : KF N cl tb l0 rest h us fs h2 us2 fs2 q 1 8) (b : tot ≤ 300) {q' : Nat} (e : q ≤ q' + 142 * 164) : JF G N cl tb l0 sc rest Gx Lb Sl nm (nm + 1) h us fs Dk ds dm h2 us2 fs2 Dk ds dm q' 0 0 1 tot k p a := JF_le (JF_KF H T' f K b e) (Nat.le_refl _) (Nat.le_refl _) (Nat.le_refl _) (by omega)
/-- AN EQUALITY THAT IS GIVEN -/
theorem c_gvE (nd : ndN N) (J : JOk E B) (J2 : JOk2 E) {c x fi so Ln p2 yv x0 : Nat} {i : Int} {Tf V : Ty} {θ : List (Nat × Ty)} {s : JS} {zz : (Nat × Nat) ⊕ (Dc × JS)} (e : jeq E pl (tnd 2 c Tf .leaf) (sbT θ V) s = some zz) (H : JQ G N cl tb l0 sc rest Gx io E jg Lb h us fs Dk ds dm Sl Γ s.1) (M : NmS N cl tb rest Lb io E lo H0 Sl h us Dk ds dm nm pl Lt Ds evs) (F : FB h tb l0 jg nm pl Lt fi so Ln p2 (cl c) yv) (hc : clO h cl c) (cx : tyC h N cl (UU us rest) Tf x) (cy : tyC h N cl (UU us rest) V yv) (P : PutC h N cl (UU us rest) Ln Lt 0 θ) (slt : Sl Ln ∧ Sl Lt) (hθ : ∀ p ∈ θ, tyOk E.2.2.2.1 p.2 ∧ tsz p.2 ≤ 2700) (okT : tyOk E.2.2.2.1 Tf) (okC : c < 1000 ∧ ∀ d ∈ E.2.2.2.1, d.1 = c → d.2.2.2.2 ≠ .leaf) (okV : tyOk E.2.2.2.1 V ∧ tsz V ≤ 2700 ∧ tdp V < 60) (hzT : tsz Tf ≤ 2700) (R : RmJ us fs ds dm s.1 2 1) (len : evs.length < 4) : ∃ (r : (Int × om_H) ⊕ (om_H ⊕ om_H ⊕ ((Nat ⊕ Nat) × om_H))) (h1 : om_H) (us1 fs1 : List Nat) (Dk1 : Nat → Prop) (ds1 : List Nat) (dm1 : Nat), eqB G jg nm fi p2 x i h = some r ∧ (∀ k p, zz = .inl (k, p) → ∃ v, r = .inr v ∧ ∃ a, fnK G nm x0 v = some (.inl a, h1) ∧ JF G N cl tb l0 sc rest Gx Lb Sl nm (nm + 1) h us fs Dk ds dm h1 us1 fs1 Dk1 ds1 dm1 2 0 0 1 s.1 k p a) ∧ ∀ D s', zz = .inr (D, s') → r = .inl (w32 (i + 1), h1) ∧ JQ G N cl tb l0 sc rest Gx io E jg Lb h1 us1 fs1 Dk1 ds1 dm1 Sl Γ s'.1 ∧ (s.1 ≤ s'.1 ∧ s'.1 ≤ 300) ∧ KRm N cl tb l0 sc rest Gx Lb Sl nm (nm + 1) h us fs Dk ds dm h1 us1 fs1 Dk1 ds1 dm1 2 3 10 1 (s'.1 - s.1) ∧ tsD N cl rest s.2 s'.2 h1 us1 ∧ (∃ y, NmS N cl tb rest Lb io E lo H0 Sl h1 us1 Dk1 ds1 dm1 nm pl Lt (Ds ++ [D]) (evs ++ [y])) ∧ nmK h h1 nm := by
  obtain ⟨r1, r2, r3, r4⟩ := R
  obtain ⟨hB, hI, hG, _⟩ := J.1
  have wS : wfS θ := fun p hp => ⟨(hθ p hp).1.2.1, (hθ p hp).1.1⟩
  have Fq := H.1.1
  obtain ⟨x1, h1, us1, fs1, m1, F1, K1, c1⟩ := c_mkFam nd Fq hc cx (by omega)
  obtain ⟨JK1, JQ1⟩ := JQ_KF (alo := nm) (ahi := nm + 1) H K1 F1.1
  have Q1 := JQ1 s.1 F1
  obtain ⟨M1, nk1⟩ := NmS_KF H M K1 F1.1
  have B1 := FB_KF Fq.1 Fq.2.1.1.1 K1 F
  have X1 := KJ_hS JK1
  have P1 := PutC_keep X1 (KJ_ty JK1) slt.1 slt.2 P
  have okF2 : tyOk E.2.2.2.1 (tnd 2 c Tf .leaf) := ⟨(by intro z; cases z), ⟨.inr (.inr (.inl ⟨rfl, okT.1, rfl⟩)), okT.2.1, trivial⟩, ⟨fun _ => okC, okT.2.2, trivial⟩⟩
  have hz2 : tsz (tnd 2 c Tf .leaf) = 1 + tsz Tf := by simp only [tsz]; omega
  have okS : tyOk E.2.2.2.1 (sbT θ V) := tyOk_sb (fun p hp => (hθ p hp).1) okV.1
  have hzS : tsz (sbT θ V) ≤ 2700 * 2700 := by
    have := sbT_tsz (B := 2700) (by decide) (fun p hp => (hθ p hp).2) okV.1.2.1
    have h2 : 2700 * tsz V ≤ 2700 * 2700 := Nat.mul_le_mul_left _ okV.2.1
    omega
  have nn := nnT_le V
  have nn2 := nnT_sb (θ := θ) V
  have l1 := K1.2.2.2.1
  have run1 : eqB G jg nm fi p2 x i h = xc (C_8_fit G x1 (pl : Int) h1) (fun t h => some (.inr (.inr (.inr (.inl t, h))))) (fun p6 h6 => gd (kd h6 jg = 37 ∧ kd h6 p2 = 22 ∧ kd h6 fi = 33 ∧ kd h6 (fR h6 1542 fi) = 5 ∧ kd h6 nm = 28 ∧ kd h6 (fR h6 1646 jg) = 9) (xc (C_8_put G (fR h6 1646 jg) (fR h6 1354 p2) (fR h6 162 (fR h6 1542 fi)) (fR h6 1462 nm) (fI h6 1372 nm) h6) (fun t h => some (.inr (.inr (.inr (.inl t, h))))) (fun p7 h7 => gd (kd h7 jg = 37 ∧ kd h7 nm = 28 ∧ kd h7 (fR h7 1646 jg) = 9) (xc (C_8_areOne G (fR h7 1646 jg) p6 p7 (fI h7 1372 nm) h7) (fun t h => some (.inr (.inr (.inr (.inl t, h))))) (fun p8 h8 => if p8 ≠ 0 then gd (kd (nO h8 38 3) (hz h8) = 38) ((C_38_init G (hz h8) 0 p6 p7 (nO h8 38 3)).bind fun p9 => gd (kd p9 nm = 28) ((C_28_because G nm (hz h8) p9).bind fun p10 => some (.inl ((w32 (i + 1)), p10)))) else some (.inr (.inl h8))))))) := by
    unfold eqB
    rw [gd_pos ⟨F.1.1, F.2.1.1, by rw [F.1.2.2.2]; exact (TB_3 Fq.1).1⟩, F.1.2.2.2, F.2.1.2.2.1, m1, Option.bind_some]
    dsimp only
    rw [gd_pos B1.2.2.2.2.1, B1.2.2.2.2.2.2.1]
  obtain ⟨fit1, fit2⟩ := c_fit (G := G) nd F1.1 ⟨F1.2.1.1.1, F1.2.1.1.2.1⟩ c1 okF2.1 (pl : Int)
  unfold jeq at e
  by_cases s1 : tszW (tnd 2 c Tf .leaf) ≤ 60
  rotate_left
  · obtain ⟨a, h2, g1, g2, g3, g4⟩ := fit2 s1
    rw [if_pos (.inl s1)] at e
    have ez : zz = .inl (7, pl) := (Option.some.inj e).symm
    rw [g1, xc_t] at run1
    refine ⟨_, h2, us1, fs1, Dk, ds, dm, run1, fun k p w => ?_, fun D s' w => by rw [ez] at w; cases w⟩
    rw [ez] at w
    injection Sum.inl.inj w with w1 w2
    rw [← w1, ← w2]
    exact ⟨_, rfl, a, rfl, JF_KF2 H g3 g2 (KF_le (KF_trans K1 g4) (Nat.le_refl _) (by omega) (by omega)) r4 (by omega)⟩
  rw [fit1 s1, xc_v] at run1
  rw [gd_pos ⟨B1.1.1, B1.2.1.1, B1.2.2.1.1, by rw [B1.2.2.1.2.2]; exact B1.2.2.2.1.1, B1.2.2.2.2.1, by rw [B1.1.2.2.1]; exact F1.2.1.1.1⟩, B1.1.2.2.1, B1.2.1.2.2.2, B1.2.2.1.2.2, B1.2.2.2.1.2.2, B1.2.2.2.2.2.2.2, B1.2.2.2.2.2.2.1] at run1
  have nl : Ln ≠ fR h1 122 tb ∧ Lt ≠ fR h1 122 tb := ⟨fun w => F1.2.2.1.2.1 (by rw [← w]; exact slt.1), fun w => F1.2.2.1.2.1 (by rw [← w]; exact slt.2)⟩
  obtain ⟨v2, h2, us2, fs2, p1, p2', p3'⟩ := c_put8 nd wS (pl : Int) F1 nl P1 (KJ_ty JK1 _ _ cy) okV.1.1 okV.1.2.1 (by omega) (by omega)
  rw [p1] at run1
  by_cases s2 : tszW (sbT θ V) ≤ 60
  rotate_left
  · obtain ⟨a, ea, g1, g2, g3⟩ := p3' s2
    subst ea
    rw [if_pos (.inr s2)] at e
    have ez : zz = .inl (7, pl) := (Option.some.inj e).symm
    rw [xc_t] at run1
    refine ⟨_, h2, us2, fs2, Dk, ds, dm, run1, fun k p w => ?_, fun D s' w => by rw [ez] at w; cases w⟩
    rw [ez] at w
    injection Sum.inl.inj w with w1 w2
    rw [← w1, ← w2]
    exact ⟨_, rfl, a, rfl, JF_KF2 H g1 g2 (KF_le (KF_trans K1 g3) (Nat.le_refl _) (by omega) (by omega)) r4 (by omega)⟩
  obtain ⟨y2, ey, c2, F2, K2, K20⟩ := p2' s2
  subst ey
  have sz1 := tszW_eq (T := tnd 2 c Tf .leaf) (by omega)
  have sz2 := tszW_eq (T := sbT θ V) (by omega)
  have nV : nnT V ≤ min 60 (tsz V) := by omega
  rw [xc_v] at run1
  rw [if_neg (fun w => by rcases w with w | w; exact w s1; exact w s2)] at e
  obtain ⟨JK2, JQ2⟩ := JQ_KF (alo := nm) (ahi := nm + 1) Q1 K2 F2.1
  have Q2 := JQ2 s.1 F2
  obtain ⟨M2, nk2⟩ := NmS_KF Q1 M1 K2 F2.1
  have B2 := FB_KF F1.1 F1.2.1.1.1 K2 B1
  rw [gd_pos ⟨B2.1.1, B2.2.2.2.2.1, by rw [B2.1.2.2.1]; exact F2.2.1.1.1⟩, B2.1.2.2.1, B2.2.2.2.2.2.2.1] at run1
  have l2 := K2.2.2.2.1
  obtain ⟨ao, eo⟩ := one_ends (ins := E.2.2.2.1) (gv := E.2.2.2.2) (0, s.1, s.2) (tnd 2 c Tf .leaf) (sbT θ V) (Nat.zero_le _)
  unfold ja at e
  rw [eo, Option.bind_some] at e
  have c1' := K2.2.2.2.2.2.2.1 _ _ c1
  obtain ⟨v3, h3, us3, fs3, g1, o1, o2⟩ := c_areOne (G := G) nd hB hI hG J2.2.2 (pl : Int) eo F2 c1' c2 okF2.1 okS.1 okF2.2.1 okS.2.1 okF2.2.2 okS.2.2 (by omega) (by omega) r4 (by omega)
  rw [g1] at run1
  cases ao with
  | none =>
    have ez : zz = .inl (7, pl) := (Option.some.inj e).symm
    obtain ⟨a, ea, t1, t2, t3⟩ := o1 rfl
    subst ea
    rw [xc_t] at run1
    refine ⟨_, h3, us3, fs3, Dk, ds, dm, run1, fun k p w => ?_, fun D s' w => by rw [ez] at w; cases w⟩
    rw [ez] at w
    injection Sum.inl.inj w with w1 w2
    rw [← w1, ← w2]
    exact ⟨_, rfl, a, rfl, JF_KF2 H t1 t2 (KF_le (KF_trans (KF_trans K1 K2) t3) (Nat.le_refl _) (by omega) (by omega)) r4 (by omega)⟩
  | some pb =>
    obtain ⟨b, s'⟩ := pb
    obtain ⟨ev, F3, b1, b2, b3, K3, D3⟩ := o2 b s' rfl
    subst ev
    obtain ⟨JK3, JQ3⟩ := JQ_KF (alo := nm) (ahi := nm + 1) Q2 K3 F3.1
    have Q3 := JQ3 s'.2.1 F3
    obtain ⟨M3, nk3⟩ := NmS_KF Q2 M2 K3 F3.1
    rw [xc_v] at run1
    have KR3 : KRm N cl tb l0 sc rest Gx Lb Sl nm (nm + 1) h us fs Dk ds dm h3 us3 fs3 Dk ds dm 2 0 0 0 (s'.2.1 - s.1 + 1) := ⟨KJ_le (KJ_trans (KJ_trans JK1 JK2) JK3) (by omega) (by omega) (by omega), by omega⟩
    simp only at e
    cases b with
    | false =>
      rw [if_neg (by decide)] at e
      have ez : zz = .inl (6, pl) := (Option.some.inj e).symm
      rw [if_neg (by decide)] at run1
      obtain ⟨h4, f1, f2, f3, f4, f5, f6⟩ := JQ_fault0 (alo := nm) (ahi := nm + 1) nd Q3 6 pl
      refine ⟨_, h4, us3, fs3, Dk, ds, dm, run1, fun k p w => ?_, fun D s' w => by rw [ez] at w; cases w⟩
      rw [ez] at w
      injection Sum.inl.inj w with w1 w2
      rw [← w1, ← w2]
      refine ⟨_, rfl, hz h3, ?_, f4, f5, KR_le (KR_trans KR3 f6) (by omega) (by omega) (by omega) (by omega) (by omega)⟩
      have n3 := M3.1
      have kn : kd (nO h3 16 8) nm = 28 := by rw [kd_nO, if_neg (by omega)]; exact n3.2.1
      have fn : fI (nO h3 16 8) 1372 nm = (pl : Int) := by rw [fI_nO, if_neg (by omega)]; exact n3.2.2.1
      have f1' : C_15_init G (hz h3) 6 (pl : Int) (nO h3 16 8) = some h4 := f1
      show (gd (kd (nO h3 16 8) nm = 28 ∧ kd (nO h3 16 8) (hz h3) = 16) ((C_15_init G (hz h3) 6 (fI (nO h3 16 8) 1372 nm) (nO h3 16 8)).bind fun p2 => gd ((hz h3) ≠ 0) (some ((.inl (hz h3) : Nat ⊕ Nat), p2)))) = _
      rw [gd_pos ⟨kn, f2⟩, fn, f1', Option.bind_some, gd_pos f3]
    | true =>
      rw [if_pos rfl] at e
      have ez : zz = .inr (.inner 2 (0, 0, tnd 2 c Tf .leaf, sbT θ V) () .leaf .leaf, s'.2.1, s'.2.2 ++ [tnd 2 c Tf .leaf, sbT θ V]) := (Option.some.inj e).symm
      rw [if_pos rfl, if_pos (by decide)] at run1
      have KR4 : KRm N cl tb l0 sc rest Gx Lb Sl nm (nm + 1) h us fs Dk ds dm h3 us3 fs3 Dk ds dm 2 0 0 0 (s'.2.1 - s.1) := by
        rcases one_id eo with w | w
        · have JK2' := (JQ_KF (alo := nm) (ahi := nm + 1) Q1 (K20 ⟨x1, by rw [← w]; exact c1⟩) F2.1).1
          exact ⟨KJ_le (KJ_trans (KJ_trans JK1 JK2') JK3) (by omega) (by omega) (by omega), by omega⟩
        · have w' : s.1 < s'.2.1 := w
          exact ⟨KJ_le (KJ_trans (KJ_trans JK1 JK2) JK3) (by omega) (by omega) (by omega), by omega⟩
      obtain ⟨h4, f1, f2, f3, f4, ⟨f5, f6, f7, f8, f9⟩, f10⟩ := JQ_evid (alo := nm) (ahi := nm) nd Q3 0 x1 y2
      obtain ⟨M4, nk4⟩ := NmS_KJ Q3 M3 f4 (fun w => by
        rcases M3.2.1 with r | ⟨_, ⟨a1, a2, a3⟩, _, _, b5, b6, b7, b8⟩
        · exact absurd r.2 w
        · exact ⟨noW_eq Q3 f10 ⟨a1, b5, b6, b7, b8⟩, f10 _ a2⟩)
      have kt3 := KJ_ty JK3
      have kt4 := KJ_ty f4
      obtain ⟨h5, g1', g2', g3', g4', g5'⟩ := NmS_add (ev := hz h3) (D := .inner 2 (0, 0, tnd 2 c Tf .leaf, sbT θ V) () .leaf .leaf) nd f3 M4 ⟨⟨by omega, f6⟩, .inr ⟨_, _, rfl, f7, by rw [f8]; exact kt4 _ _ (kt3 _ _ c1'), by rw [f9]; exact kt4 _ _ (kt3 _ _ c2)⟩⟩ M3.2.2.2.2.2.1 len
      rw [gd_pos f2, f1, Option.bind_some, gd_pos M4.1.2.1, g1', Option.bind_some] at run1
      refine ⟨_, h5, us3, fs3, Dk, ds, dm, run1, fun k p w => (by rw [ez] at w; cases w), fun D s2 w => ?_⟩
      rw [ez] at w
      injection Sum.inr.inj w with w1 w2
      rw [← w1, ← w2]
      refine ⟨rfl, g2', ⟨b1, b3⟩, KR_le (KR_trans (KR_trans KR4 (KR_KJ (q' := 0) (d := 0) (KJ_mono f4 (fun _ w => w) (Nat.le_refl _) (by omega)) (by omega))) (KR_KJ (q' := 0) (d := 0) g3' (by omega))) (by omega) (by omega) (by omega) (by omega) (by show s'.2.1 - s.1 + 0 + 0 ≤ _; omega), ?_, ⟨_, g4'⟩, nmK_trans (nmK_trans nk1 nk2) (nmK_trans nk3 (nmK_trans nk4 g5'))⟩
      obtain ⟨D', d1, d2⟩ := D3
      refine ⟨D' ++ [tnd 2 c Tf .leaf, sbT θ V], ?_, fun X hX => ?_⟩
      · show s'.2.2 ++ [tnd 2 c Tf .leaf, sbT θ V] = s.2 ++ (D' ++ [tnd 2 c Tf .leaf, sbT θ V])
        rw [show s'.2.2 = s.2 ++ D' from d1, List.append_assoc]
      · rcases List.mem_append.mp hX with hX | hX
        · obtain ⟨t, ht⟩ := d2 X hX
          exact ⟨t, KJ_ty g3' _ _ (kt4 _ _ ht)⟩
        · rcases List.mem_cons.mp hX with hX | hX
          · rw [hX]; exact ⟨_, KJ_ty g3' _ _ (kt4 _ _ (kt3 _ _ c1'))⟩
          · rw [List.mem_singleton.mp hX]; exact ⟨_, KJ_ty g3' _ _ (kt4 _ _ (kt3 _ _ c2))⟩
end LFN
