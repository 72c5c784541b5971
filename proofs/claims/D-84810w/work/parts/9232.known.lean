set_option maxRecDepth 100000
/-! TYPES BECOME KNOWN ALIKE -/
/-- breaks lie at nodes of a range -/
def brk (S : List Int) (b m : Nat) (σ : tS) (lo hi : Nat) (X : Int) : Prop := X = 2147483647 ∨ ∃ v j : Nat, lo ≤ v ∧ v < hi ∧ ga σ 542 v = ((b + j : Nat) : Int) ∧ j ≤ m ∧ X = (tokq S j : Int)
/-- what is written while types become known lies elsewhere -/
def dj (h : om_H) (tb : Nat) (fs : List Nat) (pr alo ahi : Nat) : Prop := ∀ y, (DT h tb fs y ∨ y = pr) → y < alo ∨ ahi ≤ y
/-- the names around are the same in both -/
def scA (N : List (List Int)) (sc : List Nat) (Ls : List (List Int)) : Prop := ∀ (w : Nat) (L : List Int), N[w]? = some L → (w ∈ sc ↔ L ∈ Ls)
/-- what comes of types: ys the component's, ts the twin's -/
def tR (N : List (List Int)) (cs : List Nat) (rest : List (Nat × List Nat)) (sA : Prop) (h : om_H) (us : List Nat) (σ : tS) (n : Nat) (ys : List Nat) (ts : List Int) (XC XT : Int) (q k : Nat) : Prop := ys.length = ts.length ∧ (∀ y ∈ ys, y ≠ 0 ∧ ∃ T, tyC h N (clF cs) (UU us rest) T y) ∧ ((∀ t ∈ ts, t = -1 ∨ ∃ T, T ≠ .leaf ∧ tyT σ n T t) ∧ szL σ n ts q k) ∧ (sA → XC = XT ∧ (XC = 2147483647 → ∀ (i y : Nat) (t : Int), ys[i]? = some y → ts[i]? = some t → ∃ T, tyQ q k T ∧ tyC h N (clF cs) (UU us rest) T y ∧ tyT σ n T t))
section LKN
variable {G : om_G} {A : Nat} {S : List Int} {b m : Nat} {N : List (List Int)} {cs : List Nat} {K : KT} {pr Ln : Nat} {Ls : List (List Int)} {sc : List Nat} {tb : Nat} {rest : List (Nat × List Nat)}
variable {h h' h2 : om_H} {us fs us' fs' us2 fs2 : List Nat} {σ τ υ : tS} {n n' n2 q q2 lo hi alo ahi mid amid : Nat} {X X2 XC XT : Int} {sA : Prop}
theorem brk_mono {lo' hi' : Nat} (B : brk S b m σ lo hi X) (h1 : lo' ≤ lo) (h2 : hi ≤ hi') : brk S b m σ lo' hi' X := by
  rcases B with e | ⟨v, j, e1, e2, e3⟩
  · exact .inl e
  · exact .inr ⟨v, j, by omega, by omega, e3⟩
theorem brk_min (B : brk S b m σ lo hi X) (C : brk S b m σ lo hi X2) : brk S b m σ lo hi (min X X2) := by
  rcases Int.le_total X X2 with z | z
  · rw [show min X X2 = X by omega]; exact B
  · rw [show min X X2 = X2 by omega]; exact C
theorem brk_fr (R : ∀ v, ga τ 542 v = ga σ 542 v) (B : brk S b m τ lo hi X) : brk S b m σ lo hi X := by
  rcases B with e | ⟨v, j, e1, e2, e3, e4, e5⟩
  · exact .inl e
  · exact .inr ⟨v, j, e1, e2, by rw [← R]; exact e3, e4, e5⟩
theorem brk_le (hS : S.length ≤ 2000) (B : brk S b m σ lo hi X) : X ≤ 2147483647 := by
  rcases B with e | ⟨v, j, e1, e2, e3, e4, e5⟩
  · omega
  · have := tok_le S j; omega
theorem dj_step (D : dj h tb fs pr alo ahi) (C : SC G A S N cs K pr Ln Ls tb rest h us fs h' us' fs' q X) (hA : ahi ≤ hz h) : dj h' tb fs' pr alo ahi := by
  intro y hy
  have k1 := C.2.1.2.2.2.2.1.2
  rcases hy with (z | z | z | z) | z
  · exact D y (.inl (.inl z))
  · rw [k1] at z; exact D y (.inl (.inr (.inl z)))
  · rw [k1] at z; exact D y (.inl (.inr (.inr (.inl z))))
  · rcases C.2.1.2.2.1 y z with z | z
    · exact D y (.inl (.inr (.inr (.inr z))))
    · exact .inr (by omega)
  · exact D y (.inr z)
theorem dj_sub {alo' ahi' : Nat} (D : dj h tb fs pr alo ahi) (h1 : alo ≤ alo') (h2 : ahi' ≤ ahi) : dj h tb fs pr alo' ahi' := fun y hy => by have := D y hy; omega
theorem hk_SC (D : dj h tb fs pr alo ahi) (C : SC G A S N cs K pr Ln Ls tb rest h us fs h' us' fs' q X) (hA : ahi ≤ hz h) : hk alo ahi h h' := fun a h1 h2 => by
  have e := C.2.1.1.2.2.2 a (by omega) (fun z => by have := D a z; omega)
  exact ⟨e.1, e.2.1, e.2.2.1, e.2.2.2.2.2.2.1, e.2.2.2.2.2.2.2⟩
theorem ga_ST (C : ST S b m N K sc σ n τ n' q X) {f : Nat} (hf : f ∉ TYA) (i : Nat) : ga τ f i = ga σ f i := C.2.1.2 f hf i
theorem WR_ST {k a v : Nat} (D : dj h tb fs pr alo ahi) (C : SC G A S N cs K pr Ln Ls tb rest h us fs h' us' fs' q X) (hA : ahi ≤ hz h) (C2 : ST S b m N K sc σ n τ n' q2 X2) (W : WR A S b h σ k lo hi alo ahi a v) : WR A S b h' τ k lo hi alo ahi a v := WR_keep W (hk_SC D C hA) ⟨fun f hf _ i _ _ => ga_ST C2 (by simp only [List.mem_cons, List.not_mem_nil, or_false] at hf ⊢; omega) i, fun i _ _ _ => ga_ST C2 (by decide) i⟩
theorem rows_ST {k : Nat} {xs ns : List Nat} (D : dj h tb fs pr alo ahi) (C : SC G A S N cs K pr Ln Ls tb rest h us fs h' us' fs' q X) (hA : ahi ≤ hz h) (C2 : ST S b m N K sc σ n τ n' q2 X2) (W : rows2 (WR A S b h σ k) xs ns lo hi alo ahi) : rows2 (WR A S b h' τ k) xs ns lo hi alo ahi := rows2_keep (Z := fun _ => False) W (hk_SC D C hA) (fun f hf _ i _ _ => ga_ST C2 (by simp only [List.mem_cons, List.not_mem_nil, or_false] at hf ⊢; omega) i) (fun i _ _ _ => ga_ST C2 (by decide) i) (fun z hz _ _ => hz.elim)
theorem tR_nil {q k : Nat} (h0 : sA → XC = XT) : tR N cs rest sA h us σ n [] [] XC XT q k := ⟨rfl, fun y hy => absurd hy List.not_mem_nil, ⟨fun t ht => absurd ht List.not_mem_nil, [], rfl, Nat.zero_le _, fun i z t e => by simp at e⟩, fun s => ⟨h0 s, fun _ i y t e => by simp at e⟩⟩
/-- later -/
theorem tR_keep {ys : List Nat} {ts : List Int} {qq k : Nat} (R : tR N cs rest sA h us σ n ys ts XC XT qq k) (C : SC G A S N cs K pr Ln Ls tb rest h us fs h' us' fs' q X) (C2 : ST S b m N K sc σ n τ n' q2 X2) : tR N cs rest sA h' us' τ n' ys ts XC XT qq k := by
  obtain ⟨r1, r2, r3, r4⟩ := R
  have k1 := C.2.1.2.2.2.2.2.1
  refine ⟨r1, fun y hy => ⟨(r2 y hy).1, ?_⟩, ⟨fun t ht => ?_, szL_keep (fun T t => tyT_mono C2.2.2.1) r3.2⟩, fun s => ⟨(r4 s).1, fun e i y t hy ht => ?_⟩⟩
  · obtain ⟨T, c⟩ := (r2 y hy).2
    exact ⟨T, k1 T y c⟩
  · rcases r3.1 t ht with z | ⟨T, z1, z2⟩
    · exact .inl z
    · exact .inr ⟨T, z1, tyT_mono C2.2.2.1 z2⟩
  · obtain ⟨T, c0, c1, c2⟩ := (r4 s).2 e i y t hy ht
    exact ⟨T, c0, k1 T y c1, tyT_mono C2.2.2.1 c2⟩
/-- two rows of results, one behind the other -/
theorem tR_app {ys zs : List Nat} {ts vs : List Int} {XC2 XT2 : Int} {qq q3 k : Nat} (l1 : XC ≤ 2147483647) (l2 : XC2 ≤ 2147483647) (R : tR N cs rest sA h us σ n ys ts XC XT qq k) (R2 : tR N cs rest sA h us σ n zs vs XC2 XT2 q3 k) : tR N cs rest sA h us σ n (ys ++ zs) (ts ++ vs) (min XC XC2) (min XT XT2) (qq + q3) k := by
  obtain ⟨r1, r2, r3, r4⟩ := R
  obtain ⟨s1, s2, s3, s4⟩ := R2
  refine ⟨by simp [r1, s1], fun y hy => ?_, ⟨fun t ht => ?_, szL_app r3.2 s3.2⟩, fun s => ⟨by rw [(r4 s).1, (s4 s).1], fun e i y t hy ht => ?_⟩⟩
  · rcases List.mem_append.mp hy with z | z
    · exact r2 y z
    · exact s2 y z
  · rcases List.mem_append.mp ht with z | z
    · exact r3.1 t z
    · exact s3.1 t z
  · rcases Nat.lt_or_ge i ys.length with z | z
    · rw [List.getElem?_append_left z] at hy
      rw [List.getElem?_append_left (by omega)] at ht
      obtain ⟨T, c0, c1⟩ := (r4 s).2 (by omega) i y t hy ht
      exact ⟨T, tyQ_le c0 (by omega), c1⟩
    · rw [List.getElem?_append_right z] at hy
      rw [List.getElem?_append_right (by omega), ← r1] at ht
      obtain ⟨T, c0, c1⟩ := (s4 s).2 (by omega) (i - ys.length) y t hy ht
      exact ⟨T, tyQ_le c0 (by omega), c1⟩
theorem tR_le {ys : List Nat} {ts : List Int} {qq q3 k : Nat} (R : tR N cs rest sA h us σ n ys ts XC XT qq k) (hq : qq ≤ q3) : tR N cs rest sA h us σ n ys ts XC XT q3 k := ⟨R.1, R.2.1, ⟨R.2.2.1.1, szL_le R.2.2.1.2 hq⟩, fun s => ⟨(R.2.2.2 s).1, fun e i y t hy ht => by
  obtain ⟨T, c0, c1⟩ := (R.2.2.2 s).2 e i y t hy ht
  exact ⟨T, tyQ_le c0 hq, c1⟩⟩⟩
/-- what comes of a type that is read -/
def KP (k : Nat) (G : om_G) (A : Nat) (S : List Int) (b m : Nat) (N : List (List Int)) (cs : List Nat) (K : KT) (pr Ln : Nat) (Ls : List (List Int)) (sc : List Nat) (tb : Nat) (rest : List (Nat × List Nat)) (lo hi : Nat) (h : om_H) (us fs : List Nat) (σ : tS) (n : Nat) (U : Option (Int × tS)) (V : Option (Nat × om_H)) : Prop :=
  ∃ (t : Int) (τ : tS) (n' x : Nat) (h' : om_H) (us' fs' : List Nat) (XC XT : Int), U = some (t, τ) ∧ V = some (x, h') ∧ SC G A S N cs K pr Ln Ls tb rest h us fs h' us' fs' (hi - lo) XC ∧ ST S b m N K sc σ n τ n' (hi - lo) XT ∧ brk S b m σ lo hi XC ∧ brk S b m σ lo hi XT ∧ tR N cs rest (scA N sc Ls) h' us' τ n' [x] [t] XC XT (hi - lo) k
/-- what is needed for it -/
def KR (S : List Int) (lo hi alo ahi pr tb : Nat) (h : om_H) (us fs : List Nat) (n : Nat) : Prop := (0 < alo ∧ ahi ≤ hz h ∧ hi ≤ 2700 ∧ S.length ≤ 2000) ∧ dj h tb fs pr alo ahi ∧ n + (hi - lo) ≤ 126000 ∧ tl us fs + (hi - lo) ≤ 149000
/-- reading types, for all states -/
def KA (G : om_G) (A : Nat) (S : List Int) (b m : Nat) (N : List (List Int)) (cs : List Nat) (K : KT) (pr Ln : Nat) (Ls : List (List Int)) (sc : List Nat) (tb : Nat) (rest : List (Nat × List Nat)) (k : Nat) (rT : Int → tS → Option (Int × tS)) (rC : Nat → Nat → Nat → Nat → om_H → Option (Nat × om_H)) : Prop :=
  ∀ (lo hi alo ahi a v : Nat) (h : om_H) (us fs : List Nat) (σ : tS) (n : Nat), KC G A S N cs K pr Ln Ls tb rest h us fs → KU S b m N K sc σ n → WR A S b h σ k lo hi alo ahi a v → KR S lo hi alo ahi pr tb h us fs n → KP k G A S b m N cs K pr Ln Ls sc tb rest lo hi h us fs σ n (rT (v : Int) σ) (rC pr a Ln tb h)
theorem KR_next (R : KR S lo hi alo ahi pr tb h us fs n) (C : SC G A S N cs K pr Ln Ls tb rest h us fs h' us' fs' q X) (C2 : ST S b m N K sc σ n τ n' q X2) {lo' alo' : Nat} (h1 : lo + q ≤ lo') (h2 : alo ≤ alo') (h3 : lo + q ≤ hi) : KR S lo' hi alo' ahi pr tb h' us' fs' n' := by
  obtain ⟨r1, r2, r3, r4⟩ := R
  have z1 := C.2.1.1.1
  have z2 := C.2.1.2.2.2.1
  have z3 := C2.2.2.2.1
  exact ⟨⟨by omega, by omega, r1.2.2⟩, dj_sub (dj_step r2 C r1.2.1) h2 (Nat.le_refl _), by omega, by omega⟩
theorem KR_sub {lo' hi' alo' ahi' : Nat} (R : KR S lo hi alo ahi pr tb h us fs n) (h1 : lo ≤ lo') (h2 : hi' ≤ hi) (h3 : alo ≤ alo') (h4 : ahi' ≤ ahi) : KR S lo' hi' alo' ahi' pr tb h us fs n := by
  obtain ⟨r1, r2, r3, r4⟩ := R
  exact ⟨⟨by omega, by omega, by omega, r1.2.2.2⟩, dj_sub r2 h3 h4, by omega, by omega⟩
theorem gS_SC {alo0 ahi0 a Lp : Nat} {xs : List Nat} (D : dj h tb fs pr alo0 ahi0) (C : SC G A S N cs K pr Ln Ls tb rest h us fs h' us' fs' q X) (hA : ahi0 ≤ hz h) (r1 : alo0 ≤ a ∧ a < ahi0) (r2 : alo0 ≤ Lp ∧ Lp < ahi0) (r3 : ∀ x ∈ xs, alo0 ≤ x ∧ x < ahi0) (g : gS a Lp pr xs h) : gS a Lp pr xs h' := by
  obtain ⟨g1, g2, g3, g4, g5, g6, g7⟩ := g
  have kk := hk_SC D C hA
  obtain ⟨a1, a2, a3, a4, a5⟩ := kk a r1.1 r1.2
  obtain ⟨b1, b2, b3, b4, b5⟩ := kk Lp r2.1 r2.2
  exact ⟨by rw [a1]; exact g1, by rw [a3]; exact g2, by rw [b1]; exact g3, by rw [b4]; exact g4, C.1.2.2.1.1.1.1, g6, fun x hx => by rw [(kk x (r3 x hx).1 (r3 x hx).2).1]; exact g7 x hx⟩
/-- parts are gone through alike -/
theorem parts_rel {k : Nat} {rT : Int → tS → Option (Int × tS)} {rC : Nat → Nat → Nat → Nat → om_H → Option (Nat × om_H)} (IH : KA G A S b m N cs K pr Ln Ls sc tb rest k rT rC) {l2 l3 l4 : Int} {alo0 ahi0 a Lp : Nat} {xs : List Nat} (r1 : alo0 ≤ a ∧ a < ahi0) (r2 : alo0 ≤ Lp ∧ Lp < ahi0) (r3 : ∀ x ∈ xs, alo0 ≤ x ∧ x < ahi0) :
    ∀ (zs ns : List Nat) (lo alo : Nat) (h : om_H) (us fs : List Nat) (σ : tS) (n : Nat) (c o w al f : Int), KC G A S N cs K pr Ln Ls tb rest h us fs → KU S b m N K sc σ n → rows2 (WR A S b h σ k) zs ns lo hi alo ahi → chain σ f ns → KR S lo hi alo ahi pr tb h us fs n → dj h tb fs pr alo0 ahi0 → ahi0 ≤ hz h → gS a Lp pr xs h → 0 ≤ c → c + (zs.length : Int) ≤ 9000 →
    ∃ (ts : List Int) (ys : List Nat) (τ : tS) (n' : Nat) (h' : om_H) (us' fs' : List Nat) (XC XT : Int), om_loop (T_known_161s rT l2 l3 l4) (c, o, w, al, f, σ) = some ((accF ts (c, o, w, al)).1, (accF ts (c, o, w, al)).2.1, (accF ts (c, o, w, al)).2.2.1, (accF ts (c, o, w, al)).2.2.2, τ) ∧ CR rC pr Ln tb (gS a Lp pr xs) zs h ys h' ∧ SC G A S N cs K pr Ln Ls tb rest h us fs h' us' fs' (hi - lo) XC ∧ ST S b m N K sc σ n τ n' (hi - lo) XT ∧ brk S b m σ lo hi XC ∧ brk S b m σ lo hi XT ∧ tR N cs rest (scA N sc Ls) h' us' τ n' ys ts XC XT (hi - lo) k ∧ ts.length = zs.length
  | [], [], lo, alo, h, us, fs, σ, n, c, o, w, al, f, HC, HU, W, ch, R, D, hA, g, c0, c1 => by
    have ef : f = -1 := ch
    have el : lo = hi := W.1
    refine ⟨[], [], σ, n, h, us, fs, 2147483647, 2147483647, ?_, ⟨g, rfl, rfl⟩, ?_, ?_, .inl rfl, .inl rfl, tR_nil (fun _ => rfl), rfl⟩
    · rw [ef]
      exact om_loop_out t_part_end
    · rw [el, Nat.sub_self]; exact SC_refl HC
    · rw [el, Nat.sub_self]; exact ST_refl HU
  | z :: zs, v :: ns, lo, alo, h, us, fs, σ, n, c, o, w, al, f, HC, HU, ⟨mid, amid, W, Wr⟩, ⟨ch1, ch2⟩, R, D, hA, g, c0, c1 => by
    have wi := WR_in W
    have ri := rows2_in (fun w => WR_in w) Wr
    obtain ⟨t, τ, n', x, h', us', fs', XC, XT, e1, e2, e3, e4, e5, e6, e7⟩ := IH lo mid alo amid z v h us fs σ n HC HU W (KR_sub R (Nat.le_refl _) ri.1 (Nat.le_refl _) ri.2.1)
    have hv : v < 8400 := by have := R.1.2.2.1; omega
    have Wr' := rows_ST (dj_sub R.2.1 (show alo ≤ amid by omega) (Nat.le_refl _)) e3 R.1.2.1 e4 Wr
    have ch' : chain τ (ga τ 562 v) ns := by
      rw [ga_ST e4 (by decide)]
      exact chain_keep ch2 (fun y _ => ga_ST e4 (by decide) y)
    have R' := KR_next (lo' := mid) (alo' := amid) R e3 e4 (by omega) (by omega) (by omega)
    have st := t_part (rT := rT) (l2 := l2) (l3 := l3) (l4 := l4) (m := c) (o := o) (w := w) (al := al) (by simp at c1; omega) hv e1
    obtain ⟨ts, ys, τ2, n2, h2, us2, fs2, XC2, XT2, f1, f2, f3, f4, f5, f6, f7, f8⟩ := parts_rel IH r1 r2 r3 zs ns mid amid h' us' fs' τ n' (c + 1) (if c ≠ 0 then o else t) (if c ≠ 0 then t else w) (if al = 0 then 0 else if t = -1 then 0 else 1) (ga τ 562 v) e3.1 e4.1 Wr' ch' R' (dj_step D e3 hA) (by have := e3.2.1.1.1; omega) (gS_SC D e3 hA r1 r2 r3 g) (by omega) (by simp at c1; omega)
    have ql : mid - lo + (hi - mid) = hi - lo := by omega
    have b542 : ∀ v, ga τ 542 v = ga σ 542 v := fun v => ga_ST e4 (by decide) v
    refine ⟨t :: ts, x :: ys, τ2, n2, h2, us2, fs2, min XC XC2, min XT XT2, ?_, ⟨g, x, h', ys, e2, (e7.2.1 x List.mem_cons_self).1, rfl, f2⟩, ?_, ?_, ?_, ?_, ?_, by simp [f8]⟩
    · rw [ch1, om_loop_in st, f1]
      rfl
    · have := SC_trans e3 f3
      rw [ql] at this; exact this
    · have := ST_trans e4 f4
      rw [ql] at this; exact this
    · exact brk_min (brk_mono e5 (Nat.le_refl _) ri.1) (brk_fr b542 (brk_mono f5 (by omega) (Nat.le_refl _)))
    · exact brk_min (brk_mono e6 (Nat.le_refl _) ri.1) (brk_fr b542 (brk_mono f6 (by omega) (Nat.le_refl _)))
    · exact tR_le (tR_app (ys := [x]) (ts := [t]) (brk_le R.1.2.2.2 e5) (brk_le R.1.2.2.2 f5) (tR_keep e7 f3 f4) f7) (by omega)
  | [], _ :: _, _, _, _, _, _, _, _, _, _, _, _, _, _, _, W, _, _, _, _, _, _, _ => W.elim
  | _ :: _, [], _, _, _, _, _, _, _, _, _, _, _, _, _, _, W, _, _, _, _, _, _, _ => W.elim
end LKN
