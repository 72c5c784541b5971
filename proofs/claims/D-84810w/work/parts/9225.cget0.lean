set_option maxRecDepth 100000
/-! THE COMPONENT'S Table.get: the mark; a new type is written -/
section LG0
variable {G : om_G} {h : om_H} {N : List (List Int)} {cl : Nat → Nat} {U : Nat → Prop} {k w : Nat} {con : Int} {nm fam a b tb x : Nat} {l r : Ty}
theorem tyC_mk {T : Ty} (A : tyC h N cl U T a) (c : Int) : (a = 0 → (tmk N T).elim 0 (fun m => w32 (c * m)) = 0) ∧ (a ≠ 0 → kd h a = 34 ∧ (tmk N T).elim 0 (fun m => w32 (c * m)) = w32 (c * fI h 1568 a)) := by
  rcases T with ⟨k', w', u', l', r'⟩ | _
  · refine ⟨fun z => absurd z A.1.2.1, fun _ => ⟨A.2.1, ?_⟩⟩
    rw [A.2.2.2.2.2.2.2.2]; rfl
  · exact ⟨fun _ => rfl, fun z => absurd A z⟩
theorem tyW_con (W : tyW h N cl k w con nm fam) : con = (if k = 1 then (w : Int) else 0) := by
  rcases W with c | c | c | c
  · rw [if_neg (by omega)]; exact c.2.1
  · rw [if_pos c.1]; exact c.2.1
  · rw [if_neg (by omega)]; exact c.2.1
  · rw [if_neg (by omega)]; exact c.2.2.1
/-- the mark is reckoned -/
theorem c_get_mk (W : tyW h N cl k w con nm fam) (A : tyC h N cl U l a) (B : tyC h N cl U r b) : ∃ s0 s1 : Int, C_2_get G tb (k : Int) con nm fam a b h = C_2_get_77 G tb (k : Int) con nm fam a b s0 s1 h ∧ tmk N (tnd k w l r) = some (xor32 (w32 (s0 + s1)) (ushr32 (w32 (s0 + s1)) 13)) := by
  obtain ⟨a1, a2⟩ := tyC_mk A 131
  obtain ⟨b1, b2⟩ := tyC_mk B 1031
  have hb : ∀ (s0 s1 : Int), C_2_get_58 G tb (k : Int) con nm fam a b s0 s1 h = C_2_get_77 G tb (k : Int) con nm fam a b (w32 (s0 + s1)) ((tmk N r).elim 0 (fun m => w32 (1031 * m))) h := by
    intro s0 s1
    unfold C_2_get_58
    by_cases z : b = 0
    · rw [if_neg (fun y => y z), b1 z]
    · rw [if_pos z, gd_pos (b2 z).1, (b2 z).2]
  have ha : ∀ (s0 s1 : Int), C_2_get_39 G tb (k : Int) con nm fam a b s0 s1 h = C_2_get_77 G tb (k : Int) con nm fam a b (w32 (w32 (s0 + s1) + (tmk N l).elim 0 (fun m => w32 (131 * m)))) ((tmk N r).elim 0 (fun m => w32 (1031 * m))) h := by
    intro s0 s1
    unfold C_2_get_39
    by_cases z : a = 0
    · rw [if_neg (fun y => y z), a1 z, hb]
    · rw [if_pos z, gd_pos (a2 z).1, (a2 z).2, hb]
  have hf : ∀ (s0 s1 : Int), C_2_get_21 G tb (k : Int) con nm fam a b s0 s1 h = C_2_get_77 G tb (k : Int) con nm fam a b (w32 (w32 (w32 (s0 + s1) + (if k = 2 then w32 (57 * (w : Int)) else 0)) + (tmk N l).elim 0 (fun m => w32 (131 * m)))) ((tmk N r).elim 0 (fun m => w32 (1031 * m))) h := by
    intro s0 s1
    unfold C_2_get_21
    rcases W with c | c | ⟨c1, c2, c3, c4, c5, c6, c7, c8⟩ | c
    · rw [if_neg (by omega), ha, if_neg (by omega)]
    · rw [if_neg (by omega), ha, if_neg (by omega)]
    · rw [if_pos c4, gd_pos c7, c8, ha, if_pos c1]
    · rw [if_neg (by omega), ha, if_neg (by omega)]
  have hn : C_2_get G tb (k : Int) con nm fam a b h = C_2_get_77 G tb (k : Int) con nm fam a b (w32 (w32 (w32 (w32 (w32 (7 * (k : Int)) + w32 (31 * con)) + (if k = 0 then sumW (N.getD w []) else 0)) + (if k = 2 then w32 (57 * (w : Int)) else 0)) + (tmk N l).elim 0 (fun m => w32 (131 * m)))) ((tmk N r).elim 0 (fun m => w32 (1031 * m))) h := by
    unfold C_2_get
    by_cases z : k = 0
    · rcases W with ⟨c1, c2, c3, c4, c5, L, c6, c7⟩ | c | c | c
      · rw [if_pos c4, gd_pos c7.1, c_sum c7, Option.bind_some, hf, if_pos z, getD_of c6]
      · omega
      · omega
      · omega
    · have n0 : nm = 0 := by rcases W with c | c | c | c <;> omega
      rw [if_neg (fun y => y n0), hf, if_neg z]
  refine ⟨_, _, hn, ?_⟩
  rw [tyW_con W]
  rfl
/-- the writes of a new type, two at a time -/
def wA (h : om_H) (tb x : Nat) (n k : Int) : om_H := sI (sI h 124 tb n) 1556 x k
def wB (h : om_H) (x : Nat) (mk con : Int) : om_H := sI (sI h 1568 x mk) 1560 x con
def wC (h : om_H) (x nm fam : Nat) : om_H := sR (sR h 1574 x nm) 1578 x fam
def wD (h : om_H) (x a b : Nat) : om_H := sR (sR h 1582 x a) 1586 x b
def wE (h : om_H) (x : Nat) (sz hs : Int) : om_H := sI (sI h 1564 x sz) 1591 x hs
def wF (h : om_H) (x nx hd hh : Nat) : om_H := pR (sR h 1594 x nx) hd hh x
variable {n mk sz hs kk : Int} {y nx hd hh f g : Nat} {e : om_H}
theorem wA_fI (c1 : y ≠ x) (c2 : y ≠ tb) : fI (wA h tb x n kk) f y = fI h f y := (fI_na c1).trans (fI_na c2)
theorem wA_tb (c : tb ≠ x) : fI (wA h tb x n kk) 124 tb = n := (fI_na c).trans fI_eq
theorem wA_tb2 (c : tb ≠ x) (hg : g ≠ 124) : fI (wA h tb x n kk) g tb = fI h g tb := (fI_na c).trans (fI_ne hg)
theorem wA_x : fI (wA h tb x n kk) 1556 x = kk := fI_eq
theorem wA_fR : fR (wA h tb x n kk) f y = fR h f y := rfl
theorem wB_fI (c1 : y ≠ x) : fI (wB h x mk con) f y = fI h f y := (fI_na c1).trans (fI_na c1)
theorem wB_x1 : fI (wB h x mk con) 1560 x = con := fI_eq
theorem wB_x2 : fI (wB h x mk con) 1568 x = mk := (fI_ne (by decide)).trans fI_eq
theorem wB_ne (h1 : g ≠ 1560) (h2 : g ≠ 1568) : fI (wB h x mk con) g y = fI h g y := (fI_ne h1).trans (fI_ne h2)
theorem wB_fR : fR (wB h x mk con) f y = fR h f y := rfl
theorem wC_fI : fI (wC h x nm fam) f y = fI h f y := rfl
theorem wC_fR (c1 : y ≠ x) : fR (wC h x nm fam) f y = fR h f y := (fR_na c1).trans (fR_na c1)
theorem wC_x1 : fR (wC h x nm fam) 1578 x = fam := fR_eq
theorem wC_x2 : fR (wC h x nm fam) 1574 x = nm := (fR_ne (by decide)).trans fR_eq
theorem wD_fI : fI (wD h x a b) f y = fI h f y := rfl
theorem wD_fR (c1 : y ≠ x) : fR (wD h x a b) f y = fR h f y := (fR_na c1).trans (fR_na c1)
theorem wD_x1 : fR (wD h x a b) 1586 x = b := fR_eq
theorem wD_x2 : fR (wD h x a b) 1582 x = a := (fR_ne (by decide)).trans fR_eq
theorem wD_ne (h1 : g ≠ 1586) (h2 : g ≠ 1582) : fR (wD h x a b) g y = fR h g y := (fR_ne h1).trans (fR_ne h2)
theorem wE_fI (c1 : y ≠ x) : fI (wE h x sz hs) f y = fI h f y := (fI_na c1).trans (fI_na c1)
theorem wE_x1 : fI (wE h x sz hs) 1591 x = hs := fI_eq
theorem wE_x2 : fI (wE h x sz hs) 1564 x = sz := (fI_ne (by decide)).trans fI_eq
theorem wE_ne (h1 : g ≠ 1591) (h2 : g ≠ 1564) : fI (wE h x sz hs) g y = fI h g y := (fI_ne h1).trans (fI_ne h2)
theorem wE_fR : fR (wE h x sz hs) f y = fR h f y := rfl
theorem wF_fI : fI (wF h x nx hd hh) f y = fI h f y := rfl
theorem wF_fR (c1 : y ≠ x) : fR (wF h x nx hd hh) f y = fR h f y := fR_na (h := h) (f := 1594) c1
theorem wF_x : fR (wF h x nx hd hh) 1594 x = nx := fR_eq (h := h) (f := 1594)
theorem wF_ne (h1 : g ≠ 1594) : fR (wF h x nx hd hh) g y = fR h g y := fR_ne (h := h) h1
/-- the first eight writes -/
def tW8 (h : om_H) (tb x : Nat) (n k mk con : Int) (nm fam a b : Nat) : om_H := wD (wC (wB (wA h tb x n k) x mk con) x nm fam) x a b
/-- all of them -/
def tWn (h : om_H) (tb x : Nat) (n k mk con : Int) (nm fam a b : Nat) (sz hs : Int) (nx hd hh : Nat) : om_H := wF (wE (tW8 h tb x n k mk con nm fam a b) x sz hs) x nx hd hh
theorem tW8_fI (c1 : y ≠ x) (c2 : y ≠ tb) : fI (tW8 h tb x n kk mk con nm fam a b) f y = fI h f y := by
  unfold tW8
  rw [wD_fI, wC_fI, wB_fI c1, wA_fI c1 c2]
theorem tW8_fR (c1 : y ≠ x) : fR (tW8 h tb x n kk mk con nm fam a b) f y = fR h f y := by
  unfold tW8
  rw [wD_fR c1, wC_fR c1, wB_fR, wA_fR]
theorem tW8_kd : kd (tW8 h tb x n kk mk con nm fam a b) y = kd h y := rfl
theorem tW8_an : an (tW8 h tb x n kk mk con nm fam a b) y = an h y := rfl
theorem tW8_aR : aR (tW8 h tb x n kk mk con nm fam a b) y f = aR h y f := rfl
theorem tWn_kd : kd (tWn h tb x n kk mk con nm fam a b sz hs nx hd hh) y = kd h y := rfl
theorem tWn_an : an (tWn h tb x n kk mk con nm fam a b sz hs nx hd hh) y = an h y := rfl
theorem tWn_aI : aI (tWn h tb x n kk mk con nm fam a b sz hs nx hd hh) y f = aI h y f := rfl
theorem tWn_ll : ll (tWn h tb x n kk mk con nm fam a b sz hs nx hd hh) y = ll h y := rfl
theorem tWn_lc : lc (tWn h tb x n kk mk con nm fam a b sz hs nx hd hh) y = lc h y := rfl
theorem tWn_hz : hz (tWn h tb x n kk mk con nm fam a b sz hs nx hd hh) = hz h := rfl
theorem tWn_hu : hu (tWn h tb x n kk mk con nm fam a b sz hs nx hd hh) = hu h := rfl
theorem wF_aR : aR (wF h x nx hd hh) y f = if y = hd ∧ f = hh then x else aR h y f := rfl
theorem wE_aR : aR (wE h x sz hs) y f = aR h y f := rfl
theorem tWn_aR : aR (tWn h tb x n kk mk con nm fam a b sz hs nx hd hh) y f = if y = hd ∧ f = hh then x else aR h y f := by
  unfold tWn
  rw [wF_aR, wE_aR, tW8_aR]
theorem tWn_fI (c1 : y ≠ x) (c2 : y ≠ tb) : fI (tWn h tb x n kk mk con nm fam a b sz hs nx hd hh) f y = fI h f y := by
  unfold tWn
  rw [wF_fI, wE_fI c1, tW8_fI c1 c2]
theorem tWn_fR (c1 : y ≠ x) : fR (tWn h tb x n kk mk con nm fam a b sz hs nx hd hh) f y = fR h f y := by
  unfold tWn
  rw [wF_fR c1, wE_fR, tW8_fR c1]
theorem tWn_tb (c : tb ≠ x) : fI (tWn h tb x n kk mk con nm fam a b sz hs nx hd hh) 124 tb = n := by
  unfold tWn tW8
  rw [wF_fI, wE_fI c, wD_fI, wC_fI, wB_fI c, wA_tb c]
theorem tWn_tb2 (c : tb ≠ x) (hg : g ≠ 124) : fI (tWn h tb x n kk mk con nm fam a b sz hs nx hd hh) g tb = fI h g tb := by
  unfold tWn tW8
  rw [wF_fI, wE_fI c, wD_fI, wC_fI, wB_fI c, wA_tb2 c hg]
theorem tWn_kind : fI (tWn h tb x n kk mk con nm fam a b sz hs nx hd hh) 1556 x = kk := by
  unfold tWn tW8
  rw [wF_fI, wE_ne (by decide) (by decide), wD_fI, wC_fI, wB_ne (by decide) (by decide), wA_x]
theorem tWn_con : fI (tWn h tb x n kk mk con nm fam a b sz hs nx hd hh) 1560 x = con := by
  unfold tWn tW8
  rw [wF_fI, wE_ne (by decide) (by decide), wD_fI, wC_fI, wB_x1]
theorem tWn_mark : fI (tWn h tb x n kk mk con nm fam a b sz hs nx hd hh) 1568 x = mk := by
  unfold tWn tW8
  rw [wF_fI, wE_ne (by decide) (by decide), wD_fI, wC_fI, wB_x2]
theorem tWn_size : fI (tWn h tb x n kk mk con nm fam a b sz hs nx hd hh) 1564 x = sz := by
  unfold tWn
  rw [wF_fI, wE_x2]
theorem tWn_has : fI (tWn h tb x n kk mk con nm fam a b sz hs nx hd hh) 1591 x = hs := by
  unfold tWn
  rw [wF_fI, wE_x1]
theorem tWn_nm : fR (tWn h tb x n kk mk con nm fam a b sz hs nx hd hh) 1574 x = nm := by
  unfold tWn tW8
  rw [wF_ne (by decide), wE_fR, wD_ne (by decide) (by decide), wC_x2]
theorem tWn_fam : fR (tWn h tb x n kk mk con nm fam a b sz hs nx hd hh) 1578 x = fam := by
  unfold tWn tW8
  rw [wF_ne (by decide), wE_fR, wD_ne (by decide) (by decide), wC_x1]
theorem tWn_a : fR (tWn h tb x n kk mk con nm fam a b sz hs nx hd hh) 1582 x = a := by
  unfold tWn tW8
  rw [wF_ne (by decide), wE_fR, wD_x2]
theorem tWn_b : fR (tWn h tb x n kk mk con nm fam a b sz hs nx hd hh) 1586 x = b := by
  unfold tWn tW8
  rw [wF_ne (by decide), wE_fR, wD_x1]
theorem tWn_nx : fR (tWn h tb x n kk mk con nm fam a b sz hs nx hd hh) 1594 x = nx := by
  unfold tWn
  rw [wF_x]
theorem tszW_nd (k w : Nat) (l r : Ty) : tszW (tnd k w l r) = w32 (w32 (1 + tszW l) + tszW r) := by rw [tszW]
theorem thB_nd (k w : Nat) (l r : Ty) : thB (tnd k w l r) = (k == 2 || thB l || thB r) := by rw [thB]
theorem thI_t {T : Ty} (e : thB T = true) : thI T = 1 := if_pos e
theorem thI_f {T : Ty} (e : thB T = false) : thI T = 0 := if_neg (by rw [e]; decide)
/-- what is read of a part -/
def szP (h : om_H) (a : Nat) (T : Ty) : Prop := (a = 0 → tszW T = 0 ∧ thB T = false) ∧ (a ≠ 0 → kd h a = 34 ∧ fI h 1564 a = tszW T ∧ (fI h 1591 a = 0 ↔ thB T = false))
theorem tyC_szs {T : Ty} (A : tyC h N cl U T a) : szP h a T := by
  rcases T with ⟨k', w', u', l', r'⟩ | _
  · refine ⟨fun z => absurd z A.1.2.1, fun _ => ⟨A.2.1, A.2.2.2.2.2.2.1, ?_⟩⟩
    rw [A.2.2.2.2.2.2.2.1]
    cases q : thB (.inner k' w' u' l' r') with
    | true => rw [thI_t q]; exact ⟨fun q => absurd q (by decide), fun q => by cases q⟩
    | false => rw [thI_f q]; exact ⟨fun _ => rfl, fun _ => rfl⟩
  · refine ⟨fun _ => ⟨?_, ?_⟩, fun z => absurd A z⟩
    · rw [tszW]
    · rw [thB]
theorem szP_keep {T : Ty} {g : om_H} (P : szP h a T) (k1 : kd g a = kd h a) (k2 : a ≠ 0 → ∀ f, fI g f a = fI h f a) : szP g a T := ⟨P.1, fun z => ⟨by rw [k1]; exact (P.2 z).1, by rw [k2 z]; exact (P.2 z).2.1, by rw [k2 z]; exact (P.2 z).2.2⟩⟩
theorem ge298 {hh s v : Int} (hv : v = 0 ∨ v = 1) (hx : kd e x = 34) (hT : kd e tb = 3) (hd : kd e (fR e 134 tb) = 56) (h0 : 0 ≤ hh) (h1 : hh < an e (fR e 134 tb)) : C_2_get_298 G tb hh x x v (sI e 1564 x s) = some (x, wF (wE e x s v) x (aR e (fR e 134 tb) hh.toNat) (fR e 134 tb) hh.toNat) := by
  unfold C_2_get_298 wF wE
  exact gd_pos ⟨hv, hx, hT, hd, h0, h1, hx⟩
theorem ge280 {hh s : Int} (P : szP e b r) (bx : b ≠ x) (hl : thB l = false) (k2 : k ≠ 2) (hx : kd e x = 34) (hT : kd e tb = 3) (hd : kd e (fR e 134 tb) = 56) (h0 : 0 ≤ hh) (h1 : hh < an e (fR e 134 tb)) : C_2_get_280 G tb b hh x x (sI e 1564 x s) = some (x, wF (wE e x s (thI (tnd k w l r))) x (aR e (fR e 134 tb) hh.toNat) (fR e 134 tb) hh.toNat) := by
  have k2' : (k == 2) = false := by simpa using k2
  have eT : thB (tnd k w l r) = thB r := by rw [thB_nd, k2', hl]; cases thB r <;> rfl
  unfold C_2_get_280
  by_cases z : b = 0
  · rw [if_pos z, ge298 (.inl rfl) hx hT hd h0 h1, thI_f (by rw [eT]; exact (P.1 z).2)]
  · obtain ⟨p1, p2, p3⟩ := P.2 z
    have fb : fI (sI e 1564 x s) 1591 b = fI e 1591 b := fI_na bx
    rw [if_neg z, gd_pos (show kd (sI e 1564 x s) b = 34 from p1), fb]
    cases q : thB r with
    | false => rw [if_pos (p3.mpr q), ge298 (.inl rfl) hx hT hd h0 h1, thI_f (by rw [eT]; exact q)]
    | true => rw [if_neg (fun y => by rw [p3.mp y] at q; cases q), ge298 (.inr rfl) hx hT hd h0 h1, thI_t (by rw [eT]; exact q)]
theorem ge256 {hh s1 s2 : Int} (es : w32 (s1 + s2) = tszW (tnd k w l r)) (Q : szP e a l) (P : szP e b r) (ax : a ≠ x) (bx : b ≠ x) (hx : kd e x = 34) (hT : kd e tb = 3) (hd : kd e (fR e 134 tb) = 56) (h0 : 0 ≤ hh) (h1 : hh < an e (fR e 134 tb)) : C_2_get_256 G tb (k : Int) a b hh x x s1 s2 e = some (x, wF (wE e x (tszW (tnd k w l r)) (thI (tnd k w l r))) x (aR e (fR e 134 tb) hh.toNat) (fR e 134 tb) hh.toNat) := by
  unfold C_2_get_256
  rw [gd_pos hx, es]
  by_cases k2 : k = 2
  · have eT : thB (tnd k w l r) = true := by rw [thB_nd, k2]; rfl
    rw [if_pos (by omega), ge298 (.inr rfl) hx hT hd h0 h1, thI_t eT]
  · have k2' : (k == 2) = false := by simpa using k2
    rw [if_neg (by omega)]
    unfold C_2_get_267
    by_cases z : a = 0
    · rw [if_pos z]; exact ge280 P bx (Q.1 z).2 k2 hx hT hd h0 h1
    · obtain ⟨p1, p2, p3⟩ := Q.2 z
      have fa : fI (sI e 1564 x (tszW (tnd k w l r))) 1591 a = fI e 1591 a := fI_na ax
      rw [if_neg z, gd_pos (show kd (sI e 1564 x (tszW (tnd k w l r))) a = 34 from p1), fa]
      cases q : thB l with
      | false =>
        rw [if_neg (fun y => y (p3.mpr q))]
        exact ge280 P bx q k2 hx hT hd h0 h1
      | true =>
        have eT : thB (tnd k w l r) = true := by rw [thB_nd, k2', q]; rfl
        rw [if_pos (fun y => by rw [p3.mp y] at q; cases q), ge298 (.inr rfl) hx hT hd h0 h1, thI_t eT]
theorem ge224 {hh : Int} (Q : szP e a l) (P : szP e b r) (ax : a ≠ x) (bx : b ≠ x) (hx : kd e x = 34) (hT : kd e tb = 3) (hd : kd e (fR e 134 tb) = 56) (h0 : 0 ≤ hh) (h1 : hh < an e (fR e 134 tb)) : C_2_get_224 G tb (k : Int) a b hh x e = some (x, wF (wE e x (tszW (tnd k w l r)) (thI (tnd k w l r))) x (aR e (fR e 134 tb) hh.toNat) (fR e 134 tb) hh.toNat) := by
  have e241 : ∀ (s2 : Int), s2 = tszW l → C_2_get_241 G tb (k : Int) a b hh x x 1 s2 e = some (x, wF (wE e x (tszW (tnd k w l r)) (thI (tnd k w l r))) x (aR e (fR e 134 tb) hh.toNat) (fR e 134 tb) hh.toNat) := by
    intro s2 es
    unfold C_2_get_241
    by_cases z : b = 0
    · rw [if_neg (fun y => y z)]
      exact ge256 (by rw [tszW_nd, es, (P.1 z).1]) Q P ax bx hx hT hd h0 h1
    · obtain ⟨p1, p2, p3⟩ := P.2 z
      rw [if_pos z, gd_pos p1, p2]
      exact ge256 (by rw [tszW_nd, es]) Q P ax bx hx hT hd h0 h1
  unfold C_2_get_224
  by_cases z : a = 0
  · rw [if_neg (fun y => y z)]
    exact e241 0 (Q.1 z).1.symm
  · obtain ⟨p1, p2, p3⟩ := Q.2 z
    rw [if_pos z, gd_pos p1, p2]
    exact e241 _ rfl
theorem tW8_eq : sR (sR (sR (sR (sI (sI (sI (sI h 124 tb n) 1556 x kk) 1568 x mk) 1560 x con) 1574 x nm) 1578 x fam) 1582 x a) 1586 x b = tW8 h tb x n kk mk con nm fam a b := rfl
/-- a new type is put at x -/
theorem c_get_152 {used : Nat} (A : szP h a l) (B : szP h b r) (hx : kd h x = 34) (ax : a ≠ x) (bx : b ≠ x) (hT : kd h tb = 3) (hL : kd h (fR h 122 tb) = 42) (hu : fI h 124 tb = (used : Int)) (hu2 : used < 1000000) (hg : (ll h (fR h 122 tb))[used]? = some x) (hd : kd h (fR h 134 tb) = 56) {hh : Int} (h0 : 0 ≤ hh) (h1 : hh < an h (fR h 134 tb)) : C_2_get_152 G tb (k : Int) con nm fam a b hh mk h = some (x, tWn h tb x ((used + 1 : Nat) : Int) (k : Int) mk con nm fam a b (tszW (tnd k w l r)) (thI (tnd k w l r)) (aR h (fR h 134 tb) hh.toNat) (fR h 134 tb) hh.toNat) := by
  have xt : tb ≠ x := fun z => by rw [z] at hT; omega
  have an' : a ≠ 0 → a ≠ tb := fun z q => by have := (A.2 z).1; rw [q] at this; omega
  have bn' : b ≠ 0 → b ≠ tb := fun z q => by have := (B.2 z).1; rw [q] at this; omega
  have eg : P_J2_get G (fR h 122 tb) (fI h 124 tb) h = some x := by
    unfold P_J2_get
    rw [hu, gd_pos ⟨hL, by omega⟩, show ((used : Int)).toNat = used by omega, hg]
  have ew : w32 (fI h 124 tb + 1) = ((used + 1 : Nat) : Int) := by rw [hu, w32_s (by omega) (by omega)]; rfl
  have q1 : fR (tW8 h tb x ((used + 1 : Nat) : Int) (k : Int) mk con nm fam a b) 134 tb = fR h 134 tb := tW8_fR xt
  have key := ge224 (G := G) (e := tW8 h tb x ((used + 1 : Nat) : Int) (k : Int) mk con nm fam a b) (tb := tb) (k := k) (w := w) (hh := hh) (szP_keep A tW8_kd (fun z f => tW8_fI ax (an' z))) (szP_keep B tW8_kd (fun z f => tW8_fI bx (bn' z))) ax bx (by rw [tW8_kd]; exact hx) (by rw [tW8_kd]; exact hT) (by rw [q1, tW8_kd]; exact hd) h0 (by rw [q1, tW8_an]; exact h1)
  rw [q1, tW8_aR] at key
  unfold C_2_get_152
  rw [gd_pos ⟨hT, hL⟩, eg, Option.bind_some, gd_pos ⟨.inr hx, hT, hx⟩, ew, tW8_eq, key]
  unfold tWn
  exact rfl
end LG0
