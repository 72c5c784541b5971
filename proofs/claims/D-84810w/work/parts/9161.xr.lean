set_option maxRecDepth 100000
/-! EXS AS THEY ARE READ: an object of the component and a node of the twin, with ranges of nodes and of addresses; Ψ: what else is known, by the node's kind -/
abbrev xP : Type := Nat → Nat → Nat → Nat → Nat → Nat → Nat → Prop
abbrev xW : Type := Nat → Nat → Nat → Nat → Nat → Nat → Prop
/-- nodes that lie left in one another, with what stands right of each -/
def spineR {α : Type} (I : Nat → Nat → Nat → Nat → Nat → α → Nat → Prop) : List α → Nat → Nat → Nat → Nat → Nat → Nat → Prop
  | [], l, lo, hi, alo, ahi, top => l = top ∧ lo = hi ∧ alo ≤ ahi
  | x :: xs, l, lo, hi, alo, ahi, top => ∃ mid amid s, I lo mid alo amid l x s ∧ spineR I xs s mid hi amid ahi top
section LX
variable (G : om_G) (A : Nat) (S : List Int) (b : Nat) (h : om_H) (σ : tS) (Ψ : xP)
/-- a sign that may stand among others -/
def okS (y : Nat) : Prop := ∃ k : Nat, (k = 42 ∨ k = 43 ∨ k = 45) ∧ y = om_cA G (300 + (k + 128))
/-- how many @s a name has -/
def atsN (h : om_H) (a : Nat) : Nat := if fR h 1458 a = 0 then 0 else (ll h (fR h 1458 a)).length
def X11 (lo hi a n : Nat) : Prop := kd h a = 29 ∧ ga σ 538 n = 11 ∧ (n = lo ∧ lo + 1 = hi) ∧ ∃ j : Nat, ga σ 542 n = ((b + j : Nat) : Int) ∧ tokk S j = 4 ∧ fI h 1372 a = (tokq S j : Int) ∧ fI h 1484 a = numV 0 (tokw S j) ∧ Ψ 11 0 0 0 0 a n
def X10 (lo hi alo ahi a n : Nat) : Prop := kd h a = 28 ∧ ga σ 538 n = 10 ∧ (n = lo ∧ lo + 1 = hi) ∧ fR h 1458 a = 0 ∧ ga σ 546 n = -1 ∧ ∃ j : Nat, ga σ 542 n = ((b + j : Nat) : Int) ∧ tokk S j = 2 ∧ fI h 1372 a = (tokq S j : Int) ∧ (alo ≤ fR h 1454 a ∧ fR h 1454 a < ahi) ∧ wd h A S (fR h 1454 a) j ∧ Ψ 10 0 0 0 0 a n
def X14 (W : xW) (lo hi alo ahi a n : Nat) : Prop := kd h a = 24 ∧ ga σ 538 n = 14 ∧ n + 1 = hi ∧ ∃ (j nb mid a1 a2 a3 : Nat), ga σ 542 n = ((b + j : Nat) : Int) ∧ tokk S (j + 1) = 2 ∧ fI h 1372 a = (tokq S j : Int) ∧ ga σ 546 n = ((b + (j + 1) : Nat) : Int) ∧ (alo ≤ fR h 1386 a ∧ fR h 1386 a < ahi) ∧ wd h A S (fR h 1386 a) (j + 1) ∧ ga σ 554 n = (nb : Int) ∧
  alo ≤ a1 ∧ a < a1 ∧ a1 ≤ a2 ∧ lo ≤ mid ∧ Ψ 14 lo mid a1 a2 a n ∧ W mid n a2 a3 (fR h 1398 a) nb ∧ a3 ≤ ahi
def X15 (W : xW) (lo hi alo ahi a n : Nat) : Prop := kd h a = 25 ∧ ga σ 538 n = 15 ∧ n + 1 = hi ∧ ∃ (j n1 n2 m1 m2 a1 a2 a3 a4 : Nat), ga σ 542 n = ((b + j : Nat) : Int) ∧ tokk S (j + 1) = 2 ∧ fI h 1372 a = (tokq S j : Int) ∧ ga σ 546 n = ((b + (j + 1) : Nat) : Int) ∧ (alo ≤ fR h 1402 a ∧ fR h 1402 a < ahi) ∧ wd h A S (fR h 1402 a) (j + 1) ∧ ga σ 554 n = (n1 : Int) ∧ ga σ 558 n = (n2 : Int) ∧
  alo ≤ a1 ∧ a < a1 ∧ a1 ≤ a2 ∧ lo ≤ m1 ∧ Ψ 15 lo m1 a1 a2 a n ∧ W m1 m2 a2 a3 (fR h 1414 a) n1 ∧ W m2 n a3 a4 (fR h 1418 a) n2 ∧ a4 ≤ ahi
def X16 (W : xW) (lo hi alo ahi a n : Nat) : Prop := kd h a = 26 ∧ ga σ 538 n = 16 ∧ n + 1 = hi ∧ ∃ (j n1 n2 n3 m1 m2 a1 a2 a3 a4 : Nat), ga σ 542 n = ((b + j : Nat) : Int) ∧ (fI h 1372 a = (tokq S j : Int) ∧ tokk S j ≠ 0) ∧ ga σ 546 n = (n1 : Int) ∧ ga σ 550 n = (n2 : Int) ∧ ga σ 554 n = (n3 : Int) ∧
  alo ≤ a1 ∧ a < a1 ∧ W lo m1 a1 a2 (fR h 1422 a) n1 ∧ W m1 m2 a2 a3 (fR h 1426 a) n2 ∧ W m2 n a3 a4 (fR h 1430 a) n3 ∧ a4 ≤ ahi ∧ Ψ 16 0 0 0 0 a n
def X17 (W : xW) (lo hi alo ahi a n : Nat) : Prop := kd h a = 27 ∧ ga σ 538 n = 17 ∧ n + 1 = hi ∧ ∃ (j jx n1 n2 n3 m1 m2 a1 a2 a3 a4 a5 : Nat), ga σ 542 n = ((b + j : Nat) : Int) ∧ (fI h 1372 a = (tokq S j : Int) ∧ tokk S j ≠ 0) ∧ ga σ 546 n = (n1 : Int) ∧ ga σ 550 n = (n2 : Int) ∧ ga σ 554 n = ((b + jx : Nat) : Int) ∧ ga σ 558 n = (n3 : Int) ∧ tokk S jx = 2 ∧ tokk S (jx + 1) = 2 ∧
  (alo ≤ fR h 1446 a ∧ fR h 1446 a < ahi) ∧ wd h A S (fR h 1446 a) jx ∧ (alo ≤ fR h 1450 a ∧ fR h 1450 a < ahi) ∧ wd h A S (fR h 1450 a) (jx + 1) ∧
  alo ≤ a1 ∧ a < a1 ∧ W lo m1 a1 a2 (fR h 1434 a) n1 ∧ W m1 m2 a2 a3 (fR h 1438 a) n2 ∧ a3 ≤ a4 ∧ W m2 n a4 a5 (fR h 1442 a) n3 ∧ a5 ≤ ahi ∧ Ψ 17 0 0 0 0 a n
/-- one more atom, or an @ where none may be -/
def itemR (W : xW) (lo hi alo ahi l x s : Nat) : Prop := alo ≤ x ∧ x < ahi ∧ kd h x = 31 ∧ lo ≤ s ∧ s + 1 = hi ∧ ga σ 546 s = (l : Int) ∧
  ((∃ (ne a2 : Nat), ga σ 538 s = 12 ∧ fR h 1498 x ≠ 0 ∧ ga σ 550 s = (ne : Int) ∧ W lo s alo a2 (fR h 1498 x) ne ∧ a2 ≤ x ∧ fI h 1504 x = fI h 1372 (fR h 1498 x) ∧ Ψ 12 0 0 0 0 x s) ∨
   (∃ (j a2 : Nat), ga σ 538 s = 13 ∧ fR h 1498 x = 0 ∧ fR h 1502 x ≠ 0 ∧ ga σ 542 s = ((b + j : Nat) : Int) ∧ (fI h 1504 x = (tokq S j : Int) ∧ tokk S j ≠ 0) ∧ a2 ≤ x ∧ Ψ 13 lo s alo a2 x s))
/-- items of @s that a name has -/
def atIt (x o : Nat) : Prop := kd h x = 31 ∧ fR h 1498 x = 0 ∧ fR h 1502 x = 0 ∧ ∃ j : Nat, ga σ 542 o = ((b + j : Nat) : Int) ∧ (fI h 1504 x = (tokq S j : Int) ∧ tokk S j ≠ 0)
def atsR (alo ahi : Nat) : List Nat → List Nat → Prop
  | [], [] => True
  | x :: xs, o :: os => alo ≤ x ∧ x < ahi ∧ atIt S b h σ x o ∧ atsR alo ahi xs os
  | _, _ => False
/-- a name with @s, the first one of a use; the items of its @s -/
def XN (lo hi alo ahi a n : Nat) (xs : List Nat) : Prop := lo ≤ n ∧ n < hi ∧ alo ≤ a ∧ a < ahi ∧ kd h a = 28 ∧ ga σ 538 n = 10 ∧ n = lo ∧ ∃ (j : Nat) (os : List Nat) (a1 a2 : Nat), ga σ 542 n = ((b + j : Nat) : Int) ∧ tokk S j = 2 ∧ fI h 1372 a = (tokq S j : Int) ∧ (alo ≤ fR h 1454 a ∧ fR h 1454 a < ahi) ∧ wd h A S (fR h 1454 a) j ∧
  chain σ (ga σ 546 n) os ∧ os ≠ [] ∧ (∀ o ∈ os, lo < o ∧ o < hi ∧ ga σ 538 o = 19) ∧ (alo ≤ fR h 1458 a ∧ fR h 1458 a < ahi) ∧ fR h 1458 a ≠ 0 ∧ kd h (fR h 1458 a) = 42 ∧ (ll h (fR h 1458 a)).length = os.length ∧ alo ≤ a1 ∧ a2 ≤ ahi ∧ Ψ 19 (lo + 1) hi a1 a2 a n ∧ atsR S b h σ alo ahi xs os
def X30 (W : xW) (lo hi alo ahi a n : Nat) : Prop := kd h a = 30 ∧ (alo ≤ fR h 1494 a ∧ fR h 1494 a < ahi) ∧ (kd h (fR h 1494 a) = 42 ∧ ll h (fR h 1494 a) ≠ []) ∧ fI h 1372 a = fI h 1372 (fR h 1490 a) ∧ ∃ (nh mid a1 a2 a3 a4 : Nat) (xs ys : List Nat), ll h (fR h 1494 a) = xs ++ ys ∧ alo ≤ a1 ∧ a < a3 ∧ a2 ≤ a3 ∧ spineR (itemR S b h σ Ψ W) ys nh mid hi a3 a4 n ∧ a4 ≤ ahi ∧
  ((xs = [] ∧ W lo mid a1 a2 (fR h 1490 a) nh ∧ a2 ≤ a) ∨ XN A S b h σ Ψ lo mid a1 a2 (fR h 1490 a) nh xs) ∧ Ψ 30 0 0 0 0 a n
/-- one more sign -/
def sgv (k : Int) : Int := if k = 17 then 61 else k
def signR (W : xW) (lo hi alo ahi l : Nat) (x : Nat × Nat) (s : Nat) : Prop := lo ≤ s ∧ s + 1 = hi ∧ ga σ 538 s = 18 ∧ ga σ 546 s = (l : Int) ∧ ∃ (j nx : Nat), ga σ 542 s = ((b + j : Nat) : Int) ∧ (tokk S j = 17 ∨ tokk S j = 60 ∨ tokk S j = 43 ∨ tokk S j = 45 ∨ tokk S j = 42) ∧ x.2 = om_cA G (300 + (sgv (tokk S j) + 128).toNat) ∧ ga σ 550 s = (nx : Int) ∧ W lo s alo ahi x.1 nx ∧ Ψ 18 0 0 0 0 x.1 s
def X32 (W : xW) (lo hi alo ahi a n : Nat) : Prop := kd h a = 32 ∧ (alo ≤ fR h 1522 a ∧ fR h 1522 a < ahi) ∧ kd h (fR h 1522 a) = 42 ∧ (alo ≤ fR h 1526 a ∧ fR h 1526 a < ahi) ∧ kd h (fR h 1526 a) = 42 ∧ (ll h (fR h 1522 a)).length = (ll h (fR h 1526 a)).length ∧ (ll h (fR h 1522 a) ≠ [] ∧ (2 ≤ (ll h (fR h 1522 a)).length → ∀ y ∈ ll h (fR h 1526 a), okS G y)) ∧
  ∃ (j nh mid a1 a2 a3 a4 : Nat), W lo mid a1 a2 (fR h 1518 a) nh ∧ alo ≤ a1 ∧ a2 ≤ a ∧ a < a3 ∧ spineR (signR G S b σ Ψ W) ((ll h (fR h 1522 a)).zip (ll h (fR h 1526 a))) nh mid hi a3 a4 n ∧ a4 ≤ ahi ∧ ga σ 542 n = ((b + j : Nat) : Int) ∧ fI h 1372 a = (tokq S j : Int) ∧ Ψ 32 0 0 0 0 a n
def XB (W : xW) (lo hi alo ahi a n : Nat) : Prop := lo ≤ n ∧ n < hi ∧ alo ≤ a ∧ a < ahi ∧
    (X11 S b h σ Ψ lo hi a n ∨ X10 A S b h σ Ψ lo hi alo ahi a n ∨ X14 A S b h σ Ψ W lo hi alo ahi a n ∨ X15 A S b h σ Ψ W lo hi alo ahi a n ∨ X16 S b h σ Ψ W lo hi alo ahi a n ∨ X17 A S b h σ Ψ W lo hi alo ahi a n ∨ X30 A S b h σ Ψ W lo hi alo ahi a n ∨ X32 G S b h σ Ψ W lo hi alo ahi a n)
def XR : Nat → Nat → Nat → Nat → Nat → Nat → Nat → Prop
  | 0, _, _, _, _, _, _ => False
  | k + 1, lo, hi, alo, ahi, a, n => XB G A S b h σ Ψ (XR k) lo hi alo ahi a n
end LX
/-! what keeps it -/
abbrev mI : List Nat := [1464, 1476, 1219, 1223, 1259, 1304, 1539]
abbrev mR : List Nat := [1378, 1382, 1394, 1410, 1462, 1470, 1474, 1482, 1510, 1514, 1226, 1262, 1302, 1314, 1318, 1330, 1350, 1354, 1370, 1550]
def hs (alo ahi : Nat) (h h' : om_H) : Prop := ∀ a, alo ≤ a → a < ahi → kd h' a = kd h a ∧ (∀ f, f ∉ mI → fI h' f a = fI h f a) ∧ (∀ f, f ∉ mR → fR h' f a = fR h f a) ∧ ll h' a = ll h a
def nss (lo hi : Nat) (σ τ : tS) : Prop := ∀ i, lo ≤ i → i < hi → (∀ f ∈ [538, 542, 546, 554, 558], ga τ f i = ga σ f i) ∧ (ga σ 538 i = 19 → ga τ 562 i = ga σ 562 i) ∧ (ga σ 538 i ∉ [10, 13, 14, 15, (19 : Int)] → ga τ 550 i = ga σ 550 i)
def psi (lo hi alo ahi : Nat) (Ψ Ψ' : xP) : Prop := ∀ tag lo' hi' alo' ahi' a n, (tag ∈ [13, 14, 15, 19] → lo ≤ lo' ∧ hi' ≤ hi ∧ alo ≤ alo' ∧ ahi' ≤ ahi) → alo ≤ a → a < ahi → lo ≤ n → n < hi → Ψ tag lo' hi' alo' ahi' a n → Ψ' tag lo' hi' alo' ahi' a n
def kp (lo hi alo ahi : Nat) (h h' : om_H) (σ τ : tS) (Ψ Ψ' : xP) : Prop := hs alo ahi h h' ∧ nss lo hi σ τ ∧ psi lo hi alo ahi Ψ Ψ'
theorem kp_sub {lo hi alo ahi lo' hi' alo' ahi' : Nat} {h h' : om_H} {σ τ : tS} {Ψ Ψ' : xP} (K : kp lo hi alo ahi h h' σ τ Ψ Ψ') (h1 : lo ≤ lo') (h2 : hi' ≤ hi) (h3 : alo ≤ alo') (h4 : ahi' ≤ ahi) : kp lo' hi' alo' ahi' h h' σ τ Ψ Ψ' :=
  ⟨fun a c d => K.1 a (by omega) (by omega), fun i c d => K.2.1 i (by omega) (by omega), fun tag l1 l2 l3 l4 a n q c1 c2 c3 c4 w => K.2.2 tag l1 l2 l3 l4 a n (fun z => by have := q z; omega) (by omega) (by omega) (by omega) (by omega) w⟩
/-- a relation of a node and an object lies in its ranges -/
def inW (W : xW) : Prop := ∀ lo hi alo ahi a n, W lo hi alo ahi a n → lo ≤ n ∧ n < hi ∧ alo ≤ a ∧ a < ahi
def inI {α : Type} (I : Nat → Nat → Nat → Nat → Nat → α → Nat → Prop) : Prop := ∀ lo hi alo ahi l x s, I lo hi alo ahi l x s → lo ≤ s ∧ s + 1 = hi ∧ alo ≤ ahi
theorem spineR_in {α : Type} {I : Nat → Nat → Nat → Nat → Nat → α → Nat → Prop} (hI : inI I) : ∀ {xs : List α} {l lo hi alo ahi top : Nat}, spineR I xs l lo hi alo ahi top → lo ≤ hi ∧ alo ≤ ahi ∧ (xs ≠ [] → lo ≤ top ∧ top + 1 = hi) ∧ (xs = [] → l = top ∧ lo = hi)
  | [], l, lo, hi, alo, ahi, top, r => ⟨Nat.le_of_eq r.2.1, r.2.2, fun z => absurd rfl z, fun _ => ⟨r.1, r.2.1⟩⟩
  | x :: xs, l, lo, hi, alo, ahi, top, ⟨mid, amid, s, w, r⟩ => by
    obtain ⟨w1, w2, w3⟩ := hI _ _ _ _ _ _ _ w
    obtain ⟨r1, r2, r3, r4⟩ := spineR_in hI r
    refine ⟨by omega, by omega, fun _ => ?_, fun z => nomatch z⟩
    by_cases c : xs = []
    · obtain ⟨q1, q2⟩ := r4 c
      omega
    · have := r3 c; omega
theorem spineR_mono {α : Type} {I I' : Nat → Nat → Nat → Nat → Nat → α → Nat → Prop} (hIn : inI I) : ∀ {xs : List α} {l lo hi alo ahi top : Nat}, (∀ lo' hi' alo' ahi' l x s, lo ≤ lo' → hi' ≤ hi → alo ≤ alo' → ahi' ≤ ahi → x ∈ xs → I lo' hi' alo' ahi' l x s → I' lo' hi' alo' ahi' l x s) → spineR I xs l lo hi alo ahi top → spineR I' xs l lo hi alo ahi top
  | [], l, lo, hi, alo, ahi, top, _, r => r
  | x :: xs, l, lo, hi, alo, ahi, top, hI, ⟨mid, amid, s, w, r⟩ => by
    obtain ⟨w1, w2, w3⟩ := hIn _ _ _ _ _ _ _ w
    obtain ⟨r1, r2, r3⟩ := spineR_in hIn r
    exact ⟨mid, amid, s, hI _ _ _ _ _ _ _ (Nat.le_refl _) r1 (Nat.le_refl _) r2 List.mem_cons_self w, spineR_mono hIn (fun lo' hi' alo' ahi' l x s c1 c2 c3 c4 c5 => hI lo' hi' alo' ahi' l x s (by omega) c2 (by omega) c4 (List.mem_cons_of_mem _ c5)) r⟩
theorem spineR_app {α : Type} {I : Nat → Nat → Nat → Nat → Nat → α → Nat → Prop} : ∀ {xs : List α} {l lo mid hi alo amid ahi top s : Nat} {x : α}, spineR I xs l lo mid alo amid top → (∀ alo', alo' ≤ amid → I mid hi alo' ahi top x s) → spineR I (xs ++ [x]) l lo hi alo ahi s
  | [], l, lo, mid, hi, alo, amid, ahi, top, s, x, r, w => ⟨hi, ahi, s, by rw [r.1, r.2.1]; exact w alo r.2.2, rfl, rfl, Nat.le_refl _⟩
  | y :: ys, l, lo, mid, hi, alo, amid, ahi, top, s, x, ⟨m1, a1, s1, w1, r⟩, w => ⟨m1, a1, s1, w1, spineR_app r w⟩
section LX2
variable {G : om_G} {A : Nat} {S : List Int} {b : Nat} {h h' : om_H} {σ τ : tS} {Ψ Ψ' : xP}
theorem itemR_in {W : xW} (hW : inW W) : inI (itemR S b h σ Ψ W) := by
  intro lo hi alo ahi l x s w
  exact ⟨w.2.2.2.1, w.2.2.2.2.1, by have := w.1; have := w.2.1; omega⟩
theorem signR_in {W : xW} (hW : inW W) : inI (signR G S b σ Ψ W) := by
  intro lo hi alo ahi l x s w
  obtain ⟨w1, w2, w3, w4, j, nx, w5, w6, w7, w8, w9, w10⟩ := w
  have := hW _ _ _ _ _ _ w9
  exact ⟨w1, w2, by omega⟩
theorem XR_in : ∀ k, inW (XR G A S b h σ Ψ k)
  | 0, _, _, _, _, _, _, w => w.elim
  | _ + 1, _, _, _, _, _, _, w => ⟨w.1, w.2.1, w.2.2.1, w.2.2.2.1⟩
theorem wd_hs {a j alo ahi : Nat} (K : hs alo ahi h h') (h1 : alo ≤ a) (h2 : a < ahi) (w : wd h A S a j) : wd h' A S a j := by
  obtain ⟨k1, k2, k3, k4⟩ := K a h1 h2
  exact ⟨by rw [k1]; exact w.1, by rw [k3 _ (by decide)]; exact w.2.1, by rw [k2 _ (by decide)]; exact w.2.2.1, by rw [k2 _ (by decide)]; exact w.2.2.2⟩
theorem chain_nss {lo hi : Nat} (K : nss lo hi σ τ) : ∀ {f : Int} {ns : List Nat}, chain σ f ns → (∀ o ∈ ns, lo < o ∧ o < hi ∧ ga σ 538 o = 19) → chain τ f ns
  | _, [], c, _ => c
  | _, n :: ns, ⟨c1, c2⟩, q => by
    have q1 := q n List.mem_cons_self
    exact ⟨c1, by rw [(K n (by omega) q1.2.1).2.1 q1.2.2]; exact chain_nss K c2 (fun o ho => q o (List.mem_cons_of_mem _ ho))⟩
/-- what is the same for a relation of parts -/
def mW (lo hi alo ahi : Nat) (W W' : xW) : Prop := ∀ lo' hi' alo' ahi' a n, lo ≤ lo' → hi' ≤ hi → alo ≤ alo' → ahi' ≤ ahi → W lo' hi' alo' ahi' a n → W' lo' hi' alo' ahi' a n
theorem X10_keep {lo hi alo ahi a n : Nat} (K : kp lo hi alo ahi h h' σ τ Ψ Ψ') (i1 : lo ≤ n) (i2 : n < hi) (i3 : alo ≤ a) (i4 : a < ahi) (w : X10 A S b h σ Ψ lo hi alo ahi a n) : X10 A S b h' τ Ψ' lo hi alo ahi a n := by
  obtain ⟨w1, w2, w3, w3', w3'', j, w4, w5, w6, w7, w8, w9⟩ := w
  obtain ⟨k1, k2, k3, k4⟩ := K.1 a i3 i4
  obtain ⟨n1, n2, n3⟩ := K.2.1 n i1 i2
  exact ⟨by rw [k1]; exact w1, by rw [n1 _ (by simp)]; exact w2, w3, by rw [k3 _ (by decide)]; exact w3', by rw [n1 _ (by simp)]; exact w3'', j, by rw [n1 _ (by simp)]; exact w4, w5, by rw [k2 _ (by decide)]; exact w6, by rw [k3 _ (by decide)]; exact w7, by rw [k3 _ (by decide)]; exact wd_hs K.1 w7.1 w7.2 w8, K.2.2 10 _ _ _ _ _ _ (fun z => absurd z (by decide)) i3 i4 i1 i2 w9⟩
theorem atsR_keep {alo ahi lo hi : Nat} (K : hs alo ahi h h') (L : nss lo hi σ τ) : ∀ {xs os : List Nat}, (∀ o ∈ os, lo < o ∧ o < hi ∧ ga σ 538 o = 19) → atsR S b h σ alo ahi xs os → atsR S b h' τ alo ahi xs os
  | [], [], _, r => r
  | x :: xs, o :: os, q, ⟨c1, c2, ⟨d1, d2, d3, j, d4, d5⟩, r⟩ => by
    obtain ⟨e1, e2, e3, e4⟩ := K x c1 c2
    have q1 := q o List.mem_cons_self
    exact ⟨c1, c2, ⟨by rw [e1]; exact d1, by rw [e3 _ (by decide)]; exact d2, by rw [e3 _ (by decide)]; exact d3, j, by rw [(L o (by omega) q1.2.1).1 _ (by simp)]; exact d4, by rw [e2 _ (by decide)]; exact d5⟩, atsR_keep K L (fun o ho => q o (List.mem_cons_of_mem _ ho)) r⟩
  | [], _ :: _, _, r => r.elim
  | _ :: _, [], _, r => r.elim
theorem XN_keep {lo hi alo ahi a n : Nat} {xs : List Nat} (K : kp lo hi alo ahi h h' σ τ Ψ Ψ') (w : XN A S b h σ Ψ lo hi alo ahi a n xs) : XN A S b h' τ Ψ' lo hi alo ahi a n xs := by
  obtain ⟨i1, i2, i3, i4, w1, w2, w3, j, os, a1, a2, w4, w5, w6, w7, w8, w9, w9', w10, w11, w11a, w11b, w11c, w12, w13, w14, w15⟩ := w
  obtain ⟨k1, k2, k3, k4⟩ := K.1 a i3 i4
  obtain ⟨n1, n2, n3⟩ := K.2.1 n i1 i2
  obtain ⟨e1, e2, e3, e4⟩ := K.1 _ w11.1 w11.2
  refine ⟨i1, i2, i3, i4, by rw [k1]; exact w1, by rw [n1 _ (by simp)]; exact w2, w3, j, os, a1, a2, by rw [n1 _ (by simp)]; exact w4, w5, by rw [k2 _ (by decide)]; exact w6, by rw [k3 _ (by decide)]; exact w7, by rw [k3 _ (by decide)]; exact wd_hs K.1 w7.1 w7.2 w8, by rw [n1 _ (by simp)]; exact chain_nss K.2.1 w9 w10, w9', fun o ho => ?_, by rw [k3 _ (by decide)]; exact w11, by rw [k3 _ (by decide)]; exact w11a, by rw [k3 _ (by decide), e1]; exact w11b, by rw [k3 _ (by decide), e4]; exact w11c, w12, w13, K.2.2 19 _ _ _ _ _ _ (fun _ => ⟨by omega, Nat.le_refl _, w12, w13⟩) i3 i4 i1 i2 w14, atsR_keep K.1 K.2.1 w10 w15⟩
  have q := w10 o ho
  exact ⟨q.1, q.2.1, by rw [(K.2.1 o (by omega) q.2.1).1 _ (by simp)]; exact q.2.2⟩
theorem chain_det {σ : tS} : ∀ {f : Int} {ns ms : List Nat}, chain σ f ns → chain σ f ms → ns = ms
  | _, [], [], _, _ => rfl
  | f, [], m :: ms, h1, h2 => by have a : f = -1 := h1; have b := h2.1; omega
  | f, n :: ns, [], h1, h2 => by have a := h1.1; have b : f = -1 := h2; omega
  | f, n :: ns, m :: ms, h1, h2 => by
    have e : n = m := by have a := h1.1; have b := h2.1; omega
    subst e
    rw [chain_det h1.2 h2.2]
theorem itemR_keep {W W' : xW} {lo hi alo ahi l x s : Nat} (K : kp lo hi alo ahi h h' σ τ Ψ Ψ') (hW : inW W) (mw : mW lo hi alo ahi W W') (w : itemR S b h σ Ψ W lo hi alo ahi l x s) : itemR S b h' τ Ψ' W' lo hi alo ahi l x s := by
  obtain ⟨w1, w2, w3, w4, w5, w6, w7⟩ := w
  obtain ⟨k1, k2, k3, k4⟩ := K.1 x w1 w2
  obtain ⟨n1, n2, n3⟩ := K.2.1 s w4 (by omega)
  refine ⟨w1, w2, by rw [k1]; exact w3, w4, w5, by rw [n1 _ (by simp)]; exact w6, ?_⟩
  rw [n1 538 (by simp), n1 542 (by simp), k3 1498 (by decide), k3 1502 (by decide), k2 1504 (by decide)]
  rcases w7 with ⟨ne, a2, c1, c2, c3, c4, c5, c6, c7⟩ | ⟨j, a2, c1, c2, c3, c4, c5, c6, c7⟩
  · have i := hW _ _ _ _ _ _ c4
    refine .inl ⟨ne, a2, c1, c2, by rw [n3 (by rw [c1]; decide)]; exact c3, mw _ _ _ _ _ _ (Nat.le_refl _) (by omega) (Nat.le_refl _) (by omega) c4, c5, ?_, K.2.2 12 _ _ _ _ _ _ (fun z => absurd z (by decide)) w1 w2 w4 (by omega) c7⟩
    rw [(K.1 _ i.2.2.1 (by omega)).2.1 1372 (by decide)]; exact c6
  · exact .inr ⟨j, a2, c1, c2, c3, c4, c5, c6, K.2.2 13 _ _ _ _ _ _ (fun _ => ⟨Nat.le_refl _, by omega, Nat.le_refl _, by omega⟩) w1 w2 w4 (by omega) c7⟩
theorem signR_keep {W W' : xW} {lo hi alo ahi l s : Nat} {x : Nat × Nat} (K : kp lo hi alo ahi h h' σ τ Ψ Ψ') (hW : inW W) (mw : mW lo hi alo ahi W W') (w : signR G S b σ Ψ W lo hi alo ahi l x s) : signR G S b τ Ψ' W' lo hi alo ahi l x s := by
  obtain ⟨w1, w2, w3, w4, j, nx, w5, w6, w7, w8, w9, w10⟩ := w
  have i := hW _ _ _ _ _ _ w9
  obtain ⟨n1, n2, n3⟩ := K.2.1 s w1 (by omega)
  exact ⟨w1, w2, by rw [n1 _ (by simp)]; exact w3, by rw [n1 _ (by simp)]; exact w4, j, nx, by rw [n1 _ (by simp)]; exact w5, w6, w7, by rw [n3 (by rw [w3]; decide)]; exact w8, mw _ _ _ _ _ _ (Nat.le_refl _) (by omega) (Nat.le_refl _) (Nat.le_refl _) w9, K.2.2 18 _ _ _ _ _ _ (fun z => absurd z (by decide)) i.2.2.1 i.2.2.2 w1 (by omega) w10⟩
theorem X30_keep {W W' : xW} {lo hi alo ahi a n : Nat} (K : kp lo hi alo ahi h h' σ τ Ψ Ψ') (hW : inW W) (mw : mW lo hi alo ahi W W') (i1 : lo ≤ n) (i2 : n < hi) (i3 : alo ≤ a) (i4 : a < ahi) (w : X30 A S b h σ Ψ W lo hi alo ahi a n) : X30 A S b h' τ Ψ' W' lo hi alo ahi a n := by
  obtain ⟨w1, w2, w3, w4, nh, mid, a1, a2, a3, a4, xs, ys, w5, w7, w9, w10, w11, w12, w13, w15⟩ := w
  obtain ⟨k1, k2, k3, k4⟩ := K.1 a i3 i4
  obtain ⟨e1, e2, e3, e4⟩ := K.1 _ w2.1 w2.2
  have isp := spineR_in (itemR_in hW) w11
  have ih : (lo ≤ nh ∧ nh < mid) ∧ a1 ≤ fR h 1490 a ∧ fR h 1490 a < a2 := by
    rcases w13 with w13 | w13
    · have := hW _ _ _ _ _ _ w13.2.1; omega
    · have := w13.1; have := w13.2.1; have := w13.2.2.1; have := w13.2.2.2.1; omega
  obtain ⟨d1, d2, d3, d4⟩ := K.1 (fR h 1490 a) (by omega) (by omega)
  unfold X30
  rw [k1, k3 1494 (by decide), k3 1490 (by decide), e1, e4, k2 1372 (by decide), d2 1372 (by decide)]
  refine ⟨w1, w2, w3, w4, nh, mid, a1, a2, a3, a4, xs, ys, w5, w7, w9, w10, spineR_mono (itemR_in hW) (fun lo' hi' alo' ahi' l x s c1 c2 c3 c4 _ q => ?_) w11, w12, ?_, K.2.2 30 _ _ _ _ _ _ (fun z => absurd z (by decide)) i3 i4 i1 i2 w15⟩
  · exact itemR_keep (kp_sub K (by omega) (by omega) (by omega) (by omega)) hW (fun l1 l2 l3 l4 x n q1 q2 q3 q4 q5 => mw _ _ _ _ _ _ (by omega) (by omega) (by omega) (by omega) q5) q
  · rcases w13 with ⟨q1, q2, q3⟩ | q
    · exact .inl ⟨q1, mw _ _ _ _ _ _ (Nat.le_refl _) isp.1 w7 (by omega) q2, q3⟩
    · exact .inr (XN_keep (kp_sub K (Nat.le_refl _) isp.1 w7 (by omega)) q)
theorem X32_keep {W W' : xW} {lo hi alo ahi a n : Nat} (K : kp lo hi alo ahi h h' σ τ Ψ Ψ') (hW : inW W) (mw : mW lo hi alo ahi W W') (i1 : lo ≤ n) (i2 : n < hi) (i3 : alo ≤ a) (i4 : a < ahi) (w : X32 G S b h σ Ψ W lo hi alo ahi a n) : X32 G S b h' τ Ψ' W' lo hi alo ahi a n := by
  obtain ⟨w1, w2, w3, w4, w5, w6, w7, j, nh, mid, a1, a2, a3, a4, w8, w9, w10, w11, w12, w13, w14, w15, w16⟩ := w
  obtain ⟨k1, k2, k3, k4⟩ := K.1 a i3 i4
  obtain ⟨e1, e2, e3, e4⟩ := K.1 _ w2.1 w2.2
  obtain ⟨f1, f2, f3, f4⟩ := K.1 _ w4.1 w4.2
  obtain ⟨n1, n2, n3⟩ := K.2.1 n i1 i2
  have ih := hW _ _ _ _ _ _ w8
  have isp := spineR_in (signR_in hW) w12
  unfold X32
  rw [k1, k3 1522 (by decide), k3 1526 (by decide), k3 1518 (by decide), e1, e4, f1, f4, k2 1372 (by decide), n1 542 (by simp)]
  refine ⟨w1, w2, w3, w4, w5, w6, w7, j, nh, mid, a1, a2, a3, a4, mw _ _ _ _ _ _ (Nat.le_refl _) isp.1 w9 (by omega) w8, w9, w10, w11, spineR_mono (signR_in hW) (fun lo' hi' alo' ahi' l x s c1 c2 c3 c4 _ q => ?_) w12, w13, w14, w15, K.2.2 32 _ _ _ _ _ _ (fun z => absurd z (by decide)) i3 i4 i1 i2 w16⟩
  exact signR_keep (kp_sub K (by omega) (by omega) (by omega) (by omega)) hW (fun l1 l2 l3 l4 x n q1 q2 q3 q4 q5 => mw _ _ _ _ _ _ (by omega) (by omega) (by omega) (by omega) q5) q
theorem XB_keep {W W' : xW} {lo hi alo ahi a n : Nat} (K : kp lo hi alo ahi h h' σ τ Ψ Ψ') (hW : inW W) (mw : mW lo hi alo ahi W W') (w : XB G A S b h σ Ψ W lo hi alo ahi a n) : XB G A S b h' τ Ψ' W' lo hi alo ahi a n := by
  obtain ⟨i1, i2, i3, i4, w⟩ := w
  obtain ⟨k1, k2, k3, k4⟩ := K.1 a i3 i4
  obtain ⟨n1, n2, n3⟩ := K.2.1 n i1 i2
  refine ⟨i1, i2, i3, i4, ?_⟩
  rcases w with w | w | w | w | w | w | w | w
  · obtain ⟨w1, w2, w3, j, w4, w5, w6, w7, w8⟩ := w
    exact .inl ⟨by rw [k1]; exact w1, by rw [n1 _ (by simp)]; exact w2, w3, j, by rw [n1 _ (by simp)]; exact w4, w5, by rw [k2 _ (by decide)]; exact w6, by rw [k2 _ (by decide)]; exact w7, K.2.2 11 _ _ _ _ _ _ (fun z => absurd z (by decide)) i3 i4 i1 i2 w8⟩
  · exact .inr (.inl (X10_keep K i1 i2 i3 i4 w))
  · obtain ⟨w1, w2, w3, j, nb, mid, a1, a2, a3, w4, w5, w6, w7, w8, w9, w10, w11, w12, w13, w14, w15, w16, w17⟩ := w
    have ib := hW _ _ _ _ _ _ w16
    refine .inr (.inr (.inl ⟨by rw [k1]; exact w1, by rw [n1 _ (by simp)]; exact w2, w3, j, nb, mid, a1, a2, a3, by rw [n1 _ (by simp)]; exact w4, w5, by rw [k2 _ (by decide)]; exact w6, by rw [n1 _ (by simp)]; exact w7, by rw [k3 _ (by decide)]; exact w8, by rw [k3 _ (by decide)]; exact wd_hs K.1 w8.1 w8.2 w9, by rw [n1 _ (by simp)]; exact w10, w11, w12, w13, w14, K.2.2 14 _ _ _ _ _ _ (fun _ => ⟨Nat.le_refl _, by omega, w11, by omega⟩) i3 i4 i1 i2 w15, ?_, w17⟩))
    rw [k3 _ (by decide)]
    exact mw _ _ _ _ _ _ (by omega) (by omega) (by omega) w17 w16
  · obtain ⟨w1, w2, w3, j, n1', n2', m1, m2, a1, a2, a3, a4, w4, w5, w6, w7, w8, w9, w10, w10', w11, w12, w13, w14, w15, w16, w16', w17⟩ := w
    have ib := hW _ _ _ _ _ _ w16
    have ib' := hW _ _ _ _ _ _ w16'
    refine .inr (.inr (.inr (.inl ⟨by rw [k1]; exact w1, by rw [n1 _ (by simp)]; exact w2, w3, j, n1', n2', m1, m2, a1, a2, a3, a4, by rw [n1 _ (by simp)]; exact w4, w5, by rw [k2 _ (by decide)]; exact w6, by rw [n1 _ (by simp)]; exact w7, by rw [k3 _ (by decide)]; exact w8, by rw [k3 _ (by decide)]; exact wd_hs K.1 w8.1 w8.2 w9, by rw [n1 _ (by simp)]; exact w10, by rw [n1 _ (by simp)]; exact w10', w11, w12, w13, w14, K.2.2 15 _ _ _ _ _ _ (fun _ => ⟨Nat.le_refl _, by omega, w11, by omega⟩) i3 i4 i1 i2 w15, ?_, ?_, w17⟩)))
    · rw [k3 _ (by decide)]
      exact mw _ _ _ _ _ _ (by omega) (by omega) (by omega) (by omega) w16
    · rw [k3 _ (by decide)]
      exact mw _ _ _ _ _ _ (by omega) (by omega) (by omega) (by omega) w16'
  · obtain ⟨w1, w2, w3, j, p1, p2, p3, m1, m2, a1, a2, a3, a4, w4, w5, w6, w7, w8, w9, w10, w11, w12, w13, w14, w15⟩ := w
    have j1 := hW _ _ _ _ _ _ w11
    have j2 := hW _ _ _ _ _ _ w12
    have j3 := hW _ _ _ _ _ _ w13
    refine .inr (.inr (.inr (.inr (.inl ⟨by rw [k1]; exact w1, by rw [n1 _ (by simp)]; exact w2, w3, j, p1, p2, p3, m1, m2, a1, a2, a3, a4, by rw [n1 _ (by simp)]; exact w4, by rw [k2 _ (by decide)]; exact w5, by rw [n1 _ (by simp)]; exact w6, by rw [n3 (by rw [w2]; decide)]; exact w7, by rw [n1 _ (by simp)]; exact w8, w9, w10, ?_, ?_, ?_, w14, K.2.2 16 _ _ _ _ _ _ (fun z => absurd z (by decide)) i3 i4 i1 i2 w15⟩))))
    · rw [k3 _ (by decide)]
      exact mw _ _ _ _ _ _ (by omega) (by omega) (by omega) (by omega) w11
    · rw [k3 _ (by decide)]
      exact mw _ _ _ _ _ _ (by omega) (by omega) (by omega) (by omega) w12
    · rw [k3 _ (by decide)]
      exact mw _ _ _ _ _ _ (by omega) (by omega) (by omega) (by omega) w13
  · obtain ⟨w1, w2, w3, j, jx, p1, p2, p3, m1, m2, a1, a2, a3, a4, a5, w4, w5, w6, w7, w8, w8', v1, v2, v3, v4, v5, v6, w9, w10, w11, w12, w12', w13, w14, w15⟩ := w
    have j1 := hW _ _ _ _ _ _ w11
    have j2 := hW _ _ _ _ _ _ w12
    have j3 := hW _ _ _ _ _ _ w13
    refine .inr (.inr (.inr (.inr (.inr (.inl ⟨by rw [k1]; exact w1, by rw [n1 _ (by simp)]; exact w2, w3, j, jx, p1, p2, p3, m1, m2, a1, a2, a3, a4, a5, by rw [n1 _ (by simp)]; exact w4, by rw [k2 _ (by decide)]; exact w5, by rw [n1 _ (by simp)]; exact w6, by rw [n3 (by rw [w2]; decide)]; exact w7, by rw [n1 _ (by simp)]; exact w8, by rw [n1 _ (by simp)]; exact w8', v1, v2, by rw [k3 _ (by decide)]; exact v3, by rw [k3 _ (by decide)]; exact wd_hs K.1 v3.1 v3.2 v4, by rw [k3 _ (by decide)]; exact v5, by rw [k3 _ (by decide)]; exact wd_hs K.1 v5.1 v5.2 v6, w9, w10, ?_, ?_, w12', ?_, w14, K.2.2 17 _ _ _ _ _ _ (fun z => absurd z (by decide)) i3 i4 i1 i2 w15⟩)))))
    · rw [k3 _ (by decide)]
      exact mw _ _ _ _ _ _ (by omega) (by omega) (by omega) (by omega) w11
    · rw [k3 _ (by decide)]
      exact mw _ _ _ _ _ _ (by omega) (by omega) (by omega) (by omega) w12
    · rw [k3 _ (by decide)]
      exact mw _ _ _ _ _ _ (by omega) (by omega) (by omega) (by omega) w13
  · exact .inr (.inr (.inr (.inr (.inr (.inr (.inl (X30_keep K hW mw i1 i2 i3 i4 w)))))))
  · exact .inr (.inr (.inr (.inr (.inr (.inr (.inr (X32_keep K hW mw i1 i2 i3 i4 w)))))))

theorem XR_keep : ∀ {k lo hi alo ahi a n : Nat}, XR G A S b h σ Ψ k lo hi alo ahi a n → kp lo hi alo ahi h h' σ τ Ψ Ψ' → XR G A S b h' τ Ψ' k lo hi alo ahi a n
  | 0, _, _, _, _, _, _, w, _ => w.elim
  | k + 1, lo, hi, alo, ahi, a, n, w, K => XB_keep K (XR_in k) (fun l1 l2 l3 l4 x y q1 q2 q3 q4 q5 => XR_keep q5 (kp_sub K q1 q2 q3 q4)) w
theorem kp_refl {lo hi alo ahi : Nat} : kp lo hi alo ahi h h σ σ Ψ Ψ := ⟨fun _ _ _ => ⟨rfl, fun _ _ => rfl, fun _ _ => rfl, rfl⟩, fun _ _ _ => ⟨fun _ _ => rfl, fun _ => rfl, fun _ => rfl⟩, fun _ _ _ _ _ _ _ _ _ _ _ _ w => w⟩
theorem XR_more : ∀ {k lo hi alo ahi a n : Nat}, XR G A S b h σ Ψ k lo hi alo ahi a n → XR G A S b h σ Ψ (k + 1) lo hi alo ahi a n
  | 0, _, _, _, _, _, _, w => w.elim
  | k + 1, lo, hi, alo, ahi, a, n, w => XB_keep kp_refl (XR_in k) (fun l1 l2 l3 l4 x y q1 q2 q3 q4 q5 => XR_more q5) w
theorem XR_le {k k' lo hi alo ahi a n : Nat} (hk : k ≤ k') (w : XR G A S b h σ Ψ k lo hi alo ahi a n) : XR G A S b h σ Ψ k' lo hi alo ahi a n := by
  obtain ⟨d, rfl⟩ := Nat.exists_eq_add_of_le hk
  clear hk
  induction d with
  | zero => exact w
  | succ d ih => exact XR_more ih
theorem atsR_wide {alo ahi alo' ahi' : Nat} (h1 : alo' ≤ alo) (h2 : ahi ≤ ahi') : ∀ {xs os : List Nat}, atsR S b h σ alo ahi xs os → atsR S b h σ alo' ahi' xs os
  | [], [], r => r
  | x :: xs, o :: os, ⟨c1, c2, d, r⟩ => ⟨by omega, by omega, d, atsR_wide h1 h2 r⟩
  | [], _ :: _, r => r.elim
  | _ :: _, [], r => r.elim
/-- a wider range of addresses -/
theorem XR_wide {k lo hi alo ahi alo' ahi' a n : Nat} (h1 : alo' ≤ alo) (h2 : ahi ≤ ahi') (w : XR G A S b h σ Ψ k lo hi alo ahi a n) : XR G A S b h σ Ψ k lo hi alo' ahi' a n := by
  cases k with
  | zero => exact w.elim
  | succ k =>
    obtain ⟨i1, i2, i3, i4, w⟩ := w
    refine ⟨i1, i2, by omega, by omega, ?_⟩
    rcases w with w | w | w | w | w | w | w | w
    · exact .inl w
    · obtain ⟨w1, w2, w3, w3', w3'', j, w4, w5, w6, w7, w8, w9⟩ := w
      exact .inr (.inl ⟨w1, w2, w3, w3', w3'', j, w4, w5, w6, ⟨by omega, by omega⟩, w8, w9⟩)
    · obtain ⟨w1, w2, w3, j, nb, mid, a1, a2, a3, w4, w5, w6, w7, w8, w9, w10, w11, w12, w13, w14, w15, w16, w17⟩ := w
      exact .inr (.inr (.inl ⟨w1, w2, w3, j, nb, mid, a1, a2, a3, w4, w5, w6, w7, ⟨by omega, by omega⟩, w9, w10, by omega, w12, w13, w14, w15, w16, by omega⟩))
    · obtain ⟨w1, w2, w3, j, n1', n2', m1, m2, a1, a2, a3, a4, w4, w5, w6, w7, w8, w9, w10, w10', w11, w12, w13, w14, w15, w16, w16', w17⟩ := w
      exact .inr (.inr (.inr (.inl ⟨w1, w2, w3, j, n1', n2', m1, m2, a1, a2, a3, a4, w4, w5, w6, w7, ⟨by omega, by omega⟩, w9, w10, w10', by omega, w12, w13, w14, w15, w16, w16', by omega⟩)))
    · obtain ⟨w1, w2, w3, j, p1, p2, p3, m1, m2, a1, a2, a3, a4, w4, w5, w6, w7, w8, w9, w10, w11, w12, w13, w14, w15⟩ := w
      exact .inr (.inr (.inr (.inr (.inl ⟨w1, w2, w3, j, p1, p2, p3, m1, m2, a1, a2, a3, a4, w4, w5, w6, w7, w8, by omega, w10, w11, w12, w13, by omega, w15⟩))))
    · obtain ⟨w1, w2, w3, j, jx, p1, p2, p3, m1, m2, a1, a2, a3, a4, a5, w4, w5, w6, w7, w8, w8', v1, v2, v3, v4, v5, v6, w9, w10, w11, w12, w12', w13, w14, w15⟩ := w
      exact .inr (.inr (.inr (.inr (.inr (.inl ⟨w1, w2, w3, j, jx, p1, p2, p3, m1, m2, a1, a2, a3, a4, a5, w4, w5, w6, w7, w8, w8', v1, v2, ⟨by omega, by omega⟩, v4, ⟨by omega, by omega⟩, v6, by omega, w10, w11, w12, w12', w13, by omega, w15⟩)))))
    · obtain ⟨w1, w2, w3, w4, nh, mid, a1, a2, a3, a4, xs, ys, w5, w7, w9, w10, w11, w12, w13, w15⟩ := w
      exact .inr (.inr (.inr (.inr (.inr (.inr (.inl ⟨w1, ⟨by omega, by omega⟩, w3, w4, nh, mid, a1, a2, a3, a4, xs, ys, w5, by omega, w9, w10, w11, by omega, w13, w15⟩))))))
    · obtain ⟨w1, w2, w3, w4, w5, w6, w7, j, nh, mid, a1, a2, a3, a4, w8, w9, w10, w11, w12, w13, w14, w15, w16⟩ := w
      exact .inr (.inr (.inr (.inr (.inr (.inr (.inr ⟨w1, ⟨by omega, by omega⟩, w3, ⟨by omega, by omega⟩, w5, w6, w7, j, nh, mid, a1, a2, a3, a4, w8, by omega, w10, w11, w12, by omega, w14, w15, w16⟩))))))
end LX2
/-! as they are just read -/
/-- the @s of a name: their types as they are read; none of them is at z -/
def atW (A : Nat) (S : List Int) (b : Nat) (h : om_H) (σ : tS) (z : Nat) : List Nat → List Nat → Nat → Nat → Nat → Nat → Prop
  | [], [], lo, hi, alo, ahi => lo = hi ∧ alo ≤ ahi
  | w :: ws, o :: os, lo, hi, alo, ahi => ∃ kk a1 a2 p : Nat, alo ≤ a1 ∧ (z < a1 ∨ a2 ≤ z) ∧ WR A S b h σ 59 lo o a1 a2 w p ∧ ga σ 546 o = (p : Int) ∧ atW A S b h σ z ws os (o + 1) hi a2 ahi
  | _, _, _, _, _, _ => False
def Psi0 (A : Nat) (S : List Int) (b : Nat) (h : om_H) (σ : tS) (tag lo hi alo ahi a n : Nat) : Prop := (tag ∈ [10, 11, 14, 15, 16, 17, 19, 30, 32] → fR h 1382 a = 0) ∧ (tag = 10 ∨ tag = 19 → fI h 1464 a = -1 ∧ fI h 1476 a = -1 ∧ fR h 1462 a = 0 ∧ fR h 1470 a = 0 ∧ fR h 1474 a = 0 ∧ fR h 1482 a = 0) ∧
  if tag = 19 then ∃ os, chain σ (ga σ 546 n) os ∧ fR h 1458 a < ahi ∧ alo ≤ fR h 1458 a ∧ atW A S b h σ (fR h 1458 a) (ll h (fR h 1458 a)) os lo hi alo ahi
  else if tag = 14 then ∃ kk p : Nat, ga σ 550 n = (p : Int) ∧ WR A S b h σ 59 lo hi alo ahi (fR h 1390 a) p
  else if tag = 15 then ∃ kk p : Nat, ga σ 550 n = (p : Int) ∧ WR A S b h σ 59 lo hi alo ahi (fR h 1406 a) p
  else if tag = 13 then ∃ kk p : Nat, ga σ 550 n = (p : Int) ∧ WR A S b h σ 59 lo hi alo ahi (fR h 1502 a) p
  else True
theorem Psi0_14 {A : Nat} {S : List Int} {b : Nat} {h : om_H} {σ : tS} {lo hi alo ahi a n p : Nat} (z : fR h 1382 a = 0) (e : ga σ 550 n = (p : Int)) (w : WR A S b h σ 59 lo hi alo ahi (fR h 1390 a) p) : Psi0 A S b h σ 14 lo hi alo ahi a n := ⟨fun _ => z, fun q => absurd q (by decide), by rw [if_neg (by decide), if_pos rfl]; exact ⟨0, p, e, w⟩⟩
theorem Psi0_15 {A : Nat} {S : List Int} {b : Nat} {h : om_H} {σ : tS} {lo hi alo ahi a n p : Nat} (z : fR h 1382 a = 0) (e : ga σ 550 n = (p : Int)) (w : WR A S b h σ 59 lo hi alo ahi (fR h 1406 a) p) : Psi0 A S b h σ 15 lo hi alo ahi a n := ⟨fun _ => z, fun q => absurd q (by decide), by rw [if_neg (by decide), if_neg (by decide), if_pos rfl]; exact ⟨0, p, e, w⟩⟩
theorem Psi0_13 {A : Nat} {S : List Int} {b : Nat} {h : om_H} {σ : tS} {lo hi alo ahi a n p : Nat} (e : ga σ 550 n = (p : Int)) (w : WR A S b h σ 59 lo hi alo ahi (fR h 1502 a) p) : Psi0 A S b h σ 13 lo hi alo ahi a n := ⟨fun q => absurd q (by decide), fun q => absurd q (by decide), by rw [if_neg (by decide), if_neg (by decide), if_neg (by decide), if_pos rfl]; exact ⟨0, p, e, w⟩⟩
theorem Psi0_z {A : Nat} {S : List Int} {b : Nat} {h : om_H} {σ : tS} {tag lo hi alo ahi a n : Nat} (z : fR h 1382 a = 0) (q : tag ∉ [10, 13, 14, 15, 19]) : Psi0 A S b h σ tag lo hi alo ahi a n := by
  simp only [List.mem_cons, List.not_mem_nil, or_false, not_or] at q
  exact ⟨fun _ => z, fun c => by omega, by rw [if_neg q.2.2.2.2, if_neg q.2.2.1, if_neg q.2.2.2.1, if_neg q.2.1]; trivial⟩
theorem Psi0_i {A : Nat} {S : List Int} {b : Nat} {h : om_H} {σ : tS} {tag lo hi alo ahi a n : Nat} (q : tag = 12 ∨ tag = 18) : Psi0 A S b h σ tag lo hi alo ahi a n := by
  rcases q with rfl | rfl
  · exact ⟨fun z => absurd z (by decide), fun c => absurd c (by decide), trivial⟩
  · exact ⟨fun z => absurd z (by decide), fun c => absurd c (by decide), trivial⟩
