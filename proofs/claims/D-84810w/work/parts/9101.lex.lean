set_option maxRecDepth 100000
/-! THE TOKENS OF A TEXT, plainly: bytes 0..255 -/
def u8 (x : Int) : Int := x % 256
def cSp (c : Int) : Bool := c == 32 || c == 10
def cSm (c : Int) : Bool := decide (97 ≤ c) && decide (c ≤ 122)
def cGr (c : Int) : Bool := decide (65 ≤ c) && decide (c ≤ 90)
def cDg (c : Int) : Bool := decide (48 ≤ c) && decide (c ≤ 57)
def cAl (c : Int) : Bool := cSm c || cGr c || cDg c
def cSg (c : Int) : Bool := [40, 41, 123, 125, 59, 58, 61, 46, 44, 92, 64, 126, 43, 45, 42, 60].contains c
def wordK (w : List Int) : Int := if w = [99, 108, 97, 115, 115] then 5 else if w = [105, 110, 115, 116, 97, 110, 99, 101] then 6 else if w = [116, 121, 112, 101] then 7 else if w = [102, 111, 114, 97, 108, 108] then 8 else if w = [105, 102] then 9 else if w = [116, 104, 101, 110] then 10 else if w = [101, 108, 115, 101] then 11 else if w = [108, 101, 116] then 12 else if w = [105, 110] then 13 else if w = [99, 97, 115, 101] then 14 else if w = [111, 102] then 15 else 2
/-- kind and length of the token that a text begins with (no space ahead) -/
def tk (L : List Int) : Int × Nat := match L with
  | [] => (0, 0)
  | c :: r =>
    if cSm c || cGr c then (if 10 < (L.takeWhile cAl).length then 1 else if cGr c then 3 else wordK (L.take (L.takeWhile cAl).length), (L.takeWhile cAl).length)
    else if cDg c then (if 6 < (L.takeWhile cDg).length || (1 < (L.takeWhile cDg).length && c == 48) then 1 else 4, (L.takeWhile cDg).length)
    else if c = 45 ∧ r.head? = some 62 then (16, 2)
    else if c = 61 ∧ r.head? = some 61 then (17, 2)
    else (if cSg c then c else 1, 1)
theorem u8_and : ∀ n : Nat, n < 256 → and32 ((n : Int) - 128) 255 = u8 ((n : Int) - 128) := by decide +kernel
theorem u8_eq {x : Int} (h0 : -128 ≤ x) (h1 : x ≤ 127) : and32 x 255 = u8 x := by
  have := u8_and (x + 128).toNat (by omega)
  rwa [show (((x + 128).toNat : Nat) : Int) - 128 = x by omega] at this
theorem u8_r (x : Int) : 0 ≤ u8 x ∧ u8 x ≤ 255 := by unfold u8; omega
