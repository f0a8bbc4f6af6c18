def fX12_value (a0 : Rf) (a1 : Rf) (a2 : Int32) (st : Mem) : Option (Int32 × Mem) :=
  (gA st a1 48).bind fun x1 =>
  (aI st x1 a2).bind fun x5 =>
  some (x5, st)
def fX13_value (a0 : Rf) (a1 : Rf) (a2 : Int32) (st : Mem) : Option (Int32 × Mem) :=
  (gA st a1 50).bind fun x1 =>
  (aI st x1 a2).bind fun x5 =>
  some (x5, st)
def fX18_init (a0 : Rf) (a1 : Int32) (st : Mem) : Option (Unit × Mem) :=
  nn a0 <|
  (pI st a0 150 a1).bind fun st =>
  some ((), st)
def fX18_seat (a0 : Rf) (st : Mem) : Option (Int32 × Mem) :=
  some ((-1 : Int32), st)
def fX19_does (a0 : Rf) (a1 : Rf) (st : Mem) : Option (Unit × Mem) :=
  (pI st a1 46 (1 : Int32)).bind fun st =>
  some ((), st)
def fX19_what (a0 : Rf) (st : Mem) : Option (Int32 × Mem) :=
  some ((3 : Int32), st)
def bX1_areLike_2B (kk2 : Rf → Int32 → Int32 → Int32 → Mem → Option (Int32 × Mem)) (v0 : Rf) (v1 : Int32) (v2 : Int32) (v3 : Int32) (st : Mem) : Option (Int32 × Mem) :=
  if (4 : Int32) ≤ v3 then
    some ((1 : Int32), st)
  else
    (gA st v0 10).bind fun x8 =>
    (aJ st x8 (((4 : Int32) * v1) + v3)).bind fun x16 =>
    (gA st v0 10).bind fun x18 =>
    (aJ st x18 (((4 : Int32) * v2) + v3)).bind fun x26 =>
    if x16 = x26 then
      kk2 v0 v1 v2 (v3 + 1) st
    else
      some ((0 : Int32), st)
def bX1_areLike_2 : Nat → Rf → Int32 → Int32 → Int32 → Mem → Option (Int32 × Mem)
  | 0 => fun _ _ _ _ _ => none
  | n + 1 => bX1_areLike_2B (bX1_areLike_2 n)
def fX1_areLike (a0 : Rf) (a1 : Int32) (a2 : Int32) (st : Mem) : Option (Int32 × Mem) :=
  bX1_areLike_2 hcFuel a0 a1 a2 (0 : Int32) st
def fX1_arranged (a0 : Rf) (st : Mem) : Option (Int32 × Mem) :=
  (gI st a0 23).bind fun x1 =>
  some (x1, st)
def fX1_beganAt (a0 : Rf) (a1 : Int32) (st : Mem) : Option (Int32 × Mem) :=
  if ¬ a1 = 0 then
    if ¬ a1 = (1 : Int32) then
      some ((-1 : Int32), st)
    else
      (gI st a0 21).bind fun x17 =>
      some (x17, st)
  else
    (gI st a0 20).bind fun x5 =>
    some (x5, st)
def fX1_bought (a0 : Rf) (st : Mem) : Option (Int32 × Mem) :=
  (gI st a0 12).bind fun x1 =>
  some (x1, st)
def fX1_byteAt (a0 : Rf) (a1 : Int32) (st : Mem) : Option (Int32 × Mem) :=
  (gA st a0 1).bind fun x1 =>
  (aB st x1 a1).bind fun x5 =>
  some ((x5 &&& (255 : Int32)), st)
def bX1_come_3B (kk3 : Rf → Int32 → Int32 → Mem → Option (Unit × Mem)) (v0 : Rf) (v1 : Int32) (v2 : Int32) (st : Mem) : Option (Unit × Mem) :=
  if v2 < 0 then
    some ((), st)
  else
    (gA st v0 1).bind fun x8 =>
    (gI st v0 2).bind fun x12 =>
    (uB st x8 x12 (i2bv (shrI v1 v2))).bind fun st =>
    (gI st v0 2).bind fun x22 =>
    (pI st v0 2 (x22 + (1 : Int32))).bind fun st =>
    kk3 v0 v1 (v2 + (-8)) st
def bX1_come_3 : Nat → Rf → Int32 → Int32 → Mem → Option (Unit × Mem)
  | 0 => fun _ _ _ _ => none
  | n + 1 => bX1_come_3B (bX1_come_3 n)
def fX1_come (a0 : Rf) (a1 : Int32) (st : Mem) : Option (Unit × Mem) :=
  bX1_come_3 hcFuel a0 a1 (24 : Int32) st
def fX1_draw (a0 : Rf) (a1 : Int32) (st : Mem) : Option (Int32 × Mem) :=
  (gI st a0 22).bind fun x2 =>
  (pI st a0 22 ((x2 * (1103515245 : Int32)) + (12345 : Int32))).bind fun st =>
  (gI st a0 22).bind fun x17 =>
  (rmI (ushrI x17 (8 : Int32)) a1).bind fun x24 =>
  some (x24, st)
def fX1_end (a0 : Rf) (a1 : Int32) (st : Mem) : Option (Int32 × Mem) :=
  if a1 < 0 then
    some ((0 : Int32), st)
  else
    (gI st a0 2).bind fun x6 =>
    if a1 ≤ x6 then
      (pI st a0 2 a1).bind fun st =>
      some ((1 : Int32), st)
    else
      some ((0 : Int32), st)
def bX1_factorial_4B (kk4 : Int32 → Int64 → Int32 → Mem → Option (Int64 × Mem)) (v0 : Int32) (v1 : Int64) (v3 : Int32) (st : Mem) : Option (Int64 × Mem) :=
  if v0 < v3 then
    some (v1, st)
  else
    (some (v1 * (Int32.toInt64 v3))).bind fun y13 =>
    kk4 v0 y13 (v3 + 1) st
def bX1_factorial_4 : Nat → Int32 → Int64 → Int32 → Mem → Option (Int64 × Mem)
  | 0 => fun _ _ _ _ => none
  | n + 1 => bX1_factorial_4B (bX1_factorial_4 n)
def fX1_factorial (a0 : Int32) (st : Mem) : Option (Int64 × Mem) :=
  bX1_factorial_4 hcFuel a0 (1 : Int64) (2 : Int32) st
def fX1_fault (a0 : Rf) (st : Mem) : Option (Int32 × Mem) :=
  (gI st a0 3).bind fun x1 =>
  some (x1, st)
def fX1_has (a0 : Int32) (a1 : Int32) (st : Mem) : Option (Int32 × Mem) :=
  if ¬ ((shrI a0 a1) &&& (1 : Int32)) = (1 : Int32) then
    some ((0 : Int32), st)
  else
    some ((1 : Int32), st)
def fX1_has_2 (a0 : Int64) (a2 : Int32) (st : Mem) : Option (Int32 × Mem) :=
  if ¬ ((shrL a0 a2) &&& (1 : Int64)) = (1 : Int64) then
    some ((0 : Int32), st)
  else
    some ((1 : Int32), st)
def bX1_isBare_22 (kk6 : Rf → Int32 → Int32 → Mem → Option (Int32 × Mem)) (v0 : Rf) (v1 : Int32) (v2 : Int32) (st : Mem) : Option (Int32 × Mem) :=
  if ¬ v2 = 0 then
    (some ((v2 - (1 : Int32)) &&& v1)).bind fun y33 =>
    kk6 v0 v1 y33 st
  else
    some ((1 : Int32), st)
def bX1_isBare_6B (kk6 : Rf → Int32 → Int32 → Mem → Option (Int32 × Mem)) (v0 : Rf) (v1 : Int32) (v2 : Int32) (st : Mem) : Option (Int32 × Mem) :=
  if v2 = v1 then
    bX1_isBare_22 kk6 v0 v1 v2 st
  else
    (gA st v0 13).bind fun x12 =>
    (aB st x12 v2).bind fun x16 =>
    if x16 = 0 then
      bX1_isBare_22 kk6 v0 v1 v2 st
    else
      some ((0 : Int32), st)
def bX1_isBare_6 : Nat → Rf → Int32 → Int32 → Mem → Option (Int32 × Mem)
  | 0 => fun _ _ _ _ => none
  | n + 1 => bX1_isBare_6B (bX1_isBare_6 n)
def fX1_isBare (a0 : Rf) (a1 : Int32) (st : Mem) : Option (Int32 × Mem) :=
  (some ((a1 - (1 : Int32)) &&& a1)).bind fun y5 =>
  bX1_isBare_6 hcFuel a0 a1 y5 st
def bX1_isIn_14 (st : Mem) : Option (Int32 × Mem) :=
  some ((0 : Int32), st)
def fX1_isIn (a0 : Int32) (a1 : Int32) (a2 : Int32) (st : Mem) : Option (Int32 × Mem) :=
  if a0 < a1 then
    bX1_isIn_14 st
  else
    if a2 < a0 then
      bX1_isIn_14 st
    else
      some ((1 : Int32), st)
def fX1_need (a0 : Int32) (st : Mem) : Option ((Unit ⊕ Nat) × Mem) :=
  if ¬ a0 = 0 then
    some (.inl (), st)
  else
    bd (nO st 21) fun x4 st =>
    (exi 21 st x4).bind fun st =>
    thr x4 st
def fX1_take (a0 : Rf) (st : Mem) : Option (Int32 × Mem) :=
  (gI st a0 2).bind fun x1 =>
  (pI st a0 2 (0 : Int32)).bind fun st =>
  some (x1, st)
def fX1_with (a0 : Int64) (a2 : Int32) (a3 : Int32) (st : Mem) : Option (Int64 × Mem) :=
  if ¬ a3 = (1 : Int32) then
    some ((a0 &&& ((shlL (1 : Int64) a2) ^^^ (-1 : Int64))), st)
  else
    some ((a0 ||| (shlL (1 : Int64) a2)), st)
def fX20_does (a0 : Rf) (a1 : Rf) (st : Mem) : Option (Unit × Mem) :=
  (gJ st a1 42).bind fun x2 =>
  (gI st a0 151).bind fun x7 =>
  (pJ st a1 42 (x2 &&& ((shlL (1 : Int64) x7) ^^^ (-1 : Int64)))).bind fun st =>
  (gJ st a1 43).bind fun x21 =>
  (gI st a0 151).bind fun x26 =>
  (pJ st a1 43 (x21 &&& ((shlL (1 : Int64) x26) ^^^ (-1 : Int64)))).bind fun st =>
  some ((), st)
def fX20_seat (a0 : Rf) (st : Mem) : Option (Int32 × Mem) :=
  (gI st a0 151).bind fun x1 =>
  some (x1, st)
def fX20_what (a0 : Rf) (st : Mem) : Option (Int32 × Mem) :=
  some ((2 : Int32), st)
def fX21_what (a0 : Rf) (st : Mem) : Option (Int32 × Mem) :=
  some ((0 : Int32), st)
def fX22_what (a0 : Rf) (st : Mem) : Option (Int32 × Mem) :=
  some ((1 : Int32), st)
def fX2_row (a0 : Rf) (a1 : Int32) (st : Mem) : Option (Int32 × Mem) :=
  (gI st a0 29).bind fun x2 =>
  (dvI a1 x2).bind fun x5 =>
  some (x5, st)
def fX2_size (a0 : Rf) (st : Mem) : Option (Int32 × Mem) :=
  (gI st a0 28).bind fun x1 =>
  (gI st a0 29).bind fun x5 =>
  some ((x1 * x5), st)
def fX2_swap (a0 : Rf) (a1 : Int32) (a2 : Int32) (st : Mem) : Option (Unit × Mem) :=
  (gA st a0 34).bind fun x1 =>
  (aI st x1 a1).bind fun x5 =>
  (gA st a0 34).bind fun x8 =>
  (gA st a0 34).bind fun x13 =>
  (aI st x13 a2).bind fun x17 =>
  (uI st x8 a1 x17).bind fun st =>
  (gA st a0 34).bind fun x20 =>
  (uI st x20 a2 x5).bind fun st =>
  some ((), st)
def fX3_asked (a0 : Rf) (st : Mem) : Option (Rf × Mem) :=
  (gA st a0 49).bind fun x1 =>
  (gA st a0 48).bind fun x6 =>
  (cpy st x1 (0 : Int32) x6 (0 : Int32) (64 : Int32)).bind fun st =>
  (gA st a0 51).bind fun x16 =>
  (gA st a0 50).bind fun x21 =>
  (cpy st x16 (0 : Int32) x21 (0 : Int32) (64 : Int32)).bind fun st =>
  (gA st a0 53).bind fun x31 =>
  (gA st a0 52).bind fun x36 =>
  (cpy st x31 (0 : Int32) x36 (0 : Int32) (3 : Int32)).bind fun st =>
  (pJ st a0 54 (0 : Int64)).bind fun st =>
  some (a0, st)
def fX3_init (a0 : Rf) (st : Mem) : Option (Unit × Mem) :=
  nn a0 <|
  bd (nA st 102 (64 : Int32)) fun x7 st =>
  (pA st a0 48 x7).bind fun st =>
  bd (nA st 102 (64 : Int32)) fun x15 st =>
  (pA st a0 49 x15).bind fun st =>
  bd (nA st 102 (64 : Int32)) fun x23 st =>
  (pA st a0 50 x23).bind fun st =>
  bd (nA st 102 (64 : Int32)) fun x31 st =>
  (pA st a0 51 x31).bind fun st =>
  bd (nA st 103 (3 : Int32)) fun x38 st =>
  (pA st a0 52 x38).bind fun st =>
  bd (nA st 103 (3 : Int32)) fun x45 st =>
  (pA st a0 53 x45).bind fun st =>
  some ((), st)
def fX5_byteAt (a0 : Rf) (a1 : Int32) (st : Mem) : Option (Int32 × Mem) :=
  (gI st a0 125).bind fun x2 =>
  if x2 ≤ a1 then
    some ((0 : Int32), st)
  else
    (gA st a0 124).bind fun x9 =>
    (aB st x9 a1).bind fun x13 =>
    some ((x13 &&& (255 : Int32)), st)
def fX5_init (a0 : Rf) (a1 : Rf) (a2 : Int32) (a3 : Int32) (st : Mem) : Option (Unit × Mem) :=
  nn a0 <|
  (pA st a0 132 (some 48 : Rf)).bind fun st =>
  (pA st a0 124 a1).bind fun st =>
  (pI st a0 125 a2).bind fun st =>
  (pI st a0 126 a3).bind fun st =>
  some ((), st)
def bX5_isDigit_16 (st : Mem) : Option (Int32 × Mem) :=
  some ((0 : Int32), st)
def fX5_isDigit (a0 : Int32) (st : Mem) : Option (Int32 × Mem) :=
  if a0 < (48 : Int32) then
    bX5_isDigit_16 st
  else
    if (57 : Int32) < a0 then
      bX5_isDigit_16 st
    else
      some ((1 : Int32), st)
def bX5_isLetter_16 (st : Mem) : Option (Int32 × Mem) :=
  some ((0 : Int32), st)
def fX5_isLetter (a0 : Int32) (st : Mem) : Option (Int32 × Mem) :=
  if a0 < (97 : Int32) then
    bX5_isLetter_16 st
  else
    if (122 : Int32) < a0 then
      bX5_isLetter_16 st
    else
      some ((1 : Int32), st)
def bX5_isSign_20 (st : Mem) : Option (Int32 × Mem) :=
  some ((0 : Int32), st)
def fX5_isSign (a0 : Rf) (a1 : Int32) (st : Mem) : Option (Int32 × Mem) :=
  (gI st a0 128).bind fun x1 =>
  if ¬ x1 = (4 : Int32) then
    bX5_isSign_20 st
  else
    (gI st a0 131).bind fun x9 =>
    if ¬ x9 = a1 then
      bX5_isSign_20 st
    else
      some ((1 : Int32), st)
def fX7_init (a0 : Rf) (a1 : Int32) (a2 : Int32) (st : Mem) : Option (Unit × Mem) :=
  (exi 6 st a0).bind fun st =>
  (pI st a0 139 a1).bind fun st =>
  (pI st a0 140 a2).bind fun st =>
  some ((), st)
def fX8_init (a0 : Rf) (st : Mem) : Option (Unit × Mem) :=
  nn a0 <|
  some ((), st)
def bX15_holds_28 (rc : Rf → Rf → Int32 → Mem → Option (Int32 × Mem)) (st : Mem) : Option (Int32 × Mem) :=
  some ((0 : Int32), st)
def fX15_holds (rc : Rf → Rf → Int32 → Mem → Option (Int32 × Mem)) (a0 : Rf) (a1 : Rf) (a2 : Int32) (st : Mem) : Option (Int32 × Mem) :=
  (gA st a0 146).bind fun x1 =>
  bd (rc x1 a1 a2 st) fun x6 st =>
  if x6 = 0 then
    bX15_holds_28 rc st
  else
    (gA st a0 147).bind fun x13 =>
    bd (rc x13 a1 a2 st) fun x18 st =>
    if x18 = 0 then
      bX15_holds_28 rc st
    else
      some ((1 : Int32), st)
def bX16_holds_24 (rc : Rf → Rf → Int32 → Mem → Option (Int32 × Mem)) (st : Mem) : Option (Int32 × Mem) :=
  some ((1 : Int32), st)
def fX16_holds (rc : Rf → Rf → Int32 → Mem → Option (Int32 × Mem)) (a0 : Rf) (a1 : Rf) (a2 : Int32) (st : Mem) : Option (Int32 × Mem) :=
  (gA st a0 146).bind fun x1 =>
  bd (rc x1 a1 a2 st) fun x6 st =>
  if ¬ x6 = 0 then
    bX16_holds_24 rc st
  else
    (gA st a0 147).bind fun x13 =>
    bd (rc x13 a1 a2 st) fun x18 st =>
    if x18 = 0 then
      some ((0 : Int32), st)
    else
      bX16_holds_24 rc st
def fX9_holds (rc : Rf → Rf → Int32 → Mem → Option (Int32 × Mem)) (a0 : Rf) (a1 : Rf) (a2 : Int32) (st : Mem) : Option (Int32 × Mem) :=
  (gA st a0 141).bind fun x1 =>
  bd (rc x1 a1 a2 st) fun x6 st =>
  if ¬ x6 = 0 then
    some ((0 : Int32), st)
  else
    some ((1 : Int32), st)
def fX10_init (a0 : Rf) (a1 : Int32) (a2 : Int32) (st : Mem) : Option (Unit × Mem) :=
  bd (nn a0 (fX8_init a0 st)) fun _ st =>
  (pI st a0 142 a1).bind fun st =>
  (pI st a0 143 a2).bind fun st =>
  some ((), st)
def fX14_init (a0 : Rf) (a1 : Rf) (a2 : Rf) (st : Mem) : Option (Unit × Mem) :=
  bd (nn a0 (fX8_init a0 st)) fun _ st =>
  (pA st a0 146 a1).bind fun st =>
  (pA st a0 147 a2).bind fun st =>
  some ((), st)
def fX19_init (a0 : Rf) (a1 : Int32) (st : Mem) : Option (Unit × Mem) :=
  bd (nn a0 (fX18_init a0 a1 st)) fun _ st =>
  some ((), st)
def fX1_feed (a0 : Rf) (a1 : Int32) (a2 : Int32) (a3 : Int32) (a4 : Int32) (a5 : Int32) (st : Mem) : Option (Int32 × Mem) :=
  (gI st a0 2).bind fun x1 =>
  if (x1 + (20 : Int32)) ≤ (940 : Int32) then
    bd (iv st a0 [1] (fX1_come a0 a1 st)) fun _ st =>
    bd (iv st a0 [1] (fX1_come a0 a2 st)) fun _ st =>
    bd (iv st a0 [1] (fX1_come a0 a3 st)) fun _ st =>
    bd (iv st a0 [1] (fX1_come a0 a4 st)) fun _ st =>
    bd (iv st a0 [1] (fX1_come a0 a5 st)) fun _ st =>
    (gI st a0 2).bind fun x43 =>
    some (x43, st)
  else
    some ((-1 : Int32), st)
def bX1_handsOf_33 (kk5 : Rf → Int32 → Int64 → Int32 → Mem → Option (Int64 × Mem)) (v0 : Rf) (v1 : Int32) (v2 : Int64) (v4 : Int32) (st : Mem) : Option (Int64 × Mem) :=
  kk5 v0 v1 v2 (v4 + 1) st
def bX1_handsOf_5B (kk5 : Rf → Int32 → Int64 → Int32 → Mem → Option (Int64 × Mem)) (v0 : Rf) (v1 : Int32) (v2 : Int64) (v4 : Int32) (st : Mem) : Option (Int64 × Mem) :=
  if (8 : Int32) ≤ v4 then
    some (v2, st)
  else
    bd (fX1_has v1 v4 st) fun x15 st =>
    if x15 = 0 then
      bX1_handsOf_33 kk5 v0 v1 v2 v4 st
    else
      (gA st v0 11).bind fun x24 =>
      (aI st x24 v4).bind fun x29 =>
      (some (v2 ||| (shlL (1 : Int64) x29))).bind fun y32 =>
      bX1_handsOf_33 kk5 v0 v1 y32 v4 st
def bX1_handsOf_5 : Nat → Rf → Int32 → Int64 → Int32 → Mem → Option (Int64 × Mem)
  | 0 => fun _ _ _ _ _ => none
  | n + 1 => bX1_handsOf_5B (bX1_handsOf_5 n)
def fX1_handsOf (a0 : Rf) (a1 : Int32) (st : Mem) : Option (Int64 × Mem) :=
  bX1_handsOf_5 hcFuel a0 a1 (0 : Int64) (0 : Int32) st
def bX1_isLikeSketch_52 (kk2 : Rf → Rf → Int32 → Mem → Option (Int32 × Mem)) (v0 : Rf) (v1 : Rf) (v2 : Int32) (st : Mem) : Option (Int32 × Mem) :=
  kk2 v0 v1 (v2 + 1) st
def bX1_isLikeSketch_2B (kk2 : Rf → Rf → Int32 → Mem → Option (Int32 × Mem)) (v0 : Rf) (v1 : Rf) (v2 : Int32) (st : Mem) : Option (Int32 × Mem) :=
  (gA st v0 4).bind fun x4 =>
  bd (iv st x4 [2] (fX2_size x4 st)) fun x7 st =>
  if x7 ≤ v2 then
    some ((1 : Int32), st)
  else
    (gA st v0 4).bind fun x14 =>
    (gA st x14 34).bind fun x17 =>
    (aI st x17 v2).bind fun x21 =>
    if x21 = (9 : Int32) then
      bX1_isLikeSketch_52 kk2 v0 v1 v2 st
    else
      bd (iv st v0 [1] (fX1_byteAt v0 v2 st)) fun x29 st =>
      if x29 = (3 : Int32) then
        bX1_isLikeSketch_52 kk2 v0 v1 v2 st
      else
        bd (iv st v0 [1] (fX1_byteAt v0 v2 st)) fun x38 st =>
        (gA st v1 49).bind fun x42 =>
        (aI st x42 v2).bind fun x46 =>
        if x38 = x46 then
          bX1_isLikeSketch_52 kk2 v0 v1 v2 st
        else
          some ((0 : Int32), st)
def bX1_isLikeSketch_2 : Nat → Rf → Rf → Int32 → Mem → Option (Int32 × Mem)
  | 0 => fun _ _ _ _ => none
  | n + 1 => bX1_isLikeSketch_2B (bX1_isLikeSketch_2 n)
def fX1_isLikeSketch (a0 : Rf) (a1 : Rf) (st : Mem) : Option (Int32 × Mem) :=
  bX1_isLikeSketch_2 hcFuel a0 a1 (0 : Int32) st
def fX1_isMoment (a0 : Int32) (st : Mem) : Option (Int32 × Mem) :=
  bd (fX1_isIn a0 (0 : Int32) (600 : Int32) st) fun x5 st =>
  some ((nz x5), st)
def bX1_law_45 (v0 : Rf) (v1 : Int32) (v2 : Int32) (k0 : Rf) (st : Mem) : Option (Int32 × Mem) :=
  if ¬ k0 = none then
    (gA st v0 4).bind fun x55 =>
    (gA st x55 39).bind fun x58 =>
    (aI st x58 (((6 : Int32) * v2) + v1)).bind fun x67 =>
    some (x67, st)
  else
    some ((-1 : Int32), st)
def fX1_law (a0 : Rf) (a1 : Int32) (a2 : Int32) (st : Mem) : Option (Int32 × Mem) :=
  bd (fX1_isIn a1 (0 : Int32) (5 : Int32) st) fun x3 st =>
  if x3 = 0 then
    some ((-1 : Int32), st)
  else
    bd (fX1_isIn a2 (0 : Int32) (1 : Int32) st) fun x12 st =>
    if ¬ x12 = 0 then
      if ¬ a2 = 0 then
        (gA st a0 4).bind fun x37 =>
        (gA st x37 38).bind fun x40 =>
        (aA st x40 a1).bind fun x44 =>
        bX1_law_45 a0 a1 a2 x44 st
      else
        (gA st a0 4).bind fun x25 =>
        (gA st x25 37).bind fun x28 =>
        (aA st x28 a1).bind fun x32 =>
        bX1_law_45 a0 a1 a2 x32 st
    else
      some ((-1 : Int32), st)
def bX1_priceOf_42 (kk4 : Rf → Int32 → Int32 → Int32 → Mem → Option (Int32 × Mem)) (v0 : Rf) (v1 : Int32) (v2 : Int32) (v3 : Int32) (st : Mem) : Option (Int32 × Mem) :=
  kk4 v0 v1 v2 (v3 + 1) st
def bX1_priceOf_4B (kk4 : Rf → Int32 → Int32 → Int32 → Mem → Option (Int32 × Mem)) (v0 : Rf) (v1 : Int32) (v2 : Int32) (v3 : Int32) (st : Mem) : Option (Int32 × Mem) :=
  if (8 : Int32) ≤ v3 then
    some (v2, st)
  else
    bd (fX1_has v1 v3 st) fun x12 st =>
    if x12 = 0 then
      bX1_priceOf_42 kk4 v0 v1 v2 v3 st
    else
      (gA st v0 4).bind fun x20 =>
      (gA st x20 35).bind fun x23 =>
      (gA st v0 4).bind fun x27 =>
      (gA st v0 11).bind fun x31 =>
      (aI st x31 v3).bind fun x35 =>
      bd (iv st x27 [2] (fX2_row x27 x35 st)) fun x36 st =>
      (aI st x23 x36).bind fun x39 =>
      bX1_priceOf_42 kk4 v0 v1 (v2 + x39) v3 st
def bX1_priceOf_4 : Nat → Rf → Int32 → Int32 → Int32 → Mem → Option (Int32 × Mem)
  | 0 => fun _ _ _ _ _ => none
  | n + 1 => bX1_priceOf_4B (bX1_priceOf_4 n)
def fX1_priceOf (a0 : Rf) (a1 : Int32) (st : Mem) : Option (Int32 × Mem) :=
  bX1_priceOf_4 hcFuel a0 a1 (0 : Int32) (0 : Int32) st
def fX1_side (a0 : Rf) (a1 : Int32) (st : Mem) : Option (Int32 × Mem) :=
  bd (fX1_isIn a1 (0 : Int32) (2 : Int32) st) fun x3 st =>
  if x3 = 0 then
    some ((-1 : Int32), st)
  else
    (gA st a0 19).bind fun x10 =>
    (aI st x10 a1).bind fun x14 =>
    some (x14, st)
def bX1_worthOf_87 (v3 : Int64) (k0 : Int64) (st : Mem) : Option ((Int32 ⊕ Nat) × Mem) :=
  (dvL k0 v3).bind fun x88 =>
  some (.inl (Int64.toInt32 x88), st)
def bX1_worthOf_47B (kk47 : Rf → Int32 → Int32 → Int64 → Int64 → Mem → Option ((Int32 ⊕ Nat) × Mem)) (v0 : Rf) (v1 : Int32) (v2 : Int32) (v3 : Int64) (v5 : Int64) (st : Mem) : Option ((Int32 ⊕ Nat) × Mem) :=
  if v5 ≤ (0 : Int64) then
    if ¬ v2 = 0 then
      (gJ st v0 17).bind fun x84 =>
      bX1_worthOf_87 v3 x84 st
    else
      (gA st v0 15).bind fun x75 =>
      (aJ st x75 v1).bind fun x79 =>
      bX1_worthOf_87 v3 x79 st
  else
    (rmL v3 v5).bind fun x57 =>
    kk47 v0 v1 v2 v5 x57 st
def bX1_worthOf_47 : Nat → Rf → Int32 → Int32 → Int64 → Int64 → Mem → Option ((Int32 ⊕ Nat) × Mem)
  | 0 => fun _ _ _ _ _ _ => none
  | n + 1 => bX1_worthOf_47B (bX1_worthOf_47 n)
def bX1_worthOf_28 (v0 : Rf) (v1 : Int32) (v2 : Int32) (k0 : Int32) (st : Mem) : Option ((Int32 ⊕ Nat) × Mem) :=
  bt (fX1_need k0 st) fun _ st =>
  (gJ st v0 17).bind fun x32 =>
  (gA st v0 15).bind fun x37 =>
  (aJ st x37 v1).bind fun x41 =>
  bX1_worthOf_47 hcFuel v0 v1 v2 x32 (mabsL x41) st
def bX1_worthOf_27 (v0 : Rf) (v1 : Int32) (v2 : Int32) (st : Mem) : Option ((Int32 ⊕ Nat) × Mem) :=
  bX1_worthOf_28 v0 v1 v2 (0 : Int32) st
def fX1_worthOf (a0 : Rf) (a1 : Int32) (a2 : Int32) (st : Mem) : Option ((Int32 ⊕ Nat) × Mem) :=
  (gI st a0 16).bind fun x3 =>
  bd (fX1_isIn a1 (0 : Int32) (x3 - (1 : Int32)) st) fun x8 st =>
  if x8 = 0 then
    bX1_worthOf_27 a0 a1 a2 st
  else
    bd (fX1_isIn a2 (0 : Int32) (1 : Int32) st) fun x17 st =>
    if x17 = 0 then
      bX1_worthOf_27 a0 a1 a2 st
    else
      bX1_worthOf_28 a0 a1 a2 (1 : Int32) st
def fX20_init (a0 : Rf) (a1 : Int32) (a2 : Int32) (st : Mem) : Option (Unit × Mem) :=
  bd (nn a0 (fX18_init a0 a1 st)) fun _ st =>
  (pI st a0 151 a2).bind fun st =>
  some ((), st)
def fX21_does (a0 : Rf) (a1 : Rf) (st : Mem) : Option (Unit × Mem) :=
  bd (iv st a0 [16] (fX20_does a0 a1 st)) fun _ st =>
  (gJ st a1 42).bind fun x7 =>
  bd (iv st a0 [16] (fX20_seat a0 st)) fun x12 st =>
  (pJ st a1 42 (x7 ||| (shlL (1 : Int64) x12))).bind fun st =>
  some ((), st)
def fX22_does (a0 : Rf) (a1 : Rf) (st : Mem) : Option (Unit × Mem) :=
  bd (iv st a0 [17] (fX20_does a0 a1 st)) fun _ st =>
  (gJ st a1 43).bind fun x7 =>
  bd (iv st a0 [17] (fX20_seat a0 st)) fun x12 st =>
  (pJ st a1 43 (x7 ||| (shlL (1 : Int64) x12))).bind fun st =>
  some ((), st)
def fX2_init (a0 : Rf) (st : Mem) : Option (Unit × Mem) :=
  nn a0 <|
  (pI st a0 30 (1 : Int32)).bind fun st =>
  (pI st a0 31 (600 : Int32)).bind fun st =>
  bd (nA st 102 (64 : Int32)) fun x19 st =>
  (pA st a0 34 x19).bind fun st =>
  bd (nA st 102 (8 : Int32)) fun x27 st =>
  (pA st a0 35 x27).bind fun st =>
  bd (nA st 102 (8 : Int32)) fun x35 st =>
  (pA st a0 36 x35).bind fun st =>
  bd (nA st 105 (6 : Int32)) fun x43 st =>
  (pA st a0 37 x43).bind fun st =>
  bd (nA st 105 (6 : Int32)) fun x52 st =>
  (pA st a0 38 x52).bind fun st =>
  bd (nA st 102 (12 : Int32)) fun x61 st =>
  (pA st a0 39 x61).bind fun st =>
  bd (nAA st (6 : Int32) (64 : Int32)) fun x71 st =>
  (pA st a0 40 x71).bind fun st =>
  (gA st a0 35).bind fun x79 =>
  bd (fJ0_fill x79 (10 : Int32) st) fun _ st =>
  (gA st a0 36).bind fun x88 =>
  bd (fJ0_fill x88 (-1 : Int32) st) fun _ st =>
  some ((), st)
def bX2_isSeat_29 (st : Mem) : Option (Int32 × Mem) :=
  some ((0 : Int32), st)
def fX2_isSeat (a0 : Rf) (a1 : Int32) (st : Mem) : Option (Int32 × Mem) :=
  bd (iv st a0 [2] (fX2_size a0 st)) fun x3 st =>
  bd (fX1_isIn a1 (0 : Int32) (x3 - (1 : Int32)) st) fun x8 st =>
  if x8 = 0 then
    bX2_isSeat_29 st
  else
    (gA st a0 34).bind fun x15 =>
    (aI st x15 a1).bind fun x19 =>
    if x19 = (9 : Int32) then
      bX2_isSeat_29 st
    else
      some ((1 : Int32), st)
def bX2_seats_26 (kk4 : Rf → Int32 → Int32 → Mem → Option (Int32 × Mem)) (v0 : Rf) (v1 : Int32) (v2 : Int32) (st : Mem) : Option (Int32 × Mem) :=
  kk4 v0 v1 (v2 + 1) st
def bX2_seats_4B (kk4 : Rf → Int32 → Int32 → Mem → Option (Int32 × Mem)) (v0 : Rf) (v1 : Int32) (v2 : Int32) (st : Mem) : Option (Int32 × Mem) :=
  bd (iv st v0 [2] (fX2_size v0 st)) fun x6 st =>
  if x6 ≤ v2 then
    some (v1, st)
  else
    (gA st v0 34).bind fun x13 =>
    (aI st x13 v2).bind fun x17 =>
    if x17 = (9 : Int32) then
      bX2_seats_26 kk4 v0 v1 v2 st
    else
      bX2_seats_26 kk4 v0 (v1 + 1) v2 st
def bX2_seats_4 : Nat → Rf → Int32 → Int32 → Mem → Option (Int32 × Mem)
  | 0 => fun _ _ _ _ => none
  | n + 1 => bX2_seats_4B (bX2_seats_4 n)
def fX2_seats (a0 : Rf) (st : Mem) : Option (Int32 × Mem) :=
  bX2_seats_4 hcFuel a0 (0 : Int32) (0 : Int32) st
def fX2_see (a0 : Rf) (a1 : Int32) (a2 : Int32) (a3 : Int32) (a4 : Int32) (st : Mem) : Option (Unit × Mem) :=
  (gI st a0 28).bind fun x3 =>
  bd (fX1_isIn a3 (0 : Int32) (x3 - (1 : Int32)) st) fun x8 st =>
  if x8 = 0 then
    some ((), st)
  else
    (gI st a0 29).bind fun x18 =>
    bd (fX1_isIn a4 (0 : Int32) (x18 - (1 : Int32)) st) fun x23 st =>
    if x23 = 0 then
      some ((), st)
    else
      (gA st a0 34).bind fun x30 =>
      (gI st a0 29).bind fun x34 =>
      (aI st x30 ((x34 * a3) + a4)).bind fun x42 =>
      if ¬ x42 = (9 : Int32) then
        (gA st a0 40).bind fun x50 =>
        (aA st x50 a1).bind fun x54 =>
        (aJ st x54 a2).bind fun x57 =>
        (gI st a0 29).bind fun x60 =>
        (uJ st x54 a2 (x57 ||| (shlL (1 : Int64) ((x60 * a3) + a4)))).bind fun st =>
        some ((), st)
      else
        some ((), st)
def bX3_count_49 (kk2 : Rf → Int32 → Mem → Option (Unit × Mem)) (kk16 : Rf → Int32 → Int32 → Mem → Option (Unit × Mem)) (v0 : Rf) (v1 : Int32) (v2 : Int32) (st : Mem) : Option (Unit × Mem) :=
  kk16 v0 v1 (v2 + 1) st
def bX3_count_16B (kk2 : Rf → Int32 → Mem → Option (Unit × Mem)) (kk16 : Rf → Int32 → Int32 → Mem → Option (Unit × Mem)) (v0 : Rf) (v1 : Int32) (v2 : Int32) (st : Mem) : Option (Unit × Mem) :=
  (gA st v0 41).bind fun x18 =>
  bd (iv st x18 [2] (fX2_size x18 st)) fun x21 st =>
  if x21 ≤ v2 then
    kk2 v0 (v1 + 1) st
  else
    (gA st v0 49).bind fun x28 =>
    (aI st x28 v2).bind fun x32 =>
    if x32 < v1 then
      bX3_count_49 kk2 kk16 v0 v1 v2 st
    else
      (gA st v0 53).bind fun x38 =>
      (aJ st x38 v1).bind fun x43 =>
      (uJ st x38 v1 (x43 ||| (shlL (1 : Int64) v2))).bind fun st =>
      bX3_count_49 kk2 kk16 v0 v1 v2 st
def bX3_count_16 (kk2 : Rf → Int32 → Mem → Option (Unit × Mem)) : Nat → Rf → Int32 → Int32 → Mem → Option (Unit × Mem)
  | 0 => fun _ _ _ _ => none
  | n + 1 => bX3_count_16B kk2 (bX3_count_16 kk2 n)
def bX3_count_2B (kk2 : Rf → Int32 → Mem → Option (Unit × Mem)) (v0 : Rf) (v1 : Int32) (st : Mem) : Option (Unit × Mem) :=
  if (2 : Int32) < v1 then
    some ((), st)
  else
    (gA st v0 53).bind fun x8 =>
    (uJ st x8 v1 (0 : Int64)).bind fun st =>
    bX3_count_16 kk2 hcFuel v0 v1 (0 : Int32) st
def bX3_count_2 : Nat → Rf → Int32 → Mem → Option (Unit × Mem)
  | 0 => fun _ _ _ => none
  | n + 1 => bX3_count_2B (bX3_count_2 n)
def fX3_count (a0 : Rf) (st : Mem) : Option (Unit × Mem) :=
  bX3_count_2 hcFuel a0 (1 : Int32) st
def bX3_forced_86 (v0 : Rf) (st : Mem) : Option (Int32 × Mem) :=
  (gI st v0 46).bind fun x87 =>
  if x87 = 0 then
    some ((-1 : Int32), st)
  else
    some ((0 : Int32), st)
def bX3_forced_44 (v0 : Rf) (v1 : Int32) (st : Mem) : Option (Int32 × Mem) :=
  (gJ st v0 43).bind fun x45 =>
  bd (fX1_has_2 x45 v1 st) fun x49 st =>
  if x49 = 0 then
    (gJ st v0 42).bind fun x58 =>
    bd (fX1_has_2 x58 v1 st) fun x62 st =>
    if x62 = 0 then
      bX3_forced_86 v0 st
    else
      (gI st v0 44).bind fun x69 =>
      (gA st v0 41).bind fun x73 =>
      (gI st x73 31).bind fun x76 =>
      if x76 < x69 then
        bX3_forced_86 v0 st
      else
        some ((2 : Int32), st)
  else
    some ((0 : Int32), st)
def fX3_forced (a0 : Rf) (a1 : Int32) (st : Mem) : Option (Int32 × Mem) :=
  (gA st a0 41).bind fun x1 =>
  (gA st x1 36).bind fun x4 =>
  (gA st a0 41).bind fun x8 =>
  bd (iv st x8 [2] (fX2_row x8 a1 st)) fun x12 st =>
  (aI st x4 x12).bind fun x15 =>
  (gA st a0 41).bind fun x18 =>
  (gA st x18 34).bind fun x21 =>
  (aI st x21 a1).bind fun x25 =>
  if x25 = (9 : Int32) then
    some ((0 : Int32), st)
  else
    if x15 = (-1 : Int32) then
      bX3_forced_44 a0 a1 st
    else
      (gI st a0 44).bind fun x37 =>
      if x15 ≤ x37 then
        some ((0 : Int32), st)
      else
        bX3_forced_44 a0 a1 st
def bX3_pack_90 (kk26 : Rf → Rf → Int32 → Mem → Option (Unit × Mem)) (v0 : Rf) (v1 : Rf) (v2 : Int32) (st : Mem) : Option (Unit × Mem) :=
  kk26 v0 v1 (v2 + 1) st
def bX3_pack_26B (kk26 : Rf → Rf → Int32 → Mem → Option (Unit × Mem)) (v0 : Rf) (v1 : Rf) (v2 : Int32) (st : Mem) : Option (Unit × Mem) :=
  (gA st v0 41).bind fun x28 =>
  bd (iv st x28 [2] (fX2_size x28 st)) fun x31 st =>
  if x31 ≤ v2 then
    some ((), st)
  else
    (gA st v0 41).bind fun x38 =>
    (gA st x38 34).bind fun x41 =>
    (aI st x41 v2).bind fun x45 =>
    if x45 = (9 : Int32) then
      bX3_pack_90 kk26 v0 v1 v2 st
    else
      (gI st v0 44).bind fun x54 =>
      (dvI v2 (16 : Int32)).bind fun x61 =>
      (aJ st v1 (((4 : Int32) * x54) + x61)).bind fun x64 =>
      (gA st v0 49).bind fun x67 =>
      (aI st x67 v2).bind fun x71 =>
      (gA st v0 51).bind fun x74 =>
      (aI st x74 v2).bind fun x78 =>
      (rmI v2 (16 : Int32)).bind fun x85 =>
      (uJ st v1 (((4 : Int32) * x54) + x61) (x64 ||| (shlL (Int32.toInt64 (((4 : Int32) * x71) + x78)) ((4 : Int32) * x85)))).bind fun st =>
      bX3_pack_90 kk26 v0 v1 v2 st
def bX3_pack_26 : Nat → Rf → Rf → Int32 → Mem → Option (Unit × Mem)
  | 0 => fun _ _ _ _ => none
  | n + 1 => bX3_pack_26B (bX3_pack_26 n)
def bX3_pack_2B (kk2 : Rf → Rf → Int32 → Mem → Option (Unit × Mem)) (v0 : Rf) (v1 : Rf) (v2 : Int32) (st : Mem) : Option (Unit × Mem) :=
  if (4 : Int32) ≤ v2 then
    bX3_pack_26 hcFuel v0 v1 (0 : Int32) st
  else
    (gI st v0 44).bind fun x10 =>
    (uJ st v1 (((4 : Int32) * x10) + v2) (0 : Int64)).bind fun st =>
    kk2 v0 v1 (v2 + 1) st
def bX3_pack_2 : Nat → Rf → Rf → Int32 → Mem → Option (Unit × Mem)
  | 0 => fun _ _ _ _ => none
  | n + 1 => bX3_pack_2B (bX3_pack_2 n)
def fX3_pack (a0 : Rf) (a1 : Rf) (st : Mem) : Option (Unit × Mem) :=
  bX3_pack_2 hcFuel a0 a1 (0 : Int32) st
def fX3_perceives (a0 : Rf) (a1 : Int32) (a2 : Int32) (a3 : Int32) (st : Mem) : Option (Int32 × Mem) :=
  (gA st a0 41).bind fun x1 =>
  (gA st x1 40).bind fun x4 =>
  (aA st x4 a2).bind fun x8 =>
  (aJ st x8 a1).bind fun x10 =>
  (gA st a0 52).bind fun x12 =>
  (aJ st x12 a3).bind fun x16 =>
  (gJ st a0 54).bind fun x18 =>
  (gA st a0 53).bind fun x27 =>
  (aJ st x27 a3).bind fun x31 =>
  (gJ st a0 54).bind fun x33 =>
  bd (fJ18_bitCount (x10 &&& ((x16 &&& (x18 ^^^ (-1 : Int64))) ||| (x31 &&& x33))) st) fun x39 st =>
  some (x39, st)
def bX5_need_29 (v0 : Rf) (k0 : Rf) (k1 : Rf) (k2 : Int32) (st : Mem) : Option ((Unit ⊕ Nat) × Mem) :=
  (gI st v0 129).bind fun x30 =>
  bd (nn k1 (fX7_init k1 k2 x30 st)) fun _ st =>
  thr k0 st
def bX5_need_24 (v0 : Rf) (k0 : Rf) (k1 : Rf) (st : Mem) : Option ((Unit ⊕ Nat) × Mem) :=
  bX5_need_29 v0 k0 k1 (1 : Int32) st
def fX5_need (a0 : Rf) (a1 : Int32) (a2 : Int32) (st : Mem) : Option ((Unit ⊕ Nat) × Mem) :=
  if ¬ a1 = 0 then
    some (.inl (), st)
  else
    bd (nO st 6) fun x4 st =>
    (gI st a0 128).bind fun x9 =>
    if x9 = (1 : Int32) then
      bX5_need_24 a0 x4 x4 st
    else
      (gI st a0 128).bind fun x17 =>
      if ¬ x17 = (5 : Int32) then
        bX5_need_29 a0 x4 x4 a2 st
      else
        bX5_need_24 a0 x4 x4 st
def fX9_init (a0 : Rf) (a1 : Rf) (st : Mem) : Option (Unit × Mem) :=
  bd (nn a0 (fX8_init a0 st)) fun _ st =>
  (pA st a0 141 a1).bind fun st =>
  some ((), st)
def vX18_seat (a0 : Rf) (st : Mem) : Option (Int32 × Mem) :=
  if [14].contains (tg st a0) = true then iv st a0 [14] (fX18_seat a0 st)
  else if [15, 16, 17].contains (tg st a0) = true then iv st a0 [15, 16, 17] (fX20_seat a0 st)
  else none
def vX18_what (a0 : Rf) (st : Mem) : Option (Int32 × Mem) :=
  if [15].contains (tg st a0) = true then iv st a0 [15] (fX20_what a0 st)
  else if [17].contains (tg st a0) = true then iv st a0 [17] (fX22_what a0 st)
  else if [16].contains (tg st a0) = true then iv st a0 [16] (fX21_what a0 st)
  else if [14].contains (tg st a0) = true then iv st a0 [14] (fX19_what a0 st)
  else none
def bX0_worthOf_13 (k0 : Rf) (st : Mem) : Option (Int32 × Mem) :=
  some ((1 : Int32), st)
def fX0_worthOf (a0 : Rf) (a1 : Int32) (a2 : Int32) (a3 : Rf) (st : Mem) : Option (Int32 × Mem) :=
  bc (iv st a0 [1] (fX1_worthOf a0 a1 a2 st)) (fun z5 st => hg st z5 21 (bX0_worthOf_13 (some z5) st)) fun x5 st =>
  (uJ st a3 (0 : Int32) (Int32.toInt64 x5)).bind fun st =>
  some ((0 : Int32), st)
def fX11_init (a0 : Rf) (a1 : Int32) (a2 : Int32) (a3 : Int32) (a4 : Int32) (st : Mem) : Option (Unit × Mem) :=
  bd (nn a0 (fX10_init a0 a3 a4 st)) fun _ st =>
  (pI st a0 144 a1).bind fun st =>
  (pI st a0 145 a2).bind fun st =>
  some ((), st)
def fX11_value (a0 : Rf) (a1 : Rf) (a2 : Int32) (st : Mem) : Option (Int32 × Mem) :=
  (gI st a0 144).bind fun x3 =>
  (gI st a0 145).bind fun x7 =>
  bd (iv st a1 [3] (fX3_perceives a1 a2 x3 x7 st)) fun x10 st =>
  some (x10, st)
def fX12_init (a0 : Rf) (a1 : Int32) (a2 : Int32) (st : Mem) : Option (Unit × Mem) :=
  bd (nn a0 (fX10_init a0 a1 a2 st)) fun _ st =>
  some ((), st)
def fX13_init (a0 : Rf) (a1 : Int32) (a2 : Int32) (st : Mem) : Option (Unit × Mem) :=
  bd (nn a0 (fX10_init a0 a1 a2 st)) fun _ st =>
  some ((), st)
def fX15_init (a0 : Rf) (a1 : Rf) (a2 : Rf) (st : Mem) : Option (Unit × Mem) :=
  bd (nn a0 (fX14_init a0 a1 a2 st)) fun _ st =>
  some ((), st)
def fX16_init (a0 : Rf) (a1 : Rf) (a2 : Rf) (st : Mem) : Option (Unit × Mem) :=
  bd (nn a0 (fX14_init a0 a1 a2 st)) fun _ st =>
  some ((), st)
def fX1_count (a0 : Rf) (a1 : Int32) (st : Mem) : Option (Int32 × Mem) :=
  if a1 = 0 then
    (gA st a0 4).bind fun x57 =>
    (gI st x57 28).bind fun x60 =>
    some (x60, st)
  else
  if a1 = 1 then
    (gA st a0 4).bind fun x65 =>
    (gI st x65 29).bind fun x68 =>
    some (x68, st)
  else
  if a1 = 2 then
    (gA st a0 4).bind fun x73 =>
    bd (iv st x73 [2] (fX2_seats x73 st)) fun x76 st =>
    some (x76, st)
  else
  if a1 = 3 then
    (gA st a0 4).bind fun x81 =>
    (gI st x81 30).bind fun x84 =>
    some (x84, st)
  else
  if a1 = 4 then
    (gA st a0 4).bind fun x89 =>
    (gI st x89 31).bind fun x92 =>
    some (x92, st)
  else
  if a1 = 5 then
    (gA st a0 4).bind fun x97 =>
    (gI st x97 33).bind fun x100 =>
    if x100 = 0 then
      some ((0 : Int32), st)
    else
      some ((1 : Int32), st)
  else
  if a1 = 6 then
    (gJ st a0 5).bind fun x113 =>
    bd (fJ18_bitCount x113 st) fun x116 st =>
    some (x116, st)
  else
  if a1 = 7 then
    (gJ st a0 6).bind fun x121 =>
    bd (fJ18_bitCount x121 st) fun x124 st =>
    some (x124, st)
  else
  if a1 = 8 then
    (gI st a0 2).bind fun x129 =>
    some (x129, st)
  else
  if a1 = 9 then
    (gA st a0 7).bind fun x134 =>
    bd (iv st x134 [18] (fJ3_size x134 st)) fun x137 st =>
    some (x137, st)
  else
  some ((-1 : Int32), st)
def bX1_drawn_104 (kk32 : Rf → Int32 → Int32 → Int32 → Mem → Option (Int32 × Mem)) (kk48 : Rf → Int32 → Int32 → Int32 → Int32 → Int32 → Mem → Option (Int32 × Mem)) (v0 : Rf) (v1 : Int32) (v3 : Int32) (v4 : Int32) (v5 : Int32) (v6 : Int32) (st : Mem) : Option (Int32 × Mem) :=
  kk48 v0 v1 v3 v4 v5 (v6 + 1) st
def bX1_drawn_77 (kk32 : Rf → Int32 → Int32 → Int32 → Mem → Option (Int32 × Mem)) (kk48 : Rf → Int32 → Int32 → Int32 → Int32 → Int32 → Mem → Option (Int32 × Mem)) (v0 : Rf) (v1 : Int32) (v3 : Int32) (v4 : Int32) (v5 : Int32) (v6 : Int32) (st : Mem) : Option (Int32 × Mem) :=
  (gA st v0 4).bind fun x78 =>
  bd (iv st x78 [2] (fX2_isSeat x78 v6 st)) fun x83 st =>
  if x83 = 0 then
    bX1_drawn_104 kk32 kk48 v0 v1 v3 v4 v5 v6 st
  else
    (gJ st v0 5).bind fun x90 =>
    bd (fX1_has_2 x90 v6 st) fun x95 st =>
    if ¬ x95 = 0 then
      bX1_drawn_104 kk32 kk48 v0 v1 v3 v4 v5 v6 st
    else
      bX1_drawn_104 kk32 kk48 v0 v1 v3 v4 (v5 + (-1)) v6 st
def bX1_drawn_48B (kk32 : Rf → Int32 → Int32 → Int32 → Mem → Option (Int32 × Mem)) (kk48 : Rf → Int32 → Int32 → Int32 → Int32 → Int32 → Mem → Option (Int32 × Mem)) (v0 : Rf) (v1 : Int32) (v3 : Int32) (v4 : Int32) (v5 : Int32) (v6 : Int32) (st : Mem) : Option (Int32 × Mem) :=
  (gA st v0 4).bind fun x49 =>
  bd (iv st x49 [2] (fX2_isSeat x49 v6 st)) fun x54 st =>
  if x54 = 0 then
    bX1_drawn_77 kk32 kk48 v0 v1 v3 v4 v5 v6 st
  else
    (gJ st v0 5).bind fun x61 =>
    bd (fX1_has_2 x61 v6 st) fun x66 st =>
    if ¬ x66 = 0 then
      bX1_drawn_77 kk32 kk48 v0 v1 v3 v4 v5 v6 st
    else
      if v5 ≤ 0 then
        (gJ st v0 5).bind fun x112 =>
        (pJ st v0 5 (x112 ||| (shlL (1 : Int64) v6))).bind fun st =>
        kk32 v0 v1 (v3 + (-1)) (v4 + 1) st
      else
        bX1_drawn_77 kk32 kk48 v0 v1 v3 v4 v5 v6 st
def bX1_drawn_48 (kk32 : Rf → Int32 → Int32 → Int32 → Mem → Option (Int32 × Mem)) : Nat → Rf → Int32 → Int32 → Int32 → Int32 → Int32 → Mem → Option (Int32 × Mem)
  | 0 => fun _ _ _ _ _ _ _ => none
  | n + 1 => bX1_drawn_48B kk32 (bX1_drawn_48 kk32 n)
def bX1_drawn_32B (kk32 : Rf → Int32 → Int32 → Int32 → Mem → Option (Int32 × Mem)) (v0 : Rf) (v1 : Int32) (v3 : Int32) (v4 : Int32) (st : Mem) : Option (Int32 × Mem) :=
  if v1 ≤ v4 then
    some ((1 : Int32), st)
  else
    bd (iv st v0 [1] (fX1_draw v0 v3 st)) fun x40 st =>
    bX1_drawn_48 kk32 hcFuel v0 v1 v3 v4 x40 (0 : Int32) st
def bX1_drawn_32 : Nat → Rf → Int32 → Int32 → Int32 → Mem → Option (Int32 × Mem)
  | 0 => fun _ _ _ _ _ => none
  | n + 1 => bX1_drawn_32B (bX1_drawn_32 n)
def fX1_drawn (a0 : Rf) (a1 : Int32) (a2 : Int32) (st : Mem) : Option (Int32 × Mem) :=
  (gA st a0 4).bind fun x1 =>
  bd (iv st x1 [2] (fX2_seats x1 st)) fun x4 st =>
  bd (fX1_isIn a1 (1 : Int32) x4 st) fun x11 st =>
  if ¬ x11 = 0 then
    (pI st a0 22 a2).bind fun st =>
    (pJ st a0 5 (0 : Int64)).bind fun st =>
    bX1_drawn_32 hcFuel a0 a1 x4 (0 : Int32) st
  else
    some ((0 : Int32), st)
def fX1_hiss (a0 : Rf) (a1 : Int32) (a2 : Int32) (st : Mem) : Option (Int32 × Mem) :=
  (gA st a0 4).bind fun x1 =>
  bd (iv st x1 [2] (fX2_isSeat x1 a1 st)) fun x5 st =>
  if x5 = 0 then
    some ((0 : Int32), st)
  else
    bd (fX1_isIn a2 (0 : Int32) (1 : Int32) st) fun x14 st =>
    if ¬ x14 = 0 then
      (gJ st a0 6).bind fun x24 =>
      bd (fX1_with x24 a1 a2 st) fun x29 st =>
      (pJ st a0 6 x29).bind fun st =>
      some ((1 : Int32), st)
    else
      some ((0 : Int32), st)
def fX1_pay (a0 : Rf) (a1 : Int32) (a2 : Int32) (st : Mem) : Option (Int32 × Mem) :=
  (gA st a0 4).bind fun x1 =>
  bd (iv st x1 [2] (fX2_isSeat x1 a1 st)) fun x5 st =>
  if x5 = 0 then
    some ((0 : Int32), st)
  else
    bd (fX1_isIn a2 (0 : Int32) (1 : Int32) st) fun x14 st =>
    if ¬ x14 = 0 then
      (gJ st a0 5).bind fun x24 =>
      bd (fX1_with x24 a1 a2 st) fun x29 st =>
      (pJ st a0 5 x29).bind fun st =>
      some ((1 : Int32), st)
    else
      some ((0 : Int32), st)
def bX1_seat_25 (v0 : Rf) (v1 : Int32) (v2 : Int32) (k0 : Int32) (st : Mem) : Option ((Int32 ⊕ Nat) × Mem) :=
  bt (fX1_need k0 st) fun _ st =>
  if v2 = 0 then
    (gA st v0 4).bind fun x61 =>
    (gA st x61 34).bind fun x64 =>
    (aI st x64 v1).bind fun x68 =>
    some (.inl x68, st)
  else
  if v2 = 1 then
    (gA st v0 4).bind fun x71 =>
    (gA st x71 35).bind fun x74 =>
    (gA st v0 4).bind fun x78 =>
    bd (iv st x78 [2] (fX2_row x78 v1 st)) fun x82 st =>
    (aI st x74 x82).bind fun x85 =>
    some (.inl x85, st)
  else
  if v2 = 2 then
    (gA st v0 4).bind fun x88 =>
    (gA st x88 36).bind fun x91 =>
    (gA st v0 4).bind fun x95 =>
    bd (iv st x95 [2] (fX2_row x95 v1 st)) fun x99 st =>
    (aI st x91 x99).bind fun x102 =>
    some (.inl x102, st)
  else
  if v2 = 3 then
    (gJ st v0 5).bind fun x105 =>
    bd (fX1_has_2 x105 v1 st) fun x109 st =>
    if x109 = 0 then
      some (.inl (0 : Int32), st)
    else
      some (.inl (1 : Int32), st)
  else
  (gJ st v0 6).bind fun x122 =>
  bd (fX1_has_2 x122 v1 st) fun x126 st =>
  if x126 = 0 then
    some (.inl (0 : Int32), st)
  else
    some (.inl (1 : Int32), st)
def bX1_seat_24 (v0 : Rf) (v1 : Int32) (v2 : Int32) (st : Mem) : Option ((Int32 ⊕ Nat) × Mem) :=
  bX1_seat_25 v0 v1 v2 (0 : Int32) st
def fX1_seat (a0 : Rf) (a1 : Int32) (a2 : Int32) (st : Mem) : Option ((Int32 ⊕ Nat) × Mem) :=
  (gA st a0 4).bind fun x1 =>
  bd (iv st x1 [2] (fX2_isSeat x1 a1 st)) fun x5 st =>
  if x5 = 0 then
    bX1_seat_24 a0 a1 a2 st
  else
    bd (fX1_isIn a2 (0 : Int32) (4 : Int32) st) fun x14 st =>
    if x14 = 0 then
      bX1_seat_24 a0 a1 a2 st
    else
      bX1_seat_25 a0 a1 a2 (1 : Int32) st
def bX1_takesSeats_7B (kk7 : Rf → Int32 → Int32 → Rf → Int64 → Int32 → Mem → Option (Int32 × Mem)) (v0 : Rf) (v1 : Int32) (v2 : Int32) (v3 : Rf) (v6 : Int64) (v8 : Int32) (st : Mem) : Option (Int32 × Mem) :=
  if v2 ≤ v8 then
    some (v2, st)
  else
    bd (iv st v0 [1] (fX1_byteAt v0 (v1 + v8) st)) fun x18 st =>
    (gA st v0 4).bind fun x24 =>
    bd (iv st x24 [2] (fX2_isSeat x24 x18 st)) fun x29 st =>
    if x29 = 0 then
      some ((-1 : Int32), st)
    else
      bd (fX1_has_2 v6 x18 st) fun x39 st =>
      if x39 = 0 then
        (some (v6 ||| (shlL (1 : Int64) x18))).bind fun y54 =>
        (uI st v3 v8 x18).bind fun st =>
        kk7 v0 v1 v2 v3 y54 (v8 + 1) st
      else
        some ((-1 : Int32), st)
def bX1_takesSeats_7 : Nat → Rf → Int32 → Int32 → Rf → Int64 → Int32 → Mem → Option (Int32 × Mem)
  | 0 => fun _ _ _ _ _ _ _ => none
  | n + 1 => bX1_takesSeats_7B (bX1_takesSeats_7 n)
def fX1_takesSeats (a0 : Rf) (a1 : Int32) (a2 : Int32) (a3 : Rf) (a4 : Int64) (st : Mem) : Option (Int32 × Mem) :=
  bX1_takesSeats_7 hcFuel a0 a1 a2 a3 a4 (0 : Int32) st
def fX21_init (a0 : Rf) (a1 : Int32) (a2 : Int32) (st : Mem) : Option (Unit × Mem) :=
  bd (nn a0 (fX20_init a0 a1 a2 st)) fun _ st =>
  some ((), st)
def fX22_init (a0 : Rf) (a1 : Int32) (a2 : Int32) (st : Mem) : Option (Unit × Mem) :=
  bd (nn a0 (fX20_init a0 a1 a2 st)) fun _ st =>
  some ((), st)
def bX2_exchanged_149B (kk149 : Rf → Int32 → Int32 → Rf → Int32 → Mem → Option (Rf × Mem)) (v0 : Rf) (v1 : Int32) (v2 : Int32) (v3 : Rf) (v4 : Int32) (st : Mem) : Option (Rf × Mem) :=
  if (6 : Int32) ≤ v4 then
    bd (iv st v3 [2] (fX2_swap v3 v1 v2 st)) fun _ st =>
    some (v3, st)
  else
    (gA st v0 40).bind fun x157 =>
    (aA st x157 v4).bind fun x162 =>
    (gA st v3 40).bind fun x165 =>
    (aA st x165 v4).bind fun x170 =>
    (cpy st x162 (0 : Int32) x170 (0 : Int32) (64 : Int32)).bind fun st =>
    kk149 v0 v1 v2 v3 (v4 + 1) st
def bX2_exchanged_149 : Nat → Rf → Int32 → Int32 → Rf → Int32 → Mem → Option (Rf × Mem)
  | 0 => fun _ _ _ _ _ _ => none
  | n + 1 => bX2_exchanged_149B (bX2_exchanged_149 n)
def fX2_exchanged (a0 : Rf) (a1 : Int32) (a2 : Int32) (st : Mem) : Option (Rf × Mem) :=
  bd (nO st 2) fun x0 st =>
  bd (nn x0 (fX2_init x0 st)) fun _ st =>
  (gI st a0 28).bind fun x10 =>
  (pI st x0 28 x10).bind fun st =>
  (gI st a0 29).bind fun x18 =>
  (pI st x0 29 x18).bind fun st =>
  (gI st a0 30).bind fun x26 =>
  (pI st x0 30 x26).bind fun st =>
  (gI st a0 31).bind fun x34 =>
  (pI st x0 31 x34).bind fun st =>
  (gI st a0 33).bind fun x42 =>
  (pI st x0 33 x42).bind fun st =>
  (gI st a0 32).bind fun x50 =>
  (pI st x0 32 x50).bind fun st =>
  (gA st a0 34).bind fun x57 =>
  (gA st x0 34).bind fun x62 =>
  (cpy st x57 (0 : Int32) x62 (0 : Int32) (64 : Int32)).bind fun st =>
  (gA st a0 35).bind fun x72 =>
  (gA st x0 35).bind fun x77 =>
  (cpy st x72 (0 : Int32) x77 (0 : Int32) (8 : Int32)).bind fun st =>
  (gA st a0 36).bind fun x87 =>
  (gA st x0 36).bind fun x92 =>
  (cpy st x87 (0 : Int32) x92 (0 : Int32) (8 : Int32)).bind fun st =>
  (gA st a0 37).bind fun x102 =>
  (gA st x0 37).bind fun x107 =>
  (cpy st x102 (0 : Int32) x107 (0 : Int32) (6 : Int32)).bind fun st =>
  (gA st a0 38).bind fun x117 =>
  (gA st x0 38).bind fun x122 =>
  (cpy st x117 (0 : Int32) x122 (0 : Int32) (6 : Int32)).bind fun st =>
  (gA st a0 39).bind fun x132 =>
  (gA st x0 39).bind fun x137 =>
  (cpy st x132 (0 : Int32) x137 (0 : Int32) (12 : Int32)).bind fun st =>
  bX2_exchanged_149 hcFuel a0 a1 a2 x0 (0 : Int32) st
def bX2_open_265 (kk2 : Rf → Int32 → Mem → Option (Rf × Mem)) (kk230 : Rf → Int32 → Int32 → Mem → Option (Rf × Mem)) (v0 : Rf) (v1 : Int32) (v5 : Int32) (st : Mem) : Option (Rf × Mem) :=
  kk230 v0 v1 (v5 + 1) st
def bX2_open_230B (kk2 : Rf → Int32 → Mem → Option (Rf × Mem)) (kk230 : Rf → Int32 → Int32 → Mem → Option (Rf × Mem)) (v0 : Rf) (v1 : Int32) (v5 : Int32) (st : Mem) : Option (Rf × Mem) :=
  bd (iv st v0 [2] (fX2_size v0 st)) fun x233 st =>
  if x233 ≤ v5 then
    kk2 v0 (v1 + 1) st
  else
    if v5 = v1 then
      bX2_open_265 kk2 kk230 v0 v1 v5 st
    else
      (gI st v0 29).bind fun x251 =>
      (dvI v5 x251).bind fun x254 =>
      (gI st v0 29).bind fun x258 =>
      (rmI v5 x258).bind fun x261 =>
      bd (iv st v0 [2] (fX2_see v0 (5 : Int32) v1 x254 x261 st)) fun _ st =>
      bX2_open_265 kk2 kk230 v0 v1 v5 st
def bX2_open_230 (kk2 : Rf → Int32 → Mem → Option (Rf × Mem)) : Nat → Rf → Int32 → Int32 → Mem → Option (Rf × Mem)
  | 0 => fun _ _ _ _ => none
  | n + 1 => bX2_open_230B kk2 (bX2_open_230 kk2 n)
def bX2_open_227 (kk2 : Rf → Int32 → Mem → Option (Rf × Mem)) (v0 : Rf) (v1 : Int32) (st : Mem) : Option (Rf × Mem) :=
  bX2_open_230 kk2 hcFuel v0 v1 (0 : Int32) st
def bX2_open_194B (kk2 : Rf → Int32 → Mem → Option (Rf × Mem)) (kk178 : Rf → Int32 → Int32 → Int32 → Int32 → Int32 → Mem → Option (Rf × Mem)) (kk194 : Rf → Int32 → Int32 → Int32 → Int32 → Int32 → Int32 → Mem → Option (Rf × Mem)) (v0 : Rf) (v1 : Int32) (v2 : Int32) (v3 : Int32) (v4 : Int32) (v5 : Int32) (v6 : Int32) (st : Mem) : Option (Rf × Mem) :=
  if v5 < v6 then
    kk178 v0 v1 v2 v3 v4 (v5 + 1) st
  else
    bd (iv st v0 [2] (fX2_see v0 (4 : Int32) v1 (v2 - v5) (v3 + v6) st)) fun _ st =>
    kk194 v0 v1 v2 v3 v4 v5 (v6 + 1) st
def bX2_open_194 (kk2 : Rf → Int32 → Mem → Option (Rf × Mem)) (kk178 : Rf → Int32 → Int32 → Int32 → Int32 → Int32 → Mem → Option (Rf × Mem)) : Nat → Rf → Int32 → Int32 → Int32 → Int32 → Int32 → Int32 → Mem → Option (Rf × Mem)
  | 0 => fun _ _ _ _ _ _ _ _ => none
  | n + 1 => bX2_open_194B kk2 kk178 (bX2_open_194 kk2 kk178 n)
def bX2_open_178B (kk2 : Rf → Int32 → Mem → Option (Rf × Mem)) (kk178 : Rf → Int32 → Int32 → Int32 → Int32 → Int32 → Mem → Option (Rf × Mem)) (v0 : Rf) (v1 : Int32) (v2 : Int32) (v3 : Int32) (v4 : Int32) (v5 : Int32) (st : Mem) : Option (Rf × Mem) :=
  if (3 : Int32) < v5 then
    bX2_open_227 kk2 v0 v1 st
  else
    if ¬ v4 = 0 then
      bX2_open_227 kk2 v0 v1 st
    else
      bX2_open_194 kk2 kk178 hcFuel v0 v1 v2 v3 v4 v5 (-v5) st
def bX2_open_178 (kk2 : Rf → Int32 → Mem → Option (Rf × Mem)) : Nat → Rf → Int32 → Int32 → Int32 → Int32 → Int32 → Mem → Option (Rf × Mem)
  | 0 => fun _ _ _ _ _ _ _ => none
  | n + 1 => bX2_open_178B kk2 (bX2_open_178 kk2 n)
def bX2_open_173 (kk2 : Rf → Int32 → Mem → Option (Rf × Mem)) (v0 : Rf) (v1 : Int32) (v2 : Int32) (v3 : Int32) (k0 : Int32) (st : Mem) : Option (Rf × Mem) :=
  bX2_open_178 kk2 hcFuel v0 v1 v2 v3 k0 (1 : Int32) st
def bX2_open_172 (kk2 : Rf → Int32 → Mem → Option (Rf × Mem)) (v0 : Rf) (v1 : Int32) (v2 : Int32) (v3 : Int32) (st : Mem) : Option (Rf × Mem) :=
  bX2_open_173 kk2 v0 v1 v2 v3 (0 : Int32) st
def bX2_open_132 (kk2 : Rf → Int32 → Mem → Option (Rf × Mem)) (kk93 : Rf → Int32 → Int32 → Int32 → Int32 → Mem → Option (Rf × Mem)) (kk102 : Rf → Int32 → Int32 → Int32 → Int32 → Int32 → Mem → Option (Rf × Mem)) (v0 : Rf) (v1 : Int32) (v2 : Int32) (v3 : Int32) (v4 : Int32) (v5 : Int32) (st : Mem) : Option (Rf × Mem) :=
  kk102 v0 v1 v2 v3 v4 (v5 + 1) st
def bX2_open_118 (kk2 : Rf → Int32 → Mem → Option (Rf × Mem)) (kk93 : Rf → Int32 → Int32 → Int32 → Int32 → Mem → Option (Rf × Mem)) (kk102 : Rf → Int32 → Int32 → Int32 → Int32 → Int32 → Mem → Option (Rf × Mem)) (v0 : Rf) (v1 : Int32) (v2 : Int32) (v3 : Int32) (v4 : Int32) (v5 : Int32) (st : Mem) : Option (Rf × Mem) :=
  bd (iv st v0 [2] (fX2_see v0 (0 : Int32) v1 (v2 + v4) (v3 + v5) st)) fun _ st =>
  bX2_open_132 kk2 kk93 kk102 v0 v1 v2 v3 v4 v5 st
def bX2_open_102B (kk2 : Rf → Int32 → Mem → Option (Rf × Mem)) (kk93 : Rf → Int32 → Int32 → Int32 → Int32 → Mem → Option (Rf × Mem)) (kk102 : Rf → Int32 → Int32 → Int32 → Int32 → Int32 → Mem → Option (Rf × Mem)) (v0 : Rf) (v1 : Int32) (v2 : Int32) (v3 : Int32) (v4 : Int32) (v5 : Int32) (st : Mem) : Option (Rf × Mem) :=
  if (2 : Int32) ≤ v5 then
    kk93 v0 v1 v2 v3 (v4 + 1) st
  else
    if ¬ v4 = 0 then
      bX2_open_118 kk2 kk93 kk102 v0 v1 v2 v3 v4 v5 st
    else
      if v5 = 0 then
        bX2_open_132 kk2 kk93 kk102 v0 v1 v2 v3 v4 v5 st
      else
        bX2_open_118 kk2 kk93 kk102 v0 v1 v2 v3 v4 v5 st
def bX2_open_102 (kk2 : Rf → Int32 → Mem → Option (Rf × Mem)) (kk93 : Rf → Int32 → Int32 → Int32 → Int32 → Mem → Option (Rf × Mem)) : Nat → Rf → Int32 → Int32 → Int32 → Int32 → Int32 → Mem → Option (Rf × Mem)
  | 0 => fun _ _ _ _ _ _ _ => none
  | n + 1 => bX2_open_102B kk2 kk93 (bX2_open_102 kk2 kk93 n)
def bX2_open_93B (kk2 : Rf → Int32 → Mem → Option (Rf × Mem)) (kk93 : Rf → Int32 → Int32 → Int32 → Int32 → Mem → Option (Rf × Mem)) (v0 : Rf) (v1 : Int32) (v2 : Int32) (v3 : Int32) (v4 : Int32) (st : Mem) : Option (Rf × Mem) :=
  if (2 : Int32) ≤ v4 then
    if v2 ≤ 0 then
      bX2_open_172 kk2 v0 v1 v2 v3 st
    else
      (gA st v0 34).bind fun x149 =>
      (gI st v0 29).bind fun x153 =>
      (aI st x149 ((x153 * (v2 - (1 : Int32))) + v3)).bind fun x162 =>
      if ¬ x162 = (9 : Int32) then
        bX2_open_172 kk2 v0 v1 v2 v3 st
      else
        bX2_open_173 kk2 v0 v1 v2 v3 (1 : Int32) st
  else
    bX2_open_102 kk2 kk93 hcFuel v0 v1 v2 v3 v4 (-1 : Int32) st
def bX2_open_93 (kk2 : Rf → Int32 → Mem → Option (Rf × Mem)) : Nat → Rf → Int32 → Int32 → Int32 → Int32 → Mem → Option (Rf × Mem)
  | 0 => fun _ _ _ _ _ _ => none
  | n + 1 => bX2_open_93B kk2 (bX2_open_93 kk2 n)
def bX2_open_27B (kk2 : Rf → Int32 → Mem → Option (Rf × Mem)) (kk27 : Rf → Int32 → Int32 → Int32 → Int32 → Mem → Option (Rf × Mem)) (v0 : Rf) (v1 : Int32) (v2 : Int32) (v3 : Int32) (v4 : Int32) (st : Mem) : Option (Rf × Mem) :=
  if (6 : Int32) ≤ v4 then
    bd (iv st v0 [2] (fX2_see v0 (1 : Int32) v1 (v2 - (1 : Int32)) v3 st)) fun _ st =>
    bd (iv st v0 [2] (fX2_see v0 (3 : Int32) v1 (v2 + (1 : Int32)) v3 st)) fun _ st =>
    bd (iv st v0 [2] (fX2_see v0 (2 : Int32) v1 v2 (v3 - (1 : Int32)) st)) fun _ st =>
    bd (iv st v0 [2] (fX2_see v0 (2 : Int32) v1 v2 (v3 + (1 : Int32)) st)) fun _ st =>
    bX2_open_93 kk2 hcFuel v0 v1 v2 v3 (-1 : Int32) st
  else
    (gA st v0 40).bind fun x35 =>
    (aA st x35 v4).bind fun x40 =>
    (uJ st x40 v1 (0 : Int64)).bind fun st =>
    kk27 v0 v1 v2 v3 (v4 + 1) st
def bX2_open_27 (kk2 : Rf → Int32 → Mem → Option (Rf × Mem)) : Nat → Rf → Int32 → Int32 → Int32 → Int32 → Mem → Option (Rf × Mem)
  | 0 => fun _ _ _ _ _ _ => none
  | n + 1 => bX2_open_27B kk2 (bX2_open_27 kk2 n)
def bX2_open_2B (kk2 : Rf → Int32 → Mem → Option (Rf × Mem)) (v0 : Rf) (v1 : Int32) (st : Mem) : Option (Rf × Mem) :=
  bd (iv st v0 [2] (fX2_size v0 st)) fun x4 st =>
  if x4 ≤ v1 then
    some (v0, st)
  else
    (gI st v0 29).bind fun x12 =>
    (dvI v1 x12).bind fun x15 =>
    (gI st v0 29).bind fun x19 =>
    (rmI v1 x19).bind fun x22 =>
    bX2_open_27 kk2 hcFuel v0 v1 x15 x22 (0 : Int32) st
def bX2_open_2 : Nat → Rf → Int32 → Mem → Option (Rf × Mem)
  | 0 => fun _ _ _ => none
  | n + 1 => bX2_open_2B (bX2_open_2 n)
def fX2_open (a0 : Rf) (st : Mem) : Option (Rf × Mem) :=
  bX2_open_2 hcFuel a0 (0 : Int32) st
def fX3_many (a0 : Rf) (a1 : Int32) (st : Mem) : Option (Int32 × Mem) :=
  if ¬ a1 = 0 then
    (gA st a0 53).bind fun x15 =>
    (aJ st x15 a1).bind fun x19 =>
    bd (fJ18_bitCount x19 st) fun x20 st =>
    some (x20, st)
  else
    (gA st a0 41).bind fun x5 =>
    bd (iv st x5 [2] (fX2_seats x5 st)) fun x8 st =>
    some (x8, st)
def bX5_hold_14 (v0 : Rf) (v1 : Int32) (v2 : Int32) (k0 : Rf) (k1 : Int32) (st : Mem) : Option ((Int32 ⊕ Nat) × Mem) :=
  bt (iv st k0 [13, 5] (fX5_need k0 k1 (1 : Int32) st)) fun _ st =>
  (gI st v0 130).bind fun x20 =>
  bd (fX1_isIn x20 v1 v2 st) fun x25 st =>
  bt (iv st v0 [13, 5] (fX5_need v0 x25 (2 : Int32) st)) fun _ st =>
  (gI st v0 130).bind fun x33 =>
  some (.inl x33, st)
def fX5_hold (a0 : Rf) (a1 : Int32) (a2 : Int32) (st : Mem) : Option ((Int32 ⊕ Nat) × Mem) :=
  (gI st a0 128).bind fun x2 =>
  if ¬ x2 = (3 : Int32) then
    bX5_hold_14 a0 a1 a2 a0 (0 : Int32) st
  else
    bX5_hold_14 a0 a1 a2 a0 (1 : Int32) st
def bX5_is_23 (st : Mem) : Option (Int32 × Mem) :=
  some ((0 : Int32), st)
def fX5_is (a0 : Rf) (a1 : Rf) (st : Mem) : Option (Int32 × Mem) :=
  (gI st a0 128).bind fun x1 =>
  if ¬ x1 = (2 : Int32) then
    bX5_is_23 st
  else
    (gA st a0 132).bind fun x9 =>
    bd (iv st x9 [19] (fJ4_equals x9 a1 st)) fun x13 st =>
    if x13 = 0 then
      bX5_is_23 st
    else
      some ((1 : Int32), st)
def fX6_init (a0 : Rf) (a1 : Rf) (a2 : Int32) (st : Mem) : Option (Unit × Mem) :=
  bd (nn a0 (fX5_init a0 a1 a2 (900 : Int32) st)) fun _ st =>
  bd (nO st 2) fun x10 st =>
  bd (nn x10 (fX2_init x10 st)) fun _ st =>
  (pA st a0 133 x10).bind fun st =>
  some ((), st)
def vX18_does (a0 : Rf) (a1 : Rf) (st : Mem) : Option (Unit × Mem) :=
  if [15].contains (tg st a0) = true then iv st a0 [15] (fX20_does a0 a1 st)
  else if [17].contains (tg st a0) = true then iv st a0 [17] (fX22_does a0 a1 st)
  else if [16].contains (tg st a0) = true then iv st a0 [16] (fX21_does a0 a1 st)
  else if [14].contains (tg st a0) = true then iv st a0 [14] (fX19_does a0 a1 st)
  else none
def bX0_seat_13 (k0 : Rf) (st : Mem) : Option (Int32 × Mem) :=
  some ((1 : Int32), st)
def fX0_seat (a0 : Rf) (a1 : Int32) (a2 : Int32) (a3 : Rf) (st : Mem) : Option (Int32 × Mem) :=
  bc (iv st a0 [1] (fX1_seat a0 a1 a2 st)) (fun z5 st => hg st z5 21 (bX0_seat_13 (some z5) st)) fun x5 st =>
  (uJ st a3 (0 : Int32) (Int32.toInt64 x5)).bind fun st =>
  some ((0 : Int32), st)
def fX17_init (a0 : Rf) (a1 : Rf) (a2 : Int32) (a3 : Rf) (st : Mem) : Option (Unit × Mem) :=
  bd (nn a0 (fX5_init a0 a1 a2 (400 : Int32) st)) fun _ st =>
  bd (nO st 18) fun x10 st =>
  bd (nn x10 (fJ3_init x10 st)) fun _ st =>
  (pA st a0 149 x10).bind fun st =>
  (pA st a0 148 a3).bind fun st =>
  some ((), st)
def bX1_cue_31 (v0 : Rf) (v1 : Int32) (v2 : Int32) (k0 : Int32) (st : Mem) : Option ((Int32 ⊕ Nat) × Mem) :=
  bt (fX1_need k0 st) fun _ st =>
  (gA st v0 7).bind fun x35 =>
  bd (iv st x35 [18] (fJ3_get x35 v1 st)) fun x39 st =>
  (ck st x39 1).bind fun x42 =>
  if ¬ v2 = 0 then
    if ¬ v2 = (1 : Int32) then
      bd (vX18_seat x42 st) fun x70 st =>
      some (.inl x70, st)
    else
      bd (vX18_what x42 st) fun x63 st =>
      some (.inl x63, st)
  else
    (gI st x42 150).bind fun x51 =>
    some (.inl x51, st)
def bX1_cue_30 (v0 : Rf) (v1 : Int32) (v2 : Int32) (st : Mem) : Option ((Int32 ⊕ Nat) × Mem) :=
  bX1_cue_31 v0 v1 v2 (0 : Int32) st
def fX1_cue (a0 : Rf) (a1 : Int32) (a2 : Int32) (st : Mem) : Option ((Int32 ⊕ Nat) × Mem) :=
  (gA st a0 7).bind fun x3 =>
  bd (iv st x3 [18] (fJ3_size x3 st)) fun x6 st =>
  bd (fX1_isIn a1 (0 : Int32) (x6 - (1 : Int32)) st) fun x11 st =>
  if x11 = 0 then
    bX1_cue_30 a0 a1 a2 st
  else
    bd (fX1_isIn a2 (0 : Int32) (2 : Int32) st) fun x20 st =>
    if x20 = 0 then
      bX1_cue_30 a0 a1 a2 st
    else
      bX1_cue_31 a0 a1 a2 (1 : Int32) st
def fX1_exchange (a0 : Rf) (a1 : Int32) (a2 : Int32) (st : Mem) : Option (Int32 × Mem) :=
  (gA st a0 4).bind fun x1 =>
  bd (iv st x1 [2] (fX2_isSeat x1 a1 st)) fun x5 st =>
  if x5 = 0 then
    some ((0 : Int32), st)
  else
    (gA st a0 4).bind fun x12 =>
    bd (iv st x12 [2] (fX2_isSeat x12 a2 st)) fun x16 st =>
    if x16 = 0 then
      some ((0 : Int32), st)
    else
      if ¬ a1 = a2 then
        (gA st a0 4).bind fun x31 =>
        bd (iv st x31 [2] (fX2_exchanged x31 a1 a2 st)) fun x36 st =>
        (pA st a0 4 x36).bind fun st =>
        some ((1 : Int32), st)
      else
        some ((0 : Int32), st)
def fX1_init (a0 : Rf) (st : Mem) : Option (Unit × Mem) :=
  nn a0 <|
  bd (nA st 100 (940 : Int32)) fun x8 st =>
  (pA st a0 1 x8).bind fun st =>
  bd (nO st 2) fun x14 st =>
  bd (nn x14 (fX2_init x14 st)) fun _ st =>
  (pA st a0 4 x14).bind fun st =>
  bd (nO st 18) fun x25 st =>
  bd (nn x25 (fJ3_init x25 st)) fun _ st =>
  (pA st a0 7 x25).bind fun st =>
  bd (nO st 3) fun x36 st =>
  bd (nn x36 (fX3_init x36 st)) fun _ st =>
  (pA st a0 8 x36).bind fun st =>
  bd (nO st 3) fun x47 st =>
  bd (nn x47 (fX3_init x47 st)) fun _ st =>
  (pA st a0 9 x47).bind fun st =>
  bd (nA st 103 (2404 : Int32)) fun x61 st =>
  (pA st a0 10 x61).bind fun st =>
  bd (nA st 102 (8 : Int32)) fun x69 st =>
  (pA st a0 11 x69).bind fun st =>
  (pI st a0 12 (-1 : Int32)).bind fun st =>
  bd (nA st 101 (256 : Int32)) fun x83 st =>
  (pA st a0 13 x83).bind fun st =>
  bd (nA st 102 (256 : Int32)) fun x92 st =>
  (pA st a0 14 x92).bind fun st =>
  bd (nA st 103 (8 : Int32)) fun x100 st =>
  (pA st a0 15 x100).bind fun st =>
  (pJ st a0 17 (1 : Int64)).bind fun st =>
  bd (nA st 102 (8 : Int32)) fun x113 st =>
  (pA st a0 18 x113).bind fun st =>
  bd (nA st 102 (3 : Int32)) fun x120 st =>
  (uI st x120 (0 : Int32) (-1 : Int32)).bind fun st =>
  (uI st x120 (1 : Int32) (-1 : Int32)).bind fun st =>
  (uI st x120 (2 : Int32) (-1 : Int32)).bind fun st =>
  (pA st a0 19 x120).bind fun st =>
  (pI st a0 20 (-1 : Int32)).bind fun st =>
  (pI st a0 21 (-1 : Int32)).bind fun st =>
  bd (nA st 106 (2 : Int32)) fun x149 st =>
  (pA st a0 24 x149).bind fun st =>
  bd (nA st 103 (2 : Int32)) fun x157 st =>
  (pA st a0 25 x157).bind fun st =>
  bd (nA st 103 (2 : Int32)) fun x164 st =>
  (pA st a0 26 x164).bind fun st =>
  bd (nO st 18) fun x170 st =>
  bd (nn x170 (fJ3_init x170 st)) fun _ st =>
  (pA st a0 27 x170).bind fun st =>
  some ((), st)
def bX1_quiet_148 (v1 : Int32) (st : Mem) : Option (Int32 × Mem) :=
  some (v1, st)
def bX1_quiet_108 (kk52 : Rf → Int32 → Int32 → Int32 → Mem → Option (Int32 × Mem)) (v0 : Rf) (v1 : Int32) (v3 : Int32) (k0 : Int32) (st : Mem) : Option (Int32 × Mem) :=
  kk52 v0 v1 k0 (v3 + 1) st
def bX1_quiet_103 (kk52 : Rf → Int32 → Int32 → Int32 → Mem → Option (Int32 × Mem)) (v0 : Rf) (v1 : Int32) (v3 : Int32) (st : Mem) : Option (Int32 × Mem) :=
  bX1_quiet_108 kk52 v0 v1 v3 (1 : Int32) st
def bX1_quiet_52B (kk52 : Rf → Int32 → Int32 → Int32 → Mem → Option (Int32 × Mem)) (v0 : Rf) (v1 : Int32) (v2 : Int32) (v3 : Int32) (st : Mem) : Option (Int32 × Mem) :=
  (gA st v0 7).bind fun x54 =>
  bd (iv st x54 [18] (fJ3_size x54 st)) fun x57 st =>
  if x57 ≤ v3 then
    if v2 = 0 then
      bX1_quiet_148 v1 st
    else
      (gA st v0 4).bind fun x120 =>
      (gI st x120 31).bind fun x123 =>
      if (600 : Int32) ≤ x123 then
        bX1_quiet_148 v1 st
      else
        (gA st v0 4).bind fun x134 =>
        (gI st x134 31).bind fun x137 =>
        some ((mmaxI v1 (x137 + (1 : Int32))), st)
  else
    (gA st v0 7).bind fun x65 =>
    bd (iv st x65 [18] (fJ3_get x65 v3 st)) fun x69 st =>
    (ck st x69 1).bind fun x72 =>
    (gI st x72 150).bind fun x75 =>
    if ¬ v2 = 0 then
      bX1_quiet_103 kk52 v0 (mmaxI v1 x75) v3 st
    else
      (gA st v0 7).bind fun x87 =>
      bd (iv st x87 [18] (fJ3_get x87 v3 st)) fun x91 st =>
      (ck st x91 1).bind fun x94 =>
      bd (vX18_what x94 st) fun x97 st =>
      if ¬ x97 = 0 then
        bX1_quiet_108 kk52 v0 (mmaxI v1 x75) v3 (0 : Int32) st
      else
        bX1_quiet_103 kk52 v0 (mmaxI v1 x75) v3 st
def bX1_quiet_52 : Nat → Rf → Int32 → Int32 → Int32 → Mem → Option (Int32 × Mem)
  | 0 => fun _ _ _ _ _ => none
  | n + 1 => bX1_quiet_52B (bX1_quiet_52 n)
def bX1_quiet_49 (v0 : Rf) (v1 : Int32) (k0 : Int32) (st : Mem) : Option (Int32 × Mem) :=
  bX1_quiet_52 hcFuel v0 v1 k0 (0 : Int32) st
def bX1_quiet_4B (kk4 : Rf → Int32 → Int32 → Mem → Option (Int32 × Mem)) (v0 : Rf) (v1 : Int32) (v2 : Int32) (st : Mem) : Option (Int32 × Mem) :=
  (gA st v0 4).bind fun x6 =>
  (gI st x6 28).bind fun x9 =>
  if x9 ≤ v2 then
    (gJ st v0 5).bind fun x36 =>
    if x36 = (0 : Int64) then
      bX1_quiet_49 v0 v1 (0 : Int32) st
    else
      bX1_quiet_49 v0 v1 (1 : Int32) st
  else
    (gA st v0 4).bind fun x17 =>
    (gA st x17 36).bind fun x20 =>
    (aI st x20 v2).bind fun x24 =>
    kk4 v0 (mmaxI v1 x24) (v2 + 1) st
def bX1_quiet_4 : Nat → Rf → Int32 → Int32 → Mem → Option (Int32 × Mem)
  | 0 => fun _ _ _ _ => none
  | n + 1 => bX1_quiet_4B (bX1_quiet_4 n)
def fX1_quiet (a0 : Rf) (st : Mem) : Option (Int32 × Mem) :=
  bX1_quiet_4 hcFuel a0 (0 : Int32) (0 : Int32) st
def fX1_restore (a0 : Rf) (a1 : Int32) (st : Mem) : Option (Int32 × Mem) :=
  bd (fX1_isIn a1 (0 : Int32) (1 : Int32) st) fun x3 st =>
  if x3 = 0 then
    some ((0 : Int32), st)
  else
    (gA st a0 24).bind fun x10 =>
    (aA st x10 a1).bind fun x14 =>
    if ¬ x14 = none then
      (gA st a0 24).bind fun x22 =>
      (aA st x22 a1).bind fun x26 =>
      (pA st a0 4 x26).bind fun st =>
      (gA st a0 25).bind fun x32 =>
      (aJ st x32 a1).bind fun x36 =>
      (pJ st a0 5 x36).bind fun st =>
      (gA st a0 26).bind fun x42 =>
      (aJ st x42 a1).bind fun x46 =>
      (pJ st a0 6 x46).bind fun st =>
      (gA st a0 27).bind fun x52 =>
      bd (iv st x52 [18] (fJ3_get x52 a1 st)) fun x56 st =>
      (ck st x56 2).bind fun x59 =>
      (pA st a0 7 x59).bind fun st =>
      some ((1 : Int32), st)
    else
      some ((0 : Int32), st)
def bX3_cue_5B (kk5 : Rf → Mem → Option (Unit × Mem)) (v0 : Rf) (st : Mem) : Option (Unit × Mem) :=
  (gI st v0 45).bind fun x6 =>
  (gA st v0 47).bind fun x10 =>
  bd (iv st x10 [18] (fJ3_size x10 st)) fun x13 st =>
  if x13 ≤ x6 then
    some ((), st)
  else
    (gA st v0 47).bind fun x20 =>
    (gI st v0 45).bind fun x24 =>
    bd (iv st x20 [18] (fJ3_get x20 x24 st)) fun x27 st =>
    (ck st x27 1).bind fun x30 =>
    (gI st x30 150).bind fun x33 =>
    (gI st v0 44).bind fun x37 =>
    if ¬ x33 = x37 then
      some ((), st)
    else
      (gA st v0 47).bind fun x44 =>
      (gI st v0 45).bind fun x48 =>
      bd (iv st x44 [18] (fJ3_get x44 x48 st)) fun x51 st =>
      (ck st x51 1).bind fun x54 =>
      bd (vX18_does x54 v0 st) fun _ st =>
      (gI st v0 45).bind fun x63 =>
      (pI st v0 45 (x63 + (1 : Int32))).bind fun st =>
      kk5 v0 st
def bX3_cue_5 : Nat → Rf → Mem → Option (Unit × Mem)
  | 0 => fun _ _ => none
  | n + 1 => bX3_cue_5B (bX3_cue_5 n)
def fX3_cue (a0 : Rf) (st : Mem) : Option (Unit × Mem) :=
  (pI st a0 46 (0 : Int32)).bind fun st =>
  bX3_cue_5 hcFuel a0 st
def fX3_isUp (a0 : Rf) (st : Mem) : Option (Int32 × Mem) :=
  bd (iv st a0 [3] (fX3_many a0 (2 : Int32) st)) fun x2 st =>
  (gA st a0 41).bind fun x6 =>
  (gI st x6 30).bind fun x9 =>
  if x2 < x9 then
    some ((0 : Int32), st)
  else
    some ((1 : Int32), st)
def fX6_areaAtHand (a0 : Rf) (st : Mem) : Option (Int32 × Mem) :=
  bd (iv st a0 [5] (fX5_is a0 (some 30 : Rf) st)) fun x3 st =>
  if x3 = 0 then
    bd (iv st a0 [5] (fX5_is a0 (some 32 : Rf) st)) fun x16 st =>
    if x16 = 0 then
      bd (iv st a0 [5] (fX5_is a0 (some 34 : Rf) st)) fun x29 st =>
      if x29 = 0 then
        bd (iv st a0 [5] (fX5_is a0 (some 36 : Rf) st)) fun x42 st =>
        if x42 = 0 then
          bd (iv st a0 [5] (fX5_is a0 (some 38 : Rf) st)) fun x55 st =>
          if x55 = 0 then
            bd (iv st a0 [5] (fX5_is a0 (some 40 : Rf) st)) fun x68 st =>
            if x68 = 0 then
              some ((-1 : Int32), st)
            else
              some ((5 : Int32), st)
          else
            some ((4 : Int32), st)
        else
          some ((3 : Int32), st)
      else
        some ((2 : Int32), st)
    else
      some ((1 : Int32), st)
  else
    some ((0 : Int32), st)
def vX10_value (a0 : Rf) (a1 : Rf) (a2 : Int32) (st : Mem) : Option (Int32 × Mem) :=
  if [10].contains (tg st a0) = true then iv st a0 [10] (fX13_value a0 a1 a2 st)
  else if [8].contains (tg st a0) = true then iv st a0 [8] (fX11_value a0 a1 a2 st)
  else if [9].contains (tg st a0) = true then iv st a0 [9] (fX12_value a0 a1 a2 st)
  else none
def fX10_holds (a0 : Rf) (a1 : Rf) (a2 : Int32) (st : Mem) : Option (Int32 × Mem) :=
  bd (vX10_value a0 a1 a2 st) fun x3 st =>
  (gI st a0 142).bind fun x8 =>
  if ¬ x8 = (60 : Int32) then
    (gI st a0 142).bind fun x33 =>
    if ¬ x33 = (61 : Int32) then
      (gI st a0 143).bind fun x59 =>
      if x3 ≤ x59 then
        some ((0 : Int32), st)
      else
        some ((1 : Int32), st)
    else
      (gI st a0 143).bind fun x43 =>
      if ¬ x3 = x43 then
        some ((0 : Int32), st)
      else
        some ((1 : Int32), st)
  else
    (gI st a0 143).bind fun x18 =>
    if x18 ≤ x3 then
      some ((0 : Int32), st)
    else
      some ((1 : Int32), st)
def bX0_cue_13 (k0 : Rf) (st : Mem) : Option (Int32 × Mem) :=
  some ((1 : Int32), st)
def fX0_cue (a0 : Rf) (a1 : Int32) (a2 : Int32) (a3 : Rf) (st : Mem) : Option (Int32 × Mem) :=
  bc (iv st a0 [1] (fX1_cue a0 a1 a2 st)) (fun z5 st => hg st z5 21 (bX0_cue_13 (some z5) st)) fun x5 st =>
  (uJ st a3 (0 : Int32) (Int32.toInt64 x5)).bind fun st =>
  some ((0 : Int32), st)
def bX3_begin_76 (kk38 : Rf → Int32 → Mem → Option (Rf × Mem)) (v0 : Rf) (v7 : Int32) (k0 : Rf) (k1 : Int32) (k2 : Int32) (st : Mem) : Option (Rf × Mem) :=
  (uI st k0 k1 k2).bind fun st =>
  (gA st v0 51).bind fun x78 =>
  (uI st x78 v7 (0 : Int32)).bind fun st =>
  kk38 v0 (v7 + 1) st
def bX3_begin_38B (kk38 : Rf → Int32 → Mem → Option (Rf × Mem)) (v0 : Rf) (v7 : Int32) (st : Mem) : Option (Rf × Mem) :=
  (gA st v0 41).bind fun x41 =>
  bd (iv st x41 [2] (fX2_size x41 st)) fun x44 st =>
  if x44 ≤ v7 then
    bd (iv st v0 [3] (fX3_count v0 st)) fun _ st =>
    some (v0, st)
  else
    (gA st v0 49).bind fun x51 =>
    bd (iv st v0 [3] (fX3_forced v0 v7 st)) fun x59 st =>
    if ¬ x59 = (-1 : Int32) then
      bd (iv st v0 [3] (fX3_forced v0 v7 st)) fun x73 st =>
      bX3_begin_76 kk38 v0 v7 x51 v7 x73 st
    else
      bX3_begin_76 kk38 v0 v7 x51 v7 (0 : Int32) st
def bX3_begin_38 : Nat → Rf → Int32 → Mem → Option (Rf × Mem)
  | 0 => fun _ _ _ => none
  | n + 1 => bX3_begin_38B (bX3_begin_38 n)
def fX3_begin (a0 : Rf) (a1 : Rf) (a2 : Rf) (a3 : Int64) (a5 : Int64) (st : Mem) : Option (Rf × Mem) :=
  (pA st a0 41 a1).bind fun st =>
  (pA st a0 47 a2).bind fun st =>
  (pJ st a0 42 a3).bind fun st =>
  (pJ st a0 43 a5).bind fun st =>
  (pI st a0 44 (0 : Int32)).bind fun st =>
  (pI st a0 45 (0 : Int32)).bind fun st =>
  bd (iv st a0 [3] (fX3_cue a0 st)) fun _ st =>
  bX3_begin_38 hcFuel a0 (0 : Int32) st
def fX1_tonight (a0 : Rf) (st : Mem) : Option (Rf × Mem) :=
  (gA st a0 8).bind fun x1 =>
  (gA st a0 4).bind fun x5 =>
  (gA st a0 7).bind fun x9 =>
  (gJ st a0 5).bind fun x13 =>
  (gJ st a0 6).bind fun x17 =>
  bd (iv st x1 [3] (fX3_begin x1 x5 x9 x13 x17 st)) fun x20 st =>
  some (x20, st)
def vX8_holds : Nat → Rf → Rf → Int32 → Mem → Option (Int32 × Mem)
  | 0 => fun _ _ _ _ => none
  | d + 1 => fun a0 a1 a2 st =>
    if [11].contains (tg st a0) = true then iv st a0 [11] (fX15_holds (vX8_holds d) a0 a1 a2 st)
    else if [8, 9, 10].contains (tg st a0) = true then iv st a0 [8, 9, 10] (fX10_holds a0 a1 a2 st)
    else if [7].contains (tg st a0) = true then iv st a0 [7] (fX9_holds (vX8_holds d) a0 a1 a2 st)
    else if [12].contains (tg st a0) = true then iv st a0 [12] (fX16_holds (vX8_holds d) a0 a1 a2 st)
    else none
def bX3_likes_90 (v0 : Rf) (v1 : Int32) (st : Mem) : Option (Int32 × Mem) :=
  (gA st v0 48).bind fun x91 =>
  (aI st x91 v1).bind fun x95 =>
  some (x95, st)
def bX3_likes_62 (v0 : Rf) (v1 : Int32) (v3 : Rf) (st : Mem) : Option (Int32 × Mem) :=
  if  v3 = none then
    bX3_likes_90 v0 v1 st
  else
    bd (vX8_holds 60 v3 v0 v1 st) fun x69 st =>
    if x69 = 0 then
      bX3_likes_90 v0 v1 st
    else
      (gA st v0 48).bind fun x77 =>
      (aI st x77 v1).bind fun x81 =>
      some ((mmaxI (0 : Int32) (x81 - (1 : Int32))), st)
def fX3_likes (a0 : Rf) (a1 : Int32) (st : Mem) : Option (Int32 × Mem) :=
  (gA st a0 41).bind fun x1 =>
  (gA st x1 37).bind fun x4 =>
  (gA st a0 41).bind fun x8 =>
  (gA st x8 34).bind fun x11 =>
  (aI st x11 a1).bind fun x15 =>
  (aA st x4 x15).bind fun x16 =>
  (gA st a0 41).bind fun x19 =>
  (gA st x19 38).bind fun x22 =>
  (gA st a0 41).bind fun x26 =>
  (gA st x26 34).bind fun x29 =>
  (aI st x29 a1).bind fun x33 =>
  (aA st x22 x33).bind fun x34 =>
  if  x16 = none then
    bX3_likes_62 a0 a1 x34 st
  else
    bd (vX8_holds 60 x16 a0 a1 st) fun x43 st =>
    if x43 = 0 then
      bX3_likes_62 a0 a1 x34 st
    else
      (gA st a0 48).bind fun x51 =>
      (aI st x51 a1).bind fun x55 =>
      some ((mminI (2 : Int32) (x55 + (1 : Int32))), st)
def bX1_image_41B (kk41 : Rf → Int32 → Mem → Option (Int32 × Mem)) (v0 : Rf) (v1 : Int32) (st : Mem) : Option (Int32 × Mem) :=
  (gA st v0 27).bind fun x42 =>
  bd (iv st x42 [18] (fJ3_size x42 st)) fun x45 st =>
  if (2 : Int32) ≤ x45 then
    (gA st v0 27).bind fun x68 =>
    (gA st v0 7).bind fun x73 =>
    bd (iv st x68 [18] (fJ3_set x68 v1 x73 st)) fun x76 st =>
    if  x76 = none then
      some ((0 : Int32), st)
    else
      some ((1 : Int32), st)
  else
    (gA st v0 27).bind fun x53 =>
    (gA st v0 7).bind fun x57 =>
    bd (iv st x53 [18] (fJ3_add x53 x57 st)) fun x60 st =>
    kk41 v0 v1 st
def bX1_image_41 : Nat → Rf → Int32 → Mem → Option (Int32 × Mem)
  | 0 => fun _ _ _ => none
  | n + 1 => bX1_image_41B (bX1_image_41 n)
def fX1_image (a0 : Rf) (a1 : Int32) (st : Mem) : Option (Int32 × Mem) :=
  bd (fX1_isIn a1 (0 : Int32) (1 : Int32) st) fun x3 st =>
  if ¬ x3 = 0 then
    (gA st a0 24).bind fun x12 =>
    (gA st a0 4).bind fun x17 =>
    (uA st x12 a1 x17).bind fun st =>
    (gA st a0 25).bind fun x22 =>
    (gJ st a0 5).bind fun x27 =>
    (uJ st x22 a1 x27).bind fun st =>
    (gA st a0 26).bind fun x32 =>
    (gJ st a0 6).bind fun x37 =>
    (uJ st x32 a1 x37).bind fun st =>
    bX1_image_41 hcFuel a0 a1 st
  else
    some ((0 : Int32), st)
def bX5_go_307 (kk189 : Rf → Int32 → Int32 → Rf → Mem → Option (Unit × Mem)) (v0 : Rf) (v2 : Int32) (v3 : Int32) (v4 : Rf) (st : Mem) : Option (Unit × Mem) :=
  (gI st v0 127).bind fun x309 =>
  (pI st v0 127 (x309 + (1 : Int32))).bind fun st =>
  kk189 v0 v2 v3 v4 st
def bX5_go_271 (kk189 : Rf → Int32 → Int32 → Rf → Mem → Option (Unit × Mem)) (v0 : Rf) (v2 : Int32) (v3 : Int32) (v4 : Rf) (st : Mem) : Option (Unit × Mem) :=
  (gI st v0 127).bind fun x272 =>
  (gI st v0 129).bind fun x276 =>
  if (3 : Int32) ≤ (x272 - x276) then
    bX5_go_307 kk189 v0 v2 v3 v4 st
  else
    (gI st v0 130).bind fun x288 =>
    (gI st v0 127).bind fun x294 =>
    bd (iv st v0 [5, 13] (fX5_byteAt v0 x294 st)) fun x297 st =>
    (pI st v0 130 ((((10 : Int32) * x288) + x297) - (48 : Int32))).bind fun st =>
    bX5_go_307 kk189 v0 v2 v3 v4 st
def bX5_go_241 (kk189 : Rf → Int32 → Int32 → Rf → Mem → Option (Unit × Mem)) (v0 : Rf) (v2 : Int32) (v4 : Rf) (k0 : Int32) (st : Mem) : Option (Unit × Mem) :=
  (gI st v0 127).bind fun x243 =>
  (gI st v0 129).bind fun x247 =>
  if (8 : Int32) ≤ (x243 - x247) then
    bX5_go_271 kk189 v0 v2 k0 v4 st
  else
    (gI st v0 127).bind fun x260 =>
    bd (iv st v0 [5, 13] (fX5_byteAt v0 x260 st)) fun x263 st =>
    bd (iv st v4 [20] (fJ11_append v4 (i2cv x263) st)) fun x267 st =>
    bX5_go_271 kk189 v0 v2 k0 v4 st
def bX5_go_240 (kk189 : Rf → Int32 → Int32 → Rf → Mem → Option (Unit × Mem)) (v0 : Rf) (v2 : Int32) (v4 : Rf) (st : Mem) : Option (Unit × Mem) :=
  bX5_go_241 kk189 v0 v2 v4 (0 : Int32) st
def bX5_go_217 (kk189 : Rf → Int32 → Int32 → Rf → Mem → Option (Unit × Mem)) (v0 : Rf) (v2 : Int32) (v3 : Int32) (v4 : Rf) (st : Mem) : Option (Unit × Mem) :=
  if v3 = 0 then
    bX5_go_240 kk189 v0 v2 v4 st
  else
    (gI st v0 127).bind fun x223 =>
    bd (iv st v0 [5, 13] (fX5_byteAt v0 x223 st)) fun x226 st =>
    bd (fX5_isLetter x226 st) fun x229 st =>
    if ¬ x229 = v2 then
      bX5_go_240 kk189 v0 v2 v4 st
    else
      bX5_go_241 kk189 v0 v2 v4 (1 : Int32) st
def bX5_go_356 (k0 : Rf) (st : Mem) : Option (Unit × Mem) :=
  (pI st k0 128 (1 : Int32)).bind fun st =>
  some ((), st)
def bX5_go_353 (v2 : Int32) (k0 : Rf) (k1 : Int32) (k2 : Int32) (st : Mem) : Option (Unit × Mem) :=
  if k1 ≤ k2 then
    if v2 = 0 then
      (pI st k0 128 (3 : Int32)).bind fun st =>
      some ((), st)
    else
      (pI st k0 128 (2 : Int32)).bind fun st =>
      some ((), st)
  else
    bX5_go_356 k0 st
def bX5_go_189B (kk189 : Rf → Int32 → Int32 → Rf → Mem → Option (Unit × Mem)) (v0 : Rf) (v2 : Int32) (v3 : Int32) (v4 : Rf) (st : Mem) : Option (Unit × Mem) :=
  (gI st v0 127).bind fun x191 =>
  bd (iv st v0 [5, 13] (fX5_byteAt v0 x191 st)) fun x194 st =>
  bd (fX5_isLetter x194 st) fun x197 st =>
  if ¬ x197 = 0 then
    bX5_go_217 kk189 v0 v2 v3 v4 st
  else
    (gI st v0 127).bind fun x205 =>
    bd (iv st v0 [5, 13] (fX5_byteAt v0 x205 st)) fun x208 st =>
    bd (fX5_isDigit x208 st) fun x211 st =>
    if x211 = 0 then
      bd (iv st v4 [20] (fJ11_toString v4 st)) fun x323 st =>
      (pA st v0 132 x323).bind fun st =>
      if v3 = 0 then
        bX5_go_356 v0 st
      else
        (gI st v0 127).bind fun x335 =>
        (gI st v0 129).bind fun x339 =>
        if v2 = 0 then
          bX5_go_353 v2 v0 (x335 - x339) (3 : Int32) st
        else
          bX5_go_353 v2 v0 (x335 - x339) (8 : Int32) st
    else
      bX5_go_217 kk189 v0 v2 v3 v4 st
def bX5_go_189 : Nat → Rf → Int32 → Int32 → Rf → Mem → Option (Unit × Mem)
  | 0 => fun _ _ _ _ _ => none
  | n + 1 => bX5_go_189B (bX5_go_189 n)
def bX5_go_168 (v0 : Rf) (v1 : Int32) (st : Mem) : Option (Unit × Mem) :=
  bd (fX5_isLetter v1 st) fun x169 st =>
  (pI st v0 130 (0 : Int32)).bind fun st =>
  bd (nO st 20) fun x180 st =>
  bd (nn x180 (fJ11_init x180 st)) fun _ st =>
  bX5_go_189 hcFuel v0 x169 (1 : Int32) x180 st
def bX5_go_149 (v0 : Rf) (v1 : Int32) (k0 : Rf) (k1 : Int32) (st : Mem) : Option (Unit × Mem) :=
  (pI st k0 128 k1).bind fun st =>
  (pI st v0 131 v1).bind fun st =>
  (gI st v0 127).bind fun x159 =>
  (pI st v0 127 (x159 + (1 : Int32))).bind fun st =>
  some ((), st)
def bX5_go_94 (v0 : Rf) (st : Mem) : Option (Unit × Mem) :=
  (gI st v0 127).bind fun x95 =>
  (gI st v0 125).bind fun x99 =>
  if x95 < x99 then
    (gI st v0 127).bind fun x113 =>
    bd (iv st v0 [5, 13] (fX5_byteAt v0 x113 st)) fun x116 st =>
    bd (fX5_isLetter x116 st) fun x121 st =>
    if ¬ x121 = 0 then
      bX5_go_168 v0 x116 st
    else
      bd (fX5_isDigit x116 st) fun x128 st =>
      if ¬ x128 = 0 then
        bX5_go_168 v0 x116 st
      else
        bd (iv st (some 50 : Rf) [19] (fJ4_indexOf (some 50 : Rf) x116 st)) fun x138 st =>
        if x138 < 0 then
          bX5_go_149 v0 x116 v0 (1 : Int32) st
        else
          bX5_go_149 v0 x116 v0 (4 : Int32) st
  else
    (pI st v0 128 (0 : Int32)).bind fun st =>
    some ((), st)
def bX5_go_50 (v0 : Rf) (st : Mem) : Option (Unit × Mem) :=
  (gI st v0 127).bind fun x52 =>
  (pI st v0 129 x52).bind fun st =>
  (gI st v0 125).bind fun x59 =>
  (gI st v0 126).bind fun x63 =>
  if x59 ≤ x63 then
    bX5_go_94 v0 st
  else
    (gI st v0 129).bind fun x70 =>
    (gI st v0 126).bind fun x74 =>
    if x70 < x74 then
      bX5_go_94 v0 st
    else
      (gI st v0 126).bind fun x82 =>
      (pI st v0 129 x82).bind fun st =>
      (pI st v0 128 (5 : Int32)).bind fun st =>
      some ((), st)
def bX5_go_37 (kk0 : Rf → Mem → Option (Unit × Mem)) (v0 : Rf) (st : Mem) : Option (Unit × Mem) :=
  (gI st v0 127).bind fun x39 =>
  (pI st v0 127 (x39 + (1 : Int32))).bind fun st =>
  kk0 v0 st
def bX5_go_0B (kk0 : Rf → Mem → Option (Unit × Mem)) (v0 : Rf) (st : Mem) : Option (Unit × Mem) :=
  (gI st v0 127).bind fun x1 =>
  (gI st v0 125).bind fun x5 =>
  if x5 ≤ x1 then
    bX5_go_50 v0 st
  else
    (gI st v0 127).bind fun x13 =>
    bd (iv st v0 [5, 13] (fX5_byteAt v0 x13 st)) fun x16 st =>
    if x16 = (32 : Int32) then
      bX5_go_37 kk0 v0 st
    else
      (gI st v0 127).bind fun x26 =>
      bd (iv st v0 [5, 13] (fX5_byteAt v0 x26 st)) fun x29 st =>
      if ¬ x29 = (10 : Int32) then
        bX5_go_50 v0 st
      else
        bX5_go_37 kk0 v0 st
def bX5_go_0 : Nat → Rf → Mem → Option (Unit × Mem)
  | 0 => fun _ _ => none
  | n + 1 => bX5_go_0B (bX5_go_0 n)
def fX5_go (a0 : Rf) (st : Mem) : Option (Unit × Mem) :=
  bX5_go_0 hcFuel a0 st
def bX3_go_65B (kk65 : Rf → Int32 → Int32 → Mem → Option (Unit × Mem)) (v0 : Rf) (v1 : Int32) (v3 : Int32) (st : Mem) : Option (Unit × Mem) :=
  (gA st v0 49).bind fun x67 =>
  (aI st x67 v1).bind fun x71 =>
  if x71 < v3 then
    some ((), st)
  else
    (gA st v0 53).bind fun x76 =>
    (aJ st x76 v3).bind fun x81 =>
    (uJ st x76 v3 (x81 ||| (shlL (1 : Int64) v1))).bind fun st =>
    kk65 v0 v1 (v3 + 1) st
def bX3_go_65 : Nat → Rf → Int32 → Int32 → Mem → Option (Unit × Mem)
  | 0 => fun _ _ _ _ => none
  | n + 1 => bX3_go_65B (bX3_go_65 n)
def bX3_go_62 (v0 : Rf) (v1 : Int32) (k0 : Rf) (k1 : Int32) (k2 : Int32) (st : Mem) : Option (Unit × Mem) :=
  (uI st k0 k1 k2).bind fun st =>
  bX3_go_65 hcFuel v0 v1 (1 : Int32) st
def bX3_go_25 (v0 : Rf) (v1 : Int32) (k0 : Rf) (k1 : Int32) (k2 : Int32) (st : Mem) : Option (Unit × Mem) :=
  (uI st k0 k1 k2).bind fun st =>
  (gA st v0 51).bind fun x27 =>
  (gA st v0 49).bind fun x32 =>
  (aI st x32 v1).bind fun x36 =>
  (gA st v0 48).bind fun x38 =>
  (aI st x38 v1).bind fun x42 =>
  if x36 = x42 then
    (gA st v0 50).bind fun x52 =>
    (aI st x52 v1).bind fun x56 =>
    bX3_go_62 v0 v1 x27 v1 (mminI (3 : Int32) (x56 + (1 : Int32))) st
  else
    bX3_go_62 v0 v1 x27 v1 (0 : Int32) st
def fX3_go (a0 : Rf) (a1 : Int32) (st : Mem) : Option (Unit × Mem) :=
  bd (iv st a0 [3] (fX3_forced a0 a1 st)) fun x2 st =>
  (gA st a0 49).bind fun x7 =>
  if x2 = (-1 : Int32) then
    bd (iv st a0 [3] (fX3_likes a0 a1 st)) fun x22 st =>
    bX3_go_25 a0 a1 x7 a1 x22 st
  else
    bX3_go_25 a0 a1 x7 a1 x2 st
def fX5_end (a0 : Rf) (st : Mem) : Option ((Unit ⊕ Nat) × Mem) :=
  bd (iv st a0 [13, 5] (fX5_isSign a0 (59 : Int32) st)) fun x4 st =>
  bt (iv st a0 [13, 5] (fX5_need a0 x4 (1 : Int32) st)) fun _ st =>
  bd (iv st a0 [13, 5] (fX5_go a0 st)) fun _ st =>
  some (.inl (), st)
def fX5_number (a0 : Rf) (a1 : Int32) (a2 : Int32) (st : Mem) : Option ((Int32 ⊕ Nat) × Mem) :=
  bt (iv st a0 [13, 5] (fX5_hold a0 a1 a2 st)) fun x3 st =>
  bd (iv st a0 [13, 5] (fX5_go a0 st)) fun _ st =>
  some (.inl x3, st)
def bX6_and_5B (rc : Rf → Mem → Option ((Rf ⊕ Nat) × Mem)) (kk5 : Rf → Rf → Mem → Option ((Rf ⊕ Nat) × Mem)) (v0 : Rf) (v1 : Rf) (st : Mem) : Option ((Rf ⊕ Nat) × Mem) :=
  bd (iv st v0 [5] (fX5_is v0 (some 28 : Rf) st)) fun x8 st =>
  if x8 = 0 then
    some (.inl v1, st)
  else
    bd (iv st v0 [5] (fX5_go v0 st)) fun _ st =>
    bd (nO st 11) fun x18 st =>
    bt (iv st v0 [5] (rc v0 st)) fun x24 st =>
    bd (nn x18 (fX15_init x18 v1 x24 st)) fun _ st =>
    kk5 v0 x18 st
def bX6_and_5 (rc : Rf → Mem → Option ((Rf ⊕ Nat) × Mem)) : Nat → Rf → Rf → Mem → Option ((Rf ⊕ Nat) × Mem)
  | 0 => fun _ _ _ => none
  | n + 1 => bX6_and_5B rc (bX6_and_5 rc n)
def fX6_and (rc : Rf → Mem → Option ((Rf ⊕ Nat) × Mem)) (a0 : Rf) (st : Mem) : Option ((Rf ⊕ Nat) × Mem) :=
  bt (iv st a0 [5] (rc a0 st)) fun x1 st =>
  bX6_and_5 rc hcFuel a0 x1 st
def bX6_row_216 (kk152 : Rf → Int32 → Mem → Option ((Unit ⊕ Nat) × Mem)) (v0 : Rf) (v1 : Int32) (k0 : Rf) (k1 : Int32) (k2 : Int32) (st : Mem) : Option ((Unit ⊕ Nat) × Mem) :=
  (uI st k0 k1 k2).bind fun st =>
  kk152 v0 (v1 + 1) st
def bX6_row_152B (kk152 : Rf → Int32 → Mem → Option ((Unit ⊕ Nat) × Mem)) (v0 : Rf) (v1 : Int32) (st : Mem) : Option ((Unit ⊕ Nat) × Mem) :=
  (gA st v0 133).bind fun x154 =>
  (gI st x154 29).bind fun x157 =>
  if x157 ≤ v1 then
    (gA st v0 133).bind fun x224 =>
    (gI st x224 28).bind fun x228 =>
    (pI st x224 28 (x228 + (1 : Int32))).bind fun st =>
    bd (iv st v0 [5] (fX5_go v0 st)) fun _ st =>
    some (.inl (), st)
  else
    (gA st v0 133).bind fun x164 =>
    (gA st x164 34).bind fun x167 =>
    (gA st v0 133).bind fun x171 =>
    (gI st x171 29).bind fun x174 =>
    (gA st v0 133).bind fun x178 =>
    (gI st x178 28).bind fun x181 =>
    (gA st v0 132).bind fun x188 =>
    bd (iv st x188 [19] (fJ4_charAt x188 v1 st)) fun x192 st =>
    if ¬ x192 = (120 : Int32) then
      (gA st v0 132).bind fun x206 =>
      bd (iv st x206 [19] (fJ4_charAt x206 v1 st)) fun x210 st =>
      bX6_row_216 kk152 v0 v1 x167 ((x174 * x181) + v1) (x210 - (97 : Int32)) st
    else
      bX6_row_216 kk152 v0 v1 x167 ((x174 * x181) + v1) (9 : Int32) st
def bX6_row_152 : Nat → Rf → Int32 → Mem → Option ((Unit ⊕ Nat) × Mem)
  | 0 => fun _ _ _ => none
  | n + 1 => bX6_row_152B (bX6_row_152 n)
def bX6_row_126 (kk83 : Rf → Int32 → Mem → Option ((Unit ⊕ Nat) × Mem)) (v0 : Rf) (v1 : Int32) (k0 : Rf) (k1 : Int32) (st : Mem) : Option ((Unit ⊕ Nat) × Mem) :=
  bt (iv st k0 [5] (fX5_need k0 k1 (2 : Int32) st)) fun _ st =>
  kk83 v0 (v1 + 1) st
def bX6_row_121 (kk83 : Rf → Int32 → Mem → Option ((Unit ⊕ Nat) × Mem)) (v0 : Rf) (v1 : Int32) (k0 : Rf) (st : Mem) : Option ((Unit ⊕ Nat) × Mem) :=
  bX6_row_126 kk83 v0 v1 k0 (1 : Int32) st
def bX6_row_83B (kk83 : Rf → Int32 → Mem → Option ((Unit ⊕ Nat) × Mem)) (v0 : Rf) (v1 : Int32) (st : Mem) : Option ((Unit ⊕ Nat) × Mem) :=
  (gA st v0 132).bind fun x85 =>
  bd (iv st x85 [19] (fJ4_length x85 st)) fun x88 st =>
  if x88 ≤ v1 then
    (gA st v0 133).bind fun x137 =>
    (gA st v0 132).bind fun x141 =>
    bd (iv st x141 [19] (fJ4_length x141 st)) fun x144 st =>
    (pI st x137 29 x144).bind fun st =>
    bX6_row_152 hcFuel v0 (0 : Int32) st
  else
    (gA st v0 132).bind fun x96 =>
    bd (iv st x96 [19] (fJ4_charAt x96 v1 st)) fun x100 st =>
    if x100 = (120 : Int32) then
      bX6_row_121 kk83 v0 v1 v0 st
    else
      (gA st v0 132).bind fun x109 =>
      bd (iv st x109 [19] (fJ4_charAt x109 v1 st)) fun x113 st =>
      if (102 : Int32) < x113 then
        bX6_row_126 kk83 v0 v1 v0 (0 : Int32) st
      else
        bX6_row_121 kk83 v0 v1 v0 st
def bX6_row_83 : Nat → Rf → Int32 → Mem → Option ((Unit ⊕ Nat) × Mem)
  | 0 => fun _ _ _ => none
  | n + 1 => bX6_row_83B (bX6_row_83 n)
def bX6_row_77 (v0 : Rf) (k0 : Rf) (k1 : Int32) (st : Mem) : Option ((Unit ⊕ Nat) × Mem) :=
  bt (iv st k0 [5] (fX5_need k0 k1 (2 : Int32) st)) fun _ st =>
  bX6_row_83 hcFuel v0 (0 : Int32) st
def bX6_row_72 (v0 : Rf) (k0 : Rf) (st : Mem) : Option ((Unit ⊕ Nat) × Mem) :=
  bX6_row_77 v0 k0 (1 : Int32) st
def bX6_row_40 (v0 : Rf) (k0 : Rf) (k1 : Int32) (st : Mem) : Option ((Unit ⊕ Nat) × Mem) :=
  bt (iv st k0 [5] (fX5_need k0 k1 (1 : Int32) st)) fun _ st =>
  (gA st v0 133).bind fun x46 =>
  (gI st x46 28).bind fun x49 =>
  if x49 = 0 then
    bX6_row_72 v0 v0 st
  else
    (gA st v0 132).bind fun x56 =>
    bd (iv st x56 [19] (fJ4_length x56 st)) fun x59 st =>
    (gA st v0 133).bind fun x63 =>
    (gI st x63 29).bind fun x66 =>
    if ¬ x59 = x66 then
      bX6_row_77 v0 v0 (0 : Int32) st
    else
      bX6_row_72 v0 v0 st
def bX6_row_18 (v0 : Rf) (k0 : Rf) (k1 : Int32) (st : Mem) : Option ((Unit ⊕ Nat) × Mem) :=
  bt (iv st k0 [5] (fX5_need k0 k1 (4 : Int32) st)) fun _ st =>
  bd (iv st v0 [5] (fX5_go v0 st)) fun _ st =>
  (gI st v0 128).bind fun x28 =>
  if ¬ x28 = (2 : Int32) then
    bX6_row_40 v0 v0 (0 : Int32) st
  else
    bX6_row_40 v0 v0 (1 : Int32) st
def fX6_row (a0 : Rf) (st : Mem) : Option ((Unit ⊕ Nat) × Mem) :=
  (gA st a0 133).bind fun x2 =>
  (gI st x2 28).bind fun x5 =>
  if (8 : Int32) ≤ x5 then
    bX6_row_18 a0 a0 (0 : Int32) st
  else
    bX6_row_18 a0 a0 (1 : Int32) st
def bX6_rowTold_82 (v0 : Rf) (v2 : Int32) (st : Mem) : Option ((Int32 ⊕ Nat) × Mem) :=
  bd (iv st v0 [5] (fX5_go v0 st)) fun _ st =>
  some (.inl v2, st)
def bX6_rowTold_47 (v0 : Rf) (v1 : Int32) (v2 : Int32) (k0 : Rf) (k1 : Int32) (st : Mem) : Option ((Int32 ⊕ Nat) × Mem) :=
  bt (iv st k0 [5] (fX5_need k0 k1 (3 : Int32) st)) fun _ st =>
  if v1 = 0 then
    (gI st v0 136).bind fun x72 =>
    (pI st v0 136 (x72 ||| (shlI (1 : Int32) v2))).bind fun st =>
    bX6_rowTold_82 v0 v2 st
  else
    (gI st v0 135).bind fun x57 =>
    (pI st v0 135 (x57 ||| (shlI (1 : Int32) v2))).bind fun st =>
    bX6_rowTold_82 v0 v2 st
def bX6_rowTold_35 (v0 : Rf) (v1 : Int32) (v2 : Int32) (k0 : Rf) (k1 : Int32) (st : Mem) : Option ((Int32 ⊕ Nat) × Mem) :=
  bd (fX1_has k1 v2 st) fun x36 st =>
  if ¬ x36 = 0 then
    bX6_rowTold_47 v0 v1 v2 k0 (0 : Int32) st
  else
    bX6_rowTold_47 v0 v1 v2 k0 (1 : Int32) st
def fX6_rowTold (a0 : Rf) (a1 : Int32) (st : Mem) : Option ((Int32 ⊕ Nat) × Mem) :=
  bd (iv st a0 [5] (fX5_go a0 st)) fun _ st =>
  (gA st a0 133).bind fun x7 =>
  (gI st x7 28).bind fun x10 =>
  bt (iv st a0 [5] (fX5_hold a0 (0 : Int32) (x10 - (1 : Int32)) st)) fun x15 st =>
  if a1 = 0 then
    (gI st a0 136).bind fun x32 =>
    bX6_rowTold_35 a0 a1 x15 a0 x32 st
  else
    (gI st a0 135).bind fun x25 =>
    bX6_rowTold_35 a0 a1 x15 a0 x25 st
def bX3_step_127 (kk85 : Rf → Int32 → Mem → Option (Unit × Mem)) (v0 : Rf) (v3 : Int32) (st : Mem) : Option (Unit × Mem) :=
  bd (iv st v0 [3] (fX3_go v0 v3 st)) fun _ st =>
  kk85 v0 (v3 + 1) st
def bX3_step_85B (kk85 : Rf → Int32 → Mem → Option (Unit × Mem)) (v0 : Rf) (v3 : Int32) (st : Mem) : Option (Unit × Mem) :=
  (gA st v0 41).bind fun x87 =>
  bd (iv st x87 [2] (fX2_size x87 st)) fun x90 st =>
  if x90 ≤ v3 then
    some ((), st)
  else
    (gA st v0 41).bind fun x97 =>
    (gI st x97 33).bind fun x100 =>
    if x100 = 0 then
      bX3_step_127 kk85 v0 v3 st
    else
      (gA st v0 41).bind fun x108 =>
      (gI st x108 29).bind fun x111 =>
      (rmI v3 x111).bind fun x114 =>
      if ¬ x114 = 0 then
        bX3_step_127 kk85 v0 v3 st
      else
        (pJ st v0 54 ((shlL (1 : Int64) v3) - (1 : Int64))).bind fun st =>
        bX3_step_127 kk85 v0 v3 st
def bX3_step_85 : Nat → Rf → Int32 → Mem → Option (Unit × Mem)
  | 0 => fun _ _ _ => none
  | n + 1 => bX3_step_85B (bX3_step_85 n)
def fX3_step (a0 : Rf) (st : Mem) : Option (Unit × Mem) :=
  (gA st a0 48).bind fun x1 =>
  (gA st a0 49).bind fun x7 =>
  (pA st a0 48 x7).bind fun st =>
  (pA st a0 49 x1).bind fun st =>
  (gA st a0 50).bind fun x19 =>
  (gA st a0 51).bind fun x25 =>
  (pA st a0 50 x25).bind fun st =>
  (pA st a0 51 x19).bind fun st =>
  (gA st a0 53).bind fun x37 =>
  (gA st a0 52).bind fun x42 =>
  (cpy st x37 (0 : Int32) x42 (0 : Int32) (3 : Int32)).bind fun st =>
  (gI st a0 44).bind fun x52 =>
  (pI st a0 44 (x52 + (1 : Int32))).bind fun st =>
  bd (iv st a0 [3] (fX3_cue a0 st)) fun _ st =>
  (pJ st a0 54 (0 : Int64)).bind fun st =>
  (gA st a0 53).bind fun x70 =>
  (uJ st x70 (1 : Int32) (0 : Int64)).bind fun st =>
  (gA st a0 53).bind fun x77 =>
  (uJ st x77 (2 : Int32) (0 : Int64)).bind fun st =>
  bX3_step_85 hcFuel a0 (0 : Int32) st
def bX6_or_5B (rc : Rf → Mem → Option ((Rf ⊕ Nat) × Mem)) (kk5 : Rf → Rf → Mem → Option ((Rf ⊕ Nat) × Mem)) (v0 : Rf) (v1 : Rf) (st : Mem) : Option ((Rf ⊕ Nat) × Mem) :=
  bd (iv st v0 [5] (fX5_is v0 (some 26 : Rf) st)) fun x8 st =>
  if x8 = 0 then
    some (.inl v1, st)
  else
    bd (iv st v0 [5] (fX5_go v0 st)) fun _ st =>
    bd (nO st 12) fun x18 st =>
    bt (iv st v0 [5] (fX6_and rc v0 st)) fun x24 st =>
    bd (nn x18 (fX16_init x18 v1 x24 st)) fun _ st =>
    kk5 v0 x18 st
def bX6_or_5 (rc : Rf → Mem → Option ((Rf ⊕ Nat) × Mem)) : Nat → Rf → Rf → Mem → Option ((Rf ⊕ Nat) × Mem)
  | 0 => fun _ _ _ => none
  | n + 1 => bX6_or_5B rc (bX6_or_5 rc n)
def fX6_or (rc : Rf → Mem → Option ((Rf ⊕ Nat) × Mem)) (a0 : Rf) (st : Mem) : Option ((Rf ⊕ Nat) × Mem) :=
  bt (iv st a0 [5] (fX6_and rc a0 st)) fun x1 st =>
  bX6_or_5 rc hcFuel a0 x1 st
def bX17_cue_80 (v0 : Rf) (v1 : Int32) (v2 : Int32) (v3 : Int32) (st : Mem) : Option ((Rf ⊕ Nat) × Mem) :=
  (gA st v0 148).bind fun x83 =>
  (gI st x83 28).bind fun x86 =>
  bt (iv st v0 [13] (fX5_number v0 (0 : Int32) (x86 - (1 : Int32)) st)) fun x91 st =>
  (gA st v0 148).bind fun x99 =>
  (gI st x99 29).bind fun x102 =>
  bt (iv st v0 [13] (fX5_hold v0 (0 : Int32) (x102 - (1 : Int32)) st)) fun x107 st =>
  (gA st v0 148).bind fun x114 =>
  (gA st v0 148).bind fun x118 =>
  (gI st x118 29).bind fun x121 =>
  bd (iv st x114 [2] (fX2_isSeat x114 ((x121 * x91) + x107) st)) fun x130 st =>
  bt (iv st v0 [13] (fX5_need v0 x130 (2 : Int32) st)) fun _ st =>
  bd (iv st v0 [13] (fX5_go v0 st)) fun _ st =>
  (gA st v0 148).bind fun x142 =>
  (gI st x142 29).bind fun x145 =>
  (some ((x145 * x91) + x107)).bind fun y154 =>
  if v2 = 0 then
    if v3 = 0 then
      bd (nO st 15) fun x190 st =>
      bd (nn x190 (fX20_init x190 v1 y154 st)) fun _ st =>
      some (.inl x190, st)
    else
      bd (nO st 17) fun x177 st =>
      bd (nn x177 (fX22_init x177 v1 y154 st)) fun _ st =>
      some (.inl x177, st)
  else
    bd (nO st 16) fun x160 st =>
    bd (nn x160 (fX21_init x160 v1 y154 st)) fun _ st =>
    some (.inl x160, st)
def bX17_cue_50 (v0 : Rf) (v1 : Int32) (v2 : Int32) (v3 : Int32) (v4 : Int32) (k0 : Rf) (k1 : Int32) (st : Mem) : Option ((Rf ⊕ Nat) × Mem) :=
  bt (iv st k0 [13] (fX5_need k0 k1 (1 : Int32) st)) fun _ st =>
  bd (iv st v0 [13] (fX5_go v0 st)) fun _ st =>
  if ¬ v2 = 0 then
    bX17_cue_80 v0 v1 v2 v3 st
  else
    if ¬ v3 = 0 then
      bX17_cue_80 v0 v1 v2 v3 st
    else
      if ¬ v4 = 0 then
        bX17_cue_80 v0 v1 v2 v3 st
      else
        bd (nO st 14) fun x71 st =>
        bd (nn x71 (fX19_init x71 v1 st)) fun _ st =>
        some (.inl x71, st)
def bX17_cue_45 (v0 : Rf) (v1 : Int32) (v2 : Int32) (v3 : Int32) (v4 : Int32) (k0 : Rf) (st : Mem) : Option ((Rf ⊕ Nat) × Mem) :=
  bX17_cue_50 v0 v1 v2 v3 v4 k0 (1 : Int32) st
def fX17_cue (a0 : Rf) (a1 : Int32) (st : Mem) : Option ((Rf ⊕ Nat) × Mem) :=
  bd (iv st a0 [13] (fX5_is a0 (some 2 : Rf) st)) fun x3 st =>
  bd (iv st a0 [13] (fX5_is a0 (some 4 : Rf) st)) fun x10 st =>
  bd (iv st a0 [13] (fX5_is a0 (some 6 : Rf) st)) fun x17 st =>
  if ¬ x3 = 0 then
    bX17_cue_45 a0 a1 x3 x10 x17 a0 st
  else
    if ¬ x10 = 0 then
      bX17_cue_45 a0 a1 x3 x10 x17 a0 st
    else
      if ¬ x17 = 0 then
        bX17_cue_45 a0 a1 x3 x10 x17 a0 st
      else
        bd (iv st a0 [13] (fX5_is a0 (some 8 : Rf) st)) fun x39 st =>
        if x39 = 0 then
          bX17_cue_50 a0 a1 x3 x10 x17 a0 (0 : Int32) st
        else
          bX17_cue_45 a0 a1 x3 x10 x17 a0 st
def bX6_compare_49 (v0 : Rf) (v1 : Int32) (v2 : Int32) (v3 : Int32) (k0 : Rf) (k1 : Int32) (st : Mem) : Option ((Rf ⊕ Nat) × Mem) :=
  bt (iv st k0 [5] (fX5_need k0 k1 (1 : Int32) st)) fun _ st =>
  (gI st v0 131).bind fun x54 =>
  bd (iv st v0 [5] (fX5_go v0 st)) fun _ st =>
  bt (iv st v0 [5] (fX5_number v0 (0 : Int32) (999 : Int32) st)) fun x68 st =>
  if v1 = (-1 : Int32) then
    if v2 = 0 then
      bd (nO st 10) fun x112 st =>
      bd (nn x112 (fX13_init x112 x54 x68 st)) fun _ st =>
      some (.inl x112, st)
    else
      bd (nO st 9) fun x98 st =>
      bd (nn x98 (fX12_init x98 x54 x68 st)) fun _ st =>
      some (.inl x98, st)
  else
    bd (nO st 8) fun x78 st =>
    bd (nn x78 (fX11_init x78 v1 v3 x54 x68 st)) fun _ st =>
    some (.inl x78, st)
def bX6_compare_44 (v0 : Rf) (v1 : Int32) (v2 : Int32) (v3 : Int32) (k0 : Rf) (st : Mem) : Option ((Rf ⊕ Nat) × Mem) :=
  bX6_compare_49 v0 v1 v2 v3 k0 (1 : Int32) st
def bX6_compare_15 (v0 : Rf) (v1 : Int32) (v2 : Int32) (k0 : Int32) (st : Mem) : Option ((Rf ⊕ Nat) × Mem) :=
  bd (iv st v0 [5] (fX5_isSign v0 (60 : Int32) st)) fun x20 st =>
  if ¬ x20 = 0 then
    bX6_compare_44 v0 v1 v2 k0 v0 st
  else
    bd (iv st v0 [5] (fX5_isSign v0 (61 : Int32) st)) fun x29 st =>
    if ¬ x29 = 0 then
      bX6_compare_44 v0 v1 v2 k0 v0 st
    else
      bd (iv st v0 [5] (fX5_isSign v0 (62 : Int32) st)) fun x38 st =>
      if x38 = 0 then
        bX6_compare_49 v0 v1 v2 k0 v0 (0 : Int32) st
      else
        bX6_compare_44 v0 v1 v2 k0 v0 st
def fX6_compare (a0 : Rf) (a1 : Int32) (a2 : Int32) (st : Mem) : Option ((Rf ⊕ Nat) × Mem) :=
  if ¬ a1 = (-1 : Int32) then
    bt (iv st a0 [5] (fX5_number a0 (1 : Int32) (2 : Int32) st)) fun x12 st =>
    bX6_compare_15 a0 a1 a2 x12 st
  else
    bX6_compare_15 a0 a1 a2 (0 : Int32) st
def bX6_once_131 (v0 : Rf) (v1 : Int32) (st : Mem) : Option ((Unit ⊕ Nat) × Mem) :=
  if ¬ v1 = (2 : Int32) then
    some (.inl (), st)
  else
    (gA st v0 133).bind fun x137 =>
    (pI st x137 33 (1 : Int32)).bind fun st =>
    some (.inl (), st)
def bX6_once_111 (v0 : Rf) (v1 : Int32) (st : Mem) : Option ((Unit ⊕ Nat) × Mem) :=
  if ¬ v1 = (1 : Int32) then
    bX6_once_131 v0 v1 st
  else
    (gA st v0 133).bind fun x117 =>
    bt (iv st v0 [5] (fX5_number v0 (0 : Int32) (600 : Int32) st)) fun x125 st =>
    (pI st x117 31 x125).bind fun st =>
    bX6_once_131 v0 v1 st
def bX6_once_73 (v0 : Rf) (v1 : Int32) (k0 : Rf) (k1 : Int32) (st : Mem) : Option ((Unit ⊕ Nat) × Mem) :=
  bt (iv st k0 [5] (fX5_need k0 k1 (3 : Int32) st)) fun _ st =>
  (gI st v0 134).bind fun x79 =>
  (pI st v0 134 (x79 ||| (shlI (1 : Int32) v1))).bind fun st =>
  bd (iv st v0 [5] (fX5_go v0 st)) fun _ st =>
  if ¬ v1 = 0 then
    bX6_once_111 v0 v1 st
  else
    (gA st v0 133).bind fun x98 =>
    bt (iv st v0 [5] (fX5_number v0 (1 : Int32) (64 : Int32) st)) fun x105 st =>
    (pI st x98 30 x105).bind fun st =>
    bX6_once_111 v0 v1 st
def bX6_once_52 (v0 : Rf) (v1 : Int32) (k0 : Rf) (k1 : Int32) (st : Mem) : Option ((Unit ⊕ Nat) × Mem) :=
  bt (iv st k0 [5] (fX5_need k0 k1 (1 : Int32) st)) fun _ st =>
  (gI st v0 134).bind fun x58 =>
  bd (fX1_has x58 v1 st) fun x62 st =>
  if ¬ x62 = 0 then
    bX6_once_73 v0 v1 v0 (0 : Int32) st
  else
    bX6_once_73 v0 v1 v0 (1 : Int32) st
def bX6_once_40 (v0 : Rf) (k0 : Int32) (st : Mem) : Option ((Unit ⊕ Nat) × Mem) :=
  if k0 = (-1 : Int32) then
    bX6_once_52 v0 k0 v0 (0 : Int32) st
  else
    bX6_once_52 v0 k0 v0 (1 : Int32) st
def fX6_once (a0 : Rf) (st : Mem) : Option ((Unit ⊕ Nat) × Mem) :=
  bd (iv st a0 [5] (fX5_is a0 (some 20 : Rf) st)) fun x3 st =>
  if x3 = 0 then
    bd (iv st a0 [5] (fX5_is a0 (some 22 : Rf) st)) fun x16 st =>
    if x16 = 0 then
      bd (iv st a0 [5] (fX5_is a0 (some 24 : Rf) st)) fun x29 st =>
      if x29 = 0 then
        bX6_once_40 a0 (-1 : Int32) st
      else
        bX6_once_40 a0 (2 : Int32) st
    else
      bX6_once_40 a0 (1 : Int32) st
  else
    bX6_once_40 a0 (0 : Int32) st
def bX1_again_66B (kk54 : Rf → Int32 → Int32 → Mem → Option (Int32 × Mem)) (kk66 : Rf → Int32 → Int32 → Int32 → Mem → Option (Int32 × Mem)) (v0 : Rf) (v1 : Int32) (v3 : Int32) (v4 : Int32) (st : Mem) : Option (Int32 × Mem) :=
  if (600 : Int32) < v4 then
    kk54 v0 v1 (v3 + 1) st
  else
    bd (iv st v0 [1] (fX1_areLike v0 v3 v4 st)) fun x78 st =>
    if x78 = 0 then
      kk66 v0 v1 v3 (v4 + 1) st
    else
      if ¬ v1 = 0 then
        some ((v4 - v3), st)
      else
        some (v3, st)
def bX1_again_66 (kk54 : Rf → Int32 → Int32 → Mem → Option (Int32 × Mem)) : Nat → Rf → Int32 → Int32 → Int32 → Mem → Option (Int32 × Mem)
  | 0 => fun _ _ _ _ _ => none
  | n + 1 => bX1_again_66B kk54 (bX1_again_66 kk54 n)
def bX1_again_54B (kk54 : Rf → Int32 → Int32 → Mem → Option (Int32 × Mem)) (v0 : Rf) (v1 : Int32) (v3 : Int32) (st : Mem) : Option (Int32 × Mem) :=
  if (600 : Int32) ≤ v3 then
    some ((-1 : Int32), st)
  else
    bX1_again_66 kk54 hcFuel v0 v1 v3 (v3 + (1 : Int32)) st
def bX1_again_54 : Nat → Rf → Int32 → Int32 → Mem → Option (Int32 × Mem)
  | 0 => fun _ _ _ _ => none
  | n + 1 => bX1_again_54B (bX1_again_54 n)
def bX1_again_24B (kk24 : Rf → Int32 → Rf → Mem → Option (Int32 × Mem)) (v0 : Rf) (v1 : Int32) (v2 : Rf) (st : Mem) : Option (Int32 × Mem) :=
  (gI st v2 44).bind fun x25 =>
  if (600 : Int32) ≤ x25 then
    bd (iv st v0 [1] (fX1_quiet v0 st)) fun x50 st =>
    bX1_again_54 hcFuel v0 v1 x50 st
  else
    bd (iv st v2 [3] (fX3_step v2 st)) fun _ st =>
    (gA st v0 10).bind fun x40 =>
    bd (iv st v2 [3] (fX3_pack v2 x40 st)) fun _ st =>
    kk24 v0 v1 v2 st
def bX1_again_24 : Nat → Rf → Int32 → Rf → Mem → Option (Int32 × Mem)
  | 0 => fun _ _ _ _ => none
  | n + 1 => bX1_again_24B (bX1_again_24 n)
def fX1_again (a0 : Rf) (a1 : Int32) (st : Mem) : Option (Int32 × Mem) :=
  bd (fX1_isIn a1 (0 : Int32) (1 : Int32) st) fun x3 st =>
  if ¬ x3 = 0 then
    bd (iv st a0 [1] (fX1_tonight a0 st)) fun x12 st =>
    (gA st a0 10).bind fun x18 =>
    bd (iv st x12 [3] (fX3_pack x12 x18 st)) fun _ st =>
    bX1_again_24 hcFuel a0 a1 x12 st
  else
    some ((-1 : Int32), st)
def bX1_calls_56 (kk30 : Int32 → Rf → Int32 → Int32 → Mem → Option (Int32 × Mem)) (v1 : Int32) (v2 : Rf) (v4 : Int32) (st : Mem) : Option (Int32 × Mem) :=
  bd (iv st v2 [3] (fX3_isUp v2 st)) fun x57 st =>
  kk30 v1 v2 x57 v4 st
def bX1_calls_30B (kk30 : Int32 → Rf → Int32 → Int32 → Mem → Option (Int32 × Mem)) (v1 : Int32) (v2 : Rf) (v3 : Int32) (v4 : Int32) (st : Mem) : Option (Int32 × Mem) :=
  (gI st v2 44).bind fun x31 =>
  if v1 ≤ x31 then
    some (v4, st)
  else
    bd (iv st v2 [3] (fX3_step v2 st)) fun _ st =>
    bd (iv st v2 [3] (fX3_isUp v2 st)) fun x43 st =>
    if x43 = 0 then
      bX1_calls_56 kk30 v1 v2 v4 st
    else
      if ¬ v3 = 0 then
        bX1_calls_56 kk30 v1 v2 v4 st
      else
        bX1_calls_56 kk30 v1 v2 (v4 + 1) st
def bX1_calls_30 : Nat → Int32 → Rf → Int32 → Int32 → Mem → Option (Int32 × Mem)
  | 0 => fun _ _ _ _ _ => none
  | n + 1 => bX1_calls_30B (bX1_calls_30 n)
def bX1_calls_28 (v1 : Int32) (v2 : Rf) (v3 : Int32) (k0 : Int32) (st : Mem) : Option (Int32 × Mem) :=
  bX1_calls_30 hcFuel v1 v2 v3 k0 st
def fX1_calls (a0 : Rf) (a1 : Int32) (st : Mem) : Option (Int32 × Mem) :=
  bd (fX1_isMoment a1 st) fun x1 st =>
  if ¬ x1 = 0 then
    bd (iv st a0 [1] (fX1_tonight a0 st)) fun x10 st =>
    bd (iv st x10 [3] (fX3_isUp x10 st)) fun x15 st =>
    if x15 = 0 then
      bX1_calls_28 a1 x10 x15 (0 : Int32) st
    else
      bX1_calls_28 a1 x10 x15 (1 : Int32) st
  else
    some ((-1 : Int32), st)
def bX1_parts_74B (kk71 : Rf → Rf → Rf → Mem → Option (Int32 × Mem)) (kk74 : Rf → Rf → Rf → Int32 → Mem → Option (Int32 × Mem)) (v0 : Rf) (v3 : Rf) (v4 : Rf) (v5 : Int32) (st : Mem) : Option (Int32 × Mem) :=
  (gA st v0 4).bind fun x77 =>
  bd (iv st x77 [2] (fX2_size x77 st)) fun x80 st =>
  if x80 ≤ v5 then
    (gI st v3 44).bind fun x116 =>
    if ¬ x116 = (60 : Int32) then
      bd (iv st v3 [3] (fX3_step v3 st)) fun _ st =>
      bd (iv st v4 [3] (fX3_step v4 st)) fun _ st =>
      kk71 v0 v3 v4 st
    else
      some ((-1 : Int32), st)
  else
    (gA st v3 49).bind fun x87 =>
    (aI st x87 v5).bind fun x92 =>
    (gA st v4 49).bind fun x95 =>
    (aI st x95 v5).bind fun x100 =>
    if x92 = x100 then
      kk74 v0 v3 v4 (v5 + 1) st
    else
      (gI st v3 44).bind fun x105 =>
      some (x105, st)
def bX1_parts_74 (kk71 : Rf → Rf → Rf → Mem → Option (Int32 × Mem)) : Nat → Rf → Rf → Rf → Int32 → Mem → Option (Int32 × Mem)
  | 0 => fun _ _ _ _ _ => none
  | n + 1 => bX1_parts_74B kk71 (bX1_parts_74 kk71 n)
def bX1_parts_71B (kk71 : Rf → Rf → Rf → Mem → Option (Int32 × Mem)) (v0 : Rf) (v3 : Rf) (v4 : Rf) (st : Mem) : Option (Int32 × Mem) :=
  bX1_parts_74 kk71 hcFuel v0 v3 v4 (0 : Int32) st
def bX1_parts_71 : Nat → Rf → Rf → Rf → Mem → Option (Int32 × Mem)
  | 0 => fun _ _ _ _ => none
  | n + 1 => bX1_parts_71B (bX1_parts_71 n)
def fX1_parts (a0 : Rf) (a1 : Int32) (a2 : Int32) (st : Mem) : Option (Int32 × Mem) :=
  (gA st a0 4).bind fun x1 =>
  bd (iv st x1 [2] (fX2_isSeat x1 a1 st)) fun x5 st =>
  if x5 = 0 then
    some ((-1 : Int32), st)
  else
    (gA st a0 4).bind fun x12 =>
    bd (iv st x12 [2] (fX2_isSeat x12 a2 st)) fun x16 st =>
    if ¬ x16 = 0 then
      (gA st a0 8).bind fun x25 =>
      (gA st a0 4).bind fun x29 =>
      (gA st a0 7).bind fun x33 =>
      (gJ st a0 6).bind fun x40 =>
      bd (iv st x25 [3] (fX3_begin x25 x29 x33 (shlL (1 : Int64) a1) x40 st)) fun x43 st =>
      (gA st a0 9).bind fun x48 =>
      (gA st a0 4).bind fun x52 =>
      (gA st a0 7).bind fun x56 =>
      (gJ st a0 6).bind fun x63 =>
      bd (iv st x48 [3] (fX3_begin x48 x52 x56 (shlL (1 : Int64) a2) x63 st)) fun x66 st =>
      bX1_parts_71 hcFuel a0 x43 x66 st
    else
      some ((-1 : Int32), st)
def bX1_stands_45 (v1 : Int32) (v2 : Rf) (st : Mem) : Option (Int32 × Mem) :=
  (gA st v2 49).bind fun x46 =>
  (aI st x46 v1).bind fun x50 =>
  if ¬ x50 = (2 : Int32) then
    some ((-1 : Int32), st)
  else
    (gI st v2 44).bind fun x56 =>
    some (x56, st)
def bX1_stands_18B (kk18 : Int32 → Rf → Mem → Option (Int32 × Mem)) (v1 : Int32) (v2 : Rf) (st : Mem) : Option (Int32 × Mem) :=
  (gA st v2 49).bind fun x19 =>
  (aI st x19 v1).bind fun x23 =>
  if (2 : Int32) ≤ x23 then
    bX1_stands_45 v1 v2 st
  else
    (gI st v2 44).bind fun x29 =>
    if (600 : Int32) ≤ x29 then
      bX1_stands_45 v1 v2 st
    else
      bd (iv st v2 [3] (fX3_step v2 st)) fun _ st =>
      kk18 v1 v2 st
def bX1_stands_18 : Nat → Int32 → Rf → Mem → Option (Int32 × Mem)
  | 0 => fun _ _ _ => none
  | n + 1 => bX1_stands_18B (bX1_stands_18 n)
def fX1_stands (a0 : Rf) (a1 : Int32) (st : Mem) : Option (Int32 × Mem) :=
  (gA st a0 4).bind fun x1 =>
  bd (iv st x1 [2] (fX2_isSeat x1 a1 st)) fun x5 st =>
  if ¬ x5 = 0 then
    bd (iv st a0 [1] (fX1_tonight a0 st)) fun x14 st =>
    bX1_stands_18 hcFuel a1 x14 st
  else
    some ((-1 : Int32), st)
def bX1_up_29 (v1 : Rf) (st : Mem) : Option (Int32 × Mem) :=
  bd (iv st v1 [3] (fX3_isUp v1 st)) fun x30 st =>
  if x30 = 0 then
    some ((-1 : Int32), st)
  else
    (gI st v1 44).bind fun x37 =>
    some (x37, st)
def bX1_up_5B (kk5 : Rf → Mem → Option (Int32 × Mem)) (v1 : Rf) (st : Mem) : Option (Int32 × Mem) :=
  bd (iv st v1 [3] (fX3_isUp v1 st)) fun x6 st =>
  if ¬ x6 = 0 then
    bX1_up_29 v1 st
  else
    (gI st v1 44).bind fun x13 =>
    if (600 : Int32) ≤ x13 then
      bX1_up_29 v1 st
    else
      bd (iv st v1 [3] (fX3_step v1 st)) fun _ st =>
      kk5 v1 st
def bX1_up_5 : Nat → Rf → Mem → Option (Int32 × Mem)
  | 0 => fun _ _ => none
  | n + 1 => bX1_up_5B (bX1_up_5 n)
def fX1_up (a0 : Rf) (st : Mem) : Option (Int32 × Mem) :=
  bd (iv st a0 [1] (fX1_tonight a0 st)) fun x1 st =>
  bX1_up_5 hcFuel x1 st
def bX3_height_6B (kk6 : Rf → Int32 → Mem → Option (Int32 × Mem)) (v0 : Rf) (v1 : Int32) (st : Mem) : Option (Int32 × Mem) :=
  (gI st v0 44).bind fun x7 =>
  if (60 : Int32) ≤ x7 then
    some (v1, st)
  else
    bd (iv st v0 [3] (fX3_step v0 st)) fun _ st =>
    bd (iv st v0 [3] (fX3_many v0 (2 : Int32) st)) fun x22 st =>
    kk6 v0 (mmaxI v1 x22) st
def bX3_height_6 : Nat → Rf → Int32 → Mem → Option (Int32 × Mem)
  | 0 => fun _ _ _ => none
  | n + 1 => bX3_height_6B (bX3_height_6 n)
def fX3_height (a0 : Rf) (st : Mem) : Option (Int32 × Mem) :=
  bd (iv st a0 [3] (fX3_many a0 (2 : Int32) st)) fun x2 st =>
  bX3_height_6 hcFuel a0 x2 st
def bX3_to_0B (kk0 : Rf → Int32 → Mem → Option (Rf × Mem)) (v0 : Rf) (v1 : Int32) (st : Mem) : Option (Rf × Mem) :=
  (gI st v0 44).bind fun x1 =>
  if v1 ≤ x1 then
    some (v0, st)
  else
    bd (iv st v0 [3] (fX3_step v0 st)) fun _ st =>
    kk0 v0 v1 st
def bX3_to_0 : Nat → Rf → Int32 → Mem → Option (Rf × Mem)
  | 0 => fun _ _ _ => none
  | n + 1 => bX3_to_0B (bX3_to_0 n)
def fX3_to (a0 : Rf) (a1 : Int32) (st : Mem) : Option (Rf × Mem) :=
  bX3_to_0 hcFuel a0 a1 st
def bX17_read_42 (kk6 : Rf → Int32 → Mem → Option ((Rf ⊕ Nat) × Mem)) (v0 : Rf) (v1 : Int32) (k0 : Rf) (k1 : Int32) (st : Mem) : Option ((Rf ⊕ Nat) × Mem) :=
  bt (iv st k0 [13] (fX5_need k0 k1 (4 : Int32) st)) fun _ st =>
  bd (iv st v0 [13] (fX5_go v0 st)) fun _ st =>
  bt (iv st v0 [13] (fX5_number v0 v1 (600 : Int32) st)) fun x55 st =>
  (gA st v0 149).bind fun x60 =>
  bt (iv st v0 [13] (fX17_cue v0 x55 st)) fun x65 st =>
  bd (iv st x60 [18] (fJ3_add x60 x65 st)) fun x68 st =>
  bt (iv st v0 [13] (fX5_end v0 st)) fun _ st =>
  kk6 v0 x55 st
def bX17_read_6B (kk6 : Rf → Int32 → Mem → Option ((Rf ⊕ Nat) × Mem)) (v0 : Rf) (v1 : Int32) (st : Mem) : Option ((Rf ⊕ Nat) × Mem) :=
  (gI st v0 128).bind fun x7 =>
  if x7 = 0 then
    (gA st v0 149).bind fun x80 =>
    some (.inl x80, st)
  else
    bd (iv st v0 [13] (fX5_is v0 (some 0 : Rf) st)) fun x17 st =>
    bt (iv st v0 [13] (fX5_need v0 x17 (1 : Int32) st)) fun _ st =>
    (gA st v0 149).bind fun x26 =>
    bd (iv st x26 [18] (fJ3_size x26 st)) fun x29 st =>
    if (30 : Int32) ≤ x29 then
      bX17_read_42 kk6 v0 v1 v0 (0 : Int32) st
    else
      bX17_read_42 kk6 v0 v1 v0 (1 : Int32) st
def bX17_read_6 : Nat → Rf → Int32 → Mem → Option ((Rf ⊕ Nat) × Mem)
  | 0 => fun _ _ _ => none
  | n + 1 => bX17_read_6B (bX17_read_6 n)
def fX17_read (a0 : Rf) (st : Mem) : Option ((Rf ⊕ Nat) × Mem) :=
  bd (iv st a0 [13] (fX5_go a0 st)) fun _ st =>
  bX17_read_6 hcFuel a0 (0 : Int32) st
def bX6_one_173 (rc : Rf → Mem → Option ((Rf ⊕ Nat) × Mem)) (v0 : Rf) (v5 : Rf) (st : Mem) : Option ((Rf ⊕ Nat) × Mem) :=
  (gI st v0 138).bind fun x175 =>
  (pI st v0 138 (x175 - (1 : Int32))).bind fun st =>
  some (.inl v5, st)
def bX6_one_88 (rc : Rf → Mem → Option ((Rf ⊕ Nat) × Mem)) (v0 : Rf) (v1 : Int32) (v2 : Int32) (v3 : Int32) (v4 : Int32) (k0 : Rf) (k1 : Int32) (st : Mem) : Option ((Rf ⊕ Nat) × Mem) :=
  bt (iv st k0 [5] (fX5_need k0 k1 (4 : Int32) st)) fun _ st =>
  (gI st v0 137).bind fun x94 =>
  (pI st v0 137 (x94 + (1 : Int32))).bind fun st =>
  (gI st v0 138).bind fun x104 =>
  (pI st v0 138 (x104 + (1 : Int32))).bind fun st =>
  bd (iv st v0 [5] (fX5_go v0 st)) fun _ st =>
  if v1 = 0 then
    if v2 = 0 then
      bt (iv st v0 [5] (fX6_compare v0 v4 v3 st)) fun x168 st =>
      bX6_one_173 rc v0 x168 st
    else
      bd (nO st 7) fun x148 st =>
      bt (iv st v0 [5] (rc v0 st)) fun x153 st =>
      bd (nn x148 (fX9_init x148 x153 st)) fun _ st =>
      bX6_one_173 rc v0 x148 st
  else
    bt (iv st v0 [5] (fX6_or rc v0 st)) fun x121 st =>
    bd (iv st v0 [5] (fX5_isSign v0 (41 : Int32) st)) fun x130 st =>
    bt (iv st v0 [5] (fX5_need v0 x130 (1 : Int32) st)) fun _ st =>
    bd (iv st v0 [5] (fX5_go v0 st)) fun _ st =>
    bX6_one_173 rc v0 x121 st
def bX6_one_87 (rc : Rf → Mem → Option ((Rf ⊕ Nat) × Mem)) (v0 : Rf) (v1 : Int32) (v2 : Int32) (v3 : Int32) (v4 : Int32) (k0 : Rf) (st : Mem) : Option ((Rf ⊕ Nat) × Mem) :=
  bX6_one_88 rc v0 v1 v2 v3 v4 k0 (0 : Int32) st
def bX6_one_60 (rc : Rf → Mem → Option ((Rf ⊕ Nat) × Mem)) (v0 : Rf) (v1 : Int32) (v2 : Int32) (v3 : Int32) (v4 : Int32) (k0 : Rf) (k1 : Int32) (st : Mem) : Option ((Rf ⊕ Nat) × Mem) :=
  bt (iv st k0 [5] (fX5_need k0 k1 (1 : Int32) st)) fun _ st =>
  (gI st v0 137).bind fun x66 =>
  if (20 : Int32) ≤ x66 then
    bX6_one_87 rc v0 v1 v2 v3 v4 v0 st
  else
    (gI st v0 138).bind fun x75 =>
    if (8 : Int32) ≤ x75 then
      bX6_one_87 rc v0 v1 v2 v3 v4 v0 st
    else
      bX6_one_88 rc v0 v1 v2 v3 v4 v0 (1 : Int32) st
def bX6_one_55 (rc : Rf → Mem → Option ((Rf ⊕ Nat) × Mem)) (v0 : Rf) (v1 : Int32) (v2 : Int32) (v3 : Int32) (v4 : Int32) (k0 : Rf) (st : Mem) : Option ((Rf ⊕ Nat) × Mem) :=
  bX6_one_60 rc v0 v1 v2 v3 v4 k0 (1 : Int32) st
def fX6_one (rc : Rf → Mem → Option ((Rf ⊕ Nat) × Mem)) (a0 : Rf) (st : Mem) : Option ((Rf ⊕ Nat) × Mem) :=
  bd (iv st a0 [5] (fX5_isSign a0 (40 : Int32) st)) fun x3 st =>
  bd (iv st a0 [5] (fX5_is a0 (some 42 : Rf) st)) fun x10 st =>
  bd (iv st a0 [5] (fX5_is a0 (some 44 : Rf) st)) fun x17 st =>
  bd (iv st a0 [5] (fX6_areaAtHand a0 st)) fun x22 st =>
  if ¬ x3 = 0 then
    bX6_one_55 rc a0 x3 x10 x17 x22 a0 st
  else
    if ¬ x10 = 0 then
      bX6_one_55 rc a0 x3 x10 x17 x22 a0 st
    else
      if ¬ x17 = 0 then
        bX6_one_55 rc a0 x3 x10 x17 x22 a0 st
      else
        bd (iv st a0 [5] (fX5_is a0 (some 46 : Rf) st)) fun x43 st =>
        if ¬ x43 = 0 then
          bX6_one_55 rc a0 x3 x10 x17 x22 a0 st
        else
          if x22 = (-1 : Int32) then
            bX6_one_60 rc a0 x3 x10 x17 x22 a0 (0 : Int32) st
          else
            bX6_one_55 rc a0 x3 x10 x17 x22 a0 st
def fX1_anyway (a0 : Rf) (a1 : Int32) (st : Mem) : Option (Int32 × Mem) :=
  bd (fX1_isMoment a1 st) fun x1 st =>
  if ¬ x1 = 0 then
    bd (iv st a0 [1] (fX1_tonight a0 st)) fun x10 st =>
    bd (iv st x10 [3] (fX3_to x10 a1 st)) fun x14 st =>
    (gA st x14 53).bind fun x17 =>
    (aJ st x17 (2 : Int32)).bind fun x21 =>
    (gA st a0 9).bind fun x23 =>
    (gA st a0 4).bind fun x27 =>
    (gA st a0 7).bind fun x31 =>
    (gJ st a0 6).bind fun x36 =>
    bd (iv st x23 [3] (fX3_begin x23 x27 x31 (0 : Int64) x36 st)) fun x39 st =>
    bd (iv st x39 [3] (fX3_to x39 a1 st)) fun x43 st =>
    (gA st x43 53).bind fun x46 =>
    (aJ st x46 (2 : Int32)).bind fun x50 =>
    bd (fJ18_bitCount (x21 &&& x50) st) fun x52 st =>
    some (x52, st)
  else
    some ((-1 : Int32), st)
def fX1_at (a0 : Rf) (a1 : Int32) (a2 : Int32) (a3 : Int32) (st : Mem) : Option (Int32 × Mem) :=
  (gA st a0 4).bind fun x1 =>
  bd (iv st x1 [2] (fX2_isSeat x1 a1 st)) fun x5 st =>
  if x5 = 0 then
    some ((-1 : Int32), st)
  else
    bd (fX1_isMoment a2 st) fun x12 st =>
    if x12 = 0 then
      some ((-1 : Int32), st)
    else
      bd (fX1_isIn a3 (0 : Int32) (1 : Int32) st) fun x21 st =>
      if ¬ x21 = 0 then
        bd (iv st a0 [1] (fX1_tonight a0 st)) fun x30 st =>
        bd (iv st x30 [3] (fX3_to x30 a2 st)) fun x34 st =>
        if ¬ a3 = 0 then
          (gA st x34 51).bind fun x55 =>
          (aI st x55 a1).bind fun x59 =>
          some (x59, st)
        else
          (gA st x34 49).bind fun x45 =>
          (aI st x45 a1).bind fun x49 =>
          some (x49, st)
      else
        some ((-1 : Int32), st)
def bX1_began_197 (kk79 : Rf → Int32 → Int32 → Int32 → Int32 → Mem → Option (Int32 × Mem)) (v0 : Rf) (v1 : Int32) (v2 : Int32) (v3 : Int32) (v4 : Int32) (st : Mem) : Option (Int32 × Mem) :=
  kk79 v0 v1 v2 v3 (v4 + 1) st
def bX1_began_191 (kk79 : Rf → Int32 → Int32 → Int32 → Int32 → Mem → Option (Int32 × Mem)) (kk89 : Rf → Int32 → Int32 → Int32 → Int32 → Int32 → Mem → Option (Int32 × Mem)) (v0 : Rf) (v1 : Int32) (v2 : Int32) (v3 : Int32) (v4 : Int32) (v5 : Int32) (st : Mem) : Option (Int32 × Mem) :=
  kk89 v0 v1 v2 v3 v4 (v5 + 1) st
def bX1_began_188 (kk79 : Rf → Int32 → Int32 → Int32 → Int32 → Mem → Option (Int32 × Mem)) (kk89 : Rf → Int32 → Int32 → Int32 → Int32 → Int32 → Mem → Option (Int32 × Mem)) (v0 : Rf) (v1 : Int32) (v2 : Int32) (v3 : Int32) (v4 : Int32) (v5 : Int32) (st : Mem) : Option (Int32 × Mem) :=
  bX1_began_191 kk79 kk89 v0 v1 v2 (v3 + 1) v4 v5 st
def bX1_began_185 (kk79 : Rf → Int32 → Int32 → Int32 → Int32 → Mem → Option (Int32 × Mem)) (kk89 : Rf → Int32 → Int32 → Int32 → Int32 → Int32 → Mem → Option (Int32 × Mem)) (v0 : Rf) (v1 : Int32) (v2 : Int32) (v3 : Int32) (v4 : Int32) (v5 : Int32) (k0 : Rf) (k1 : Int32) (st : Mem) : Option (Int32 × Mem) :=
  (pI st k0 21 k1).bind fun st =>
  bX1_began_188 kk79 kk89 v0 v1 v2 v3 v4 v5 st
def bX1_began_89B (kk79 : Rf → Int32 → Int32 → Int32 → Int32 → Mem → Option (Int32 × Mem)) (kk89 : Rf → Int32 → Int32 → Int32 → Int32 → Int32 → Mem → Option (Int32 × Mem)) (v0 : Rf) (v1 : Int32) (v2 : Int32) (v3 : Int32) (v4 : Int32) (v5 : Int32) (st : Mem) : Option (Int32 × Mem) :=
  if v2 ≤ v5 then
    bX1_began_197 kk79 v0 v1 v2 v3 v4 st
  else
    (gA st v0 4).bind fun x96 =>
    bd (iv st x96 [2] (fX2_isSeat x96 v4 st)) fun x101 st =>
    if x101 = 0 then
      bX1_began_197 kk79 v0 v1 v2 v3 v4 st
    else
      (gA st v0 4).bind fun x108 =>
      bd (iv st x108 [2] (fX2_isSeat x108 v5 st)) fun x113 st =>
      if x113 = 0 then
        bX1_began_191 kk79 kk89 v0 v1 v2 v3 v4 v5 st
      else
        (gA st v0 8).bind fun x121 =>
        (gA st v0 4).bind fun x125 =>
        (gA st v0 7).bind fun x129 =>
        (gJ st v0 6).bind fun x142 =>
        bd (iv st x121 [3] (fX3_begin x121 x125 x129 ((shlL (1 : Int64) v4) ||| (shlL (1 : Int64) v5)) x142 st)) fun x145 st =>
        bd (iv st x145 [3] (fX3_to x145 v1 st)) fun x149 st =>
        bd (iv st v0 [1] (fX1_isLikeSketch v0 x149 st)) fun x152 st =>
        if ¬ x152 = 0 then
          if ¬ v3 = 0 then
            bX1_began_188 kk79 kk89 v0 v1 v2 v3 v4 v5 st
          else
            (pI st v0 20 v4).bind fun st =>
            if ¬ v5 = v4 then
              bX1_began_185 kk79 kk89 v0 v1 v2 v3 v4 v5 v0 v5 st
            else
              bX1_began_185 kk79 kk89 v0 v1 v2 v3 v4 v5 v0 (-1 : Int32) st
        else
          bX1_began_191 kk79 kk89 v0 v1 v2 v3 v4 v5 st
def bX1_began_89 (kk79 : Rf → Int32 → Int32 → Int32 → Int32 → Mem → Option (Int32 × Mem)) : Nat → Rf → Int32 → Int32 → Int32 → Int32 → Int32 → Mem → Option (Int32 × Mem)
  | 0 => fun _ _ _ _ _ _ _ => none
  | n + 1 => bX1_began_89B kk79 (bX1_began_89 kk79 n)
def bX1_began_79B (kk79 : Rf → Int32 → Int32 → Int32 → Int32 → Mem → Option (Int32 × Mem)) (v0 : Rf) (v1 : Int32) (v2 : Int32) (v3 : Int32) (v4 : Int32) (st : Mem) : Option (Int32 × Mem) :=
  if v2 ≤ v4 then
    some (v3, st)
  else
    bX1_began_89 kk79 hcFuel v0 v1 v2 v3 v4 v4 st
def bX1_began_79 : Nat → Rf → Int32 → Int32 → Int32 → Int32 → Mem → Option (Int32 × Mem)
  | 0 => fun _ _ _ _ _ _ => none
  | n + 1 => bX1_began_79B (bX1_began_79 n)
def bX1_began_42B (kk42 : Rf → Int32 → Int32 → Int32 → Mem → Option (Int32 × Mem)) (v0 : Rf) (v1 : Int32) (v2 : Int32) (v3 : Int32) (st : Mem) : Option (Int32 × Mem) :=
  if v2 ≤ v3 then
    (pI st v0 20 (-1 : Int32)).bind fun st =>
    (pI st v0 21 (-1 : Int32)).bind fun st =>
    bX1_began_79 hcFuel v0 v1 v2 (0 : Int32) (0 : Int32) st
  else
    bd (iv st v0 [1] (fX1_byteAt v0 v3 st)) fun x49 st =>
    if x49 ≤ (3 : Int32) then
      kk42 v0 v1 v2 (v3 + 1) st
    else
      some ((-1 : Int32), st)
def bX1_began_42 : Nat → Rf → Int32 → Int32 → Int32 → Mem → Option (Int32 × Mem)
  | 0 => fun _ _ _ _ _ => none
  | n + 1 => bX1_began_42B (bX1_began_42 n)
def fX1_began (a0 : Rf) (a1 : Int32) (st : Mem) : Option (Int32 × Mem) :=
  bd (iv st a0 [1] (fX1_take a0 st)) fun x1 st =>
  (gA st a0 4).bind fun x7 =>
  bd (iv st x7 [2] (fX2_size x7 st)) fun x10 st =>
  if ¬ x1 = x10 then
    some ((-1 : Int32), st)
  else
    bd (fX1_isIn a1 (0 : Int32) (60 : Int32) st) fun x20 st =>
    if x20 = 0 then
      some ((-1 : Int32), st)
    else
      (gA st a0 4).bind fun x27 =>
      bd (iv st x27 [2] (fX2_seats x27 st)) fun x30 st =>
      if x30 ≤ (24 : Int32) then
        bX1_began_42 hcFuel a0 a1 x1 (0 : Int32) st
      else
        some ((-1 : Int32), st)
def fX1_heightOf (a0 : Rf) (a1 : Rf) (a2 : Int64) (a4 : Int64) (st : Mem) : Option (Int32 × Mem) :=
  (gA st a0 8).bind fun x1 =>
  (gA st a0 7).bind fun x6 =>
  bd (iv st x1 [3] (fX3_begin x1 a1 x6 a2 a4 st)) fun x12 st =>
  bd (iv st x12 [3] (fX3_height x12 st)) fun x15 st =>
  some (x15, st)
def bX1_many_31 (st : Mem) : Option (Int32 × Mem) :=
  some ((-1 : Int32), st)
def fX1_many (a0 : Rf) (a1 : Int32) (a2 : Int32) (st : Mem) : Option (Int32 × Mem) :=
  bd (fX1_isMoment a1 st) fun x1 st =>
  if x1 = 0 then
    bX1_many_31 st
  else
    bd (fX1_isIn a2 (0 : Int32) (2 : Int32) st) fun x10 st =>
    if x10 = 0 then
      bX1_many_31 st
    else
      bd (iv st a0 [1] (fX1_tonight a0 st)) fun x17 st =>
      bd (iv st x17 [3] (fX3_to x17 a1 st)) fun x21 st =>
      bd (iv st x21 [3] (fX3_many x21 a2 st)) fun x25 st =>
      some (x25, st)
def fX1_sees (a0 : Rf) (a1 : Int32) (a2 : Int32) (a3 : Int32) (a4 : Int32) (st : Mem) : Option (Int32 × Mem) :=
  (gA st a0 4).bind fun x1 =>
  bd (iv st x1 [2] (fX2_isSeat x1 a1 st)) fun x5 st =>
  if x5 = 0 then
    some ((-1 : Int32), st)
  else
    bd (fX1_isMoment a2 st) fun x12 st =>
    if x12 = 0 then
      some ((-1 : Int32), st)
    else
      bd (fX1_isIn a3 (0 : Int32) (5 : Int32) st) fun x21 st =>
      if x21 = 0 then
        some ((-1 : Int32), st)
      else
        bd (fX1_isIn a4 (1 : Int32) (2 : Int32) st) fun x31 st =>
        if ¬ x31 = 0 then
          (gA st a0 4).bind fun x40 =>
          (gA st x40 40).bind fun x43 =>
          (aA st x43 a3).bind fun x47 =>
          (aJ st x47 a1).bind fun x49 =>
          bd (iv st a0 [1] (fX1_tonight a0 st)) fun x51 st =>
          bd (iv st x51 [3] (fX3_to x51 a2 st)) fun x55 st =>
          (gA st x55 53).bind fun x58 =>
          (aJ st x58 a4).bind fun x63 =>
          bd (fJ18_bitCount (x49 &&& x63) st) fun x65 st =>
          some (x65, st)
        else
          some ((-1 : Int32), st)
def bX1_would_70 (v0 : Rf) (v1 : Int32) (v2 : Int32) (k0 : Rf) (st : Mem) : Option (Int32 × Mem) :=
  if ¬ k0 = none then
    bd (iv st v0 [1] (fX1_tonight v0 st)) fun x82 st =>
    bd (iv st x82 [3] (fX3_to x82 v2 st)) fun x86 st =>
    bd (iv st x86 [3] (fX3_asked x86 st)) fun x89 st =>
    bd (vX8_holds 60 k0 x89 v1 st) fun x93 st =>
    if x93 = 0 then
      some ((0 : Int32), st)
    else
      some ((1 : Int32), st)
  else
    some ((-1 : Int32), st)
def fX1_would (a0 : Rf) (a1 : Int32) (a2 : Int32) (a3 : Int32) (st : Mem) : Option (Int32 × Mem) :=
  (gA st a0 4).bind fun x1 =>
  bd (iv st x1 [2] (fX2_isSeat x1 a1 st)) fun x5 st =>
  if x5 = 0 then
    some ((-1 : Int32), st)
  else
    bd (fX1_isMoment a2 st) fun x12 st =>
    if x12 = 0 then
      some ((-1 : Int32), st)
    else
      bd (fX1_isIn a3 (0 : Int32) (1 : Int32) st) fun x21 st =>
      if ¬ x21 = 0 then
        if ¬ a3 = 0 then
          (gA st a0 4).bind fun x54 =>
          (gA st x54 38).bind fun x57 =>
          (gA st a0 4).bind fun x61 =>
          (gA st x61 34).bind fun x64 =>
          (aI st x64 a1).bind fun x68 =>
          (aA st x57 x68).bind fun x69 =>
          bX1_would_70 a0 a1 a2 x69 st
        else
          (gA st a0 4).bind fun x34 =>
          (gA st x34 37).bind fun x37 =>
          (gA st a0 4).bind fun x41 =>
          (gA st x41 34).bind fun x44 =>
          (aI st x44 a1).bind fun x48 =>
          (aA st x37 x48).bind fun x49 =>
          bX1_would_70 a0 a1 a2 x49 st
      else
        some ((-1 : Int32), st)
def bX1_cues_41 (v0 : Rf) (k0 : Rf) (st : Mem) : Option (Int32 × Mem) :=
  (gI st k0 139).bind fun x44 =>
  (pI st v0 3 x44).bind fun st =>
  (gI st k0 140).bind fun x52 =>
  some (((-1 : Int32) - x52), st)
def fX1_cues (a0 : Rf) (st : Mem) : Option (Int32 × Mem) :=
  bd (iv st a0 [1] (fX1_take a0 st)) fun x1 st =>
  (pI st a0 3 (0 : Int32)).bind fun st =>
  bd (nO st 13) fun x11 st =>
  (gA st a0 1).bind fun x16 =>
  (gA st a0 4).bind fun x21 =>
  bd (nn x11 (fX17_init x11 x16 x1 x21 st)) fun _ st =>
  bc (iv st x11 [13] (fX17_read x11 st)) (fun z27 st => hg st z27 6 (bX1_cues_41 a0 (some z27) st)) fun x27 st =>
  (pA st a0 7 x27).bind fun st =>
  (gA st a0 7).bind fun x34 =>
  bd (iv st x34 [18] (fJ3_size x34 st)) fun x37 st =>
  some (x37, st)
def fX6_oneR : Nat → Rf → Mem → Option ((Rf ⊕ Nat) × Mem)
  | 0 => fun _ _ => none
  | d + 1 => fX6_one (fX6_oneR d)
def bX6_law_80 (v0 : Rf) (v1 : Rf) (v2 : Int32) (v3 : Int32) (k0 : Rf) (k1 : Int32) (st : Mem) : Option ((Unit ⊕ Nat) × Mem) :=
  bt (iv st k0 [5] (fX5_need k0 k1 (3 : Int32) st)) fun _ st =>
  bd (iv st v0 [5] (fX5_go v0 st)) fun _ st =>
  (pI st v0 137 (0 : Int32)).bind fun st =>
  (pI st v0 138 (0 : Int32)).bind fun st =>
  bt (iv st v0 [5] (fX6_or (fX6_oneR 30) v0 st)) fun x101 st =>
  (uA st v1 v3 x101).bind fun st =>
  (gA st v0 133).bind fun x106 =>
  (gA st x106 39).bind fun x109 =>
  (gI st v0 137).bind fun x116 =>
  (uI st x109 (v2 + v3) x116).bind fun st =>
  some (.inl (), st)
def bX6_law_52 (v0 : Rf) (v1 : Rf) (v2 : Int32) (k0 : Rf) (k1 : Int32) (st : Mem) : Option ((Unit ⊕ Nat) × Mem) :=
  bt (iv st k0 [5] (fX5_need k0 k1 (2 : Int32) st)) fun _ st =>
  (gA st v0 132).bind fun x57 =>
  bd (iv st x57 [19] (fJ4_charAt x57 (0 : Int32) st)) fun x61 st =>
  (aA st v1 (x61 - (97 : Int32))).bind fun x71 =>
  if ¬ x71 = none then
    bX6_law_80 v0 v1 v2 (x61 - (97 : Int32)) v0 (0 : Int32) st
  else
    bX6_law_80 v0 v1 v2 (x61 - (97 : Int32)) v0 (1 : Int32) st
def bX6_law_51 (v0 : Rf) (v1 : Rf) (v2 : Int32) (k0 : Rf) (st : Mem) : Option ((Unit ⊕ Nat) × Mem) :=
  bX6_law_52 v0 v1 v2 k0 (0 : Int32) st
def bX6_law_18 (v0 : Rf) (v1 : Rf) (v2 : Int32) (k0 : Rf) (k1 : Int32) (st : Mem) : Option ((Unit ⊕ Nat) × Mem) :=
  bt (iv st k0 [5] (fX5_need k0 k1 (1 : Int32) st)) fun _ st =>
  (gA st v0 132).bind fun x24 =>
  bd (iv st x24 [19] (fJ4_length x24 st)) fun x27 st =>
  if ¬ x27 = (1 : Int32) then
    bX6_law_51 v0 v1 v2 v0 st
  else
    (gA st v0 132).bind fun x35 =>
    bd (iv st x35 [19] (fJ4_charAt x35 (0 : Int32) st)) fun x39 st =>
    if (102 : Int32) < x39 then
      bX6_law_51 v0 v1 v2 v0 st
    else
      bX6_law_52 v0 v1 v2 v0 (1 : Int32) st
def fX6_law (a0 : Rf) (a1 : Rf) (a2 : Int32) (st : Mem) : Option ((Unit ⊕ Nat) × Mem) :=
  bd (iv st a0 [5] (fX5_go a0 st)) fun _ st =>
  (gI st a0 128).bind fun x6 =>
  if ¬ x6 = (2 : Int32) then
    bX6_law_18 a0 a1 a2 a0 (0 : Int32) st
  else
    bX6_law_18 a0 a1 a2 a0 (1 : Int32) st
def bX1_arrangeOnce_119 (kk2 : Rf → Int32 → Int32 → Mem → Option (Int32 × Mem)) (kk17 : Rf → Int32 → Int32 → Int32 → Mem → Option (Int32 × Mem)) (v0 : Rf) (v1 : Int32) (v2 : Int32) (v3 : Int32) (st : Mem) : Option (Int32 × Mem) :=
  kk17 v0 v1 v2 (v3 + 1) st
def bX1_arrangeOnce_17B (kk2 : Rf → Int32 → Int32 → Mem → Option (Int32 × Mem)) (kk17 : Rf → Int32 → Int32 → Int32 → Mem → Option (Int32 × Mem)) (v0 : Rf) (v1 : Int32) (v2 : Int32) (v3 : Int32) (st : Mem) : Option (Int32 × Mem) :=
  (gA st v0 4).bind fun x19 =>
  bd (iv st x19 [2] (fX2_size x19 st)) fun x22 st =>
  if x22 ≤ v3 then
    kk2 v0 v1 (v2 + 1) st
  else
    (gA st v0 4).bind fun x29 =>
    bd (iv st x29 [2] (fX2_isSeat x29 v2 st)) fun x33 st =>
    if x33 = 0 then
      bX1_arrangeOnce_119 kk2 kk17 v0 v1 v2 v3 st
    else
      (gA st v0 4).bind fun x40 =>
      bd (iv st x40 [2] (fX2_isSeat x40 v3 st)) fun x44 st =>
      if x44 = 0 then
        bX1_arrangeOnce_119 kk2 kk17 v0 v1 v2 v3 st
      else
        (gA st v0 4).bind fun x51 =>
        (gA st x51 34).bind fun x54 =>
        (aI st x54 v2).bind fun x58 =>
        (gA st v0 4).bind fun x60 =>
        (gA st x60 34).bind fun x63 =>
        (aI st x63 v3).bind fun x67 =>
        if ¬ x58 = x67 then
          (gA st v0 4).bind fun x75 =>
          bd (iv st x75 [2] (fX2_swap x75 v2 v3 st)) fun _ st =>
          (gA st v0 4).bind fun x85 =>
          (gJ st v0 5).bind fun x89 =>
          (gJ st v0 6).bind fun x93 =>
          bd (iv st v0 [1] (fX1_heightOf v0 x85 x89 x93 st)) fun x96 st =>
          if x96 ≤ v1 then
            (gA st v0 4).bind fun x111 =>
            bd (iv st x111 [2] (fX2_swap x111 v2 v3 st)) fun _ st =>
            bX1_arrangeOnce_119 kk2 kk17 v0 v1 v2 v3 st
          else
            some (x96, st)
        else
          bX1_arrangeOnce_119 kk2 kk17 v0 v1 v2 v3 st
def bX1_arrangeOnce_17 (kk2 : Rf → Int32 → Int32 → Mem → Option (Int32 × Mem)) : Nat → Rf → Int32 → Int32 → Int32 → Mem → Option (Int32 × Mem)
  | 0 => fun _ _ _ _ _ => none
  | n + 1 => bX1_arrangeOnce_17B kk2 (bX1_arrangeOnce_17 kk2 n)
def bX1_arrangeOnce_2B (kk2 : Rf → Int32 → Int32 → Mem → Option (Int32 × Mem)) (v0 : Rf) (v1 : Int32) (v2 : Int32) (st : Mem) : Option (Int32 × Mem) :=
  (gA st v0 4).bind fun x4 =>
  bd (iv st x4 [2] (fX2_size x4 st)) fun x7 st =>
  if x7 ≤ v2 then
    some (v1, st)
  else
    bX1_arrangeOnce_17 kk2 hcFuel v0 v1 v2 (v2 + (1 : Int32)) st
def bX1_arrangeOnce_2 : Nat → Rf → Int32 → Int32 → Mem → Option (Int32 × Mem)
  | 0 => fun _ _ _ _ => none
  | n + 1 => bX1_arrangeOnce_2B (bX1_arrangeOnce_2 n)
def fX1_arrangeOnce (a0 : Rf) (a1 : Int32) (st : Mem) : Option (Int32 × Mem) :=
  bX1_arrangeOnce_2 hcFuel a0 a1 (0 : Int32) st
def fX1_carries (a0 : Rf) (a1 : Int32) (st : Mem) : Option (Int32 × Mem) :=
  bd (fX1_isIn a1 (0 : Int32) (1 : Int32) st) fun x3 st =>
  if ¬ x3 = 0 then
    (gA st a0 4).bind fun x13 =>
    (gJ st a0 5).bind fun x17 =>
    (gJ st a0 6).bind fun x21 =>
    bd (iv st a0 [1] (fX1_heightOf a0 x13 x17 x21 st)) fun x24 st =>
    if ¬ a1 = (1 : Int32) then
      (gA st a0 4).bind fun x39 =>
      (gI st x39 30).bind fun x42 =>
      if x24 < x42 then
        some ((0 : Int32), st)
      else
        some ((1 : Int32), st)
    else
      some (x24, st)
  else
    some ((-1 : Int32), st)
def bX1_hush_97 (kk37 : Rf → Int32 → Int32 → Int32 → Mem → Option (Int32 × Mem)) (v0 : Rf) (v1 : Int32) (v2 : Int32) (v3 : Int32) (st : Mem) : Option (Int32 × Mem) :=
  kk37 v0 v1 v2 (v3 + 1) st
def bX1_hush_63 (kk37 : Rf → Int32 → Int32 → Int32 → Mem → Option (Int32 × Mem)) (v0 : Rf) (v1 : Int32) (v2 : Int32) (v3 : Int32) (st : Mem) : Option (Int32 × Mem) :=
  (gA st v0 4).bind fun x65 =>
  (gJ st v0 5).bind fun x69 =>
  (gJ st v0 6).bind fun x73 =>
  bd (iv st v0 [1] (fX1_handsOf v0 v3 st)) fun x78 st =>
  bd (iv st v0 [1] (fX1_heightOf v0 x65 x69 (x73 ||| x78) st)) fun x82 st =>
  (gA st v0 4).bind fun x86 =>
  (gI st x86 30).bind fun x89 =>
  if x89 ≤ x82 then
    bX1_hush_97 kk37 v0 v1 v2 v3 st
  else
    bX1_hush_97 kk37 v0 v1 v3 v3 st
def bX1_hush_37B (kk37 : Rf → Int32 → Int32 → Int32 → Mem → Option (Int32 × Mem)) (v0 : Rf) (v1 : Int32) (v2 : Int32) (v3 : Int32) (st : Mem) : Option (Int32 × Mem) :=
  if (shlI (1 : Int32) v1) ≤ v3 then
    some (v2, st)
  else
    if v2 = (-1 : Int32) then
      bX1_hush_63 kk37 v0 v1 v2 v3 st
    else
      bd (fJ19_bitCount v3 st) fun x50 st =>
      bd (fJ19_bitCount v2 st) fun x54 st =>
      if x50 < x54 then
        bX1_hush_63 kk37 v0 v1 v2 v3 st
      else
        bX1_hush_97 kk37 v0 v1 v2 v3 st
def bX1_hush_37 : Nat → Rf → Int32 → Int32 → Int32 → Mem → Option (Int32 × Mem)
  | 0 => fun _ _ _ _ _ => none
  | n + 1 => bX1_hush_37B (bX1_hush_37 n)
def fX1_hush (a0 : Rf) (st : Mem) : Option (Int32 × Mem) :=
  bd (iv st a0 [1] (fX1_take a0 st)) fun x1 st =>
  bd (fX1_isIn x1 (1 : Int32) (8 : Int32) st) fun x9 st =>
  if x9 = 0 then
    some ((-2 : Int32), st)
  else
    (gA st a0 11).bind fun x19 =>
    bd (iv st a0 [1] (fX1_takesSeats a0 (0 : Int32) x1 x19 (0 : Int64) st)) fun x23 st =>
    if ¬ x23 = (-1 : Int32) then
      bX1_hush_37 hcFuel a0 x1 (-1 : Int32) (0 : Int32) st
    else
      some ((-2 : Int32), st)
def fX1_isCarried (a0 : Rf) (a1 : Rf) (a2 : Int64) (st : Mem) : Option (Int32 × Mem) :=
  (gJ st a0 6).bind fun x4 =>
  bd (iv st a0 [1] (fX1_heightOf a0 a1 a2 x4 st)) fun x7 st =>
  (gI st a1 30).bind fun x11 =>
  if x7 < x11 then
    some ((0 : Int32), st)
  else
    some ((1 : Int32), st)
def bX1_sides_309 (kk207 : Rf → Int32 → Int32 → Int32 → Int32 → Mem → Option (Int32 × Mem)) (v0 : Rf) (v2 : Int32) (v3 : Int32) (v4 : Int32) (v5 : Int32) (st : Mem) : Option (Int32 × Mem) :=
  kk207 v0 v2 v3 v4 (v5 + 1) st
def bX1_sides_219B (kk207 : Rf → Int32 → Int32 → Int32 → Int32 → Mem → Option (Int32 × Mem)) (kk219 : Rf → Int32 → Int32 → Int32 → Int32 → Int32 → Int32 → Mem → Option (Int32 × Mem)) (v0 : Rf) (v2 : Int32) (v3 : Int32) (v4 : Int32) (v5 : Int32) (v6 : Int32) (v7 : Int32) (st : Mem) : Option (Int32 × Mem) :=
  if v2 ≤ v7 then
    (gA st v0 19).bind fun x277 =>
    (aI st x277 (0 : Int32)).bind fun x281 =>
    if v6 < x281 then
      (gA st v0 19).bind fun x289 =>
      (uI st x289 (0 : Int32) v6).bind fun st =>
      (gA st v0 19).bind fun x297 =>
      (gA st v0 18).bind fun x302 =>
      (aI st x302 v5).bind fun x307 =>
      (uI st x297 (2 : Int32) x307).bind fun st =>
      bX1_sides_309 kk207 v0 v2 v3 v4 v5 st
    else
      bX1_sides_309 kk207 v0 v2 v3 v4 v5 st
  else
    (gA st v0 4).bind fun x229 =>
    (gJ st v0 5).bind fun x233 =>
    (gA st v0 11).bind fun x238 =>
    (aI st x238 v7).bind fun x243 =>
    (gJ st v0 6).bind fun x247 =>
    (gA st v0 18).bind fun x252 =>
    (aI st x252 v5).bind fun x257 =>
    bd (iv st v0 [1] (fX1_heightOf v0 x229 (x233 ||| (shlL (1 : Int64) x243)) (x247 ||| (shlL (1 : Int64) x257)) st)) fun x260 st =>
    kk219 v0 v2 v3 v4 v5 (mmaxI v6 x260) (v7 + 1) st
def bX1_sides_219 (kk207 : Rf → Int32 → Int32 → Int32 → Int32 → Mem → Option (Int32 × Mem)) : Nat → Rf → Int32 → Int32 → Int32 → Int32 → Int32 → Int32 → Mem → Option (Int32 × Mem)
  | 0 => fun _ _ _ _ _ _ _ _ => none
  | n + 1 => bX1_sides_219B kk207 (bX1_sides_219 kk207 n)
def bX1_sides_207B (kk207 : Rf → Int32 → Int32 → Int32 → Int32 → Mem → Option (Int32 × Mem)) (v0 : Rf) (v2 : Int32) (v3 : Int32) (v4 : Int32) (v5 : Int32) (st : Mem) : Option (Int32 × Mem) :=
  if v3 ≤ v5 then
    some (v4, st)
  else
    bX1_sides_219 kk207 hcFuel v0 v2 v3 v4 v5 (-1 : Int32) (0 : Int32) st
def bX1_sides_207 : Nat → Rf → Int32 → Int32 → Int32 → Int32 → Mem → Option (Int32 × Mem)
  | 0 => fun _ _ _ _ _ _ => none
  | n + 1 => bX1_sides_207B (bX1_sides_207 n)
def bX1_sides_190 (kk95 : Rf → Int32 → Int32 → Int32 → Int32 → Mem → Option (Int32 × Mem)) (v0 : Rf) (v2 : Int32) (v3 : Int32) (v4 : Int32) (v5 : Int32) (st : Mem) : Option (Int32 × Mem) :=
  kk95 v0 v2 v3 v4 (v5 + 1) st
def bX1_sides_108B (kk95 : Rf → Int32 → Int32 → Int32 → Int32 → Mem → Option (Int32 × Mem)) (kk108 : Rf → Int32 → Int32 → Int32 → Int32 → Int32 → Int32 → Mem → Option (Int32 × Mem)) (v0 : Rf) (v2 : Int32) (v3 : Int32) (v4 : Int32) (v5 : Int32) (v6 : Int32) (v7 : Int32) (st : Mem) : Option (Int32 × Mem) :=
  if v3 ≤ v7 then
    if v4 < v6 then
      (gA st v0 19).bind fun x178 =>
      (gA st v0 11).bind fun x183 =>
      (aI st x183 v5).bind fun x188 =>
      (uI st x178 (1 : Int32) x188).bind fun st =>
      bX1_sides_190 kk95 v0 v2 v3 v6 v5 st
    else
      bX1_sides_190 kk95 v0 v2 v3 v4 v5 st
  else
    (gA st v0 4).bind fun x118 =>
    (gJ st v0 5).bind fun x122 =>
    (gA st v0 11).bind fun x127 =>
    (aI st x127 v5).bind fun x132 =>
    (gJ st v0 6).bind fun x136 =>
    (gA st v0 18).bind fun x141 =>
    (aI st x141 v7).bind fun x146 =>
    bd (iv st v0 [1] (fX1_heightOf v0 x118 (x122 ||| (shlL (1 : Int64) x132)) (x136 ||| (shlL (1 : Int64) x146)) st)) fun x149 st =>
    kk108 v0 v2 v3 v4 v5 (mminI v6 x149) (v7 + 1) st
def bX1_sides_108 (kk95 : Rf → Int32 → Int32 → Int32 → Int32 → Mem → Option (Int32 × Mem)) : Nat → Rf → Int32 → Int32 → Int32 → Int32 → Int32 → Int32 → Mem → Option (Int32 × Mem)
  | 0 => fun _ _ _ _ _ _ _ _ => none
  | n + 1 => bX1_sides_108B kk95 (bX1_sides_108 kk95 n)
def bX1_sides_95B (kk95 : Rf → Int32 → Int32 → Int32 → Int32 → Mem → Option (Int32 × Mem)) (v0 : Rf) (v2 : Int32) (v3 : Int32) (v4 : Int32) (v5 : Int32) (st : Mem) : Option (Int32 × Mem) :=
  if v2 ≤ v5 then
    (gA st v0 19).bind fun x197 =>
    (uI st x197 (0 : Int32) (65 : Int32)).bind fun st =>
    bX1_sides_207 hcFuel v0 v2 v3 v4 (0 : Int32) st
  else
    bX1_sides_108 kk95 hcFuel v0 v2 v3 v4 v5 (65 : Int32) (0 : Int32) st
def bX1_sides_95 : Nat → Rf → Int32 → Int32 → Int32 → Int32 → Mem → Option (Int32 × Mem)
  | 0 => fun _ _ _ _ _ _ => none
  | n + 1 => bX1_sides_95B (bX1_sides_95 n)
def bX1_sides_18 (v0 : Rf) (v1 : Int32) (k0 : Int32) (st : Mem) : Option (Int32 × Mem) :=
  (some ((v1 - (1 : Int32)) - k0)).bind fun y24 =>
  bd (fX1_isIn k0 (1 : Int32) (6 : Int32) st) fun x29 st =>
  if x29 = 0 then
    some ((-1 : Int32), st)
  else
    bd (fX1_isIn y24 (1 : Int32) (6 : Int32) st) fun x39 st =>
    if x39 = 0 then
      some ((-1 : Int32), st)
    else
      (gA st v0 11).bind fun x49 =>
      bd (iv st v0 [1] (fX1_takesSeats v0 (1 : Int32) k0 x49 (0 : Int64) st)) fun x53 st =>
      if ¬ x53 = (-1 : Int32) then
        (gA st v0 18).bind fun x68 =>
        bd (iv st v0 [1] (fX1_handsOf v0 ((shlI (1 : Int32) k0) - (1 : Int32)) st)) fun x77 st =>
        bd (iv st v0 [1] (fX1_takesSeats v0 ((1 : Int32) + k0) y24 x68 x77 st)) fun x80 st =>
        if ¬ x80 = (-1 : Int32) then
          bX1_sides_95 hcFuel v0 k0 y24 (-1 : Int32) (0 : Int32) st
        else
          some ((-1 : Int32), st)
      else
        some ((-1 : Int32), st)
def fX1_sides (a0 : Rf) (st : Mem) : Option (Int32 × Mem) :=
  bd (iv st a0 [1] (fX1_take a0 st)) fun x1 st =>
  if ¬ x1 = 0 then
    bd (iv st a0 [1] (fX1_byteAt a0 (0 : Int32) st)) fun x15 st =>
    bX1_sides_18 a0 x1 x15 st
  else
    bX1_sides_18 a0 x1 (0 : Int32) st
def fX1_starts (a0 : Rf) (a1 : Int32) (st : Mem) : Option (Int32 × Mem) :=
  (gA st a0 4).bind fun x1 =>
  bd (iv st x1 [2] (fX2_isSeat x1 a1 st)) fun x5 st =>
  if x5 = 0 then
    some ((-1 : Int32), st)
  else
    (gA st a0 4).bind fun x13 =>
    (gJ st a0 6).bind fun x20 =>
    bd (iv st a0 [1] (fX1_heightOf a0 x13 (shlL (1 : Int64) a1) x20 st)) fun x23 st =>
    some (x23, st)
def bX1_worth_166 (kk85 : Rf → Int32 → Int32 → Mem → Option (Int32 × Mem)) (kk99 : Rf → Int32 → Int32 → Int32 → Mem → Option (Int32 × Mem)) (v0 : Rf) (v1 : Int32) (v2 : Int32) (v3 : Int32) (st : Mem) : Option (Int32 × Mem) :=
  kk99 v0 v1 v2 (v3 + 1) st
def bX1_worth_99B (kk85 : Rf → Int32 → Int32 → Mem → Option (Int32 × Mem)) (kk99 : Rf → Int32 → Int32 → Int32 → Mem → Option (Int32 × Mem)) (v0 : Rf) (v1 : Int32) (v2 : Int32) (v3 : Int32) (st : Mem) : Option (Int32 × Mem) :=
  if (shlI (1 : Int32) v1) ≤ v3 then
    kk85 v0 v1 (v2 + 1) st
  else
    bd (fX1_has v3 v2 st) fun x108 st =>
    if x108 = 0 then
      bd (fJ19_bitCount v3 st) fun x118 st =>
      (gA st v0 15).bind fun x124 =>
      (aJ st x124 v2).bind fun x129 =>
      bd (fX1_factorial x118 st) fun x132 st =>
      bd (fX1_factorial ((v1 - x118) - (1 : Int32)) st) fun x141 st =>
      (gA st v0 14).bind fun x146 =>
      (aI st x146 (v3 ||| (shlI (1 : Int32) v2))).bind fun x154 =>
      (gA st v0 14).bind fun x156 =>
      (aI st x156 v3).bind fun x160 =>
      (uJ st x124 v2 (x129 + ((x132 * x141) * (Int32.toInt64 (x154 - x160))))).bind fun st =>
      bX1_worth_166 kk85 kk99 v0 v1 v2 v3 st
    else
      bX1_worth_166 kk85 kk99 v0 v1 v2 v3 st
def bX1_worth_99 (kk85 : Rf → Int32 → Int32 → Mem → Option (Int32 × Mem)) : Nat → Rf → Int32 → Int32 → Int32 → Mem → Option (Int32 × Mem)
  | 0 => fun _ _ _ _ _ => none
  | n + 1 => bX1_worth_99B kk85 (bX1_worth_99 kk85 n)
def bX1_worth_85B (kk85 : Rf → Int32 → Int32 → Mem → Option (Int32 × Mem)) (v0 : Rf) (v1 : Int32) (v2 : Int32) (st : Mem) : Option (Int32 × Mem) :=
  if v1 ≤ v2 then
    (gA st v0 14).bind fun x179 =>
    (aI st x179 ((shlI (1 : Int32) v1) - (1 : Int32))).bind fun x187 =>
    some (x187, st)
  else
    (gA st v0 15).bind fun x91 =>
    (uJ st x91 v2 (0 : Int64)).bind fun st =>
    bX1_worth_99 kk85 hcFuel v0 v1 v2 (0 : Int32) st
def bX1_worth_85 : Nat → Rf → Int32 → Int32 → Mem → Option (Int32 × Mem)
  | 0 => fun _ _ _ _ => none
  | n + 1 => bX1_worth_85B (bX1_worth_85 n)
def bX1_worth_34B (kk34 : Rf → Int32 → Int32 → Mem → Option (Int32 × Mem)) (v0 : Rf) (v1 : Int32) (v2 : Int32) (st : Mem) : Option (Int32 × Mem) :=
  if (shlI (1 : Int32) v1) ≤ v2 then
    (pI st v0 16 v1).bind fun st =>
    bd (fX1_factorial v1 st) fun x77 st =>
    (pJ st v0 17 x77).bind fun st =>
    bX1_worth_85 hcFuel v0 v1 (0 : Int32) st
  else
    (gA st v0 14).bind fun x42 =>
    (gA st v0 4).bind fun x48 =>
    bd (iv st v0 [1] (fX1_handsOf v0 v2 st)) fun x53 st =>
    (gJ st v0 6).bind fun x57 =>
    bd (iv st v0 [1] (fX1_heightOf v0 x48 x53 x57 st)) fun x60 st =>
    (uI st x42 v2 x60).bind fun st =>
    kk34 v0 v1 (v2 + 1) st
def bX1_worth_34 : Nat → Rf → Int32 → Int32 → Mem → Option (Int32 × Mem)
  | 0 => fun _ _ _ _ => none
  | n + 1 => bX1_worth_34B (bX1_worth_34 n)
def fX1_worth (a0 : Rf) (st : Mem) : Option (Int32 × Mem) :=
  bd (iv st a0 [1] (fX1_take a0 st)) fun x1 st =>
  bd (fX1_isIn x1 (1 : Int32) (8 : Int32) st) fun x9 st =>
  if x9 = 0 then
    some ((-1 : Int32), st)
  else
    (gA st a0 11).bind fun x19 =>
    bd (iv st a0 [1] (fX1_takesSeats a0 (0 : Int32) x1 x19 (0 : Int64) st)) fun x23 st =>
    if ¬ x23 = (-1 : Int32) then
      bX1_worth_34 hcFuel a0 x1 (0 : Int32) st
    else
      some ((-1 : Int32), st)
def bX6_read_146 (kk4 : Rf → Mem → Option ((Rf ⊕ Nat) × Mem)) (v0 : Rf) (st : Mem) : Option ((Rf ⊕ Nat) × Mem) :=
  bt (iv st v0 [5] (fX5_end v0 st)) fun _ st =>
  (gA st v0 133).bind fun x151 =>
  (gI st x151 32).bind fun x155 =>
  (pI st x151 32 (x155 + (1 : Int32))).bind fun st =>
  kk4 v0 st
def bX6_read_4B (kk4 : Rf → Mem → Option ((Rf ⊕ Nat) × Mem)) (v0 : Rf) (st : Mem) : Option ((Rf ⊕ Nat) × Mem) :=
  (gI st v0 128).bind fun x5 =>
  if x5 = 0 then
    (gA st v0 133).bind fun x167 =>
    bd (iv st x167 [2] (fX2_open x167 st)) fun x170 st =>
    some (.inl x170, st)
  else
    bd (iv st v0 [5] (fX5_is v0 (some 10 : Rf) st)) fun x14 st =>
    if x14 = 0 then
      bd (iv st v0 [5] (fX5_is v0 (some 12 : Rf) st)) fun x30 st =>
      if x30 = 0 then
        bd (iv st v0 [5] (fX5_is v0 (some 14 : Rf) st)) fun x54 st =>
        if x54 = 0 then
          bd (iv st v0 [5] (fX5_is v0 (some 16 : Rf) st)) fun x79 st =>
          if x79 = 0 then
            bd (iv st v0 [5] (fX5_is v0 (some 18 : Rf) st)) fun x112 st =>
            if x112 = 0 then
              bt (iv st v0 [5] (fX6_once v0 st)) fun _ st =>
              bX6_read_146 kk4 v0 st
            else
              (gA st v0 133).bind fun x119 =>
              (gA st x119 36).bind fun x122 =>
              bt (iv st v0 [5] (fX6_rowTold v0 (0 : Int32) st)) fun x127 st =>
              bt (iv st v0 [5] (fX5_number v0 (0 : Int32) (600 : Int32) st)) fun x135 st =>
              (uI st x122 x127 x135).bind fun st =>
              bX6_read_146 kk4 v0 st
          else
            (gA st v0 133).bind fun x86 =>
            (gA st x86 35).bind fun x89 =>
            bt (iv st v0 [5] (fX6_rowTold v0 (1 : Int32) st)) fun x94 st =>
            bt (iv st v0 [5] (fX5_number v0 (0 : Int32) (999 : Int32) st)) fun x102 st =>
            (uI st x89 x94 x102).bind fun st =>
            bX6_read_146 kk4 v0 st
        else
          (gA st v0 133).bind fun x62 =>
          (gA st x62 38).bind fun x65 =>
          bt (iv st v0 [5] (fX6_law v0 x65 (6 : Int32) st)) fun _ st =>
          bX6_read_146 kk4 v0 st
      else
        (gA st v0 133).bind fun x38 =>
        (gA st x38 37).bind fun x41 =>
        bt (iv st v0 [5] (fX6_law v0 x41 (0 : Int32) st)) fun _ st =>
        bX6_read_146 kk4 v0 st
    else
      bt (iv st v0 [5] (fX6_row v0 st)) fun _ st =>
      bX6_read_146 kk4 v0 st
def bX6_read_4 : Nat → Rf → Mem → Option ((Rf ⊕ Nat) × Mem)
  | 0 => fun _ _ => none
  | n + 1 => bX6_read_4B (bX6_read_4 n)
def fX6_read (a0 : Rf) (st : Mem) : Option ((Rf ⊕ Nat) × Mem) :=
  bd (iv st a0 [5] (fX5_go a0 st)) fun _ st =>
  bX6_read_4 hcFuel a0 st
def bX1_arrange_49B (kk49 : Rf → Int32 → Mem → Option (Int32 × Mem)) (v0 : Rf) (v1 : Int32) (st : Mem) : Option (Int32 × Mem) :=
  (gI st v0 23).bind fun x50 =>
  if (20 : Int32) ≤ x50 then
    some (v1, st)
  else
    bd (iv st v0 [1] (fX1_arrangeOnce v0 v1 st)) fun x60 st =>
    if ¬ x60 = v1 then
      (gI st v0 23).bind fun x75 =>
      (pI st v0 23 (x75 + (1 : Int32))).bind fun st =>
      kk49 v0 x60 st
    else
      some (v1, st)
def bX1_arrange_49 : Nat → Rf → Int32 → Mem → Option (Int32 × Mem)
  | 0 => fun _ _ _ => none
  | n + 1 => bX1_arrange_49B (bX1_arrange_49 n)
def fX1_arrange (a0 : Rf) (st : Mem) : Option (Int32 × Mem) :=
  (gA st a0 4).bind fun x1 =>
  bd (iv st x1 [2] (fX2_seats x1 st)) fun x4 st =>
  if x4 ≤ (24 : Int32) then
    (gA st a0 4).bind fun x16 =>
    bd (iv st x16 [2] (fX2_exchanged x16 (0 : Int32) (0 : Int32) st)) fun x21 st =>
    (pA st a0 4 x21).bind fun st =>
    (gA st a0 4).bind fun x29 =>
    (gJ st a0 5).bind fun x33 =>
    (gJ st a0 6).bind fun x37 =>
    bd (iv st a0 [1] (fX1_heightOf a0 x29 x33 x37 st)) fun x40 st =>
    (pI st a0 23 (0 : Int32)).bind fun st =>
    bX1_arrange_49 hcFuel a0 x40 st
  else
    some ((-1 : Int32), st)
def bX1_cheapest_122 (kk37 : Rf → Int32 → Int32 → Int32 → Mem → Option (Int32 × Mem)) (v0 : Rf) (v1 : Int32) (v2 : Int32) (v3 : Int32) (st : Mem) : Option (Int32 × Mem) :=
  kk37 v0 v1 v2 (v3 + 1) st
def bX1_cheapest_92 (kk37 : Rf → Int32 → Int32 → Int32 → Mem → Option (Int32 × Mem)) (v0 : Rf) (v1 : Int32) (v2 : Int32) (v3 : Int32) (k0 : Int32) (st : Mem) : Option (Int32 × Mem) :=
  if ¬ k0 = 0 then
    bX1_cheapest_122 kk37 v0 v1 v2 v3 st
  else
    (gA st v0 4).bind fun x101 =>
    (gJ st v0 5).bind fun x105 =>
    bd (iv st v0 [1] (fX1_handsOf v0 v3 st)) fun x110 st =>
    bd (iv st v0 [1] (fX1_isCarried v0 x101 (x105 ||| x110) st)) fun x114 st =>
    if x114 = 0 then
      bX1_cheapest_122 kk37 v0 v1 v2 v3 st
    else
      bX1_cheapest_122 kk37 v0 v1 v3 v3 st
def bX1_cheapest_91 (kk37 : Rf → Int32 → Int32 → Int32 → Mem → Option (Int32 × Mem)) (v0 : Rf) (v1 : Int32) (v2 : Int32) (v3 : Int32) (st : Mem) : Option (Int32 × Mem) :=
  bX1_cheapest_92 kk37 v0 v1 v2 v3 (0 : Int32) st
def bX1_cheapest_87 (kk37 : Rf → Int32 → Int32 → Int32 → Mem → Option (Int32 × Mem)) (v0 : Rf) (v1 : Int32) (v2 : Int32) (v3 : Int32) (st : Mem) : Option (Int32 × Mem) :=
  bX1_cheapest_92 kk37 v0 v1 v2 v3 (1 : Int32) st
def bX1_cheapest_37B (kk37 : Rf → Int32 → Int32 → Int32 → Mem → Option (Int32 × Mem)) (v0 : Rf) (v1 : Int32) (v2 : Int32) (v3 : Int32) (st : Mem) : Option (Int32 × Mem) :=
  if (shlI (1 : Int32) v1) ≤ v3 then
    if ¬ v2 = (-1 : Int32) then
      (pI st v0 12 v2).bind fun st =>
      bd (iv st v0 [1] (fX1_priceOf v0 v2 st)) fun x142 st =>
      some (x142, st)
    else
      some ((-1 : Int32), st)
  else
    bd (iv st v0 [1] (fX1_priceOf v0 v3 st)) fun x46 st =>
    if v2 = (-1 : Int32) then
      bX1_cheapest_91 kk37 v0 v1 v2 v3 st
    else
      bd (iv st v0 [1] (fX1_priceOf v0 v2 st)) fun x60 st =>
      if x60 < x46 then
        bX1_cheapest_87 kk37 v0 v1 v2 v3 st
      else
        bd (iv st v0 [1] (fX1_priceOf v0 v2 st)) fun x70 st =>
        if ¬ x46 = x70 then
          bX1_cheapest_91 kk37 v0 v1 v2 v3 st
        else
          bd (fJ19_bitCount v3 st) fun x77 st =>
          bd (fJ19_bitCount v2 st) fun x81 st =>
          if x77 < x81 then
            bX1_cheapest_91 kk37 v0 v1 v2 v3 st
          else
            bX1_cheapest_87 kk37 v0 v1 v2 v3 st
def bX1_cheapest_37 : Nat → Rf → Int32 → Int32 → Int32 → Mem → Option (Int32 × Mem)
  | 0 => fun _ _ _ _ _ => none
  | n + 1 => bX1_cheapest_37B (bX1_cheapest_37 n)
def fX1_cheapest (a0 : Rf) (st : Mem) : Option (Int32 × Mem) :=
  bd (iv st a0 [1] (fX1_take a0 st)) fun x1 st =>
  bd (fX1_isIn x1 (1 : Int32) (8 : Int32) st) fun x9 st =>
  if x9 = 0 then
    some ((-2 : Int32), st)
  else
    (gA st a0 11).bind fun x19 =>
    bd (iv st a0 [1] (fX1_takesSeats a0 (0 : Int32) x1 x19 (0 : Int64) st)) fun x23 st =>
    if ¬ x23 = (-1 : Int32) then
      bX1_cheapest_37 hcFuel a0 x1 (-1 : Int32) (0 : Int32) st
    else
      some ((-2 : Int32), st)
def bX1_coalitions_123 (kk77 : Rf → Int32 → Int32 → Int32 → Int32 → Mem → Option (Int32 × Mem)) (v0 : Rf) (v1 : Int32) (v2 : Int32) (v3 : Int32) (v4 : Int32) (st : Mem) : Option (Int32 × Mem) :=
  kk77 v0 v1 v2 v3 (v4 + 1) st
def bX1_coalitions_112 (kk77 : Rf → Int32 → Int32 → Int32 → Int32 → Mem → Option (Int32 × Mem)) (v0 : Rf) (v1 : Int32) (v2 : Int32) (v3 : Int32) (v4 : Int32) (st : Mem) : Option (Int32 × Mem) :=
  if ¬ v3 = v1 then
    bX1_coalitions_123 kk77 v0 v1 v2 (v3 + 1) v4 st
  else
    some (v4, st)
def bX1_coalitions_77B (kk77 : Rf → Int32 → Int32 → Int32 → Int32 → Mem → Option (Int32 × Mem)) (v0 : Rf) (v1 : Int32) (v2 : Int32) (v3 : Int32) (v4 : Int32) (st : Mem) : Option (Int32 × Mem) :=
  if (shlI (1 : Int32) v2) ≤ v4 then
    if ¬ v1 = (-1 : Int32) then
      some ((-1 : Int32), st)
    else
      some (v3, st)
  else
    (gA st v0 13).bind fun x86 =>
    (aB st x86 v4).bind fun x91 =>
    if x91 = 0 then
      bX1_coalitions_123 kk77 v0 v1 v2 v3 v4 st
    else
      if v4 ≤ 0 then
        bX1_coalitions_112 kk77 v0 v1 v2 v3 v4 st
      else
        bd (iv st v0 [1] (fX1_isBare v0 v4 st)) fun x103 st =>
        if ¬ x103 = 0 then
          bX1_coalitions_112 kk77 v0 v1 v2 v3 v4 st
        else
          bX1_coalitions_123 kk77 v0 v1 v2 v3 v4 st
def bX1_coalitions_77 : Nat → Rf → Int32 → Int32 → Int32 → Int32 → Mem → Option (Int32 × Mem)
  | 0 => fun _ _ _ _ _ _ => none
  | n + 1 => bX1_coalitions_77B (bX1_coalitions_77 n)
def bX1_coalitions_35B (kk35 : Rf → Int32 → Int32 → Int32 → Mem → Option (Int32 × Mem)) (v0 : Rf) (v1 : Int32) (v2 : Int32) (v3 : Int32) (st : Mem) : Option (Int32 × Mem) :=
  if (shlI (1 : Int32) v2) ≤ v3 then
    bX1_coalitions_77 hcFuel v0 v1 v2 (0 : Int32) (0 : Int32) st
  else
    (gA st v0 13).bind fun x43 =>
    (gA st v0 4).bind fun x49 =>
    (gJ st v0 5).bind fun x53 =>
    bd (iv st v0 [1] (fX1_handsOf v0 v3 st)) fun x58 st =>
    bd (iv st v0 [1] (fX1_isCarried v0 x49 (x53 ||| x58) st)) fun x62 st =>
    (uB st x43 v3 x62).bind fun st =>
    kk35 v0 v1 v2 (v3 + 1) st
def bX1_coalitions_35 : Nat → Rf → Int32 → Int32 → Int32 → Mem → Option (Int32 × Mem)
  | 0 => fun _ _ _ _ _ => none
  | n + 1 => bX1_coalitions_35B (bX1_coalitions_35 n)
def fX1_coalitions (a0 : Rf) (a1 : Int32) (st : Mem) : Option (Int32 × Mem) :=
  bd (iv st a0 [1] (fX1_take a0 st)) fun x1 st =>
  bd (fX1_isIn x1 (1 : Int32) (8 : Int32) st) fun x9 st =>
  if x9 = 0 then
    some ((-2 : Int32), st)
  else
    (gA st a0 11).bind fun x19 =>
    bd (iv st a0 [1] (fX1_takesSeats a0 (0 : Int32) x1 x19 (0 : Int64) st)) fun x23 st =>
    if ¬ x23 = (-1 : Int32) then
      bX1_coalitions_35 hcFuel a0 a1 x1 (0 : Int32) st
    else
      some ((-2 : Int32), st)
def bX1_exchanged_144 (kk41 : Rf → Rf → Int32 → Mem → Option (Int32 × Mem)) (kk56 : Rf → Rf → Int32 → Int32 → Mem → Option (Int32 × Mem)) (v0 : Rf) (v1 : Rf) (v2 : Int32) (v3 : Int32) (st : Mem) : Option (Int32 × Mem) :=
  kk56 v0 v1 v2 (v3 + 1) st
def bX1_exchanged_56B (kk41 : Rf → Rf → Int32 → Mem → Option (Int32 × Mem)) (kk56 : Rf → Rf → Int32 → Int32 → Mem → Option (Int32 × Mem)) (v0 : Rf) (v1 : Rf) (v2 : Int32) (v3 : Int32) (st : Mem) : Option (Int32 × Mem) :=
  (gA st v0 4).bind fun x58 =>
  bd (iv st x58 [2] (fX2_size x58 st)) fun x61 st =>
  if x61 ≤ v3 then
    kk41 v0 v1 (v2 + 1) st
  else
    (gA st v0 4).bind fun x68 =>
    bd (iv st x68 [2] (fX2_isSeat x68 v2 st)) fun x72 st =>
    if x72 = 0 then
      bX1_exchanged_144 kk41 kk56 v0 v1 v2 v3 st
    else
      (gA st v0 4).bind fun x79 =>
      bd (iv st x79 [2] (fX2_isSeat x79 v3 st)) fun x83 st =>
      if x83 = 0 then
        bX1_exchanged_144 kk41 kk56 v0 v1 v2 v3 st
      else
        (gA st v0 4).bind fun x90 =>
        (gA st x90 34).bind fun x93 =>
        (aI st x93 v2).bind fun x97 =>
        (gA st v0 4).bind fun x99 =>
        (gA st x99 34).bind fun x102 =>
        (aI st x102 v3).bind fun x106 =>
        if ¬ x97 = x106 then
          bd (iv st v1 [2] (fX2_swap v1 v2 v3 st)) fun _ st =>
          (gJ st v0 5).bind fun x122 =>
          bd (iv st v0 [1] (fX1_isCarried v0 v1 x122 st)) fun x125 st =>
          if x125 = 0 then
            bd (iv st v1 [2] (fX2_swap v1 v2 v3 st)) fun _ st =>
            bX1_exchanged_144 kk41 kk56 v0 v1 v2 v3 st
          else
            some ((((100 : Int32) * v2) + v3), st)
        else
          bX1_exchanged_144 kk41 kk56 v0 v1 v2 v3 st
def bX1_exchanged_56 (kk41 : Rf → Rf → Int32 → Mem → Option (Int32 × Mem)) : Nat → Rf → Rf → Int32 → Int32 → Mem → Option (Int32 × Mem)
  | 0 => fun _ _ _ _ _ => none
  | n + 1 => bX1_exchanged_56B kk41 (bX1_exchanged_56 kk41 n)
def bX1_exchanged_41B (kk41 : Rf → Rf → Int32 → Mem → Option (Int32 × Mem)) (v0 : Rf) (v1 : Rf) (v2 : Int32) (st : Mem) : Option (Int32 × Mem) :=
  (gA st v0 4).bind fun x43 =>
  bd (iv st x43 [2] (fX2_size x43 st)) fun x46 st =>
  if x46 ≤ v2 then
    some ((-1 : Int32), st)
  else
    bX1_exchanged_56 kk41 hcFuel v0 v1 v2 (v2 + (1 : Int32)) st
def bX1_exchanged_41 : Nat → Rf → Rf → Int32 → Mem → Option (Int32 × Mem)
  | 0 => fun _ _ _ _ => none
  | n + 1 => bX1_exchanged_41B (bX1_exchanged_41 n)
def fX1_exchanged (a0 : Rf) (st : Mem) : Option (Int32 × Mem) :=
  (gA st a0 4).bind fun x1 =>
  bd (iv st x1 [2] (fX2_seats x1 st)) fun x4 st =>
  if (24 : Int32) < x4 then
    some ((-1 : Int32), st)
  else
    (gA st a0 4).bind fun x14 =>
    (gJ st a0 5).bind fun x18 =>
    bd (iv st a0 [1] (fX1_isCarried a0 x14 x18 st)) fun x21 st =>
    if x21 = 0 then
      (gA st a0 4).bind fun x30 =>
      bd (iv st x30 [2] (fX2_exchanged x30 (0 : Int32) (0 : Int32) st)) fun x35 st =>
      bX1_exchanged_41 hcFuel a0 x35 (0 : Int32) st
    else
      some ((-1 : Int32), st)
def bX1_leader_120 (kk28 : Rf → Int32 → Int32 → Int32 → Int32 → Mem → Option (Int32 × Mem)) (v0 : Rf) (v1 : Int32) (v2 : Int32) (v3 : Int32) (v4 : Int32) (st : Mem) : Option (Int32 × Mem) :=
  kk28 v0 v1 v2 v3 (v4 + 1) st
def bX1_leader_114 (kk28 : Rf → Int32 → Int32 → Int32 → Int32 → Mem → Option (Int32 × Mem)) (v0 : Rf) (v1 : Int32) (v4 : Int32) (v5 : Int32) (st : Mem) : Option (Int32 × Mem) :=
  bX1_leader_120 kk28 v0 v1 v4 v5 v4 st
def bX1_leader_28B (kk28 : Rf → Int32 → Int32 → Int32 → Int32 → Mem → Option (Int32 × Mem)) (v0 : Rf) (v1 : Int32) (v2 : Int32) (v3 : Int32) (v4 : Int32) (st : Mem) : Option (Int32 × Mem) :=
  (gA st v0 4).bind fun x31 =>
  bd (iv st x31 [2] (fX2_size x31 st)) fun x34 st =>
  if x34 ≤ v4 then
    if ¬ v1 = 0 then
      some (v3, st)
    else
      some (v2, st)
  else
    (gA st v0 4).bind fun x41 =>
    bd (iv st x41 [2] (fX2_isSeat x41 v4 st)) fun x46 st =>
    if ¬ x46 = 0 then
      bd (iv st v0 [1] (fX1_starts v0 v4 st)) fun x58 st =>
      if x58 < v3 then
        bX1_leader_120 kk28 v0 v1 v2 v3 v4 st
      else
        if ¬ x58 = v3 then
          bX1_leader_114 kk28 v0 v1 v4 x58 st
        else
          (gA st v0 4).bind fun x76 =>
          (gA st x76 35).bind fun x79 =>
          (gA st v0 4).bind fun x83 =>
          bd (iv st x83 [2] (fX2_row x83 v4 st)) fun x88 st =>
          (aI st x79 x88).bind fun x91 =>
          (gA st v0 4).bind fun x93 =>
          (gA st x93 35).bind fun x96 =>
          (gA st v0 4).bind fun x100 =>
          bd (iv st x100 [2] (fX2_row x100 v2 st)) fun x104 st =>
          (aI st x96 x104).bind fun x107 =>
          if x91 < x107 then
            bX1_leader_114 kk28 v0 v1 v4 x58 st
          else
            bX1_leader_120 kk28 v0 v1 v2 v3 v4 st
    else
      bX1_leader_120 kk28 v0 v1 v2 v3 v4 st
def bX1_leader_28 : Nat → Rf → Int32 → Int32 → Int32 → Int32 → Mem → Option (Int32 × Mem)
  | 0 => fun _ _ _ _ _ _ => none
  | n + 1 => bX1_leader_28B (bX1_leader_28 n)
def fX1_leader (a0 : Rf) (a1 : Int32) (st : Mem) : Option (Int32 × Mem) :=
  bd (fX1_isIn a1 (0 : Int32) (1 : Int32) st) fun x3 st =>
  if x3 = 0 then
    some ((-1 : Int32), st)
  else
    (gA st a0 4).bind fun x10 =>
    bd (iv st x10 [2] (fX2_seats x10 st)) fun x13 st =>
    if ¬ x13 = 0 then
      bX1_leader_28 hcFuel a0 a1 (-1 : Int32) (-1 : Int32) (0 : Int32) st
    else
      some ((-1 : Int32), st)
def bX1_house_58 (v0 : Rf) (k0 : Rf) (st : Mem) : Option (Int32 × Mem) :=
  (gI st k0 139).bind fun x61 =>
  (pI st v0 3 x61).bind fun st =>
  (gI st k0 140).bind fun x69 =>
  some (((-1 : Int32) - x69), st)
def fX1_house (a0 : Rf) (st : Mem) : Option (Int32 × Mem) :=
  bd (iv st a0 [1] (fX1_take a0 st)) fun x1 st =>
  (pI st a0 3 (0 : Int32)).bind fun st =>
  bd (nO st 5) fun x11 st =>
  (gA st a0 1).bind fun x16 =>
  bd (nn x11 (fX6_init x11 x16 x1 st)) fun _ st =>
  bc (iv st x11 [5] (fX6_read x11 st)) (fun z23 st => hg st z23 6 (bX1_house_58 a0 (some z23) st)) fun x23 st =>
  (pA st a0 4 x23).bind fun st =>
  (pJ st a0 5 (0 : Int64)).bind fun st =>
  (pJ st a0 6 (0 : Int64)).bind fun st =>
  bd (nO st 18) fun x40 st =>
  bd (nn x40 (fJ3_init x40 st)) fun _ st =>
  (pA st a0 7 x40).bind fun st =>
  (gA st a0 4).bind fun x51 =>
  (gI st x51 32).bind fun x54 =>
  some (x54, st)
