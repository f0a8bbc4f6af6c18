def bX4_areLike_68 (st : Mem) : Option (Int32 × Mem) :=
  some ((0 : Int32), st)
def fX4_areLike (a0 : Rf) (a1 : Int32) (a2 : Int32) (st : Mem) : Option (Int32 × Mem) :=
  (gA st a0 87).bind fun x1 =>
  (aJ st x1 a1).bind fun x5 =>
  (gA st a0 87).bind fun x7 =>
  (aJ st x7 a2).bind fun x11 =>
  if ¬ x5 = x11 then
    bX4_areLike_68 st
  else
    (gA st a0 88).bind fun x17 =>
    (aJ st x17 a1).bind fun x21 =>
    (gA st a0 88).bind fun x23 =>
    (aJ st x23 a2).bind fun x27 =>
    if ¬ x21 = x27 then
      bX4_areLike_68 st
    else
      (gA st a0 89).bind fun x33 =>
      (aJ st x33 a1).bind fun x37 =>
      (gA st a0 89).bind fun x39 =>
      (aJ st x39 a2).bind fun x43 =>
      if ¬ x37 = x43 then
        bX4_areLike_68 st
      else
        (gA st a0 90).bind fun x49 =>
        (aJ st x49 a1).bind fun x53 =>
        (gA st a0 90).bind fun x55 =>
        (aJ st x55 a2).bind fun x59 =>
        if ¬ x53 = x59 then
          bX4_areLike_68 st
        else
          some ((1 : Int32), st)
def fX4_arranged (a0 : Rf) (st : Mem) : Option (Int32 × Mem) :=
  (pI st a0 55 (0 : Int32)).bind fun st =>
  (gI st a0 118).bind fun x6 =>
  some (x6, st)
def fX4_bad (a0 : Rf) (a1 : Int32) (st : Mem) : Option (Int32 × Mem) :=
  (pI st a0 68 a1).bind fun st =>
  (gI st a0 65).bind fun x7 =>
  (pI st a0 69 x7).bind fun st =>
  some ((0 : Int32), st)
def fX4_beganAt (a0 : Rf) (a1 : Int32) (st : Mem) : Option (Int32 × Mem) :=
  (pI st a0 55 (0 : Int32)).bind fun st =>
  if ¬ a1 = 0 then
    if ¬ a1 = (1 : Int32) then
      some ((-1 : Int32), st)
    else
      (gI st a0 115).bind fun x22 =>
      some (x22, st)
  else
    (gI st a0 114).bind fun x10 =>
    some (x10, st)
def fX4_binds (a0 : Int32) (st : Mem) : Option (Int32 × Mem) :=
  if ¬ a0 = (3 : Int32) then
    if ¬ a0 = (4 : Int32) then
      some ((1 : Int32), st)
    else
      some ((2 : Int32), st)
  else
    some ((3 : Int32), st)
def fX4_bits (a0 : Int64) (st : Mem) : Option (Int32 × Mem) :=
  (some (a0 - ((ushrL a0 (1 : Int32)) &&& (6148914691236517205 : Int64)))).bind fun y9 =>
  (some ((y9 &&& (3689348814741910323 : Int64)) + ((ushrL y9 (2 : Int32)) &&& (3689348814741910323 : Int64)))).bind fun y23 =>
  (some ((y23 + (ushrL y23 (4 : Int32))) &&& (1085102592571150095 : Int64))).bind fun y33 =>
  some ((Int64.toInt32 (ushrL (y33 * (72340172838076673 : Int64)) (56 : Int32))), st)
def fX4_bought (a0 : Rf) (st : Mem) : Option (Int32 × Mem) :=
  (pI st a0 55 (0 : Int32)).bind fun st =>
  (gI st a0 103).bind fun x6 =>
  some (x6, st)
def fX4_change (a0 : Rf) (a1 : Int32) (a2 : Int32) (st : Mem) : Option (Unit × Mem) :=
  (gA st a0 61).bind fun x1 =>
  (aI st x1 ((6 : Int32) + a1)).bind fun x8 =>
  (gA st a0 61).bind fun x11 =>
  (gA st a0 61).bind fun x19 =>
  (aI st x19 ((6 : Int32) + a2)).bind fun x26 =>
  (uI st x11 ((6 : Int32) + a1) x26).bind fun st =>
  (gA st a0 61).bind fun x29 =>
  (uI st x29 ((6 : Int32) + a2) x8).bind fun st =>
  some ((), st)
def fX4_draw (a0 : Rf) (a1 : Int32) (st : Mem) : Option (Int32 × Mem) :=
  (gI st a0 119).bind fun x2 =>
  (pI st a0 119 ((x2 * (1103515245 : Int32)) + (12345 : Int32))).bind fun st =>
  (gI st a0 119).bind fun x17 =>
  (rmI (ushrI x17 (8 : Int32)) a1).bind fun x24 =>
  some (x24, st)
def fX4_end (a0 : Rf) (a1 : Int32) (st : Mem) : Option (Int32 × Mem) :=
  (pI st a0 55 (0 : Int32)).bind fun st =>
  if a1 < 0 then
    some ((0 : Int32), st)
  else
    (gI st a0 57).bind fun x11 =>
    if a1 ≤ x11 then
      (pI st a0 57 a1).bind fun st =>
      some ((1 : Int32), st)
    else
      some ((0 : Int32), st)
def fX4_fault (a0 : Rf) (st : Mem) : Option (Int32 × Mem) :=
  (pI st a0 55 (0 : Int32)).bind fun st =>
  (gI st a0 68).bind fun x6 =>
  some (x6, st)
def bX4_four_3B (kk3 : Rf → Int32 → Int32 → Mem → Option (Unit × Mem)) (v0 : Rf) (v1 : Int32) (v2 : Int32) (st : Mem) : Option (Unit × Mem) :=
  if v2 < 0 then
    some ((), st)
  else
    (gA st v0 56).bind fun x8 =>
    (gI st v0 57).bind fun x12 =>
    (uB st x8 x12 (i2bv (shrI v1 v2))).bind fun st =>
    (gI st v0 57).bind fun x22 =>
    (pI st v0 57 (x22 + (1 : Int32))).bind fun st =>
    kk3 v0 v1 (v2 + (-8)) st
def bX4_four_3 : Nat → Rf → Int32 → Int32 → Mem → Option (Unit × Mem)
  | 0 => fun _ _ _ _ => none
  | n + 1 => bX4_four_3B (bX4_four_3 n)
def fX4_four (a0 : Rf) (a1 : Int32) (st : Mem) : Option (Unit × Mem) :=
  bX4_four_3 hcFuel a0 a1 (24 : Int32) st
def fX4_has (a0 : Int32) (a1 : Int32) (st : Mem) : Option (Int32 × Mem) :=
  if ¬ ((shrI a0 a1) &&& (1 : Int32)) = (1 : Int32) then
    some ((0 : Int32), st)
  else
    some ((1 : Int32), st)
def fX4_holds (a0 : Int64) (a2 : Int32) (st : Mem) : Option (Int32 × Mem) :=
  if ¬ ((shrL a0 a2) &&& (1 : Int64)) = (1 : Int64) then
    some ((0 : Int32), st)
  else
    some ((1 : Int32), st)
def bX4_isDigit_16 (st : Mem) : Option (Int32 × Mem) :=
  some ((0 : Int32), st)
def fX4_isDigit (a0 : Int32) (st : Mem) : Option (Int32 × Mem) :=
  if a0 < (48 : Int32) then
    bX4_isDigit_16 st
  else
    if (57 : Int32) < a0 then
      bX4_isDigit_16 st
    else
      some ((1 : Int32), st)
def bX4_isIn_14 (st : Mem) : Option (Int32 × Mem) :=
  some ((0 : Int32), st)
def fX4_isIn (a0 : Int32) (a1 : Int32) (a2 : Int32) (st : Mem) : Option (Int32 × Mem) :=
  if a0 < a1 then
    bX4_isIn_14 st
  else
    if a2 < a0 then
      bX4_isIn_14 st
    else
      some ((1 : Int32), st)
def bX4_isOpen_2B (kk2 : Rf → Int32 → Mem → Option (Int32 × Mem)) (v0 : Rf) (v1 : Int32) (st : Mem) : Option (Int32 × Mem) :=
  (gI st v0 82).bind fun x4 =>
  if x4 ≤ v1 then
    some ((0 : Int32), st)
  else
    (gA st v0 79).bind fun x11 =>
    (aI st x11 v1).bind fun x15 =>
    if ¬ x15 = (6 : Int32) then
      kk2 v0 (v1 + 1) st
    else
      some ((1 : Int32), st)
def bX4_isOpen_2 : Nat → Rf → Int32 → Mem → Option (Int32 × Mem)
  | 0 => fun _ _ _ => none
  | n + 1 => bX4_isOpen_2B (bX4_isOpen_2 n)
def fX4_isOpen (a0 : Rf) (st : Mem) : Option (Int32 × Mem) :=
  bX4_isOpen_2 hcFuel a0 (0 : Int32) st
def bX4_isSign_20 (st : Mem) : Option (Int32 × Mem) :=
  some ((0 : Int32), st)
def fX4_isSign (a0 : Rf) (a1 : Int32) (st : Mem) : Option (Int32 × Mem) :=
  (gI st a0 64).bind fun x1 =>
  if ¬ x1 = (3 : Int32) then
    bX4_isSign_20 st
  else
    (gI st a0 67).bind fun x9 =>
    if ¬ x9 = a1 then
      bX4_isSign_20 st
    else
      some ((1 : Int32), st)
def bX4_isSmall_16 (st : Mem) : Option (Int32 × Mem) :=
  some ((0 : Int32), st)
def fX4_isSmall (a0 : Int32) (st : Mem) : Option (Int32 × Mem) :=
  if a0 < (97 : Int32) then
    bX4_isSmall_16 st
  else
    if (122 : Int32) < a0 then
      bX4_isSmall_16 st
    else
      some ((1 : Int32), st)
def bX4_isWord_21 (st : Mem) : Option (Int32 × Mem) :=
  some ((0 : Int32), st)
def fX4_isWord (a0 : Rf) (a1 : Int64) (st : Mem) : Option (Int32 × Mem) :=
  (gI st a0 64).bind fun x1 =>
  if ¬ x1 = (1 : Int32) then
    bX4_isWord_21 st
  else
    (gJ st a0 70).bind fun x9 =>
    if ¬ x9 = a1 then
      bX4_isWord_21 st
    else
      some ((1 : Int32), st)
def fX4_octet (a0 : Rf) (a1 : Int32) (st : Mem) : Option (Int32 × Mem) :=
  (gA st a0 56).bind fun x1 =>
  (aB st x1 a1).bind fun x5 =>
  some ((x5 &&& (255 : Int32)), st)
def bX4_opened_39 (kk4 : Rf → Int32 → Int32 → Mem → Option (Int32 × Mem)) (v0 : Rf) (v2 : Int32) (k0 : Int32) (k1 : Int32) (st : Mem) : Option (Int32 × Mem) :=
  kk4 v0 (k0 + k1) (v2 + 1) st
def bX4_opened_34 (kk4 : Rf → Int32 → Int32 → Mem → Option (Int32 × Mem)) (v0 : Rf) (v2 : Int32) (k0 : Int32) (st : Mem) : Option (Int32 × Mem) :=
  bX4_opened_39 kk4 v0 v2 k0 (1 : Int32) st
def bX4_opened_4B (kk4 : Rf → Int32 → Int32 → Mem → Option (Int32 × Mem)) (v0 : Rf) (v1 : Int32) (v2 : Int32) (st : Mem) : Option (Int32 × Mem) :=
  (gI st v0 82).bind fun x6 =>
  if x6 ≤ v2 then
    some (v1, st)
  else
    (gA st v0 79).bind fun x14 =>
    (aI st x14 v2).bind fun x18 =>
    if x18 = (3 : Int32) then
      bX4_opened_34 kk4 v0 v2 v1 st
    else
      (gA st v0 79).bind fun x24 =>
      (aI st x24 v2).bind fun x28 =>
      if ¬ x28 = (6 : Int32) then
        bX4_opened_39 kk4 v0 v2 v1 (0 : Int32) st
      else
        bX4_opened_34 kk4 v0 v2 v1 st
def bX4_opened_4 : Nat → Rf → Int32 → Int32 → Mem → Option (Int32 × Mem)
  | 0 => fun _ _ _ _ => none
  | n + 1 => bX4_opened_4B (bX4_opened_4 n)
def fX4_opened (a0 : Rf) (st : Mem) : Option (Int32 × Mem) :=
  bX4_opened_4 hcFuel a0 (0 : Int32) (0 : Int32) st
def bX4_orders_4B (kk4 : Int32 → Int64 → Int32 → Mem → Option (Int64 × Mem)) (v0 : Int32) (v1 : Int64) (v3 : Int32) (st : Mem) : Option (Int64 × Mem) :=
  if v0 < v3 then
    some (v1, st)
  else
    (some (v1 * (Int32.toInt64 v3))).bind fun y13 =>
    kk4 v0 y13 (v3 + 1) st
def bX4_orders_4 : Nat → Int32 → Int64 → Int32 → Mem → Option (Int64 × Mem)
  | 0 => fun _ _ _ _ => none
  | n + 1 => bX4_orders_4B (bX4_orders_4 n)
def fX4_orders (a0 : Int32) (st : Mem) : Option (Int64 × Mem) :=
  bX4_orders_4 hcFuel a0 (1 : Int64) (2 : Int32) st
def fX4_peek (a0 : Rf) (st : Mem) : Option (Int32 × Mem) :=
  (gI st a0 59).bind fun x1 =>
  (gI st a0 58).bind fun x5 =>
  if x5 ≤ x1 then
    some ((-1 : Int32), st)
  else
    (gA st a0 56).bind fun x12 =>
    (gI st a0 59).bind fun x16 =>
    (aB st x12 x16).bind fun x19 =>
    some ((x19 &&& (255 : Int32)), st)
def bX4_plainHouse_24B (kk24 : Rf → Int32 → Mem → Option (Unit × Mem)) (v0 : Rf) (v1 : Int32) (st : Mem) : Option (Unit × Mem) :=
  if (8 : Int32) ≤ v1 then
    (gA st v0 62).bind fun x48 =>
    (uI st x48 (3 : Int32) (1 : Int32)).bind fun st =>
    (gA st v0 62).bind fun x55 =>
    (uI st x55 (4 : Int32) (600 : Int32)).bind fun st =>
    some ((), st)
  else
    (gA st v0 62).bind fun x31 =>
    (uI st x31 ((70 : Int32) + v1) (10 : Int32)).bind fun st =>
    kk24 v0 (v1 + 1) st
def bX4_plainHouse_24 : Nat → Rf → Int32 → Mem → Option (Unit × Mem)
  | 0 => fun _ _ _ => none
  | n + 1 => bX4_plainHouse_24B (bX4_plainHouse_24 n)
def bX4_plainHouse_2B (kk2 : Rf → Int32 → Mem → Option (Unit × Mem)) (v0 : Rf) (v1 : Int32) (st : Mem) : Option (Unit × Mem) :=
  if (590 : Int32) ≤ v1 then
    bX4_plainHouse_24 hcFuel v0 (0 : Int32) st
  else
    (gA st v0 62).bind fun x10 =>
    (uI st x10 v1 (0 : Int32)).bind fun st =>
    kk2 v0 (v1 + 1) st
def bX4_plainHouse_2 : Nat → Rf → Int32 → Mem → Option (Unit × Mem)
  | 0 => fun _ _ _ => none
  | n + 1 => bX4_plainHouse_2B (bX4_plainHouse_2 n)
def fX4_plainHouse (a0 : Rf) (st : Mem) : Option (Unit × Mem) :=
  bX4_plainHouse_2 hcFuel a0 (0 : Int32) st
def fX4_price (a0 : Rf) (a1 : Int32) (st : Mem) : Option (Int32 × Mem) :=
  (gA st a0 61).bind fun x1 =>
  (gA st a0 61).bind fun x8 =>
  (aI st x8 (1 : Int32)).bind fun x12 =>
  (dvI a1 x12).bind fun x13 =>
  (aI st x1 ((70 : Int32) + x13)).bind fun x15 =>
  some (x15, st)
def fX4_taken (a0 : Rf) (a1 : Int32) (st : Mem) : Option (Unit × Mem) :=
  (gI st a0 57).bind fun x2 =>
  (pI st a0 58 x2).bind fun st =>
  (pI st a0 57 (0 : Int32)).bind fun st =>
  (pI st a0 59 (0 : Int32)).bind fun st =>
  (pI st a0 60 a1).bind fun st =>
  some ((), st)
def fX4_thrown (a0 : Rf) (st : Mem) : Option (Int32 × Mem) :=
  (gI st a0 55).bind fun x1 =>
  some (x1, st)
def bX4_throwsIf_10 (v1 : Int32) (k0 : Rf) (k1 : Int32) (st : Mem) : Option (Int32 × Mem) :=
  (pI st k0 55 k1).bind fun st =>
  some ((nz v1), st)
def fX4_throwsIf (a0 : Rf) (a1 : Int32) (st : Mem) : Option (Int32 × Mem) :=
  if a1 = 0 then
    bX4_throwsIf_10 a1 a0 (0 : Int32) st
  else
    bX4_throwsIf_10 a1 a0 (1 : Int32) st
def fX4_write (a0 : Rf) (a1 : Int32) (st : Mem) : Option (Unit × Mem) :=
  (gA st a0 78).bind fun x1 =>
  (gI st a0 81).bind fun x5 =>
  (uI st x1 x5 a1).bind fun st =>
  (gI st a0 81).bind fun x12 =>
  (pI st a0 81 (x12 + (1 : Int32))).bind fun st =>
  some ((), st)
def fX4_atom (a0 : Rf) (st : Mem) : Option (Int32 × Mem) :=
  bd (iv st a0 [4] (fX4_isWord a0 (1852137842 : Int64) st)) fun x4 st =>
  if x4 = 0 then
    bd (iv st a0 [4] (fX4_isWord a0 (418363302244 : Int64) st)) fun x18 st =>
    if x18 = 0 then
      bd (iv st a0 [4] (fX4_isWord a0 (108187867505765 : Int64) st)) fun x32 st =>
      if x32 = 0 then
        bd (iv st a0 [4] (fX4_isWord a0 (108187682958948 : Int64) st)) fun x46 st =>
        if x46 = 0 then
          bd (iv st a0 [4] (fX4_isWord a0 (1936024942 : Int64) st)) fun x60 st =>
          if x60 = 0 then
            bd (iv st a0 [4] (fX4_isWord a0 (448546567013 : Int64) st)) fun x74 st =>
            if x74 = 0 then
              bd (iv st a0 [4] (fX4_isWord a0 (1936026726 : Int64) st)) fun x88 st =>
              if x88 = 0 then
                bd (iv st a0 [4] (fX4_isWord a0 (1751477348 : Int64) st)) fun x103 st =>
                if x103 = 0 then
                  some ((-1 : Int32), st)
                else
                  some ((7 : Int32), st)
              else
                some ((6 : Int32), st)
            else
              some ((5 : Int32), st)
          else
            some ((4 : Int32), st)
        else
          some ((3 : Int32), st)
      else
        some ((2 : Int32), st)
    else
      some ((1 : Int32), st)
  else
    some ((0 : Int32), st)
def bX4_bitsOf_37 (kk5 : Rf → Int32 → Int64 → Int32 → Mem → Option (Int64 × Mem)) (v0 : Rf) (v1 : Int32) (v4 : Int32) (k0 : Int64) (k1 : Int64) (st : Mem) : Option (Int64 × Mem) :=
  kk5 v0 v1 (k0 ||| k1) (v4 + 1) st
def bX4_bitsOf_5B (kk5 : Rf → Int32 → Int64 → Int32 → Mem → Option (Int64 × Mem)) (v0 : Rf) (v1 : Int32) (v2 : Int64) (v4 : Int32) (st : Mem) : Option (Int64 × Mem) :=
  (gI st v0 102).bind fun x8 =>
  if x8 ≤ v4 then
    some (v2, st)
  else
    bd (fX4_has v1 v4 st) fun x18 st =>
    if x18 = 0 then
      bX4_bitsOf_37 kk5 v0 v1 v4 v2 (0 : Int64) st
    else
      (gA st v0 101).bind fun x26 =>
      (aI st x26 v4).bind fun x31 =>
      bX4_bitsOf_37 kk5 v0 v1 v4 v2 (shlL (1 : Int64) x31) st
def bX4_bitsOf_5 : Nat → Rf → Int32 → Int64 → Int32 → Mem → Option (Int64 × Mem)
  | 0 => fun _ _ _ _ _ => none
  | n + 1 => bX4_bitsOf_5B (bX4_bitsOf_5 n)
def fX4_bitsOf (a0 : Rf) (a1 : Int32) (st : Mem) : Option (Int64 × Mem) :=
  bX4_bitsOf_5 hcFuel a0 a1 (0 : Int64) (0 : Int32) st
def fX4_count (a0 : Rf) (a1 : Int32) (st : Mem) : Option (Int32 × Mem) :=
  (pI st a0 55 (0 : Int32)).bind fun st =>
  bd (fX4_isIn a1 (0 : Int32) (5 : Int32) st) fun x8 st =>
  if x8 = 0 then
    if ¬ a1 = (6 : Int32) then
      if ¬ a1 = (7 : Int32) then
        if ¬ a1 = (8 : Int32) then
          if ¬ a1 = (9 : Int32) then
            some ((-1 : Int32), st)
          else
            (gA st a0 61).bind fun x73 =>
            (aI st x73 (590 : Int32)).bind fun x79 =>
            some (x79, st)
        else
          (gI st a0 57).bind fun x60 =>
          some (x60, st)
      else
        (gJ st a0 72).bind fun x44 =>
        bd (fX4_bits x44 st) fun x47 st =>
        some (x47, st)
    else
      (gJ st a0 71).bind fun x28 =>
      bd (fX4_bits x28 st) fun x31 st =>
      some (x31, st)
  else
    (gA st a0 61).bind fun x15 =>
    (aI st x15 a1).bind fun x19 =>
    some (x19, st)
def bX4_cue_33 (v0 : Rf) (v1 : Int32) (v2 : Int32) (k0 : Rf) (k1 : Int32) (st : Mem) : Option (Int32 × Mem) :=
  bd (iv st k0 [4] (fX4_throwsIf k0 k1 st)) fun x33 st =>
  if x33 = 0 then
    (gA st v0 61).bind fun x44 =>
    (aI st x44 (((591 : Int32) + ((3 : Int32) * v1)) + v2)).bind fun x56 =>
    some (x56, st)
  else
    some ((0 : Int32), st)
def bX4_cue_28 (v0 : Rf) (v1 : Int32) (v2 : Int32) (k0 : Rf) (st : Mem) : Option (Int32 × Mem) :=
  bX4_cue_33 v0 v1 v2 k0 (1 : Int32) st
def fX4_cue (a0 : Rf) (a1 : Int32) (a2 : Int32) (st : Mem) : Option (Int32 × Mem) :=
  (gA st a0 61).bind fun x4 =>
  (aI st x4 (590 : Int32)).bind fun x10 =>
  bd (fX4_isIn a1 (0 : Int32) (x10 - (1 : Int32)) st) fun x13 st =>
  if x13 = 0 then
    bX4_cue_28 a0 a1 a2 a0 st
  else
    bd (fX4_isIn a2 (0 : Int32) (2 : Int32) st) fun x22 st =>
    if ¬ x22 = 0 then
      bX4_cue_33 a0 a1 a2 a0 (0 : Int32) st
    else
      bX4_cue_28 a0 a1 a2 a0 st
def fX4_feed (a0 : Rf) (a1 : Int32) (a2 : Int32) (a3 : Int32) (a4 : Int32) (a5 : Int32) (st : Mem) : Option (Int32 × Mem) :=
  (pI st a0 55 (0 : Int32)).bind fun st =>
  (gI st a0 57).bind fun x6 =>
  if (x6 + (20 : Int32)) ≤ (940 : Int32) then
    bd (iv st a0 [4] (fX4_four a0 a1 st)) fun _ st =>
    bd (iv st a0 [4] (fX4_four a0 a2 st)) fun _ st =>
    bd (iv st a0 [4] (fX4_four a0 a3 st)) fun _ st =>
    bd (iv st a0 [4] (fX4_four a0 a4 st)) fun _ st =>
    bd (iv st a0 [4] (fX4_four a0 a5 st)) fun _ st =>
    (gI st a0 57).bind fun x48 =>
    some (x48, st)
  else
    some ((-1 : Int32), st)
def bX4_heldOf_16 (v0 : Rf) (v1 : Int32) (k0 : Int32) (st : Mem) : Option (Int32 × Mem) :=
  (gJ st v0 96).bind fun x17 =>
  bd (fX4_holds x17 v1 st) fun x21 st =>
  if x21 = 0 then
    some ((k0 + (0 : Int32)), st)
  else
    some ((k0 + (2 : Int32)), st)
def fX4_heldOf (a0 : Rf) (a1 : Int32) (st : Mem) : Option (Int32 × Mem) :=
  (gJ st a0 95).bind fun x1 =>
  bd (fX4_holds x1 a1 st) fun x5 st =>
  if x5 = 0 then
    bX4_heldOf_16 a0 a1 (0 : Int32) st
  else
    bX4_heldOf_16 a0 a1 (1 : Int32) st
def bX4_image_18B (kk18 : Rf → Int32 → Int32 → Mem → Option (Int32 × Mem)) (v0 : Rf) (v1 : Int32) (v2 : Int32) (st : Mem) : Option (Int32 × Mem) :=
  if (681 : Int32) ≤ v2 then
    (gA st v0 121).bind fun x50 =>
    (gJ st v0 71).bind fun x55 =>
    (uJ st x50 v1 x55).bind fun st =>
    (gA st v0 122).bind fun x60 =>
    (gJ st v0 72).bind fun x65 =>
    (uJ st x60 v1 x65).bind fun st =>
    (gA st v0 123).bind fun x70 =>
    (uB st x70 v1 (1 : Int32)).bind fun st =>
    some ((1 : Int32), st)
  else
    (gA st v0 120).bind fun x26 =>
    (gA st v0 61).bind fun x37 =>
    (aI st x37 v2).bind fun x41 =>
    (uI st x26 (((681 : Int32) * v1) + v2) x41).bind fun st =>
    kk18 v0 v1 (v2 + 1) st
def bX4_image_18 : Nat → Rf → Int32 → Int32 → Mem → Option (Int32 × Mem)
  | 0 => fun _ _ _ _ => none
  | n + 1 => bX4_image_18B (bX4_image_18 n)
def fX4_image (a0 : Rf) (a1 : Int32) (st : Mem) : Option (Int32 × Mem) :=
  (pI st a0 55 (0 : Int32)).bind fun st =>
  bd (fX4_isIn a1 (0 : Int32) (1 : Int32) st) fun x8 st =>
  if ¬ x8 = 0 then
    bX4_image_18 hcFuel a0 a1 (0 : Int32) st
  else
    some ((0 : Int32), st)
def bX4_init_221B (kk221 : Rf → Int32 → Mem → Option (Unit × Mem)) (v0 : Rf) (v1 : Int32) (st : Mem) : Option (Unit × Mem) :=
  if (590 : Int32) ≤ v1 then
    some ((), st)
  else
    (gA st v0 61).bind fun x229 =>
    (gA st v0 62).bind fun x234 =>
    (aI st x234 v1).bind fun x238 =>
    (uI st x229 v1 x238).bind fun st =>
    kk221 v0 (v1 + 1) st
def bX4_init_221 : Nat → Rf → Int32 → Mem → Option (Unit × Mem)
  | 0 => fun _ _ _ => none
  | n + 1 => bX4_init_221B (bX4_init_221 n)
def fX4_init (a0 : Rf) (st : Mem) : Option (Unit × Mem) :=
  nn a0 <|
  bd (nA st 100 (940 : Int32)) fun x8 st =>
  (pA st a0 56 x8).bind fun st =>
  bd (nA st 102 (681 : Int32)) fun x17 st =>
  (pA st a0 61 x17).bind fun st =>
  bd (nA st 102 (590 : Int32)) fun x26 st =>
  (pA st a0 62 x26).bind fun st =>
  bd (nA st 102 (90 : Int32)) fun x34 st =>
  (pA st a0 63 x34).bind fun st =>
  bd (nA st 102 (64 : Int32)) fun x42 st =>
  (pA st a0 78 x42).bind fun st =>
  bd (nA st 102 (30 : Int32)) fun x50 st =>
  (pA st a0 79 x50).bind fun st =>
  bd (nA st 101 (64 : Int32)) fun x58 st =>
  (pA st a0 80 x58).bind fun st =>
  bd (nA st 103 (384 : Int32)) fun x67 st =>
  (pA st a0 84 x67).bind fun st =>
  (pI st a0 85 (1 : Int32)).bind fun st =>
  bd (nA st 103 (601 : Int32)) fun x81 st =>
  (pA st a0 87 x81).bind fun st =>
  bd (nA st 103 (601 : Int32)) fun x90 st =>
  (pA st a0 88 x90).bind fun st =>
  bd (nA st 103 (601 : Int32)) fun x99 st =>
  (pA st a0 89 x99).bind fun st =>
  bd (nA st 103 (601 : Int32)) fun x108 st =>
  (pA st a0 90 x108).bind fun st =>
  bd (nA st 102 (14 : Int32)) fun x116 st =>
  (pA st a0 101 x116).bind fun st =>
  (pI st a0 103 (-1 : Int32)).bind fun st =>
  bd (nA st 101 (256 : Int32)) fun x130 st =>
  (pA st a0 104 x130).bind fun st =>
  bd (nA st 102 (256 : Int32)) fun x139 st =>
  (pA st a0 105 x139).bind fun st =>
  bd (nA st 103 (8 : Int32)) fun x147 st =>
  (pA st a0 106 x147).bind fun st =>
  bd (nA st 102 (3 : Int32)) fun x154 st =>
  (pA st a0 109 x154).bind fun st =>
  (pI st a0 114 (-1 : Int32)).bind fun st =>
  (pI st a0 115 (-1 : Int32)).bind fun st =>
  bd (nA st 103 (61 : Int32)) fun x172 st =>
  (pA st a0 116 x172).bind fun st =>
  bd (nA st 103 (61 : Int32)) fun x180 st =>
  (pA st a0 117 x180).bind fun st =>
  bd (nA st 102 (1362 : Int32)) fun x189 st =>
  (pA st a0 120 x189).bind fun st =>
  bd (nA st 103 (2 : Int32)) fun x196 st =>
  (pA st a0 121 x196).bind fun st =>
  bd (nA st 103 (2 : Int32)) fun x203 st =>
  (pA st a0 122 x203).bind fun st =>
  bd (nA st 101 (2 : Int32)) fun x210 st =>
  (pA st a0 123 x210).bind fun st =>
  bd (iv st a0 [4] (fX4_plainHouse a0 st)) fun _ st =>
  bX4_init_221 hcFuel a0 (0 : Int32) st
def bX4_isLaw_305 (kk6 : Rf → Int32 → Int32 → Int64 → Int64 → Int32 → Int32 → Int32 → Int32 → Mem → Option (Int32 × Mem)) (v0 : Rf) (v1 : Int32) (v2 : Int32) (v3 : Int64) (v5 : Int64) (v7 : Int32) (v8 : Int32) (v9 : Int32) (v10 : Int32) (st : Mem) : Option (Int32 × Mem) :=
  kk6 v0 v1 v2 v3 v5 v7 v8 v9 (v10 + 1) st
def bX4_isLaw_160 (kk6 : Rf → Int32 → Int32 → Int64 → Int64 → Int32 → Int32 → Int32 → Int32 → Mem → Option (Int32 × Mem)) (v0 : Rf) (v1 : Int32) (v2 : Int32) (v3 : Int64) (v5 : Int64) (v7 : Int32) (v8 : Int32) (v9 : Int32) (v10 : Int32) (k0 : Rf) (k1 : Int32) (k2 : Int32) (st : Mem) : Option (Int32 × Mem) :=
  (uB st k0 k1 k2).bind fun st =>
  bX4_isLaw_305 kk6 v0 v1 v2 v3 v5 v7 v8 v9 v10 st
def bX4_isLaw_155 (kk6 : Rf → Int32 → Int32 → Int64 → Int64 → Int32 → Int32 → Int32 → Int32 → Mem → Option (Int32 × Mem)) (v0 : Rf) (v1 : Int32) (v2 : Int32) (v3 : Int64) (v5 : Int64) (v7 : Int32) (v8 : Int32) (v9 : Int32) (v10 : Int32) (k0 : Rf) (k1 : Int32) (st : Mem) : Option (Int32 × Mem) :=
  bX4_isLaw_160 kk6 v0 v1 v2 v3 v5 v7 v8 v9 v10 k0 k1 (1 : Int32) st
def bX4_isLaw_129 (kk6 : Rf → Int32 → Int32 → Int64 → Int64 → Int32 → Int32 → Int32 → Int32 → Mem → Option (Int32 × Mem)) (v0 : Rf) (v1 : Int32) (v2 : Int32) (v3 : Int64) (v5 : Int64) (v7 : Int32) (v8 : Int32) (v9 : Int32) (v10 : Int32) (k0 : Rf) (k1 : Int32) (st : Mem) : Option (Int32 × Mem) :=
  bX4_isLaw_160 kk6 v0 v1 v2 v3 v5 v7 v8 v9 v10 k0 k1 (0 : Int32) st
def bX4_isLaw_86 (kk6 : Rf → Int32 → Int32 → Int64 → Int64 → Int32 → Int32 → Int32 → Int32 → Mem → Option (Int32 × Mem)) (v0 : Rf) (v1 : Int32) (v2 : Int32) (v3 : Int64) (v5 : Int64) (v7 : Int32) (v8 : Int32) (v9 : Int32) (v10 : Int32) (v12 : Int32) (st : Mem) : Option (Int32 × Mem) :=
  (gA st v0 80).bind fun x90 =>
  if ¬ v12 = (4 : Int32) then
    (gA st v0 80).bind fun x134 =>
    (aB st x134 ((v9 + (-1)) - (1 : Int32))).bind fun x141 =>
    if ¬ x141 = 0 then
      bX4_isLaw_155 kk6 v0 v1 v2 v3 v5 v7 v8 (v9 + (-1)) v10 x90 ((v9 + (-1)) - (1 : Int32)) st
    else
      (gA st v0 80).bind fun x146 =>
      (aB st x146 (v9 + (-1))).bind fun x151 =>
      if x151 = 0 then
        bX4_isLaw_160 kk6 v0 v1 v2 v3 v5 v7 v8 (v9 + (-1)) v10 x90 ((v9 + (-1)) - (1 : Int32)) (0 : Int32) st
      else
        bX4_isLaw_155 kk6 v0 v1 v2 v3 v5 v7 v8 (v9 + (-1)) v10 x90 ((v9 + (-1)) - (1 : Int32)) st
  else
    (gA st v0 80).bind fun x104 =>
    (aB st x104 ((v9 + (-1)) - (1 : Int32))).bind fun x111 =>
    if x111 = 0 then
      bX4_isLaw_129 kk6 v0 v1 v2 v3 v5 v7 v8 (v9 + (-1)) v10 x90 ((v9 + (-1)) - (1 : Int32)) st
    else
      (gA st v0 80).bind fun x116 =>
      (aB st x116 (v9 + (-1))).bind fun x121 =>
      if x121 = 0 then
        bX4_isLaw_129 kk6 v0 v1 v2 v3 v5 v7 v8 (v9 + (-1)) v10 x90 ((v9 + (-1)) - (1 : Int32)) st
      else
        bX4_isLaw_160 kk6 v0 v1 v2 v3 v5 v7 v8 (v9 + (-1)) v10 x90 ((v9 + (-1)) - (1 : Int32)) (1 : Int32) st
def bX4_isLaw_301 (kk6 : Rf → Int32 → Int32 → Int64 → Int64 → Int32 → Int32 → Int32 → Int32 → Mem → Option (Int32 × Mem)) (v0 : Rf) (v1 : Int32) (v2 : Int32) (v3 : Int64) (v5 : Int64) (v7 : Int32) (v8 : Int32) (v9 : Int32) (v10 : Int32) (k0 : Rf) (k1 : Int32) (k2 : Int32) (st : Mem) : Option (Int32 × Mem) :=
  (uB st k0 k1 k2).bind fun st =>
  bX4_isLaw_305 kk6 v0 v1 v2 v3 v5 v7 v8 (v9 + 1) v10 st
def bX4_isLaw_224 (kk6 : Rf → Int32 → Int32 → Int64 → Int64 → Int32 → Int32 → Int32 → Int32 → Mem → Option (Int32 × Mem)) (v0 : Rf) (v1 : Int32) (v2 : Int32) (v3 : Int64) (v5 : Int64) (v7 : Int32) (v8 : Int32) (v9 : Int32) (v10 : Int32) (v11 : Int32) (k0 : Int32) (st : Mem) : Option (Int32 × Mem) :=
  (some ((shrI v11 (8 : Int32)) &&& (3 : Int32))).bind fun y233 =>
  (gA st v0 80).bind fun x243 =>
  if ¬ y233 = 0 then
    if ¬ y233 = (1 : Int32) then
      if k0 ≤ (shrI v11 (10 : Int32)) then
        bX4_isLaw_301 kk6 v0 v1 v2 v3 v5 v7 v8 v9 v10 x243 v9 (0 : Int32) st
      else
        bX4_isLaw_301 kk6 v0 v1 v2 v3 v5 v7 v8 v9 v10 x243 v9 (1 : Int32) st
    else
      if ¬ k0 = (shrI v11 (10 : Int32)) then
        bX4_isLaw_301 kk6 v0 v1 v2 v3 v5 v7 v8 v9 v10 x243 v9 (0 : Int32) st
      else
        bX4_isLaw_301 kk6 v0 v1 v2 v3 v5 v7 v8 v9 v10 x243 v9 (1 : Int32) st
  else
    if (shrI v11 (10 : Int32)) ≤ k0 then
      bX4_isLaw_301 kk6 v0 v1 v2 v3 v5 v7 v8 v9 v10 x243 v9 (0 : Int32) st
    else
      bX4_isLaw_301 kk6 v0 v1 v2 v3 v5 v7 v8 v9 v10 x243 v9 (1 : Int32) st
def bX4_isLaw_220 (kk6 : Rf → Int32 → Int32 → Int64 → Int64 → Int32 → Int32 → Int32 → Int32 → Mem → Option (Int32 × Mem)) (v0 : Rf) (v1 : Int32) (v2 : Int32) (v3 : Int64) (v5 : Int64) (v7 : Int32) (v8 : Int32) (v9 : Int32) (v10 : Int32) (v11 : Int32) (k0 : Int64) (k1 : Int64) (st : Mem) : Option (Int32 × Mem) :=
  bd (fX4_bits (k0 &&& k1) st) fun x221 st =>
  bX4_isLaw_224 kk6 v0 v1 v2 v3 v5 v7 v8 v9 v10 v11 x221 st
def bX4_isLaw_70 (kk6 : Rf → Int32 → Int32 → Int64 → Int64 → Int32 → Int32 → Int32 → Int32 → Mem → Option (Int32 × Mem)) (v0 : Rf) (v1 : Int32) (v2 : Int32) (v3 : Int64) (v5 : Int64) (v7 : Int32) (v8 : Int32) (v9 : Int32) (v10 : Int32) (k0 : Rf) (k1 : Int32) (k2 : Int32) (st : Mem) : Option (Int32 × Mem) :=
  (uB st k0 k1 k2).bind fun st =>
  bX4_isLaw_305 kk6 v0 v1 v2 v3 v5 v7 v8 v9 v10 st
def bX4_isLaw_6B (kk6 : Rf → Int32 → Int32 → Int64 → Int64 → Int32 → Int32 → Int32 → Int32 → Mem → Option (Int32 × Mem)) (v0 : Rf) (v1 : Int32) (v2 : Int32) (v3 : Int64) (v5 : Int64) (v7 : Int32) (v8 : Int32) (v9 : Int32) (v10 : Int32) (st : Mem) : Option (Int32 × Mem) :=
  (gA st v0 61).bind fun x9 =>
  (aI st x9 (v1 + (1 : Int32))).bind fun x15 =>
  if x15 ≤ v10 then
    (gA st v0 80).bind fun x312 =>
    (aB st x312 (0 : Int32)).bind fun x316 =>
    some ((nz x316), st)
  else
    (gA st v0 61).bind fun x20 =>
    (aI st x20 ((v1 + (2 : Int32)) + v10)).bind fun x29 =>
    if ¬ (x29 &&& (7 : Int32)) = (3 : Int32) then
      if (x29 &&& (7 : Int32)) = (4 : Int32) then
        bX4_isLaw_86 kk6 v0 v1 v2 v3 v5 v7 v8 v9 v10 (x29 &&& (7 : Int32)) st
      else
        if ¬ (x29 &&& (7 : Int32)) = (5 : Int32) then
          if ¬ (x29 &&& (7 : Int32)) = (1 : Int32) then
            if ¬ (x29 &&& (7 : Int32)) = (2 : Int32) then
              (gA st v0 84).bind fun x187 =>
              (aJ st x187 (((6 : Int32) * v2) + ((shrI x29 (3 : Int32)) &&& (7 : Int32)))).bind fun x202 =>
              if ¬ ((shrI x29 (6 : Int32)) &&& (3 : Int32)) = (1 : Int32) then
                bX4_isLaw_220 kk6 v0 v1 v2 v3 v5 v7 v8 v9 v10 x29 x202 v5 st
              else
                bX4_isLaw_220 kk6 v0 v1 v2 v3 v5 v7 v8 v9 v10 x29 x202 v3 st
            else
              bX4_isLaw_224 kk6 v0 v1 v2 v3 v5 v7 v8 v9 v10 x29 v8 st
          else
            bX4_isLaw_224 kk6 v0 v1 v2 v3 v5 v7 v8 v9 v10 x29 v7 st
        else
          bX4_isLaw_86 kk6 v0 v1 v2 v3 v5 v7 v8 v9 v10 (x29 &&& (7 : Int32)) st
    else
      (gA st v0 80).bind fun x46 =>
      (gA st v0 80).bind fun x54 =>
      (aB st x54 (v9 - (1 : Int32))).bind fun x61 =>
      if ¬ x61 = 0 then
        bX4_isLaw_70 kk6 v0 v1 v2 v3 v5 v7 v8 v9 v10 x46 (v9 - (1 : Int32)) (0 : Int32) st
      else
        bX4_isLaw_70 kk6 v0 v1 v2 v3 v5 v7 v8 v9 v10 x46 (v9 - (1 : Int32)) (1 : Int32) st
def bX4_isLaw_6 : Nat → Rf → Int32 → Int32 → Int64 → Int64 → Int32 → Int32 → Int32 → Int32 → Mem → Option (Int32 × Mem)
  | 0 => fun _ _ _ _ _ _ _ _ _ _ => none
  | n + 1 => bX4_isLaw_6B (bX4_isLaw_6 n)
def fX4_isLaw (a0 : Rf) (a1 : Int32) (a2 : Int32) (a3 : Int64) (a5 : Int64) (a7 : Int32) (a8 : Int32) (st : Mem) : Option (Int32 × Mem) :=
  bX4_isLaw_6 hcFuel a0 a1 a2 a3 a5 a7 a8 (0 : Int32) (0 : Int32) st
def fX4_isMoment (a0 : Int32) (st : Mem) : Option (Int32 × Mem) :=
  bd (fX4_isIn a0 (0 : Int32) (600 : Int32) st) fun x5 st =>
  some ((nz x5), st)
def bX4_isSeat_39 (st : Mem) : Option (Int32 × Mem) :=
  some ((0 : Int32), st)
def fX4_isSeat (a0 : Rf) (a1 : Int32) (st : Mem) : Option (Int32 × Mem) :=
  (gA st a0 61).bind fun x3 =>
  (aI st x3 (0 : Int32)).bind fun x7 =>
  (gA st a0 61).bind fun x9 =>
  (aI st x9 (1 : Int32)).bind fun x13 =>
  bd (fX4_isIn a1 (0 : Int32) ((x7 * x13) - (1 : Int32)) st) fun x17 st =>
  if x17 = 0 then
    bX4_isSeat_39 st
  else
    (gA st a0 61).bind fun x24 =>
    (aI st x24 ((6 : Int32) + a1)).bind fun x31 =>
    if x31 ≤ 0 then
      bX4_isSeat_39 st
    else
      some ((1 : Int32), st)
def bX4_isSeatAt_57 (st : Mem) : Option (Int32 × Mem) :=
  some ((0 : Int32), st)
def fX4_isSeatAt (a0 : Rf) (a1 : Int32) (a2 : Int32) (st : Mem) : Option (Int32 × Mem) :=
  (gA st a0 61).bind fun x3 =>
  (aI st x3 (0 : Int32)).bind fun x7 =>
  bd (fX4_isIn a1 (0 : Int32) (x7 - (1 : Int32)) st) fun x10 st =>
  if x10 = 0 then
    bX4_isSeatAt_57 st
  else
    (gA st a0 61).bind fun x19 =>
    (aI st x19 (1 : Int32)).bind fun x23 =>
    bd (fX4_isIn a2 (0 : Int32) (x23 - (1 : Int32)) st) fun x26 st =>
    if x26 = 0 then
      bX4_isSeatAt_57 st
    else
      (gA st a0 61).bind fun x33 =>
      (gA st a0 61).bind fun x39 =>
      (aI st x39 (1 : Int32)).bind fun x43 =>
      (aI st x33 (((6 : Int32) + (x43 * a1)) + a2)).bind fun x49 =>
      if x49 ≤ 0 then
        bX4_isSeatAt_57 st
      else
        some ((1 : Int32), st)
def fX4_isUp (a0 : Rf) (a1 : Int32) (st : Mem) : Option (Int32 × Mem) :=
  (gA st a0 88).bind fun x1 =>
  (aJ st x1 a1).bind fun x5 =>
  bd (fX4_bits x5 st) fun x6 st =>
  (gA st a0 61).bind fun x10 =>
  (aI st x10 (3 : Int32)).bind fun x14 =>
  if x6 < x14 then
    some ((0 : Int32), st)
  else
    some ((1 : Int32), st)
def fX4_law (a0 : Rf) (a1 : Int32) (a2 : Int32) (st : Mem) : Option (Int32 × Mem) :=
  (pI st a0 55 (0 : Int32)).bind fun st =>
  bd (fX4_isIn a1 (0 : Int32) (5 : Int32) st) fun x8 st =>
  if x8 = 0 then
    some ((-1 : Int32), st)
  else
    bd (fX4_isIn a2 (0 : Int32) (1 : Int32) st) fun x17 st =>
    if ¬ x17 = 0 then
      (gA st a0 61).bind fun x26 =>
      (aI st x26 ((86 : Int32) + ((42 : Int32) * (((2 : Int32) * a1) + a2)))).bind fun x40 =>
      if ¬ x40 = 0 then
        some (x40, st)
      else
        some ((-1 : Int32), st)
    else
      some ((-1 : Int32), st)
def fX4_levelOf (a0 : Rf) (a1 : Int32) (st : Mem) : Option (Int32 × Mem) :=
  (gJ st a0 94).bind fun x1 =>
  bd (fX4_holds x1 a1 st) fun x5 st =>
  if x5 = 0 then
    (gJ st a0 93).bind fun x16 =>
    bd (fX4_holds x16 a1 st) fun x20 st =>
    if x20 = 0 then
      some ((0 : Int32), st)
    else
      some ((1 : Int32), st)
  else
    some ((2 : Int32), st)
def bX4_next_18 (kk0 : Rf → Mem → Option (Unit × Mem)) (v0 : Rf) (st : Mem) : Option (Unit × Mem) :=
  (gI st v0 59).bind fun x20 =>
  (pI st v0 59 (x20 + (1 : Int32))).bind fun st =>
  kk0 v0 st
def bX4_next_275 (kk181 : Rf → Int32 → Int32 → Mem → Option (Unit × Mem)) (v0 : Rf) (v2 : Int32) (v3 : Int32) (st : Mem) : Option (Unit × Mem) :=
  (gI st v0 66).bind fun x277 =>
  (pI st v0 66 (x277 + (1 : Int32))).bind fun st =>
  (gI st v0 59).bind fun x287 =>
  (pI st v0 59 (x287 + (1 : Int32))).bind fun st =>
  kk181 v0 v2 v3 st
def bX4_next_248 (kk181 : Rf → Int32 → Int32 → Mem → Option (Unit × Mem)) (v0 : Rf) (v2 : Int32) (v3 : Int32) (st : Mem) : Option (Unit × Mem) :=
  (gI st v0 66).bind fun x249 =>
  if (3 : Int32) ≤ x249 then
    bX4_next_275 kk181 v0 v2 v3 st
  else
    (gI st v0 67).bind fun x260 =>
    bd (iv st v0 [4] (fX4_peek v0 st)) fun x265 st =>
    (pI st v0 67 ((((10 : Int32) * x260) + x265) - (48 : Int32))).bind fun st =>
    bX4_next_275 kk181 v0 v2 v3 st
def bX4_next_221 (kk181 : Rf → Int32 → Int32 → Mem → Option (Unit × Mem)) (v0 : Rf) (v2 : Int32) (k0 : Int32) (st : Mem) : Option (Unit × Mem) :=
  (gI st v0 66).bind fun x223 =>
  if (8 : Int32) ≤ x223 then
    bX4_next_248 kk181 v0 v2 k0 st
  else
    (gJ st v0 70).bind fun x233 =>
    bd (iv st v0 [4] (fX4_peek v0 st)) fun x240 st =>
    (pJ st v0 70 ((shlL x233 (8 : Int32)) ||| (Int32.toInt64 x240))).bind fun st =>
    bX4_next_248 kk181 v0 v2 k0 st
def bX4_next_220 (kk181 : Rf → Int32 → Int32 → Mem → Option (Unit × Mem)) (v0 : Rf) (v2 : Int32) (st : Mem) : Option (Unit × Mem) :=
  bX4_next_221 kk181 v0 v2 (0 : Int32) st
def bX4_next_201 (kk181 : Rf → Int32 → Int32 → Mem → Option (Unit × Mem)) (v0 : Rf) (v2 : Int32) (v3 : Int32) (st : Mem) : Option (Unit × Mem) :=
  if v3 = 0 then
    bX4_next_220 kk181 v0 v2 st
  else
    bd (iv st v0 [4] (fX4_peek v0 st)) fun x206 st =>
    bd (fX4_isSmall x206 st) fun x209 st =>
    if ¬ x209 = v2 then
      bX4_next_220 kk181 v0 v2 st
    else
      bX4_next_221 kk181 v0 v2 (1 : Int32) st
def bX4_next_320 (k0 : Rf) (st : Mem) : Option (Unit × Mem) :=
  (pI st k0 64 (4 : Int32)).bind fun st =>
  some ((), st)
def bX4_next_317 (v2 : Int32) (k0 : Rf) (k1 : Int32) (k2 : Int32) (st : Mem) : Option (Unit × Mem) :=
  if k1 ≤ k2 then
    if v2 = 0 then
      (pI st k0 64 (2 : Int32)).bind fun st =>
      some ((), st)
    else
      (pI st k0 64 (1 : Int32)).bind fun st =>
      some ((), st)
  else
    bX4_next_320 k0 st
def bX4_next_181B (kk181 : Rf → Int32 → Int32 → Mem → Option (Unit × Mem)) (v0 : Rf) (v2 : Int32) (v3 : Int32) (st : Mem) : Option (Unit × Mem) :=
  bd (iv st v0 [4] (fX4_peek v0 st)) fun x182 st =>
  bd (fX4_isSmall x182 st) fun x185 st =>
  if ¬ x185 = 0 then
    bX4_next_201 kk181 v0 v2 v3 st
  else
    bd (iv st v0 [4] (fX4_peek v0 st)) fun x192 st =>
    bd (fX4_isDigit x192 st) fun x195 st =>
    if x195 = 0 then
      if v3 = 0 then
        bX4_next_320 v0 st
      else
        (gI st v0 66).bind fun x304 =>
        if v2 = 0 then
          bX4_next_317 v2 v0 x304 (3 : Int32) st
        else
          bX4_next_317 v2 v0 x304 (8 : Int32) st
    else
      bX4_next_201 kk181 v0 v2 v3 st
def bX4_next_181 : Nat → Rf → Int32 → Int32 → Mem → Option (Unit × Mem)
  | 0 => fun _ _ _ _ => none
  | n + 1 => bX4_next_181B (bX4_next_181 n)
def bX4_next_164 (v0 : Rf) (v1 : Int32) (st : Mem) : Option (Unit × Mem) :=
  bd (fX4_isSmall v1 st) fun x165 st =>
  (pJ st v0 70 (0 : Int64)).bind fun st =>
  (pI st v0 67 (0 : Int32)).bind fun st =>
  bX4_next_181 hcFuel v0 x165 (1 : Int32) st
def bX4_next_145 (v0 : Rf) (v1 : Int32) (k0 : Rf) (k1 : Int32) (st : Mem) : Option (Unit × Mem) :=
  (pI st k0 64 k1).bind fun st =>
  (pI st v0 67 v1).bind fun st =>
  (gI st v0 59).bind fun x155 =>
  (pI st v0 59 (x155 + (1 : Int32))).bind fun st =>
  some ((), st)
def bX4_next_140 (v0 : Rf) (v1 : Int32) (k0 : Rf) (st : Mem) : Option (Unit × Mem) :=
  bX4_next_145 v0 v1 k0 (3 : Int32) st
def bX4_next_144 (v0 : Rf) (v1 : Int32) (k0 : Rf) (st : Mem) : Option (Unit × Mem) :=
  bX4_next_145 v0 v1 k0 (4 : Int32) st
def bX4_next_80 (v0 : Rf) (st : Mem) : Option (Unit × Mem) :=
  bd (iv st v0 [4] (fX4_peek v0 st)) fun x81 st =>
  if 0 ≤ x81 then
    bd (fX4_isSmall x81 st) fun x96 st =>
    if ¬ x96 = 0 then
      bX4_next_164 v0 x81 st
    else
      bd (fX4_isDigit x81 st) fun x103 st =>
      if ¬ x103 = 0 then
        bX4_next_164 v0 x81 st
      else
        if x81 = (59 : Int32) then
          bX4_next_140 v0 x81 v0 st
        else
          if x81 = (40 : Int32) then
            bX4_next_140 v0 x81 v0 st
          else
            if x81 = (41 : Int32) then
              bX4_next_140 v0 x81 v0 st
            else
              if x81 < (60 : Int32) then
                bX4_next_144 v0 x81 v0 st
              else
                if (62 : Int32) < x81 then
                  bX4_next_144 v0 x81 v0 st
                else
                  bX4_next_140 v0 x81 v0 st
  else
    (pI st v0 64 (0 : Int32)).bind fun st =>
    some ((), st)
def bX4_next_0B (kk0 : Rf → Mem → Option (Unit × Mem)) (v0 : Rf) (st : Mem) : Option (Unit × Mem) :=
  bd (iv st v0 [4] (fX4_peek v0 st)) fun x1 st =>
  if x1 = (32 : Int32) then
    bX4_next_18 kk0 v0 st
  else
    bd (iv st v0 [4] (fX4_peek v0 st)) fun x10 st =>
    if ¬ x10 = (10 : Int32) then
      (gI st v0 59).bind fun x33 =>
      (pI st v0 65 x33).bind fun st =>
      (pI st v0 66 (0 : Int32)).bind fun st =>
      (gI st v0 58).bind fun x45 =>
      (gI st v0 60).bind fun x49 =>
      if x45 ≤ x49 then
        bX4_next_80 v0 st
      else
        (gI st v0 59).bind fun x56 =>
        (gI st v0 60).bind fun x60 =>
        if x56 < x60 then
          bX4_next_80 v0 st
        else
          (gI st v0 60).bind fun x68 =>
          (pI st v0 65 x68).bind fun st =>
          (pI st v0 64 (4 : Int32)).bind fun st =>
          some ((), st)
    else
      bX4_next_18 kk0 v0 st
def bX4_next_0 : Nat → Rf → Mem → Option (Unit × Mem)
  | 0 => fun _ _ => none
  | n + 1 => bX4_next_0B (bX4_next_0 n)
def fX4_next (a0 : Rf) (st : Mem) : Option (Unit × Mem) :=
  bX4_next_0 hcFuel a0 st
def bX4_restore_27B (kk27 : Rf → Int32 → Int32 → Mem → Option (Int32 × Mem)) (v0 : Rf) (v1 : Int32) (v2 : Int32) (st : Mem) : Option (Int32 × Mem) :=
  if (681 : Int32) ≤ v2 then
    (gA st v0 121).bind fun x60 =>
    (aJ st x60 v1).bind fun x64 =>
    (pJ st v0 71 x64).bind fun st =>
    (gA st v0 122).bind fun x70 =>
    (aJ st x70 v1).bind fun x74 =>
    (pJ st v0 72 x74).bind fun st =>
    (pI st v0 85 (1 : Int32)).bind fun st =>
    some ((1 : Int32), st)
  else
    (gA st v0 61).bind fun x35 =>
    (gA st v0 120).bind fun x40 =>
    (aI st x40 (((681 : Int32) * v1) + v2)).bind fun x50 =>
    (uI st x35 v2 x50).bind fun st =>
    kk27 v0 v1 (v2 + 1) st
def bX4_restore_27 : Nat → Rf → Int32 → Int32 → Mem → Option (Int32 × Mem)
  | 0 => fun _ _ _ _ => none
  | n + 1 => bX4_restore_27B (bX4_restore_27 n)
def fX4_restore (a0 : Rf) (a1 : Int32) (st : Mem) : Option (Int32 × Mem) :=
  (pI st a0 55 (0 : Int32)).bind fun st =>
  bd (fX4_isIn a1 (0 : Int32) (1 : Int32) st) fun x8 st =>
  if x8 = 0 then
    some ((0 : Int32), st)
  else
    (gA st a0 123).bind fun x15 =>
    (aB st x15 a1).bind fun x19 =>
    if ¬ x19 = 0 then
      bX4_restore_27 hcFuel a0 a1 (0 : Int32) st
    else
      some ((0 : Int32), st)
def bX4_side_30 (st : Mem) : Option (Int32 × Mem) :=
  some ((-1 : Int32), st)
def fX4_side (a0 : Rf) (a1 : Int32) (st : Mem) : Option (Int32 × Mem) :=
  (pI st a0 55 (0 : Int32)).bind fun st =>
  (gI st a0 110).bind fun x6 =>
  if x6 = 0 then
    bX4_side_30 st
  else
    bd (fX4_isIn a1 (0 : Int32) (2 : Int32) st) fun x15 st =>
    if x15 = 0 then
      bX4_side_30 st
    else
      (gA st a0 109).bind fun x22 =>
      (aI st x22 a1).bind fun x26 =>
      some (x26, st)
def bX4_worthOf_109 (v5 : Int64) (k0 : Int64) (st : Mem) : Option (Int32 × Mem) :=
  (dvL k0 v5).bind fun x111 =>
  some ((Int64.toInt32 x111), st)
def bX4_worthOf_71B (kk71 : Rf → Int32 → Int32 → Int64 → Int64 → Mem → Option (Int32 × Mem)) (v0 : Rf) (v1 : Int32) (v2 : Int32) (v3 : Int64) (v5 : Int64) (st : Mem) : Option (Int32 × Mem) :=
  if v3 = (0 : Int64) then
    if ¬ v2 = 0 then
      (gJ st v0 108).bind fun x106 =>
      bX4_worthOf_109 v5 x106 st
    else
      (gA st v0 106).bind fun x97 =>
      (aJ st x97 v1).bind fun x101 =>
      bX4_worthOf_109 v5 x101 st
  else
    (rmL v5 v3).bind fun x80 =>
    kk71 v0 v1 v2 x80 v3 st
def bX4_worthOf_71 : Nat → Rf → Int32 → Int32 → Int64 → Int64 → Mem → Option (Int32 × Mem)
  | 0 => fun _ _ _ _ _ _ => none
  | n + 1 => bX4_worthOf_71B (bX4_worthOf_71 n)
def bX4_worthOf_64 (v0 : Rf) (v1 : Int32) (v2 : Int32) (k0 : Int64) (st : Mem) : Option (Int32 × Mem) :=
  (gJ st v0 108).bind fun x66 =>
  bX4_worthOf_71 hcFuel v0 v1 v2 k0 x66 st
def bX4_worthOf_29 (v0 : Rf) (v1 : Int32) (v2 : Int32) (k0 : Rf) (k1 : Int32) (st : Mem) : Option (Int32 × Mem) :=
  bd (iv st k0 [4] (fX4_throwsIf k0 k1 st)) fun x29 st =>
  if x29 = 0 then
    (gA st v0 106).bind fun x38 =>
    (aJ st x38 v1).bind fun x42 =>
    if (0 : Int64) ≤ x42 then
      (gA st v0 106).bind fun x59 =>
      (aJ st x59 v1).bind fun x63 =>
      bX4_worthOf_64 v0 v1 v2 x63 st
    else
      (gA st v0 106).bind fun x49 =>
      (aJ st x49 v1).bind fun x53 =>
      bX4_worthOf_64 v0 v1 v2 (-x53) st
  else
    some ((0 : Int32), st)
def bX4_worthOf_24 (v0 : Rf) (v1 : Int32) (v2 : Int32) (k0 : Rf) (st : Mem) : Option (Int32 × Mem) :=
  bX4_worthOf_29 v0 v1 v2 k0 (1 : Int32) st
def fX4_worthOf (a0 : Rf) (a1 : Int32) (a2 : Int32) (st : Mem) : Option (Int32 × Mem) :=
  (gI st a0 107).bind fun x4 =>
  bd (fX4_isIn a1 (0 : Int32) (x4 - (1 : Int32)) st) fun x9 st =>
  if x9 = 0 then
    bX4_worthOf_24 a0 a1 a2 a0 st
  else
    bd (fX4_isIn a2 (0 : Int32) (1 : Int32) st) fun x18 st =>
    if ¬ x18 = 0 then
      bX4_worthOf_29 a0 a1 a2 a0 (0 : Int32) st
    else
      bX4_worthOf_24 a0 a1 a2 a0 st
def bX4_writeDown_0B (kk0 : Rf → Int32 → Mem → Option (Unit × Mem)) (v0 : Rf) (v1 : Int32) (st : Mem) : Option (Unit × Mem) :=
  (gI st v0 82).bind fun x1 =>
  if x1 ≤ 0 then
    some ((), st)
  else
    (gA st v0 79).bind fun x8 =>
    (gI st v0 82).bind fun x12 =>
    (aI st x8 (x12 - (1 : Int32))).bind fun x17 =>
    if x17 = (6 : Int32) then
      some ((), st)
    else
      (gA st v0 79).bind fun x24 =>
      (gI st v0 82).bind fun x28 =>
      (aI st x24 (x28 - (1 : Int32))).bind fun x33 =>
      bd (fX4_binds x33 st) fun x34 st =>
      if x34 < v1 then
        some ((), st)
      else
        (gI st v0 82).bind fun x43 =>
        (pI st v0 82 (x43 - (1 : Int32))).bind fun st =>
        (gA st v0 79).bind fun x53 =>
        (gI st v0 82).bind fun x57 =>
        (aI st x53 x57).bind fun x60 =>
        bd (iv st v0 [4] (fX4_write v0 x60 st)) fun _ st =>
        kk0 v0 v1 st
def bX4_writeDown_0 : Nat → Rf → Int32 → Mem → Option (Unit × Mem)
  | 0 => fun _ _ _ => none
  | n + 1 => bX4_writeDown_0B (bX4_writeDown_0 n)
def fX4_writeDown (a0 : Rf) (a1 : Int32) (st : Mem) : Option (Unit × Mem) :=
  bX4_writeDown_0 hcFuel a0 a1 st
def bX4_areUnlike_41 (st : Mem) : Option (Int32 × Mem) :=
  some ((0 : Int32), st)
def fX4_areUnlike (a0 : Rf) (a1 : Int32) (a2 : Int32) (st : Mem) : Option (Int32 × Mem) :=
  bd (iv st a0 [4] (fX4_isSeat a0 a1 st)) fun x2 st =>
  if x2 = 0 then
    bX4_areUnlike_41 st
  else
    bd (iv st a0 [4] (fX4_isSeat a0 a2 st)) fun x10 st =>
    if x10 = 0 then
      bX4_areUnlike_41 st
    else
      (gA st a0 61).bind fun x17 =>
      (aI st x17 ((6 : Int32) + a1)).bind fun x24 =>
      (gA st a0 61).bind fun x26 =>
      (aI st x26 ((6 : Int32) + a2)).bind fun x33 =>
      if x24 = x33 then
        bX4_areUnlike_41 st
      else
        some ((1 : Int32), st)
def fX4_bitAt (a0 : Rf) (a1 : Int32) (a2 : Int32) (st : Mem) : Option (Int64 × Mem) :=
  bd (iv st a0 [4] (fX4_isSeatAt a0 a1 a2 st)) fun x3 st =>
  if x3 = 0 then
    some ((0 : Int64), st)
  else
    (gA st a0 61).bind fun x11 =>
    (aI st x11 (1 : Int32)).bind fun x15 =>
    some ((shlL (1 : Int64) ((x15 * a1) + a2)), st)
def bX4_drawn_103 (kk31 : Rf → Int32 → Int64 → Int32 → Mem → Option (Int32 × Mem)) (kk55 : Rf → Int32 → Int64 → Int32 → Int32 → Int32 → Mem → Option (Int32 × Mem)) (v0 : Rf) (v1 : Int32) (v3 : Int64) (v5 : Int32) (v7 : Int32) (k0 : Int32) (k1 : Int32) (st : Mem) : Option (Int32 × Mem) :=
  kk55 v0 v1 v3 v5 (k0 - k1) (v7 + 1) st
def bX4_drawn_102 (kk31 : Rf → Int32 → Int64 → Int32 → Mem → Option (Int32 × Mem)) (kk55 : Rf → Int32 → Int64 → Int32 → Int32 → Int32 → Mem → Option (Int32 × Mem)) (v0 : Rf) (v1 : Int32) (v3 : Int64) (v5 : Int32) (v7 : Int32) (k0 : Int32) (st : Mem) : Option (Int32 × Mem) :=
  bX4_drawn_103 kk31 kk55 v0 v1 v3 v5 v7 k0 (0 : Int32) st
def bX4_drawn_78 (kk31 : Rf → Int32 → Int64 → Int32 → Mem → Option (Int32 × Mem)) (kk55 : Rf → Int32 → Int64 → Int32 → Int32 → Int32 → Mem → Option (Int32 × Mem)) (v0 : Rf) (v1 : Int32) (v3 : Int64) (v5 : Int32) (v6 : Int32) (v7 : Int32) (st : Mem) : Option (Int32 × Mem) :=
  bd (iv st v0 [4] (fX4_isSeat v0 v7 st)) fun x83 st =>
  if x83 = 0 then
    bX4_drawn_102 kk31 kk55 v0 v1 v3 v5 v7 v6 st
  else
    bd (fX4_holds v3 v7 st) fun x92 st =>
    if ¬ x92 = 0 then
      bX4_drawn_102 kk31 kk55 v0 v1 v3 v5 v7 v6 st
    else
      bX4_drawn_103 kk31 kk55 v0 v1 v3 v5 v7 v6 (1 : Int32) st
def bX4_drawn_55B (kk31 : Rf → Int32 → Int64 → Int32 → Mem → Option (Int32 × Mem)) (kk55 : Rf → Int32 → Int64 → Int32 → Int32 → Int32 → Mem → Option (Int32 × Mem)) (v0 : Rf) (v1 : Int32) (v3 : Int64) (v5 : Int32) (v6 : Int32) (v7 : Int32) (st : Mem) : Option (Int32 × Mem) :=
  bd (iv st v0 [4] (fX4_isSeat v0 v7 st)) fun x58 st =>
  if x58 = 0 then
    bX4_drawn_78 kk31 kk55 v0 v1 v3 v5 v6 v7 st
  else
    bd (fX4_holds v3 v7 st) fun x67 st =>
    if ¬ x67 = 0 then
      bX4_drawn_78 kk31 kk55 v0 v1 v3 v5 v6 v7 st
    else
      if v6 ≤ 0 then
        (some (v3 ||| (shlL (1 : Int64) v7))).bind fun y118 =>
        kk31 v0 v1 y118 (v5 + 1) st
      else
        bX4_drawn_78 kk31 kk55 v0 v1 v3 v5 v6 v7 st
def bX4_drawn_55 (kk31 : Rf → Int32 → Int64 → Int32 → Mem → Option (Int32 × Mem)) : Nat → Rf → Int32 → Int64 → Int32 → Int32 → Int32 → Mem → Option (Int32 × Mem)
  | 0 => fun _ _ _ _ _ _ _ => none
  | n + 1 => bX4_drawn_55B kk31 (bX4_drawn_55 kk31 n)
def bX4_drawn_31B (kk31 : Rf → Int32 → Int64 → Int32 → Mem → Option (Int32 × Mem)) (v0 : Rf) (v1 : Int32) (v3 : Int64) (v5 : Int32) (st : Mem) : Option (Int32 × Mem) :=
  if v1 ≤ v5 then
    (pJ st v0 71 v3).bind fun st =>
    some ((1 : Int32), st)
  else
    (gA st v0 61).bind fun x39 =>
    (aI st x39 (2 : Int32)).bind fun x43 =>
    bd (iv st v0 [4] (fX4_draw v0 (x43 - v5) st)) fun x47 st =>
    bX4_drawn_55 kk31 hcFuel v0 v1 v3 v5 x47 (0 : Int32) st
def bX4_drawn_31 : Nat → Rf → Int32 → Int64 → Int32 → Mem → Option (Int32 × Mem)
  | 0 => fun _ _ _ _ _ => none
  | n + 1 => bX4_drawn_31B (bX4_drawn_31 n)
def fX4_drawn (a0 : Rf) (a1 : Int32) (a2 : Int32) (st : Mem) : Option (Int32 × Mem) :=
  (pI st a0 55 (0 : Int32)).bind fun st =>
  (gA st a0 61).bind fun x8 =>
  (aI st x8 (2 : Int32)).bind fun x12 =>
  bd (fX4_isIn a1 (1 : Int32) x12 st) fun x13 st =>
  if ¬ x13 = 0 then
    (pI st a0 119 a2).bind fun st =>
    bX4_drawn_31 hcFuel a0 a1 (0 : Int64) (0 : Int32) st
  else
    some ((0 : Int32), st)
def fX4_exchange (a0 : Rf) (a1 : Int32) (a2 : Int32) (st : Mem) : Option (Int32 × Mem) :=
  (pI st a0 55 (0 : Int32)).bind fun st =>
  bd (iv st a0 [4] (fX4_isSeat a0 a1 st)) fun x7 st =>
  if x7 = 0 then
    some ((0 : Int32), st)
  else
    bd (iv st a0 [4] (fX4_isSeat a0 a2 st)) fun x15 st =>
    if x15 = 0 then
      some ((0 : Int32), st)
    else
      if ¬ a1 = a2 then
        bd (iv st a0 [4] (fX4_change a0 a1 a2 st)) fun _ st =>
        some ((1 : Int32), st)
      else
        some ((0 : Int32), st)
def bX4_hiss_53 (k0 : Rf) (k1 : Int64) (st : Mem) : Option (Int32 × Mem) :=
  (pJ st k0 72 k1).bind fun st =>
  some ((1 : Int32), st)
def fX4_hiss (a0 : Rf) (a1 : Int32) (a2 : Int32) (st : Mem) : Option (Int32 × Mem) :=
  (pI st a0 55 (0 : Int32)).bind fun st =>
  bd (iv st a0 [4] (fX4_isSeat a0 a1 st)) fun x7 st =>
  if x7 = 0 then
    some ((0 : Int32), st)
  else
    bd (fX4_isIn a2 (0 : Int32) (1 : Int32) st) fun x16 st =>
    if ¬ x16 = 0 then
      if ¬ a2 = (1 : Int32) then
        (gJ st a0 72).bind fun x42 =>
        bX4_hiss_53 a0 (x42 &&& ((shlL (1 : Int64) a1) ^^^ (-1 : Int64))) st
      else
        (gJ st a0 72).bind fun x31 =>
        bX4_hiss_53 a0 (x31 ||| (shlL (1 : Int64) a1)) st
    else
      some ((0 : Int32), st)
def bX4_lawLevel_61 (v0 : Rf) (v1 : Int32) (v2 : Int64) (v4 : Int64) (v6 : Int32) (v7 : Int32) (v8 : Int32) (st : Mem) : Option (Int32 × Mem) :=
  (gA st v0 61).bind fun x62 =>
  (aI st x62 (v8 + (42 : Int32))).bind fun x70 =>
  if x70 ≤ 0 then
    some (v6, st)
  else
    bd (iv st v0 [4] (fX4_isLaw v0 (v8 + (42 : Int32)) v1 v2 v4 v6 v7 st)) fun x88 st =>
    if x88 = 0 then
      some (v6, st)
    else
      if v6 ≤ 0 then
        some ((0 : Int32), st)
      else
        some ((v6 - (1 : Int32)), st)
def fX4_lawLevel (a0 : Rf) (a1 : Int32) (a2 : Int64) (a4 : Int64) (a6 : Int32) (a7 : Int32) (st : Mem) : Option (Int32 × Mem) :=
  (gA st a0 61).bind fun x5 =>
  (aI st x5 ((6 : Int32) + a1)).bind fun x12 =>
  (some ((86 : Int32) + ((84 : Int32) * (x12 - (1 : Int32))))).bind fun y17 =>
  (gA st a0 61).bind fun x20 =>
  (aI st x20 y17).bind fun x25 =>
  if x25 ≤ 0 then
    bX4_lawLevel_61 a0 a1 a2 a4 a6 a7 y17 st
  else
    bd (iv st a0 [4] (fX4_isLaw a0 y17 a1 a2 a4 a6 a7 st)) fun x40 st =>
    if x40 = 0 then
      bX4_lawLevel_61 a0 a1 a2 a4 a6 a7 y17 st
    else
      if (2 : Int32) ≤ a6 then
        some ((2 : Int32), st)
      else
        some ((a6 + (1 : Int32)), st)
def bX4_pay_53 (k0 : Rf) (k1 : Int64) (st : Mem) : Option (Int32 × Mem) :=
  (pJ st k0 71 k1).bind fun st =>
  some ((1 : Int32), st)
def fX4_pay (a0 : Rf) (a1 : Int32) (a2 : Int32) (st : Mem) : Option (Int32 × Mem) :=
  (pI st a0 55 (0 : Int32)).bind fun st =>
  bd (iv st a0 [4] (fX4_isSeat a0 a1 st)) fun x7 st =>
  if x7 = 0 then
    some ((0 : Int32), st)
  else
    bd (fX4_isIn a2 (0 : Int32) (1 : Int32) st) fun x16 st =>
    if ¬ x16 = 0 then
      if ¬ a2 = (1 : Int32) then
        (gJ st a0 71).bind fun x42 =>
        bX4_pay_53 a0 (x42 &&& ((shlL (1 : Int64) a1) ^^^ (-1 : Int64))) st
      else
        (gJ st a0 71).bind fun x31 =>
        bX4_pay_53 a0 (x31 ||| (shlL (1 : Int64) a1)) st
    else
      some ((0 : Int32), st)
def bX4_readRow_214 (kk143 : Rf → Int32 → Int32 → Mem → Option (Int32 × Mem)) (v0 : Rf) (v1 : Int32) (v3 : Int32) (k0 : Rf) (k1 : Int32) (k2 : Int32) (k3 : Int32) (st : Mem) : Option (Int32 × Mem) :=
  (uI st k0 k1 (k2 + k3)).bind fun st =>
  kk143 v0 v1 (v3 + 1) st
def bX4_readRow_194 (kk143 : Rf → Int32 → Int32 → Mem → Option (Int32 × Mem)) (v0 : Rf) (v1 : Int32) (v3 : Int32) (v4 : Int32) (k0 : Rf) (k1 : Int32) (k2 : Int32) (st : Mem) : Option (Int32 × Mem) :=
  (uI st k0 k1 k2).bind fun st =>
  (gA st v0 62).bind fun x196 =>
  (aI st x196 (2 : Int32)).bind fun x201 =>
  if ¬ v4 = (120 : Int32) then
    bX4_readRow_214 kk143 v0 v1 v3 x196 (2 : Int32) x201 (1 : Int32) st
  else
    bX4_readRow_214 kk143 v0 v1 v3 x196 (2 : Int32) x201 (0 : Int32) st
def bX4_readRow_143B (kk143 : Rf → Int32 → Int32 → Mem → Option (Int32 × Mem)) (v0 : Rf) (v1 : Int32) (v3 : Int32) (st : Mem) : Option (Int32 × Mem) :=
  (gI st v0 66).bind fun x145 =>
  if x145 ≤ v3 then
    (gA st v0 62).bind fun x223 =>
    (aI st x223 (0 : Int32)).bind fun x228 =>
    (uI st x223 (0 : Int32) (x228 + (1 : Int32))).bind fun st =>
    bd (iv st v0 [4] (fX4_next v0 st)) fun _ st =>
    some ((1 : Int32), st)
  else
    (gI st v0 65).bind fun x153 =>
    bd (iv st v0 [4] (fX4_octet v0 (x153 + v3) st)) fun x158 st =>
    (gA st v0 62).bind fun x164 =>
    (gI st v0 66).bind fun x170 =>
    if ¬ x158 = (120 : Int32) then
      bX4_readRow_194 kk143 v0 v1 v3 x158 x164 (((6 : Int32) + (x170 * v1)) + v3) (x158 - (96 : Int32)) st
    else
      bX4_readRow_194 kk143 v0 v1 v3 x158 x164 (((6 : Int32) + (x170 * v1)) + v3) (0 : Int32) st
def bX4_readRow_143 : Nat → Rf → Int32 → Int32 → Mem → Option (Int32 × Mem)
  | 0 => fun _ _ _ _ => none
  | n + 1 => bX4_readRow_143B (bX4_readRow_143 n)
def bX4_readRow_114 (kk62 : Rf → Int32 → Int32 → Int32 → Mem → Option (Int32 × Mem)) (v0 : Rf) (v1 : Int32) (v3 : Int32) (k0 : Int32) (st : Mem) : Option (Int32 × Mem) :=
  kk62 v0 v1 k0 (v3 + 1) st
def bX4_readRow_113 (kk62 : Rf → Int32 → Int32 → Int32 → Mem → Option (Int32 × Mem)) (v0 : Rf) (v1 : Int32) (v3 : Int32) (st : Mem) : Option (Int32 × Mem) :=
  bX4_readRow_114 kk62 v0 v1 v3 (0 : Int32) st
def bX4_readRow_109 (kk62 : Rf → Int32 → Int32 → Int32 → Mem → Option (Int32 × Mem)) (v0 : Rf) (v1 : Int32) (v3 : Int32) (st : Mem) : Option (Int32 × Mem) :=
  bX4_readRow_114 kk62 v0 v1 v3 (1 : Int32) st
def bX4_readRow_62B (kk62 : Rf → Int32 → Int32 → Int32 → Mem → Option (Int32 × Mem)) (v0 : Rf) (v1 : Int32) (v2 : Int32) (v3 : Int32) (st : Mem) : Option (Int32 × Mem) :=
  (gI st v0 66).bind fun x64 =>
  if x64 ≤ v3 then
    if ¬ v2 = 0 then
      (gA st v0 62).bind fun x132 =>
      (gI st v0 66).bind fun x137 =>
      (uI st x132 (1 : Int32) x137).bind fun st =>
      bX4_readRow_143 hcFuel v0 v1 (0 : Int32) st
    else
      bd (iv st v0 [4] (fX4_bad v0 (2 : Int32) st)) fun x127 st =>
      some ((nz x127), st)
  else
    if v2 = 0 then
      bX4_readRow_113 kk62 v0 v1 v3 st
    else
      (gI st v0 65).bind fun x76 =>
      bd (iv st v0 [4] (fX4_octet v0 (x76 + v3) st)) fun x81 st =>
      if x81 = (120 : Int32) then
        bX4_readRow_109 kk62 v0 v1 v3 st
      else
        (gI st v0 65).bind fun x91 =>
        bd (iv st v0 [4] (fX4_octet v0 (x91 + v3) st)) fun x96 st =>
        bd (fX4_isIn x96 (97 : Int32) (102 : Int32) st) fun x103 st =>
        if x103 = 0 then
          bX4_readRow_113 kk62 v0 v1 v3 st
        else
          bX4_readRow_109 kk62 v0 v1 v3 st
def bX4_readRow_62 : Nat → Rf → Int32 → Int32 → Int32 → Mem → Option (Int32 × Mem)
  | 0 => fun _ _ _ _ _ => none
  | n + 1 => bX4_readRow_62B (bX4_readRow_62 n)
def bX4_readRow_59 (v0 : Rf) (v1 : Int32) (k0 : Int32) (st : Mem) : Option (Int32 × Mem) :=
  bX4_readRow_62 hcFuel v0 v1 k0 (0 : Int32) st
def bX4_readRow_54 (v0 : Rf) (v1 : Int32) (st : Mem) : Option (Int32 × Mem) :=
  bX4_readRow_59 v0 v1 (1 : Int32) st
def fX4_readRow (a0 : Rf) (st : Mem) : Option (Int32 × Mem) :=
  (gA st a0 62).bind fun x1 =>
  (aI st x1 (0 : Int32)).bind fun x5 =>
  if ¬ x5 = (8 : Int32) then
    bd (iv st a0 [4] (fX4_next a0 st)) fun _ st =>
    (gI st a0 64).bind fun x24 =>
    if x24 = (1 : Int32) then
      if x5 = 0 then
        bX4_readRow_54 a0 x5 st
      else
        (gI st a0 66).bind fun x42 =>
        (gA st a0 62).bind fun x46 =>
        (aI st x46 (1 : Int32)).bind fun x50 =>
        if ¬ x42 = x50 then
          bX4_readRow_59 a0 x5 (0 : Int32) st
        else
          bX4_readRow_54 a0 x5 st
    else
      bd (iv st a0 [4] (fX4_bad a0 (1 : Int32) st)) fun x33 st =>
      some ((nz x33), st)
  else
    bd (iv st a0 [4] (fX4_bad a0 (4 : Int32) st)) fun x15 st =>
    some ((nz x15), st)
def bX4_seat_23 (v0 : Rf) (v1 : Int32) (v2 : Int32) (k0 : Rf) (k1 : Int32) (st : Mem) : Option (Int32 × Mem) :=
  bd (iv st k0 [4] (fX4_throwsIf k0 k1 st)) fun x23 st =>
  if x23 = 0 then
    if v2 = 0 then
      (gA st v0 61).bind fun x65 =>
      (aI st x65 ((6 : Int32) + v1)).bind fun x72 =>
      some ((x72 - (1 : Int32)), st)
    else
    if v2 = 1 then
      bd (iv st v0 [4] (fX4_price v0 v1 st)) fun x78 st =>
      some (x78, st)
    else
    if v2 = 2 then
      (gA st v0 61).bind fun x83 =>
      (gA st v0 61).bind fun x90 =>
      (aI st x90 (1 : Int32)).bind fun x94 =>
      (dvI v1 x94).bind fun x95 =>
      (aI st x83 ((78 : Int32) + x95)).bind fun x97 =>
      some ((x97 - (1 : Int32)), st)
    else
    if v2 = 3 then
      (gJ st v0 71).bind fun x102 =>
      bd (fX4_holds x102 v1 st) fun x106 st =>
      if x106 = 0 then
        some ((0 : Int32), st)
      else
        some ((1 : Int32), st)
    else
    (gJ st v0 72).bind fun x119 =>
    bd (fX4_holds x119 v1 st) fun x123 st =>
    if x123 = 0 then
      some ((0 : Int32), st)
    else
      some ((1 : Int32), st)
  else
    some ((0 : Int32), st)
def bX4_seat_18 (v0 : Rf) (v1 : Int32) (v2 : Int32) (k0 : Rf) (st : Mem) : Option (Int32 × Mem) :=
  bX4_seat_23 v0 v1 v2 k0 (1 : Int32) st
def fX4_seat (a0 : Rf) (a1 : Int32) (a2 : Int32) (st : Mem) : Option (Int32 × Mem) :=
  bd (iv st a0 [4] (fX4_isSeat a0 a1 st)) fun x3 st =>
  if x3 = 0 then
    bX4_seat_18 a0 a1 a2 a0 st
  else
    bd (fX4_isIn a2 (0 : Int32) (4 : Int32) st) fun x12 st =>
    if ¬ x12 = 0 then
      bX4_seat_23 a0 a1 a2 a0 (0 : Int32) st
    else
      bX4_seat_18 a0 a1 a2 a0 st
def fX4_sign (a0 : Rf) (a1 : Int32) (st : Mem) : Option (Int32 × Mem) :=
  bd (iv st a0 [4] (fX4_isSign a0 a1 st)) fun x2 st =>
  if ¬ x2 = 0 then
    bd (iv st a0 [4] (fX4_next a0 st)) fun _ st =>
    some ((1 : Int32), st)
  else
    bd (iv st a0 [4] (fX4_bad a0 (1 : Int32) st)) fun x10 st =>
    some ((nz x10), st)
def fX4_takes (a0 : Rf) (a1 : Int32) (a2 : Int32) (st : Mem) : Option (Int32 × Mem) :=
  (gI st a0 64).bind fun x1 =>
  if x1 = (2 : Int32) then
    (gI st a0 67).bind fun x15 =>
    bd (fX4_isIn x15 a1 a2 st) fun x20 st =>
    if ¬ x20 = 0 then
      (gI st a0 67).bind fun x34 =>
      (pI st a0 73 x34).bind fun st =>
      bd (iv st a0 [4] (fX4_next a0 st)) fun _ st =>
      some ((1 : Int32), st)
    else
      bd (iv st a0 [4] (fX4_bad a0 (2 : Int32) st)) fun x28 st =>
      some ((nz x28), st)
  else
    bd (iv st a0 [4] (fX4_bad a0 (1 : Int32) st)) fun x10 st =>
    some ((nz x10), st)
def fX4_takesRow (a0 : Rf) (a1 : Int32) (st : Mem) : Option (Int32 × Mem) :=
  bd (iv st a0 [4] (fX4_next a0 st)) fun _ st =>
  (gI st a0 64).bind fun x5 =>
  if x5 = (2 : Int32) then
    (gI st a0 67).bind fun x19 =>
    (gA st a0 62).bind fun x23 =>
    (aI st x23 (0 : Int32)).bind fun x27 =>
    if x19 < x27 then
      (gI st a0 67).bind fun x39 =>
      bd (fX4_has a1 x39 st) fun x42 st =>
      if x42 = 0 then
        (gI st a0 67).bind fun x56 =>
        (pI st a0 73 x56).bind fun st =>
        bd (iv st a0 [4] (fX4_next a0 st)) fun _ st =>
        some ((1 : Int32), st)
      else
        bd (iv st a0 [4] (fX4_bad a0 (3 : Int32) st)) fun x50 st =>
        some ((nz x50), st)
    else
      bd (iv st a0 [4] (fX4_bad a0 (2 : Int32) st)) fun x33 st =>
      some ((nz x33), st)
  else
    bd (iv st a0 [4] (fX4_bad a0 (1 : Int32) st)) fun x14 st =>
    some ((nz x14), st)
def bX4_takesSeats_43B (kk17 : Rf → Int32 → Int32 → Mem → Option (Int32 × Mem)) (kk43 : Rf → Int32 → Int32 → Int32 → Int32 → Mem → Option (Int32 × Mem)) (v0 : Rf) (v2 : Int32) (v3 : Int32) (v4 : Int32) (v5 : Int32) (st : Mem) : Option (Int32 × Mem) :=
  (gI st v0 102).bind fun x46 =>
  if x46 ≤ v5 then
    (gA st v0 101).bind fun x73 =>
    (gI st v0 102).bind fun x77 =>
    (uI st x73 x77 v4).bind fun st =>
    (gI st v0 102).bind fun x85 =>
    (pI st v0 102 (x85 + (1 : Int32))).bind fun st =>
    kk17 v0 v2 (v3 + 1) st
  else
    (gA st v0 101).bind fun x53 =>
    (aI st x53 v5).bind fun x58 =>
    if ¬ x58 = v4 then
      kk43 v0 v2 v3 v4 (v5 + 1) st
    else
      some ((0 : Int32), st)
def bX4_takesSeats_43 (kk17 : Rf → Int32 → Int32 → Mem → Option (Int32 × Mem)) : Nat → Rf → Int32 → Int32 → Int32 → Int32 → Mem → Option (Int32 × Mem)
  | 0 => fun _ _ _ _ _ _ => none
  | n + 1 => bX4_takesSeats_43B kk17 (bX4_takesSeats_43 kk17 n)
def bX4_takesSeats_17B (kk17 : Rf → Int32 → Int32 → Mem → Option (Int32 × Mem)) (v0 : Rf) (v2 : Int32) (v3 : Int32) (st : Mem) : Option (Int32 × Mem) :=
  if v2 ≤ v3 then
    some ((1 : Int32), st)
  else
    bd (iv st v0 [4] (fX4_octet v0 v3 st)) fun x24 st =>
    bd (iv st v0 [4] (fX4_isSeat v0 x24 st)) fun x32 st =>
    if ¬ x32 = 0 then
      bX4_takesSeats_43 kk17 hcFuel v0 v2 v3 x24 (0 : Int32) st
    else
      some ((0 : Int32), st)
def bX4_takesSeats_17 : Nat → Rf → Int32 → Int32 → Mem → Option (Int32 × Mem)
  | 0 => fun _ _ _ _ => none
  | n + 1 => bX4_takesSeats_17B (bX4_takesSeats_17 n)
def fX4_takesSeats (a0 : Rf) (a1 : Int32) (a2 : Int32) (st : Mem) : Option (Int32 × Mem) :=
  (pI st a0 102 (0 : Int32)).bind fun st =>
  if (a2 - a1) ≤ (14 : Int32) then
    bX4_takesSeats_17 hcFuel a0 a2 a1 st
  else
    some ((0 : Int32), st)
def bX4_areEight_36 (st : Mem) : Option (Int32 × Mem) :=
  some ((0 : Int32), st)
def fX4_areEight (a0 : Rf) (st : Mem) : Option (Int32 × Mem) :=
  bd (iv st a0 [4] (fX4_taken a0 (940 : Int32) st)) fun _ st =>
  (gI st a0 58).bind fun x8 =>
  bd (fX4_isIn x8 (1 : Int32) (8 : Int32) st) fun x14 st =>
  if x14 = 0 then
    bX4_areEight_36 st
  else
    (gI st a0 58).bind fun x23 =>
    bd (iv st a0 [4] (fX4_takesSeats a0 (0 : Int32) x23 st)) fun x26 st =>
    if x26 = 0 then
      bX4_areEight_36 st
    else
      some ((1 : Int32), st)
def bX4_asks_120 (v0 : Rf) (v2 : Int32) (v3 : Int32) (k0 : Rf) (k1 : Int32) (k2 : Int32) (st : Mem) : Option (Int32 × Mem) :=
  (gI st v0 67).bind fun x134 =>
  bd (iv st k0 [4] (fX4_write k0 ((((k1 ||| (shlI k2 (3 : Int32))) ||| (shlI v2 (6 : Int32))) ||| (shlI v3 (8 : Int32))) ||| (shlI x134 (10 : Int32))) st)) fun _ st =>
  bd (iv st v0 [4] (fX4_next v0 st)) fun _ st =>
  bd (iv st v0 [4] (fX4_writeDown v0 (3 : Int32) st)) fun _ st =>
  some ((1 : Int32), st)
def bX4_asks_104 (v0 : Rf) (v1 : Int32) (v2 : Int32) (v3 : Int32) (k0 : Int32) (st : Mem) : Option (Int32 × Mem) :=
  if (6 : Int32) ≤ v1 then
    bX4_asks_120 v0 v2 v3 v0 k0 (0 : Int32) st
  else
    bX4_asks_120 v0 v2 v3 v0 k0 v1 st
def bX4_asks_57 (v0 : Rf) (v1 : Int32) (v2 : Int32) (st : Mem) : Option (Int32 × Mem) :=
  (gI st v0 67).bind fun x58 =>
  bd (iv st v0 [4] (fX4_next v0 st)) fun _ st =>
  (gI st v0 64).bind fun x70 =>
  if x70 = (2 : Int32) then
    if ¬ v1 = (6 : Int32) then
      if ¬ v1 = (7 : Int32) then
        bX4_asks_104 v0 v1 v2 (x58 - (60 : Int32)) (0 : Int32) st
      else
        bX4_asks_104 v0 v1 v2 (x58 - (60 : Int32)) (2 : Int32) st
    else
      bX4_asks_104 v0 v1 v2 (x58 - (60 : Int32)) (1 : Int32) st
  else
    bd (iv st v0 [4] (fX4_bad v0 (1 : Int32) st)) fun x79 st =>
    some ((nz x79), st)
def bX4_asks_24 (v0 : Rf) (v1 : Int32) (v2 : Int32) (st : Mem) : Option (Int32 × Mem) :=
  bd (iv st v0 [4] (fX4_isSign v0 (60 : Int32) st)) fun x27 st =>
  if ¬ x27 = 0 then
    bX4_asks_57 v0 v1 v2 st
  else
    bd (iv st v0 [4] (fX4_isSign v0 (61 : Int32) st)) fun x36 st =>
    if ¬ x36 = 0 then
      bX4_asks_57 v0 v1 v2 st
    else
      bd (iv st v0 [4] (fX4_isSign v0 (62 : Int32) st)) fun x45 st =>
      if ¬ x45 = 0 then
        bX4_asks_57 v0 v1 v2 st
      else
        bd (iv st v0 [4] (fX4_bad v0 (1 : Int32) st)) fun x53 st =>
        some ((nz x53), st)
def fX4_asks (a0 : Rf) (a1 : Int32) (st : Mem) : Option (Int32 × Mem) :=
  if (6 : Int32) ≤ a1 then
    bX4_asks_24 a0 a1 (0 : Int32) st
  else
    bd (iv st a0 [4] (fX4_takes a0 (1 : Int32) (2 : Int32) st)) fun x11 st =>
    if ¬ x11 = 0 then
      (gI st a0 73).bind fun x20 =>
      bX4_asks_24 a0 a1 x20 st
    else
      some ((0 : Int32), st)
def bX4_layOut_244 (kk64 : Rf → Int64 → Int32 → Mem → Option (Unit × Mem)) (v0 : Rf) (v1 : Int64) (v3 : Int32) (v4 : Int32) (v5 : Int32) (v6 : Int64) (v8 : Int64) (st : Mem) : Option (Unit × Mem) :=
  (gA st v0 84).bind fun x245 =>
  (uJ st x245 ((6 : Int32) * v3) v6).bind fun st =>
  (gA st v0 84).bind fun x256 =>
  bd (iv st v0 [4] (fX4_bitAt v0 (v4 - (1 : Int32)) v5 st)) fun x272 st =>
  (uJ st x256 (((6 : Int32) * v3) + (1 : Int32)) x272).bind fun st =>
  (gA st v0 84).bind fun x277 =>
  bd (iv st v0 [4] (fX4_bitAt v0 v4 (v5 - (1 : Int32)) st)) fun x293 st =>
  bd (iv st v0 [4] (fX4_bitAt v0 v4 (v5 + (1 : Int32)) st)) fun x303 st =>
  (uJ st x277 (((6 : Int32) * v3) + (2 : Int32)) (x293 ||| x303)).bind fun st =>
  (gA st v0 84).bind fun x309 =>
  bd (iv st v0 [4] (fX4_bitAt v0 (v4 + (1 : Int32)) v5 st)) fun x325 st =>
  (uJ st x309 (((6 : Int32) * v3) + (3 : Int32)) x325).bind fun st =>
  (gA st v0 84).bind fun x330 =>
  (uJ st x330 (((6 : Int32) * v3) + (4 : Int32)) v8).bind fun st =>
  (gA st v0 84).bind fun x343 =>
  (uJ st x343 (((6 : Int32) * v3) + (5 : Int32)) (v1 &&& ((shlL (1 : Int64) v3) ^^^ (-1 : Int64)))).bind fun st =>
  kk64 v0 v1 (v3 + 1) st
def bX4_layOut_206B (kk64 : Rf → Int64 → Int32 → Mem → Option (Unit × Mem)) (kk190 : Rf → Int64 → Int32 → Int32 → Int32 → Int64 → Int64 → Int32 → Int32 → Mem → Option (Unit × Mem)) (kk206 : Rf → Int64 → Int32 → Int32 → Int32 → Int64 → Int64 → Int32 → Int32 → Int32 → Mem → Option (Unit × Mem)) (v0 : Rf) (v1 : Int64) (v3 : Int32) (v4 : Int32) (v5 : Int32) (v6 : Int64) (v8 : Int64) (v10 : Int32) (v11 : Int32) (v12 : Int32) (st : Mem) : Option (Unit × Mem) :=
  if v11 < v12 then
    kk190 v0 v1 v3 v4 v5 v6 v8 v10 (v11 + 1) st
  else
    bd (iv st v0 [4] (fX4_bitAt v0 (v4 - v11) (v5 + v12) st)) fun x226 st =>
    kk206 v0 v1 v3 v4 v5 v6 (v8 ||| x226) v10 v11 (v12 + 1) st
def bX4_layOut_206 (kk64 : Rf → Int64 → Int32 → Mem → Option (Unit × Mem)) (kk190 : Rf → Int64 → Int32 → Int32 → Int32 → Int64 → Int64 → Int32 → Int32 → Mem → Option (Unit × Mem)) : Nat → Rf → Int64 → Int32 → Int32 → Int32 → Int64 → Int64 → Int32 → Int32 → Int32 → Mem → Option (Unit × Mem)
  | 0 => fun _ _ _ _ _ _ _ _ _ _ _ => none
  | n + 1 => bX4_layOut_206B kk64 kk190 (bX4_layOut_206 kk64 kk190 n)
def bX4_layOut_190B (kk64 : Rf → Int64 → Int32 → Mem → Option (Unit × Mem)) (kk190 : Rf → Int64 → Int32 → Int32 → Int32 → Int64 → Int64 → Int32 → Int32 → Mem → Option (Unit × Mem)) (v0 : Rf) (v1 : Int64) (v3 : Int32) (v4 : Int32) (v5 : Int32) (v6 : Int64) (v8 : Int64) (v10 : Int32) (v11 : Int32) (st : Mem) : Option (Unit × Mem) :=
  if (4 : Int32) ≤ v11 then
    bX4_layOut_244 kk64 v0 v1 v3 v4 v5 v6 v8 st
  else
    if ¬ v10 = 0 then
      bX4_layOut_244 kk64 v0 v1 v3 v4 v5 v6 v8 st
    else
      bX4_layOut_206 kk64 kk190 hcFuel v0 v1 v3 v4 v5 v6 v8 v10 v11 (-v11) st
def bX4_layOut_190 (kk64 : Rf → Int64 → Int32 → Mem → Option (Unit × Mem)) : Nat → Rf → Int64 → Int32 → Int32 → Int32 → Int64 → Int64 → Int32 → Int32 → Mem → Option (Unit × Mem)
  | 0 => fun _ _ _ _ _ _ _ _ _ _ => none
  | n + 1 => bX4_layOut_190B kk64 (bX4_layOut_190 kk64 n)
def bX4_layOut_185 (kk64 : Rf → Int64 → Int32 → Mem → Option (Unit × Mem)) (v0 : Rf) (v1 : Int64) (v3 : Int32) (v4 : Int32) (v5 : Int32) (v6 : Int64) (v8 : Int64) (k0 : Int32) (st : Mem) : Option (Unit × Mem) :=
  bX4_layOut_190 kk64 hcFuel v0 v1 v3 v4 v5 v6 v8 k0 (1 : Int32) st
def bX4_layOut_184 (kk64 : Rf → Int64 → Int32 → Mem → Option (Unit × Mem)) (v0 : Rf) (v1 : Int64) (v3 : Int32) (v4 : Int32) (v5 : Int32) (v6 : Int64) (v8 : Int64) (st : Mem) : Option (Unit × Mem) :=
  bX4_layOut_185 kk64 v0 v1 v3 v4 v5 v6 v8 (0 : Int32) st
def bX4_layOut_147 (kk64 : Rf → Int64 → Int32 → Mem → Option (Unit × Mem)) (kk107 : Rf → Int64 → Int32 → Int32 → Int32 → Int64 → Int32 → Mem → Option (Unit × Mem)) (v0 : Rf) (v1 : Int64) (v3 : Int32) (v4 : Int32) (v5 : Int32) (v6 : Int64) (v8 : Int32) (st : Mem) : Option (Unit × Mem) :=
  kk107 v0 v1 v3 v4 v5 v6 (v8 + 1) st
def bX4_layOut_107B (kk64 : Rf → Int64 → Int32 → Mem → Option (Unit × Mem)) (kk107 : Rf → Int64 → Int32 → Int32 → Int32 → Int64 → Int32 → Mem → Option (Unit × Mem)) (v0 : Rf) (v1 : Int64) (v3 : Int32) (v4 : Int32) (v5 : Int32) (v6 : Int64) (v8 : Int32) (st : Mem) : Option (Unit × Mem) :=
  if (9 : Int32) ≤ v8 then
    if v4 ≤ 0 then
      bX4_layOut_184 kk64 v0 v1 v3 v4 v5 v6 (0 : Int64) st
    else
      (gA st v0 61).bind fun x162 =>
      (gA st v0 61).bind fun x170 =>
      (aI st x170 (1 : Int32)).bind fun x174 =>
      (aI st x162 (((6 : Int32) + v3) - x174)).bind fun x176 =>
      if ¬ x176 = 0 then
        bX4_layOut_184 kk64 v0 v1 v3 v4 v5 v6 (0 : Int64) st
      else
        bX4_layOut_185 kk64 v0 v1 v3 v4 v5 v6 (0 : Int64) (1 : Int32) st
  else
    if v8 = (4 : Int32) then
      bX4_layOut_147 kk64 kk107 v0 v1 v3 v4 v5 v6 v8 st
    else
      (dvI v8 (3 : Int32)).bind fun x128 =>
      (rmI v8 (3 : Int32)).bind fun x137 =>
      bd (iv st v0 [4] (fX4_bitAt v0 ((v4 + x128) - (1 : Int32)) ((v5 + x137) - (1 : Int32)) st)) fun x141 st =>
      bX4_layOut_147 kk64 kk107 v0 v1 v3 v4 v5 (v6 ||| x141) v8 st
def bX4_layOut_107 (kk64 : Rf → Int64 → Int32 → Mem → Option (Unit × Mem)) : Nat → Rf → Int64 → Int32 → Int32 → Int32 → Int64 → Int32 → Mem → Option (Unit × Mem)
  | 0 => fun _ _ _ _ _ _ _ _ => none
  | n + 1 => bX4_layOut_107B kk64 (bX4_layOut_107 kk64 n)
def bX4_layOut_64B (kk64 : Rf → Int64 → Int32 → Mem → Option (Unit × Mem)) (v0 : Rf) (v1 : Int64) (v3 : Int32) (st : Mem) : Option (Unit × Mem) :=
  (gA st v0 61).bind fun x66 =>
  (aI st x66 (0 : Int32)).bind fun x70 =>
  (gA st v0 61).bind fun x72 =>
  (aI st x72 (1 : Int32)).bind fun x76 =>
  if (x70 * x76) ≤ v3 then
    some ((), st)
  else
    (gA st v0 61).bind fun x83 =>
    (aI st x83 (1 : Int32)).bind fun x87 =>
    (dvI v3 x87).bind fun x88 =>
    (gA st v0 61).bind fun x93 =>
    (aI st x93 (1 : Int32)).bind fun x97 =>
    (rmI v3 x97).bind fun x98 =>
    bX4_layOut_107 kk64 hcFuel v0 v1 v3 x88 x98 (0 : Int64) (0 : Int32) st
def bX4_layOut_64 : Nat → Rf → Int64 → Int32 → Mem → Option (Unit × Mem)
  | 0 => fun _ _ _ _ => none
  | n + 1 => bX4_layOut_64B (bX4_layOut_64 n)
def bX4_layOut_54 (kk17 : Rf → Int64 → Int32 → Mem → Option (Unit × Mem)) (v0 : Rf) (v3 : Int32) (k0 : Int64) (k1 : Int64) (st : Mem) : Option (Unit × Mem) :=
  kk17 v0 (k0 ||| k1) (v3 + 1) st
def bX4_layOut_17B (kk17 : Rf → Int64 → Int32 → Mem → Option (Unit × Mem)) (v0 : Rf) (v1 : Int64) (v3 : Int32) (st : Mem) : Option (Unit × Mem) :=
  (gA st v0 61).bind fun x19 =>
  (aI st x19 (0 : Int32)).bind fun x23 =>
  (gA st v0 61).bind fun x25 =>
  (aI st x25 (1 : Int32)).bind fun x29 =>
  if (x23 * x29) ≤ v3 then
    bX4_layOut_64 hcFuel v0 v1 (0 : Int32) st
  else
    (gA st v0 61).bind fun x36 =>
    (aI st x36 ((6 : Int32) + v3)).bind fun x43 =>
    if x43 ≤ 0 then
      bX4_layOut_54 kk17 v0 v3 v1 (0 : Int64) st
    else
      bX4_layOut_54 kk17 v0 v3 v1 (shlL (1 : Int64) v3) st
def bX4_layOut_17 : Nat → Rf → Int64 → Int32 → Mem → Option (Unit × Mem)
  | 0 => fun _ _ _ _ => none
  | n + 1 => bX4_layOut_17B (bX4_layOut_17 n)
def fX4_layOut (a0 : Rf) (st : Mem) : Option (Unit × Mem) :=
  (gI st a0 85).bind fun x1 =>
  if ¬ x1 = 0 then
    (pI st a0 85 (0 : Int32)).bind fun st =>
    bX4_layOut_17 hcFuel a0 (0 : Int64) (0 : Int32) st
  else
    some ((), st)
def bX4_moment_587 (kk202 : Rf → Int32 → Int32 → Int64 → Int64 → Int64 → Int64 → Int64 → Int64 → Int32 → Mem → Option (Unit × Mem)) (v0 : Rf) (v1 : Int32) (v2 : Int32) (v3 : Int64) (v5 : Int64) (v7 : Int64) (v9 : Int64) (v11 : Int64) (v13 : Int64) (v15 : Int32) (st : Mem) : Option (Unit × Mem) :=
  kk202 v0 v1 v2 v3 v5 v7 v9 v11 v13 (v15 + 1) st
def bX4_moment_548 (kk202 : Rf → Int32 → Int32 → Int64 → Int64 → Int64 → Int64 → Int64 → Int64 → Int32 → Mem → Option (Unit × Mem)) (v0 : Rf) (v1 : Int32) (v2 : Int32) (v7 : Int64) (v9 : Int64) (v11 : Int64) (v13 : Int64) (v15 : Int32) (k0 : Int64) (st : Mem) : Option (Unit × Mem) :=
  (gJ st v0 93).bind fun x556 =>
  (some ((v7 &&& k0) ||| (x556 &&& (k0 ^^^ (-1 : Int64))))).bind fun y567 =>
  (gJ st v0 94).bind fun x574 =>
  (some ((v9 &&& k0) ||| (x574 &&& (k0 ^^^ (-1 : Int64))))).bind fun y585 =>
  bX4_moment_587 kk202 v0 v1 v2 y567 y585 v7 v9 v11 v13 v15 st
def bX4_moment_498 (kk202 : Rf → Int32 → Int32 → Int64 → Int64 → Int64 → Int64 → Int64 → Int64 → Int32 → Mem → Option (Unit × Mem)) (kk260 : Rf → Int32 → Int32 → Int64 → Int64 → Int64 → Int64 → Int64 → Int64 → Int32 → Int32 → Int32 → Mem → Option (Unit × Mem)) (v0 : Rf) (v1 : Int32) (v2 : Int32) (v3 : Int64) (v5 : Int64) (v7 : Int64) (v9 : Int64) (v11 : Int64) (v13 : Int64) (v15 : Int32) (v16 : Int32) (v17 : Int32) (st : Mem) : Option (Unit × Mem) :=
  kk260 v0 v1 v2 v3 v5 v7 v9 v11 v13 v15 v16 (v17 + 1) st
def bX4_moment_495 (kk202 : Rf → Int32 → Int32 → Int64 → Int64 → Int64 → Int64 → Int64 → Int64 → Int32 → Mem → Option (Unit × Mem)) (kk260 : Rf → Int32 → Int32 → Int64 → Int64 → Int64 → Int64 → Int64 → Int64 → Int32 → Int32 → Int32 → Mem → Option (Unit × Mem)) (v0 : Rf) (v1 : Int32) (v2 : Int32) (v3 : Int64) (v5 : Int64) (v7 : Int64) (v9 : Int64) (v11 : Int64) (v15 : Int32) (v16 : Int32) (v17 : Int32) (k0 : Int64) (k1 : Int64) (st : Mem) : Option (Unit × Mem) :=
  bX4_moment_498 kk202 kk260 v0 v1 v2 v3 v5 v7 v9 v11 (k0 ||| k1) v15 v16 v17 st
def bX4_moment_478 (kk202 : Rf → Int32 → Int32 → Int64 → Int64 → Int64 → Int64 → Int64 → Int64 → Int32 → Mem → Option (Unit × Mem)) (kk260 : Rf → Int32 → Int32 → Int64 → Int64 → Int64 → Int64 → Int64 → Int64 → Int32 → Int32 → Int32 → Mem → Option (Unit × Mem)) (v0 : Rf) (v1 : Int32) (v2 : Int32) (v3 : Int64) (v5 : Int64) (v7 : Int64) (v9 : Int64) (v13 : Int64) (v15 : Int32) (v16 : Int32) (v17 : Int32) (v18 : Int64) (v22 : Int32) (k0 : Int64) (k1 : Int64) (st : Mem) : Option (Unit × Mem) :=
  if v22 ≤ (1 : Int32) then
    bX4_moment_495 kk202 kk260 v0 v1 v2 v3 v5 v7 v9 (k0 ||| k1) v15 v16 v17 v13 (0 : Int64) st
  else
    bX4_moment_495 kk202 kk260 v0 v1 v2 v3 v5 v7 v9 (k0 ||| k1) v15 v16 v17 v13 v18 st
def bX4_moment_459 (kk202 : Rf → Int32 → Int32 → Int64 → Int64 → Int64 → Int64 → Int64 → Int64 → Int32 → Mem → Option (Unit × Mem)) (kk260 : Rf → Int32 → Int32 → Int64 → Int64 → Int64 → Int64 → Int64 → Int64 → Int32 → Int32 → Int32 → Mem → Option (Unit × Mem)) (v0 : Rf) (v1 : Int32) (v2 : Int32) (v3 : Int64) (v5 : Int64) (v7 : Int64) (v11 : Int64) (v13 : Int64) (v15 : Int32) (v16 : Int32) (v17 : Int32) (v18 : Int64) (v22 : Int32) (k0 : Int64) (k1 : Int64) (st : Mem) : Option (Unit × Mem) :=
  if ¬ (v22 &&& (1 : Int32)) = (1 : Int32) then
    bX4_moment_478 kk202 kk260 v0 v1 v2 v3 v5 v7 (k0 ||| k1) v13 v15 v16 v17 v18 v22 v11 (0 : Int64) st
  else
    bX4_moment_478 kk202 kk260 v0 v1 v2 v3 v5 v7 (k0 ||| k1) v13 v15 v16 v17 v18 v22 v11 v18 st
def bX4_moment_442 (kk202 : Rf → Int32 → Int32 → Int64 → Int64 → Int64 → Int64 → Int64 → Int64 → Int32 → Mem → Option (Unit × Mem)) (kk260 : Rf → Int32 → Int32 → Int64 → Int64 → Int64 → Int64 → Int64 → Int64 → Int32 → Int32 → Int32 → Mem → Option (Unit × Mem)) (v0 : Rf) (v1 : Int32) (v2 : Int32) (v3 : Int64) (v5 : Int64) (v9 : Int64) (v11 : Int64) (v13 : Int64) (v15 : Int32) (v16 : Int32) (v17 : Int32) (v18 : Int64) (v21 : Int32) (v22 : Int32) (k0 : Int64) (k1 : Int64) (st : Mem) : Option (Unit × Mem) :=
  if v21 ≤ (1 : Int32) then
    bX4_moment_459 kk202 kk260 v0 v1 v2 v3 v5 (k0 ||| k1) v11 v13 v15 v16 v17 v18 v22 v9 (0 : Int64) st
  else
    bX4_moment_459 kk202 kk260 v0 v1 v2 v3 v5 (k0 ||| k1) v11 v13 v15 v16 v17 v18 v22 v9 v18 st
def bX4_moment_427 (kk202 : Rf → Int32 → Int32 → Int64 → Int64 → Int64 → Int64 → Int64 → Int64 → Int32 → Mem → Option (Unit × Mem)) (kk260 : Rf → Int32 → Int32 → Int64 → Int64 → Int64 → Int64 → Int64 → Int64 → Int32 → Int32 → Int32 → Mem → Option (Unit × Mem)) (v0 : Rf) (v1 : Int32) (v2 : Int32) (v3 : Int64) (v5 : Int64) (v7 : Int64) (v9 : Int64) (v11 : Int64) (v13 : Int64) (v15 : Int32) (v16 : Int32) (v17 : Int32) (v18 : Int64) (v21 : Int32) (k0 : Int32) (st : Mem) : Option (Unit × Mem) :=
  if v21 ≤ 0 then
    bX4_moment_442 kk202 kk260 v0 v1 v2 v3 v5 v9 v11 v13 v15 v16 v17 v18 v21 k0 v7 (0 : Int64) st
  else
    bX4_moment_442 kk202 kk260 v0 v1 v2 v3 v5 v9 v11 v13 v15 v16 v17 v18 v21 k0 v7 v18 st
def bX4_moment_401 (kk202 : Rf → Int32 → Int32 → Int64 → Int64 → Int64 → Int64 → Int64 → Int64 → Int32 → Mem → Option (Unit × Mem)) (kk260 : Rf → Int32 → Int32 → Int64 → Int64 → Int64 → Int64 → Int64 → Int64 → Int32 → Int32 → Int32 → Mem → Option (Unit × Mem)) (v0 : Rf) (v1 : Int32) (v2 : Int32) (v3 : Int64) (v5 : Int64) (v7 : Int64) (v9 : Int64) (v11 : Int64) (v13 : Int64) (v15 : Int32) (v16 : Int32) (v17 : Int32) (v18 : Int64) (v21 : Int32) (st : Mem) : Option (Unit × Mem) :=
  bX4_moment_427 kk202 kk260 v0 v1 v2 v3 v5 v7 v9 v11 v13 v15 v16 v17 v18 v21 (0 : Int32) st
def bX4_moment_390 (kk202 : Rf → Int32 → Int32 → Int64 → Int64 → Int64 → Int64 → Int64 → Int64 → Int32 → Mem → Option (Unit × Mem)) (kk260 : Rf → Int32 → Int32 → Int64 → Int64 → Int64 → Int64 → Int64 → Int64 → Int32 → Int32 → Int32 → Mem → Option (Unit × Mem)) (v0 : Rf) (v1 : Int32) (v2 : Int32) (v3 : Int64) (v5 : Int64) (v7 : Int64) (v9 : Int64) (v11 : Int64) (v13 : Int64) (v15 : Int32) (v16 : Int32) (v17 : Int32) (v18 : Int64) (v20 : Int32) (v21 : Int32) (st : Mem) : Option (Unit × Mem) :=
  if v1 = 0 then
    bX4_moment_401 kk202 kk260 v0 v1 v2 v3 v5 v7 v9 v11 v13 v15 v16 v17 v18 v21 st
  else
    if v21 = v20 then
      bd (iv st v0 [4] (fX4_heldOf v0 v17 st)) fun x408 st =>
      if (3 : Int32) ≤ x408 then
        bX4_moment_427 kk202 kk260 v0 v1 v2 v3 v5 v7 v9 v11 v13 v15 v16 v17 v18 v21 (3 : Int32) st
      else
        bd (iv st v0 [4] (fX4_heldOf v0 v17 st)) fun x418 st =>
        bX4_moment_427 kk202 kk260 v0 v1 v2 v3 v5 v7 v9 v11 v13 v15 v16 v17 v18 v21 (x418 + (1 : Int32)) st
    else
      bX4_moment_401 kk202 kk260 v0 v1 v2 v3 v5 v7 v9 v11 v13 v15 v16 v17 v18 v21 st
def bX4_moment_323 (kk202 : Rf → Int32 → Int32 → Int64 → Int64 → Int64 → Int64 → Int64 → Int64 → Int32 → Mem → Option (Unit × Mem)) (kk260 : Rf → Int32 → Int32 → Int64 → Int64 → Int64 → Int64 → Int64 → Int64 → Int32 → Int32 → Int32 → Mem → Option (Unit × Mem)) (v0 : Rf) (v1 : Int32) (v2 : Int32) (v3 : Int64) (v5 : Int64) (v7 : Int64) (v9 : Int64) (v11 : Int64) (v13 : Int64) (v15 : Int32) (v16 : Int32) (v17 : Int32) (v18 : Int64) (v20 : Int32) (st : Mem) : Option (Unit × Mem) :=
  bX4_moment_390 kk202 kk260 v0 v1 v2 v3 v5 v7 v9 v11 v13 v15 v16 v17 v18 v20 (0 : Int32) st
def bX4_moment_365 (kk202 : Rf → Int32 → Int32 → Int64 → Int64 → Int64 → Int64 → Int64 → Int64 → Int32 → Mem → Option (Unit × Mem)) (kk260 : Rf → Int32 → Int32 → Int64 → Int64 → Int64 → Int64 → Int64 → Int64 → Int32 → Int32 → Int32 → Mem → Option (Unit × Mem)) (v0 : Rf) (v1 : Int32) (v2 : Int32) (v3 : Int64) (v5 : Int64) (v7 : Int64) (v9 : Int64) (v11 : Int64) (v13 : Int64) (v15 : Int32) (v16 : Int32) (v17 : Int32) (v18 : Int64) (v20 : Int32) (st : Mem) : Option (Unit × Mem) :=
  bX4_moment_390 kk202 kk260 v0 v1 v2 v3 v5 v7 v9 v11 v13 v15 v16 v17 v18 v20 (0 : Int32) st
def bX4_moment_357 (kk202 : Rf → Int32 → Int32 → Int64 → Int64 → Int64 → Int64 → Int64 → Int64 → Int32 → Mem → Option (Unit × Mem)) (kk260 : Rf → Int32 → Int32 → Int64 → Int64 → Int64 → Int64 → Int64 → Int64 → Int32 → Int32 → Int32 → Mem → Option (Unit × Mem)) (v0 : Rf) (v1 : Int32) (v2 : Int32) (v3 : Int64) (v5 : Int64) (v7 : Int64) (v9 : Int64) (v11 : Int64) (v13 : Int64) (v15 : Int32) (v16 : Int32) (v17 : Int32) (v18 : Int64) (v20 : Int32) (st : Mem) : Option (Unit × Mem) :=
  if ¬ v2 = 0 then
    bX4_moment_365 kk202 kk260 v0 v1 v2 v3 v5 v7 v9 v11 v13 v15 v16 v17 v18 v20 st
  else
    if ¬ v1 = 0 then
      bd (iv st v0 [4] (fX4_heldOf v0 v17 st)) fun x382 st =>
      bd (iv st v0 [4] (fX4_lawLevel v0 v17 v3 v5 v20 x382 st)) fun x385 st =>
      bX4_moment_390 kk202 kk260 v0 v1 v2 v3 v5 v7 v9 v11 v13 v15 v16 v17 v18 v20 x385 st
    else
      bX4_moment_365 kk202 kk260 v0 v1 v2 v3 v5 v7 v9 v11 v13 v15 v16 v17 v18 v20 st
def bX4_moment_260B (kk202 : Rf → Int32 → Int32 → Int64 → Int64 → Int64 → Int64 → Int64 → Int64 → Int32 → Mem → Option (Unit × Mem)) (kk260 : Rf → Int32 → Int32 → Int64 → Int64 → Int64 → Int64 → Int64 → Int64 → Int32 → Int32 → Int32 → Mem → Option (Unit × Mem)) (v0 : Rf) (v1 : Int32) (v2 : Int32) (v3 : Int64) (v5 : Int64) (v7 : Int64) (v9 : Int64) (v11 : Int64) (v13 : Int64) (v15 : Int32) (v16 : Int32) (v17 : Int32) (st : Mem) : Option (Unit × Mem) :=
  (gA st v0 61).bind fun x263 =>
  (aI st x263 (1 : Int32)).bind fun x267 =>
  if (x267 * (v15 + (1 : Int32))) ≤ v17 then
    (gA st v0 61).bind fun x505 =>
    (aI st x505 (5 : Int32)).bind fun x509 =>
    if ¬ x509 = 0 then
      (gA st v0 61).bind fun x517 =>
      (aI st x517 (1 : Int32)).bind fun x521 =>
      (some (x521 * (v15 + (1 : Int32)))).bind fun y527 =>
      if ¬ y527 = (64 : Int32) then
        bX4_moment_548 kk202 v0 v1 v2 v7 v9 v11 v13 v15 ((shlL (1 : Int64) y527) - (1 : Int64)) st
      else
        bX4_moment_548 kk202 v0 v1 v2 v7 v9 v11 v13 v15 (-1 : Int64) st
    else
      bX4_moment_587 kk202 v0 v1 v2 v3 v5 v7 v9 v11 v13 v15 st
  else
    (gA st v0 61).bind fun x277 =>
    (aI st x277 ((6 : Int32) + v17)).bind fun x285 =>
    if ¬ x285 = 0 then
      bd (iv st v0 [4] (fX4_levelOf v0 v17 st)) fun x301 st =>
      if ¬ v16 = 0 then
        bX4_moment_323 kk202 kk260 v0 v1 v2 v3 v5 v7 v9 v11 v13 v15 v16 v17 (shlL (1 : Int64) v17) x301 st
      else
        (gJ st v0 92).bind fun x312 =>
        if (x312 &&& (shlL (1 : Int64) v17)) = (0 : Int64) then
          (gJ st v0 91).bind fun x330 =>
          if (x330 &&& (shlL (1 : Int64) v17)) = (0 : Int64) then
            bX4_moment_357 kk202 kk260 v0 v1 v2 v3 v5 v7 v9 v11 v13 v15 v16 v17 (shlL (1 : Int64) v17) x301 st
          else
            (gA st v0 61).bind fun x343 =>
            (aI st x343 (4 : Int32)).bind fun x347 =>
            if x347 < v1 then
              bX4_moment_357 kk202 kk260 v0 v1 v2 v3 v5 v7 v9 v11 v13 v15 v16 v17 (shlL (1 : Int64) v17) x301 st
            else
              bX4_moment_390 kk202 kk260 v0 v1 v2 v3 v5 v7 v9 v11 v13 v15 v16 v17 (shlL (1 : Int64) v17) x301 (2 : Int32) st
        else
          bX4_moment_323 kk202 kk260 v0 v1 v2 v3 v5 v7 v9 v11 v13 v15 v16 v17 (shlL (1 : Int64) v17) x301 st
    else
      bX4_moment_498 kk202 kk260 v0 v1 v2 v3 v5 v7 v9 v11 v13 v15 v16 v17 st
def bX4_moment_260 (kk202 : Rf → Int32 → Int32 → Int64 → Int64 → Int64 → Int64 → Int64 → Int64 → Int32 → Mem → Option (Unit × Mem)) : Nat → Rf → Int32 → Int32 → Int64 → Int64 → Int64 → Int64 → Int64 → Int64 → Int32 → Int32 → Int32 → Mem → Option (Unit × Mem)
  | 0 => fun _ _ _ _ _ _ _ _ _ _ _ _ _ => none
  | n + 1 => bX4_moment_260B kk202 (bX4_moment_260 kk202 n)
def bX4_moment_247 (kk202 : Rf → Int32 → Int32 → Int64 → Int64 → Int64 → Int64 → Int64 → Int64 → Int32 → Mem → Option (Unit × Mem)) (v0 : Rf) (v1 : Int32) (v2 : Int32) (v3 : Int64) (v5 : Int64) (v7 : Int64) (v9 : Int64) (v11 : Int64) (v13 : Int64) (v15 : Int32) (k0 : Int32) (st : Mem) : Option (Unit × Mem) :=
  (gA st v0 61).bind fun x250 =>
  (aI st x250 (1 : Int32)).bind fun x254 =>
  bX4_moment_260 kk202 hcFuel v0 v1 v2 v3 v5 v7 v9 v11 v13 v15 k0 (x254 * v15) st
def bX4_moment_246 (kk202 : Rf → Int32 → Int32 → Int64 → Int64 → Int64 → Int64 → Int64 → Int64 → Int32 → Mem → Option (Unit × Mem)) (v0 : Rf) (v1 : Int32) (v2 : Int32) (v3 : Int64) (v5 : Int64) (v7 : Int64) (v9 : Int64) (v11 : Int64) (v13 : Int64) (v15 : Int32) (st : Mem) : Option (Unit × Mem) :=
  bX4_moment_247 kk202 v0 v1 v2 v3 v5 v7 v9 v11 v13 v15 (0 : Int32) st
def bX4_moment_202B (kk202 : Rf → Int32 → Int32 → Int64 → Int64 → Int64 → Int64 → Int64 → Int64 → Int32 → Mem → Option (Unit × Mem)) (v0 : Rf) (v1 : Int32) (v2 : Int32) (v3 : Int64) (v5 : Int64) (v7 : Int64) (v9 : Int64) (v11 : Int64) (v13 : Int64) (v15 : Int32) (st : Mem) : Option (Unit × Mem) :=
  (gA st v0 61).bind fun x205 =>
  (aI st x205 (0 : Int32)).bind fun x209 =>
  if x209 ≤ v15 then
    (pJ st v0 93 v7).bind fun st =>
    (pJ st v0 94 v9).bind fun st =>
    (pJ st v0 95 v11).bind fun st =>
    (pJ st v0 96 v13).bind fun st =>
    (gA st v0 87).bind fun x618 =>
    (gJ st v0 93).bind fun x623 =>
    (uJ st x618 v1 x623).bind fun st =>
    (gA st v0 88).bind fun x628 =>
    (gJ st v0 94).bind fun x633 =>
    (uJ st x628 v1 x633).bind fun st =>
    (gA st v0 89).bind fun x638 =>
    (gJ st v0 95).bind fun x643 =>
    (uJ st x638 v1 x643).bind fun st =>
    (gA st v0 90).bind fun x648 =>
    (gJ st v0 96).bind fun x653 =>
    (uJ st x648 v1 x653).bind fun st =>
    (gI st v0 97).bind fun x659 =>
    (pI st v0 97 (x659 + (1 : Int32))).bind fun st =>
    some ((), st)
  else
    (gA st v0 61).bind fun x214 =>
    (aI st x214 ((78 : Int32) + v15)).bind fun x222 =>
    if x222 ≤ 0 then
      bX4_moment_246 kk202 v0 v1 v2 v3 v5 v7 v9 v11 v13 v15 st
    else
      (gA st v0 61).bind fun x228 =>
      (aI st x228 ((78 : Int32) + v15)).bind fun x236 =>
      if v1 < (x236 - (1 : Int32)) then
        bX4_moment_246 kk202 v0 v1 v2 v3 v5 v7 v9 v11 v13 v15 st
      else
        bX4_moment_247 kk202 v0 v1 v2 v3 v5 v7 v9 v11 v13 v15 (1 : Int32) st
def bX4_moment_202 : Nat → Rf → Int32 → Int32 → Int64 → Int64 → Int64 → Int64 → Int64 → Int64 → Int32 → Mem → Option (Unit × Mem)
  | 0 => fun _ _ _ _ _ _ _ _ _ _ _ => none
  | n + 1 => bX4_moment_202B (bX4_moment_202 n)
def bX4_moment_176 (v0 : Rf) (v1 : Int32) (v2 : Int32) (st : Mem) : Option (Unit × Mem) :=
  (gJ st v0 93).bind fun x177 =>
  (gJ st v0 94).bind fun x182 =>
  bX4_moment_202 hcFuel v0 v1 v2 x177 x182 (0 : Int64) (0 : Int64) (0 : Int64) (0 : Int64) (0 : Int32) st
def bX4_moment_160 (kk7 : Rf → Int32 → Int32 → Mem → Option (Unit × Mem)) (v0 : Rf) (v1 : Int32) (v2 : Int32) (k0 : Rf) (k1 : Int64) (st : Mem) : Option (Unit × Mem) :=
  (pJ st k0 92 k1).bind fun st =>
  (gI st v0 98).bind fun x165 =>
  (pI st v0 98 (x165 + (1 : Int32))).bind fun st =>
  kk7 v0 v1 v2 st
def bX4_moment_130 (kk7 : Rf → Int32 → Int32 → Mem → Option (Unit × Mem)) (v0 : Rf) (v1 : Int32) (v2 : Int32) (v3 : Int32) (v4 : Int64) (k0 : Rf) (k1 : Int64) (st : Mem) : Option (Unit × Mem) :=
  (pJ st k0 91 k1).bind fun st =>
  if ¬ v3 = (1 : Int32) then
    (gJ st v0 92).bind fun x150 =>
    bX4_moment_160 kk7 v0 v1 v2 v0 (x150 &&& (v4 ^^^ (-1 : Int64))) st
  else
    (gJ st v0 92).bind fun x140 =>
    bX4_moment_160 kk7 v0 v1 v2 v0 (x140 ||| v4) st
def bX4_moment_103 (kk7 : Rf → Int32 → Int32 → Mem → Option (Unit × Mem)) (v0 : Rf) (v1 : Int32) (v3 : Int32) (v4 : Int64) (k0 : Int32) (st : Mem) : Option (Unit × Mem) :=
  if ¬ v3 = 0 then
    (gJ st v0 91).bind fun x120 =>
    bX4_moment_130 kk7 v0 v1 k0 v3 v4 v0 (x120 &&& (v4 ^^^ (-1 : Int64))) st
  else
    (gJ st v0 91).bind fun x110 =>
    bX4_moment_130 kk7 v0 v1 k0 v3 v4 v0 (x110 ||| v4) st
def bX4_moment_98 (kk7 : Rf → Int32 → Int32 → Mem → Option (Unit × Mem)) (v0 : Rf) (v1 : Int32) (v3 : Int32) (v4 : Int64) (st : Mem) : Option (Unit × Mem) :=
  bX4_moment_103 kk7 v0 v1 v3 v4 (1 : Int32) st
def bX4_moment_87 (kk7 : Rf → Int32 → Int32 → Mem → Option (Unit × Mem)) (v0 : Rf) (v1 : Int32) (v2 : Int32) (v3 : Int32) (k0 : Int64) (st : Mem) : Option (Unit × Mem) :=
  if ¬ v2 = 0 then
    bX4_moment_98 kk7 v0 v1 v3 k0 st
  else
    if ¬ v3 = (3 : Int32) then
      bX4_moment_103 kk7 v0 v1 v3 k0 (0 : Int32) st
    else
      bX4_moment_98 kk7 v0 v1 v3 k0 st
def bX4_moment_7B (kk7 : Rf → Int32 → Int32 → Mem → Option (Unit × Mem)) (v0 : Rf) (v1 : Int32) (v2 : Int32) (st : Mem) : Option (Unit × Mem) :=
  (gI st v0 98).bind fun x8 =>
  (gA st v0 61).bind fun x12 =>
  (aI st x12 (590 : Int32)).bind fun x18 =>
  if x18 ≤ x8 then
    bX4_moment_176 v0 v1 v2 st
  else
    (gA st v0 61).bind fun x23 =>
    (gI st v0 98).bind fun x31 =>
    (aI st x23 ((591 : Int32) + ((3 : Int32) * x31))).bind fun x36 =>
    if ¬ x36 = v1 then
      bX4_moment_176 v0 v1 v2 st
    else
      (gA st v0 61).bind fun x42 =>
      (gI st v0 98).bind fun x50 =>
      (aI st x42 (((591 : Int32) + ((3 : Int32) * x50)) + (1 : Int32))).bind fun x57 =>
      if ¬ x57 = (3 : Int32) then
        (gA st v0 61).bind fun x70 =>
        (gI st v0 98).bind fun x78 =>
        (aI st x70 (((591 : Int32) + ((3 : Int32) * x78)) + (2 : Int32))).bind fun x85 =>
        bX4_moment_87 kk7 v0 v1 v2 x57 (shlL (1 : Int64) x85) st
      else
        bX4_moment_87 kk7 v0 v1 v2 x57 (0 : Int64) st
def bX4_moment_7 : Nat → Rf → Int32 → Int32 → Mem → Option (Unit × Mem)
  | 0 => fun _ _ _ _ => none
  | n + 1 => bX4_moment_7B (bX4_moment_7 n)
def fX4_moment (a0 : Rf) (st : Mem) : Option (Unit × Mem) :=
  (gI st a0 97).bind fun x1 =>
  bX4_moment_7 hcFuel a0 x1 (0 : Int32) st
def fX4_once (a0 : Rf) (a1 : Int32) (a2 : Int32) (a3 : Int32) (a4 : Int32) (st : Mem) : Option (Int32 × Mem) :=
  (gI st a0 77).bind fun x1 =>
  bd (fX4_has x1 a1 st) fun x5 st =>
  if x5 = 0 then
    (gI st a0 77).bind fun x19 =>
    (pI st a0 77 (x19 ||| (shlI (1 : Int32) a1))).bind fun st =>
    bd (iv st a0 [4] (fX4_next a0 st)) fun _ st =>
    bd (iv st a0 [4] (fX4_takes a0 a3 a4 st)) fun x37 st =>
    if ¬ x37 = 0 then
      (gA st a0 62).bind fun x46 =>
      (gI st a0 73).bind fun x51 =>
      (uI st x46 a2 x51).bind fun st =>
      some ((1 : Int32), st)
    else
      some ((0 : Int32), st)
  else
    bd (iv st a0 [4] (fX4_bad a0 (3 : Int32) st)) fun x13 st =>
    some ((nz x13), st)
def bX4_readCue_140 (v0 : Rf) (v1 : Int32) (k0 : Int32) (st : Mem) : Option (Int32 × Mem) :=
  if 0 ≤ k0 then
    (gA st v0 63).bind fun x152 =>
    (uI st x152 (v1 + (1 : Int32)) k0).bind fun st =>
    (gA st v0 63).bind fun x161 =>
    (uI st x161 (v1 + (2 : Int32)) (-1 : Int32)).bind fun st =>
    bd (iv st v0 [4] (fX4_next v0 st)) fun _ st =>
    if ¬ k0 = (3 : Int32) then
      (gA st v0 61).bind fun x183 =>
      (aI st x183 (0 : Int32)).bind fun x187 =>
      bd (iv st v0 [4] (fX4_takes v0 (0 : Int32) (x187 - (1 : Int32)) st)) fun x190 st =>
      if ¬ x190 = 0 then
        (gI st v0 73).bind fun x199 =>
        (gI st v0 64).bind fun x204 =>
        if x204 = (2 : Int32) then
          (gI st v0 67).bind fun x220 =>
          bd (iv st v0 [4] (fX4_isSeatAt v0 x199 x220 st)) fun x223 st =>
          if ¬ x223 = 0 then
            (gA st v0 63).bind fun x236 =>
            (gA st v0 61).bind fun x243 =>
            (aI st x243 (1 : Int32)).bind fun x247 =>
            (gI st v0 67).bind fun x251 =>
            (uI st x236 (v1 + (2 : Int32)) ((x247 * x199) + x251)).bind fun st =>
            bd (iv st v0 [4] (fX4_next v0 st)) fun _ st =>
            some ((1 : Int32), st)
          else
            bd (iv st v0 [4] (fX4_bad v0 (2 : Int32) st)) fun x231 st =>
            some ((nz x231), st)
        else
          bd (iv st v0 [4] (fX4_bad v0 (1 : Int32) st)) fun x213 st =>
          some ((nz x213), st)
      else
        some ((0 : Int32), st)
    else
      some ((1 : Int32), st)
  else
    bd (iv st v0 [4] (fX4_bad v0 (1 : Int32) st)) fun x147 st =>
    some ((nz x147), st)
def bX4_readCue_62 (v0 : Rf) (v1 : Int32) (k0 : Rf) (k1 : Int32) (st : Mem) : Option (Int32 × Mem) :=
  bd (iv st k0 [4] (fX4_takes k0 k1 (600 : Int32) st)) fun x65 st =>
  if ¬ x65 = 0 then
    (gA st v0 63).bind fun x74 =>
    (gI st v0 73).bind fun x79 =>
    (uI st x74 v1 x79).bind fun st =>
    bd (iv st v0 [4] (fX4_isWord v0 (7364985 : Int64) st)) fun x87 st =>
    if x87 = 0 then
      bd (iv st v0 [4] (fX4_isWord v0 (1751741299 : Int64) st)) fun x101 st =>
      if x101 = 0 then
        bd (iv st v0 [4] (fX4_isWord v0 (1718773093 : Int64) st)) fun x115 st =>
        if x115 = 0 then
          bd (iv st v0 [4] (fX4_isWord v0 (495874305132 : Int64) st)) fun x129 st =>
          if x129 = 0 then
            bX4_readCue_140 v0 v1 (-1 : Int32) st
          else
            bX4_readCue_140 v0 v1 (3 : Int32) st
        else
          bX4_readCue_140 v0 v1 (2 : Int32) st
      else
        bX4_readCue_140 v0 v1 (1 : Int32) st
    else
      bX4_readCue_140 v0 v1 (0 : Int32) st
  else
    some ((0 : Int32), st)
def fX4_readCue (a0 : Rf) (st : Mem) : Option (Int32 × Mem) :=
  bd (iv st a0 [4] (fX4_isWord a0 (24948 : Int64) st)) fun x4 st =>
  if ¬ x4 = 0 then
    (gI st a0 86).bind fun x17 =>
    if ¬ x17 = (30 : Int32) then
      bd (iv st a0 [4] (fX4_next a0 st)) fun _ st =>
      (gI st a0 86).bind fun x37 =>
      (gI st a0 86).bind fun x44 =>
      if ¬ x44 = 0 then
        (gA st a0 63).bind fun x55 =>
        (aI st x55 (((3 : Int32) * x37) - (3 : Int32))).bind fun x61 =>
        bX4_readCue_62 a0 ((3 : Int32) * x37) a0 x61 st
      else
        bX4_readCue_62 a0 ((3 : Int32) * x37) a0 (0 : Int32) st
    else
      bd (iv st a0 [4] (fX4_bad a0 (4 : Int32) st)) fun x27 st =>
      some ((nz x27), st)
  else
    bd (iv st a0 [4] (fX4_bad a0 (1 : Int32) st)) fun x12 st =>
    some ((nz x12), st)
def fX4_begin (a0 : Rf) (a1 : Int64) (a3 : Int64) (st : Mem) : Option (Unit × Mem) :=
  bd (iv st a0 [4] (fX4_layOut a0 st)) fun _ st =>
  (pJ st a0 91 a1).bind fun st =>
  (pJ st a0 92 a3).bind fun st =>
  (pI st a0 97 (0 : Int32)).bind fun st =>
  (pI st a0 98 (0 : Int32)).bind fun st =>
  (pJ st a0 93 (0 : Int64)).bind fun st =>
  (pJ st a0 94 (0 : Int64)).bind fun st =>
  (pJ st a0 95 (0 : Int64)).bind fun st =>
  (pJ st a0 96 (0 : Int64)).bind fun st =>
  some ((), st)
def bX4_cues_83B (kk83 : Rf → Int32 → Mem → Option (Int32 × Mem)) (v0 : Rf) (v1 : Int32) (st : Mem) : Option (Int32 × Mem) :=
  (gI st v0 86).bind fun x86 =>
  if ((3 : Int32) * x86) ≤ v1 then
    (gI st v0 86).bind fun x116 =>
    some (x116, st)
  else
    (gA st v0 61).bind fun x94 =>
    (gA st v0 63).bind fun x103 =>
    (aI st x103 v1).bind fun x107 =>
    (uI st x94 ((591 : Int32) + v1) x107).bind fun st =>
    kk83 v0 (v1 + 1) st
def bX4_cues_83 : Nat → Rf → Int32 → Mem → Option (Int32 × Mem)
  | 0 => fun _ _ _ => none
  | n + 1 => bX4_cues_83B (bX4_cues_83 n)
def bX4_cues_49 (v0 : Rf) (st : Mem) : Option (Int32 × Mem) :=
  (gI st v0 69).bind fun x51 =>
  some (((-1 : Int32) - x51), st)
def bX4_cues_26B (kk26 : Rf → Mem → Option (Int32 × Mem)) (v0 : Rf) (st : Mem) : Option (Int32 × Mem) :=
  (gI st v0 64).bind fun x27 =>
  if x27 = 0 then
    (gA st v0 61).bind fun x70 =>
    (gI st v0 86).bind fun x77 =>
    (uI st x70 (590 : Int32) x77).bind fun st =>
    bX4_cues_83 hcFuel v0 (0 : Int32) st
  else
    bd (iv st v0 [4] (fX4_readCue v0 st)) fun x34 st =>
    if x34 = 0 then
      bX4_cues_49 v0 st
    else
      bd (iv st v0 [4] (fX4_sign v0 (59 : Int32) st)) fun x43 st =>
      if ¬ x43 = 0 then
        (gI st v0 86).bind fun x58 =>
        (pI st v0 86 (x58 + (1 : Int32))).bind fun st =>
        kk26 v0 st
      else
        bX4_cues_49 v0 st
def bX4_cues_26 : Nat → Rf → Mem → Option (Int32 × Mem)
  | 0 => fun _ _ => none
  | n + 1 => bX4_cues_26B (bX4_cues_26 n)
def fX4_cues (a0 : Rf) (st : Mem) : Option (Int32 × Mem) :=
  (pI st a0 55 (0 : Int32)).bind fun st =>
  bd (iv st a0 [4] (fX4_taken a0 (400 : Int32) st)) fun _ st =>
  (pI st a0 68 (0 : Int32)).bind fun st =>
  (pI st a0 86 (0 : Int32)).bind fun st =>
  bd (iv st a0 [4] (fX4_next a0 st)) fun _ st =>
  bX4_cues_26 hcFuel a0 st
def bX4_one_54 (v0 : Rf) (st : Mem) : Option (Int32 × Mem) :=
  bd (iv st v0 [4] (fX4_bad v0 (4 : Int32) st)) fun x56 st =>
  some ((nz x56), st)
def bX4_one_96 (kk0 : Rf → Mem → Option (Int32 × Mem)) (v0 : Rf) (k0 : Rf) (k1 : Int32) (k2 : Int32) (st : Mem) : Option (Int32 × Mem) :=
  (uI st k0 k1 k2).bind fun st =>
  (gI st v0 82).bind fun x99 =>
  (pI st v0 82 (x99 + (1 : Int32))).bind fun st =>
  kk0 v0 st
def bX4_one_36 (kk0 : Rf → Mem → Option (Int32 × Mem)) (v0 : Rf) (v1 : Int32) (v2 : Int32) (st : Mem) : Option (Int32 × Mem) :=
  (gI st v0 83).bind fun x37 =>
  if x37 = (20 : Int32) then
    bX4_one_54 v0 st
  else
    bd (iv st v0 [4] (fX4_opened v0 st)) fun x46 st =>
    if ¬ x46 = (8 : Int32) then
      (gI st v0 83).bind fun x62 =>
      (pI st v0 83 (x62 + (1 : Int32))).bind fun st =>
      bd (iv st v0 [4] (fX4_next v0 st)) fun _ st =>
      if 0 ≤ v2 then
        bd (iv st v0 [4] (fX4_asks v0 v2 st)) fun x112 st =>
        some ((nz x112), st)
      else
        (gA st v0 79).bind fun x79 =>
        (gI st v0 82).bind fun x83 =>
        if v1 = 0 then
          bX4_one_96 kk0 v0 x79 x83 (6 : Int32) st
        else
          bX4_one_96 kk0 v0 x79 x83 (3 : Int32) st
    else
      bX4_one_54 v0 st
def bX4_one_0B (kk0 : Rf → Mem → Option (Int32 × Mem)) (v0 : Rf) (st : Mem) : Option (Int32 × Mem) :=
  bd (iv st v0 [4] (fX4_isWord v0 (7237492 : Int64) st)) fun x4 st =>
  bd (iv st v0 [4] (fX4_atom v0 st)) fun x9 st =>
  if ¬ x4 = 0 then
    bX4_one_36 kk0 v0 x4 x9 st
  else
    if 0 ≤ x9 then
      bX4_one_36 kk0 v0 x4 x9 st
    else
      bd (iv st v0 [4] (fX4_isSign v0 (40 : Int32) st)) fun x24 st =>
      if ¬ x24 = 0 then
        bX4_one_36 kk0 v0 x4 x9 st
      else
        bd (iv st v0 [4] (fX4_bad v0 (1 : Int32) st)) fun x32 st =>
        some ((nz x32), st)
def bX4_one_0 : Nat → Rf → Mem → Option (Int32 × Mem)
  | 0 => fun _ _ => none
  | n + 1 => bX4_one_0B (bX4_one_0 n)
def fX4_one (a0 : Rf) (st : Mem) : Option (Int32 × Mem) :=
  bX4_one_0 hcFuel a0 st
def bX4_cond_124 (kk0 : Rf → Mem → Option (Int32 × Mem)) (v0 : Rf) (k0 : Rf) (k1 : Int32) (k2 : Int32) (st : Mem) : Option (Int32 × Mem) :=
  (uI st k0 k1 k2).bind fun st =>
  (gI st v0 82).bind fun x127 =>
  (pI st v0 82 (x127 + (1 : Int32))).bind fun st =>
  bd (iv st v0 [4] (fX4_next v0 st)) fun _ st =>
  kk0 v0 st
def bX4_cond_104 (kk0 : Rf → Mem → Option (Int32 × Mem)) (v0 : Rf) (v1 : Int32) (k0 : Rf) (k1 : Int32) (st : Mem) : Option (Int32 × Mem) :=
  bd (iv st k0 [4] (fX4_writeDown k0 k1 st)) fun _ st =>
  (gA st v0 79).bind fun x108 =>
  (gI st v0 82).bind fun x112 =>
  if v1 = 0 then
    bX4_cond_124 kk0 v0 x108 x112 (5 : Int32) st
  else
    bX4_cond_124 kk0 v0 x108 x112 (4 : Int32) st
def bX4_cond_94 (kk0 : Rf → Mem → Option (Int32 × Mem)) (v0 : Rf) (v1 : Int32) (st : Mem) : Option (Int32 × Mem) :=
  if v1 = 0 then
    bX4_cond_104 kk0 v0 v1 v0 (1 : Int32) st
  else
    bX4_cond_104 kk0 v0 v1 v0 (2 : Int32) st
def bX4_cond_52 (kk0 : Rf → Mem → Option (Int32 × Mem)) (v0 : Rf) (st : Mem) : Option (Int32 × Mem) :=
  bd (iv st v0 [4] (fX4_isWord v0 (6385252 : Int64) st)) fun x56 st =>
  if ¬ x56 = 0 then
    bX4_cond_94 kk0 v0 x56 st
  else
    bd (iv st v0 [4] (fX4_isWord v0 (28530 : Int64) st)) fun x68 st =>
    if ¬ x68 = 0 then
      bX4_cond_94 kk0 v0 x56 st
    else
      bd (iv st v0 [4] (fX4_isOpen v0 st)) fun x75 st =>
      if x75 = 0 then
        bd (iv st v0 [4] (fX4_writeDown v0 (1 : Int32) st)) fun _ st =>
        some ((1 : Int32), st)
      else
        bd (iv st v0 [4] (fX4_bad v0 (1 : Int32) st)) fun x83 st =>
        some ((nz x83), st)
def bX4_cond_9B (kk0 : Rf → Mem → Option (Int32 × Mem)) (kk9 : Rf → Mem → Option (Int32 × Mem)) (v0 : Rf) (st : Mem) : Option (Int32 × Mem) :=
  bd (iv st v0 [4] (fX4_isSign v0 (41 : Int32) st)) fun x12 st =>
  if x12 = 0 then
    bX4_cond_52 kk0 v0 st
  else
    bd (iv st v0 [4] (fX4_isOpen v0 st)) fun x19 st =>
    if x19 = 0 then
      bX4_cond_52 kk0 v0 st
    else
      bd (iv st v0 [4] (fX4_writeDown v0 (1 : Int32) st)) fun _ st =>
      (gI st v0 82).bind fun x32 =>
      (pI st v0 82 (x32 - (1 : Int32))).bind fun st =>
      bd (iv st v0 [4] (fX4_writeDown v0 (3 : Int32) st)) fun _ st =>
      bd (iv st v0 [4] (fX4_next v0 st)) fun _ st =>
      kk9 v0 st
def bX4_cond_9 (kk0 : Rf → Mem → Option (Int32 × Mem)) : Nat → Rf → Mem → Option (Int32 × Mem)
  | 0 => fun _ _ => none
  | n + 1 => bX4_cond_9B kk0 (bX4_cond_9 kk0 n)
def bX4_cond_0B (kk0 : Rf → Mem → Option (Int32 × Mem)) (v0 : Rf) (st : Mem) : Option (Int32 × Mem) :=
  bd (iv st v0 [4] (fX4_one v0 st)) fun x1 st =>
  if ¬ x1 = 0 then
    bX4_cond_9 kk0 hcFuel v0 st
  else
    some ((0 : Int32), st)
def bX4_cond_0 : Nat → Rf → Mem → Option (Int32 × Mem)
  | 0 => fun _ _ => none
  | n + 1 => bX4_cond_0B (bX4_cond_0 n)
def fX4_cond (a0 : Rf) (st : Mem) : Option (Int32 × Mem) :=
  bX4_cond_0 hcFuel a0 st
def bX4_height_77 (v0 : Rf) (k0 : Rf) (k1 : Int32) (st : Mem) : Option (Int32 × Mem) :=
  (pI st k0 100 k1).bind fun st =>
  (gI st v0 99).bind fun x81 =>
  some (x81, st)
def bX4_height_52 (kk11 : Rf → Mem → Option (Int32 × Mem)) (v0 : Rf) (k0 : Rf) (k1 : Int32) (st : Mem) : Option (Int32 × Mem) :=
  (pI st k0 99 k1).bind fun st =>
  kk11 v0 st
def bX4_height_11B (kk11 : Rf → Mem → Option (Int32 × Mem)) (v0 : Rf) (st : Mem) : Option (Int32 × Mem) :=
  (gI st v0 97).bind fun x12 =>
  if (60 : Int32) < x12 then
    (gI st v0 99).bind fun x60 =>
    (gA st v0 61).bind fun x64 =>
    (aI st x64 (3 : Int32)).bind fun x68 =>
    if x60 < x68 then
      bX4_height_77 v0 v0 (0 : Int32) st
    else
      bX4_height_77 v0 v0 (1 : Int32) st
  else
    bd (iv st v0 [4] (fX4_moment v0 st)) fun _ st =>
    (gJ st v0 94).bind fun x25 =>
    bd (fX4_bits x25 st) fun x28 st =>
    (gI st v0 99).bind fun x37 =>
    if x28 ≤ x37 then
      (gI st v0 99).bind fun x49 =>
      bX4_height_52 kk11 v0 v0 x49 st
    else
      bX4_height_52 kk11 v0 v0 x28 st
def bX4_height_11 : Nat → Rf → Mem → Option (Int32 × Mem)
  | 0 => fun _ _ => none
  | n + 1 => bX4_height_11B (bX4_height_11 n)
def fX4_height (a0 : Rf) (a1 : Int64) (a3 : Int64) (st : Mem) : Option (Int32 × Mem) :=
  bd (iv st a0 [4] (fX4_begin a0 a1 a3 st)) fun _ st =>
  (pI st a0 99 (0 : Int32)).bind fun st =>
  bX4_height_11 hcFuel a0 st
def bX4_isSketch_62 (st : Mem) : Option (Int32 × Mem) :=
  some ((0 : Int32), st)
def bX4_isSketch_9B (kk9 : Rf → Int32 → Mem → Option (Int32 × Mem)) (v0 : Rf) (v3 : Int32) (st : Mem) : Option (Int32 × Mem) :=
  (gI st v0 97).bind fun x10 =>
  if v3 < x10 then
    (gJ st v0 93).bind fun x25 =>
    (gJ st v0 113).bind fun x29 =>
    (gJ st v0 111).bind fun x34 =>
    if ¬ (x25 &&& x29) = x34 then
      bX4_isSketch_62 st
    else
      (gJ st v0 94).bind fun x42 =>
      (gJ st v0 113).bind fun x46 =>
      (gJ st v0 112).bind fun x51 =>
      if ¬ (x42 &&& x46) = x51 then
        bX4_isSketch_62 st
      else
        some ((1 : Int32), st)
  else
    bd (iv st v0 [4] (fX4_moment v0 st)) fun _ st =>
    kk9 v0 v3 st
def bX4_isSketch_9 : Nat → Rf → Int32 → Mem → Option (Int32 × Mem)
  | 0 => fun _ _ _ => none
  | n + 1 => bX4_isSketch_9B (bX4_isSketch_9 n)
def fX4_isSketch (a0 : Rf) (a1 : Int64) (a3 : Int32) (st : Mem) : Option (Int32 × Mem) :=
  (gJ st a0 72).bind fun x3 =>
  bd (iv st a0 [4] (fX4_begin a0 a1 x3 st)) fun _ st =>
  bX4_isSketch_9 hcFuel a0 a3 st
def bX4_night_12B (kk12 : Rf → Int32 → Mem → Option (Unit × Mem)) (v0 : Rf) (v1 : Int32) (st : Mem) : Option (Unit × Mem) :=
  (gI st v0 97).bind fun x13 =>
  if v1 < x13 then
    some ((), st)
  else
    bd (iv st v0 [4] (fX4_moment v0 st)) fun _ st =>
    kk12 v0 v1 st
def bX4_night_12 : Nat → Rf → Int32 → Mem → Option (Unit × Mem)
  | 0 => fun _ _ _ => none
  | n + 1 => bX4_night_12B (bX4_night_12 n)
def fX4_night (a0 : Rf) (a1 : Int32) (st : Mem) : Option (Unit × Mem) :=
  (gJ st a0 71).bind fun x2 =>
  (gJ st a0 72).bind fun x6 =>
  bd (iv st a0 [4] (fX4_begin a0 x2 x6 st)) fun _ st =>
  bX4_night_12 hcFuel a0 a1 st
def bX4_again_232B (kk218 : Rf → Int32 → Int32 → Mem → Option (Int32 × Mem)) (kk232 : Rf → Int32 → Int32 → Int32 → Mem → Option (Int32 × Mem)) (v0 : Rf) (v1 : Int32) (v4 : Int32) (v5 : Int32) (st : Mem) : Option (Int32 × Mem) :=
  if (600 : Int32) < v5 then
    kk218 v0 v1 (v4 + 1) st
  else
    bd (iv st v0 [4] (fX4_areLike v0 v4 v5 st)) fun x245 st =>
    if x245 = 0 then
      kk232 v0 v1 v4 (v5 + 1) st
    else
      if ¬ v1 = 0 then
        some ((v5 - v4), st)
      else
        some (v4, st)
def bX4_again_232 (kk218 : Rf → Int32 → Int32 → Mem → Option (Int32 × Mem)) : Nat → Rf → Int32 → Int32 → Int32 → Mem → Option (Int32 × Mem)
  | 0 => fun _ _ _ _ _ => none
  | n + 1 => bX4_again_232B kk218 (bX4_again_232 kk218 n)
def bX4_again_218B (kk218 : Rf → Int32 → Int32 → Mem → Option (Int32 × Mem)) (v0 : Rf) (v1 : Int32) (v4 : Int32) (st : Mem) : Option (Int32 × Mem) :=
  if (600 : Int32) < v4 then
    some ((-1 : Int32), st)
  else
    bX4_again_232 kk218 hcFuel v0 v1 v4 (v4 + (1 : Int32)) st
def bX4_again_218 : Nat → Rf → Int32 → Int32 → Mem → Option (Int32 × Mem)
  | 0 => fun _ _ _ _ => none
  | n + 1 => bX4_again_218B (bX4_again_218 n)
def bX4_again_215 (v0 : Rf) (v1 : Int32) (v2 : Int32) (st : Mem) : Option (Int32 × Mem) :=
  bX4_again_218 hcFuel v0 v1 v2 st
def bX4_again_171 (kk96 : Rf → Int32 → Int32 → Int32 → Int32 → Mem → Option (Int32 × Mem)) (v0 : Rf) (v1 : Int32) (v2 : Int32) (v4 : Int32) (k0 : Int32) (st : Mem) : Option (Int32 × Mem) :=
  kk96 v0 v1 v2 k0 (v4 + 1) st
def bX4_again_166 (kk96 : Rf → Int32 → Int32 → Int32 → Int32 → Mem → Option (Int32 × Mem)) (v0 : Rf) (v1 : Int32) (v2 : Int32) (v4 : Int32) (st : Mem) : Option (Int32 × Mem) :=
  bX4_again_171 kk96 v0 v1 v2 v4 (1 : Int32) st
def bX4_again_143 (kk96 : Rf → Int32 → Int32 → Int32 → Int32 → Mem → Option (Int32 × Mem)) (v0 : Rf) (v1 : Int32) (v3 : Int32) (v4 : Int32) (k0 : Int32) (st : Mem) : Option (Int32 × Mem) :=
  if ¬ v3 = 0 then
    bX4_again_166 kk96 v0 v1 k0 v4 st
  else
    (gA st v0 61).bind fun x149 =>
    (aI st x149 (((591 : Int32) + ((3 : Int32) * v4)) + (1 : Int32))).bind fun x162 =>
    if ¬ x162 = 0 then
      bX4_again_171 kk96 v0 v1 k0 v4 (0 : Int32) st
    else
      bX4_again_166 kk96 v0 v1 k0 v4 st
def bX4_again_96B (kk96 : Rf → Int32 → Int32 → Int32 → Int32 → Mem → Option (Int32 × Mem)) (v0 : Rf) (v1 : Int32) (v2 : Int32) (v3 : Int32) (v4 : Int32) (st : Mem) : Option (Int32 × Mem) :=
  (gA st v0 61).bind fun x99 =>
  (aI st x99 (590 : Int32)).bind fun x105 =>
  if x105 ≤ v4 then
    if v3 = 0 then
      bX4_again_215 v0 v1 v2 st
    else
      (gA st v0 61).bind fun x183 =>
      (aI st x183 (4 : Int32)).bind fun x187 =>
      if (600 : Int32) ≤ x187 then
        bX4_again_215 v0 v1 v2 st
      else
        (gA st v0 61).bind fun x195 =>
        (aI st x195 (4 : Int32)).bind fun x199 =>
        if (x199 + (1 : Int32)) ≤ v2 then
          bX4_again_215 v0 v1 v2 st
        else
          (gA st v0 61).bind fun x207 =>
          (aI st x207 (4 : Int32)).bind fun x211 =>
          bX4_again_215 v0 v1 (x211 + (1 : Int32)) st
  else
    (gA st v0 61).bind fun x110 =>
    (aI st x110 ((591 : Int32) + ((3 : Int32) * v4))).bind fun x121 =>
    if x121 ≤ v2 then
      bX4_again_143 kk96 v0 v1 v3 v4 v2 st
    else
      (gA st v0 61).bind fun x127 =>
      (aI st x127 ((591 : Int32) + ((3 : Int32) * v4))).bind fun x138 =>
      bX4_again_143 kk96 v0 v1 v3 v4 x138 st
def bX4_again_96 : Nat → Rf → Int32 → Int32 → Int32 → Int32 → Mem → Option (Int32 × Mem)
  | 0 => fun _ _ _ _ _ _ => none
  | n + 1 => bX4_again_96B (bX4_again_96 n)
def bX4_again_86 (kk43 : Rf → Int32 → Int32 → Int32 → Int32 → Mem → Option (Int32 × Mem)) (v0 : Rf) (v1 : Int32) (v3 : Int32) (v4 : Int32) (k0 : Int32) (st : Mem) : Option (Int32 × Mem) :=
  kk43 v0 v1 k0 v3 (v4 + 1) st
def bX4_again_43B (kk43 : Rf → Int32 → Int32 → Int32 → Int32 → Mem → Option (Int32 × Mem)) (v0 : Rf) (v1 : Int32) (v2 : Int32) (v3 : Int32) (v4 : Int32) (st : Mem) : Option (Int32 × Mem) :=
  (gA st v0 61).bind fun x46 =>
  (aI st x46 (0 : Int32)).bind fun x50 =>
  if x50 ≤ v4 then
    bX4_again_96 hcFuel v0 v1 v2 v3 (0 : Int32) st
  else
    (gA st v0 61).bind fun x55 =>
    (aI st x55 ((78 : Int32) + v4)).bind fun x63 =>
    if (x63 - (1 : Int32)) ≤ v2 then
      bX4_again_86 kk43 v0 v1 v3 v4 v2 st
    else
      (gA st v0 61).bind fun x71 =>
      (aI st x71 ((78 : Int32) + v4)).bind fun x79 =>
      bX4_again_86 kk43 v0 v1 v3 v4 (x79 - (1 : Int32)) st
def bX4_again_43 : Nat → Rf → Int32 → Int32 → Int32 → Int32 → Mem → Option (Int32 × Mem)
  | 0 => fun _ _ _ _ _ _ => none
  | n + 1 => bX4_again_43B (bX4_again_43 n)
def bX4_again_39 (v0 : Rf) (v1 : Int32) (v2 : Int32) (k0 : Int32) (st : Mem) : Option (Int32 × Mem) :=
  bX4_again_43 hcFuel v0 v1 v2 k0 (0 : Int32) st
def fX4_again (a0 : Rf) (a1 : Int32) (st : Mem) : Option (Int32 × Mem) :=
  (pI st a0 55 (0 : Int32)).bind fun st =>
  bd (fX4_isIn a1 (0 : Int32) (1 : Int32) st) fun x8 st =>
  if ¬ x8 = 0 then
    bd (iv st a0 [4] (fX4_night a0 (600 : Int32) st)) fun _ st =>
    (gJ st a0 71).bind fun x26 =>
    if x26 = (0 : Int64) then
      bX4_again_39 a0 a1 (0 : Int32) (0 : Int32) st
    else
      bX4_again_39 a0 a1 (0 : Int32) (1 : Int32) st
  else
    some ((-1 : Int32), st)
def bX4_anyway_33B (kk33 : Rf → Int32 → Int64 → Mem → Option (Int32 × Mem)) (v0 : Rf) (v1 : Int32) (v2 : Int64) (st : Mem) : Option (Int32 × Mem) :=
  (gI st v0 97).bind fun x34 =>
  if v1 < x34 then
    (gJ st v0 94).bind fun x50 =>
    bd (fX4_bits (v2 &&& x50) st) fun x54 st =>
    some (x54, st)
  else
    bd (iv st v0 [4] (fX4_moment v0 st)) fun _ st =>
    kk33 v0 v1 v2 st
def bX4_anyway_33 : Nat → Rf → Int32 → Int64 → Mem → Option (Int32 × Mem)
  | 0 => fun _ _ _ _ => none
  | n + 1 => bX4_anyway_33B (bX4_anyway_33 n)
def fX4_anyway (a0 : Rf) (a1 : Int32) (st : Mem) : Option (Int32 × Mem) :=
  (pI st a0 55 (0 : Int32)).bind fun st =>
  bd (fX4_isMoment a1 st) fun x6 st =>
  if ¬ x6 = 0 then
    bd (iv st a0 [4] (fX4_night a0 a1 st)) fun _ st =>
    (gJ st a0 94).bind fun x20 =>
    (gJ st a0 72).bind fun x27 =>
    bd (iv st a0 [4] (fX4_begin a0 (0 : Int64) x27 st)) fun _ st =>
    bX4_anyway_33 hcFuel a0 a1 x20 st
  else
    some ((-1 : Int32), st)
def bX4_arranges_77 (kk16 : Rf → Int32 → Int32 → Int32 → Mem → Option (Int32 × Mem)) (kk26 : Rf → Int32 → Int32 → Int32 → Int32 → Mem → Option (Int32 × Mem)) (v0 : Rf) (v1 : Int32) (v2 : Int32) (v3 : Int32) (v4 : Int32) (st : Mem) : Option (Int32 × Mem) :=
  kk26 v0 v1 v2 v3 (v4 + 1) st
def bX4_arranges_26B (kk16 : Rf → Int32 → Int32 → Int32 → Mem → Option (Int32 × Mem)) (kk26 : Rf → Int32 → Int32 → Int32 → Int32 → Mem → Option (Int32 × Mem)) (v0 : Rf) (v1 : Int32) (v2 : Int32) (v3 : Int32) (v4 : Int32) (st : Mem) : Option (Int32 × Mem) :=
  if v2 ≤ v4 then
    kk16 v0 v1 v2 (v3 + 1) st
  else
    bd (iv st v0 [4] (fX4_areUnlike v0 v3 v4 st)) fun x36 st =>
    if ¬ x36 = 0 then
      bd (iv st v0 [4] (fX4_change v0 v3 v4 st)) fun _ st =>
      (gJ st v0 71).bind fun x54 =>
      (gJ st v0 72).bind fun x58 =>
      bd (iv st v0 [4] (fX4_height v0 x54 x58 st)) fun x61 st =>
      if x61 ≤ v1 then
        bd (iv st v0 [4] (fX4_change v0 v3 v4 st)) fun _ st =>
        bX4_arranges_77 kk16 kk26 v0 v1 v2 v3 v4 st
      else
        some ((1 : Int32), st)
    else
      bX4_arranges_77 kk16 kk26 v0 v1 v2 v3 v4 st
def bX4_arranges_26 (kk16 : Rf → Int32 → Int32 → Int32 → Mem → Option (Int32 × Mem)) : Nat → Rf → Int32 → Int32 → Int32 → Int32 → Mem → Option (Int32 × Mem)
  | 0 => fun _ _ _ _ _ _ => none
  | n + 1 => bX4_arranges_26B kk16 (bX4_arranges_26 kk16 n)
def bX4_arranges_16B (kk16 : Rf → Int32 → Int32 → Int32 → Mem → Option (Int32 × Mem)) (v0 : Rf) (v1 : Int32) (v2 : Int32) (v3 : Int32) (st : Mem) : Option (Int32 × Mem) :=
  if v2 ≤ v3 then
    some ((0 : Int32), st)
  else
    bX4_arranges_26 kk16 hcFuel v0 v1 v2 v3 (v3 + (1 : Int32)) st
def bX4_arranges_16 : Nat → Rf → Int32 → Int32 → Int32 → Mem → Option (Int32 × Mem)
  | 0 => fun _ _ _ _ _ => none
  | n + 1 => bX4_arranges_16B (bX4_arranges_16 n)
def fX4_arranges (a0 : Rf) (a1 : Int32) (st : Mem) : Option (Int32 × Mem) :=
  (gA st a0 61).bind fun x1 =>
  (aI st x1 (0 : Int32)).bind fun x5 =>
  (gA st a0 61).bind fun x7 =>
  (aI st x7 (1 : Int32)).bind fun x11 =>
  bX4_arranges_16 hcFuel a0 a1 (x5 * x11) (0 : Int32) st
def fX4_at (a0 : Rf) (a1 : Int32) (a2 : Int32) (a3 : Int32) (st : Mem) : Option (Int32 × Mem) :=
  (pI st a0 55 (0 : Int32)).bind fun st =>
  bd (iv st a0 [4] (fX4_isSeat a0 a1 st)) fun x7 st =>
  if x7 = 0 then
    some ((-1 : Int32), st)
  else
    bd (fX4_isMoment a2 st) fun x14 st =>
    if x14 = 0 then
      some ((-1 : Int32), st)
    else
      bd (fX4_isIn a3 (0 : Int32) (1 : Int32) st) fun x23 st =>
      if ¬ x23 = 0 then
        bd (iv st a0 [4] (fX4_night a0 a2 st)) fun _ st =>
        if ¬ a3 = 0 then
          bd (iv st a0 [4] (fX4_heldOf a0 a1 st)) fun x50 st =>
          some (x50, st)
        else
          bd (iv st a0 [4] (fX4_levelOf a0 a1 st)) fun x42 st =>
          some (x42, st)
      else
        some ((-1 : Int32), st)
def bX4_began_287 (kk198 : Rf → Int32 → Int32 → Int32 → Int32 → Mem → Option (Int32 × Mem)) (kk208 : Rf → Int32 → Int32 → Int32 → Int32 → Int32 → Mem → Option (Int32 × Mem)) (v0 : Rf) (v1 : Int32) (v2 : Int32) (v9 : Int32) (v10 : Int32) (v11 : Int32) (st : Mem) : Option (Int32 × Mem) :=
  kk208 v0 v1 v2 v9 v10 (v11 + 1) st
def bX4_began_284 (kk198 : Rf → Int32 → Int32 → Int32 → Int32 → Mem → Option (Int32 × Mem)) (kk208 : Rf → Int32 → Int32 → Int32 → Int32 → Int32 → Mem → Option (Int32 × Mem)) (v0 : Rf) (v1 : Int32) (v2 : Int32) (v9 : Int32) (v10 : Int32) (v11 : Int32) (k0 : Rf) (k1 : Int32) (st : Mem) : Option (Int32 × Mem) :=
  (pI st k0 115 k1).bind fun st =>
  bX4_began_287 kk198 kk208 v0 v1 v2 v9 v10 v11 st
def bX4_began_208B (kk198 : Rf → Int32 → Int32 → Int32 → Int32 → Mem → Option (Int32 × Mem)) (kk208 : Rf → Int32 → Int32 → Int32 → Int32 → Int32 → Mem → Option (Int32 × Mem)) (v0 : Rf) (v1 : Int32) (v2 : Int32) (v9 : Int32) (v10 : Int32) (v11 : Int32) (st : Mem) : Option (Int32 × Mem) :=
  if v2 ≤ v11 then
    kk198 v0 v1 v2 v9 (v10 + 1) st
  else
    bd (iv st v0 [4] (fX4_isSeat v0 v10 st)) fun x217 st =>
    if x217 = 0 then
      bX4_began_287 kk198 kk208 v0 v1 v2 v9 v10 v11 st
    else
      bd (iv st v0 [4] (fX4_isSeat v0 v11 st)) fun x226 st =>
      if x226 = 0 then
        bX4_began_287 kk198 kk208 v0 v1 v2 v9 v10 v11 st
      else
        bd (iv st v0 [4] (fX4_isSketch v0 ((shlL (1 : Int64) v10) ||| (shlL (1 : Int64) v11)) v1 st)) fun x243 st =>
        if ¬ x243 = 0 then
          if (v9 + 1) ≤ (1 : Int32) then
            (pI st v0 114 v10).bind fun st =>
            if ¬ v10 = v11 then
              bX4_began_284 kk198 kk208 v0 v1 v2 (v9 + 1) v10 v11 v0 v11 st
            else
              bX4_began_284 kk198 kk208 v0 v1 v2 (v9 + 1) v10 v11 v0 (-1 : Int32) st
          else
            bX4_began_287 kk198 kk208 v0 v1 v2 (v9 + 1) v10 v11 st
        else
          bX4_began_287 kk198 kk208 v0 v1 v2 v9 v10 v11 st
def bX4_began_208 (kk198 : Rf → Int32 → Int32 → Int32 → Int32 → Mem → Option (Int32 × Mem)) : Nat → Rf → Int32 → Int32 → Int32 → Int32 → Int32 → Mem → Option (Int32 × Mem)
  | 0 => fun _ _ _ _ _ _ _ => none
  | n + 1 => bX4_began_208B kk198 (bX4_began_208 kk198 n)
def bX4_began_198B (kk198 : Rf → Int32 → Int32 → Int32 → Int32 → Mem → Option (Int32 × Mem)) (v0 : Rf) (v1 : Int32) (v2 : Int32) (v9 : Int32) (v10 : Int32) (st : Mem) : Option (Int32 × Mem) :=
  if v2 ≤ v10 then
    some (v9, st)
  else
    bX4_began_208 kk198 hcFuel v0 v1 v2 v9 v10 v10 st
def bX4_began_198 : Nat → Rf → Int32 → Int32 → Int32 → Int32 → Mem → Option (Int32 × Mem)
  | 0 => fun _ _ _ _ _ _ => none
  | n + 1 => bX4_began_198B (bX4_began_198 n)
def bX4_began_159 (kk68 : Rf → Int32 → Int32 → Int64 → Int64 → Int64 → Int32 → Mem → Option (Int32 × Mem)) (v0 : Rf) (v1 : Int32) (v2 : Int32) (v3 : Int64) (v5 : Int64) (v7 : Int64) (v9 : Int32) (st : Mem) : Option (Int32 × Mem) :=
  kk68 v0 v1 v2 v3 v5 v7 (v9 + 1) st
def bX4_began_156 (kk68 : Rf → Int32 → Int32 → Int64 → Int64 → Int64 → Int32 → Mem → Option (Int32 × Mem)) (v0 : Rf) (v1 : Int32) (v2 : Int32) (v3 : Int64) (v7 : Int64) (v9 : Int32) (k0 : Int64) (k1 : Int64) (st : Mem) : Option (Int32 × Mem) :=
  bX4_began_159 kk68 v0 v1 v2 v3 (k0 ||| k1) v7 v9 st
def bX4_began_138 (kk68 : Rf → Int32 → Int32 → Int64 → Int64 → Int64 → Int32 → Mem → Option (Int32 × Mem)) (v0 : Rf) (v1 : Int32) (v2 : Int32) (v5 : Int64) (v7 : Int64) (v9 : Int32) (v10 : Int32) (k0 : Int64) (k1 : Int64) (st : Mem) : Option (Int32 × Mem) :=
  if v10 ≤ (1 : Int32) then
    bX4_began_156 kk68 v0 v1 v2 (k0 ||| k1) v7 v9 v5 (0 : Int64) st
  else
    bX4_began_156 kk68 v0 v1 v2 (k0 ||| k1) v7 v9 v5 (shlL (1 : Int64) v9) st
def bX4_began_68B (kk68 : Rf → Int32 → Int32 → Int64 → Int64 → Int64 → Int32 → Mem → Option (Int32 × Mem)) (v0 : Rf) (v1 : Int32) (v2 : Int32) (v3 : Int64) (v5 : Int64) (v7 : Int64) (v9 : Int32) (st : Mem) : Option (Int32 × Mem) :=
  (gI st v0 58).bind fun x71 =>
  if x71 ≤ v9 then
    (pJ st v0 111 v3).bind fun st =>
    (pJ st v0 112 v5).bind fun st =>
    (pJ st v0 113 v7).bind fun st =>
    (pI st v0 114 (-1 : Int32)).bind fun st =>
    (pI st v0 115 (-1 : Int32)).bind fun st =>
    bX4_began_198 hcFuel v0 v1 v2 (0 : Int32) (0 : Int32) st
  else
    bd (iv st v0 [4] (fX4_octet v0 v9 st)) fun x80 st =>
    if x80 ≤ (3 : Int32) then
      if x80 = (3 : Int32) then
        bX4_began_159 kk68 v0 v1 v2 v3 v5 v7 v9 st
      else
        (gA st v0 61).bind fun x100 =>
        (aI st x100 ((6 : Int32) + v9)).bind fun x108 =>
        if ¬ x108 = 0 then
          (some (v7 ||| (shlL (1 : Int64) v9))).bind fun y122 =>
          if x80 ≤ 0 then
            bX4_began_138 kk68 v0 v1 v2 v5 y122 v9 x80 v3 (0 : Int64) st
          else
            bX4_began_138 kk68 v0 v1 v2 v5 y122 v9 x80 v3 (shlL (1 : Int64) v9) st
        else
          bX4_began_159 kk68 v0 v1 v2 v3 v5 v7 v9 st
    else
      some ((-1 : Int32), st)
def bX4_began_68 : Nat → Rf → Int32 → Int32 → Int64 → Int64 → Int64 → Int32 → Mem → Option (Int32 × Mem)
  | 0 => fun _ _ _ _ _ _ _ _ => none
  | n + 1 => bX4_began_68B (bX4_began_68 n)
def fX4_began (a0 : Rf) (a1 : Int32) (st : Mem) : Option (Int32 × Mem) :=
  (pI st a0 55 (0 : Int32)).bind fun st =>
  bd (iv st a0 [4] (fX4_taken a0 (940 : Int32) st)) fun _ st =>
  (gA st a0 61).bind fun x13 =>
  (aI st x13 (0 : Int32)).bind fun x17 =>
  (gA st a0 61).bind fun x19 =>
  (aI st x19 (1 : Int32)).bind fun x23 =>
  (gI st a0 58).bind fun x27 =>
  if ¬ x27 = (x17 * x23) then
    some ((-1 : Int32), st)
  else
    bd (fX4_isIn a1 (0 : Int32) (60 : Int32) st) fun x38 st =>
    if x38 = 0 then
      some ((-1 : Int32), st)
    else
      (gA st a0 61).bind fun x45 =>
      (aI st x45 (2 : Int32)).bind fun x49 =>
      if x49 ≤ (24 : Int32) then
        bX4_began_68 hcFuel a0 a1 (x17 * x23) (0 : Int64) (0 : Int64) (0 : Int64) (0 : Int32) st
      else
        some ((-1 : Int32), st)
def bX4_calls_56 (kk23 : Rf → Int32 → Int32 → Int32 → Mem → Option (Int32 × Mem)) (v0 : Rf) (v1 : Int32) (v3 : Int32) (k0 : Int32) (k1 : Int32) (st : Mem) : Option (Int32 × Mem) :=
  kk23 v0 v1 (k0 + k1) (v3 + 1) st
def bX4_calls_55 (kk23 : Rf → Int32 → Int32 → Int32 → Mem → Option (Int32 × Mem)) (v0 : Rf) (v1 : Int32) (v3 : Int32) (k0 : Int32) (st : Mem) : Option (Int32 × Mem) :=
  bX4_calls_56 kk23 v0 v1 v3 k0 (0 : Int32) st
def bX4_calls_51 (kk23 : Rf → Int32 → Int32 → Int32 → Mem → Option (Int32 × Mem)) (v0 : Rf) (v1 : Int32) (v3 : Int32) (k0 : Int32) (st : Mem) : Option (Int32 × Mem) :=
  bX4_calls_56 kk23 v0 v1 v3 k0 (1 : Int32) st
def bX4_calls_23B (kk23 : Rf → Int32 → Int32 → Int32 → Mem → Option (Int32 × Mem)) (v0 : Rf) (v1 : Int32) (v2 : Int32) (v3 : Int32) (st : Mem) : Option (Int32 × Mem) :=
  if v1 < v3 then
    some (v2, st)
  else
    bd (iv st v0 [4] (fX4_isUp v0 v3 st)) fun x31 st =>
    if x31 = 0 then
      bX4_calls_55 kk23 v0 v1 v3 v2 st
    else
      if v3 = 0 then
        bX4_calls_51 kk23 v0 v1 v3 v2 st
      else
        bd (iv st v0 [4] (fX4_isUp v0 (v3 - (1 : Int32)) st)) fun x45 st =>
        if ¬ x45 = 0 then
          bX4_calls_55 kk23 v0 v1 v3 v2 st
        else
          bX4_calls_51 kk23 v0 v1 v3 v2 st
def bX4_calls_23 : Nat → Rf → Int32 → Int32 → Int32 → Mem → Option (Int32 × Mem)
  | 0 => fun _ _ _ _ _ => none
  | n + 1 => bX4_calls_23B (bX4_calls_23 n)
def fX4_calls (a0 : Rf) (a1 : Int32) (st : Mem) : Option (Int32 × Mem) :=
  (pI st a0 55 (0 : Int32)).bind fun st =>
  bd (fX4_isMoment a1 st) fun x6 st =>
  if ¬ x6 = 0 then
    bd (iv st a0 [4] (fX4_night a0 a1 st)) fun _ st =>
    bX4_calls_23 hcFuel a0 a1 (0 : Int32) (0 : Int32) st
  else
    some ((-1 : Int32), st)
def fX4_carries (a0 : Rf) (a1 : Int32) (st : Mem) : Option (Int32 × Mem) :=
  (pI st a0 55 (0 : Int32)).bind fun st =>
  bd (fX4_isIn a1 (0 : Int32) (1 : Int32) st) fun x8 st =>
  if ¬ x8 = 0 then
    (gJ st a0 71).bind fun x18 =>
    (gJ st a0 72).bind fun x22 =>
    bd (iv st a0 [4] (fX4_height a0 x18 x22 st)) fun x25 st =>
    if ¬ a1 = (1 : Int32) then
      (gI st a0 100).bind fun x42 =>
      if x42 = 0 then
        some ((0 : Int32), st)
      else
        some ((1 : Int32), st)
    else
      (gI st a0 99).bind fun x35 =>
      some (x35, st)
  else
    some ((-1 : Int32), st)
def bX4_cheapest_145 (kk23 : Rf → Int32 → Int32 → Int32 → Mem → Option (Int32 × Mem)) (v0 : Rf) (v1 : Int32) (v2 : Int32) (v3 : Int32) (st : Mem) : Option (Int32 × Mem) :=
  kk23 v0 v1 v2 (v3 + 1) st
def bX4_cheapest_111 (kk23 : Rf → Int32 → Int32 → Int32 → Mem → Option (Int32 × Mem)) (v0 : Rf) (v1 : Int32) (v2 : Int32) (v3 : Int32) (v4 : Int32) (st : Mem) : Option (Int32 × Mem) :=
  (gJ st v0 71).bind fun x113 =>
  bd (iv st v0 [4] (fX4_bitsOf v0 v3 st)) fun x118 st =>
  (gJ st v0 72).bind fun x123 =>
  bd (iv st v0 [4] (fX4_height v0 (x113 ||| x118) x123 st)) fun x126 st =>
  (gI st v0 100).bind fun x131 =>
  if ¬ x131 = 0 then
    bX4_cheapest_145 kk23 v0 v3 v4 v3 st
  else
    bX4_cheapest_145 kk23 v0 v1 v2 v3 st
def bX4_cheapest_74 (kk23 : Rf → Int32 → Int32 → Int32 → Mem → Option (Int32 × Mem)) (kk39 : Rf → Int32 → Int32 → Int32 → Int32 → Int32 → Mem → Option (Int32 × Mem)) (v0 : Rf) (v1 : Int32) (v2 : Int32) (v3 : Int32) (v5 : Int32) (k0 : Int32) (k1 : Int32) (st : Mem) : Option (Int32 × Mem) :=
  kk39 v0 v1 v2 v3 (k0 + k1) (v5 + 1) st
def bX4_cheapest_39B (kk23 : Rf → Int32 → Int32 → Int32 → Mem → Option (Int32 × Mem)) (kk39 : Rf → Int32 → Int32 → Int32 → Int32 → Int32 → Mem → Option (Int32 × Mem)) (v0 : Rf) (v1 : Int32) (v2 : Int32) (v3 : Int32) (v4 : Int32) (v5 : Int32) (st : Mem) : Option (Int32 × Mem) :=
  (gI st v0 102).bind fun x42 =>
  if x42 ≤ v5 then
    if v2 < v4 then
      bX4_cheapest_145 kk23 v0 v1 v2 v3 st
    else
      if ¬ v4 = v2 then
        bX4_cheapest_111 kk23 v0 v1 v2 v3 v4 st
      else
        bd (fX4_bits (Int32.toInt64 v3) st) fun x97 st =>
        bd (fX4_bits (Int32.toInt64 v1) st) fun x102 st =>
        if x97 < x102 then
          bX4_cheapest_111 kk23 v0 v1 v2 v3 v4 st
        else
          bX4_cheapest_145 kk23 v0 v1 v2 v3 st
  else
    bd (fX4_has v3 v5 st) fun x53 st =>
    if x53 = 0 then
      bX4_cheapest_74 kk23 kk39 v0 v1 v2 v3 v5 v4 (0 : Int32) st
    else
      (gA st v0 101).bind fun x61 =>
      (aI st x61 v5).bind fun x66 =>
      bd (iv st v0 [4] (fX4_price v0 x66 st)) fun x67 st =>
      bX4_cheapest_74 kk23 kk39 v0 v1 v2 v3 v5 v4 x67 st
def bX4_cheapest_39 (kk23 : Rf → Int32 → Int32 → Int32 → Mem → Option (Int32 × Mem)) : Nat → Rf → Int32 → Int32 → Int32 → Int32 → Int32 → Mem → Option (Int32 × Mem)
  | 0 => fun _ _ _ _ _ _ _ => none
  | n + 1 => bX4_cheapest_39B kk23 (bX4_cheapest_39 kk23 n)
def bX4_cheapest_23B (kk23 : Rf → Int32 → Int32 → Int32 → Mem → Option (Int32 × Mem)) (v0 : Rf) (v1 : Int32) (v2 : Int32) (v3 : Int32) (st : Mem) : Option (Int32 × Mem) :=
  (gI st v0 102).bind fun x26 =>
  if (shlI (1 : Int32) x26) ≤ v3 then
    if 0 ≤ v1 then
      (pI st v0 103 v1).bind fun st =>
      some (v2, st)
    else
      some ((-1 : Int32), st)
  else
    bX4_cheapest_39 kk23 hcFuel v0 v1 v2 v3 (0 : Int32) (0 : Int32) st
def bX4_cheapest_23 : Nat → Rf → Int32 → Int32 → Int32 → Mem → Option (Int32 × Mem)
  | 0 => fun _ _ _ _ _ => none
  | n + 1 => bX4_cheapest_23B (bX4_cheapest_23 n)
def fX4_cheapest (a0 : Rf) (st : Mem) : Option (Int32 × Mem) :=
  (pI st a0 55 (0 : Int32)).bind fun st =>
  bd (iv st a0 [4] (fX4_areEight a0 st)) fun x6 st =>
  if ¬ x6 = 0 then
    bX4_cheapest_23 hcFuel a0 (-1 : Int32) (1000000000 : Int32) (0 : Int32) st
  else
    some ((-2 : Int32), st)
def bX4_coalitions_135 (kk26 : Rf → Int32 → Int32 → Int32 → Mem → Option (Int32 × Mem)) (v0 : Rf) (v1 : Int32) (v2 : Int32) (v3 : Int32) (st : Mem) : Option (Int32 × Mem) :=
  kk26 v0 v1 v2 (v3 + 1) st
def bX4_coalitions_117 (kk26 : Rf → Int32 → Int32 → Int32 → Mem → Option (Int32 × Mem)) (v0 : Rf) (v1 : Int32) (v2 : Int32) (v3 : Int32) (v4 : Int32) (st : Mem) : Option (Int32 × Mem) :=
  if ¬ v4 = 0 then
    if ¬ v2 = v1 then
      bX4_coalitions_135 kk26 v0 v1 (v2 + 1) v3 st
    else
      some (v3, st)
  else
    bX4_coalitions_135 kk26 v0 v1 v2 v3 st
def bX4_coalitions_109 (kk26 : Rf → Int32 → Int32 → Int32 → Mem → Option (Int32 × Mem)) (kk74 : Rf → Int32 → Int32 → Int32 → Int32 → Int32 → Mem → Option (Int32 × Mem)) (v0 : Rf) (v1 : Int32) (v2 : Int32) (v3 : Int32) (v5 : Int32) (k0 : Int32) (st : Mem) : Option (Int32 × Mem) :=
  kk74 v0 v1 v2 v3 k0 (v5 + 1) st
def bX4_coalitions_104 (kk26 : Rf → Int32 → Int32 → Int32 → Mem → Option (Int32 × Mem)) (kk74 : Rf → Int32 → Int32 → Int32 → Int32 → Int32 → Mem → Option (Int32 × Mem)) (v0 : Rf) (v1 : Int32) (v2 : Int32) (v3 : Int32) (v5 : Int32) (st : Mem) : Option (Int32 × Mem) :=
  bX4_coalitions_109 kk26 kk74 v0 v1 v2 v3 v5 (1 : Int32) st
def bX4_coalitions_74B (kk26 : Rf → Int32 → Int32 → Int32 → Mem → Option (Int32 × Mem)) (kk74 : Rf → Int32 → Int32 → Int32 → Int32 → Int32 → Mem → Option (Int32 × Mem)) (v0 : Rf) (v1 : Int32) (v2 : Int32) (v3 : Int32) (v4 : Int32) (v5 : Int32) (st : Mem) : Option (Int32 × Mem) :=
  if v3 ≤ v5 then
    bX4_coalitions_117 kk26 v0 v1 v2 v3 v4 st
  else
    if v4 = 0 then
      bX4_coalitions_117 kk26 v0 v1 v2 v3 v4 st
    else
      if ¬ (v5 &&& v3) = v5 then
        bX4_coalitions_104 kk26 kk74 v0 v1 v2 v3 v5 st
      else
        (gA st v0 104).bind fun x95 =>
        (aB st x95 v5).bind fun x100 =>
        if ¬ x100 = 0 then
          bX4_coalitions_109 kk26 kk74 v0 v1 v2 v3 v5 (0 : Int32) st
        else
          bX4_coalitions_104 kk26 kk74 v0 v1 v2 v3 v5 st
def bX4_coalitions_74 (kk26 : Rf → Int32 → Int32 → Int32 → Mem → Option (Int32 × Mem)) : Nat → Rf → Int32 → Int32 → Int32 → Int32 → Int32 → Mem → Option (Int32 × Mem)
  | 0 => fun _ _ _ _ _ _ _ => none
  | n + 1 => bX4_coalitions_74B kk26 (bX4_coalitions_74 kk26 n)
def bX4_coalitions_26B (kk26 : Rf → Int32 → Int32 → Int32 → Mem → Option (Int32 × Mem)) (v0 : Rf) (v1 : Int32) (v2 : Int32) (v3 : Int32) (st : Mem) : Option (Int32 × Mem) :=
  (gI st v0 102).bind fun x29 =>
  if (shlI (1 : Int32) x29) ≤ v3 then
    if ¬ v1 = (-1 : Int32) then
      some ((-1 : Int32), st)
    else
      some (v2, st)
  else
    (gJ st v0 71).bind fun x38 =>
    bd (iv st v0 [4] (fX4_bitsOf v0 v3 st)) fun x43 st =>
    (gJ st v0 72).bind fun x48 =>
    bd (iv st v0 [4] (fX4_height v0 (x38 ||| x43) x48 st)) fun x51 st =>
    (gA st v0 104).bind fun x56 =>
    (gI st v0 100).bind fun x61 =>
    (uB st x56 v3 x61).bind fun st =>
    (gI st v0 100).bind fun x66 =>
    bX4_coalitions_74 kk26 hcFuel v0 v1 v2 v3 x66 (0 : Int32) st
def bX4_coalitions_26 : Nat → Rf → Int32 → Int32 → Int32 → Mem → Option (Int32 × Mem)
  | 0 => fun _ _ _ _ _ => none
  | n + 1 => bX4_coalitions_26B (bX4_coalitions_26 n)
def fX4_coalitions (a0 : Rf) (a1 : Int32) (st : Mem) : Option (Int32 × Mem) :=
  (pI st a0 55 (0 : Int32)).bind fun st =>
  bd (iv st a0 [4] (fX4_areEight a0 st)) fun x6 st =>
  if ¬ x6 = 0 then
    if (-1 : Int32) ≤ a1 then
      bX4_coalitions_26 hcFuel a0 a1 (0 : Int32) (0 : Int32) st
    else
      some ((-1 : Int32), st)
  else
    some ((-2 : Int32), st)
def bX4_exchanged_121 (kk56 : Rf → Int32 → Int32 → Mem → Option (Int32 × Mem)) (kk65 : Rf → Int32 → Int32 → Int32 → Mem → Option (Int32 × Mem)) (v0 : Rf) (v1 : Int32) (v2 : Int32) (v3 : Int32) (st : Mem) : Option (Int32 × Mem) :=
  kk65 v0 v1 v2 (v3 + 1) st
def bX4_exchanged_65B (kk56 : Rf → Int32 → Int32 → Mem → Option (Int32 × Mem)) (kk65 : Rf → Int32 → Int32 → Int32 → Mem → Option (Int32 × Mem)) (v0 : Rf) (v1 : Int32) (v2 : Int32) (v3 : Int32) (st : Mem) : Option (Int32 × Mem) :=
  if v1 ≤ v3 then
    kk56 v0 v1 (v2 + 1) st
  else
    bd (iv st v0 [4] (fX4_areUnlike v0 v2 v3 st)) fun x73 st =>
    if ¬ x73 = 0 then
      bd (iv st v0 [4] (fX4_change v0 v2 v3 st)) fun _ st =>
      (gJ st v0 71).bind fun x90 =>
      (gJ st v0 72).bind fun x94 =>
      bd (iv st v0 [4] (fX4_height v0 x90 x94 st)) fun x97 st =>
      bd (iv st v0 [4] (fX4_change v0 v2 v3 st)) fun _ st =>
      (gI st v0 100).bind fun x108 =>
      if x108 = 0 then
        bX4_exchanged_121 kk56 kk65 v0 v1 v2 v3 st
      else
        some ((((100 : Int32) * v2) + v3), st)
    else
      bX4_exchanged_121 kk56 kk65 v0 v1 v2 v3 st
def bX4_exchanged_65 (kk56 : Rf → Int32 → Int32 → Mem → Option (Int32 × Mem)) : Nat → Rf → Int32 → Int32 → Int32 → Mem → Option (Int32 × Mem)
  | 0 => fun _ _ _ _ _ => none
  | n + 1 => bX4_exchanged_65B kk56 (bX4_exchanged_65 kk56 n)
def bX4_exchanged_56B (kk56 : Rf → Int32 → Int32 → Mem → Option (Int32 × Mem)) (v0 : Rf) (v1 : Int32) (v2 : Int32) (st : Mem) : Option (Int32 × Mem) :=
  if v1 ≤ v2 then
    some ((-1 : Int32), st)
  else
    bX4_exchanged_65 kk56 hcFuel v0 v1 v2 (v2 + (1 : Int32)) st
def bX4_exchanged_56 : Nat → Rf → Int32 → Int32 → Mem → Option (Int32 × Mem)
  | 0 => fun _ _ _ _ => none
  | n + 1 => bX4_exchanged_56B (bX4_exchanged_56 n)
def fX4_exchanged (a0 : Rf) (st : Mem) : Option (Int32 × Mem) :=
  (pI st a0 55 (0 : Int32)).bind fun st =>
  (gA st a0 61).bind fun x6 =>
  (aI st x6 (2 : Int32)).bind fun x10 =>
  if x10 ≤ (24 : Int32) then
    (gJ st a0 71).bind fun x20 =>
    (gJ st a0 72).bind fun x24 =>
    bd (iv st a0 [4] (fX4_height a0 x20 x24 st)) fun x27 st =>
    (gI st a0 100).bind fun x32 =>
    if x32 = 0 then
      (gA st a0 61).bind fun x41 =>
      (aI st x41 (0 : Int32)).bind fun x45 =>
      (gA st a0 61).bind fun x47 =>
      (aI st x47 (1 : Int32)).bind fun x51 =>
      bX4_exchanged_56 hcFuel a0 (x45 * x51) (0 : Int32) st
    else
      some ((-1 : Int32), st)
  else
    some ((-1 : Int32), st)
def bX4_hush_77 (kk19 : Rf → Int32 → Int32 → Mem → Option (Int32 × Mem)) (v0 : Rf) (v1 : Int32) (v2 : Int32) (st : Mem) : Option (Int32 × Mem) :=
  kk19 v0 v1 (v2 + 1) st
def bX4_hush_49 (kk19 : Rf → Int32 → Int32 → Mem → Option (Int32 × Mem)) (v0 : Rf) (v1 : Int32) (v2 : Int32) (st : Mem) : Option (Int32 × Mem) :=
  (gJ st v0 71).bind fun x51 =>
  (gJ st v0 72).bind fun x55 =>
  bd (iv st v0 [4] (fX4_bitsOf v0 v2 st)) fun x60 st =>
  bd (iv st v0 [4] (fX4_height v0 x51 (x55 ||| x60) st)) fun x64 st =>
  (gI st v0 100).bind fun x69 =>
  if ¬ x69 = 0 then
    bX4_hush_77 kk19 v0 v1 v2 st
  else
    bX4_hush_77 kk19 v0 v2 v2 st
def bX4_hush_19B (kk19 : Rf → Int32 → Int32 → Mem → Option (Int32 × Mem)) (v0 : Rf) (v1 : Int32) (v2 : Int32) (st : Mem) : Option (Int32 × Mem) :=
  (gI st v0 102).bind fun x22 =>
  if (shlI (1 : Int32) x22) ≤ v2 then
    some (v1, st)
  else
    if v1 < 0 then
      bX4_hush_49 kk19 v0 v1 v2 st
    else
      bd (fX4_bits (Int32.toInt64 v2) st) fun x35 st =>
      bd (fX4_bits (Int32.toInt64 v1) st) fun x40 st =>
      if x35 < x40 then
        bX4_hush_49 kk19 v0 v1 v2 st
      else
        bX4_hush_77 kk19 v0 v1 v2 st
def bX4_hush_19 : Nat → Rf → Int32 → Int32 → Mem → Option (Int32 × Mem)
  | 0 => fun _ _ _ _ => none
  | n + 1 => bX4_hush_19B (bX4_hush_19 n)
def fX4_hush (a0 : Rf) (st : Mem) : Option (Int32 × Mem) :=
  (pI st a0 55 (0 : Int32)).bind fun st =>
  bd (iv st a0 [4] (fX4_areEight a0 st)) fun x6 st =>
  if ¬ x6 = 0 then
    bX4_hush_19 hcFuel a0 (-1 : Int32) (0 : Int32) st
  else
    some ((-2 : Int32), st)
def bX4_leader_102 (kk23 : Rf → Int32 → Int32 → Int32 → Int32 → Mem → Option (Int32 × Mem)) (v0 : Rf) (v1 : Int32) (v2 : Int32) (v3 : Int32) (v4 : Int32) (st : Mem) : Option (Int32 × Mem) :=
  kk23 v0 v1 v2 v3 (v4 + 1) st
def bX4_leader_96 (kk23 : Rf → Int32 → Int32 → Int32 → Int32 → Mem → Option (Int32 × Mem)) (v0 : Rf) (v1 : Int32) (v4 : Int32) (v5 : Int32) (st : Mem) : Option (Int32 × Mem) :=
  bX4_leader_102 kk23 v0 v1 v4 v5 v4 st
def bX4_leader_23B (kk23 : Rf → Int32 → Int32 → Int32 → Int32 → Mem → Option (Int32 × Mem)) (v0 : Rf) (v1 : Int32) (v2 : Int32) (v3 : Int32) (v4 : Int32) (st : Mem) : Option (Int32 × Mem) :=
  (gA st v0 61).bind fun x26 =>
  (aI st x26 (0 : Int32)).bind fun x30 =>
  (gA st v0 61).bind fun x32 =>
  (aI st x32 (1 : Int32)).bind fun x36 =>
  if (x30 * x36) ≤ v4 then
    if ¬ v1 = 0 then
      some (v3, st)
    else
      some (v2, st)
  else
    bd (iv st v0 [4] (fX4_isSeat v0 v4 st)) fun x44 st =>
    if ¬ x44 = 0 then
      (gJ st v0 72).bind fun x59 =>
      bd (iv st v0 [4] (fX4_height v0 (shlL (1 : Int64) v4) x59 st)) fun x62 st =>
      if x62 < v3 then
        bX4_leader_102 kk23 v0 v1 v2 v3 v4 st
      else
        if ¬ x62 = v3 then
          bX4_leader_96 kk23 v0 v1 v4 x62 st
        else
          bd (iv st v0 [4] (fX4_price v0 v4 st)) fun x82 st =>
          bd (iv st v0 [4] (fX4_price v0 v2 st)) fun x87 st =>
          if x82 < x87 then
            bX4_leader_96 kk23 v0 v1 v4 x62 st
          else
            bX4_leader_102 kk23 v0 v1 v2 v3 v4 st
    else
      bX4_leader_102 kk23 v0 v1 v2 v3 v4 st
def bX4_leader_23 : Nat → Rf → Int32 → Int32 → Int32 → Int32 → Mem → Option (Int32 × Mem)
  | 0 => fun _ _ _ _ _ _ => none
  | n + 1 => bX4_leader_23B (bX4_leader_23 n)
def fX4_leader (a0 : Rf) (a1 : Int32) (st : Mem) : Option (Int32 × Mem) :=
  (pI st a0 55 (0 : Int32)).bind fun st =>
  bd (fX4_isIn a1 (0 : Int32) (1 : Int32) st) fun x8 st =>
  if ¬ x8 = 0 then
    bX4_leader_23 hcFuel a0 a1 (-1 : Int32) (-1 : Int32) (0 : Int32) st
  else
    some ((-1 : Int32), st)
def bX4_many_57 (k0 : Int64) (st : Mem) : Option (Int32 × Mem) :=
  bd (fX4_bits k0 st) fun x57 st =>
  some (x57, st)
def fX4_many (a0 : Rf) (a1 : Int32) (a2 : Int32) (st : Mem) : Option (Int32 × Mem) :=
  (pI st a0 55 (0 : Int32)).bind fun st =>
  bd (fX4_isMoment a1 st) fun x6 st =>
  if x6 = 0 then
    some ((-1 : Int32), st)
  else
    bd (fX4_isIn a2 (0 : Int32) (2 : Int32) st) fun x15 st =>
    if ¬ x15 = 0 then
      bd (iv st a0 [4] (fX4_night a0 a1 st)) fun _ st =>
      if ¬ a2 = 0 then
        if ¬ a2 = (1 : Int32) then
          (gJ st a0 94).bind fun x54 =>
          bX4_many_57 x54 st
        else
          (gJ st a0 93).bind fun x47 =>
          bX4_many_57 x47 st
      else
        (gA st a0 61).bind fun x33 =>
        (aI st x33 (2 : Int32)).bind fun x37 =>
        some (x37, st)
    else
      some ((-1 : Int32), st)
def bX4_parts_87B (kk87 : Rf → Int32 → Mem → Option (Int32 × Mem)) (v0 : Rf) (v3 : Int32) (st : Mem) : Option (Int32 × Mem) :=
  if (60 : Int32) < v3 then
    some ((-1 : Int32), st)
  else
    (gA st v0 87).bind fun x94 =>
    (aJ st x94 v3).bind fun x98 =>
    (gA st v0 116).bind fun x100 =>
    (aJ st x100 v3).bind fun x104 =>
    if ¬ x98 = x104 then
      some (v3, st)
    else
      (gA st v0 88).bind fun x110 =>
      (aJ st x110 v3).bind fun x114 =>
      (gA st v0 117).bind fun x116 =>
      (aJ st x116 v3).bind fun x120 =>
      if x114 = x120 then
        kk87 v0 (v3 + 1) st
      else
        some (v3, st)
def bX4_parts_87 : Nat → Rf → Int32 → Mem → Option (Int32 × Mem)
  | 0 => fun _ _ _ => none
  | n + 1 => bX4_parts_87B (bX4_parts_87 n)
def bX4_parts_37B (kk37 : Rf → Int32 → Int32 → Mem → Option (Int32 × Mem)) (v0 : Rf) (v2 : Int32) (v3 : Int32) (st : Mem) : Option (Int32 × Mem) :=
  if (60 : Int32) < v3 then
    (gJ st v0 72).bind fun x78 =>
    bd (iv st v0 [4] (fX4_height v0 (shlL (1 : Int64) v2) x78 st)) fun x81 st =>
    bX4_parts_87 hcFuel v0 (0 : Int32) st
  else
    (gA st v0 116).bind fun x44 =>
    (gA st v0 87).bind fun x49 =>
    (aJ st x49 v3).bind fun x53 =>
    (uJ st x44 v3 x53).bind fun st =>
    (gA st v0 117).bind fun x56 =>
    (gA st v0 88).bind fun x61 =>
    (aJ st x61 v3).bind fun x65 =>
    (uJ st x56 v3 x65).bind fun st =>
    kk37 v0 v2 (v3 + 1) st
def bX4_parts_37 : Nat → Rf → Int32 → Int32 → Mem → Option (Int32 × Mem)
  | 0 => fun _ _ _ _ => none
  | n + 1 => bX4_parts_37B (bX4_parts_37 n)
def fX4_parts (a0 : Rf) (a1 : Int32) (a2 : Int32) (st : Mem) : Option (Int32 × Mem) :=
  (pI st a0 55 (0 : Int32)).bind fun st =>
  bd (iv st a0 [4] (fX4_isSeat a0 a1 st)) fun x7 st =>
  if x7 = 0 then
    some ((-1 : Int32), st)
  else
    bd (iv st a0 [4] (fX4_isSeat a0 a2 st)) fun x15 st =>
    if ¬ x15 = 0 then
      (gJ st a0 72).bind fun x28 =>
      bd (iv st a0 [4] (fX4_height a0 (shlL (1 : Int64) a1) x28 st)) fun x31 st =>
      bX4_parts_37 hcFuel a0 a2 (0 : Int32) st
    else
      some ((-1 : Int32), st)
def bX4_readLaw_41 (v0 : Rf) (st : Mem) : Option (Int32 × Mem) :=
  bd (iv st v0 [4] (fX4_bad v0 (2 : Int32) st)) fun x43 st =>
  some ((nz x43), st)
def bX4_readLaw_133B (kk133 : Rf → Int32 → Int32 → Mem → Option (Int32 × Mem)) (v0 : Rf) (v2 : Int32) (v3 : Int32) (st : Mem) : Option (Int32 × Mem) :=
  (gI st v0 81).bind fun x135 =>
  if x135 ≤ v3 then
    some ((1 : Int32), st)
  else
    (gA st v0 62).bind fun x142 =>
    (gA st v0 78).bind fun x151 =>
    (aI st x151 v3).bind fun x155 =>
    (uI st x142 ((v2 + (2 : Int32)) + v3) x155).bind fun st =>
    kk133 v0 v2 (v3 + 1) st
def bX4_readLaw_133 : Nat → Rf → Int32 → Int32 → Mem → Option (Int32 × Mem)
  | 0 => fun _ _ _ _ => none
  | n + 1 => bX4_readLaw_133B (bX4_readLaw_133 n)
def fX4_readLaw (a0 : Rf) (a1 : Int32) (st : Mem) : Option (Int32 × Mem) :=
  bd (iv st a0 [4] (fX4_next a0 st)) fun _ st =>
  (gI st a0 64).bind fun x5 =>
  if x5 = (1 : Int32) then
    (gI st a0 66).bind fun x19 =>
    if ¬ x19 = (1 : Int32) then
      bX4_readLaw_41 a0 st
    else
      (gJ st a0 70).bind fun x27 =>
      bd (fX4_isIn (Int64.toInt32 x27) (97 : Int32) (102 : Int32) st) fun x35 st =>
      if ¬ x35 = 0 then
        (gJ st a0 70).bind fun x53 =>
        (some ((86 : Int32) + ((42 : Int32) * (((2 : Int32) * ((Int64.toInt32 x53) - (97 : Int32))) + a1)))).bind fun y65 =>
        (gA st a0 62).bind fun x67 =>
        (aI st x67 y65).bind fun x71 =>
        if x71 ≤ 0 then
          bd (iv st a0 [4] (fX4_next a0 st)) fun _ st =>
          (pI st a0 81 (0 : Int32)).bind fun st =>
          (pI st a0 82 (0 : Int32)).bind fun st =>
          (pI st a0 83 (0 : Int32)).bind fun st =>
          bd (iv st a0 [4] (fX4_cond a0 st)) fun x101 st =>
          if ¬ x101 = 0 then
            (gA st a0 62).bind fun x110 =>
            (gI st a0 83).bind fun x115 =>
            (uI st x110 y65 x115).bind fun st =>
            (gA st a0 62).bind fun x120 =>
            (gI st a0 81).bind fun x127 =>
            (uI st x120 (y65 + (1 : Int32)) x127).bind fun st =>
            bX4_readLaw_133 hcFuel a0 y65 (0 : Int32) st
          else
            some ((0 : Int32), st)
        else
          bd (iv st a0 [4] (fX4_bad a0 (3 : Int32) st)) fun x77 st =>
          some ((nz x77), st)
      else
        bX4_readLaw_41 a0 st
  else
    bd (iv st a0 [4] (fX4_bad a0 (1 : Int32) st)) fun x14 st =>
    some ((nz x14), st)
def bX4_sees_74 (k0 : Int64) (k1 : Int64) (st : Mem) : Option (Int32 × Mem) :=
  bd (fX4_bits (k0 &&& k1) st) fun x75 st =>
  some (x75, st)
def fX4_sees (a0 : Rf) (a1 : Int32) (a2 : Int32) (a3 : Int32) (a4 : Int32) (st : Mem) : Option (Int32 × Mem) :=
  (pI st a0 55 (0 : Int32)).bind fun st =>
  bd (iv st a0 [4] (fX4_isSeat a0 a1 st)) fun x7 st =>
  if x7 = 0 then
    some ((-1 : Int32), st)
  else
    bd (fX4_isMoment a2 st) fun x14 st =>
    if x14 = 0 then
      some ((-1 : Int32), st)
    else
      bd (fX4_isIn a3 (0 : Int32) (5 : Int32) st) fun x23 st =>
      if x23 = 0 then
        some ((-1 : Int32), st)
      else
        bd (fX4_isIn a4 (1 : Int32) (2 : Int32) st) fun x33 st =>
        if ¬ x33 = 0 then
          bd (iv st a0 [4] (fX4_night a0 a2 st)) fun _ st =>
          (gA st a0 84).bind fun x47 =>
          (aJ st x47 (((6 : Int32) * a1) + a3)).bind fun x56 =>
          if ¬ a4 = (1 : Int32) then
            (gJ st a0 94).bind fun x71 =>
            bX4_sees_74 x56 x71 st
          else
            (gJ st a0 93).bind fun x64 =>
            bX4_sees_74 x56 x64 st
        else
          some ((-1 : Int32), st)
def bX4_sides_305 (kk214 : Rf → Int32 → Int32 → Int32 → Int32 → Int32 → Mem → Option (Int32 × Mem)) (v0 : Rf) (v1 : Int32) (v2 : Int32) (v3 : Int32) (v4 : Int32) (v5 : Int32) (st : Mem) : Option (Int32 × Mem) :=
  kk214 v0 v1 v2 v3 v4 (v5 + 1) st
def bX4_sides_268 (kk214 : Rf → Int32 → Int32 → Int32 → Int32 → Int32 → Mem → Option (Int32 × Mem)) (kk226 : Rf → Int32 → Int32 → Int32 → Int32 → Int32 → Int32 → Int32 → Mem → Option (Int32 × Mem)) (v0 : Rf) (v1 : Int32) (v2 : Int32) (v3 : Int32) (v4 : Int32) (v5 : Int32) (v7 : Int32) (k0 : Int32) (st : Mem) : Option (Int32 × Mem) :=
  kk226 v0 v1 v2 v3 v4 v5 k0 (v7 + 1) st
def bX4_sides_226B (kk214 : Rf → Int32 → Int32 → Int32 → Int32 → Int32 → Mem → Option (Int32 × Mem)) (kk226 : Rf → Int32 → Int32 → Int32 → Int32 → Int32 → Int32 → Int32 → Mem → Option (Int32 × Mem)) (v0 : Rf) (v1 : Int32) (v2 : Int32) (v3 : Int32) (v4 : Int32) (v5 : Int32) (v6 : Int32) (v7 : Int32) (st : Mem) : Option (Int32 × Mem) :=
  if v1 ≤ v7 then
    if v6 < v4 then
      (gA st v0 109).bind fun x291 =>
      (gA st v0 101).bind fun x296 =>
      (aI st x296 (v1 + v5)).bind fun x303 =>
      (uI st x291 (2 : Int32) x303).bind fun st =>
      bX4_sides_305 kk214 v0 v1 v2 v3 v6 v5 st
    else
      bX4_sides_305 kk214 v0 v1 v2 v3 v4 v5 st
  else
    (gA st v0 105).bind fun x233 =>
    (aI st x233 (((6 : Int32) * v7) + v5)).bind fun x244 =>
    if x244 ≤ v6 then
      bX4_sides_268 kk214 kk226 v0 v1 v2 v3 v4 v5 v7 v6 st
    else
      (gA st v0 105).bind fun x251 =>
      (aI st x251 (((6 : Int32) * v7) + v5)).bind fun x262 =>
      bX4_sides_268 kk214 kk226 v0 v1 v2 v3 v4 v5 v7 x262 st
def bX4_sides_226 (kk214 : Rf → Int32 → Int32 → Int32 → Int32 → Int32 → Mem → Option (Int32 × Mem)) : Nat → Rf → Int32 → Int32 → Int32 → Int32 → Int32 → Int32 → Int32 → Mem → Option (Int32 × Mem)
  | 0 => fun _ _ _ _ _ _ _ _ _ => none
  | n + 1 => bX4_sides_226B kk214 (bX4_sides_226 kk214 n)
def bX4_sides_214B (kk214 : Rf → Int32 → Int32 → Int32 → Int32 → Int32 → Mem → Option (Int32 × Mem)) (v0 : Rf) (v1 : Int32) (v2 : Int32) (v3 : Int32) (v4 : Int32) (v5 : Int32) (st : Mem) : Option (Int32 × Mem) :=
  if v2 ≤ v5 then
    (gA st v0 109).bind fun x312 =>
    (uI st x312 (0 : Int32) v4).bind fun st =>
    (pI st v0 110 (1 : Int32)).bind fun st =>
    some (v3, st)
  else
    bX4_sides_226 kk214 hcFuel v0 v1 v2 v3 v4 v5 (0 : Int32) (0 : Int32) st
def bX4_sides_214 : Nat → Rf → Int32 → Int32 → Int32 → Int32 → Int32 → Mem → Option (Int32 × Mem)
  | 0 => fun _ _ _ _ _ _ _ => none
  | n + 1 => bX4_sides_214B (bX4_sides_214 n)
def bX4_sides_205 (kk87 : Rf → Int32 → Int32 → Int32 → Int32 → Int32 → Mem → Option (Int32 × Mem)) (v0 : Rf) (v1 : Int32) (v2 : Int32) (v3 : Int32) (v4 : Int32) (v5 : Int32) (st : Mem) : Option (Int32 × Mem) :=
  kk87 v0 v1 v2 v3 v4 (v5 + 1) st
def bX4_sides_172 (kk87 : Rf → Int32 → Int32 → Int32 → Int32 → Int32 → Mem → Option (Int32 × Mem)) (kk101 : Rf → Int32 → Int32 → Int32 → Int32 → Int32 → Int32 → Int32 → Mem → Option (Int32 × Mem)) (v0 : Rf) (v1 : Int32) (v2 : Int32) (v3 : Int32) (v4 : Int32) (v5 : Int32) (v7 : Int32) (k0 : Int32) (st : Mem) : Option (Int32 × Mem) :=
  kk101 v0 v1 v2 v3 v4 v5 k0 (v7 + 1) st
def bX4_sides_101B (kk87 : Rf → Int32 → Int32 → Int32 → Int32 → Int32 → Mem → Option (Int32 × Mem)) (kk101 : Rf → Int32 → Int32 → Int32 → Int32 → Int32 → Int32 → Int32 → Mem → Option (Int32 × Mem)) (v0 : Rf) (v1 : Int32) (v2 : Int32) (v3 : Int32) (v4 : Int32) (v5 : Int32) (v6 : Int32) (v7 : Int32) (st : Mem) : Option (Int32 × Mem) :=
  if v2 ≤ v7 then
    if v3 < v6 then
      (gA st v0 109).bind fun x193 =>
      (gA st v0 101).bind fun x198 =>
      (aI st x198 v5).bind fun x203 =>
      (uI st x193 (1 : Int32) x203).bind fun st =>
      bX4_sides_205 kk87 v0 v1 v2 v6 v4 v5 st
    else
      bX4_sides_205 kk87 v0 v1 v2 v3 v4 v5 st
  else
    (gJ st v0 71).bind fun x109 =>
    (gA st v0 101).bind fun x114 =>
    (aI st x114 v5).bind fun x119 =>
    (gJ st v0 72).bind fun x123 =>
    (gA st v0 101).bind fun x128 =>
    (aI st x128 (v1 + v7)).bind fun x135 =>
    bd (iv st v0 [4] (fX4_height v0 (x109 ||| (shlL (1 : Int64) x119)) (x123 ||| (shlL (1 : Int64) x135)) st)) fun x138 st =>
    (gA st v0 105).bind fun x144 =>
    (uI st x144 (((6 : Int32) * v5) + v7) x138).bind fun st =>
    if v6 ≤ x138 then
      bX4_sides_172 kk87 kk101 v0 v1 v2 v3 v4 v5 v7 v6 st
    else
      bX4_sides_172 kk87 kk101 v0 v1 v2 v3 v4 v5 v7 x138 st
def bX4_sides_101 (kk87 : Rf → Int32 → Int32 → Int32 → Int32 → Int32 → Mem → Option (Int32 × Mem)) : Nat → Rf → Int32 → Int32 → Int32 → Int32 → Int32 → Int32 → Int32 → Mem → Option (Int32 × Mem)
  | 0 => fun _ _ _ _ _ _ _ _ _ => none
  | n + 1 => bX4_sides_101B kk87 (bX4_sides_101 kk87 n)
def bX4_sides_87B (kk87 : Rf → Int32 → Int32 → Int32 → Int32 → Int32 → Mem → Option (Int32 × Mem)) (v0 : Rf) (v1 : Int32) (v2 : Int32) (v3 : Int32) (v4 : Int32) (v5 : Int32) (st : Mem) : Option (Int32 × Mem) :=
  if v1 ≤ v5 then
    bX4_sides_214 hcFuel v0 v1 v2 v3 v4 (0 : Int32) st
  else
    bX4_sides_101 kk87 hcFuel v0 v1 v2 v3 v4 v5 (1000000000 : Int32) (0 : Int32) st
def bX4_sides_87 : Nat → Rf → Int32 → Int32 → Int32 → Int32 → Int32 → Mem → Option (Int32 × Mem)
  | 0 => fun _ _ _ _ _ _ _ => none
  | n + 1 => bX4_sides_87B (bX4_sides_87 n)
def bX4_sides_28 (v0 : Rf) (k0 : Int32) (st : Mem) : Option (Int32 × Mem) :=
  bd (fX4_isIn k0 (1 : Int32) (6 : Int32) st) fun x33 st =>
  if x33 = 0 then
    some ((-1 : Int32), st)
  else
    (gI st v0 58).bind fun x40 =>
    bd (fX4_isIn ((x40 - (1 : Int32)) - k0) (1 : Int32) (6 : Int32) st) fun x50 st =>
    if x50 = 0 then
      some ((-1 : Int32), st)
    else
      (gI st v0 58).bind fun x59 =>
      bd (iv st v0 [4] (fX4_takesSeats v0 (1 : Int32) x59 st)) fun x62 st =>
      if ¬ x62 = 0 then
        (gI st v0 102).bind fun x71 =>
        bX4_sides_87 hcFuel v0 k0 (x71 - k0) (-1 : Int32) (1000000000 : Int32) (0 : Int32) st
      else
        some ((-1 : Int32), st)
def fX4_sides (a0 : Rf) (st : Mem) : Option (Int32 × Mem) :=
  (pI st a0 55 (0 : Int32)).bind fun st =>
  bd (iv st a0 [4] (fX4_taken a0 (940 : Int32) st)) fun _ st =>
  (gI st a0 58).bind fun x13 =>
  if ¬ x13 = 0 then
    bd (iv st a0 [4] (fX4_octet a0 (0 : Int32) st)) fun x25 st =>
    bX4_sides_28 a0 x25 st
  else
    bX4_sides_28 a0 (0 : Int32) st
def bX4_stands_24B (kk24 : Rf → Int32 → Int32 → Mem → Option (Int32 × Mem)) (v0 : Rf) (v1 : Int32) (v2 : Int32) (st : Mem) : Option (Int32 × Mem) :=
  if (600 : Int32) < v2 then
    some ((-1 : Int32), st)
  else
    (gA st v0 88).bind fun x32 =>
    (aJ st x32 v2).bind fun x36 =>
    bd (fX4_holds x36 v1 st) fun x38 st =>
    if x38 = 0 then
      kk24 v0 v1 (v2 + 1) st
    else
      some (v2, st)
def bX4_stands_24 : Nat → Rf → Int32 → Int32 → Mem → Option (Int32 × Mem)
  | 0 => fun _ _ _ _ => none
  | n + 1 => bX4_stands_24B (bX4_stands_24 n)
def fX4_stands (a0 : Rf) (a1 : Int32) (st : Mem) : Option (Int32 × Mem) :=
  (pI st a0 55 (0 : Int32)).bind fun st =>
  bd (iv st a0 [4] (fX4_isSeat a0 a1 st)) fun x7 st =>
  if ¬ x7 = 0 then
    bd (iv st a0 [4] (fX4_night a0 (600 : Int32) st)) fun _ st =>
    bX4_stands_24 hcFuel a0 a1 (0 : Int32) st
  else
    some ((-1 : Int32), st)
def fX4_starts (a0 : Rf) (a1 : Int32) (st : Mem) : Option (Int32 × Mem) :=
  (pI st a0 55 (0 : Int32)).bind fun st =>
  bd (iv st a0 [4] (fX4_isSeat a0 a1 st)) fun x7 st =>
  if x7 = 0 then
    some ((-1 : Int32), st)
  else
    (gJ st a0 72).bind fun x18 =>
    bd (iv st a0 [4] (fX4_height a0 (shlL (1 : Int64) a1) x18 st)) fun x21 st =>
    some (x21, st)
def bX4_up_14B (kk14 : Rf → Int32 → Mem → Option (Int32 × Mem)) (v0 : Rf) (v1 : Int32) (st : Mem) : Option (Int32 × Mem) :=
  if (600 : Int32) < v1 then
    some ((-1 : Int32), st)
  else
    bd (iv st v0 [4] (fX4_isUp v0 v1 st)) fun x23 st =>
    if x23 = 0 then
      kk14 v0 (v1 + 1) st
    else
      some (v1, st)
def bX4_up_14 : Nat → Rf → Int32 → Mem → Option (Int32 × Mem)
  | 0 => fun _ _ _ => none
  | n + 1 => bX4_up_14B (bX4_up_14 n)
def fX4_up (a0 : Rf) (st : Mem) : Option (Int32 × Mem) :=
  (pI st a0 55 (0 : Int32)).bind fun st =>
  bd (iv st a0 [4] (fX4_night a0 (600 : Int32) st)) fun _ st =>
  bX4_up_14 hcFuel a0 (0 : Int32) st
def bX4_worth_141 (kk53 : Rf → Int32 → Mem → Option (Int32 × Mem)) (kk70 : Rf → Int32 → Int32 → Mem → Option (Int32 × Mem)) (v0 : Rf) (v1 : Int32) (v2 : Int32) (st : Mem) : Option (Int32 × Mem) :=
  kk70 v0 v1 (v2 + 1) st
def bX4_worth_70B (kk53 : Rf → Int32 → Mem → Option (Int32 × Mem)) (kk70 : Rf → Int32 → Int32 → Mem → Option (Int32 × Mem)) (v0 : Rf) (v1 : Int32) (v2 : Int32) (st : Mem) : Option (Int32 × Mem) :=
  (gI st v0 102).bind fun x73 =>
  if (shlI (1 : Int32) x73) ≤ v2 then
    kk53 v0 (v1 + 1) st
  else
    bd (fX4_has v2 v1 st) fun x82 st =>
    if x82 = 0 then
      bd (fX4_bits (Int32.toInt64 v2) st) fun x93 st =>
      (gA st v0 106).bind fun x98 =>
      (aJ st x98 v1).bind fun x103 =>
      bd (fX4_orders x93 st) fun x105 st =>
      (gI st v0 102).bind fun x109 =>
      bd (fX4_orders ((x109 - (1 : Int32)) - x93) st) fun x116 st =>
      (gA st v0 105).bind fun x121 =>
      (aI st x121 (v2 ||| (shlI (1 : Int32) v1))).bind fun x129 =>
      (gA st v0 105).bind fun x131 =>
      (aI st x131 v2).bind fun x135 =>
      (uJ st x98 v1 (x103 + ((x105 * x116) * (Int32.toInt64 (x129 - x135))))).bind fun st =>
      bX4_worth_141 kk53 kk70 v0 v1 v2 st
    else
      bX4_worth_141 kk53 kk70 v0 v1 v2 st
def bX4_worth_70 (kk53 : Rf → Int32 → Mem → Option (Int32 × Mem)) : Nat → Rf → Int32 → Int32 → Mem → Option (Int32 × Mem)
  | 0 => fun _ _ _ _ => none
  | n + 1 => bX4_worth_70B kk53 (bX4_worth_70 kk53 n)
def bX4_worth_53B (kk53 : Rf → Int32 → Mem → Option (Int32 × Mem)) (v0 : Rf) (v1 : Int32) (st : Mem) : Option (Int32 × Mem) :=
  (gI st v0 102).bind fun x55 =>
  if x55 ≤ v1 then
    (gI st v0 102).bind fun x155 =>
    (pI st v0 107 x155).bind fun st =>
    (gI st v0 102).bind fun x163 =>
    bd (fX4_orders x163 st) fun x166 st =>
    (pJ st v0 108 x166).bind fun st =>
    (gA st v0 105).bind fun x173 =>
    (gI st v0 102).bind fun x178 =>
    (aI st x173 ((shlI (1 : Int32) x178) - (1 : Int32))).bind fun x184 =>
    some (x184, st)
  else
    (gA st v0 106).bind fun x62 =>
    (uJ st x62 v1 (0 : Int64)).bind fun st =>
    bX4_worth_70 kk53 hcFuel v0 v1 (0 : Int32) st
def bX4_worth_53 : Nat → Rf → Int32 → Mem → Option (Int32 × Mem)
  | 0 => fun _ _ _ => none
  | n + 1 => bX4_worth_53B (bX4_worth_53 n)
def bX4_worth_16B (kk16 : Rf → Int32 → Mem → Option (Int32 × Mem)) (v0 : Rf) (v1 : Int32) (st : Mem) : Option (Int32 × Mem) :=
  (gI st v0 102).bind fun x19 =>
  if (shlI (1 : Int32) x19) ≤ v1 then
    bX4_worth_53 hcFuel v0 (0 : Int32) st
  else
    (gA st v0 105).bind fun x27 =>
    bd (iv st v0 [4] (fX4_bitsOf v0 v1 st)) fun x34 st =>
    (gJ st v0 72).bind fun x38 =>
    bd (iv st v0 [4] (fX4_height v0 x34 x38 st)) fun x41 st =>
    (uI st x27 v1 x41).bind fun st =>
    kk16 v0 (v1 + 1) st
def bX4_worth_16 : Nat → Rf → Int32 → Mem → Option (Int32 × Mem)
  | 0 => fun _ _ _ => none
  | n + 1 => bX4_worth_16B (bX4_worth_16 n)
def fX4_worth (a0 : Rf) (st : Mem) : Option (Int32 × Mem) :=
  (pI st a0 55 (0 : Int32)).bind fun st =>
  bd (iv st a0 [4] (fX4_areEight a0 st)) fun x6 st =>
  if ¬ x6 = 0 then
    bX4_worth_16 hcFuel a0 (0 : Int32) st
  else
    some ((-1 : Int32), st)
def fX4_would (a0 : Rf) (a1 : Int32) (a2 : Int32) (a3 : Int32) (st : Mem) : Option (Int32 × Mem) :=
  (pI st a0 55 (0 : Int32)).bind fun st =>
  bd (iv st a0 [4] (fX4_isSeat a0 a1 st)) fun x7 st =>
  if x7 = 0 then
    some ((-1 : Int32), st)
  else
    bd (fX4_isMoment a2 st) fun x14 st =>
    if x14 = 0 then
      some ((-1 : Int32), st)
    else
      bd (fX4_isIn a3 (0 : Int32) (1 : Int32) st) fun x23 st =>
      if ¬ x23 = 0 then
        (gA st a0 61).bind fun x37 =>
        (aI st x37 ((6 : Int32) + a1)).bind fun x44 =>
        (some ((86 : Int32) + ((42 : Int32) * (((2 : Int32) * (x44 - (1 : Int32))) + a3)))).bind fun y52 =>
        (gA st a0 61).bind fun x55 =>
        (aI st x55 y52).bind fun x60 =>
        if ¬ x60 = 0 then
          bd (iv st a0 [4] (fX4_night a0 a2 st)) fun _ st =>
          (gJ st a0 93).bind fun x76 =>
          (gJ st a0 94).bind fun x80 =>
          bd (iv st a0 [4] (fX4_levelOf a0 a1 st)) fun x85 st =>
          bd (iv st a0 [4] (fX4_heldOf a0 a1 st)) fun x90 st =>
          bd (iv st a0 [4] (fX4_isLaw a0 y52 a1 x76 x80 x85 x90 st)) fun x93 st =>
          if x93 = 0 then
            some ((0 : Int32), st)
          else
            some ((1 : Int32), st)
        else
          some ((-1 : Int32), st)
      else
        some ((-1 : Int32), st)
def bX4_arrange_36B (kk36 : Rf → Int32 → Mem → Option (Int32 × Mem)) (v0 : Rf) (v1 : Int32) (st : Mem) : Option (Int32 × Mem) :=
  (gI st v0 118).bind fun x37 =>
  if (20 : Int32) ≤ x37 then
    some (v1, st)
  else
    bd (iv st v0 [4] (fX4_arranges v0 v1 st)) fun x47 st =>
    if x47 = 0 then
      some (v1, st)
    else
      (gI st v0 99).bind fun x54 =>
      (gI st v0 118).bind fun x60 =>
      (pI st v0 118 (x60 + (1 : Int32))).bind fun st =>
      kk36 v0 x54 st
def bX4_arrange_36 : Nat → Rf → Int32 → Mem → Option (Int32 × Mem)
  | 0 => fun _ _ _ => none
  | n + 1 => bX4_arrange_36B (bX4_arrange_36 n)
def fX4_arrange (a0 : Rf) (st : Mem) : Option (Int32 × Mem) :=
  (pI st a0 55 (0 : Int32)).bind fun st =>
  (gA st a0 61).bind fun x6 =>
  (aI st x6 (2 : Int32)).bind fun x10 =>
  if x10 ≤ (24 : Int32) then
    (pI st a0 118 (0 : Int32)).bind fun st =>
    (gJ st a0 71).bind fun x25 =>
    (gJ st a0 72).bind fun x29 =>
    bd (iv st a0 [4] (fX4_height a0 x25 x29 st)) fun x32 st =>
    bX4_arrange_36 hcFuel a0 x32 st
  else
    some ((-1 : Int32), st)
def fX4_line (a0 : Rf) (st : Mem) : Option (Int32 × Mem) :=
  bd (iv st a0 [4] (fX4_isWord a0 (7499639 : Int64) st)) fun x4 st =>
  if x4 = 0 then
    bd (iv st a0 [4] (fX4_isWord a0 (30064 : Int64) st)) fun x19 st =>
    if x19 = 0 then
      bd (iv st a0 [4] (fX4_isWord a0 (1685026670 : Int64) st)) fun x35 st =>
      if x35 = 0 then
        bd (iv st a0 [4] (fX4_isWord a0 (482955846501 : Int64) st)) fun x51 st =>
        if x51 = 0 then
          bd (iv st a0 [4] (fX4_isWord a0 (119182682645875 : Int64) st)) fun x119 st =>
          if x119 = 0 then
            bd (iv st a0 [4] (fX4_isWord a0 (426836652665 : Int64) st)) fun x189 st =>
            if x189 = 0 then
              bd (iv st a0 [4] (fX4_isWord a0 (1885432164 : Int64) st)) fun x209 st =>
              if x209 = 0 then
                bd (iv st a0 [4] (fX4_isWord a0 (1919907699 : Int64) st)) fun x230 st =>
                if ¬ x230 = 0 then
                  (gI st a0 77).bind fun x243 =>
                  bd (fX4_has x243 (2 : Int32) st) fun x247 st =>
                  if x247 = 0 then
                    (gI st a0 77).bind fun x261 =>
                    (pI st a0 77 (x261 ||| (4 : Int32))).bind fun st =>
                    (gA st a0 62).bind fun x270 =>
                    (uI st x270 (5 : Int32) (1 : Int32)).bind fun st =>
                    bd (iv st a0 [4] (fX4_next a0 st)) fun _ st =>
                    some ((1 : Int32), st)
                  else
                    bd (iv st a0 [4] (fX4_bad a0 (3 : Int32) st)) fun x255 st =>
                    some ((nz x255), st)
                else
                  bd (iv st a0 [4] (fX4_bad a0 (1 : Int32) st)) fun x238 st =>
                  some ((nz x238), st)
              else
                bd (iv st a0 [4] (fX4_once a0 (1 : Int32) (4 : Int32) (0 : Int32) (600 : Int32) st)) fun x222 st =>
                some ((nz x222), st)
            else
              bd (iv st a0 [4] (fX4_once a0 (0 : Int32) (3 : Int32) (1 : Int32) (64 : Int32) st)) fun x201 st =>
              some ((nz x201), st)
          else
            (gI st a0 76).bind fun x127 =>
            bd (iv st a0 [4] (fX4_takesRow a0 x127 st)) fun x130 st =>
            if ¬ x130 = 0 then
              (gI st a0 73).bind fun x139 =>
              (gI st a0 76).bind fun x145 =>
              (pI st a0 76 (x145 ||| (shlI (1 : Int32) x139))).bind fun st =>
              bd (iv st a0 [4] (fX4_takes a0 (0 : Int32) (600 : Int32) st)) fun x160 st =>
              if ¬ x160 = 0 then
                (gA st a0 62).bind fun x169 =>
                (gI st a0 73).bind fun x177 =>
                (uI st x169 ((78 : Int32) + x139) (x177 + (1 : Int32))).bind fun st =>
                some ((1 : Int32), st)
              else
                some ((0 : Int32), st)
            else
              some ((0 : Int32), st)
        else
          (gI st a0 75).bind fun x59 =>
          bd (iv st a0 [4] (fX4_takesRow a0 x59 st)) fun x62 st =>
          if ¬ x62 = 0 then
            (gI st a0 73).bind fun x71 =>
            (gI st a0 75).bind fun x77 =>
            (pI st a0 75 (x77 ||| (shlI (1 : Int32) x71))).bind fun st =>
            bd (iv st a0 [4] (fX4_takes a0 (0 : Int32) (999 : Int32) st)) fun x92 st =>
            if ¬ x92 = 0 then
              (gA st a0 62).bind fun x101 =>
              (gI st a0 73).bind fun x109 =>
              (uI st x101 ((70 : Int32) + x71) x109).bind fun st =>
              some ((1 : Int32), st)
            else
              some ((0 : Int32), st)
          else
            some ((0 : Int32), st)
      else
        bd (iv st a0 [4] (fX4_readLaw a0 (1 : Int32) st)) fun x43 st =>
        some ((nz x43), st)
    else
      bd (iv st a0 [4] (fX4_readLaw a0 (0 : Int32) st)) fun x27 st =>
      some ((nz x27), st)
  else
    bd (iv st a0 [4] (fX4_readRow a0 st)) fun x11 st =>
    some ((nz x11), st)
def bX4_house_119 (kk90 : Rf → Int32 → Mem → Option (Int32 × Mem)) (v0 : Rf) (v1 : Int32) (k0 : Rf) (k1 : Int32) (k2 : Int32) (st : Mem) : Option (Int32 × Mem) :=
  (uI st k0 k1 k2).bind fun st =>
  kk90 v0 (v1 + 1) st
def bX4_house_90B (kk90 : Rf → Int32 → Mem → Option (Int32 × Mem)) (v0 : Rf) (v1 : Int32) (st : Mem) : Option (Int32 × Mem) :=
  if (681 : Int32) ≤ v1 then
    (pJ st v0 71 (0 : Int64)).bind fun st =>
    (pJ st v0 72 (0 : Int64)).bind fun st =>
    (pI st v0 85 (1 : Int32)).bind fun st =>
    (gI st v0 74).bind fun x142 =>
    some (x142, st)
  else
    (gA st v0 61).bind fun x98 =>
    if (590 : Int32) ≤ v1 then
      bX4_house_119 kk90 v0 v1 x98 v1 (0 : Int32) st
    else
      (gA st v0 62).bind fun x110 =>
      (aI st x110 v1).bind fun x114 =>
      bX4_house_119 kk90 v0 v1 x98 v1 x114 st
def bX4_house_90 : Nat → Rf → Int32 → Mem → Option (Int32 × Mem)
  | 0 => fun _ _ _ => none
  | n + 1 => bX4_house_90B (bX4_house_90 n)
def bX4_house_68 (v0 : Rf) (st : Mem) : Option (Int32 × Mem) :=
  (gI st v0 69).bind fun x70 =>
  some (((-1 : Int32) - x70), st)
def bX4_house_45B (kk45 : Rf → Mem → Option (Int32 × Mem)) (v0 : Rf) (st : Mem) : Option (Int32 × Mem) :=
  (gI st v0 64).bind fun x46 =>
  if x46 = 0 then
    bX4_house_90 hcFuel v0 (0 : Int32) st
  else
    bd (iv st v0 [4] (fX4_line v0 st)) fun x53 st =>
    if x53 = 0 then
      bX4_house_68 v0 st
    else
      bd (iv st v0 [4] (fX4_sign v0 (59 : Int32) st)) fun x62 st =>
      if ¬ x62 = 0 then
        (gI st v0 74).bind fun x77 =>
        (pI st v0 74 (x77 + (1 : Int32))).bind fun st =>
        kk45 v0 st
      else
        bX4_house_68 v0 st
def bX4_house_45 : Nat → Rf → Mem → Option (Int32 × Mem)
  | 0 => fun _ _ => none
  | n + 1 => bX4_house_45B (bX4_house_45 n)
def fX4_house (a0 : Rf) (st : Mem) : Option (Int32 × Mem) :=
  (pI st a0 55 (0 : Int32)).bind fun st =>
  bd (iv st a0 [4] (fX4_taken a0 (900 : Int32) st)) fun _ st =>
  (pI st a0 68 (0 : Int32)).bind fun st =>
  (pI st a0 74 (0 : Int32)).bind fun st =>
  (pI st a0 75 (0 : Int32)).bind fun st =>
  (pI st a0 76 (0 : Int32)).bind fun st =>
  (pI st a0 77 (0 : Int32)).bind fun st =>
  bd (iv st a0 [4] (fX4_plainHouse a0 st)) fun _ st =>
  bd (iv st a0 [4] (fX4_next a0 st)) fun _ st =>
  bX4_house_45 hcFuel a0 st
