def fJ0_checkLength (a0 : Int32) (a1 : Int32) (st : Mem) : Option (Unit × Mem) :=
  if a0 ≤ a1 then
    some ((), st)
  else
    none
def fJ0_copyOf (a0 : Rf) (a1 : Int32) (st : Mem) : Option (Rf × Mem) :=
  (aN st a0).bind fun x2 =>
  if ¬ a1 = x2 then
    bd (nA st 100 a1) fun x15 st =>
    (aN st a0).bind fun x23 =>
    (cpy st a0 (0 : Int32) x15 (0 : Int32) (mminI x23 a1)).bind fun st =>
    some (x15, st)
  else
    none
def fJ0_copyOf_3 (a0 : Rf) (a1 : Int32) (a2 : Rf) (st : Mem) : Option (Rf × Mem) :=
  eqR st a2 (some 53 : Rf) (
    bd (nA st 104 a1) fun x7 st =>
    (aN st a0).bind fun x30 =>
    (cpy st a0 (0 : Int32) x7 (0 : Int32) (mminI x30 a1)).bind fun st =>
    some (x7, st)
  ) (
    none
  )
def bJ0_fill_5B (kk5 : Rf → Int32 → Int32 → Int32 → Mem → Option (Unit × Mem)) (v0 : Rf) (v1 : Int32) (v2 : Int32) (v3 : Int32) (st : Mem) : Option (Unit × Mem) :=
  if v3 ≤ v2 then
    some ((), st)
  else
    (uI st v0 v2 v1).bind fun st =>
    kk5 v0 v1 (v2 + 1) v3 st
def bJ0_fill_5 : Nat → Rf → Int32 → Int32 → Int32 → Mem → Option (Unit × Mem)
  | 0 => fun _ _ _ _ _ => none
  | n + 1 => bJ0_fill_5B (bJ0_fill_5 n)
def fJ0_fill (a0 : Rf) (a1 : Int32) (st : Mem) : Option (Unit × Mem) :=
  (aN st a0).bind fun x3 =>
  bJ0_fill_5 hcFuel a0 a1 (0 : Int32) x3 st
def fJ10_getValue (a0 : Rf) (st : Mem) : Option (Rf × Mem) :=
  (gA st a0 159).bind fun x1 =>
  some (x1, st)
def fJ10_init (a0 : Rf) (a1 : Int32) (st : Mem) : Option (Unit × Mem) :=
  nn a0 <|
  if (1 : Int32) = 0 then
    none
  else
    bd (nA st 100 a1) fun x12 st =>
    (pA st a0 159 x12).bind fun st =>
    (pI st a0 160 (0 : Int32)).bind fun st =>
    some ((), st)
def bJ10_isLatin1_17 (st : Mem) : Option (Int32 × Mem) :=
  some ((0 : Int32), st)
def fJ10_isLatin1 (a0 : Rf) (st : Mem) : Option (Int32 × Mem) :=
  if (1 : Int32) = 0 then
    bJ10_isLatin1_17 st
  else
    (gI st a0 160).bind fun x7 =>
    if ¬ x7 = 0 then
      bJ10_isLatin1_17 st
    else
      some ((1 : Int32), st)
def fJ10_length (a0 : Rf) (st : Mem) : Option (Int32 × Mem) :=
  (gI st a0 162).bind fun x1 =>
  some (x1, st)
def bJ12_newLength_21 (v0 : Int32) (v1 : Int32) (st : Mem) : Option (Int32 × Mem) :=
  none
def fJ12_newLength (a0 : Int32) (a1 : Int32) (a2 : Int32) (st : Mem) : Option (Int32 × Mem) :=
  (some (a0 + (mmaxI a1 a2))).bind fun y7 =>
  if y7 ≤ (0 : Int32) then
    bJ12_newLength_21 a0 a1 st
  else
    if (2147483639 : Int32) < y7 then
      bJ12_newLength_21 a0 a1 st
    else
      some (y7, st)
def fJ18_bitCount (a0 : Int64) (st : Mem) : Option (Int32 × Mem) :=
  (some (a0 - ((ushrL a0 (1 : Int32)) &&& (6148914691236517205 : Int64)))).bind fun y9 =>
  (some ((y9 &&& (3689348814741910323 : Int64)) + ((ushrL y9 (2 : Int32)) &&& (3689348814741910323 : Int64)))).bind fun y23 =>
  (some ((y23 + (ushrL y23 (4 : Int32))) &&& (1085102592571150095 : Int64))).bind fun y33 =>
  (some (y33 + (ushrL y33 (8 : Int32)))).bind fun y40 =>
  (some (y40 + (ushrL y40 (16 : Int32)))).bind fun y47 =>
  (some (y47 + (ushrL y47 (32 : Int32)))).bind fun y54 =>
  some (((Int64.toInt32 y54) &&& (127 : Int32)), st)
def fJ19_bitCount (a0 : Int32) (st : Mem) : Option (Int32 × Mem) :=
  (some (a0 - ((ushrI a0 (1 : Int32)) &&& (1431655765 : Int32)))).bind fun y9 =>
  (some ((y9 &&& (858993459 : Int32)) + ((ushrI y9 (2 : Int32)) &&& (858993459 : Int32)))).bind fun y23 =>
  (some ((y23 + (ushrI y23 (4 : Int32))) &&& (252645135 : Int32))).bind fun y33 =>
  (some (y33 + (ushrI y33 (8 : Int32)))).bind fun y40 =>
  (some (y40 + (ushrI y40 (16 : Int32)))).bind fun y47 =>
  some ((y47 &&& (63 : Int32)), st)
def fJ1_init (a0 : Rf) (st : Mem) : Option (Unit × Mem) :=
  nn a0 <|
  some ((), st)
def fJ3_elementData (a0 : Rf) (a1 : Int32) (st : Mem) : Option (Rf × Mem) :=
  (gA st a0 153).bind fun x1 =>
  (aA st x1 a1).bind fun x5 =>
  some (x5, st)
def fJ3_size (a0 : Rf) (st : Mem) : Option (Int32 × Mem) :=
  (gI st a0 154).bind fun x1 =>
  some (x1, st)
def fJ4_coder (a0 : Rf) (st : Mem) : Option (Int32 × Mem) :=
  if (1 : Int32) = 0 then
    some ((1 : Int32), st)
  else
    (gI st a0 156).bind fun x7 =>
    some ((nby x7), st)
def bJ4_isLatin1_17 (st : Mem) : Option (Int32 × Mem) :=
  some ((0 : Int32), st)
def fJ4_isLatin1 (a0 : Rf) (st : Mem) : Option (Int32 × Mem) :=
  if (1 : Int32) = 0 then
    bJ4_isLatin1_17 st
  else
    (gI st a0 156).bind fun x7 =>
    if ¬ x7 = 0 then
      bJ4_isLatin1_17 st
    else
      some ((1 : Int32), st)
def bJ5_canEncode_15 (st : Mem) : Option (Int32 × Mem) :=
  some ((0 : Int32), st)
def fJ5_canEncode (a0 : Int32) (st : Mem) : Option (Int32 × Mem) :=
  if a0 < 0 then
    bJ5_canEncode_15 st
  else
    if (255 : Int32) < a0 then
      bJ5_canEncode_15 st
    else
      some ((1 : Int32), st)
def fJ5_canEncode_2 (a0 : Int32) (st : Mem) : Option (Int32 × Mem) :=
  if (255 : Int32) < a0 then
    some ((0 : Int32), st)
  else
    some ((1 : Int32), st)
def bJ5_equals_9B (kk9 : Rf → Rf → Int32 → Mem → Option (Int32 × Mem)) (v0 : Rf) (v1 : Rf) (v2 : Int32) (st : Mem) : Option (Int32 × Mem) :=
  (aN st v0).bind fun x11 =>
  if x11 ≤ v2 then
    some ((1 : Int32), st)
  else
    (aB st v0 v2).bind fun x17 =>
    (aB st v1 v2).bind fun x20 =>
    if x17 = x20 then
      kk9 v0 v1 (v2 + 1) st
    else
      some ((0 : Int32), st)
def bJ5_equals_9 : Nat → Rf → Rf → Int32 → Mem → Option (Int32 × Mem)
  | 0 => fun _ _ _ _ => none
  | n + 1 => bJ5_equals_9B (bJ5_equals_9 n)
def fJ5_equals (a0 : Rf) (a1 : Rf) (st : Mem) : Option (Int32 × Mem) :=
  (aN st a0).bind fun x1 =>
  (aN st a1).bind fun x3 =>
  if ¬ x1 = x3 then
    some ((0 : Int32), st)
  else
    bJ5_equals_9 hcFuel a0 a1 (0 : Int32) st
def bJ5_indexOfChar_7B (kk7 : Rf → Int32 → Int32 → Int32 → Mem → Option (Int32 × Mem)) (v0 : Rf) (v3 : Int32) (v4 : Int32) (v5 : Int32) (st : Mem) : Option (Int32 × Mem) :=
  if v3 ≤ v5 then
    some ((-1 : Int32), st)
  else
    (aB st v0 v5).bind fun x16 =>
    if ¬ x16 = v4 then
      kk7 v0 v3 v4 (v5 + 1) st
    else
      some (v5, st)
def bJ5_indexOfChar_7 : Nat → Rf → Int32 → Int32 → Int32 → Mem → Option (Int32 × Mem)
  | 0 => fun _ _ _ _ _ => none
  | n + 1 => bJ5_indexOfChar_7B (bJ5_indexOfChar_7 n)
def fJ5_indexOfChar (a0 : Rf) (a1 : Int32) (a2 : Int32) (a3 : Int32) (st : Mem) : Option (Int32 × Mem) :=
  bJ5_indexOfChar_7 hcFuel a0 a3 (i2bv a1) a2 st
def bJ8_checkIndex_9 (v0 : Int32) (v1 : Int32) (v2 : Rf) (st : Mem) : Option (Int32 × Mem) :=
  none
def fJ8_checkIndex (a0 : Int32) (a1 : Int32) (a2 : Rf) (st : Mem) : Option (Int32 × Mem) :=
  if a0 < 0 then
    bJ8_checkIndex_9 a0 a1 a2 st
  else
    if a0 < a1 then
      some (a0, st)
    else
      bJ8_checkIndex_9 a0 a1 a2 st
def fJ0_copyOfRangeByte (a0 : Rf) (a1 : Int32) (a2 : Int32) (st : Mem) : Option (Rf × Mem) :=
  bd (fJ0_checkLength a1 a2 st) fun _ st =>
  bd (nA st 100 (a2 - a1)) fun x10 st =>
  (aN st a0).bind fun x20 =>
  (cpy st a0 a1 x10 (0 : Int32) (mminI (x20 - a1) (a2 - a1))).bind fun st =>
  some (x10, st)
def fJ0_copyOf_2 (a0 : Rf) (a1 : Int32) (st : Mem) : Option (Rf × Mem) :=
  (gcl st a0).bind fun x3 =>
  bd (fJ0_copyOf_3 a0 a1 x3 st) fun x6 st =>
  some (x6, st)
def fJ10_ensureCapacityInternal (a0 : Rf) (a1 : Int32) (st : Mem) : Option (Unit × Mem) :=
  (gA st a0 159).bind fun x1 =>
  (aN st x1).bind fun x4 =>
  (gI st a0 160).bind fun x6 =>
  if (a1 - (shrI x4 x6)) ≤ 0 then
    some ((), st)
  else
    (gA st a0 159).bind fun x19 =>
    none
def fJ11_init (a0 : Rf) (st : Mem) : Option (Unit × Mem) :=
  bd (nn a0 (fJ10_init a0 (16 : Int32) st)) fun _ st =>
  some ((), st)
def fJ11_length (a0 : Rf) (st : Mem) : Option (Int32 × Mem) :=
  bd (iv st a0 [20] (fJ10_length a0 st)) fun x1 st =>
  some (x1, st)
def fJ17_checkIndex (a0 : Int32) (a1 : Int32) (st : Mem) : Option (Int32 × Mem) :=
  bd (fJ8_checkIndex a0 a1 (none : Rf) st) fun x3 st =>
  some (x3, st)
def fJ2_init (a0 : Rf) (st : Mem) : Option (Unit × Mem) :=
  bd (nn a0 (fJ1_init a0 st)) fun _ st =>
  (pI st a0 152 (0 : Int32)).bind fun st =>
  some ((), st)
def fJ4_checkIndex (a0 : Int32) (a1 : Int32) (st : Mem) : Option (Unit × Mem) :=
  bd (fJ8_checkIndex a0 a1 (none : Rf) st) fun x5 st =>
  some ((), st)
def bJ4_equals_54 (st : Mem) : Option (Int32 × Mem) :=
  some ((0 : Int32), st)
def bJ4_equals_36 (v0 : Rf) (v2 : Rf) (st : Mem) : Option (Int32 × Mem) :=
  (gA st v0 155).bind fun x37 =>
  (gA st v2 155).bind fun x41 =>
  bd (fJ5_equals x37 x41 st) fun x44 st =>
  if x44 = 0 then
    bJ4_equals_54 st
  else
    some ((1 : Int32), st)
def fJ4_equals (a0 : Rf) (a1 : Rf) (st : Mem) : Option (Int32 × Mem) :=
  eqR st a0 a1 (
    some ((1 : Int32), st)
  ) (
    (io st a1 3).bind fun x8 =>
    if x8 = 0 then
      bJ4_equals_54 st
    else
      (ck st a1 3).bind fun x15 =>
      if (1 : Int32) = 0 then
        bJ4_equals_36 a0 x15 st
      else
        (gI st a0 156).bind fun x26 =>
        (gI st x15 156).bind fun x30 =>
        if ¬ x26 = x30 then
          bJ4_equals_54 st
        else
          bJ4_equals_36 a0 x15 st
  )
def fJ4_length (a0 : Rf) (st : Mem) : Option (Int32 × Mem) :=
  (gA st a0 155).bind fun x1 =>
  (aN st x1).bind fun x4 =>
  bd (iv st a0 [19] (fJ4_coder a0 st)) fun x6 st =>
  some ((shrI x4 x6), st)
def fJ5_indexOf (a0 : Rf) (a1 : Int32) (a2 : Int32) (a3 : Int32) (st : Mem) : Option (Int32 × Mem) :=
  bd (fJ5_canEncode a1 st) fun x1 st =>
  if ¬ x1 = 0 then
    (aN st a0).bind fun x17 =>
    if (mmaxI a2 (0 : Int32)) < (mminI a3 x17) then
      bd (fJ5_indexOfChar a0 a1 (mmaxI a2 (0 : Int32)) (mminI a3 x17) st) fun x33 st =>
      some (x33, st)
    else
      some ((-1 : Int32), st)
  else
    some ((-1 : Int32), st)
def bJ0_copyOfRange_10 (v0 : Rf) (v1 : Int32) (v2 : Int32) (st : Mem) : Option (Rf × Mem) :=
  bd (fJ0_copyOfRangeByte v0 v1 v2 st) fun x13 st =>
  some (x13, st)
def fJ0_copyOfRange (a0 : Rf) (a1 : Int32) (a2 : Int32) (st : Mem) : Option (Rf × Mem) :=
  if ¬ a1 = 0 then
    bJ0_copyOfRange_10 a0 a1 a2 st
  else
    (aN st a0).bind fun x6 =>
    if a2 = x6 then
      none
    else
      bJ0_copyOfRange_10 a0 a1 a2 st
def bJ10_append_56 (v0 : Rf) (v1 : Int32) (st : Mem) : Option (Rf × Mem) :=
  (gA st v0 159).bind fun x57 =>
  (gI st v0 162).bind fun x62 =>
  (pI st v0 162 (x62 + (1 : Int32))).bind fun st =>
  none
def bJ10_append_45 (v0 : Rf) (v1 : Int32) (st : Mem) : Option (Rf × Mem) :=
  bd (iv st v0 [20] (fJ10_isLatin1 v0 st)) fun x46 st =>
  if x46 = 0 then
    bJ10_append_56 v0 v1 st
  else
    none
def fJ10_append (a0 : Rf) (a1 : Int32) (st : Mem) : Option (Rf × Mem) :=
  (gI st a0 162).bind fun x2 =>
  bd (iv st a0 [20] (fJ10_ensureCapacityInternal a0 (x2 + (1 : Int32)) st)) fun _ st =>
  bd (iv st a0 [20] (fJ10_isLatin1 a0 st)) fun x11 st =>
  if x11 = 0 then
    bJ10_append_45 a0 a1 st
  else
    bd (fJ5_canEncode_2 a1 st) fun x18 st =>
    if x18 = 0 then
      bJ10_append_45 a0 a1 st
    else
      (gA st a0 159).bind fun x25 =>
      (gI st a0 162).bind fun x30 =>
      (pI st a0 162 (x30 + (1 : Int32))).bind fun st =>
      (uB st x25 x30 (i2bv a1)).bind fun st =>
      some (a0, st)
def fJ3_get (a0 : Rf) (a1 : Int32) (st : Mem) : Option (Rf × Mem) :=
  (gI st a0 154).bind fun x2 =>
  bd (fJ17_checkIndex a1 x2 st) fun x5 st =>
  bd (iv st a0 [18] (fJ3_elementData a0 a1 st)) fun x11 st =>
  some (x11, st)
def bJ3_grow_2_20 (v0 : Rf) (v1 : Int32) (v2 : Int32) (st : Mem) : Option (Rf × Mem) :=
  bd (fJ12_newLength v2 (v1 - v2) (shrI v2 (1 : Int32)) st) fun x27 st =>
  (gA st v0 153).bind fun x33 =>
  bd (fJ0_copyOf_2 x33 x27 st) fun x37 st =>
  (pA st v0 153 x37).bind fun st =>
  some (x37, st)
def fJ3_grow_2 (a0 : Rf) (a1 : Int32) (st : Mem) : Option (Rf × Mem) :=
  (gA st a0 153).bind fun x1 =>
  (aN st x1).bind fun x4 =>
  if 0 < x4 then
    bJ3_grow_2_20 a0 a1 x4 st
  else
    (gA st a0 153).bind fun x11 =>
    eqR st x11 (some 52 : Rf) (
      bd (nA st 104 (mmaxI (10 : Int32) a1)) fun x52 st =>
      (pA st a0 153 x52).bind fun st =>
      some (x52, st)
    ) (
      bJ3_grow_2_20 a0 a1 x4 st
    )
def fJ3_init (a0 : Rf) (st : Mem) : Option (Unit × Mem) :=
  bd (nn a0 (fJ2_init a0 st)) fun _ st =>
  (pA st a0 153 (some 52 : Rf)).bind fun st =>
  some ((), st)
def fJ3_set (a0 : Rf) (a1 : Int32) (a2 : Rf) (st : Mem) : Option (Rf × Mem) :=
  (gI st a0 154).bind fun x2 =>
  bd (fJ17_checkIndex a1 x2 st) fun x5 st =>
  bd (iv st a0 [18] (fJ3_elementData a0 a1 st)) fun x11 st =>
  (gA st a0 153).bind fun x16 =>
  (uA st x16 a1 a2).bind fun st =>
  some (x11, st)
def fJ4_indexOf_2 (a0 : Rf) (a1 : Int32) (a2 : Int32) (st : Mem) : Option (Int32 × Mem) :=
  bd (iv st a0 [19] (fJ4_isLatin1 a0 st)) fun x1 st =>
  if x1 = 0 then
    (gA st a0 155).bind fun x24 =>
    bd (iv st a0 [19] (fJ4_length a0 st)) fun x30 st =>
    none
  else
    (gA st a0 155).bind fun x8 =>
    bd (iv st a0 [19] (fJ4_length a0 st)) fun x14 st =>
    bd (fJ5_indexOf x8 a1 a2 x14 st) fun x17 st =>
    some (x17, st)
def fJ5_charAt (a0 : Rf) (a1 : Int32) (st : Mem) : Option (Int32 × Mem) :=
  (aN st a0).bind fun x2 =>
  bd (fJ4_checkIndex a1 x2 st) fun _ st =>
  (aB st a0 a1).bind fun x8 =>
  some ((nch (i2cv (x8 &&& (255 : Int32)))), st)
def fJ11_append (a0 : Rf) (a1 : Int32) (st : Mem) : Option (Rf × Mem) :=
  bd (iv st a0 [20] (fJ10_append a0 a1 st)) fun x2 st =>
  some (a0, st)
def fJ3_grow (a0 : Rf) (st : Mem) : Option (Rf × Mem) :=
  (gI st a0 154).bind fun x2 =>
  bd (iv st a0 [18] (fJ3_grow_2 a0 (x2 + (1 : Int32)) st)) fun x7 st =>
  some (x7, st)
def fJ4_charAt (a0 : Rf) (a1 : Int32) (st : Mem) : Option (Int32 × Mem) :=
  bd (iv st a0 [19] (fJ4_isLatin1 a0 st)) fun x1 st =>
  if x1 = 0 then
    (gA st a0 155).bind fun x17 =>
    none
  else
    (gA st a0 155).bind fun x8 =>
    bd (fJ5_charAt x8 a1 st) fun x12 st =>
    some ((nch x12), st)
def fJ4_indexOf (a0 : Rf) (a1 : Int32) (st : Mem) : Option (Int32 × Mem) :=
  bd (iv st a0 [19] (fJ4_indexOf_2 a0 a1 (0 : Int32) st)) fun x3 st =>
  some (x3, st)
def bJ4_init_2_79 (v0 : Rf) (v3 : Rf) (v4 : Int32) (st : Mem) : Option (Unit × Mem) :=
  (pI st v0 156 (1 : Int32)).bind fun st =>
  bd (fJ0_copyOfRange v3 (0 : Int32) (shlI v4 (1 : Int32)) st) fun x91 st =>
  (pA st v0 155 x91).bind fun st =>
  some ((), st)
def fJ4_init_2 (a0 : Rf) (a1 : Rf) (a2 : Rf) (st : Mem) : Option (Unit × Mem) :=
  nn a0 <|
  bd (iv st a1 [20] (fJ10_getValue a1 st)) fun x5 st =>
  bd (iv st a1 [20] (fJ11_length a1 st)) fun x10 st =>
  bd (iv st a1 [20] (fJ10_isLatin1 a1 st)) fun x16 st =>
  if x16 = 0 then
    if (1 : Int32) = 0 then
      bJ4_init_2_79 a0 x5 x10 st
    else
      (gI st a1 161).bind fun x48 =>
      if x48 = 0 then
        bJ4_init_2_79 a0 x5 x10 st
      else
        none
  else
    (pI st a0 156 (0 : Int32)).bind fun st =>
    bd (fJ0_copyOfRange x5 (0 : Int32) x10 st) fun x32 st =>
    (pA st a0 155 x32).bind fun st =>
    some ((), st)
def bJ3_add_2_11 (v0 : Rf) (v1 : Rf) (v2 : Rf) (v3 : Int32) (st : Mem) : Option (Unit × Mem) :=
  (uA st v2 v3 v1).bind fun st =>
  (pI st v0 154 (v3 + (1 : Int32))).bind fun st =>
  some ((), st)
def fJ3_add_2 (a0 : Rf) (a1 : Rf) (a2 : Rf) (a3 : Int32) (st : Mem) : Option (Unit × Mem) :=
  (aN st a2).bind fun x2 =>
  if ¬ a3 = x2 then
    bJ3_add_2_11 a0 a1 a2 a3 st
  else
    bd (iv st a0 [18] (fJ3_grow a0 st)) fun x7 st =>
    bJ3_add_2_11 a0 a1 x7 a3 st
def fJ4_init (a0 : Rf) (a1 : Rf) (st : Mem) : Option (Unit × Mem) :=
  bd (nn a0 (fJ4_init_2 a0 a1 (none : Rf) st)) fun _ st =>
  some ((), st)
def fJ11_toString (a0 : Rf) (st : Mem) : Option (Rf × Mem) :=
  bd (nO st 19) fun x0 st =>
  bd (nn x0 (fJ4_init x0 a0 st)) fun _ st =>
  some (x0, st)
def fJ3_add (a0 : Rf) (a1 : Rf) (st : Mem) : Option (Int32 × Mem) :=
  (gI st a0 152).bind fun x2 =>
  (pI st a0 152 (x2 + (1 : Int32))).bind fun st =>
  (gA st a0 153).bind fun x13 =>
  (gI st a0 154).bind fun x17 =>
  bd (iv st a0 [18] (fJ3_add_2 a0 a1 x13 x17 st)) fun _ st =>
  some ((1 : Int32), st)
