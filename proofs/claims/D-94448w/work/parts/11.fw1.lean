/-! ===== abstract values and memory: what a method's pure function speaks of ===== -/
abbrev Rf : Type := Option Nat
abbrev Ev : Type := Int32 ⊕ Int64 ⊕ Rf
abbrev vi (x : Int32) : Ev := Sum.inl x
abbrev vj (x : Int64) : Ev := Sum.inr (Sum.inl x)
abbrev vr (x : Rf) : Ev := Sum.inr (Sum.inr x)
def evc (v : Ev) : Nat := match v with
  | .inr (.inl _) => 2
  | _ => 1
/-- tags, lengths, ints, longs, references (by id and field number or index), the next id, slots made -/
abbrev Mem : Type := (Nat → Nat) × (Nat → Nat) × (Nat → Nat → Int32) × (Nat → Nat → Int64) × (Nat → Nat → Rf) × Nat × Nat
def mTag (st : Mem) (a : Nat) : Nat := st.1 a
def mLen (st : Mem) (a : Nat) : Nat := st.2.1 a
def mI (st : Mem) (a k : Nat) : Int32 := st.2.2.1 a k
def mJ (st : Mem) (a k : Nat) : Int64 := st.2.2.2.1 a k
def mA (st : Mem) (a k : Nat) : Rf := st.2.2.2.2.1 a k
def mNx (st : Mem) : Nat := st.2.2.2.2.2.1
def mNs (st : Mem) : Nat := st.2.2.2.2.2.2
def up1 {α : Type} (f : Nat → α) (a : Nat) (v : α) : Nat → α := fun b => if b = a then v else f b
def up2 {α : Type} (f : Nat → Nat → α) (a k : Nat) (v : α) : Nat → Nat → α := fun b j => if b = a then (if j = k then v else f b j) else f b j
def mSI (st : Mem) (a k : Nat) (v : Int32) : Mem := (st.1, st.2.1, up2 st.2.2.1 a k v, st.2.2.2)
def mSJ (st : Mem) (a k : Nat) (v : Int64) : Mem := (st.1, st.2.1, st.2.2.1, up2 st.2.2.2.1 a k v, st.2.2.2.2)
def mSA (st : Mem) (a k : Nat) (v : Rf) : Mem := (st.1, st.2.1, st.2.2.1, st.2.2.2.1, up2 st.2.2.2.2.1 a k v, st.2.2.2.2.2)
def mRow (st : Mem) (a : Nat) (f : Nat → Int32) : Mem := (st.1, st.2.1, up1 st.2.2.1 a f, st.2.2.2)
def mRowJ (st : Mem) (a : Nat) (f : Nat → Int64) : Mem := (st.1, st.2.1, st.2.2.1, up1 st.2.2.2.1 a f, st.2.2.2.2)
def mRowA (st : Mem) (a : Nat) (f : Nat → Rf) : Mem := (st.1, st.2.1, st.2.2.1, st.2.2.2.1, up1 st.2.2.2.2.1 a f, st.2.2.2.2.2)
/-- one more cell: tag t, length n, s slots -/
def mNew (st : Mem) (t n s : Nat) : Mem := (up1 st.1 (mNx st) t, up1 st.2.1 (mNx st) n, up1 st.2.2.1 (mNx st) (fun _ => 0), up1 st.2.2.2.1 (mNx st) (fun _ => 0), up1 st.2.2.2.2.1 (mNx st) (fun _ => none), mNx st + 1, mNs st + s)
def tg (st : Mem) (v : Rf) : Nat := match v with
  | some a => mTag st a
  | none => 0
/-! reading and writing -/
def gI (st : Mem) (o : Rf) (f : Nat) : Option Int32 := match o with
  | some a => if a < mNx st ∧ (fl (mTag st a)).contains f = true ∧ (fty f = 0 ∨ fty f = 3 ∨ fty f = 4) then some (mI st a f) else none
  | none => none
def gJ (st : Mem) (o : Rf) (f : Nat) : Option Int64 := match o with
  | some a => if a < mNx st ∧ (fl (mTag st a)).contains f = true ∧ fty f = 1 then some (mJ st a f) else none
  | none => none
def gA (st : Mem) (o : Rf) (f : Nat) : Option Rf := match o with
  | some a => if a < mNx st ∧ (fl (mTag st a)).contains f = true ∧ fty f = 2 then some (mA st a f) else none
  | none => none
def pI (st : Mem) (o : Rf) (f : Nat) (x : Int32) : Option Mem := match o with
  | some a => if 64 ≤ a ∧ a < mNx st ∧ (fl (mTag st a)).contains f = true ∧ (fty f = 0 ∨ (fty f = 3 ∧ (x = 0 ∨ x = 1)) ∨ (fty f = 4 ∧ x = 0)) then some (mSI st a f x) else none
  | none => none
def pJ (st : Mem) (o : Rf) (f : Nat) (x : Int64) : Option Mem := match o with
  | some a => if 64 ≤ a ∧ a < mNx st ∧ (fl (mTag st a)).contains f = true ∧ fty f = 1 then some (mSJ st a f x) else none
  | none => none
def pA (st : Mem) (o : Rf) (f : Nat) (x : Rf) : Option Mem := match o with
  | some a => if 64 ≤ a ∧ a < mNx st ∧ (fl (mTag st a)).contains f = true ∧ fty f = 2 then some (mSA st a f x) else none
  | none => none
def aI (st : Mem) (o : Rf) (i : Int32) : Option Int32 := match o with
  | some a => if a < mNx st ∧ mTag st a = 102 ∧ 0 ≤ i ∧ i.toNatClampNeg < mLen st a then some (mI st a i.toNatClampNeg) else none
  | none => none
def aB (st : Mem) (o : Rf) (i : Int32) : Option Int32 := match o with
  | some a => if a < mNx st ∧ (mTag st a = 100 ∨ mTag st a = 101) ∧ 0 ≤ i ∧ i.toNatClampNeg < mLen st a then some (mI st a i.toNatClampNeg) else none
  | none => none
def aJ (st : Mem) (o : Rf) (i : Int32) : Option Int64 := match o with
  | some a => if a < mNx st ∧ mTag st a = 103 ∧ 0 ≤ i ∧ i.toNatClampNeg < mLen st a then some (mJ st a i.toNatClampNeg) else none
  | none => none
def aA (st : Mem) (o : Rf) (i : Int32) : Option Rf := match o with
  | some a => if a < mNx st ∧ 104 ≤ mTag st a ∧ mTag st a < 108 ∧ 0 ≤ i ∧ i.toNatClampNeg < mLen st a then some (mA st a i.toNatClampNeg) else none
  | none => none
def aN (st : Mem) (o : Rf) : Option Int32 := match o with
  | some a => if a < mNx st ∧ 100 ≤ mTag st a ∧ mTag st a < 108 then some (Int32.ofNat (mLen st a)) else none
  | none => none
def uI (st : Mem) (o : Rf) (i x : Int32) : Option Mem := match o with
  | some a => if 64 ≤ a ∧ a < mNx st ∧ mTag st a = 102 ∧ 0 ≤ i ∧ i.toNatClampNeg < mLen st a then some (mSI st a i.toNatClampNeg x) else none
  | none => none
/-- into a byte array the low byte goes, into a boolean one the low bit -/
def nz (x : Int32) : Int32 := vp_nar .boolean x
def uB (st : Mem) (o : Rf) (i x : Int32) : Option Mem := match o with
  | some a => if 64 ≤ a ∧ a < mNx st ∧ (mTag st a = 100 ∨ mTag st a = 101) ∧ 0 ≤ i ∧ i.toNatClampNeg < mLen st a then some (mSI st a i.toNatClampNeg (if mTag st a = 100 then x.toInt8.toInt32 else nz x)) else none
  | none => none
def uJ (st : Mem) (o : Rf) (i : Int32) (x : Int64) : Option Mem := match o with
  | some a => if 64 ≤ a ∧ a < mNx st ∧ mTag st a = 103 ∧ 0 ≤ i ∧ i.toNatClampNeg < mLen st a then some (mSJ st a i.toNatClampNeg x) else none
  | none => none
/-- which objects an array of references takes: 104 any of ours, 105 conditions, 106 houses -/
def asg (t u : Nat) : Bool := (t == 104 && (u == 14 || u == 15 || u == 16 || u == 17 || u == 18)) || (t == 105 && (u == 7 || u == 8 || u == 9 || u == 10 || u == 11 || u == 12)) || (t == 106 && u == 2)
def uA (st : Mem) (o : Rf) (i : Int32) (x : Rf) : Option Mem := match o, x with
  | some a, some b => if 64 ≤ a ∧ a < mNx st ∧ 0 ≤ i ∧ i.toNatClampNeg < mLen st a ∧ b < mNx st ∧ asg (mTag st a) (mTag st b) = true then some (mSA st a i.toNatClampNeg (some b)) else none
  | _, _ => none
def nO (st : Mem) (t : Nat) : Option (Rf × Mem) := if 0 < t ∧ t < 22 then some (some (mNx st), mNew st t 0 (nsl t)) else none
def nA (st : Mem) (t : Nat) (n : Int32) : Option (Rf × Mem) := if 100 ≤ t ∧ t < 107 ∧ 0 ≤ n ∧ n.toNatClampNeg ≤ 100000 then some (some (mNx st), mNew st t n.toNatClampNeg n.toNatClampNeg) else none
/-! control -/
def bd {α β : Type} (x : Option (α × Mem)) (f : α → Mem → Option β) : Option β := match x with
  | some q => f q.1 q.2
  | none => none
def bt {α β : Type} (x : Option ((α ⊕ Nat) × Mem)) (f : α → Mem → Option ((β ⊕ Nat) × Mem)) : Option ((β ⊕ Nat) × Mem) := match x with
  | some (.inl v, st) => f v st
  | some (.inr e, st) => some (.inr e, st)
  | none => none
def bc {α β : Type} (x : Option ((α ⊕ Nat) × Mem)) (g : Nat → Mem → Option β) (f : α → Mem → Option β) : Option β := match x with
  | some (.inl v, st) => f v st
  | some (.inr e, st) => g e st
  | none => none
def iv {α : Type} (st : Mem) (o : Rf) (ts : List Nat) (x : Option α) : Option α := match o with
  | some a => if a < mNx st ∧ ts.contains (mTag st a) = true then x else none
  | none => none
def thr {α : Type} (o : Rf) (st : Mem) : Option ((α ⊕ Nat) × Mem) := match o with
  | some a => if 64 ≤ a ∧ a < mNx st then some (.inr a, st) else none
  | none => none
def eqR {β : Type} (st : Mem) (x y : Rf) (A B : Option β) : Option β := match x, y with
  | none, none => A
  | some a, some b => if a < mNx st ∧ b < mNx st ∧ ((64 ≤ a ∧ b ≠ 53) ∨ (64 ≤ b ∧ a ≠ 53) ∨ a = b) then (if a = b then A else B) else none
  | _, _ => B
def shlI (x y : Int32) : Int32 := x <<< (y &&& 31)
def shrI (x y : Int32) : Int32 := x >>> (y &&& 31)
def ushrI (x y : Int32) : Int32 := (x.toUInt32 >>> (y.toUInt32 &&& Int32.toUInt32 31)).toInt32
def shlL (x : Int64) (y : Int32) : Int64 := x <<< (y.toInt64 &&& 63)
def shrL (x : Int64) (y : Int32) : Int64 := x >>> (y.toInt64 &&& 63)
def ushrL (x : Int64) (y : Int32) : Int64 := (x.toUInt64 >>> (y.toInt64.toUInt64 &&& Int64.toUInt64 63)).toInt64
def dvI (x y : Int32) : Option Int32 := if y = 0 then none else some (x / y)
def rmI (x y : Int32) : Option Int32 := if y = 0 then none else some (x - x / y * y)
def dvL (x y : Int64) : Option Int64 := if y = 0 then none else some (x / y)
def rmL (x y : Int64) : Option Int64 := if y = 0 then none else some (x - x / y * y)
def i2bv (x : Int32) : Int32 := x.toInt8.toInt32
def i2cv (x : Int32) : Int32 := (x.toUInt32 % 65536).toInt32
def hcFuel : Nat := 100000
