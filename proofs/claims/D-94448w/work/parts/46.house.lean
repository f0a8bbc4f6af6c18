set_option linter.unusedVariables false
set_option linter.unusedSimpArgs false
/-! ===== houses and conditions in HouseClaps' memory ===== -/
/-- cells that the fixed part does not cover -/
def dyn (a : Nat) : Prop := 131 ≤ a ∨ (66 ≤ a ∧ a ≤ 80) ∨ a < 64
theorem up1_nq {α : Type} (f : Nat → α) {a c : Nat} (v : α) (h : c ≠ a) : up1 f a v c = f c := if_neg h
section Dyn
variable {b : Mem} {x : XS} {a : Nat}
theorem ov_tag (h : dyn a) : mTag (mkX b x) a = mTag b a := by
  unfold dyn at h
  show (up1 _ _ _ : Nat → Nat) a = _
  repeat rw [up1_nq _ _ (by omega)]
theorem ov_len (h : dyn a) : mLen (mkX b x) a = mLen b a := by
  unfold dyn at h
  show (up1 _ _ _ : Nat → Nat) a = _
  repeat rw [up1_nq _ _ (by omega)]
theorem ov_I (h : dyn a) : mI (mkX b x) a = mI b a := by
  unfold dyn at h
  show (up1 _ _ _ : Nat → Nat → Int32) a = _
  repeat rw [up1_nq _ _ (by omega)]
theorem ov_J (h : dyn a) : mJ (mkX b x) a = mJ b a := by
  unfold dyn at h
  show (up1 _ _ _ : Nat → Nat → Int64) a = _
  repeat rw [up1_nq _ _ (by omega)]
theorem ov_A (h : dyn a) : mA (mkX b x) a = mA b a := by
  unfold dyn at h
  show (up1 _ _ _ : Nat → Nat → Rf) a = _
  repeat rw [up1_nq _ _ (by omega)]
theorem mkX_nx : mNx (mkX b x) = mNx b := rfl
theorem dI {t f : Nat} (h : dyn a) (hl : a < mNx b) (ht : mTag b a = t) (hc : (fl t).contains f = true ∧ (fty f = 0 ∨ fty f = 3 ∨ fty f = 4)) : gI (mkX b x) (some a) f = some (mI b a f) := by
  rw [gI_of (st := mkX b x) (t := t) hl ((ov_tag h).trans ht) hc, ov_I h]
theorem dA {t f : Nat} (h : dyn a) (hl : a < mNx b) (ht : mTag b a = t) (hc : (fl t).contains f = true ∧ fty f = 2) : gA (mkX b x) (some a) f = some (mA b a f) := by
  rw [gA_of (st := mkX b x) (t := t) hl ((ov_tag h).trans ht) hc, ov_A h]
theorem dRI {n : Nat} {i : Int32} (h : dyn a) (hl : a < mNx b) (ht : mTag b a = 102) (hn : mLen b a = n) : aI (mkX b x) (some a) i = ifx n i (mI b a i.toNatClampNeg) := by
  rw [aI_of (st := mkX b x) hl ((ov_tag h).trans ht) ((ov_len h).trans hn), ov_I h]
theorem dRB {n : Nat} {i : Int32} (h : dyn a) (hl : a < mNx b) (ht : mTag b a = 100) (hn : mLen b a = n) : aB (mkX b x) (some a) i = ifx n i (mI b a i.toNatClampNeg) := by
  rw [aB_of (st := mkX b x) hl (Or.inl ((ov_tag h).trans ht)) ((ov_len h).trans hn), ov_I h]
theorem dRJ {n : Nat} {i : Int32} (h : dyn a) (hl : a < mNx b) (ht : mTag b a = 103) (hn : mLen b a = n) : aJ (mkX b x) (some a) i = ifx n i (mJ b a i.toNatClampNeg) := by
  rw [aJ_of (st := mkX b x) hl ((ov_tag h).trans ht) ((ov_len h).trans hn), ov_J h]
theorem dRA {n t : Nat} {i : Int32} (h : dyn a) (hl : a < mNx b) (ht : mTag b a = t) (h1 : 104 ≤ t ∧ t < 108) (hn : mLen b a = n) : aA (mkX b x) (some a) i = ifx n i (mA b a i.toNatClampNeg) := by
  subst ht
  rw [aA_of (st := mkX b x) hl (by rw [ov_tag h]; exact h1) ((ov_len h).trans hn), ov_A h]
theorem div_ {α : Type} {t : Nat} {ts : List Nat} {z : Option α} (h : dyn a) (hl : a < mNx b) (ht : mTag b a = t) (hc : ts.contains t = true) : iv (mkX b x) (some a) ts z = z :=
  if_pos ⟨hl, by rw [ov_tag h, ht]; exact hc⟩
theorem dtg {t : Nat} (h : dyn a) (ht : mTag b a = t) : tg (mkX b x) (some a) = t := (ov_tag h).trans ht
end Dyn
/-- a condition as a tree of objects -/
def CondAt (b : Mem) : Cd → Nat → Prop
  | .neg c, a => (dyn a ∧ a < mNx b) ∧ mTag b a = 7 ∧ ∃ p, mA b a 141 = some p ∧ CondAt b c p
  | .add c d, a => (dyn a ∧ a < mNx b) ∧ mTag b a = 11 ∧ ∃ p q, mA b a 146 = some p ∧ mA b a 147 = some q ∧ CondAt b c p ∧ CondAt b d q
  | .sub c d, a => (dyn a ∧ a < mNx b) ∧ mTag b a = 12 ∧ ∃ p q, mA b a 146 = some p ∧ mA b a 147 = some q ∧ CondAt b c p ∧ CondAt b d q
  | .var w, a => (dyn a ∧ a < mNx b) ∧ leafOk w ∧ mTag b a = 8 + lk w ∧ mI b a 142 = n2 (60 + ls w) ∧ mI b a 143 = n2 (lnum w) ∧ (lk w = 0 → mI b a 144 = n2 (la w) ∧ mI b a 145 = n2 (ll w))
  | .num _, _ => False
  | .mulL _ _, _ => False
  | .mulR _ _, _ => False
/-- what is told of a house: kinds are 0 (a pillar) or 1..6, a row is left at leaves - 1 if that is not 0 -/
abbrev HS : Type := (Nat) × (Nat) × (Nat) × (Nat) × (Bool) × (Nat → Nat) × (Nat → Nat) × (Nat → Nat) × (Nat → Nat → Option (Cd × Nat)) × (Nat → Nat → Int64)
def HS.mk (rows : Nat) (cols : Nat) (carry : Nat) (paid : Nat) (byRows : Bool) (kind : Nat → Nat) (price : Nat → Nat) (leaves : Nat → Nat) (law : Nat → Nat → Option (Cd × Nat)) (ar : Nat → Nat → Int64) : HS := (rows, cols, carry, paid, byRows, kind, price, leaves, law, ar)
def HS.rows (z : HS) : Nat := z.1
def HS.cols (z : HS) : Nat := z.2.1
def HS.carry (z : HS) : Nat := z.2.2.1
def HS.paid (z : HS) : Nat := z.2.2.2.1
def HS.byRows (z : HS) : Bool := z.2.2.2.2.1
def HS.kind (z : HS) : Nat → Nat := z.2.2.2.2.2.1
def HS.price (z : HS) : Nat → Nat := z.2.2.2.2.2.2.1
def HS.leaves (z : HS) : Nat → Nat := z.2.2.2.2.2.2.2.1
def HS.law (z : HS) : Nat → Nat → Option (Cd × Nat) := z.2.2.2.2.2.2.2.2.1
def HS.ar (z : HS) : Nat → Nat → Int64 := z.2.2.2.2.2.2.2.2.2
theorem mk_HS_rows {v0 : Nat} {v1 : Nat} {v2 : Nat} {v3 : Nat} {v4 : Bool} {v5 : Nat → Nat} {v6 : Nat → Nat} {v7 : Nat → Nat} {v8 : Nat → Nat → Option (Cd × Nat)} {v9 : Nat → Nat → Int64} : (HS.mk v0 v1 v2 v3 v4 v5 v6 v7 v8 v9).rows = v0 := rfl
theorem mk_HS_cols {v0 : Nat} {v1 : Nat} {v2 : Nat} {v3 : Nat} {v4 : Bool} {v5 : Nat → Nat} {v6 : Nat → Nat} {v7 : Nat → Nat} {v8 : Nat → Nat → Option (Cd × Nat)} {v9 : Nat → Nat → Int64} : (HS.mk v0 v1 v2 v3 v4 v5 v6 v7 v8 v9).cols = v1 := rfl
theorem mk_HS_carry {v0 : Nat} {v1 : Nat} {v2 : Nat} {v3 : Nat} {v4 : Bool} {v5 : Nat → Nat} {v6 : Nat → Nat} {v7 : Nat → Nat} {v8 : Nat → Nat → Option (Cd × Nat)} {v9 : Nat → Nat → Int64} : (HS.mk v0 v1 v2 v3 v4 v5 v6 v7 v8 v9).carry = v2 := rfl
theorem mk_HS_paid {v0 : Nat} {v1 : Nat} {v2 : Nat} {v3 : Nat} {v4 : Bool} {v5 : Nat → Nat} {v6 : Nat → Nat} {v7 : Nat → Nat} {v8 : Nat → Nat → Option (Cd × Nat)} {v9 : Nat → Nat → Int64} : (HS.mk v0 v1 v2 v3 v4 v5 v6 v7 v8 v9).paid = v3 := rfl
theorem mk_HS_byRows {v0 : Nat} {v1 : Nat} {v2 : Nat} {v3 : Nat} {v4 : Bool} {v5 : Nat → Nat} {v6 : Nat → Nat} {v7 : Nat → Nat} {v8 : Nat → Nat → Option (Cd × Nat)} {v9 : Nat → Nat → Int64} : (HS.mk v0 v1 v2 v3 v4 v5 v6 v7 v8 v9).byRows = v4 := rfl
theorem mk_HS_kind {v0 : Nat} {v1 : Nat} {v2 : Nat} {v3 : Nat} {v4 : Bool} {v5 : Nat → Nat} {v6 : Nat → Nat} {v7 : Nat → Nat} {v8 : Nat → Nat → Option (Cd × Nat)} {v9 : Nat → Nat → Int64} : (HS.mk v0 v1 v2 v3 v4 v5 v6 v7 v8 v9).kind = v5 := rfl
theorem mk_HS_price {v0 : Nat} {v1 : Nat} {v2 : Nat} {v3 : Nat} {v4 : Bool} {v5 : Nat → Nat} {v6 : Nat → Nat} {v7 : Nat → Nat} {v8 : Nat → Nat → Option (Cd × Nat)} {v9 : Nat → Nat → Int64} : (HS.mk v0 v1 v2 v3 v4 v5 v6 v7 v8 v9).price = v6 := rfl
theorem mk_HS_leaves {v0 : Nat} {v1 : Nat} {v2 : Nat} {v3 : Nat} {v4 : Bool} {v5 : Nat → Nat} {v6 : Nat → Nat} {v7 : Nat → Nat} {v8 : Nat → Nat → Option (Cd × Nat)} {v9 : Nat → Nat → Int64} : (HS.mk v0 v1 v2 v3 v4 v5 v6 v7 v8 v9).leaves = v7 := rfl
theorem mk_HS_law {v0 : Nat} {v1 : Nat} {v2 : Nat} {v3 : Nat} {v4 : Bool} {v5 : Nat → Nat} {v6 : Nat → Nat} {v7 : Nat → Nat} {v8 : Nat → Nat → Option (Cd × Nat)} {v9 : Nat → Nat → Int64} : (HS.mk v0 v1 v2 v3 v4 v5 v6 v7 v8 v9).law = v8 := rfl
theorem mk_HS_ar {v0 : Nat} {v1 : Nat} {v2 : Nat} {v3 : Nat} {v4 : Bool} {v5 : Nat → Nat} {v6 : Nat → Nat} {v7 : Nat → Nat} {v8 : Nat → Nat → Option (Cd × Nat)} {v9 : Nat → Nat → Int64} : (HS.mk v0 v1 v2 v3 v4 v5 v6 v7 v8 v9).ar = v9 := rfl
def HS.size (H : HS) : Nat := H.rows * H.cols
def kindX (k : Nat) : Nat := if k = 0 then 9 else k - 1
/-- a house as an object with its rows -/
abbrev XHouse (b : Mem) (h : Nat) (H : HS) : Prop := (h = 66 ∨ 131 ≤ h) ∧ (h + 14 ≤ mNx b) ∧ (mTag b h = 2) ∧ (mA b h 34 = some (h + 1)) ∧ (mA b h 35 = some (h + 2)) ∧ (mA b h 36 = some (h + 3)) ∧ (mA b h 37 = some (h + 4)) ∧ (mA b h 38 = some (h + 5)) ∧ (mA b h 39 = some (h + 6)) ∧ (mA b h 40 = some (h + 7)) ∧ (mTag b (h + 1) = 102) ∧ (mTag b (h + 2) = 102) ∧ (mTag b (h + 3) = 102) ∧ (mTag b (h + 4) = 105) ∧ (mTag b (h + 5) = 105) ∧ (mTag b (h + 6) = 102) ∧ (mTag b (h + 7) = 107) ∧ (∀ a, a < 6 → mTag b (h + 8 + a) = 103) ∧ (mLen b (h + 1) = 64) ∧ (mLen b (h + 2) = 8) ∧ (mLen b (h + 3) = 8) ∧ (mLen b (h + 4) = 6) ∧ (mLen b (h + 5) = 6) ∧ (mLen b (h + 6) = 12) ∧ (mLen b (h + 7) = 6) ∧ (∀ a, a < 6 → mLen b (h + 8 + a) = 64) ∧ (∀ a, a < 6 → mA b (h + 7) a = some (h + 8 + a)) ∧ (mI b h 28 = n2 H.rows) ∧ (mI b h 29 = n2 H.cols) ∧ (mI b h 30 = n2 H.carry) ∧ (mI b h 31 = n2 H.paid) ∧ (mI b h 33 = b2i H.byRows) ∧ (∀ v, v < H.size → mI b (h + 1) v = n2 (kindX (H.kind v))) ∧ (∀ r, r < 8 → mI b (h + 2) r = n2 (H.price r)) ∧ (∀ r, r < 8 → mI b (h + 3) r = i2 ((H.leaves r : Int) - 1)) ∧ (∀ k, k < 6 → H.law k 0 = none → mA b (h + 4) k = none) ∧ (∀ k c o, k < 6 → H.law k 0 = some (c, o) → mI b (h + 6) k = n2 o ∧ ∃ a, mA b (h + 4) k = some a ∧ CondAt b c a) ∧ (∀ k, k < 6 → H.law k 1 = none → mA b (h + 5) k = none) ∧ (∀ k c o, k < 6 → H.law k 1 = some (c, o) → mI b (h + 6) (6 + k) = n2 o ∧ ∃ a, mA b (h + 5) k = some a ∧ CondAt b c a) ∧ (∀ a v, a < 6 → v < H.size → mJ b (h + 8 + a) v = H.ar a v)
theorem XHouse.at_ {b : Mem} {h : Nat} {H : HS} (self : XHouse b h H) : h = 66 ∨ 131 ≤ h := self.1
theorem XHouse.lt {b : Mem} {h : Nat} {H : HS} (self : XHouse b h H) : h + 14 ≤ mNx b := self.2.1
theorem XHouse.tag {b : Mem} {h : Nat} {H : HS} (self : XHouse b h H) : mTag b h = 2 := self.2.2.1
theorem XHouse.r34 {b : Mem} {h : Nat} {H : HS} (self : XHouse b h H) : mA b h 34 = some (h + 1) := self.2.2.2.1
theorem XHouse.r35 {b : Mem} {h : Nat} {H : HS} (self : XHouse b h H) : mA b h 35 = some (h + 2) := self.2.2.2.2.1
theorem XHouse.r36 {b : Mem} {h : Nat} {H : HS} (self : XHouse b h H) : mA b h 36 = some (h + 3) := self.2.2.2.2.2.1
theorem XHouse.r37 {b : Mem} {h : Nat} {H : HS} (self : XHouse b h H) : mA b h 37 = some (h + 4) := self.2.2.2.2.2.2.1
theorem XHouse.r38 {b : Mem} {h : Nat} {H : HS} (self : XHouse b h H) : mA b h 38 = some (h + 5) := self.2.2.2.2.2.2.2.1
theorem XHouse.r39 {b : Mem} {h : Nat} {H : HS} (self : XHouse b h H) : mA b h 39 = some (h + 6) := self.2.2.2.2.2.2.2.2.1
theorem XHouse.r40 {b : Mem} {h : Nat} {H : HS} (self : XHouse b h H) : mA b h 40 = some (h + 7) := self.2.2.2.2.2.2.2.2.2.1
theorem XHouse.t1 {b : Mem} {h : Nat} {H : HS} (self : XHouse b h H) : mTag b (h + 1) = 102 := self.2.2.2.2.2.2.2.2.2.2.1
theorem XHouse.t2 {b : Mem} {h : Nat} {H : HS} (self : XHouse b h H) : mTag b (h + 2) = 102 := self.2.2.2.2.2.2.2.2.2.2.2.1
theorem XHouse.t3 {b : Mem} {h : Nat} {H : HS} (self : XHouse b h H) : mTag b (h + 3) = 102 := self.2.2.2.2.2.2.2.2.2.2.2.2.1
theorem XHouse.t4 {b : Mem} {h : Nat} {H : HS} (self : XHouse b h H) : mTag b (h + 4) = 105 := self.2.2.2.2.2.2.2.2.2.2.2.2.2.1
theorem XHouse.t5 {b : Mem} {h : Nat} {H : HS} (self : XHouse b h H) : mTag b (h + 5) = 105 := self.2.2.2.2.2.2.2.2.2.2.2.2.2.2.1
theorem XHouse.t6 {b : Mem} {h : Nat} {H : HS} (self : XHouse b h H) : mTag b (h + 6) = 102 := self.2.2.2.2.2.2.2.2.2.2.2.2.2.2.2.1
theorem XHouse.t7 {b : Mem} {h : Nat} {H : HS} (self : XHouse b h H) : mTag b (h + 7) = 107 := self.2.2.2.2.2.2.2.2.2.2.2.2.2.2.2.2.1
theorem XHouse.t8 {b : Mem} {h : Nat} {H : HS} (self : XHouse b h H) : ∀ a, a < 6 → mTag b (h + 8 + a) = 103 := self.2.2.2.2.2.2.2.2.2.2.2.2.2.2.2.2.2.1
theorem XHouse.l1 {b : Mem} {h : Nat} {H : HS} (self : XHouse b h H) : mLen b (h + 1) = 64 := self.2.2.2.2.2.2.2.2.2.2.2.2.2.2.2.2.2.2.1
theorem XHouse.l2 {b : Mem} {h : Nat} {H : HS} (self : XHouse b h H) : mLen b (h + 2) = 8 := self.2.2.2.2.2.2.2.2.2.2.2.2.2.2.2.2.2.2.2.1
theorem XHouse.l3 {b : Mem} {h : Nat} {H : HS} (self : XHouse b h H) : mLen b (h + 3) = 8 := self.2.2.2.2.2.2.2.2.2.2.2.2.2.2.2.2.2.2.2.2.1
theorem XHouse.l4 {b : Mem} {h : Nat} {H : HS} (self : XHouse b h H) : mLen b (h + 4) = 6 := self.2.2.2.2.2.2.2.2.2.2.2.2.2.2.2.2.2.2.2.2.2.1
theorem XHouse.l5 {b : Mem} {h : Nat} {H : HS} (self : XHouse b h H) : mLen b (h + 5) = 6 := self.2.2.2.2.2.2.2.2.2.2.2.2.2.2.2.2.2.2.2.2.2.2.1
theorem XHouse.l6 {b : Mem} {h : Nat} {H : HS} (self : XHouse b h H) : mLen b (h + 6) = 12 := self.2.2.2.2.2.2.2.2.2.2.2.2.2.2.2.2.2.2.2.2.2.2.2.1
theorem XHouse.l7 {b : Mem} {h : Nat} {H : HS} (self : XHouse b h H) : mLen b (h + 7) = 6 := self.2.2.2.2.2.2.2.2.2.2.2.2.2.2.2.2.2.2.2.2.2.2.2.2.1
theorem XHouse.l8 {b : Mem} {h : Nat} {H : HS} (self : XHouse b h H) : ∀ a, a < 6 → mLen b (h + 8 + a) = 64 := self.2.2.2.2.2.2.2.2.2.2.2.2.2.2.2.2.2.2.2.2.2.2.2.2.2.1
theorem XHouse.r7 {b : Mem} {h : Nat} {H : HS} (self : XHouse b h H) : ∀ a, a < 6 → mA b (h + 7) a = some (h + 8 + a) := self.2.2.2.2.2.2.2.2.2.2.2.2.2.2.2.2.2.2.2.2.2.2.2.2.2.2.1
theorem XHouse.rows {b : Mem} {h : Nat} {H : HS} (self : XHouse b h H) : mI b h 28 = n2 H.rows := self.2.2.2.2.2.2.2.2.2.2.2.2.2.2.2.2.2.2.2.2.2.2.2.2.2.2.2.1
theorem XHouse.cols {b : Mem} {h : Nat} {H : HS} (self : XHouse b h H) : mI b h 29 = n2 H.cols := self.2.2.2.2.2.2.2.2.2.2.2.2.2.2.2.2.2.2.2.2.2.2.2.2.2.2.2.2.1
theorem XHouse.carry {b : Mem} {h : Nat} {H : HS} (self : XHouse b h H) : mI b h 30 = n2 H.carry := self.2.2.2.2.2.2.2.2.2.2.2.2.2.2.2.2.2.2.2.2.2.2.2.2.2.2.2.2.2.1
theorem XHouse.paid {b : Mem} {h : Nat} {H : HS} (self : XHouse b h H) : mI b h 31 = n2 H.paid := self.2.2.2.2.2.2.2.2.2.2.2.2.2.2.2.2.2.2.2.2.2.2.2.2.2.2.2.2.2.2.1
theorem XHouse.byRows {b : Mem} {h : Nat} {H : HS} (self : XHouse b h H) : mI b h 33 = b2i H.byRows := self.2.2.2.2.2.2.2.2.2.2.2.2.2.2.2.2.2.2.2.2.2.2.2.2.2.2.2.2.2.2.2.1
theorem XHouse.kind {b : Mem} {h : Nat} {H : HS} (self : XHouse b h H) : ∀ v, v < H.size → mI b (h + 1) v = n2 (kindX (H.kind v)) := self.2.2.2.2.2.2.2.2.2.2.2.2.2.2.2.2.2.2.2.2.2.2.2.2.2.2.2.2.2.2.2.2.1
theorem XHouse.price {b : Mem} {h : Nat} {H : HS} (self : XHouse b h H) : ∀ r, r < 8 → mI b (h + 2) r = n2 (H.price r) := self.2.2.2.2.2.2.2.2.2.2.2.2.2.2.2.2.2.2.2.2.2.2.2.2.2.2.2.2.2.2.2.2.2.1
theorem XHouse.leaves {b : Mem} {h : Nat} {H : HS} (self : XHouse b h H) : ∀ r, r < 8 → mI b (h + 3) r = i2 ((H.leaves r : Int) - 1) := self.2.2.2.2.2.2.2.2.2.2.2.2.2.2.2.2.2.2.2.2.2.2.2.2.2.2.2.2.2.2.2.2.2.2.1
theorem XHouse.up0 {b : Mem} {h : Nat} {H : HS} (self : XHouse b h H) : ∀ k, k < 6 → H.law k 0 = none → mA b (h + 4) k = none := self.2.2.2.2.2.2.2.2.2.2.2.2.2.2.2.2.2.2.2.2.2.2.2.2.2.2.2.2.2.2.2.2.2.2.2.1
theorem XHouse.up {b : Mem} {h : Nat} {H : HS} (self : XHouse b h H) : ∀ k c o, k < 6 → H.law k 0 = some (c, o) → mI b (h + 6) k = n2 o ∧ ∃ a, mA b (h + 4) k = some a ∧ CondAt b c a := self.2.2.2.2.2.2.2.2.2.2.2.2.2.2.2.2.2.2.2.2.2.2.2.2.2.2.2.2.2.2.2.2.2.2.2.2.1
theorem XHouse.down0 {b : Mem} {h : Nat} {H : HS} (self : XHouse b h H) : ∀ k, k < 6 → H.law k 1 = none → mA b (h + 5) k = none := self.2.2.2.2.2.2.2.2.2.2.2.2.2.2.2.2.2.2.2.2.2.2.2.2.2.2.2.2.2.2.2.2.2.2.2.2.2.1
theorem XHouse.down {b : Mem} {h : Nat} {H : HS} (self : XHouse b h H) : ∀ k c o, k < 6 → H.law k 1 = some (c, o) → mI b (h + 6) (6 + k) = n2 o ∧ ∃ a, mA b (h + 5) k = some a ∧ CondAt b c a := self.2.2.2.2.2.2.2.2.2.2.2.2.2.2.2.2.2.2.2.2.2.2.2.2.2.2.2.2.2.2.2.2.2.2.2.2.2.2.1
theorem XHouse.area {b : Mem} {h : Nat} {H : HS} (self : XHouse b h H) : ∀ a v, a < 6 → v < H.size → mJ b (h + 8 + a) v = H.ar a v := self.2.2.2.2.2.2.2.2.2.2.2.2.2.2.2.2.2.2.2.2.2.2.2.2.2.2.2.2.2.2.2.2.2.2.2.2.2.2.2
/-- what every house that was told keeps -/
abbrev HS.Ok (H : HS) : Prop := (H.rows ≤ 8) ∧ (H.cols ≤ 8) ∧ (H.rows = 0 ↔ H.cols = 0) ∧ (1 ≤ H.carry ∧ H.carry ≤ 64) ∧ (H.paid ≤ 600) ∧ (∀ v, H.kind v ≤ 6) ∧ (∀ r, H.price r ≤ 999) ∧ (∀ r, H.leaves r ≤ 601) ∧ (∀ k w c o, H.law k w = some (c, o) → cdep c ≤ 40 ∧ clvs c ≤ 20 ∧ 1 ≤ o ∧ o ≤ 20)
theorem HS.Ok.rows {H : HS} (self : HS.Ok H) : H.rows ≤ 8 := self.1
theorem HS.Ok.cols {H : HS} (self : HS.Ok H) : H.cols ≤ 8 := self.2.1
theorem HS.Ok.empty {H : HS} (self : HS.Ok H) : H.rows = 0 ↔ H.cols = 0 := self.2.2.1
theorem HS.Ok.carry {H : HS} (self : HS.Ok H) : 1 ≤ H.carry ∧ H.carry ≤ 64 := self.2.2.2.1
theorem HS.Ok.paid {H : HS} (self : HS.Ok H) : H.paid ≤ 600 := self.2.2.2.2.1
theorem HS.Ok.kind {H : HS} (self : HS.Ok H) : ∀ v, H.kind v ≤ 6 := self.2.2.2.2.2.1
theorem HS.Ok.price {H : HS} (self : HS.Ok H) : ∀ r, H.price r ≤ 999 := self.2.2.2.2.2.2.1
theorem HS.Ok.leaves {H : HS} (self : HS.Ok H) : ∀ r, H.leaves r ≤ 601 := self.2.2.2.2.2.2.2.1
theorem HS.Ok.dep {H : HS} (self : HS.Ok H) : ∀ k w c o, H.law k w = some (c, o) → cdep c ≤ 40 ∧ clvs c ≤ 20 ∧ 1 ≤ o ∧ o ≤ 20 := self.2.2.2.2.2.2.2.2
theorem HS.Ok.size {H : HS} (h : H.Ok) : H.size ≤ 64 := Nat.mul_le_mul h.rows h.cols
section XH
variable {b : Mem} {h : Nat} {H : HS}
theorem XHouse.dynJ (X : XHouse b h H) {j : Nat} (hj : j < 14) : dyn (h + j) := by
  have := X.at_; unfold dyn; omega
theorem XHouse.ltJ (X : XHouse b h H) {j : Nat} (hj : j < 14) : h + j < mNx b := by have := X.lt; omega
theorem XHouse.dyn0 (X : XHouse b h H) : dyn h := X.dynJ (j := 0) (by decide)
theorem XHouse.lt0 (X : XHouse b h H) : h < mNx b := X.ltJ (j := 0) (by decide)
end XH
section Holds
variable {b : Mem} {x : XS} {q : Bool} {h : Nat} {H : HS}
def vw (y : NX) (l : Nat) : Int64 := (y.wasWith l &&& (y.ahead ^^^ (-1 : Int64))) ||| (y.wth l &&& y.ahead)
theorem X_perceives (hb : 131 ≤ mNx b) (X : XHouse b h H) (hh : (x.n q).h = some h) {s area level : Nat} (hs : s < H.size) (h64 : H.size ≤ 64) (ha : area < 6) (hl : level < 3) :
    fX3_perceives (some (nid q)) (n2 s) (n2 area) (n2 level) (mkX b x) = some (pc (H.ar area s &&& vw (x.n q) level), mkX b x) := by
  unfold fX3_perceives
  have e1 : gA (mkX b x) (some h) 40 = some (some (h + 7)) := by rw [dA X.dyn0 X.lt0 X.tag (by decide), X.r40]
  have e2 : aA (mkX b x) (some (h + 7)) (n2 area) = some (some (h + 8 + area)) := by
    rw [dRA (X.dynJ (by decide)) (X.ltJ (by decide)) X.t7 (by decide) X.l7, ifx_n2 ha (by decide), n2_nat (by omega), X.r7 _ ha]
  have e3 : aJ (mkX b x) (some (h + 8 + area)) (n2 s) = some (H.ar area s) := by
    rw [dRJ (by rw [Nat.add_assoc]; exact X.dynJ (by omega)) (by rw [Nat.add_assoc]; exact X.ltJ (by omega)) (X.t8 _ ha) (X.l8 _ ha), ifx_n2 (by omega) (by decide), n2_nat (by omega), X.area _ _ ha hs]
  have hl' : (n2 level).toNatClampNeg = level := n2_nat (by omega)
  simp -implicitDefEqProofs only [gX_2 hb, gX_3 hb, gX_12 hb, gX_16 hb, gX_20 hb, gX_21 hb, gX_22 hb, gX_23 hb, gX_5 hb, gX_6 hb, gX_17 hb, gX_4 hb, gX_7 hb, gK_152 hb, gK_153 hb, gK_154 hb, gN_44 hb, gN_45 hb, gN_46 hb, gN_42 hb, gN_43 hb, gN_54 hb, gN_41 hb, gN_47 hb, gX_8 hb, gX_9 hb, gX_27 hb, gX_1 hb, gX_10 hb, gX_11 hb, gX_13 hb, gX_14 hb, gX_15 hb, gX_18 hb, gX_19 hb, gX_24 hb, gX_25 hb, gX_26 hb, gN_48 hb, gN_49 hb, gN_50 hb, gN_51 hb, gN_52 hb, gN_53 hb, aX_65 hb, nX_65 hb, aX_95 hb, nX_95 hb, aX_96 hb, nX_96 hb, aX_97 hb, nX_97 hb, aX_98 hb, nX_98 hb, aX_99 hb, nX_99 hb, aX_100 hb, nX_100 hb, aX_101 hb, nX_101 hb, aX_102 hb, nX_102 hb, aX_103 hb, nX_103 hb, aX_104 hb, nX_104 hb, aX_130 hb, nX_130 hb, aN_was hb, aN_level hb, aN_wasHeld hb, aN_held hb, aN_wasWith hb, aN_wth hb, ivX hb, ivN hb, ivK hb, pX_2 hb, pX_3 hb, pX_12 hb, pX_16 hb, pX_20 hb, pX_21 hb, pX_22 hb, pX_23 hb, pX_5 hb, pX_6 hb, pX_17 hb, pX_4 hb, pX_7 hb, pK_152 hb, pK_153 hb, pK_154 hb, pN_44 hb, pN_45 hb, pN_46 hb, pN_42 hb, pN_43 hb, pN_54 hb, pN_41 hb, pN_47 hb, uX_65 hb, uX_95 hb, uX_96 hb, uX_97 hb, uX_98 hb, uX_99 hb, uX_100 hb, uX_101 hb, uX_103 hb, uX_104 hb, uX_130 hb, uN_was hb, uN_level hb, uN_wasHeld hb, uN_held hb, uN_wasWith hb, uN_wth hb, Option.bind_some, bd_some, setN_n, setN_setN, setN_taped, setN_fault, setN_bought, setN_worthMany, setN_beganFirst, setN_beganSecond, setN_seed, setN_arranged, setN_paid, setN_hiss, setN_orders, setN_house, setN_cues, setN_tape, setN_states, setN_asked, setN_carriesSet, setN_heights, setN_worth, setN_mouths, setN_sided, setN_keptHouse, setN_keptPaid, setN_keptHiss, setN_kMod, setN_kData, setN_kSize, setN_out, NX.s_now, NX.s_next, NX.s_isStill, NX.s_paid, NX.s_hiss, NX.s_ahead, NX.s_h, NX.s_cues, NX.s_sw, NX.s_was, NX.s_level, NX.s_wasHeld, NX.s_held, NX.s_wasWith, NX.s_wth, mk_XS_taped, mk_XS_fault, mk_XS_bought, mk_XS_worthMany, mk_XS_beganFirst, mk_XS_beganSecond, mk_XS_seed, mk_XS_arranged, mk_XS_paid, mk_XS_hiss, mk_XS_orders, mk_XS_house, mk_XS_cues, mk_XS_tape, mk_XS_states, mk_XS_asked, mk_XS_carriesSet, mk_XS_heights, mk_XS_worth, mk_XS_mouths, mk_XS_sided, mk_XS_keptHouse, mk_XS_keptPaid, mk_XS_keptHiss, mk_XS_kMod, mk_XS_kData, mk_XS_kSize, mk_XS_out, mk_XS_n0, mk_XS_n1, mk_NX_now, mk_NX_next, mk_NX_isStill, mk_NX_paid, mk_NX_hiss, mk_NX_ahead, mk_NX_h, mk_NX_cues, mk_NX_sw, mk_NX_was, mk_NX_level, mk_NX_wasHeld, mk_NX_held, mk_NX_wasWith, mk_NX_wth, hh, e1, e2, e3, ifx_n2 hl (show 3 ≤ 100000 by decide), hl', pcX]
  rfl
theorem X_cmp {s a sign : Nat} {num v : Int32} (hd : dyn a) (hl : a < mNx b) {t : Nat} (ht : mTag b a = t) (h8 : t = 8 ∨ t = 9 ∨ t = 10) (hs : sign < 3) (h1 : mI b a 142 = n2 (60 + sign)) (h2 : mI b a 143 = num)
    (hv : vX10_value (some a) (some (nid q)) (n2 s) (mkX b x) = some (v, mkX b x)) : fX10_holds (some a) (some (nid q)) (n2 s) (mkX b x) = some (b2i (cmpS sign v num), mkX b x) := by
  unfold fX10_holds
  have g1 : gI (mkX b x) (some a) 142 = some (n2 (60 + sign)) := by rw [dI hd hl ht (by rcases h8 with rfl | rfl | rfl <;> decide), h1]
  have g2 : gI (mkX b x) (some a) 143 = some num := by rw [dI hd hl ht (by rcases h8 with rfl | rfl | rfl <;> decide), h2]
  simp only [hv, bd_some, g1, g2, Option.bind_some]
  match sign, hs with
  | 0, _ =>
    rw [if_neg (by decide)]
    by_cases c : num ≤ v
    · rw [if_pos c]; simp only [cmpS, if_true, show decide (v < num) = false from decide_eq_false (Int32.not_lt.mpr c)]; rfl
    · rw [if_neg c]; simp only [cmpS, if_true, show decide (v < num) = true from decide_eq_true (Int32.not_le.mp c)]; rfl
  | 1, _ =>
    rw [if_pos (by decide), if_neg (by decide)]
    by_cases c : v = num
    · rw [if_neg (fun h => h c)]; simp only [cmpS, if_true, show decide (v = num) = true from decide_eq_true c]; rfl
    · rw [if_pos c]; simp only [cmpS, if_true, show decide (v = num) = false from decide_eq_false c]; rfl
  | 2, _ =>
    rw [if_pos (by decide), if_pos (by decide)]
    by_cases c : v ≤ num
    · rw [if_pos c]; simp only [cmpS, show decide (num < v) = false from decide_eq_false (Int32.not_lt.mpr c)]; rfl
    · rw [if_neg c]; simp only [cmpS, show decide (num < v) = true from decide_eq_true (Int32.not_le.mp c)]; rfl
theorem X_holds (hb : 131 ≤ mNx b) (X : XHouse b h H) (hh : (x.n q).h = some h) {s : Nat} (hs : s < H.size) (h64 : H.size ≤ 64) : ∀ (c : Cd) (a d : Nat), CondAt b c a → cdep c ≤ d →
    vX8_holds d (some a) (some (nid q)) (n2 s) (mkX b x) = some (b2i (cev (fun a => H.ar a s) (vw (x.n q) 1) (vw (x.n q) 2) ((x.n q).was s) ((x.n q).wasHeld s) c), mkX b x)
  | .neg c, a, 0, _, hd => by simp [cdep] at hd
  | .add c e, a, 0, _, hd => by simp [cdep] at hd
  | .sub c e, a, 0, _, hd => by simp [cdep] at hd
  | .var _, a, 0, _, hd => by simp [cdep] at hd
  | .neg c, a, d + 1, hc, hd => by
    obtain ⟨⟨h1, h2⟩, h3, p, h4, h5⟩ := hc
    have r := X_holds hb X hh hs h64 c p d h5 (by simp only [cdep] at hd; omega)
    have g : gA (mkX b x) (some a) 141 = some (some p) := by rw [dA h1 h2 h3 (by decide), h4]
    unfold vX8_holds fX9_holds
    rw [dtg h1 h3]
    simp only [show [11].contains 7 = true ↔ False by decide, show [8, 9, 10].contains 7 = true ↔ False by decide, show [7].contains 7 = true ↔ True by decide, if_true, if_false, div_ h1 h2 h3 (show [7].contains 7 = true by decide), g, r, bd_some, Option.bind_some, b2i_0, cev]
    cases cev (fun a => H.ar a s) (vw (x.n q) 1) (vw (x.n q) 2) ((x.n q).was s) ((x.n q).wasHeld s) c <;> rfl
  | .add c e, a, d + 1, hc, hd => by
    obtain ⟨⟨h1, h2⟩, h3, p, p', h4, h4', h5, h5'⟩ := hc
    simp only [cdep] at hd
    have r := X_holds hb X hh hs h64 c p d h5 (by omega)
    have r' := X_holds hb X hh hs h64 e p' d h5' (by omega)
    have g : gA (mkX b x) (some a) 146 = some (some p) := by rw [dA h1 h2 h3 (by decide), h4]
    have g' : gA (mkX b x) (some a) 147 = some (some p') := by rw [dA h1 h2 h3 (by decide), h4']
    unfold vX8_holds fX15_holds bX15_holds_28
    rw [dtg h1 h3]
    simp only [show [11].contains 11 = true ↔ True by decide, if_true, div_ h1 h2 h3 (show [11].contains 11 = true by decide), g, g', r, r', bd_some, Option.bind_some, b2i_0, cev]
    cases cev (fun a => H.ar a s) (vw (x.n q) 1) (vw (x.n q) 2) ((x.n q).was s) ((x.n q).wasHeld s) c <;> cases cev (fun a => H.ar a s) (vw (x.n q) 1) (vw (x.n q) 2) ((x.n q).was s) ((x.n q).wasHeld s) e <;> rfl
  | .sub c e, a, d + 1, hc, hd => by
    obtain ⟨⟨h1, h2⟩, h3, p, p', h4, h4', h5, h5'⟩ := hc
    simp only [cdep] at hd
    have r := X_holds hb X hh hs h64 c p d h5 (by omega)
    have r' := X_holds hb X hh hs h64 e p' d h5' (by omega)
    have g : gA (mkX b x) (some a) 146 = some (some p) := by rw [dA h1 h2 h3 (by decide), h4]
    have g' : gA (mkX b x) (some a) 147 = some (some p') := by rw [dA h1 h2 h3 (by decide), h4']
    unfold vX8_holds fX16_holds bX16_holds_24
    rw [dtg h1 h3]
    simp only [show [11].contains 12 = true ↔ False by decide, show [8, 9, 10].contains 12 = true ↔ False by decide, show [7].contains 12 = true ↔ False by decide, show [12].contains 12 = true ↔ True by decide, if_true, if_false, div_ h1 h2 h3 (show [12].contains 12 = true by decide), g, g', r, r', bd_some, Option.bind_some, b2i_0, cev]
    cases cev (fun a => H.ar a s) (vw (x.n q) 1) (vw (x.n q) 2) ((x.n q).was s) ((x.n q).wasHeld s) c <;> cases cev (fun a => H.ar a s) (vw (x.n q) 1) (vw (x.n q) 2) ((x.n q).was s) ((x.n q).wasHeld s) e <;> rfl
  | .var w, a, d + 1, hc, hd => by
    obtain ⟨⟨h1, h2⟩, ⟨o1, o2, o3, o4, o5⟩, h3, e1, e2, e3⟩ := hc
    have l : s < 64 := by omega
    have hv : vX10_value (some a) (some (nid q)) (n2 s) (mkX b x) = some (leafV (fun a => H.ar a s) (vw (x.n q) 1) (vw (x.n q) 2) ((x.n q).was s) ((x.n q).wasHeld s) w, mkX b x) := by
      unfold vX10_value leafV
      rw [dtg h1 h3]
      rcases (by omega : lk w = 0 ∨ lk w = 1 ∨ lk w = 2) with e | e | e
      · obtain ⟨e4, e5⟩ := e3 e
        rw [e] at h3
        have g3 : gI (mkX b x) (some a) 144 = some (n2 (la w)) := by rw [dI h1 h2 h3 (by decide), e4]
        have g4 : gI (mkX b x) (some a) 145 = some (n2 (ll w)) := by rw [dI h1 h2 h3 (by decide), e5]
        unfold fX11_value
        simp only [e, Nat.add_zero, show [10].contains 8 = true ↔ False by decide, show [8].contains 8 = true ↔ True by decide, if_true, if_false, div_ h1 h2 h3 (show [8].contains 8 = true by decide), g3, g4, Option.bind_some, ivN hb, X_perceives hb X hh hs h64 o3 (show ll w < 3 by have := o4 e; omega), bd_some, show ¬ (0 : Nat) = 1 by decide, show ¬ (0 : Nat) = 2 by decide]
        rcases o4 e with e6 | e6 <;> rw [e6] <;> rfl
      · rw [e] at h3
        unfold fX12_value
        simp only [e, show 8 + 1 = 9 from rfl, show [10].contains 9 = true ↔ False by decide, show [8].contains 9 = true ↔ False by decide, show [9].contains 9 = true ↔ True by decide, if_true, if_false, div_ h1 h2 h3 (show [9].contains 9 = true by decide), gN_48 hb, aN_was hb, ifx_n2 l (show 64 ≤ 100000 by decide), n2_nat (show s < 2147483648 by omega), Option.bind_some, bd_some]
      · rw [e] at h3
        unfold fX13_value
        simp only [e, show 8 + 2 = 10 from rfl, show [10].contains 10 = true ↔ True by decide, if_true, div_ h1 h2 h3 (show [10].contains 10 = true by decide), gN_50 hb, aN_wasHeld hb, ifx_n2 l (show 64 ≤ 100000 by decide), n2_nat (show s < 2147483648 by omega), Option.bind_some, bd_some, show ¬ (2 : Nat) = 1 by decide, if_false]
    have h8 : 8 + lk w = 8 ∨ 8 + lk w = 9 ∨ 8 + lk w = 10 := by omega
    have r := X_cmp h1 h2 h3 h8 o5 e1 e2 hv
    unfold vX8_holds
    rw [dtg h1 h3]
    have c1 : [11].contains (8 + lk w) = true ↔ False := by rcases h8 with h | h | h <;> rw [h] <;> decide
    have c2 : [8, 9, 10].contains (8 + lk w) = true := by rcases h8 with h | h | h <;> rw [h] <;> decide
    simp only [c1, if_false, c2, if_true, div_ h1 h2 h3 c2, r, cev]
end Holds
