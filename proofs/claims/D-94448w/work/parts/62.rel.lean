set_option linter.unusedVariables false
set_option linter.unusedSimpArgs false
set_option maxRecDepth 100000
/-! ===== both systems beside one another ===== -/
def KRel (b : Mem) (kh : Rf) (ik : Int32) (r : Nat → Int32) (xp mp xi mi : Int64) : Option (HS × List Cu) → Prop
  | none => kh = none ∧ ik = 0
  | some (H, C) => ∃ h, kh = some h ∧ XHouse b h H ∧ H.Ok ∧ H.ArOk ∧ ik = 1 ∧ MHouse r H ∧ MCues r C ∧ xp = mp ∧ xi = mi
/-- a String of bytes -/
def StrAt (b : Mem) (a : Nat) (l : List Nat) : Prop := (dyn a ∧ a < mNx b) ∧ mTag b a = 19 ∧ mI b a 156 = 0 ∧ ∃ d, mA b a 155 = some d ∧ (dyn d ∧ d < mNx b) ∧ mTag b d = 100 ∧ mLen b d = l.length ∧ ∀ i (h : i < l.length), mI b d i = n2 l[i]
/-- the String constants, at 2 * i -/
def strB : List (List Nat) := [[97, 116], [112, 97, 121], [104, 105, 115, 115], [102, 114, 101, 101], [115, 116, 105, 108, 108], [114, 111, 119], [117, 112], [100, 111, 119, 110], [112, 114, 105, 99, 101], [108, 101, 97, 118, 101, 115], [99, 97, 114, 114, 121], [112, 97, 105, 100], [114, 111, 119, 115], [111, 114], [97, 110, 100], [110, 101, 97, 114], [97, 104, 101, 97, 100], [98, 101, 115, 105, 100, 101], [98, 101, 104, 105, 110, 100], [115, 101, 101, 110], [104, 111, 117, 115, 101], [110, 111, 116], [115, 101, 108, 102], [104, 101, 108, 100], [], [59, 60, 61, 62, 40, 41]]
def Frz (b : Mem) : Prop := (∀ i (h : i < strB.length), StrAt b (2 * i) strB[i]) ∧ mTag b 52 = 104 ∧ mLen b 52 = 0
abbrev Duo (b : Mem) (x : XS) (m : MS) (H : HS) (C : List Cu) (h c : Nat) (K : Nat → Option (HS × List Cu)) : Prop := (131 ≤ mNx b) ∧ (Frz b) ∧ (H.Ok) ∧ (H.ArOk) ∧ (XHouse b h H) ∧ (x.house = some h) ∧ (XCues b c C) ∧ (x.cues = some c) ∧ (MHouse m.s H) ∧ (MCues m.s C) ∧ (m.lays = 0 → MArea m H) ∧ (m.lays = 0 ∨ m.lays = 1) ∧ (x.tape = m.tape) ∧ (∃ k, k ≤ 940 ∧ x.taped = n2 k ∧ m.length = n2 k) ∧ (x.fault = m.r.fault) ∧ (x.paid = m.seatsPaid) ∧ (x.hiss = m.seatsHiss) ∧ (x.bought = m.c.bought) ∧ (∃ k, k ≤ 8 ∧ x.worthMany = n2 k ∧ m.c.worthMany = n2 k ∧ (∀ i, i < k → x.worth i = m.c.worths i ∧ -1000000000000000 ≤ (x.worth i).toInt ∧ (x.worth i).toInt ≤ 1000000000000000) ∧ (0 < k → x.orders = m.c.allOrders ∧ 1 ≤ x.orders.toInt ∧ x.orders.toInt ≤ 40320)) ∧ ((m.c.hasSides = 0 ∧ ∀ i, i < 3 → x.sided i = -1) ∨ (m.c.hasSides = 1 ∧ ∀ i, i < 3 → x.sided i = m.c.side i)) ∧ (x.beganFirst = m.c.beganA) ∧ (x.beganSecond = m.c.beganB) ∧ (x.arranged = m.arranged) ∧ (∀ k, k < 2 → KRel b (x.keptHouse k) (m.isKept k) (fun i => m.kept (681 * k + i)) (x.keptPaid k) (m.keptPaid k) (x.keptHiss k) (m.keptHiss k) (K k)) ∧ ((x.kSize = 0 ∧ x.kData = some 52 ∧ ∀ k, k < 2 → K k = none) ∨ (x.kSize = 2 ∧ ∃ d, x.kData = some d ∧ (dyn d ∧ d < mNx b ∧ 64 ≤ d) ∧ mTag b d = 104 ∧ 2 ≤ mLen b d ∧ ∀ k, k < 2 → ∃ e, mA b d k = some e ∧ (dyn e ∧ e < mNx b ∧ mTag b e = 18) ∧ ∀ H' C', K k = some (H', C') → XCues b e C'))
theorem Duo.hb {b : Mem} {x : XS} {m : MS} {H : HS} {C : List Cu} {h c : Nat} {K : Nat → Option (HS × List Cu)} (self : Duo b x m H C h c K) : 131 ≤ mNx b := self.1
theorem Duo.fz {b : Mem} {x : XS} {m : MS} {H : HS} {C : List Cu} {h c : Nat} {K : Nat → Option (HS × List Cu)} (self : Duo b x m H C h c K) : Frz b := self.2.1
theorem Duo.ok {b : Mem} {x : XS} {m : MS} {H : HS} {C : List Cu} {h c : Nat} {K : Nat → Option (HS × List Cu)} (self : Duo b x m H C h c K) : H.Ok := self.2.2.1
theorem Duo.ar {b : Mem} {x : XS} {m : MS} {H : HS} {C : List Cu} {h c : Nat} {K : Nat → Option (HS × List Cu)} (self : Duo b x m H C h c K) : H.ArOk := self.2.2.2.1
theorem Duo.XH {b : Mem} {x : XS} {m : MS} {H : HS} {C : List Cu} {h c : Nat} {K : Nat → Option (HS × List Cu)} (self : Duo b x m H C h c K) : XHouse b h H := self.2.2.2.2.1
theorem Duo.xh {b : Mem} {x : XS} {m : MS} {H : HS} {C : List Cu} {h c : Nat} {K : Nat → Option (HS × List Cu)} (self : Duo b x m H C h c K) : x.house = some h := self.2.2.2.2.2.1
theorem Duo.XC {b : Mem} {x : XS} {m : MS} {H : HS} {C : List Cu} {h c : Nat} {K : Nat → Option (HS × List Cu)} (self : Duo b x m H C h c K) : XCues b c C := self.2.2.2.2.2.2.1
theorem Duo.xc {b : Mem} {x : XS} {m : MS} {H : HS} {C : List Cu} {h c : Nat} {K : Nat → Option (HS × List Cu)} (self : Duo b x m H C h c K) : x.cues = some c := self.2.2.2.2.2.2.2.1
theorem Duo.MH {b : Mem} {x : XS} {m : MS} {H : HS} {C : List Cu} {h c : Nat} {K : Nat → Option (HS × List Cu)} (self : Duo b x m H C h c K) : MHouse m.s H := self.2.2.2.2.2.2.2.2.1
theorem Duo.MC {b : Mem} {x : XS} {m : MS} {H : HS} {C : List Cu} {h c : Nat} {K : Nat → Option (HS × List Cu)} (self : Duo b x m H C h c K) : MCues m.s C := self.2.2.2.2.2.2.2.2.2.1
theorem Duo.lays {b : Mem} {x : XS} {m : MS} {H : HS} {C : List Cu} {h c : Nat} {K : Nat → Option (HS × List Cu)} (self : Duo b x m H C h c K) : m.lays = 0 → MArea m H := self.2.2.2.2.2.2.2.2.2.2.1
theorem Duo.l01 {b : Mem} {x : XS} {m : MS} {H : HS} {C : List Cu} {h c : Nat} {K : Nat → Option (HS × List Cu)} (self : Duo b x m H C h c K) : m.lays = 0 ∨ m.lays = 1 := self.2.2.2.2.2.2.2.2.2.2.2.1
theorem Duo.tape {b : Mem} {x : XS} {m : MS} {H : HS} {C : List Cu} {h c : Nat} {K : Nat → Option (HS × List Cu)} (self : Duo b x m H C h c K) : x.tape = m.tape := self.2.2.2.2.2.2.2.2.2.2.2.2.1
theorem Duo.len {b : Mem} {x : XS} {m : MS} {H : HS} {C : List Cu} {h c : Nat} {K : Nat → Option (HS × List Cu)} (self : Duo b x m H C h c K) : ∃ k, k ≤ 940 ∧ x.taped = n2 k ∧ m.length = n2 k := self.2.2.2.2.2.2.2.2.2.2.2.2.2.1
theorem Duo.fault {b : Mem} {x : XS} {m : MS} {H : HS} {C : List Cu} {h c : Nat} {K : Nat → Option (HS × List Cu)} (self : Duo b x m H C h c K) : x.fault = m.r.fault := self.2.2.2.2.2.2.2.2.2.2.2.2.2.2.1
theorem Duo.paid {b : Mem} {x : XS} {m : MS} {H : HS} {C : List Cu} {h c : Nat} {K : Nat → Option (HS × List Cu)} (self : Duo b x m H C h c K) : x.paid = m.seatsPaid := self.2.2.2.2.2.2.2.2.2.2.2.2.2.2.2.1
theorem Duo.hiss {b : Mem} {x : XS} {m : MS} {H : HS} {C : List Cu} {h c : Nat} {K : Nat → Option (HS × List Cu)} (self : Duo b x m H C h c K) : x.hiss = m.seatsHiss := self.2.2.2.2.2.2.2.2.2.2.2.2.2.2.2.2.1
theorem Duo.bought {b : Mem} {x : XS} {m : MS} {H : HS} {C : List Cu} {h c : Nat} {K : Nat → Option (HS × List Cu)} (self : Duo b x m H C h c K) : x.bought = m.c.bought := self.2.2.2.2.2.2.2.2.2.2.2.2.2.2.2.2.2.1
theorem Duo.worth {b : Mem} {x : XS} {m : MS} {H : HS} {C : List Cu} {h c : Nat} {K : Nat → Option (HS × List Cu)} (self : Duo b x m H C h c K) : ∃ k, k ≤ 8 ∧ x.worthMany = n2 k ∧ m.c.worthMany = n2 k ∧ (∀ i, i < k → x.worth i = m.c.worths i ∧ -1000000000000000 ≤ (x.worth i).toInt ∧ (x.worth i).toInt ≤ 1000000000000000) ∧ (0 < k → x.orders = m.c.allOrders ∧ 1 ≤ x.orders.toInt ∧ x.orders.toInt ≤ 40320) := self.2.2.2.2.2.2.2.2.2.2.2.2.2.2.2.2.2.2.1
theorem Duo.sided {b : Mem} {x : XS} {m : MS} {H : HS} {C : List Cu} {h c : Nat} {K : Nat → Option (HS × List Cu)} (self : Duo b x m H C h c K) : (m.c.hasSides = 0 ∧ ∀ i, i < 3 → x.sided i = -1) ∨ (m.c.hasSides = 1 ∧ ∀ i, i < 3 → x.sided i = m.c.side i) := self.2.2.2.2.2.2.2.2.2.2.2.2.2.2.2.2.2.2.2.1
theorem Duo.b1 {b : Mem} {x : XS} {m : MS} {H : HS} {C : List Cu} {h c : Nat} {K : Nat → Option (HS × List Cu)} (self : Duo b x m H C h c K) : x.beganFirst = m.c.beganA := self.2.2.2.2.2.2.2.2.2.2.2.2.2.2.2.2.2.2.2.2.1
theorem Duo.b2 {b : Mem} {x : XS} {m : MS} {H : HS} {C : List Cu} {h c : Nat} {K : Nat → Option (HS × List Cu)} (self : Duo b x m H C h c K) : x.beganSecond = m.c.beganB := self.2.2.2.2.2.2.2.2.2.2.2.2.2.2.2.2.2.2.2.2.2.1
theorem Duo.arranged {b : Mem} {x : XS} {m : MS} {H : HS} {C : List Cu} {h c : Nat} {K : Nat → Option (HS × List Cu)} (self : Duo b x m H C h c K) : x.arranged = m.arranged := self.2.2.2.2.2.2.2.2.2.2.2.2.2.2.2.2.2.2.2.2.2.2.1
theorem Duo.kept {b : Mem} {x : XS} {m : MS} {H : HS} {C : List Cu} {h c : Nat} {K : Nat → Option (HS × List Cu)} (self : Duo b x m H C h c K) : ∀ k, k < 2 → KRel b (x.keptHouse k) (m.isKept k) (fun i => m.kept (681 * k + i)) (x.keptPaid k) (m.keptPaid k) (x.keptHiss k) (m.keptHiss k) (K k) := self.2.2.2.2.2.2.2.2.2.2.2.2.2.2.2.2.2.2.2.2.2.2.2.1
theorem Duo.keptC {b : Mem} {x : XS} {m : MS} {H : HS} {C : List Cu} {h c : Nat} {K : Nat → Option (HS × List Cu)} (self : Duo b x m H C h c K) : (x.kSize = 0 ∧ x.kData = some 52 ∧ ∀ k, k < 2 → K k = none) ∨ (x.kSize = 2 ∧ ∃ d, x.kData = some d ∧ (dyn d ∧ d < mNx b ∧ 64 ≤ d) ∧ mTag b d = 104 ∧ 2 ≤ mLen b d ∧ ∀ k, k < 2 → ∃ e, mA b d k = some e ∧ (dyn e ∧ e < mNx b ∧ mTag b e = 18) ∧ ∀ H' C', K k = some (H', C') → XCues b e C') := self.2.2.2.2.2.2.2.2.2.2.2.2.2.2.2.2.2.2.2.2.2.2.2.2
def MS.th (m : MS) (v : Int32) : MS := (MS.mk (v) (m.length) (m.seatsPaid) (m.seatsHiss) (m.lays) (m.arranged) (m.tape) (m.s) (m.area) (m.kept) (m.keptPaid) (m.keptHiss) (m.isKept) (m.r) (m.h) (m.n) (m.c))
section Rel1
variable {b : Mem} {x : XS} {m : MS} {H : HS} {C : List Cu} {h c : Nat} {K : Nat → Option (HS × List Cu)}
theorem Duo.th {v : Int32} (R : Duo b x m H C h c K) : Duo b x (m.th v) H C h c K := ⟨R.hb, R.fz, R.ok, R.ar, R.XH, R.xh, R.XC, R.xc, R.MH, R.MC, R.lays, R.l01, R.tape, R.len, R.fault, R.paid, R.hiss, R.bought, R.worth, R.sided, R.b1, R.b2, R.arranged, R.kept, R.keptC⟩
theorem Duo.nX {z : NX} (R : Duo b x m H C h c K) : Duo b (x.setN false z) m H C h c K := ⟨R.hb, R.fz, R.ok, R.ar, R.XH, R.xh, R.XC, R.xc, R.MH, R.MC, R.lays, R.l01, R.tape, R.len, R.fault, R.paid, R.hiss, R.bought, R.worth, R.sided, R.b1, R.b2, R.arranged, R.kept, R.keptC⟩
theorem Duo.nY {z : NX} (R : Duo b x m H C h c K) : Duo b (x.setN true z) m H C h c K := ⟨R.hb, R.fz, R.ok, R.ar, R.XH, R.xh, R.XC, R.xc, R.MH, R.MC, R.lays, R.l01, R.tape, R.len, R.fault, R.paid, R.hiss, R.bought, R.worth, R.sided, R.b1, R.b2, R.arranged, R.kept, R.keptC⟩
theorem Duo.lay {g : Nat → Int64} {y : MN} (R : Duo b x m H C h c K) (ha : MArea (m.lay g y) H) : Duo b x (m.lay g y) H C h c K := ⟨R.hb, R.fz, R.ok, R.ar, R.XH, R.xh, R.XC, R.xc, R.MH, R.MC, fun _ => ha, Or.inl rfl, R.tape, R.len, R.fault, R.paid, R.hiss, R.bought, R.worth, R.sided, R.b1, R.b2, R.arranged, R.kept, R.keptC⟩
end Rel1
/-- a seat, by an int -/
def seatI (H : HS) (a : Int32) : Bool := seatZ H a.toInt
theorem seatI_true {H : HS} {a : Int32} (h : seatI H a = true) : ∃ v : Nat, v < H.size ∧ H.kind v ≠ 0 ∧ a = n2 v := by
  unfold seatI seatZ at h
  simp -implicitDefEqProofs only [Bool.and_eq_true, decide_eq_true_eq] at h
  refine ⟨a.toInt.toNat, by omega, h.2, ?_⟩
  rw [n2_i2, Int.toNat_of_nonneg h.1.1, i2_inv]
theorem seatI_n2 {H : HS} {v : Nat} (hv : v < 2147483648) : seatI H (n2 v) = (decide (v < H.size) && decide (H.kind v ≠ 0)) := by
  unfold seatI seatZ
  rw [n2_i2, i2_int (by omega) (by omega), Int.toNat_natCast]
  congr 1
  exact decide_eq_decide.mpr (by omega)
theorem in_true {a : Int32} {l u : Nat} (hu : u < 2147483648) (hl : l < 2147483648) (h : decide (n2 l ≤ a ∧ a ≤ n2 u) = true) : ∃ k : Nat, l ≤ k ∧ k ≤ u ∧ a = n2 k := by
  have h2 := of_decide_eq_true h
  obtain ⟨z, rfl, z1, z2⟩ := i2_ex a
  rw [ni_le hl z1 z2, in_le hu z1 z2] at h2
  exact ⟨z.toNat, by omega, by omega, by rw [n2_i2, Int.toNat_of_nonneg (by omega)]⟩
section Rel2
variable {b b' : Mem} {n s : Nat} {x : XS} {m : MS} {H : HS} {h : Nat}
theorem X_isSeatI (X : XHouse b h H) (ok : H.Ok) (a : Int32) : fX2_isSeat (some h) a (mkX b x) = some (b2i (seatI H a), mkX b x) := by
  have := X_isSeat (x := x) X ok (v := a.toInt) (Int32.le_toInt a) (Int32.toInt_lt a)
  rw [i2_inv] at this; exact this
theorem M_isSeatI (hH : MHouse m.s H) (ok : H.Ok) (a : Int32) : fX4_isSeat (some 106) a (mkM b n s m) = some (b2i (seatI H a), mkM b n s m) := by
  have h64 := ok.size
  have r0 : ifx 681 (0 : Int32) (m.s (0 : Int32).toNatClampNeg) = some (n2 H.rows) := (rd_s (k := 0) (by decide)).trans (congrArg some hH.rows)
  have r1 : ifx 681 (1 : Int32) (m.s (1 : Int32).toNatClampNeg) = some (n2 H.cols) := (rd_s (k := 1) (by decide)).trans (congrArg some hH.cols)
  obtain ⟨v, rfl, h0, h1⟩ := i2_ex a
  have s1 : n2 H.rows * n2 H.cols - (1 : Int32) = i2 ((H.size : Int) - 1) := by rw [n2_mul]; exact i2_sub (H.size : Int) 1
  have d1 : decide ((0 : Int32) ≤ i2 v ∧ i2 v ≤ i2 ((H.size : Int) - 1)) = decide (0 ≤ v ∧ v < H.size) := by
    rw [show (0 : Int32) = i2 0 from rfl]
    have e1 : (i2 0 ≤ i2 v) = (0 ≤ v) := i2_le (by omega) (by omega)
    have e2 : (i2 v ≤ i2 ((H.size : Int) - 1)) = (v ≤ (H.size : Int) - 1) := i2_le (by omega) (by omega)
    simp -implicitDefEqProofs only [e1, e2]
    exact decide_eq_decide.mpr (by omega)
  unfold fX4_isSeat bX4_isSeat_39 seatI seatZ
  simp -implicitDefEqProofs only [gM_55, gM_57, gM_58, gM_59, gM_60, gM_64, gM_65, gM_66, gM_67, gM_68, gM_69, gM_70, gM_71, gM_72, gM_73, gM_74, gM_75, gM_76, gM_77, gM_81, gM_82, gM_83, gM_85, gM_86, gM_91, gM_92, gM_93, gM_94, gM_95, gM_96, gM_97, gM_98, gM_99, gM_100, gM_102, gM_103, gM_107, gM_108, gM_110, gM_111, gM_112, gM_113, gM_114, gM_115, gM_118, gM_119, gM_56, aM_107, nM_107, gM_61, aM_108, nM_108, gM_62, aM_109, nM_109, gM_63, aM_110, nM_110, gM_78, aM_111, nM_111, gM_79, aM_112, nM_112, gM_80, aM_113, nM_113, gM_84, aM_114, nM_114, gM_87, aM_115, nM_115, gM_88, aM_116, nM_116, gM_89, aM_117, nM_117, gM_90, aM_118, nM_118, gM_101, aM_119, nM_119, gM_104, aM_120, nM_120, gM_105, aM_121, nM_121, gM_106, aM_122, nM_122, gM_109, aM_123, nM_123, gM_116, aM_124, nM_124, gM_117, aM_125, nM_125, gM_120, aM_126, nM_126, gM_121, aM_127, nM_127, gM_122, aM_128, nM_128, gM_123, aM_129, nM_129, pM_55, pM_57, pM_58, pM_59, pM_60, pM_64, pM_65, pM_66, pM_67, pM_68, pM_69, pM_70, pM_71, pM_72, pM_73, pM_74, pM_75, pM_76, pM_77, pM_81, pM_82, pM_83, pM_85, pM_86, pM_91, pM_92, pM_93, pM_94, pM_95, pM_96, pM_97, pM_98, pM_99, pM_100, pM_102, pM_103, pM_107, pM_108, pM_110, pM_111, pM_112, pM_113, pM_114, pM_115, pM_118, pM_119, uM_107, uM_108, uM_109, uM_110, uM_111, uM_112, uM_113, uM_114, uM_115, uM_116, uM_117, uM_118, uM_119, uM_120, uM_121, uM_122, uM_123, uM_124, uM_125, uM_126, uM_127, uM_128, uM_129, ivM, Option.bind_some, bd_some, mk_MS_thrown, mk_MS_length, mk_MS_seatsPaid, mk_MS_seatsHiss, mk_MS_lays, mk_MS_arranged, mk_MS_tape, mk_MS_s, mk_MS_area, mk_MS_kept, mk_MS_keptPaid, mk_MS_keptHiss, mk_MS_isKept, mk_MS_r, mk_MS_h, mk_MS_n, mk_MS_c, mk_MR_size, mk_MR_p, mk_MR_limit, mk_MR_token, mk_MR_place, mk_MR_span, mk_MR_number, mk_MR_fault, mk_MR_faultAt, mk_MR_word, mk_MR_got, mk_MH_lines, mk_MH_prices, mk_MH_leavings, mk_MH_onces, mk_MH_codeMany, mk_MH_pileMany, mk_MH_ones, mk_MH_coming, mk_MH_hh, mk_MH_newCues, mk_MH_code, mk_MH_pile, mk_MN_paidNow, mk_MN_hissNow, mk_MN_clapping, mk_MN_standing, mk_MN_low, mk_MN_high, mk_MN_gone, mk_MN_cueNext, mk_MN_nightHeight, mk_MN_nightCarries, mk_MN_held, mk_MN_claps, mk_MN_stand, mk_MN_heldLow, mk_MN_heldHigh, mk_MC_askedMany, mk_MC_bought, mk_MC_worthMany, mk_MC_allOrders, mk_MC_hasSides, mk_MC_seenClaps, mk_MC_seenStand, mk_MC_seenAll, mk_MC_beganA, mk_MC_beganB, mk_MC_seed, mk_MC_asked, mk_MC_carried, mk_MC_heights, mk_MC_worths, mk_MC_side, mk_MC_otherClaps, mk_MC_otherStand, mk_NT_paid, mk_NT_hiss, mk_NT_c1, mk_NT_c2, mk_NT_lo, mk_NT_hi, mk_NT_next, mk_Ac_a1, mk_Ac_a2, mk_Ac_l, mk_Ac_h, r0, r1, s1, M_isIn, d1, b2i_0]
  rw [i2_int h0 h1]
  by_cases hv : 0 ≤ v ∧ v < H.size
  · obtain ⟨k, rfl⟩ : ∃ k : Nat, v = k := ⟨v.toNat, by omega⟩
    rw [decide_eq_true hv, if_neg (by decide), ← n2_i2, show (6 : Int32) + n2 k = n2 (6 + k) from n2_add 6 k, rd_s (by omega), Option.bind_some, hH.kind k (by omega), if_pos (show k < H.size by omega), Int.toNat_natCast]
    have := ok.kind k
    simp -implicitDefEqProofs only [le0 (show H.kind k < 2147483648 by omega)]
    by_cases hk : H.kind k = 0
    · simp [hk, b2i]
    · simp [hk, b2i]
  · rw [decide_eq_false hv, if_pos rfl]; rfl
theorem X_isMoment (a : Int32) (st : Mem) : fX1_isMoment a st = some (b2i (decide ((0 : Int32) ≤ a ∧ a ≤ 600)), st) := by
  unfold fX1_isMoment; rw [X_isIn, bd_some, nz_b2i]
theorem M_isMoment (a : Int32) (st : Mem) : fX4_isMoment a st = some (b2i (decide ((0 : Int32) ≤ a ∧ a ≤ 600)), st) := by
  unfold fX4_isMoment; rw [M_isIn, bd_some, nz_b2i]
theorem pM_55' {v : Int32} : pI (mkM b n s m) (some 106) 55 v = some (mkM b n s (m.th v)) := pM_55
end Rel2
