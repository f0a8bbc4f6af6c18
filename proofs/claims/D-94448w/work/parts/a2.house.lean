set_option linter.unusedVariables false
set_option linter.unusedSimpArgs false
set_option maxRecDepth 100000
/-! ===== a house that is being told, in both ===== -/
/-- its cells: T's cells 0..13 -/
abbrev HSh (N : Nat) (T : List Cl) : Prop := (14 ≤ T.length) ∧ ((clD T 0).t = 2) ∧ ((clD T 0).a 34 = some (N + (1 + 1)) ∧ (clD T 0).a 35 = some (N + (1 + 2)) ∧ (clD T 0).a 36 = some (N + (1 + 3)) ∧ (clD T 0).a 37 = some (N + (1 + 4)) ∧ (clD T 0).a 38 = some (N + (1 + 5)) ∧ (clD T 0).a 39 = some (N + (1 + 6)) ∧ (clD T 0).a 40 = some (N + (1 + 7))) ∧ ((clD T 1).t = 102 ∧ (clD T 2).t = 102 ∧ (clD T 3).t = 102 ∧ (clD T 4).t = 105 ∧ (clD T 5).t = 105 ∧ (clD T 6).t = 102 ∧ (clD T 7).t = 107) ∧ ((clD T 1).l = 64 ∧ (clD T 2).l = 8 ∧ (clD T 3).l = 8 ∧ (clD T 4).l = 6 ∧ (clD T 5).l = 6 ∧ (clD T 6).l = 12 ∧ (clD T 7).l = 6) ∧ (∀ a, a < 6 → (clD T 7).a a = some (N + (1 + (8 + a))) ∧ (clD T (8 + a)).t = 103 ∧ (clD T (8 + a)).l = 64)
theorem HSh.len {N : Nat} {T : List Cl} (self : HSh N T) : 14 ≤ T.length := self.1
theorem HSh.t0 {N : Nat} {T : List Cl} (self : HSh N T) : (clD T 0).t = 2 := self.2.1
theorem HSh.refs {N : Nat} {T : List Cl} (self : HSh N T) : (clD T 0).a 34 = some (N + (1 + 1)) ∧ (clD T 0).a 35 = some (N + (1 + 2)) ∧ (clD T 0).a 36 = some (N + (1 + 3)) ∧ (clD T 0).a 37 = some (N + (1 + 4)) ∧ (clD T 0).a 38 = some (N + (1 + 5)) ∧ (clD T 0).a 39 = some (N + (1 + 6)) ∧ (clD T 0).a 40 = some (N + (1 + 7)) := self.2.2.1
theorem HSh.tg {N : Nat} {T : List Cl} (self : HSh N T) : (clD T 1).t = 102 ∧ (clD T 2).t = 102 ∧ (clD T 3).t = 102 ∧ (clD T 4).t = 105 ∧ (clD T 5).t = 105 ∧ (clD T 6).t = 102 ∧ (clD T 7).t = 107 := self.2.2.2.1
theorem HSh.ls {N : Nat} {T : List Cl} (self : HSh N T) : (clD T 1).l = 64 ∧ (clD T 2).l = 8 ∧ (clD T 3).l = 8 ∧ (clD T 4).l = 6 ∧ (clD T 5).l = 6 ∧ (clD T 6).l = 12 ∧ (clD T 7).l = 6 := self.2.2.2.2.1
theorem HSh.ars {N : Nat} {T : List Cl} (self : HSh N T) : ∀ a, a < 6 → (clD T 7).a a = some (N + (1 + (8 + a))) ∧ (clD T (8 + a)).t = 103 ∧ (clD T (8 + a)).l = 64 := self.2.2.2.2.2
/-- the model's row of numbers f; what is told so far: H -/
abbrev HT (N : Nat) (T : List Cl) (f : Nat → Int32) (H : HS) (ln : Nat) : Prop := (HSh N T) ∧ ((clD T 0).i 28 = n2 H.rows) ∧ ((clD T 0).i 29 = n2 H.cols) ∧ ((clD T 0).i 30 = n2 H.carry) ∧ ((clD T 0).i 31 = n2 H.paid) ∧ ((clD T 0).i 32 = n2 ln) ∧ ((clD T 0).i 33 = b2i H.byRows) ∧ (∀ v, v < H.size → (clD T 1).i v = n2 (kindX (H.kind v))) ∧ (∀ r, r < 8 → (clD T 2).i r = n2 (H.price r)) ∧ (∀ r, r < 8 → (clD T 3).i r = i2 ((H.leaves r : Int) - 1)) ∧ (∀ k, k < 6 → H.law k 0 = none → (clD T 4).a k = none) ∧ (∀ k c o, k < 6 → H.law k 0 = some (c, o) → (clD T 6).i k = n2 o ∧ ∃ a, (clD T 4).a k = some (N + (1 + a)) ∧ CondT N T c a) ∧ (∀ k, k < 6 → H.law k 1 = none → (clD T 5).a k = none) ∧ (∀ k c o, k < 6 → H.law k 1 = some (c, o) → (clD T 6).i (6 + k) = n2 o ∧ ∃ a, (clD T 5).a k = some (N + (1 + a)) ∧ CondT N T c a) ∧ (MHouse f H) ∧ (H.Ok)
theorem HT.sh {N : Nat} {T : List Cl} {f : Nat → Int32} {H : HS} {ln : Nat} (self : HT N T f H ln) : HSh N T := self.1
theorem HT.rows {N : Nat} {T : List Cl} {f : Nat → Int32} {H : HS} {ln : Nat} (self : HT N T f H ln) : (clD T 0).i 28 = n2 H.rows := self.2.1
theorem HT.cols {N : Nat} {T : List Cl} {f : Nat → Int32} {H : HS} {ln : Nat} (self : HT N T f H ln) : (clD T 0).i 29 = n2 H.cols := self.2.2.1
theorem HT.carry {N : Nat} {T : List Cl} {f : Nat → Int32} {H : HS} {ln : Nat} (self : HT N T f H ln) : (clD T 0).i 30 = n2 H.carry := self.2.2.2.1
theorem HT.paid {N : Nat} {T : List Cl} {f : Nat → Int32} {H : HS} {ln : Nat} (self : HT N T f H ln) : (clD T 0).i 31 = n2 H.paid := self.2.2.2.2.1
theorem HT.lines {N : Nat} {T : List Cl} {f : Nat → Int32} {H : HS} {ln : Nat} (self : HT N T f H ln) : (clD T 0).i 32 = n2 ln := self.2.2.2.2.2.1
theorem HT.byRows {N : Nat} {T : List Cl} {f : Nat → Int32} {H : HS} {ln : Nat} (self : HT N T f H ln) : (clD T 0).i 33 = b2i H.byRows := self.2.2.2.2.2.2.1
theorem HT.kind {N : Nat} {T : List Cl} {f : Nat → Int32} {H : HS} {ln : Nat} (self : HT N T f H ln) : ∀ v, v < H.size → (clD T 1).i v = n2 (kindX (H.kind v)) := self.2.2.2.2.2.2.2.1
theorem HT.price {N : Nat} {T : List Cl} {f : Nat → Int32} {H : HS} {ln : Nat} (self : HT N T f H ln) : ∀ r, r < 8 → (clD T 2).i r = n2 (H.price r) := self.2.2.2.2.2.2.2.2.1
theorem HT.leaves {N : Nat} {T : List Cl} {f : Nat → Int32} {H : HS} {ln : Nat} (self : HT N T f H ln) : ∀ r, r < 8 → (clD T 3).i r = i2 ((H.leaves r : Int) - 1) := self.2.2.2.2.2.2.2.2.2.1
theorem HT.up0 {N : Nat} {T : List Cl} {f : Nat → Int32} {H : HS} {ln : Nat} (self : HT N T f H ln) : ∀ k, k < 6 → H.law k 0 = none → (clD T 4).a k = none := self.2.2.2.2.2.2.2.2.2.2.1
theorem HT.up {N : Nat} {T : List Cl} {f : Nat → Int32} {H : HS} {ln : Nat} (self : HT N T f H ln) : ∀ k c o, k < 6 → H.law k 0 = some (c, o) → (clD T 6).i k = n2 o ∧ ∃ a, (clD T 4).a k = some (N + (1 + a)) ∧ CondT N T c a := self.2.2.2.2.2.2.2.2.2.2.2.1
theorem HT.down0 {N : Nat} {T : List Cl} {f : Nat → Int32} {H : HS} {ln : Nat} (self : HT N T f H ln) : ∀ k, k < 6 → H.law k 1 = none → (clD T 5).a k = none := self.2.2.2.2.2.2.2.2.2.2.2.2.1
theorem HT.down {N : Nat} {T : List Cl} {f : Nat → Int32} {H : HS} {ln : Nat} (self : HT N T f H ln) : ∀ k c o, k < 6 → H.law k 1 = some (c, o) → (clD T 6).i (6 + k) = n2 o ∧ ∃ a, (clD T 5).a k = some (N + (1 + a)) ∧ CondT N T c a := self.2.2.2.2.2.2.2.2.2.2.2.2.2.1
theorem HT.mh {N : Nat} {T : List Cl} {f : Nat → Int32} {H : HS} {ln : Nat} (self : HT N T f H ln) : MHouse f H := self.2.2.2.2.2.2.2.2.2.2.2.2.2.2.1
theorem HT.ok {N : Nat} {T : List Cl} {f : Nat → Int32} {H : HS} {ln : Nat} (self : HT N T f H ln) : H.Ok := self.2.2.2.2.2.2.2.2.2.2.2.2.2.2.2
theorem HT.len {N : Nat} {T : List Cl} {f : Nat → Int32} {H : HS} {ln : Nat} (X : HT N T f H ln) : 14 ≤ T.length := X.sh.len
theorem HT.t0 {N : Nat} {T : List Cl} {f : Nat → Int32} {H : HS} {ln : Nat} (X : HT N T f H ln) : (clD T 0).t = 2 := X.sh.t0
theorem HSh.tgi {N : Nat} {T : List Cl} (X : HSh N T) {i : Nat} (hi : i < 14) : (clD T i).t = 2 ∨ 101 ≤ (clD T i).t := by
  obtain ⟨g1, g2, g3, g4, g5, g6, g7⟩ := X.tg
  by_cases h8 : i < 8
  · rcases (show i = 0 ∨ i = 1 ∨ i = 2 ∨ i = 3 ∨ i = 4 ∨ i = 5 ∨ i = 6 ∨ i = 7 by omega) with e | e | e | e | e | e | e | e <;> subst e
    · exact Or.inl X.t0
    · omega
    · omega
    · omega
    · omega
    · omega
    · omega
    · omega
  · have := (X.ars (i - 8) (by omega)).2.1
    rw [show 8 + (i - 8) = i by omega] at this
    omega
theorem Blk.house {d : Cl} (h : d.t = 2 ∨ 100 ≤ d.t) : Blk d := ⟨fun q => by omega, fun q => by omega, by omega⟩
theorem HSh.chg {N : Nat} {T : List Cl} (X : HSh N T) {i : Nat} (hi : i < 14) (d : Cl) : Chg T (clS T i d) := by
  have tgs := X.tgi hi
  exact Chg.set (Blk.house (by omega)) (by omega) (by omega)
theorem HSh.keep {N : Nat} {T T' : List Cl} (X : HSh N T) (hl : T.length ≤ T'.length) (h : ∀ i, i < 14 → (clD T' i).t = (clD T i).t ∧ (clD T' i).l = (clD T i).l) (h0 : ∀ k, 34 ≤ k → k ≤ 40 → (clD T' 0).a k = (clD T 0).a k) (h7 : ∀ k, k < 6 → (clD T' 7).a k = (clD T 7).a k) : HSh N T' := by
  obtain ⟨r1, r2, r3, r4, r5, r6, r7⟩ := X.refs
  obtain ⟨g1, g2, g3, g4, g5, g6, g7⟩ := X.tg
  obtain ⟨l1, l2, l3, l4, l5, l6, l7⟩ := X.ls
  exact ⟨Nat.le_trans X.len hl, (h 0 (by decide)).1.trans X.t0, ⟨(h0 34 (by decide) (by decide)).trans r1, (h0 35 (by decide) (by decide)).trans r2, (h0 36 (by decide) (by decide)).trans r3, (h0 37 (by decide) (by decide)).trans r4, (h0 38 (by decide) (by decide)).trans r5, (h0 39 (by decide) (by decide)).trans r6, (h0 40 (by decide) (by decide)).trans r7⟩, ⟨(h 1 (by decide)).1.trans g1, (h 2 (by decide)).1.trans g2, (h 3 (by decide)).1.trans g3, (h 4 (by decide)).1.trans g4, (h 5 (by decide)).1.trans g5, (h 6 (by decide)).1.trans g6, (h 7 (by decide)).1.trans g7⟩, ⟨(h 1 (by decide)).2.trans l1, (h 2 (by decide)).2.trans l2, (h 3 (by decide)).2.trans l3, (h 4 (by decide)).2.trans l4, (h 5 (by decide)).2.trans l5, (h 6 (by decide)).2.trans l6, (h 7 (by decide)).2.trans l7⟩, fun a ha => ⟨(h7 a ha).trans (X.ars a ha).1, (h (8 + a) (by omega)).1.trans (X.ars a ha).2.1, (h (8 + a) (by omega)).2.trans (X.ars a ha).2.2⟩⟩
theorem HSh.setI {N : Nat} {T : List Cl} (X : HSh N T) {i k : Nat} {v : Int32} (hi : i < 14) : HSh N (clS T i ((clD T i).sI k v)) := by
  have hl := X.len
  have at_ : clD (clS T i ((clD T i).sI k v)) i = (clD T i).sI k v := clS_at T i _ (by omega)
  have e : ∀ j, (clD (clS T i ((clD T i).sI k v)) j).t = (clD T j).t ∧ (clD (clS T i ((clD T i).sI k v)) j).l = (clD T j).l ∧ (clD (clS T i ((clD T i).sI k v)) j).a = (clD T j).a := fun j => by
    by_cases e : j = i
    · subst e; rw [at_]; exact ⟨rfl, rfl, rfl⟩
    · rw [clS_ne T i j _ e]; exact ⟨rfl, rfl, rfl⟩
  exact X.keep (by rw [clS_len]; exact Nat.le_refl _) (fun j _ => ⟨(e j).1, (e j).2.1⟩) (fun q _ _ => by rw [(e 0).2.2]) (fun q _ => by rw [(e 7).2.2])
theorem HSh.setA {N : Nat} {T : List Cl} (X : HSh N T) {i k : Nat} {v : Rf} (hi : i < 14) (h0 : i ≠ 0) (h7 : i ≠ 7) : HSh N (clS T i ((clD T i).sA k v)) := by
  have hl := X.len
  have at_ : clD (clS T i ((clD T i).sA k v)) i = (clD T i).sA k v := clS_at T i _ (by omega)
  have e : ∀ j, (clD (clS T i ((clD T i).sA k v)) j).t = (clD T j).t ∧ (clD (clS T i ((clD T i).sA k v)) j).l = (clD T j).l := fun j => by
    by_cases e : j = i
    · subst e; rw [at_]; exact ⟨rfl, rfl⟩
    · rw [clS_ne T i j _ e]; exact ⟨rfl, rfl⟩
  exact X.keep (by rw [clS_len]; exact Nat.le_refl _) (fun j _ => e j) (fun q _ _ => by rw [clS_ne T i 0 _ (fun q => h0 q.symm)]) (fun q _ => by rw [clS_ne T i 7 _ (fun q => h7 q.symm)])
abbrev HR (B : Mem) (m : MS) (tp : Nat → Int32) (to most A Z : Nat) (c : Cl) (T : List Cl) (z : Nat) (r : MR) (h : MH) (p : Nat) (H : HS) (ln : Nat) : Prop := (RsR B c T (m.sRH r h) tp to most p) ∧ (Bg A Z T z (nu c to p) p) ∧ (c.t = 5) ∧ (HT (mNx B) T h.hh H ln) ∧ (c.a 133 = some (mNx B + (1 + 0))) ∧ (c.i 134 = h.onces) ∧ (c.i 135 = h.prices) ∧ (c.i 136 = h.leavings) ∧ (h.lines = n2 ln)
theorem HR.S {B : Mem} {m : MS} {tp : Nat → Int32} {to most A Z : Nat} {c : Cl} {T : List Cl} {z : Nat} {r : MR} {h : MH} {p : Nat} {H : HS} {ln : Nat} (self : HR B m tp to most A Z c T z r h p H ln) : RsR B c T (m.sRH r h) tp to most p := self.1
theorem HR.g {B : Mem} {m : MS} {tp : Nat → Int32} {to most A Z : Nat} {c : Cl} {T : List Cl} {z : Nat} {r : MR} {h : MH} {p : Nat} {H : HS} {ln : Nat} (self : HR B m tp to most A Z c T z r h p H ln) : Bg A Z T z (nu c to p) p := self.2.1
theorem HR.t5 {B : Mem} {m : MS} {tp : Nat → Int32} {to most A Z : Nat} {c : Cl} {T : List Cl} {z : Nat} {r : MR} {h : MH} {p : Nat} {H : HS} {ln : Nat} (self : HR B m tp to most A Z c T z r h p H ln) : c.t = 5 := self.2.2.1
theorem HR.ho {B : Mem} {m : MS} {tp : Nat → Int32} {to most A Z : Nat} {c : Cl} {T : List Cl} {z : Nat} {r : MR} {h : MH} {p : Nat} {H : HS} {ln : Nat} (self : HR B m tp to most A Z c T z r h p H ln) : HT (mNx B) T h.hh H ln := self.2.2.2.1
theorem HR.a133 {B : Mem} {m : MS} {tp : Nat → Int32} {to most A Z : Nat} {c : Cl} {T : List Cl} {z : Nat} {r : MR} {h : MH} {p : Nat} {H : HS} {ln : Nat} (self : HR B m tp to most A Z c T z r h p H ln) : c.a 133 = some (mNx B + (1 + 0)) := self.2.2.2.2.1
theorem HR.i134 {B : Mem} {m : MS} {tp : Nat → Int32} {to most A Z : Nat} {c : Cl} {T : List Cl} {z : Nat} {r : MR} {h : MH} {p : Nat} {H : HS} {ln : Nat} (self : HR B m tp to most A Z c T z r h p H ln) : c.i 134 = h.onces := self.2.2.2.2.2.1
theorem HR.i135 {B : Mem} {m : MS} {tp : Nat → Int32} {to most A Z : Nat} {c : Cl} {T : List Cl} {z : Nat} {r : MR} {h : MH} {p : Nat} {H : HS} {ln : Nat} (self : HR B m tp to most A Z c T z r h p H ln) : c.i 135 = h.prices := self.2.2.2.2.2.2.1
theorem HR.i136 {B : Mem} {m : MS} {tp : Nat → Int32} {to most A Z : Nat} {c : Cl} {T : List Cl} {z : Nat} {r : MR} {h : MH} {p : Nat} {H : HS} {ln : Nat} (self : HR B m tp to most A Z c T z r h p H ln) : c.i 136 = h.leavings := self.2.2.2.2.2.2.2.1
theorem HR.ml {B : Mem} {m : MS} {tp : Nat → Int32} {to most A Z : Nat} {c : Cl} {T : List Cl} {z : Nat} {r : MR} {h : MH} {p : Nat} {H : HS} {ln : Nat} (self : HR B m tp to most A Z c T z r h p H ln) : h.lines = n2 ln := self.2.2.2.2.2.2.2.2
/-- what a line comes to -/
def LnR (B : Mem) (m : MS) (tp : Nat → Int32) (to most A Z : Nat) (b' : Mem) (n s : Nat) (c : Cl) (p ln : Nat) (rx : Option ((Unit ⊕ Nat) × Mem)) (rm : Option (Int32 × Mem)) : Prop :=
  (∃ c' T' z' r' h' q H', rx = some (.inl (), ovs B (c' :: T') z') ∧ rm = some (1, mkM b' n s (m.sRH r' h')) ∧ HR B m tp to most A Z c' T' z' r' h' q H' ln ∧ p ≤ q ∧ nu c' to q < nu c to p) ∨ Bad B m A Z to b' n s rx rm
theorem HT.keep {N : Nat} {T T' : List Cl} {f : Nat → Int32} {H : HS} {ln : Nat} (X : HT N T f H ln) (C : Chg T T') (h0 : ∀ i, i < 14 → clD T' i = clD T i) : HT N T' f H ln := by
  have e0 := h0 0 (by decide)
  have e1 := h0 1 (by decide)
  have e2 := h0 2 (by decide)
  have e3 := h0 3 (by decide)
  have e4 := h0 4 (by decide)
  have e5 := h0 5 (by decide)
  have e6 := h0 6 (by decide)
  refine ⟨X.sh.keep C.1 (fun i hi => by rw [h0 i hi]; exact ⟨rfl, rfl⟩) (fun k _ _ => by rw [e0]) (fun k _ => by rw [h0 7 (by decide)]), by rw [e0]; exact X.rows, by rw [e0]; exact X.cols, by rw [e0]; exact X.carry, by rw [e0]; exact X.paid, by rw [e0]; exact X.lines, by rw [e0]; exact X.byRows, fun v hv => by rw [e1]; exact X.kind v hv, fun r hr => by rw [e2]; exact X.price r hr, fun r hr => by rw [e3]; exact X.leaves r hr, fun k hk hl => by rw [e4]; exact X.up0 k hk hl, fun k c o hk hl => ?_, fun k hk hl => by rw [e5]; exact X.down0 k hk hl, fun k c o hk hl => ?_, X.mh, X.ok⟩
  · obtain ⟨q1, a, q2, q3⟩ := X.up k c o hk hl
    exact ⟨by rw [e6]; exact q1, a, by rw [e4]; exact q2, q3.ch C⟩
  · obtain ⟨q1, a, q2, q3⟩ := X.down k c o hk hl
    exact ⟨by rw [e6]; exact q1, a, by rw [e5]; exact q2, q3.ch C⟩
theorem HT.app {N : Nat} {T : List Cl} {f : Nat → Int32} {H : HS} {ln : Nat} (X : HT N T f H ln) (R : List Cl) : HT N (T ++ R) f H ln :=
  X.keep (Chg.app _ _) (fun i hi => clD_apL T R i (by have := X.len; omega))
section HRs
variable {B b' : Mem} {m : MS} {tp : Nat → Int32} {to most A Z n s : Nat} {c c' : Cl} {T T' R : List Cl} {z z' p q ln : Nat} {r r' : MR} {h h' : MH} {H : HS}
theorem HR.go (X : HR B m tp to most A Z c T z r h p H ln) (S : RsR B c' T' (m.sRH r' h') tp to most q) (g : Bg A Z T' z' (nu c' to q) q) (K : Kc c c') (Kq : Kh h h') (hT : T' = T ++ R) : HR B m tp to most A Z c' T' z' r' h' q H ln := by
  obtain ⟨k1, k2, k3, k4, k5, k6, k7⟩ := Kq
  refine ⟨S, g, K.1.trans X.t5, by rw [hT, k6]; exact X.ho.app R, (K.2.2.2.2 133 (by decide)).trans X.a133, ?_, ?_, ?_, k1.trans X.ml⟩
  · rw [K.2.2.2.1 134 (by omega) (by decide) (by decide), k4]; exact X.i134
  · rw [K.2.2.2.1 135 (by omega) (by decide) (by decide), k2]; exact X.i135
  · rw [K.2.2.2.1 136 (by omega) (by decide) (by decide), k3]; exact X.i136
/-- reading the house's cells -/
theorem HR.gA (X : HR B m tp to most A Z c T z r h p H ln) : gA (ovs B (c :: T) z) (some (mNx B)) 133 = some (some (mNx B + (1 + 0))) := (rd5_gA X.t5 (by decide)).trans (congrArg some X.a133)
theorem HT.gI {w : Nat → Int32} (X : HT (mNx B) T w H ln) {f : Nat} (hf : okI 2 f = true) : gI (ovs B (c :: T) z) (some (mNx B + (1 + 0))) f = some ((clD T 0).i f) := tc_gI (by have := X.len; omega) (by rw [X.t0]; exact hf)
theorem HT.gA {w : Nat → Int32} (X : HT (mNx B) T w H ln) {f : Nat} (hf : okA 2 f = true) : gA (ovs B (c :: T) z) (some (mNx B + (1 + 0))) f = some ((clD T 0).a f) := tc_gA (by have := X.len; omega) (by rw [X.t0]; exact hf)
end HRs
/-! writing the house's cells -/
def HS.sCarry (H : HS) (v : Nat) : HS := HS.mk H.rows H.cols v H.paid H.byRows H.kind H.price H.leaves H.law H.ar
def HS.sPaid (H : HS) (v : Nat) : HS := HS.mk H.rows H.cols H.carry v H.byRows H.kind H.price H.leaves H.law H.ar
def HS.sBy (H : HS) (v : Bool) : HS := HS.mk H.rows H.cols H.carry H.paid v H.kind H.price H.leaves H.law H.ar
def HS.sPrice (H : HS) (q v : Nat) : HS := HS.mk H.rows H.cols H.carry H.paid H.byRows H.kind (upq H.price q v) H.leaves H.law H.ar
def HS.sLeaves (H : HS) (q v : Nat) : HS := HS.mk H.rows H.cols H.carry H.paid H.byRows H.kind H.price (upq H.leaves q v) H.law H.ar
section HTset
variable {N : Nat} {T : List Cl} {f : Nat → Int32} {H : HS} {ln q v : Nat}
theorem MHouse.sCarry (X : MHouse f H) : MHouse (upq f 3 (n2 v)) (H.sCarry v) := by
  have e : ∀ i, i ≠ 3 → upq f 3 (n2 v) i = f i := fun i hi => upq_ne _ _ hi
  refine ⟨by rw [e _ (by omega)]; exact X.rows, by rw [e _ (by omega)]; exact X.cols, by rw [e _ (by omega)]; exact X.seats, upq_self _ _ _, by rw [e _ (by omega)]; exact X.paid, by rw [e _ (by omega)]; exact X.byRows, fun v hv => by rw [e _ (by omega)]; exact X.kind v hv, fun q hq => by rw [e _ (by omega)]; exact X.price q hq, fun q hq => by rw [e _ (by omega)]; exact X.leaves q hq, fun k w hk hw hl => by rw [e _ (by omega)]; exact X.law0 k w hk hw hl, fun k w c o hk hw hl => ?_⟩
  obtain ⟨l, L⟩ := X.law k w c o hk hw hl
  exact ⟨l, L.post, by rw [e _ (by omega)]; exact L.ones_, by rw [e _ (by omega)]; exact L.len, fun i hi => by rw [e _ (by omega)]; exact L.code i hi, L.short, L.lvs⟩
theorem MHouse.sPaid (X : MHouse f H) : MHouse (upq f 4 (n2 v)) (H.sPaid v) := by
  have e : ∀ i, i ≠ 4 → upq f 4 (n2 v) i = f i := fun i hi => upq_ne _ _ hi
  refine ⟨by rw [e _ (by omega)]; exact X.rows, by rw [e _ (by omega)]; exact X.cols, by rw [e _ (by omega)]; exact X.seats, by rw [e _ (by omega)]; exact X.carry, upq_self _ _ _, by rw [e _ (by omega)]; exact X.byRows, fun v hv => by rw [e _ (by omega)]; exact X.kind v hv, fun q hq => by rw [e _ (by omega)]; exact X.price q hq, fun q hq => by rw [e _ (by omega)]; exact X.leaves q hq, fun k w hk hw hl => by rw [e _ (by omega)]; exact X.law0 k w hk hw hl, fun k w c o hk hw hl => ?_⟩
  obtain ⟨l, L⟩ := X.law k w c o hk hw hl
  exact ⟨l, L.post, by rw [e _ (by omega)]; exact L.ones_, by rw [e _ (by omega)]; exact L.len, fun i hi => by rw [e _ (by omega)]; exact L.code i hi, L.short, L.lvs⟩
theorem MHouse.sBy (X : MHouse f H) : MHouse (upq f 5 1) (H.sBy true) := by
  have e : ∀ i, i ≠ 5 → upq f 5 (1 : Int32) i = f i := fun i hi => upq_ne _ _ hi
  refine ⟨by rw [e _ (by omega)]; exact X.rows, by rw [e _ (by omega)]; exact X.cols, by rw [e _ (by omega)]; exact X.seats, by rw [e _ (by omega)]; exact X.carry, by rw [e _ (by omega)]; exact X.paid, upq_self _ _ _, fun v hv => by rw [e _ (by omega)]; exact X.kind v hv, fun q hq => by rw [e _ (by omega)]; exact X.price q hq, fun q hq => by rw [e _ (by omega)]; exact X.leaves q hq, fun k w hk hw hl => by rw [e _ (by omega)]; exact X.law0 k w hk hw hl, fun k w c o hk hw hl => ?_⟩
  obtain ⟨l, L⟩ := X.law k w c o hk hw hl
  exact ⟨l, L.post, by rw [e _ (by omega)]; exact L.ones_, by rw [e _ (by omega)]; exact L.len, fun i hi => by rw [e _ (by omega)]; exact L.code i hi, L.short, L.lvs⟩
theorem MHouse.sPrice (hq : q < 8) (X : MHouse f H) : MHouse (upq f (70 + q) (n2 v)) (H.sPrice q v) := by
  have e : ∀ i, i ≠ 70 + q → upq f (70 + q) (n2 v) i = f i := fun i hi => upq_ne _ _ hi
  refine ⟨by rw [e _ (by omega)]; exact X.rows, by rw [e _ (by omega)]; exact X.cols, by rw [e _ (by omega)]; exact X.seats, by rw [e _ (by omega)]; exact X.carry, by rw [e _ (by omega)]; exact X.paid, by rw [e _ (by omega)]; exact X.byRows, fun v hv => by rw [e _ (by omega)]; exact X.kind v hv, fun j hj => ?_, fun q hq => by rw [e _ (by omega)]; exact X.leaves q hq, fun k w hk hw hl => by rw [e _ (by omega)]; exact X.law0 k w hk hw hl, fun k w c o hk hw hl => ?_⟩
  · show _ = n2 (upq H.price q v j)
    by_cases ej : j = q
    · rw [ej, upq_self, upq_self]
    · rw [e _ (by omega), upq_ne _ _ ej]; exact X.price j hj
  · obtain ⟨l, L⟩ := X.law k w c o hk hw hl
    exact ⟨l, L.post, by rw [e _ (by omega)]; exact L.ones_, by rw [e _ (by omega)]; exact L.len, fun i hi => by rw [e _ (by omega)]; exact L.code i hi, L.short, L.lvs⟩
theorem MHouse.sLeaves (hq : q < 8) (X : MHouse f H) : MHouse (upq f (78 + q) (n2 v)) (H.sLeaves q v) := by
  have e : ∀ i, i ≠ 78 + q → upq f (78 + q) (n2 v) i = f i := fun i hi => upq_ne _ _ hi
  refine ⟨by rw [e _ (by omega)]; exact X.rows, by rw [e _ (by omega)]; exact X.cols, by rw [e _ (by omega)]; exact X.seats, by rw [e _ (by omega)]; exact X.carry, by rw [e _ (by omega)]; exact X.paid, by rw [e _ (by omega)]; exact X.byRows, fun v hv => by rw [e _ (by omega)]; exact X.kind v hv, fun q hq => by rw [e _ (by omega)]; exact X.price q hq, fun j hj => ?_, fun k w hk hw hl => by rw [e _ (by omega)]; exact X.law0 k w hk hw hl, fun k w c o hk hw hl => ?_⟩
  · show _ = n2 (upq H.leaves q v j)
    by_cases ej : j = q
    · rw [ej, upq_self, upq_self]
    · rw [e _ (by omega), upq_ne _ _ ej]; exact X.leaves j hj
  · obtain ⟨l, L⟩ := X.law k w c o hk hw hl
    exact ⟨l, L.post, by rw [e _ (by omega)]; exact L.ones_, by rw [e _ (by omega)]; exact L.len, fun i hi => by rw [e _ (by omega)]; exact L.code i hi, L.short, L.lvs⟩
end HTset
