set_option linter.unusedVariables false
set_option linter.unusedSimpArgs false
/-! ===== a night, plainly ===== -/
def notL (x : Int64) : Int64 := x ^^^ (-1 : Int64)
def bitS (s : Nat) : Int64 := shlL 1 (n2 s)
theorem tb_bitS {s k : Nat} (hs : s < 64) : tb (bitS s) k = decide (k = s) := tb_shl1 hs
theorem tb_notL (x : Int64) {k : Nat} (h : k < 64) : tb (notL x) k = !tb x k := tb_xm1 x h
theorem tb_low {k j : Nat} (hk : k < 64) (hj : j < 64) : tb (bitS k - 1) j = decide (j < k) := by
  have e : (bitS k).toBitVec.toNat = 2 ^ k := by
    unfold bitS
    rw [shl_bv _ hk, show (1 : Int64).toBitVec = 1#64 from rfl, BitVec.toNat_shiftLeft]
    show 1 <<< k % 2 ^ 64 = 2 ^ k
    rw [Nat.one_shiftLeft, Nat.mod_eq_of_lt (Nat.pow_lt_pow_right (by decide) hk)]
  have hp : 2 ^ k < 2 ^ 64 := Nat.pow_lt_pow_right (by decide) hk
  have h1 : 1 ≤ 2 ^ k := Nat.one_le_two_pow
  have f : (bitS k - 1).toBitVec.toNat = 2 ^ k - 1 := by
    rw [Int64.toBitVec_sub, BitVec.toNat_sub, e]
    show (2 ^ 64 - 1 + 2 ^ k) % 2 ^ 64 = _
    rw [show 2 ^ 64 - 1 + 2 ^ k = 2 ^ k - 1 + 2 ^ 64 by omega, Nat.add_mod_right, Nat.mod_eq_of_lt (by omega)]
  unfold tb
  rw [BitVec.getLsbD, f, Nat.testBit_two_pow_sub_one]
abbrev Cu : Type := (Nat) × (Nat) × (Nat)
def Cu.mk (t : Nat) (w : Nat) (s : Nat) : Cu := (t, w, s)
def Cu.t (z : Cu) : Nat := z.1
def Cu.w (z : Cu) : Nat := z.2.1
def Cu.s (z : Cu) : Nat := z.2.2
theorem mk_Cu_t {v0 : Nat} {v1 : Nat} {v2 : Nat} : (Cu.mk v0 v1 v2).t = v0 := rfl
theorem mk_Cu_w {v0 : Nat} {v1 : Nat} {v2 : Nat} : (Cu.mk v0 v1 v2).w = v1 := rfl
theorem mk_Cu_s {v0 : Nat} {v1 : Nat} {v2 : Nat} : (Cu.mk v0 v1 v2).s = v2 := rfl
abbrev NT : Type := (Int64) × (Int64) × (Int64) × (Int64) × (Int64) × (Int64) × (Nat)
def NT.mk (paid : Int64) (hiss : Int64) (c1 : Int64) (c2 : Int64) (lo : Int64) (hi : Int64) (next : Nat) : NT := (paid, hiss, c1, c2, lo, hi, next)
def NT.paid (z : NT) : Int64 := z.1
def NT.hiss (z : NT) : Int64 := z.2.1
def NT.c1 (z : NT) : Int64 := z.2.2.1
def NT.c2 (z : NT) : Int64 := z.2.2.2.1
def NT.lo (z : NT) : Int64 := z.2.2.2.2.1
def NT.hi (z : NT) : Int64 := z.2.2.2.2.2.1
def NT.next (z : NT) : Nat := z.2.2.2.2.2.2
theorem mk_NT_paid {v0 : Int64} {v1 : Int64} {v2 : Int64} {v3 : Int64} {v4 : Int64} {v5 : Int64} {v6 : Nat} : (NT.mk v0 v1 v2 v3 v4 v5 v6).paid = v0 := rfl
theorem mk_NT_hiss {v0 : Int64} {v1 : Int64} {v2 : Int64} {v3 : Int64} {v4 : Int64} {v5 : Int64} {v6 : Nat} : (NT.mk v0 v1 v2 v3 v4 v5 v6).hiss = v1 := rfl
theorem mk_NT_c1 {v0 : Int64} {v1 : Int64} {v2 : Int64} {v3 : Int64} {v4 : Int64} {v5 : Int64} {v6 : Nat} : (NT.mk v0 v1 v2 v3 v4 v5 v6).c1 = v2 := rfl
theorem mk_NT_c2 {v0 : Int64} {v1 : Int64} {v2 : Int64} {v3 : Int64} {v4 : Int64} {v5 : Int64} {v6 : Nat} : (NT.mk v0 v1 v2 v3 v4 v5 v6).c2 = v3 := rfl
theorem mk_NT_lo {v0 : Int64} {v1 : Int64} {v2 : Int64} {v3 : Int64} {v4 : Int64} {v5 : Int64} {v6 : Nat} : (NT.mk v0 v1 v2 v3 v4 v5 v6).lo = v4 := rfl
theorem mk_NT_hi {v0 : Int64} {v1 : Int64} {v2 : Int64} {v3 : Int64} {v4 : Int64} {v5 : Int64} {v6 : Nat} : (NT.mk v0 v1 v2 v3 v4 v5 v6).hi = v5 := rfl
theorem mk_NT_next {v0 : Int64} {v1 : Int64} {v2 : Int64} {v3 : Int64} {v4 : Int64} {v5 : Int64} {v6 : Nat} : (NT.mk v0 v1 v2 v3 v4 v5 v6).next = v6 := rfl
abbrev Ac : Type := (Int64) × (Int64) × (Int64) × (Int64)
def Ac.mk (a1 : Int64) (a2 : Int64) (l : Int64) (h : Int64) : Ac := (a1, a2, l, h)
def Ac.a1 (z : Ac) : Int64 := z.1
def Ac.a2 (z : Ac) : Int64 := z.2.1
def Ac.l (z : Ac) : Int64 := z.2.2.1
def Ac.h (z : Ac) : Int64 := z.2.2.2
theorem mk_Ac_a1 {v0 : Int64} {v1 : Int64} {v2 : Int64} {v3 : Int64} : (Ac.mk v0 v1 v2 v3).a1 = v0 := rfl
theorem mk_Ac_a2 {v0 : Int64} {v1 : Int64} {v2 : Int64} {v3 : Int64} : (Ac.mk v0 v1 v2 v3).a2 = v1 := rfl
theorem mk_Ac_l {v0 : Int64} {v1 : Int64} {v2 : Int64} {v3 : Int64} : (Ac.mk v0 v1 v2 v3).l = v2 := rfl
theorem mk_Ac_h {v0 : Int64} {v1 : Int64} {v2 : Int64} {v3 : Int64} : (Ac.mk v0 v1 v2 v3).h = v3 := rfl
def lvOf (c1 c2 : Int64) (s : Nat) : Nat := if tb c2 s = true then 2 else if tb c1 s = true then 1 else 0
def hdOf (lo hi : Int64) (s : Nat) : Nat := (if tb lo s = true then 1 else 0) + (if tb hi s = true then 2 else 0)
def cueDo (c : Cu) (p : Int64 × Int64 × Bool) : Int64 × Int64 × Bool :=
  if c.w = 3 then (p.1, p.2.1, true) else
  (if c.w = 0 then p.1 ||| bitS c.s else p.1 &&& notL (bitS c.s), if c.w = 1 then p.2.1 ||| bitS c.s else p.2.1 &&& notL (bitS c.s), p.2.2)
def cueRun (t : Nat) : List Cu → Int64 × Int64 × Bool → Nat × (Int64 × Int64 × Bool)
  | [], p => (0, p)
  | c :: cs, p => if c.t = t then ((cueRun t cs (cueDo c p)).1 + 1, (cueRun t cs (cueDo c p)).2) else (0, p)
def onLaw (H : HS) (w s : Nat) (v1 v2 : Int64) (own since : Nat) : Bool := match H.law (H.kind s - 1) w with
  | some c => cev (fun a => H.ar a s) v1 v2 (n2 own) (n2 since) c.1
  | none => false
def lawLv (H : HS) (s : Nat) (v1 v2 : Int64) (own since : Nat) : Nat :=
  if onLaw H 0 s v1 v2 own since = true then (if own < 2 then own + 1 else 2) else if onLaw H 1 s v1 v2 own since = true then own - 1 else own
def isLeft (H : HS) (t r : Nat) : Bool := decide (H.leaves r ≠ 0) && decide (H.leaves r ≤ t + 1)
def seatLv (H : HS) (t : Nat) (P : Int64 × Int64 × Bool) (v1 v2 : Int64) (own since s : Nat) : Nat :=
  if isLeft H t (s / H.cols) = true ∨ tb P.2.1 s = true then 0 else if tb P.1 s = true ∧ t ≤ H.paid then 2 else if P.2.2 = true ∨ t = 0 then 0 else lawLv H s v1 v2 own since
def sinceOf (t lv own since0 : Nat) : Nat := if t = 0 ∨ lv ≠ own then 0 else if since0 < 3 then since0 + 1 else 3
def putLv (A : Ac) (s lv sn : Nat) : Ac := Ac.mk (A.a1 ||| (if 0 < lv then bitS s else 0)) (A.a2 ||| (if 1 < lv then bitS s else 0)) (A.l ||| (if sn % 2 = 1 then bitS s else 0)) (A.h ||| (if 1 < sn then bitS s else 0))
def seatSt (H : HS) (t : Nat) (P : Int64 × Int64 × Bool) (N : NT) (v1 v2 : Int64) (A : Ac) (s : Nat) : Ac :=
  if H.kind s = 0 then A else
  putLv A s (seatLv H t P v1 v2 (lvOf N.c1 N.c2 s) (hdOf N.lo N.hi s) s) (sinceOf t (seatLv H t P v1 v2 (lvOf N.c1 N.c2 s) (hdOf N.lo N.hi s) s) (lvOf N.c1 N.c2 s) (hdOf N.lo N.hi s))
def rowM (H : HS) (r : Nat) : Int64 := if H.byRows = true then bitS (H.cols * r) - 1 else 0
def vwS (m c a : Int64) : Int64 := (c &&& notL m) ||| (a &&& m)
def seatRun (H : HS) (t : Nat) (P : Int64 × Int64 × Bool) (N : NT) : Nat → Ac
  | 0 => Ac.mk 0 0 0 0
  | s + 1 => seatSt H t P N (vwS (rowM H (s / H.cols)) N.c1 (seatRun H t P N s).a1) (vwS (rowM H (s / H.cols)) N.c2 (seatRun H t P N s).a2) (seatRun H t P N s) s
def cuesAt (C : List Cu) (t : Nat) (N : NT) : Nat × (Int64 × Int64 × Bool) := cueRun t (C.drop N.next) (N.paid, N.hiss, false)
def momentS (H : HS) (C : List Cu) (t : Nat) (N : NT) : NT :=
  NT.mk (cuesAt C t N).2.1 (cuesAt C t N).2.2.1 (seatRun H t (cuesAt C t N).2 N H.size).a1 (seatRun H t (cuesAt C t N).2 N H.size).a2 (seatRun H t (cuesAt C t N).2 N H.size).l (seatRun H t (cuesAt C t N).2 N H.size).h (N.next + (cuesAt C t N).1)
def night0 (p h : Int64) : NT := NT.mk p h 0 0 0 0 0
/-- the night after its moment t -/
def nightS (H : HS) (C : List Cu) (p h : Int64) : Nat → NT
  | 0 => momentS H C 0 (night0 p h)
  | t + 1 => momentS H C (t + 1) (nightS H C p h t)
theorem lvOf_le (c1 c2 : Int64) (s : Nat) : lvOf c1 c2 s ≤ 2 := by
  unfold lvOf; split
  · exact Nat.le_refl _
  · split <;> decide
theorem hdOf_le (c1 c2 : Int64) (s : Nat) : hdOf c1 c2 s ≤ 3 := by unfold hdOf; split <;> split <;> decide
theorem lawLv_le {H : HS} {s : Nat} {v1 v2 : Int64} {own since : Nat} (h : own ≤ 2) : lawLv H s v1 v2 own since ≤ 2 := by unfold lawLv; split <;> split <;> omega
theorem seatLv_le {H : HS} {t : Nat} {P : Int64 × Int64 × Bool} {v1 v2 : Int64} {own since s : Nat} (h : own ≤ 2) : seatLv H t P v1 v2 own since s ≤ 2 := by
  unfold seatLv
  split
  · omega
  · split
    · omega
    · split
      · omega
      · exact lawLv_le h
theorem sinceOf_le (t lv own s : Nat) : sinceOf t lv own s ≤ 3 := by
  unfold sinceOf; split
  · omega
  · split <;> omega
/-- bits of seats that were not gone through are not set -/
theorem seatRun_lt {H : HS} {t : Nat} {P : Int64 × Int64 × Bool} {N : NT} : ∀ (s : Nat), s ≤ 64 → ∀ j, s ≤ j → tb (seatRun H t P N s).a1 j = false ∧ tb (seatRun H t P N s).a2 j = false ∧ tb (seatRun H t P N s).l j = false ∧ tb (seatRun H t P N s).h j = false
  | 0, _, j, _ => ⟨tb_zero j, tb_zero j, tb_zero j, tb_zero j⟩
  | s + 1, hs, j, hj => by
    obtain ⟨i1, i2, i3, i4⟩ := seatRun_lt (H := H) (t := t) (P := P) (N := N) s (by omega) j (by omega)
    have hb : tb (bitS s) j = false := by rw [tb_bitS (by omega)]; exact decide_eq_false (by omega)
    have hz := tb_zero j
    simp only [seatRun]
    unfold seatSt putLv
    split
    · exact ⟨i1, i2, i3, i4⟩
    · refine ⟨?_, ?_, ?_, ?_⟩ <;> simp only [mk_Ac_a1, mk_Ac_a2, mk_Ac_l, mk_Ac_h] <;> rw [tb_or] <;> simp only [i1, i2, i3, i4, Bool.false_or] <;> split <;> assumption
/-- a later seat changes no bit of an earlier one -/
theorem seatRun_keep {H : HS} {t : Nat} {P : Int64 × Int64 × Bool} {N : NT} (k : Nat) : ∀ (s : Nat), s ≤ 64 → k ≤ s → ∀ j, j < k → tb (seatRun H t P N s).a1 j = tb (seatRun H t P N k).a1 j ∧ tb (seatRun H t P N s).a2 j = tb (seatRun H t P N k).a2 j ∧ tb (seatRun H t P N s).l j = tb (seatRun H t P N k).l j ∧ tb (seatRun H t P N s).h j = tb (seatRun H t P N k).h j
  | 0, _, hk, j, hj => by omega
  | s + 1, hs, hk, j, hj => by
    by_cases e : k = s + 1
    · subst e; exact ⟨rfl, rfl, rfl, rfl⟩
    obtain ⟨i1, i2, i3, i4⟩ := seatRun_keep (H := H) (t := t) (P := P) (N := N) k s (by omega) (by omega) j hj
    have hb : tb (bitS s) j = false := by rw [tb_bitS (by omega)]; exact decide_eq_false (by omega)
    have hz := tb_zero j
    have key : ∀ (p : Prop) [Decidable p], tb (if p then bitS s else 0) j = false := fun p _ => by split <;> assumption
    rw [← i1, ← i2, ← i3, ← i4]
    simp only [seatRun]
    unfold seatSt putLv
    split
    · exact ⟨rfl, rfl, rfl, rfl⟩
    · refine ⟨?_, ?_, ?_, ?_⟩ <;> simp only [mk_Ac_a1, mk_Ac_a2, mk_Ac_l, mk_Ac_h] <;> rw [tb_or, key, Bool.or_false]
theorem vwS_0 (c a : Int64) : vwS 0 c a = c := by
  refine tb_ext fun k hk => ?_
  unfold vwS
  rw [tb_or, tb_and, tb_and, tb_notL _ hk, tb_zero]; simp
/-- what is seen in a row is what was seen at its start -/
theorem vwS_row {H : HS} {t : Nat} {P : Int64 × Int64 × Bool} {N : NT} {r s : Nat} (hs : s ≤ 64) (h : H.cols * r ≤ s) (h64 : H.cols * r < 64) :
    vwS (rowM H r) N.c1 (seatRun H t P N s).a1 = vwS (rowM H r) N.c1 (seatRun H t P N (H.cols * r)).a1 ∧ vwS (rowM H r) N.c2 (seatRun H t P N s).a2 = vwS (rowM H r) N.c2 (seatRun H t P N (H.cols * r)).a2 := by
  unfold rowM
  by_cases hr : H.byRows = true
  · rw [if_pos hr]
    constructor <;> refine tb_ext fun j hj => ?_ <;> unfold vwS <;> rw [tb_or, tb_and, tb_and, tb_notL _ hj, tb_or, tb_and, tb_and, tb_notL _ hj, tb_low h64 hj] <;> by_cases hk : j < H.cols * r
    · rw [(seatRun_keep (H.cols * r) s hs h j hk).1]
    · simp [hk]
    · rw [(seatRun_keep (H.cols * r) s hs h j hk).2.1]
    · simp [hk]
  · rw [if_neg hr, vwS_0, vwS_0, vwS_0, vwS_0]; exact ⟨rfl, rfl⟩
