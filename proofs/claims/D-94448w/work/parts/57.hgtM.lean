set_option linter.unusedVariables false
set_option linter.unusedSimpArgs false
set_option maxRecDepth 100000
/-! ===== how many stand at most, in HouseClapsModel ===== -/
def hgtS (H : HS) (C : List Cu) (p h : Int64) : Nat → Int32
  | 0 => 0
  | k + 1 => if pc (nightS H C p h k).c2 ≤ hgtS H C p h k then hgtS H C p h k else pc (nightS H C p h k).c2
def MS.sN (m : MS) (y : MN) : MS := (MS.mk (m.thrown) (m.length) (m.seatsPaid) (m.seatsHiss) (m.lays) (m.arranged) (m.tape) (m.s) (m.area) (m.kept) (m.keptPaid) (m.keptHiss) (m.isKept) (m.r) (m.h) (y) (m.c))
def MS.sH (m : MS) (z : Int32) : MS := (MS.mk (m.thrown) (m.length) (m.seatsPaid) (m.seatsHiss) (m.lays) (m.arranged) (m.tape) (m.s) (m.area) (m.kept) (m.keptPaid) (m.keptHiss) (m.isKept) (m.r) (m.h) ((MN.mk (m.n.paidNow) (m.n.hissNow) (m.n.clapping) (m.n.standing) (m.n.low) (m.n.high) (m.n.gone) (m.n.cueNext) (z) (m.n.nightCarries) (m.n.held) (m.n.claps) (m.n.stand) (m.n.heldLow) (m.n.heldHigh))) (m.c))
def MS.sC (m : MS) (z : Int32) : MS := (MS.mk (m.thrown) (m.length) (m.seatsPaid) (m.seatsHiss) (m.lays) (m.arranged) (m.tape) (m.s) (m.area) (m.kept) (m.keptPaid) (m.keptHiss) (m.isKept) (m.r) (m.h) ((MN.mk (m.n.paidNow) (m.n.hissNow) (m.n.clapping) (m.n.standing) (m.n.low) (m.n.high) (m.n.gone) (m.n.cueNext) (m.n.nightHeight) (z) (m.n.held) (m.n.claps) (m.n.stand) (m.n.heldLow) (m.n.heldHigh))) (m.c))
theorem sN_sH (m : MS) (y : MN) (z : Int32) : (m.sN y).sH z = m.sN ((m.sN y).sH z).n := rfl
theorem sC_n (m : MS) (z : Int32) : m.sC z = m.sN (m.sC z).n := rfl
theorem sN_sN (m : MS) (y z : MN) : (m.sN y).sN z = m.sN z := rfl
theorem sH_sN (m : MS) (y : MN) (z : Int32) : (m.sH z).sN y = m.sN y := rfl
theorem sN_s (m : MS) (y : MN) : (m.sN y).s = m.s := rfl
theorem sH_s (m : MS) (z : Int32) : (m.sH z).s = m.s := rfl
theorem sN_area (m : MS) (y : MN) : (m.sN y).area = m.area := rfl
theorem sH_area (m : MS) (z : Int32) : (m.sH z).area = m.area := rfl
theorem sN_n (m : MS) (y : MN) : (m.sN y).n = y := rfl
theorem MArea.sN {m : MS} {H : HS} {y : MN} (h : MArea m H) : MArea (m.sN y) H := by
  unfold MArea; rw [sN_area]; exact h
theorem MArea.sH {m : MS} {H : HS} {z : Int32} (h : MArea m H) : MArea (m.sH z) H := by
  unfold MArea; rw [sH_area]; exact h
section HgtM
variable {b : Mem} {n s : Nat} {H : HS} {C : List Cu} {p h : Int64}
theorem MRun.sH {m : MS} {t : Nat} {z : Int32} (hR : MRun m H C p h t) : MRun (m.sH z) H C p h t := ⟨⟨hR.nt.paid, hR.nt.hiss, hR.nt.c1, hR.nt.c2, hR.nt.lo, hR.nt.hi, hR.nt.next, hR.nt.gone⟩, hR.k1, hR.k2, hR.k3, hR.k4⟩
theorem MRun.sC {m : MS} {t : Nat} {z : Int32} (hR : MRun m H C p h t) : MRun (m.sC z) H C p h t := ⟨⟨hR.nt.paid, hR.nt.hiss, hR.nt.c1, hR.nt.c2, hR.nt.lo, hR.nt.hi, hR.nt.next, hR.nt.gone⟩, hR.k1, hR.k2, hR.k3, hR.k4⟩
theorem pM_99' {m : MS} {v : Int32} : pI (mkM b n s m) (some 106) 99 v = some (mkM b n s (m.sH v)) := pM_99
theorem pM_100' {m : MS} (v : Bool) : pI (mkM b n s m) (some 106) 100 (b2i v) = some (mkM b n s (m.sC (b2i v))) := pM_100 (by cases v; exact Or.inl rfl; exact Or.inr rfl)
theorem M_hgt (ok : H.Ok) : ∀ (k f t : Nat) (m : MS), t + k = 61 → k < f → MHouse m.s H → MCues m.s C → MArea m H → MRun m H C p h t → m.n.nightHeight = hgtS H C p h t →
    ∃ y, bX4_height_11 f (some 106) (mkM b n s m) = some (hgtS H C p h 61, mkM b n s (m.sN y)) ∧ MRun (m.sN y) H C p h 61 ∧ y.nightHeight = hgtS H C p h 61 ∧ y.nightCarries = b2i (decide (n2 H.carry ≤ hgtS H C p h 61)) := by
  intro k
  induction k with
  | zero =>
    intro f t m hk hf hH hC ha hR hg
    obtain ⟨f, rfl⟩ : ∃ g, f = g + 1 := ⟨f - 1, by omega⟩
    have e : t = 61 := by omega
    subst e
    have r3 : ifx 681 (3 : Int32) (m.s (3 : Int32).toNatClampNeg) = some (n2 H.carry) := (rd_s (k := 3) (by decide)).trans (congrArg some hH.carry)
    generalize hgtS H C p h 61 = Z at hg ⊢
    have key : ∀ c : Bool, bX4_height_77 (some 106) (some 106) (b2i c) (mkM b n s m) = some (Z, mkM b n s (m.sC (b2i c))) := by
      intro c
      unfold bX4_height_77
      rw [pM_100' c, Option.bind_some, gM_99, Option.bind_some]
      show some (m.n.nightHeight, _) = _
      rw [hg]
    refine ⟨(m.sC (b2i (decide (n2 H.carry ≤ Z)))).n, ?_, ?_, hg, rfl⟩
    · show bX4_height_11B _ _ _ = _
      unfold bX4_height_11B
      rw [gM_97, Option.bind_some, hR.nt.gone, if_pos (by decide), gM_99, Option.bind_some, gM_61, Option.bind_some, aM_108, r3, Option.bind_some, hg, ← sC_n]
      by_cases hc : Z < n2 H.carry
      · rw [if_pos hc, show decide (n2 H.carry ≤ Z) = false from decide_eq_false (Int32.not_le.mpr hc)]; exact key false
      · rw [if_neg hc, show decide (n2 H.carry ≤ Z) = true from decide_eq_true (Int32.not_lt.mp hc)]; exact key true
    · rw [← sC_n]; exact hR.sC
  | succ k ih =>
    intro f t m hk hf hH hC ha hR hg
    obtain ⟨f, rfl⟩ : ∃ g, f = g + 1 := ⟨f - 1, by omega⟩
    obtain ⟨y, e, hR', hq⟩ := M_step (b := b) (n := n) (s := s) hH ok hC ha hR (by omega)
    have e0 : fX4_moment (some 106) (mkM b n s m) = some ((), mkM b n s (m.sN y)) := e
    have hR2 : MRun (m.sN y) H C p h (t + 1) := hR'
    clear e hR'
    obtain ⟨y', e', h1, h2, h3⟩ := ih f (t + 1) ((m.sN y).sH (hgtS H C p h (t + 1))) (by omega) (by omega) hH hC ha.sN.sH hR2.sH rfl
    rw [sH_sN, sN_sN] at e' h1
    refine ⟨y', Eq.trans ?_ e', h1, h2, h3⟩
    have hst : (m.sN y).n.standing = (nightS H C p h t).c2 := hR2.nt.c2
    have hh : (m.sN y).n.nightHeight = hgtS H C p h t := hq.trans hg
    show bX4_height_11B (bX4_height_11 f) _ _ = _
    unfold bX4_height_11B bX4_height_52
    rw [gM_97, Option.bind_some, hR.nt.gone, if_neg (show ¬ (60 : Int32) < n2 t by rw [llt (k := 60) (by decide) (by omega)]; omega), ivM, e0, bd_some, gM_94, Option.bind_some, pcM, bd_some, gM_99, Option.bind_some, Option.bind_some, hst, hh, pM_99', pM_99', Option.bind_some, Option.bind_some]
    have hZ : hgtS H C p h (t + 1) = if pc (nightS H C p h t).c2 ≤ hgtS H C p h t then hgtS H C p h t else pc (nightS H C p h t).c2 := rfl
    rw [hZ]
    by_cases hc : pc (nightS H C p h t).c2 ≤ hgtS H C p h t
    · rw [if_pos hc, if_pos hc]
    · rw [if_neg hc, if_neg hc]
def MS.lay (m : MS) (g : Nat → Int64) (y : MN) : MS := (MS.mk (m.thrown) (m.length) (m.seatsPaid) (m.seatsHiss) (0) (m.arranged) (m.tape) (m.s) (g) (m.kept) (m.keptPaid) (m.keptHiss) (m.isKept) (m.r) (m.h) (y) (m.c))
theorem beg_lay (m : MS) (g : Nat → Int64) (p h : Int64) : m.beg g p h = m.lay g (m.beg g p h).n := rfl
theorem lay_sN (m : MS) (g : Nat → Int64) (y z : MN) : (m.lay g y).sN z = m.lay g z := rfl
theorem lay_sH (m : MS) (g : Nat → Int64) (y : MN) (z : Int32) : (m.lay g y).sH z = m.lay g ((m.lay g y).sH z).n := rfl
/-- a short night of the model -/
theorem M_height {m : MS} (ok : H.Ok) (har : H.ArOk) (hH : MHouse m.s H) (hC : MCues m.s C) (hl : m.lays = 0 → MArea m H) (h01 : m.lays = 0 ∨ m.lays = 1) :
    ∃ g y, fX4_height (some 106) p h (mkM b n s m) = some (hgtS H C p h 61, mkM b n s (m.lay g y)) ∧ MArea (m.lay g y) H ∧ MRun (m.lay g y) H C p h 61 ∧ y.nightHeight = hgtS H C p h 61 ∧ y.nightCarries = b2i (decide (n2 H.carry ≤ hgtS H C p h 61)) := by
  obtain ⟨g, e, ha, hR⟩ := M_begin (b := b) (n := n) (s := s) (C := C) (p := p) (h := h) ok har hH hl h01
  rw [beg_lay] at e ha hR
  obtain ⟨y, e2, r1, r2, r3⟩ := M_hgt (b := b) (n := n) (s := s) (C := C) (p := p) (h := h) ok 61 hcFuel 0 ((m.lay g (m.beg g p h).n).sH 0) (by omega) (by unfold hcFuel; omega) hH hC ha.sH hR.sH rfl
  rw [sH_sN, lay_sN] at e2 r1
  refine ⟨g, y, ?_, ?_, r1, r2, r3⟩
  · unfold fX4_height
    rw [ivM, e, bd_some, pM_99', Option.bind_some, e2]
  · have := (ha.sN (y := y))
    rw [lay_sN] at this; exact this
theorem M_night {m : MS} {T : Nat} (hT : T ≤ 600) (ok : H.Ok) (har : H.ArOk) (hH : MHouse m.s H) (hC : MCues m.s C) (hl : m.lays = 0 → MArea m H) (h01 : m.lays = 0 ∨ m.lays = 1) :
    ∃ g y, fX4_night (some 106) (n2 T) (mkM b n s m) = some ((), mkM b n s (m.lay g y)) ∧ MArea (m.lay g y) H ∧ MRun (m.lay g y) H C m.seatsPaid m.seatsHiss (T + 1) := by
  obtain ⟨g, e, ha, hR⟩ := M_begin (b := b) (n := n) (s := s) (C := C) (p := m.seatsPaid) (h := m.seatsHiss) ok har hH hl h01
  rw [beg_lay] at e ha hR
  obtain ⟨y, e2, r1⟩ := M_to (b := b) (n := n) (s := s) (C := C) ok hT (T + 1) hcFuel 0 (m.lay g (m.beg g m.seatsPaid m.seatsHiss).n) (by omega) (by unfold hcFuel; omega) hH hC ha hR
  refine ⟨g, y, ?_, ?_, r1⟩
  · unfold fX4_night
    rw [gM_71, Option.bind_some, gM_72, Option.bind_some, ivM, e, bd_some]
    exact e2
  · have := (ha.sN (y := y))
    rw [lay_sN] at this; exact this
end HgtM
