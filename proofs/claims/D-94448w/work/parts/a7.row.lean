set_option linter.unusedVariables false
set_option linter.unusedSimpArgs false
set_option maxRecDepth 100000
/-! ===== lines of a house: a row ===== -/
section Str
variable {B : Mem} {c : Cl} {T : List Cl} {z k e i : Nat} {ch : Nat → Nat}
theorem chr_id : ∀ c : Nat, c < 128 → nch (nch (i2cv (n2 c &&& (255 : Int32)))) = n2 c := by decide +kernel
theorem X_len (S : StrT (mNx B) T e k ch) (hk : k ≤ 8) : fJ4_length (some (mNx B + (1 + e))) (ovs B (c :: T) z) = some (n2 k, ovs B (c :: T) z) := by
  obtain ⟨d, h1, h2, h3, h4, h5, h6, h7, h8⟩ := S
  have r1 : gI (ovs B (c :: T) z) (some (mNx B + (1 + e))) 156 = some 0 := (tc_gI h1 (by rw [h3]; rfl)).trans (congrArg some h4)
  have r2 : gA (ovs B (c :: T) z) (some (mNx B + (1 + e))) 155 = some (some (mNx B + (1 + d))) := (tc_gA h1 (by rw [h3]; rfl)).trans (congrArg some h5)
  have n1 : aN (ovs B (c :: T) z) (some (mNx B + (1 + d))) = some (n2 k) := (tc_aN h2 (by rw [h6]; decide)).trans (by rw [h7])
  have iv1 : ∀ {α : Type} (o : Option α), iv (ovs B (c :: T) z) (some (mNx B + (1 + e))) [19] o = o := fun o => tc_iv h1 (by rw [h3]; rfl)
  have sh0 : shrI (n2 k) 0 = n2 k := by
    have := shrI_n2 (w := k) (k := 0) (by omega) (by decide)
    rw [Nat.pow_zero, Nat.div_one] at this; exact this
  unfold fJ4_length fJ4_coder
  simp -implicitDefEqProofs only [Option.bind_some, bd_some, b2i_0, Bool.true_eq_false, Bool.false_eq_true, eq_self, if_true, if_false, not_true_eq_false, not_false_eq_true, r2, n1, iv1, show ((1 : Int32) = 0) = False from eq_false (by decide), r1, show nby 0 = 0 from by decide, sh0]
theorem X_chr (S : StrT (mNx B) T e k ch) (hk : k ≤ 8) (hi : i < k) (hc : ch i < 128) : fJ4_charAt (some (mNx B + (1 + e))) (n2 i) (ovs B (c :: T) z) = some (n2 (ch i), ovs B (c :: T) z) := by
  obtain ⟨d, h1, h2, h3, h4, h5, h6, h7, h8⟩ := S
  have r1 : gI (ovs B (c :: T) z) (some (mNx B + (1 + e))) 156 = some 0 := (tc_gI h1 (by rw [h3]; rfl)).trans (congrArg some h4)
  have r2 : gA (ovs B (c :: T) z) (some (mNx B + (1 + e))) 155 = some (some (mNx B + (1 + d))) := (tc_gA h1 (by rw [h3]; rfl)).trans (congrArg some h5)
  have n1 : aN (ovs B (c :: T) z) (some (mNx B + (1 + d))) = some (n2 k) := (tc_aN h2 (by rw [h6]; decide)).trans (by rw [h7])
  have iv1 : ∀ {α : Type} (o : Option α), iv (ovs B (c :: T) z) (some (mNx B + (1 + e))) [19] o = o := fun o => tc_iv h1 (by rw [h3]; rfl)
  have ab : aB (ovs B (c :: T) z) (some (mNx B + (1 + d))) (n2 i) = some (n2 (ch i)) := (o_aB (tc_len h2) (by rw [tc_at]; exact h6) (by rw [tc_at, h7]; exact hi) (by omega)).trans (by rw [tc_at, h8 i hi])
  have ge : (n2 i < (0 : Int32)) = False := n2_ge (by omega)
  have lt : (n2 i < n2 k) = True := by rw [n2_lt (by omega) (by omega)]; exact eq_true hi
  unfold fJ4_charAt fJ4_isLatin1 fJ5_charAt fJ4_checkIndex fJ8_checkIndex
  simp -implicitDefEqProofs only [Option.bind_some, bd_some, b2i_0, Bool.true_eq_false, Bool.false_eq_true, eq_self, if_true, if_false, not_true_eq_false, not_false_eq_true, iv1, show ((1 : Int32) = 0) = False from eq_false (by decide), r1, r2, n1, ge, lt, ab, chr_id (ch i) hc]
end Str
/-- a letter's kind: x a pillar -/
def kdc (c : Nat) : Nat := if c = 120 then 0 else c - 96
def okc (c : Nat) : Bool := decide (c = 120 ∨ c ≤ 102)
def HS.sRow (H : HS) (k : Nat) (ch : Nat → Nat) : HS := HS.mk (H.rows + 1) k H.carry H.paid H.byRows (fun v => if H.size ≤ v ∧ v < H.size + k then kdc (ch (v - H.size)) else H.kind v) H.price H.leaves H.law H.ar
def cntN (ch : Nat → Nat) : Nat → Nat
  | 0 => 0
  | i + 1 => cntN ch i + (if ch i = 120 then 0 else 1)
theorem sRow_size {H : HS} {k : Nat} {ch : Nat → Nat} (h : H.rows = 0 ∨ H.cols = k) : (H.sRow k ch).size = H.size + k := by
  show (H.rows + 1) * k = H.rows * H.cols + k
  rcases h with h | h
  · rw [h]; omega
  · rw [h, Nat.add_mul, Nat.one_mul]
theorem sRow_seats {H : HS} {k : Nat} {ch : Nat → Nat} (h : H.rows = 0 ∨ H.cols = k) (hch : ∀ i, i < k → 97 ≤ ch i) : (H.sRow k ch).seats = H.seats + cntN ch k := by
  have key : ∀ i, i ≤ k → ((List.range (H.size + i)).filter fun v => decide ((H.sRow k ch).kind v ≠ 0)).length = H.seats + cntN ch i := by
    intro i
    induction i with
    | zero =>
      intro _
      rw [Nat.add_zero]
      show _ = H.seats + 0
      unfold HS.seats
      rw [Nat.add_zero]
      congr 1
      refine List.filter_congr (fun v hv => ?_)
      have : v < H.size := List.mem_range.mp hv
      show decide ((if H.size ≤ v ∧ v < H.size + k then kdc (ch (v - H.size)) else H.kind v) ≠ 0) = _
      rw [if_neg (by omega)]
    | succ i ih =>
      intro hi
      rw [← Nat.add_assoc, List.range_succ, List.filter_append, List.length_append, ih (by omega)]
      have e : (H.sRow k ch).kind (H.size + i) = kdc (ch i) := by
        show (if H.size ≤ H.size + i ∧ H.size + i < H.size + k then kdc (ch (H.size + i - H.size)) else H.kind (H.size + i)) = _
        rw [if_pos (by omega), Nat.add_sub_cancel_left]
      have hc := hch i (by omega)
      simp -implicitDefEqProofs only [cntN]
      by_cases e1 : ch i = 120
      · have hk : (H.sRow k ch).kind (H.size + i) = 0 := by rw [e]; unfold kdc; rw [if_pos e1]
        rw [if_pos e1]
        simp -implicitDefEqProofs only [List.filter_cons, hk, ne_eq, not_true_eq_false, decide_false, Bool.false_eq_true, if_false, List.filter_nil, List.length_nil]
        omega
      · have hk : ¬ (H.sRow k ch).kind (H.size + i) = 0 := by rw [e]; unfold kdc; rw [if_neg e1]; omega
        rw [if_neg e1]
        simp -implicitDefEqProofs only [List.filter_cons, hk, ne_eq, not_false_eq_true, decide_true, if_true, List.filter_nil, List.length_singleton]
        omega
  have := key k (Nat.le_refl _)
  unfold HS.seats at this ⊢
  rw [sRow_size h]; exact this
section Row
variable {B b' : Mem} {m : MS} {tp : Nat → Int32} {to most A Z n s : Nat} {c : Cl} {T : List Cl} {z p ln k e P : Nat} {r : MR} {h : MH} {H : HS}
theorem M_oct {i : Nat} (ht : m.tape = tp) (hi : i < 940) : fX4_octet (some 106) (n2 i) (mkM b' n s (m.sRH r h)) = some (n2 (octN (tp i)), mkM b' n s (m.sRH r h)) := by
  have a : aB (mkM b' n s (m.sRH r h)) (some 107) (n2 i) = some (tp i) := by
    rw [aM_107, ifx_k hi (by omega), n2_nat (by omega), sRH_tape, ht]
  unfold fX4_octet
  simp -implicitDefEqProofs only [Option.bind_some, bd_some, b2i_0, Bool.true_eq_false, Bool.false_eq_true, eq_self, if_true, if_false, not_true_eq_false, not_false_eq_true, gM_56, a]
  rw [oct_eq]
/-- the letters' check in HouseClaps -/
theorem X_row83 (ch : Nat → Nat) (S : RsR B c T (m.sRH r h) tp to most p) (h5 : c.t = 5) (kd2 : c.i 128 = 2) (h132 : c.a 132 = some (mNx B + (1 + e))) (St : StrT (mNx B) T e k ch) (hk : k ≤ 8) (hch : ∀ i, i < k → 97 ≤ ch i ∧ ch i ≤ 122) : ∀ (j F i : Nat), i + j = k → j < F → (∀ q, q < i → okc (ch q) = true) →
    ((∀ q, q < k → okc (ch q) = true) ∧ bX6_row_83 F (some (mNx B)) (n2 i) (ovs B (c :: T) z) = (gA (ovs B (c :: T) z) (some (mNx B)) 133).bind fun x137 => (pI (ovs B (c :: T) z) x137 29 (n2 k)).bind fun st => bX6_row_152 hcFuel (some (mNx B)) (0 : Int32) st) ∨
    (¬ (∀ q, q < k → okc (ch q) = true) ∧ bX6_row_83 F (some (mNx B)) (n2 i) (ovs B (c :: T) z) = some (.inr (mNx B + (1 + T.length)), ovs B (c :: (T ++ [fcC (if c.i 128 = 1 ∨ c.i 128 = 5 then 1 else 2) (c.i 129)])) (z + 8))) := by
  have G2 : gA (ovs B (c :: T) z) (some (mNx B)) 132 = some (some (mNx B + (1 + e))) := (rd_132 S.R.t).trans (congrArg some h132)
  have I19 : ∀ {α : Type} (o : Option α), iv (ovs B (c :: T) z) (some (mNx B + (1 + e))) [19] o = o := fun o => by
    obtain ⟨d, q1, q2, q3, -⟩ := St
    exact tc_iv q1 (by rw [q3]; rfl)
  have XL := X_len (c := c) (z := z) St hk
  intro j
  induction j with
  | zero =>
    intro F i hi hF hq
    obtain ⟨F, rfl⟩ : ∃ g, F = g + 1 := ⟨F - 1, by omega⟩
    have ei : i = k := by omega
    subst ei
    refine Or.inl ⟨hq, ?_⟩
    show bX6_row_83B _ _ _ _ = _
    unfold bX6_row_83B
    simp -implicitDefEqProofs only [Option.bind_some, bd_some, b2i_0, Bool.true_eq_false, Bool.false_eq_true, eq_self, if_true, if_false, not_true_eq_false, not_false_eq_true, G2, I19, XL, show (n2 i ≤ n2 i) = True from eq_true (Int32.le_refl _)]
  | succ j ih =>
    intro F i hi hF hq
    obtain ⟨F, rfl⟩ : ∃ g, F = g + 1 := ⟨F - 1, by omega⟩
    have ik : i < k := by omega
    have hc := hch i ik
    have XC := X_chr (c := c) (z := z) (i := i) St hk ik (by omega)
    have le : (n2 k ≤ n2 i) = False := by rw [n2_le (by omega) (by omega)]; exact eq_false (by omega)
    have e120 : (n2 (ch i) = (120 : Int32)) = (ch i = 120) := by rw [li_120, n2_eq (by omega) (by omega)]
    have l102 : ((102 : Int32) < n2 (ch i)) = (102 < ch i) := by rw [li_102, n2_lt (by omega) (by omega)]
    have e1 : n2 i + 1 = n2 (i + 1) := n2_add i 1
    by_cases ok : okc (ch i) = true
    · have hq' : ∀ q, q < i + 1 → okc (ch q) = true := fun q h1 => by
        by_cases eq : q = i
        · rw [eq]; exact ok
        · exact hq q (by omega)
      have I := ih F (i + 1) (by omega) (by omega) hq'
      have st : bX6_row_83 (F + 1) (some (mNx B)) (n2 i) (ovs B (c :: T) z) = bX6_row_83 F (some (mNx B)) (n2 (i + 1)) (ovs B (c :: T) z) := by
        show bX6_row_83B (bX6_row_83 F) _ _ _ = _
        unfold bX6_row_83B bX6_row_121 bX6_row_126
        have ok' := of_decide_eq_true ok
        by_cases h120 : ch i = 120
        · simp -implicitDefEqProofs only [Option.bind_some, bd_some, b2i_0, Bool.true_eq_false, Bool.false_eq_true, eq_self, if_true, if_false, not_true_eq_false, not_false_eq_true, G2, I19, XL, le, XC, e120, eq_true h120, rd_iv5 h5, X_need1', bt_inl, e1]
        · simp -implicitDefEqProofs only [Option.bind_some, bd_some, b2i_0, Bool.true_eq_false, Bool.false_eq_true, eq_self, if_true, if_false, not_true_eq_false, not_false_eq_true, G2, I19, XL, le, XC, e120, h120, l102, show (102 < ch i) = False from eq_false (by omega), rd_iv5 h5, X_need1', bt_inl, e1]
      rw [st]; exact I
    · refine Or.inr ⟨fun q => ok (q i ik), ?_⟩
      have ok' : ¬ (ch i = 120 ∨ ch i ≤ 102) := fun q => ok (decide_eq_true q)
      show bX6_row_83B (bX6_row_83 F) _ _ _ = _
      unfold bX6_row_83B bX6_row_126
      simp -implicitDefEqProofs only [Option.bind_some, bd_some, b2i_0, Bool.true_eq_false, Bool.false_eq_true, eq_self, if_true, if_false, not_true_eq_false, not_false_eq_true, G2, I19, XL, le, XC, e120, show (ch i = 120) = False from eq_false (by omega), l102, show (102 < ch i) = True from eq_true (by omega), rd_iv5 h5, X_need0' S.R 2, bt_inr]
/-- and in the model -/
theorem M_row62 (ht : m.tape = tp) (hpl : r.place = n2 P) (hsp : r.span = n2 k) (hk : k ≤ 8) (hP : P + k ≤ 940) (hch : ∀ i, i < k → 97 ≤ octN (tp (P + i)) ∧ octN (tp (P + i)) ≤ 122) : ∀ (j F i : Nat) (v : Bool), i + j = k → j < F →
    ∃ w : Bool, (w = true ↔ v = true ∧ ∀ q, i ≤ q → q < k → okc (octN (tp (P + q))) = true) ∧ bX4_readRow_62 F (some 106) (n2 H.rows) (b2i v) (n2 i) (mkM b' n s (m.sRH r h)) = (if ¬ b2i w = 0 then (uI (mkM b' n s (m.sRH r h)) (some 109) (1 : Int32) (n2 k)).bind fun st => bX4_readRow_143 hcFuel (some 106) (n2 H.rows) (0 : Int32) st else some (0, mkM b' n s (m.sRH (r.sF 2 r.place) h))) := by
  have nz0 : nz (0 : Int32) = 0 := by decide
  have g66 : gI (mkM b' n s (m.sRH r h)) (some 106) 66 = some (n2 k) := gM_66.trans (congrArg some hsp)
  have g65 : gI (mkM b' n s (m.sRH r h)) (some 106) 65 = some (n2 P) := gM_65.trans (congrArg some hpl)
  intro j
  induction j with
  | zero =>
    intro F i v hi hF
    obtain ⟨F, rfl⟩ : ∃ g, F = g + 1 := ⟨F - 1, by omega⟩
    have ei : i = k := by omega
    subst ei
    refine ⟨v, ⟨fun q => ⟨q, fun a b c => absurd c (by omega)⟩, fun q => q.1⟩, ?_⟩
    show bX4_readRow_62B _ _ _ _ _ _ = _
    unfold bX4_readRow_62B
    simp -implicitDefEqProofs only [Option.bind_some, bd_some, b2i_0, Bool.true_eq_false, Bool.false_eq_true, eq_self, if_true, if_false, not_true_eq_false, not_false_eq_true, g66, show (n2 i ≤ n2 i) = True from eq_true (Int32.le_refl _), gM_62, ivM, M_badH, nz0]
  | succ j ih =>
    intro F i v hi hF
    obtain ⟨F, rfl⟩ : ∃ g, F = g + 1 := ⟨F - 1, by omega⟩
    have ik : i < k := by omega
    have hc := hch i ik
    have MO := M_oct (b' := b') (n := n) (s := s) (m := m) (r := r) (h := h) (tp := tp) (i := P + i) ht (by omega)
    have ix : n2 P + n2 i = n2 (P + i) := n2_add P i
    have le : (n2 k ≤ n2 i) = False := by rw [n2_le (by omega) (by omega)]; exact eq_false (by omega)
    have e120 : (n2 (octN (tp (P + i))) = (120 : Int32)) = (octN (tp (P + i)) = 120) := by rw [li_120, n2_eq (by omega) (by omega)]
    have in_ : decide ((97 : Int32) ≤ n2 (octN (tp (P + i))) ∧ n2 (octN (tp (P + i))) ≤ (102 : Int32)) = decide (octN (tp (P + i)) ≤ 102) := decide_eq_decide.mpr (by
      rw [li_97, li_102, n2_le (by omega) (by omega), n2_le (by omega) (by omega)]
      exact ⟨fun q => q.2, fun q => ⟨hc.1, q⟩⟩)
    have e1 : n2 i + 1 = n2 (i + 1) := n2_add i 1
    obtain ⟨w, w1, w2⟩ := ih F (i + 1) (v && okc (octN (tp (P + i)))) (by omega) (by omega)
    refine ⟨w, ?_, ?_⟩
    · rw [w1]
      constructor
      · intro q
        have q1 := q.1
        rw [Bool.and_eq_true] at q1
        refine ⟨q1.1, fun a h1 h2 => ?_⟩
        by_cases ea : a = i
        · rw [ea]; exact q1.2
        · exact q.2 a (by omega) h2
      · intro q
        refine ⟨?_, fun a h1 h2 => q.2 a (by omega) h2⟩
        rw [q.1, q.2 i (by omega) ik]; rfl
    · rw [← w2]
      show bX4_readRow_62B (bX4_readRow_62 F) _ _ _ _ _ = _
      unfold bX4_readRow_62B bX4_readRow_113 bX4_readRow_109 bX4_readRow_114
      cases v
      · simp -implicitDefEqProofs only [Option.bind_some, bd_some, b2i_0, Bool.true_eq_false, Bool.false_eq_true, eq_self, if_true, if_false, not_true_eq_false, not_false_eq_true, g66, le, Bool.false_and, e1]; rfl
      · by_cases h120 : octN (tp (P + i)) = 120
        · have ok : okc (octN (tp (P + i))) = true := decide_eq_true (Or.inl h120)
          simp -implicitDefEqProofs only [Option.bind_some, bd_some, b2i_0, Bool.true_eq_false, Bool.false_eq_true, eq_self, if_true, if_false, not_true_eq_false, not_false_eq_true, g66, le, g65, ix, ivM, MO, e120, eq_true h120, e1, ok, Bool.true_and]; rfl
        · by_cases h102 : octN (tp (P + i)) ≤ 102
          · have ok : okc (octN (tp (P + i))) = true := decide_eq_true (Or.inr h102)
            simp -implicitDefEqProofs only [Option.bind_some, bd_some, b2i_0, Bool.true_eq_false, Bool.false_eq_true, eq_self, if_true, if_false, not_true_eq_false, not_false_eq_true, g66, le, g65, ix, ivM, MO, e120, h120, M_isIn, in_, decide_eq_true h102, e1, ok, Bool.true_and]; rfl
          · have ok : okc (octN (tp (P + i))) = false := decide_eq_false (fun q => q.elim h120 h102)
            simp -implicitDefEqProofs only [Option.bind_some, bd_some, b2i_0, Bool.true_eq_false, Bool.false_eq_true, eq_self, if_true, if_false, not_true_eq_false, not_false_eq_true, g66, le, g65, ix, ivM, MO, e120, h120, M_isIn, in_, decide_eq_false h102, e1, ok, Bool.true_and]; rfl
end Row
