set_option linter.unusedVariables false
set_option linter.unusedSimpArgs false
set_option maxRecDepth 100000
/-! ===== seats on the tape ===== -/
def octN (z : Int32) : Nat := (z &&& 255).toNatClampNeg
theorem and_nonneg (z w : Int32) (k : Nat) (hw : w.toBitVec.toNat ≤ k) (hk : k < 2147483648) : 0 ≤ z &&& w ∧ (z &&& w).toNatClampNeg ≤ k := by
  have h : (z &&& w).toBitVec.toNat ≤ k := by
    rw [Int32.toBitVec_and, BitVec.toNat_and]; exact Nat.le_trans Nat.and_le_right hw
  have e : (z &&& w).toInt = ((z &&& w).toBitVec.toNat : Int) := by
    show (z &&& w).toBitVec.toInt = _
    exact BitVec.toInt_eq_toNat_of_lt (by omega)
  constructor
  · rw [Int32.le_iff_toInt_le, e]; show (0 : Int) ≤ _; omega
  · show (z &&& w).toInt.toNat ≤ k
    rw [e, Int.toNat_natCast]; exact h
theorem oct_lt (z : Int32) : octN z < 256 := by
  have := (and_nonneg z 255 255 (by decide) (by decide)).2
  unfold octN; omega
theorem oct_eq (z : Int32) : z &&& 255 = n2 (octN z) := by
  have := (and_nonneg z 255 255 (by decide) (by decide)).1
  exact (Int32.ofNat_toNatClampNeg _ this).symm
def hadS (g : Nat → Nat) : Nat → Int64
  | 0 => 0
  | j + 1 => hadS g j ||| bitS (g j)
theorem hadS_tb {g : Nat → Nat} : ∀ {j : Nat}, (∀ u, u < j → g u < 64) → ∀ v, tb (hadS g j) v = true ↔ ∃ u, u < j ∧ g u = v
  | 0, _, v => by
    have : tb (hadS g 0) v = false := tb_zero v
    rw [this]; constructor
    · intro h; exact absurd h (by decide)
    · rintro ⟨u, hu, -⟩; omega
  | j + 1, hg, v => by
    have ih := hadS_tb (g := g) (j := j) (fun u hu => hg u (by omega)) v
    simp -implicitDefEqProofs only [hadS]
    rw [tb_or, Bool.or_eq_true, ih, tb_bitS (hg j (by omega)), decide_eq_true_eq]
    constructor
    · rintro (⟨u, hu, e⟩ | e)
      · exact ⟨u, by omega, e⟩
      · exact ⟨j, by omega, e.symm⟩
    · rintro ⟨u, hu, e⟩
      by_cases hj : u = j
      · subst hj; exact Or.inr e.symm
      · exact Or.inl ⟨u, by omega, e⟩
def isS (H : HS) (v : Nat) : Bool := decide (v < H.size) && decide (H.kind v ≠ 0)
def gdS (H : HS) (g : Nat → Nat) : Nat → Nat → Bool
  | _, 0 => true
  | j, k + 1 => isS H (g j) && (!tb (hadS g j) (g j) && gdS H g (j + 1) k)
theorem gdS_seat {H : HS} {g : Nat → Nat} : ∀ {j k : Nat}, gdS H g j k = true → ∀ u, j ≤ u → u < j + k → isS H (g u) = true
  | j, 0, _, u, h1, h2 => by omega
  | j, k + 1, h, u, h1, h2 => by
    simp -implicitDefEqProofs only [gdS, Bool.and_eq_true] at h
    by_cases e : u = j
    · subst e; exact h.1
    · exact gdS_seat (j := j + 1) (k := k) h.2.2 u (by omega) (by omega)
theorem gdS_add {H : HS} {g : Nat → Nat} : ∀ (j k l : Nat), gdS H g j (k + l) = (gdS H g j k && gdS H g (j + k) l)
  | j, 0, l => by simp [gdS]
  | j, k + 1, l => by
    rw [show k + 1 + l = (k + l) + 1 by omega]
    simp -implicitDefEqProofs only [gdS]
    rw [gdS_add (j + 1) k l, show j + (k + 1) = j + 1 + k by omega]
    simp -implicitDefEqProofs only [Bool.and_assoc]
theorem isS_lt {H : HS} {v : Nat} (h : isS H v = true) : v < H.size ∧ H.kind v ≠ 0 := by
  unfold isS at h; simp -implicitDefEqProofs only [Bool.and_eq_true, decide_eq_true_eq] at h; exact h
theorem isS_seatI {H : HS} {v : Nat} (hv : v < 2147483648) : seatI H (n2 v) = isS H v := seatI_n2 hv
def XS.sAsk (x : XS) (f : Nat → Int32) : XS := (XS.mk (x.taped) (x.fault) (x.bought) (x.worthMany) (x.beganFirst) (x.beganSecond) (x.seed) (x.arranged) (x.paid) (x.hiss) (x.orders) (x.house) (x.cues) (x.tape) (x.states) (f) (x.carriesSet) (x.heights) (x.worth) (x.mouths) (x.sided) (x.keptHouse) (x.keptPaid) (x.keptHiss) (x.kMod) (x.kData) (x.kSize) (x.out) (x.n0) (x.n1))
def XS.sMth (x : XS) (f : Nat → Int32) : XS := (XS.mk (x.taped) (x.fault) (x.bought) (x.worthMany) (x.beganFirst) (x.beganSecond) (x.seed) (x.arranged) (x.paid) (x.hiss) (x.orders) (x.house) (x.cues) (x.tape) (x.states) (x.asked) (x.carriesSet) (x.heights) (x.worth) (f) (x.sided) (x.keptHouse) (x.keptPaid) (x.keptHiss) (x.kMod) (x.kData) (x.kSize) (x.out) (x.n0) (x.n1))
def MS.sAk (m : MS) (f : Nat → Int32) (q : Int32) : MS := (MS.mk (m.thrown) (m.length) (m.seatsPaid) (m.seatsHiss) (m.lays) (m.arranged) (m.tape) (m.s) (m.area) (m.kept) (m.keptPaid) (m.keptHiss) (m.isKept) (m.r) (m.h) (m.n) ((MC.mk (q) (m.c.bought) (m.c.worthMany) (m.c.allOrders) (m.c.hasSides) (m.c.seenClaps) (m.c.seenStand) (m.c.seenAll) (m.c.beganA) (m.c.beganB) (m.c.seed) (f) (m.c.carried) (m.c.heights) (m.c.worths) (m.c.side) (m.c.otherClaps) (m.c.otherStand))))
section Takes
variable {b b' : Mem} {n s : Nat} {x : XS} {m : MS} {H : HS} {C : List Cu} {h c : Nat} {K : Nat → Option (HS × List Cu)} {p p' hi : Int64} {tp : Nat → Int32} {f0 j0 N : Nat}
theorem X_byteAt (hb : 131 ≤ mNx b) {k : Nat} (hk : k < 940) : fX1_byteAt (some 64) (n2 k) (mkX b x) = some (n2 (octN (x.tape k)), mkX b x) := by
  unfold fX1_byteAt
  simp -implicitDefEqProofs only [Option.bind_some, bd_some, b2i_0, Bool.true_eq_false, Bool.false_eq_true, eq_self, if_true, if_false, not_true_eq_false, not_false_eq_true, gX_1 hb, aX_65 hb, ifx_k hk (show k < 2147483648 by omega), n2_nat (show k < 2147483648 by omega), oct_eq]
theorem M_octet {k : Nat} (hk : k < 940) : fX4_octet (some 106) (n2 k) (mkM b' n s m) = some (n2 (octN (m.tape k)), mkM b' n s m) := by
  unfold fX4_octet
  simp -implicitDefEqProofs only [Option.bind_some, bd_some, b2i_0, Bool.true_eq_false, Bool.false_eq_true, eq_self, if_true, if_false, not_true_eq_false, not_false_eq_true, gM_56, aM_107, ifx_k hk (show k < 2147483648 by omega), n2_nat (show k < 2147483648 by omega), oct_eq]
theorem X_takesA (hb : 131 ≤ mNx b) (X : XHouse b h H) (ok : H.Ok) (hlen : f0 + j0 + N ≤ 940) (hN : N ≤ 8) : ∀ (k f i : Nat) (x : XS), i + k = N → k < f → x.tape = tp → x.house = some h → (∀ u, u < i → x.asked u = n2 (octN (tp (f0 + (j0 + u))))) →
    ∃ F, bX1_takesSeats_7 f (some 64) (n2 (f0 + j0)) (n2 N) (some 96) (hadS (fun u => octN (tp (f0 + u))) (j0 + i)) (n2 i) (mkX b x) = some ((if gdS H (fun u => octN (tp (f0 + u))) (j0 + i) k = true then n2 N else -1), mkX b (x.sAsk F)) ∧ (gdS H (fun u => octN (tp (f0 + u))) (j0 + i) k = true → ∀ u, u < N → F u = n2 (octN (tp (f0 + (j0 + u))))) := by
  have h64 := ok.size
  intro k
  induction k with
  | zero =>
    intro f i x hk hf ht hh hu
    obtain ⟨f, rfl⟩ : ∃ g, f = g + 1 := ⟨f - 1, by omega⟩
    have e : i = N := by omega
    subst e
    refine ⟨x.asked, ?_, fun _ => hu⟩
    show bX1_takesSeats_7B _ _ _ _ _ _ _ _ = _
    unfold bX1_takesSeats_7B
    rw [if_pos (Int32.le_refl _)]; rfl
  | succ k ih =>
    intro f i x hk hf ht hh hu
    obtain ⟨f, rfl⟩ : ∃ g, f = g + 1 := ⟨f - 1, by omega⟩
    have le : (n2 N ≤ n2 i) = False := by rw [n2_le (by omega) (by omega)]; exact eq_false (by omega)
    have ix : n2 (f0 + j0) + n2 i = n2 (f0 + (j0 + i)) := by rw [n2_add, Nat.add_assoc]
    have ol := oct_lt (tp (f0 + (j0 + i)))
    have i8 : i < 8 := by omega
    show ∃ F, bX1_takesSeats_7B (bX1_takesSeats_7 f) _ _ _ _ _ _ _ = _ ∧ _
    unfold bX1_takesSeats_7B
    simp -implicitDefEqProofs only [Option.bind_some, bd_some, b2i_0, Bool.true_eq_false, Bool.false_eq_true, eq_self, if_true, if_false, not_true_eq_false, not_false_eq_true, le, ivX hb, ix, X_byteAt hb (show f0 + (j0 + i) < 940 by omega), ht, gX_4 hb, hh, xh_iv X, X_isSeatI X ok, isS_seatI (show octN (tp (f0 + (j0 + i))) < 2147483648 by omega), gdS]
    rcases (Bool.eq_false_or_eq_true (isS H (octN (tp (f0 + (j0 + i)))))).symm with es | es
    · simp -implicitDefEqProofs only [Option.bind_some, bd_some, b2i_0, Bool.true_eq_false, Bool.false_eq_true, eq_self, if_true, if_false, not_true_eq_false, not_false_eq_true, es, Bool.false_and]
      exact ⟨x.asked, rfl, fun h => absurd h (by decide)⟩
    · obtain ⟨s1, -⟩ := isS_lt es
      have s64 : octN (tp (f0 + (j0 + i))) < 64 := by omega
      simp -implicitDefEqProofs only [Option.bind_some, bd_some, b2i_0, Bool.true_eq_false, Bool.false_eq_true, eq_self, if_true, if_false, not_true_eq_false, not_false_eq_true, es, X_has _ s64, Bool.true_and]
      rcases (Bool.eq_false_or_eq_true (tb (hadS (fun u => octN (tp (f0 + u))) (j0 + i)) (octN (tp (f0 + (j0 + i)))))).symm with eh | eh
      · simp -implicitDefEqProofs only [Option.bind_some, bd_some, b2i_0, Bool.true_eq_false, Bool.false_eq_true, eq_self, if_true, if_false, not_true_eq_false, not_false_eq_true, eh, Bool.not_false, Bool.true_and, uX_96 hb, ifx_k i8 (show i < 2147483648 by omega), n2_nat (show i < 2147483648 by omega), show n2 i + 1 = n2 (i + 1) from n2_add i 1]
        obtain ⟨F, e, J⟩ := ih f (i + 1) (x.sAsk (upq x.asked i (n2 (octN (tp (f0 + (j0 + i))))))) (by omega) (by omega) ht hh (fun u h2 => by
          show upq x.asked i _ u = _
          by_cases eu : u = i
          · rw [eu, upq_self]
          · rw [upq_ne _ _ eu]; exact hu u (by omega))
        exact ⟨F, e, J⟩
      · simp -implicitDefEqProofs only [Option.bind_some, bd_some, b2i_0, Bool.true_eq_false, Bool.false_eq_true, eq_self, if_true, if_false, not_true_eq_false, not_false_eq_true, eh, Bool.not_true, Bool.false_and]
        exact ⟨x.asked, rfl, fun h => absurd h (by decide)⟩
theorem X_takesB (hb : 131 ≤ mNx b) (X : XHouse b h H) (ok : H.Ok) (hlen : f0 + j0 + N ≤ 940) (hN : N ≤ 8) : ∀ (k f i : Nat) (x : XS), i + k = N → k < f → x.tape = tp → x.house = some h → (∀ u, u < i → x.mouths u = n2 (octN (tp (f0 + (j0 + u))))) →
    ∃ F, bX1_takesSeats_7 f (some 64) (n2 (f0 + j0)) (n2 N) (some 100) (hadS (fun u => octN (tp (f0 + u))) (j0 + i)) (n2 i) (mkX b x) = some ((if gdS H (fun u => octN (tp (f0 + u))) (j0 + i) k = true then n2 N else -1), mkX b (x.sMth F)) ∧ (gdS H (fun u => octN (tp (f0 + u))) (j0 + i) k = true → ∀ u, u < N → F u = n2 (octN (tp (f0 + (j0 + u))))) := by
  have h64 := ok.size
  intro k
  induction k with
  | zero =>
    intro f i x hk hf ht hh hu
    obtain ⟨f, rfl⟩ : ∃ g, f = g + 1 := ⟨f - 1, by omega⟩
    have e : i = N := by omega
    subst e
    refine ⟨x.mouths, ?_, fun _ => hu⟩
    show bX1_takesSeats_7B _ _ _ _ _ _ _ _ = _
    unfold bX1_takesSeats_7B
    rw [if_pos (Int32.le_refl _)]; rfl
  | succ k ih =>
    intro f i x hk hf ht hh hu
    obtain ⟨f, rfl⟩ : ∃ g, f = g + 1 := ⟨f - 1, by omega⟩
    have le : (n2 N ≤ n2 i) = False := by rw [n2_le (by omega) (by omega)]; exact eq_false (by omega)
    have ix : n2 (f0 + j0) + n2 i = n2 (f0 + (j0 + i)) := by rw [n2_add, Nat.add_assoc]
    have ol := oct_lt (tp (f0 + (j0 + i)))
    have i8 : i < 8 := by omega
    show ∃ F, bX1_takesSeats_7B (bX1_takesSeats_7 f) _ _ _ _ _ _ _ = _ ∧ _
    unfold bX1_takesSeats_7B
    simp -implicitDefEqProofs only [Option.bind_some, bd_some, b2i_0, Bool.true_eq_false, Bool.false_eq_true, eq_self, if_true, if_false, not_true_eq_false, not_false_eq_true, le, ivX hb, ix, X_byteAt hb (show f0 + (j0 + i) < 940 by omega), ht, gX_4 hb, hh, xh_iv X, X_isSeatI X ok, isS_seatI (show octN (tp (f0 + (j0 + i))) < 2147483648 by omega), gdS]
    rcases (Bool.eq_false_or_eq_true (isS H (octN (tp (f0 + (j0 + i)))))).symm with es | es
    · simp -implicitDefEqProofs only [Option.bind_some, bd_some, b2i_0, Bool.true_eq_false, Bool.false_eq_true, eq_self, if_true, if_false, not_true_eq_false, not_false_eq_true, es, Bool.false_and]
      exact ⟨x.mouths, rfl, fun h => absurd h (by decide)⟩
    · obtain ⟨s1, -⟩ := isS_lt es
      have s64 : octN (tp (f0 + (j0 + i))) < 64 := by omega
      simp -implicitDefEqProofs only [Option.bind_some, bd_some, b2i_0, Bool.true_eq_false, Bool.false_eq_true, eq_self, if_true, if_false, not_true_eq_false, not_false_eq_true, es, X_has _ s64, Bool.true_and]
      rcases (Bool.eq_false_or_eq_true (tb (hadS (fun u => octN (tp (f0 + u))) (j0 + i)) (octN (tp (f0 + (j0 + i)))))).symm with eh | eh
      · simp -implicitDefEqProofs only [Option.bind_some, bd_some, b2i_0, Bool.true_eq_false, Bool.false_eq_true, eq_self, if_true, if_false, not_true_eq_false, not_false_eq_true, eh, Bool.not_false, Bool.true_and, uX_100 hb, ifx_k i8 (show i < 2147483648 by omega), n2_nat (show i < 2147483648 by omega), show n2 i + 1 = n2 (i + 1) from n2_add i 1]
        obtain ⟨F, e, J⟩ := ih f (i + 1) (x.sMth (upq x.mouths i (n2 (octN (tp (f0 + (j0 + i))))))) (by omega) (by omega) ht hh (fun u h2 => by
          show upq x.mouths i _ u = _
          by_cases eu : u = i
          · rw [eu, upq_self]
          · rw [upq_ne _ _ eu]; exact hu u (by omega))
        exact ⟨F, e, J⟩
      · simp -implicitDefEqProofs only [Option.bind_some, bd_some, b2i_0, Bool.true_eq_false, Bool.false_eq_true, eq_self, if_true, if_false, not_true_eq_false, not_false_eq_true, eh, Bool.not_true, Bool.false_and]
        exact ⟨x.mouths, rfl, fun h => absurd h (by decide)⟩
theorem M_takes43 {kk : Rf → Int32 → Int32 → Mem → Option (Int32 × Mem)} {g : Nat → Nat} {v2 v3 : Int32} {j : Nat} (hj : j < 14) (hg : ∀ u, u ≤ j → g u < 64) (hm : m.c.askedMany = n2 j) (ha : ∀ u, u < j → m.c.asked u = n2 (g u)) : ∀ (k f u : Nat), u + k = j → k < f → (∀ w, w < u → g w ≠ g j) →
    bX4_takesSeats_43 kk f (some 106) v2 v3 (n2 (g j)) (n2 u) (mkM b' n s m) = if tb (hadS g j) (g j) = true then some (0, mkM b' n s m) else kk (some 106) v2 (v3 + 1) (mkM b' n s (m.sAk (upq m.c.asked j (n2 (g j))) (n2 (j + 1)))) := by
  have hd := hadS_tb (g := g) (j := j) (fun u hu => hg u (by omega)) (g j)
  intro k
  induction k with
  | zero =>
    intro f u hk hf hw
    obtain ⟨f, rfl⟩ : ∃ g, f = g + 1 := ⟨f - 1, by omega⟩
    have e : u = j := by omega
    subst e
    have ht : tb (hadS g u) (g u) = false := by
      cases e : tb (hadS g u) (g u)
      · rfl
      · obtain ⟨w, w1, w2⟩ := hd.mp e; exact absurd w2 (hw w w1)
    show bX4_takesSeats_43B kk _ _ _ _ _ _ _ = _
    unfold bX4_takesSeats_43B
    rw [ht, gM_102, Option.bind_some, hm, if_pos (Int32.le_refl _), if_neg (by decide)]
    simp -implicitDefEqProofs only [gM_55, gM_57, gM_58, gM_59, gM_60, gM_64, gM_65, gM_66, gM_67, gM_68, gM_69, gM_70, gM_71, gM_72, gM_73, gM_74, gM_75, gM_76, gM_77, gM_81, gM_82, gM_83, gM_85, gM_86, gM_91, gM_92, gM_93, gM_94, gM_95, gM_96, gM_97, gM_98, gM_99, gM_100, gM_102, gM_103, gM_107, gM_108, gM_110, gM_111, gM_112, gM_113, gM_114, gM_115, gM_118, gM_119, gM_56, aM_107, nM_107, gM_61, aM_108, nM_108, gM_62, aM_109, nM_109, gM_63, aM_110, nM_110, gM_78, aM_111, nM_111, gM_79, aM_112, nM_112, gM_80, aM_113, nM_113, gM_84, aM_114, nM_114, gM_87, aM_115, nM_115, gM_88, aM_116, nM_116, gM_89, aM_117, nM_117, gM_90, aM_118, nM_118, gM_101, aM_119, nM_119, gM_104, aM_120, nM_120, gM_105, aM_121, nM_121, gM_106, aM_122, nM_122, gM_109, aM_123, nM_123, gM_116, aM_124, nM_124, gM_117, aM_125, nM_125, gM_120, aM_126, nM_126, gM_121, aM_127, nM_127, gM_122, aM_128, nM_128, gM_123, aM_129, nM_129, pM_55, pM_57, pM_58, pM_59, pM_60, pM_64, pM_65, pM_66, pM_67, pM_68, pM_69, pM_70, pM_71, pM_72, pM_73, pM_74, pM_75, pM_76, pM_77, pM_81, pM_82, pM_83, pM_85, pM_86, pM_91, pM_92, pM_93, pM_94, pM_95, pM_96, pM_97, pM_98, pM_99, pM_100, pM_102, pM_103, pM_107, pM_108, pM_110, pM_111, pM_112, pM_113, pM_114, pM_115, pM_118, pM_119, uM_107, uM_108, uM_109, uM_110, uM_111, uM_112, uM_113, uM_114, uM_115, uM_116, uM_117, uM_118, uM_119, uM_120, uM_121, uM_122, uM_123, uM_124, uM_125, uM_126, uM_127, uM_128, uM_129, ivM, Option.bind_some, bd_some, mk_MS_thrown, mk_MS_length, mk_MS_seatsPaid, mk_MS_seatsHiss, mk_MS_lays, mk_MS_arranged, mk_MS_tape, mk_MS_s, mk_MS_area, mk_MS_kept, mk_MS_keptPaid, mk_MS_keptHiss, mk_MS_isKept, mk_MS_r, mk_MS_h, mk_MS_n, mk_MS_c, mk_MR_size, mk_MR_p, mk_MR_limit, mk_MR_token, mk_MR_place, mk_MR_span, mk_MR_number, mk_MR_fault, mk_MR_faultAt, mk_MR_word, mk_MR_got, mk_MH_lines, mk_MH_prices, mk_MH_leavings, mk_MH_onces, mk_MH_codeMany, mk_MH_pileMany, mk_MH_ones, mk_MH_coming, mk_MH_hh, mk_MH_newCues, mk_MH_code, mk_MH_pile, mk_MN_paidNow, mk_MN_hissNow, mk_MN_clapping, mk_MN_standing, mk_MN_low, mk_MN_high, mk_MN_gone, mk_MN_cueNext, mk_MN_nightHeight, mk_MN_nightCarries, mk_MN_held, mk_MN_claps, mk_MN_stand, mk_MN_heldLow, mk_MN_heldHigh, mk_MC_askedMany, mk_MC_bought, mk_MC_worthMany, mk_MC_allOrders, mk_MC_hasSides, mk_MC_seenClaps, mk_MC_seenStand, mk_MC_seenAll, mk_MC_beganA, mk_MC_beganB, mk_MC_seed, mk_MC_asked, mk_MC_carried, mk_MC_heights, mk_MC_worths, mk_MC_side, mk_MC_otherClaps, mk_MC_otherStand, mk_NT_paid, mk_NT_hiss, mk_NT_c1, mk_NT_c2, mk_NT_lo, mk_NT_hi, mk_NT_next, mk_Ac_a1, mk_Ac_a2, mk_Ac_l, mk_Ac_h, hm, ifx_k hj (show u < 2147483648 by omega), n2_nat (show u < 2147483648 by omega), show n2 u + (1 : Int32) = n2 (u + 1) from n2_add u 1]
    rfl
  | succ k ih =>
    intro f u hk hf hw
    obtain ⟨f, rfl⟩ : ∃ g, f = g + 1 := ⟨f - 1, by omega⟩
    have u14 : u < 14 := by omega
    have le : (n2 j ≤ n2 u) = False := by rw [n2_le (by omega) (by omega)]; exact eq_false (by omega)
    have g1 := hg u (by omega)
    have g2 := hg j (by omega)
    have eq : (n2 (g u) = n2 (g j)) = (g u = g j) := n2_eq (by omega) (by omega)
    show bX4_takesSeats_43B kk (bX4_takesSeats_43 kk f) _ _ _ _ _ _ = _
    unfold bX4_takesSeats_43B
    simp -implicitDefEqProofs only [Option.bind_some, bd_some, b2i_0, Bool.true_eq_false, Bool.false_eq_true, eq_self, if_true, if_false, not_true_eq_false, not_false_eq_true, gM_102, hm, le, gM_101, aM_119, ifx_k u14 (show u < 2147483648 by omega), n2_nat (show u < 2147483648 by omega), ha u (by omega), eq, show n2 u + 1 = n2 (u + 1) from n2_add u 1]
    by_cases hc : g u = g j
    · have ht : tb (hadS g j) (g j) = true := hd.mpr ⟨u, by omega, hc⟩
      simp -implicitDefEqProofs only [Option.bind_some, bd_some, b2i_0, Bool.true_eq_false, Bool.false_eq_true, eq_self, if_true, if_false, not_true_eq_false, not_false_eq_true, hc, ht]
    · simp -implicitDefEqProofs only [Option.bind_some, bd_some, b2i_0, Bool.true_eq_false, Bool.false_eq_true, eq_self, if_true, if_false, not_true_eq_false, not_false_eq_true, hc]
      exact ih f (u + 1) (by omega) (by omega) (fun w h2 => by
        by_cases e : w = u
        · rw [e]; exact hc
        · exact hw w (by omega))
theorem M_takes (ok : H.Ok) (hlen : f0 + N ≤ 940) (hN : N ≤ 14) : ∀ (k f j : Nat) (m : MS), j + k = N → k < f → m.tape = tp → MHouse m.s H → m.c.askedMany = n2 j → (∀ u, u < j → m.c.asked u = n2 (octN (tp (f0 + u)))) → (∀ u, u < j → octN (tp (f0 + u)) < 64) →
    ∃ F q, bX4_takesSeats_17 f (some 106) (n2 (f0 + N)) (n2 (f0 + j)) (mkM b' n s m) = some (b2i (gdS H (fun u => octN (tp (f0 + u))) j k), mkM b' n s (m.sAk F q)) ∧ (gdS H (fun u => octN (tp (f0 + u))) j k = true → q = n2 N ∧ ∀ u, u < N → F u = n2 (octN (tp (f0 + u)))) := by
  have h64 := ok.size
  intro k
  induction k with
  | zero =>
    intro f j m hk hf ht hH hm ha hg
    obtain ⟨f, rfl⟩ : ∃ g, f = g + 1 := ⟨f - 1, by omega⟩
    have e : j = N := by omega
    subst e
    refine ⟨m.c.asked, m.c.askedMany, ?_, fun _ => ⟨hm, ha⟩⟩
    show bX4_takesSeats_17B _ _ _ _ _ = _
    unfold bX4_takesSeats_17B
    rw [if_pos (Int32.le_refl _)]; rfl
  | succ k ih =>
    intro f j m hk hf ht hH hm ha hg
    obtain ⟨f, rfl⟩ : ∃ g, f = g + 1 := ⟨f - 1, by omega⟩
    have le : (n2 (f0 + N) ≤ n2 (f0 + j)) = False := by rw [n2_le (by omega) (by omega)]; exact eq_false (by omega)
    have ol := oct_lt (tp (f0 + j))
    show ∃ F q, bX4_takesSeats_17B (bX4_takesSeats_17 f) _ _ _ _ = _ ∧ _
    unfold bX4_takesSeats_17B
    simp -implicitDefEqProofs only [Option.bind_some, bd_some, b2i_0, Bool.true_eq_false, Bool.false_eq_true, eq_self, if_true, if_false, not_true_eq_false, not_false_eq_true, le, ivM, M_octet (show f0 + j < 940 by omega), ht, M_isSeatI hH ok, isS_seatI (show octN (tp (f0 + j)) < 2147483648 by omega), gdS]
    cases es : isS H (octN (tp (f0 + j)))
    · simp -implicitDefEqProofs only [Option.bind_some, bd_some, b2i_0, Bool.true_eq_false, Bool.false_eq_true, eq_self, if_true, if_false, not_true_eq_false, not_false_eq_true, Bool.false_and]
      exact ⟨m.c.asked, m.c.askedMany, rfl, fun h => absurd h (by decide)⟩
    · obtain ⟨s1, -⟩ := isS_lt es
      have hg2 : ∀ u, u ≤ j → octN (tp (f0 + u)) < 64 := fun u hu => by
        by_cases e : u = j
        · rw [e]; omega
        · exact hg u (by omega)
      have E := M_takes43 (b' := b') (n := n) (s := s) (kk := bX4_takesSeats_17 f) (g := fun u => octN (tp (f0 + u))) (v2 := n2 (f0 + N)) (v3 := n2 (f0 + j)) (by omega) hg2 hm ha j hcFuel 0 (by omega) (by unfold hcFuel; omega) (fun w hw => absurd hw (Nat.not_lt_zero w))
      simp -implicitDefEqProofs only [Option.bind_some, bd_some, b2i_0, Bool.true_eq_false, Bool.false_eq_true, eq_self, if_true, if_false, not_true_eq_false, not_false_eq_true, Bool.true_and]
      rw [show (0 : Int32) = n2 0 from rfl, E]
      cases eh : tb (hadS (fun u => octN (tp (f0 + u))) j) (octN (tp (f0 + j)))
      · simp -implicitDefEqProofs only [Option.bind_some, bd_some, b2i_0, Bool.true_eq_false, Bool.false_eq_true, eq_self, if_true, if_false, not_true_eq_false, not_false_eq_true, Bool.not_false, Bool.true_and, show n2 (f0 + j) + 1 = n2 (f0 + (j + 1)) from n2_add (f0 + j) 1]
        obtain ⟨F, q, e, J⟩ := ih f (j + 1) (m.sAk (upq m.c.asked j (n2 (octN (tp (f0 + j))))) (n2 (j + 1))) (by omega) (by omega) ht hH rfl (fun u h2 => by
          show upq m.c.asked j _ u = _
          by_cases eu : u = j
          · rw [eu, upq_self]
          · rw [upq_ne _ _ eu]; exact ha u (by omega)) (fun u h2 => hg2 u (by omega))
        exact ⟨F, q, e, J⟩
      · simp -implicitDefEqProofs only [Option.bind_some, bd_some, b2i_0, Bool.true_eq_false, Bool.false_eq_true, eq_self, if_true, if_false, not_true_eq_false, not_false_eq_true, Bool.not_true, Bool.false_and]
        exact ⟨m.c.asked, m.c.askedMany, rfl, fun h => absurd h (by decide)⟩
end Takes
