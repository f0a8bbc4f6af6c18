set_option linter.unusedVariables false
set_option linter.unusedSimpArgs false
set_option maxRecDepth 100000
/-! ===== commands: coalitions ===== -/
theorem n2_and (a b : Nat) : n2 a &&& n2 b = n2 (a &&& b) := by
  refine Int32.toBitVec.inj ?_
  rw [Int32.toBitVec_and]
  show BitVec.ofNat 32 a &&& BitVec.ofNat 32 b = BitVec.ofNat 32 (a &&& b)
  rw [BitVec.ofNat_and]
theorem and2 (x y : Nat) : (x &&& y) / 2 = x / 2 &&& y / 2 ∧ (x &&& y) % 2 = x % 2 * (y % 2) := by
  refine ⟨Nat.and_div_two, ?_⟩
  have h := Nat.and_mod_two_pow (a := x) (b := y) (n := 1)
  rw [Nat.pow_one] at h
  rw [h]
  rcases Nat.mod_two_eq_zero_or_one x with e | e <;> rcases Nat.mod_two_eq_zero_or_one y with f | f <;> rw [e, f] <;> rfl
/-- the next smaller part of a set is the greatest one below -/
theorem sub_step : ∀ (n p q s : Nat), p ≤ n → q &&& s = q → p &&& s = p → q < p → q ≤ (p - 1) &&& s
  | 0, p, q, s, hn, _, _, hq => by omega
  | n + 1, p, q, s, hn, h1, h2, hq => by
    obtain ⟨a1, a2⟩ := and2 q s
    obtain ⟨b1, b2⟩ := and2 p s
    obtain ⟨c1, c2⟩ := and2 (p - 1) s
    rw [h1] at a1 a2
    rw [h2] at b1 b2
    have pm := Nat.mod_two_eq_zero_or_one p
    have qm := Nat.mod_two_eq_zero_or_one q
    have sm := Nat.mod_two_eq_zero_or_one s
    rcases pm with e | e
    · -- p even
      have hp : (p - 1) / 2 = p / 2 - 1 := by omega
      have hp2 : (p - 1) % 2 = 1 := by omega
      have ih := sub_step n (p / 2) (q / 2) (s / 2) (by omega) a1.symm b1.symm (by omega)
      rw [hp] at c1
      rw [hp2] at c2
      have hqs : q % 2 ≤ s % 2 := by
        rcases sm with f | f
        · rw [f, Nat.mul_zero] at a2; omega
        · omega
      rw [Nat.one_mul] at c2
      omega
    · have hp : (p - 1) / 2 = p / 2 := by omega
      rw [hp, ← b1] at c1
      omega
def bareS (cr : Nat → Bool) (set : Nat) : Bool := decide (∀ u, u < set → (u &&& set = u → cr u = false))
def XS.sCs (x : XS) (f : Nat → Int32) : XS := (XS.mk (x.taped) (x.fault) (x.bought) (x.worthMany) (x.beganFirst) (x.beganSecond) (x.seed) (x.arranged) (x.paid) (x.hiss) (x.orders) (x.house) (x.cues) (x.tape) (x.states) (x.asked) (f) (x.heights) (x.worth) (x.mouths) (x.sided) (x.keptHouse) (x.keptPaid) (x.keptHiss) (x.kMod) (x.kData) (x.kSize) (x.out) (x.n0) (x.n1))
def MS.sCd (m : MS) (f : Nat → Int32) : MS := (MS.mk (m.thrown) (m.length) (m.seatsPaid) (m.seatsHiss) (m.lays) (m.arranged) (m.tape) (m.s) (m.area) (m.kept) (m.keptPaid) (m.keptHiss) (m.isKept) (m.r) (m.h) (m.n) ((MC.mk (m.c.askedMany) (m.c.bought) (m.c.worthMany) (m.c.allOrders) (m.c.hasSides) (m.c.seenClaps) (m.c.seenStand) (m.c.seenAll) (m.c.beganA) (m.c.beganB) (m.c.seed) (m.c.asked) (f) (m.c.heights) (m.c.worths) (m.c.side) (m.c.otherClaps) (m.c.otherStand))))
theorem XS_eta (x : XS) : XS.mk x.taped x.fault x.bought x.worthMany x.beganFirst x.beganSecond x.seed x.arranged x.paid x.hiss x.orders x.house x.cues x.tape x.states x.asked x.carriesSet x.heights x.worth x.mouths x.sided x.keptHouse x.keptPaid x.keptHiss x.kMod x.kData x.kSize x.out x.n0 x.n1 = x := rfl
theorem lay_carried (m : MS) (g : Nat → Int64) (z : MN) : (m.lay g z).c.carried = m.c.carried := rfl
theorem sCs_self (x : XS) : x.sCs x.carriesSet = x := by unfold XS.sCs; exact XS_eta x
section Coal
variable {b b' : Mem} {n s : Nat} {x : XS} {m : MS} {H : HS} {C : List Cu} {h c : Nat} {K : Nat → Option (HS × List Cu)} {p hi : Int64} {a : Nat → Nat} {N : Nat} {cr : Nat → Bool}
theorem Duo.sCs {f : Nat → Int32} (R : Duo b x m H C h c K) : Duo b (x.sCs f) m H C h c K := ⟨R.hb, R.fz, R.ok, R.ar, R.XH, R.xh, R.XC, R.xc, R.MH, R.MC, R.lays, R.l01, R.tape, R.len, R.fault, R.paid, R.hiss, R.bought, R.worth, R.sided, R.b1, R.b2, R.arranged, R.kept, R.keptC⟩
theorem Duo.sCd {f : Nat → Int32} (R : Duo b x m H C h c K) : Duo b x (m.sCd f) H C h c K := ⟨R.hb, R.fz, R.ok, R.ar, R.XH, R.xh, R.XC, R.xc, R.MH, R.MC, R.lays, R.l01, R.tape, R.len, R.fault, R.paid, R.hiss, R.bought, R.worth, R.sided, R.b1, R.b2, R.arranged, R.kept, R.keptC⟩
theorem X_bare (hb : 131 ≤ mNx b) {set : Nat} (hs : set < 256) (hc : ∀ u, u < set → x.carriesSet u = b2i (cr u)) : ∀ (k f p : Nat), p ≤ k → k < f → p < set → p &&& set = p → (∀ u, p < u → u < set → u &&& set = u → cr u = false) →
    bX1_isBare_6 f (some 64) (n2 set) (n2 p) (mkX b x) = some (b2i (bareS cr set), mkX b x) := by
  have zero : ∀ f, 0 < set → (∀ u, 0 < u → u < set → u &&& set = u → cr u = false) → bX1_isBare_6 (f + 1) (some 64) (n2 set) (n2 0) (mkX b x) = some (b2i (bareS cr set), mkX b x) := by
    intro f h0 hu
    have ne : (n2 0 = n2 set) = False := by rw [n2_eq (by omega) (by omega)]; exact eq_false (by omega)
    have i0 : (0 : Nat) < 256 := by decide
    show bX1_isBare_6B (bX1_isBare_6 f) _ _ _ _ = _
    unfold bX1_isBare_6B bX1_isBare_22
    simp -implicitDefEqProofs only [Option.bind_some, bd_some, b2i_0, Bool.true_eq_false, Bool.false_eq_true, eq_self, if_true, if_false, not_true_eq_false, not_false_eq_true, ne, gX_13 hb, aX_97 hb, ifx_k i0 (show 0 < 2147483648 by decide), n2_nat (show 0 < 2147483648 by decide), hc 0 h0, show (n2 0 = (0 : Int32)) = True from eq_true rfl]
    rcases Bool.eq_false_or_eq_true (cr 0) with e | e
    · have d : bareS cr set = false := decide_eq_false (fun hall => by
        have := hall 0 h0 (Nat.zero_and _); rw [e] at this; exact absurd this (by decide))
      simp -implicitDefEqProofs only [Option.bind_some, bd_some, b2i_0, Bool.true_eq_false, Bool.false_eq_true, eq_self, if_true, if_false, not_true_eq_false, not_false_eq_true, e, d]; rfl
    · have d : bareS cr set = true := decide_eq_true (fun u h1 h2 => by
        by_cases hz : u = 0
        · rw [hz]; exact e
        · exact hu u (by omega) h1 h2)
      simp -implicitDefEqProofs only [Option.bind_some, bd_some, b2i_0, Bool.true_eq_false, Bool.false_eq_true, eq_self, if_true, if_false, not_true_eq_false, not_false_eq_true, e, d]; rfl
  intro k
  induction k with
  | zero =>
    intro f p hp hf hps hpp hu
    obtain ⟨f, rfl⟩ : ∃ g, f = g + 1 := ⟨f - 1, by omega⟩
    have e : p = 0 := by omega
    subst e
    exact zero f hps hu
  | succ k ih =>
    intro f p hp hf hps hpp hu
    obtain ⟨f, rfl⟩ : ∃ g, f = g + 1 := ⟨f - 1, by omega⟩
    by_cases hz : p = 0
    · subst hz; exact zero f hps hu
    have ne : (n2 p = n2 set) = False := by rw [n2_eq (by omega) (by omega)]; exact eq_false (by omega)
    have nz : (n2 p = (0 : Int32)) = False := by rw [li_0, n2_eq (by omega) (by decide)]; exact eq_false hz
    have p256 : p < 256 := by omega
    have st : (n2 p - (1 : Int32)) &&& n2 set = n2 ((p - 1) &&& set) := by rw [li_1, n2_sub (by omega), n2_and]
    have le : (p - 1) &&& set ≤ p - 1 := Nat.and_le_left
    show bX1_isBare_6B (bX1_isBare_6 f) _ _ _ _ = _
    unfold bX1_isBare_6B bX1_isBare_22
    simp -implicitDefEqProofs only [Option.bind_some, bd_some, b2i_0, Bool.true_eq_false, Bool.false_eq_true, eq_self, if_true, if_false, not_true_eq_false, not_false_eq_true, ne, nz, gX_13 hb, aX_97 hb, ifx_k p256 (show p < 2147483648 by omega), n2_nat (show p < 2147483648 by omega), hc p hps, st]
    rcases Bool.eq_false_or_eq_true (cr p) with e | e
    · have d : bareS cr set = false := decide_eq_false (fun hall => by
        have := hall p hps hpp; rw [e] at this; exact absurd this (by decide))
      simp -implicitDefEqProofs only [Option.bind_some, bd_some, b2i_0, Bool.true_eq_false, Bool.false_eq_true, eq_self, if_true, if_false, not_true_eq_false, not_false_eq_true, e, d]; rfl
    · simp -implicitDefEqProofs only [Option.bind_some, bd_some, b2i_0, Bool.true_eq_false, Bool.false_eq_true, eq_self, if_true, if_false, not_true_eq_false, not_false_eq_true, e]
      refine ih f ((p - 1) &&& set) (by omega) (by omega) (by omega) (by rw [Nat.and_assoc, Nat.and_self]) (fun u h1 h2 h3 => ?_)
      by_cases hlt : p < u
      · exact hu u hlt h2 h3
      · by_cases he : u = p
        · rw [he]; exact e
        · have := sub_step p p u set (Nat.le_refl _) h3 hpp (by omega)
          omega
theorem X_isBare (hb : 131 ≤ mNx b) {set : Nat} (h0 : 0 < set) (hs : set < 256) (hc : ∀ u, u < set → x.carriesSet u = b2i (cr u)) : fX1_isBare (some 64) (n2 set) (mkX b x) = some (b2i (bareS cr set), mkX b x) := by
  unfold fX1_isBare
  have st : (n2 set - (1 : Int32)) &&& n2 set = n2 ((set - 1) &&& set) := by rw [li_1, n2_sub (by omega), n2_and]
  have le : (set - 1) &&& set ≤ set - 1 := Nat.and_le_left
  have hF : 300 < hcFuel := by unfold hcFuel; omega
  generalize hcFuel = fu at hF ⊢
  rw [st, Option.bind_some]
  refine X_bare hb hs hc ((set - 1) &&& set) fu _ (Nat.le_refl _) (by omega) (by omega) (by rw [Nat.and_assoc, Nat.and_self]) (fun u h1 h2 h3 => ?_)
  have := sub_step set set u set (Nat.le_refl _) h3 (Nat.and_self _) h2
  omega
theorem M_bare {kk : Rf → Int32 → Int32 → Int32 → Mem → Option (Int32 × Mem)} {v1 v2 : Int32} {set : Nat} (hs : set < 256) (hc : ∀ u, u < set → m.c.carried u = b2i (cr u)) : ∀ (k f u : Nat), u + k = set → k < f → (∀ w, w < u → w &&& set = w → cr w = false) →
    bX4_coalitions_74 kk f (some 106) v1 v2 (n2 set) 1 (n2 u) (mkM b' n s m) = bX4_coalitions_117 kk (some 106) v1 v2 (n2 set) (b2i (bareS cr set)) (mkM b' n s m) := by
  intro k
  induction k with
  | zero =>
    intro f u hk hf hu
    obtain ⟨f, rfl⟩ : ∃ g, f = g + 1 := ⟨f - 1, by omega⟩
    have e : u = set := by omega
    subst e
    have d : bareS cr u = true := decide_eq_true hu
    show bX4_coalitions_74B kk _ _ _ _ _ _ _ _ = _
    unfold bX4_coalitions_74B
    rw [if_pos (Int32.le_refl _), d]; rfl
  | succ k ih =>
    intro f u hk hf hu
    obtain ⟨f, rfl⟩ : ∃ g, f = g + 1 := ⟨f - 1, by omega⟩
    have u256 : u < 256 := by omega
    have le : (n2 set ≤ n2 u) = False := by rw [n2_le (by omega) (by omega)]; exact eq_false (by omega)
    have al : u &&& set ≤ u := Nat.and_le_left
    have eq : (n2 (u &&& set) = n2 u) = (u &&& set = u) := n2_eq (by omega) (by omega)
    have ev : n2 u + 1 = n2 (u + 1) := n2_add u 1
    have nxt := fun (hn : u &&& set = u → cr u = false) => ih f (u + 1) (by omega) (by omega) (fun w h1 h2 => by
      by_cases e : w = u
      · subst e; exact hn h2
      · exact hu w (by omega) h2)
    show bX4_coalitions_74B kk (bX4_coalitions_74 kk f) _ _ _ _ _ _ _ = _
    unfold bX4_coalitions_74B bX4_coalitions_104 bX4_coalitions_109
    simp -implicitDefEqProofs only [Option.bind_some, bd_some, b2i_0, Bool.true_eq_false, Bool.false_eq_true, eq_self, if_true, if_false, not_true_eq_false, not_false_eq_true, le, show ((1 : Int32) = 0) = False from eq_false (by decide), n2_and, eq, gM_104, aM_120, ifx_k u256 (show u < 2147483648 by omega), n2_nat (show u < 2147483648 by omega), hc u (by omega), ev]
    by_cases hp : u &&& set = u
    · rcases Bool.eq_false_or_eq_true (cr u) with e | e
      · have d : bareS cr set = false := decide_eq_false (fun hall => by
          have := hall u (by omega) hp; rw [e] at this; exact absurd this (by decide))
        -- is = 0: the loop ends
        rw [d]
        simp -implicitDefEqProofs only [Option.bind_some, bd_some, b2i_0, Bool.true_eq_false, Bool.false_eq_true, eq_self, if_true, if_false, not_true_eq_false, not_false_eq_true, hp, e]
        by_cases hk0 : k = 0
        · obtain ⟨f, rfl⟩ : ∃ g, f = g + 1 := ⟨f - 1, by omega⟩
          show bX4_coalitions_74B kk _ _ _ _ _ _ _ _ = _
          unfold bX4_coalitions_74B
          rw [if_pos (by rw [n2_le (by omega) (by omega)]; omega)]; rfl
        · obtain ⟨f, rfl⟩ : ∃ g, f = g + 1 := ⟨f - 1, by omega⟩
          show bX4_coalitions_74B kk _ _ _ _ _ _ _ _ = _
          unfold bX4_coalitions_74B
          rw [if_neg (by rw [n2_le (by omega) (by omega)]; omega), if_pos rfl]; rfl
      · simp -implicitDefEqProofs only [Option.bind_some, bd_some, b2i_0, Bool.true_eq_false, Bool.false_eq_true, eq_self, if_true, if_false, not_true_eq_false, not_false_eq_true, hp, e]; exact nxt (fun _ => e)
    · simp -implicitDefEqProofs only [Option.bind_some, bd_some, b2i_0, Bool.true_eq_false, Bool.false_eq_true, eq_self, if_true, if_false, not_true_eq_false, not_false_eq_true, hp]; exact nxt (fun hc2 => absurd hc2 hp)
/-- which sets are told: how many ahead, then the answer -/
def coalS (cr : Nat → Bool) (q : Int32) : Nat → Nat → Nat → Int32
  | 0, _, many => if q = -1 then n2 many else -1
  | k + 1, set, many => if cr set = true ∧ bareS cr set = true then (if n2 many = q then n2 set else coalS cr q k (set + 1) (many + 1)) else coalS cr q k (set + 1) many
theorem bareS_0 : bareS cr 0 = true := decide_eq_true (fun u hu => absurd hu (Nat.not_lt_zero u))
theorem X_coal2 (hb : 131 ≤ mNx b) {q : Int32} (hn : N ≤ 8) (hc : ∀ u, u < 2 ^ N → x.carriesSet u = b2i (cr u)) : ∀ (k f set many : Nat), set + k = 2 ^ N → k < f →
    bX1_coalitions_77 f (some 64) q (n2 N) (n2 many) (n2 set) (mkX b x) = some (coalS cr q k set many, mkX b x) := by
  have h256 := pow_le8 hn
  intro k
  induction k with
  | zero =>
    intro f set many hk hf
    obtain ⟨f, rfl⟩ : ∃ g, f = g + 1 := ⟨f - 1, by omega⟩
    have e : set = 2 ^ N := by omega
    subst e
    show bX1_coalitions_77B _ _ _ _ _ _ _ = _
    unfold bX1_coalitions_77B coalS
    simp -implicitDefEqProofs only [Option.bind_some, bd_some, b2i_0, Bool.true_eq_false, Bool.false_eq_true, eq_self, if_true, if_false, not_true_eq_false, not_false_eq_true, pow_shl N hn, show (n2 (2 ^ N) ≤ n2 (2 ^ N)) = True from eq_true (Int32.le_refl _)]
    by_cases hq : q = -1
    · rw [if_neg (fun h => h hq), if_pos hq]
    · rw [if_pos hq, if_neg hq]
  | succ k ih =>
    intro f set many hk hf
    obtain ⟨f, rfl⟩ : ∃ g, f = g + 1 := ⟨f - 1, by omega⟩
    have s256 : set < 256 := by omega
    have le : (n2 (2 ^ N) ≤ n2 set) = False := by rw [n2_le (by omega) (by omega)]; exact eq_false (by omega)
    have z : (n2 set ≤ (0 : Int32)) = (set = 0) := le0 (by omega)
    show bX1_coalitions_77B (bX1_coalitions_77 f) _ _ _ _ _ _ = _
    unfold bX1_coalitions_77B bX1_coalitions_112 bX1_coalitions_123
    simp -implicitDefEqProofs only [coalS]
    simp -implicitDefEqProofs only [Option.bind_some, bd_some, b2i_0, Bool.true_eq_false, Bool.false_eq_true, eq_self, if_true, if_false, not_true_eq_false, not_false_eq_true, pow_shl N hn, le, gX_13 hb, aX_97 hb, ifx_k s256 (show set < 2147483648 by omega), n2_nat (show set < 2147483648 by omega), hc set (by omega), z, show n2 set + 1 = n2 (set + 1) from n2_add set 1, show n2 many + 1 = n2 (many + 1) from n2_add many 1]
    rcases Bool.eq_false_or_eq_true (cr set) with e | e
    · by_cases h0 : set = 0
      · subst h0
        simp -implicitDefEqProofs only [Option.bind_some, bd_some, b2i_0, Bool.true_eq_false, Bool.false_eq_true, eq_self, if_true, if_false, not_true_eq_false, not_false_eq_true, e, bareS_0, and_self]
        by_cases hq : n2 many = q
        · simp -implicitDefEqProofs only [Option.bind_some, bd_some, b2i_0, Bool.true_eq_false, Bool.false_eq_true, eq_self, if_true, if_false, not_true_eq_false, not_false_eq_true, hq]
        · simp -implicitDefEqProofs only [Option.bind_some, bd_some, b2i_0, Bool.true_eq_false, Bool.false_eq_true, eq_self, if_true, if_false, not_true_eq_false, not_false_eq_true, hq]; exact ih f _ _ (by omega) (by omega)
      · simp -implicitDefEqProofs only [Option.bind_some, bd_some, b2i_0, Bool.true_eq_false, Bool.false_eq_true, eq_self, if_true, if_false, not_true_eq_false, not_false_eq_true, e, h0, ivX hb, X_isBare hb (show 0 < set by omega) s256 (fun u hu => hc u (by omega)), true_and]
        rcases Bool.eq_false_or_eq_true (bareS cr set) with d | d
        · simp -implicitDefEqProofs only [Option.bind_some, bd_some, b2i_0, Bool.true_eq_false, Bool.false_eq_true, eq_self, if_true, if_false, not_true_eq_false, not_false_eq_true, d]
          by_cases hq : n2 many = q
          · simp -implicitDefEqProofs only [Option.bind_some, bd_some, b2i_0, Bool.true_eq_false, Bool.false_eq_true, eq_self, if_true, if_false, not_true_eq_false, not_false_eq_true, hq]
          · simp -implicitDefEqProofs only [Option.bind_some, bd_some, b2i_0, Bool.true_eq_false, Bool.false_eq_true, eq_self, if_true, if_false, not_true_eq_false, not_false_eq_true, hq]; exact ih f _ _ (by omega) (by omega)
        · simp -implicitDefEqProofs only [Option.bind_some, bd_some, b2i_0, Bool.true_eq_false, Bool.false_eq_true, eq_self, if_true, if_false, not_true_eq_false, not_false_eq_true, d]; exact ih f _ _ (by omega) (by omega)
    · simp -implicitDefEqProofs only [Option.bind_some, bd_some, b2i_0, Bool.true_eq_false, Bool.false_eq_true, eq_self, if_true, if_false, not_true_eq_false, not_false_eq_true, e, false_and]; exact ih f _ _ (by omega) (by omega)
def crS (H : HS) (C : List Cu) (a : Nat → Nat) (N : Nat) (p hi : Int64) (set : Nat) : Bool := decide (n2 H.carry ≤ hgtS H C (p ||| hdsS a set N) hi 61)
end Coal
