set_option linter.unusedVariables false
set_option linter.unusedSimpArgs false
set_option maxRecDepth 100000
/-! ===== commands: hush, cheapest ===== -/
theorem n2_nm1 {k : Nat} (h : k < 2147483648) : (n2 k = (-1 : Int32)) = False := by rw [li_m1, ni_eq h (by omega) (by omega)]; exact eq_false (by omega)
theorem n2_nlt0 {k : Nat} (h : k < 2147483648) : (n2 k < (0 : Int32)) = False := n2_ge h
theorem n2_le0 {k : Nat} (h : k < 2147483648) : ((0 : Int32) ≤ n2 k) = True := eq_true (n2_pos h)
section Hush
variable {b b' : Mem} {n s : Nat} {x : XS} {m : MS} {H : HS} {C : List Cu} {h c : Nat} {K : Nat → Option (HS × List Cu)} {p p' hi : Int64} {a : Nat → Nat} {N : Nat}
/-- a short night in both, with the hands kept -/
theorem D_hh (R : Duo b x m H C h c K) (A : Hnd x m H N a) (p hi : Int64) : ∃ y g z, fX1_heightOf (some 64) (some h) p hi (mkX b x) = some (hgtS H C p hi 61, mkX b (x.setN false y)) ∧ fX4_height (some 106) p hi (mkM b' n s m) = some (hgtS H C p hi 61, mkM b' n s (m.lay g z)) ∧ Duo b (x.setN false y) (m.lay g z) H C h c K ∧ Hnd (x.setN false y) (m.lay g z) H N a ∧ (m.lay g z).n.nightHeight = hgtS H C p hi 61 ∧ (m.lay g z).n.nightCarries = b2i (decide (n2 H.carry ≤ hgtS H C p hi 61)) := by
  obtain ⟨y, g, z, e1, e2, D, q1, q2, -⟩ := D_height (b' := b') (n := n) (s := s) R p hi
  exact ⟨y, g, z, e1, e2, D, A.ny, q1, q2⟩
theorem L_hush : ∀ (k f f' set : Nat) (best : Int32) (x : XS) (m : MS), set + k = 2 ^ N → k < f → k < f' → Duo b x m H C h c K → Hnd x m H N a → (best = -1 ∨ ∃ u, u < 2 ^ N ∧ best = n2 u) →
    ∃ r x' m', bX1_hush_37 f (some 64) (n2 N) best (n2 set) (mkX b x) = some (r, mkX b x') ∧ bX4_hush_19 f' (some 106) best (n2 set) (mkM b' n s m) = some (r, mkM b' n s m') ∧ Duo b x' m' H C h c K := by
  intro k
  induction k with
  | zero =>
    intro f f' set best x m hk hf hf' R A hb
    obtain ⟨f, rfl⟩ : ∃ g, f = g + 1 := ⟨f - 1, by omega⟩
    obtain ⟨f', rfl⟩ : ∃ g, f' = g + 1 := ⟨f' - 1, by omega⟩
    have e : set = 2 ^ N := by omega
    subst e
    show ∃ r x' m', bX1_hush_37B _ _ _ _ _ _ = _ ∧ bX4_hush_19B _ _ _ _ _ = _ ∧ _
    unfold bX1_hush_37B bX4_hush_19B
    simp -implicitDefEqProofs only [Option.bind_some, bd_some, b2i_0, Bool.true_eq_false, Bool.false_eq_true, eq_self, if_true, if_false, not_true_eq_false, not_false_eq_true, pow_shl N A.n8, gM_102, A.mm, show (n2 (2 ^ N) ≤ n2 (2 ^ N)) = True from eq_true (Int32.le_refl _)]
    exact ⟨_, _, _, rfl, rfl, R⟩
  | succ k ih =>
    intro f f' set best x m hk hf hf' R A hb
    obtain ⟨f, rfl⟩ : ∃ g, f = g + 1 := ⟨f - 1, by omega⟩
    obtain ⟨f', rfl⟩ : ∃ g, f' = g + 1 := ⟨f' - 1, by omega⟩
    have h256 := pow_le8 A.n8
    have hs : set < 2 ^ N := by omega
    have le : (n2 (2 ^ N) ≤ n2 set) = False := by rw [n2_le (by omega) (by omega)]; exact eq_false (by omega)
    have p1 : m.seatsPaid = x.paid := R.paid.symm
    have p2 : m.seatsHiss = x.hiss := R.hiss.symm
    have ev : n2 set + 1 = n2 (set + 1) := n2_add set 1
    obtain ⟨y, g, z, e1, e2, D, A2, q1, q2⟩ := D_hh (b' := b') (n := n) (s := s) R A x.paid (x.hiss ||| hdsS a set N)
    -- the height, then on
    have tail : ∃ r x' m', bX1_hush_63 (bX1_hush_37 f) (some 64) (n2 N) best (n2 set) (mkX b x) = some (r, mkX b x') ∧ bX4_hush_49 (bX4_hush_19 f') (some 106) best (n2 set) (mkM b' n s m) = some (r, mkM b' n s m') ∧ Duo b x' m' H C h c K := by
      unfold bX1_hush_63 bX4_hush_49 bX1_hush_97 bX4_hush_77
      simp -implicitDefEqProofs only [Option.bind_some, bd_some, b2i_0, Bool.true_eq_false, Bool.false_eq_true, eq_self, if_true, if_false, not_true_eq_false, not_false_eq_true, gX_4 R.hb, gX_5 R.hb, gX_6 R.hb, R.xh, ivX R.hb, X_hands R.hb A R.ok hs, e1, setN_house, xh_30 R.XH, gM_71, gM_72, p1, p2, ivM, M_hands A, e2, gM_100, q2, ev]
      by_cases hc : n2 H.carry ≤ hgtS H C x.paid (x.hiss ||| hdsS a set N) 61
      · rw [if_pos hc, decide_eq_true hc]; simp -implicitDefEqProofs only [Option.bind_some, bd_some, b2i_0, Bool.true_eq_false, Bool.false_eq_true, eq_self, if_true, if_false, not_true_eq_false, not_false_eq_true]
        exact ih f f' (set + 1) _ _ _ (by omega) (by omega) (by omega) D A2 hb
      · rw [if_neg hc, decide_eq_false hc]; simp -implicitDefEqProofs only [Option.bind_some, bd_some, b2i_0, Bool.true_eq_false, Bool.false_eq_true, eq_self, if_true, if_false, not_true_eq_false, not_false_eq_true]
        exact ih f f' (set + 1) _ _ _ (by omega) (by omega) (by omega) D A2 (Or.inr ⟨set, hs, rfl⟩)
    show ∃ r x' m', bX1_hush_37B (bX1_hush_37 f) _ _ _ _ _ = _ ∧ bX4_hush_19B (bX4_hush_19 f') _ _ _ _ = _ ∧ _
    unfold bX1_hush_37B bX4_hush_19B
    simp -implicitDefEqProofs only [Option.bind_some, bd_some, b2i_0, Bool.true_eq_false, Bool.false_eq_true, eq_self, if_true, if_false, not_true_eq_false, not_false_eq_true, pow_shl N A.n8, gM_102, A.mm, le]
    rcases hb with rfl | ⟨u, hu, rfl⟩
    · simp -implicitDefEqProofs only [Option.bind_some, bd_some, b2i_0, Bool.true_eq_false, Bool.false_eq_true, eq_self, if_true, if_false, not_true_eq_false, not_false_eq_true, show ((-1 : Int32) < 0) = True from eq_true (by decide)]
      exact tail
    · simp -implicitDefEqProofs only [Option.bind_some, bd_some, b2i_0, Bool.true_eq_false, Bool.false_eq_true, eq_self, if_true, if_false, not_true_eq_false, not_false_eq_true, n2_nm1 (show u < 2147483648 by omega), n2_nlt0 (show u < 2147483648 by omega), pcI_eq, pcM, pcI_pc set (by omega), pcI_pc u (by omega)]
      by_cases hc : pc (n2 set).toInt64 < pc (n2 u).toInt64
      · simp -implicitDefEqProofs only [Option.bind_some, bd_some, b2i_0, Bool.true_eq_false, Bool.false_eq_true, eq_self, if_true, if_false, not_true_eq_false, not_false_eq_true, hc]; exact tail
      · simp -implicitDefEqProofs only [Option.bind_some, bd_some, b2i_0, Bool.true_eq_false, Bool.false_eq_true, eq_self, if_true, if_false, not_true_eq_false, not_false_eq_true, hc]
        unfold bX1_hush_97 bX4_hush_77
        rw [ev]
        exact ih f f' (set + 1) _ _ _ (by omega) (by omega) (by omega) R A (Or.inr ⟨u, hu, rfl⟩)
theorem C_hush (R : Duo b x m H C h c K) : ∃ r x' m', fX1_hush (some 64) (mkX b x) = some (r, mkX b x') ∧ fX4_hush (some 106) (mkM b' n s m) = some (r, mkM b' n s m') ∧ Duo b x' m' H C h c K := by
  have T := R.th (v := 0)
  have hF : 256 < hcFuel := by unfold hcFuel; omega
  unfold fX1_hush fX4_hush
  generalize hcFuel = fu at hF ⊢
  obtain ⟨k, k1, -, ⟨m', c1, e1, D⟩ | ⟨F, m', c1, e0, e1, D⟩ | ⟨F, m', a, c1, c2, e0, e1, D, A⟩⟩ := D_eight (b' := b') (n := n) (s := s) T
  · simp -implicitDefEqProofs only [Option.bind_some, bd_some, b2i_0, Bool.true_eq_false, Bool.false_eq_true, eq_self, if_true, if_false, not_true_eq_false, not_false_eq_true, pM_55', ivX R.hb, X_take R.hb, k1, X_isIn, c1, ivM, e1]
    exact ⟨_, _, _, rfl, rfl, D⟩
  · simp -implicitDefEqProofs only [Option.bind_some, bd_some, b2i_0, Bool.true_eq_false, Bool.false_eq_true, eq_self, if_true, if_false, not_true_eq_false, not_false_eq_true, pM_55', ivX R.hb, X_take R.hb, k1, X_isIn, c1, ivM, e1, gX_11 R.hb, e0]
    exact ⟨_, _, _, rfl, rfl, D⟩
  · have h256 := pow_le8 A.n8
    simp -implicitDefEqProofs only [Option.bind_some, bd_some, b2i_0, Bool.true_eq_false, Bool.false_eq_true, eq_self, if_true, if_false, not_true_eq_false, not_false_eq_true, pM_55', ivX R.hb, X_take R.hb, k1, X_isIn, c1, c2, ivM, e1, gX_11 R.hb, e0, show (1 : Int32) = 0 ↔ False by decide]
    exact L_hush (2 ^ k) fu fu 0 (-1) _ _ (by omega) (by omega) (by omega) D A (Or.inl rfl)
theorem M_sum {kk23 : Rf → Int32 → Int32 → Int32 → Mem → Option (Int32 × Mem)} {v1 v2 : Int32} (ok : H.Ok) (hH : MHouse m.s H) (A : Hnd x m H N a) {set : Nat} : ∀ k f i, i + k = N → k < f → bX4_cheapest_39 kk23 f (some 106) v1 v2 (n2 set) (n2 (prcS H a set i)) (n2 i) (mkM b' n s m) = bX4_cheapest_39 kk23 1 (some 106) v1 v2 (n2 set) (n2 (prcS H a set N)) (n2 N) (mkM b' n s m) := by
  have hn := A.n8
  intro k
  induction k with
  | zero =>
    intro f i hk hf
    obtain ⟨f, rfl⟩ : ∃ g, f = g + 1 := ⟨f - 1, by omega⟩
    have e : i = N := by omega
    subst e
    show bX4_cheapest_39B kk23 _ _ _ _ _ _ _ _ = bX4_cheapest_39B kk23 _ _ _ _ _ _ _ _
    unfold bX4_cheapest_39B
    rw [gM_102, Option.bind_some, Option.bind_some, A.mm, if_pos (Int32.le_refl _), if_pos (Int32.le_refl _)]
  | succ k ih =>
    intro f i hk hf
    obtain ⟨f, rfl⟩ : ∃ g, f = g + 1 := ⟨f - 1, by omega⟩
    have i14 : i < 14 := by omega
    have le : (n2 N ≤ n2 i) = False := by rw [n2_le (by omega) (by omega)]; exact eq_false (by omega)
    have I := ih f (i + 1) (by omega) (by omega)
    rw [show prcS H a set (i + 1) = if hasB set i = true then prcS H a set i + H.price (a i / H.cols) else prcS H a set i from rfl] at I
    show bX4_cheapest_39B kk23 (bX4_cheapest_39 kk23 f) _ _ _ _ _ _ _ = _
    rw [← I]
    unfold bX4_cheapest_39B bX4_cheapest_74
    simp -implicitDefEqProofs only [Option.bind_some, bd_some, b2i_0, Bool.true_eq_false, Bool.false_eq_true, eq_self, if_true, if_false, not_true_eq_false, not_false_eq_true, gM_102, A.mm, le, M_hasB, gM_101, aM_119, ifx_k i14 (show i < 2147483648 by omega), n2_nat (show i < 2147483648 by omega), A.ma i (show i < N by omega), ivM, M_price hH ok (A.sz i (show i < N by omega)).1, show n2 i + 1 = n2 (i + 1) from n2_add i 1, n2_add, Int32.add_zero]
    rcases Bool.eq_false_or_eq_true (hasB set i) with e | e
    · simp -implicitDefEqProofs only [Option.bind_some, bd_some, b2i_0, Bool.true_eq_false, Bool.false_eq_true, eq_self, if_true, if_false, not_true_eq_false, not_false_eq_true, e]
    · simp -implicitDefEqProofs only [Option.bind_some, bd_some, b2i_0, Bool.true_eq_false, Bool.false_eq_true, eq_self, if_true, if_false, not_true_eq_false, not_false_eq_true, e]
theorem X_isCarried (hb : 131 ≤ mNx b) (X : XHouse b h H) {y : NX} {p : Int64} (e : fX1_heightOf (some 64) (some h) p x.hiss (mkX b x) = some (hgtS H C p x.hiss 61, mkX b (x.setN false y))) : fX1_isCarried (some 64) (some h) p (mkX b x) = some (b2i (decide (n2 H.carry ≤ hgtS H C p x.hiss 61)), mkX b (x.setN false y)) := by
  unfold fX1_isCarried
  simp -implicitDefEqProofs only [Option.bind_some, bd_some, b2i_0, Bool.true_eq_false, Bool.false_eq_true, eq_self, if_true, if_false, not_true_eq_false, not_false_eq_true, gX_6 hb, ivX hb, e, xh_30 X]
  by_cases hc : hgtS H C p x.hiss 61 < n2 H.carry
  · rw [if_pos hc, decide_eq_false (Int32.not_le.mpr hc)]; rfl
  · rw [if_neg hc, decide_eq_true (Int32.not_lt.mp hc)]; rfl
theorem L_cheap : ∀ (k f f' set : Nat) (best least : Int32) (x : XS) (m : MS), set + k = 2 ^ N → k < f → k < f' → Duo b x m H C h c K → Hnd x m H N a → ((best = -1 ∧ least = 1000000000) ∨ ∃ u, u < 2 ^ N ∧ best = n2 u ∧ least = n2 (prcS H a u N)) →
    ∃ r x' m', bX1_cheapest_37 f (some 64) (n2 N) best (n2 set) (mkX b x) = some (r, mkX b x') ∧ bX4_cheapest_23 f' (some 106) best least (n2 set) (mkM b' n s m) = some (r, mkM b' n s m') ∧ Duo b x' m' H C h c K := by
  intro k
  induction k with
  | zero =>
    intro f f' set best least x m hk hf hf' R A hb
    obtain ⟨f, rfl⟩ : ∃ g, f = g + 1 := ⟨f - 1, by omega⟩
    obtain ⟨f', rfl⟩ : ∃ g, f' = g + 1 := ⟨f' - 1, by omega⟩
    have h256 := pow_le8 A.n8
    have e : set = 2 ^ N := by omega
    subst e
    show ∃ r x' m', bX1_cheapest_37B _ _ _ _ _ _ = _ ∧ bX4_cheapest_23B _ _ _ _ _ _ = _ ∧ _
    unfold bX1_cheapest_37B bX4_cheapest_23B
    simp -implicitDefEqProofs only [Option.bind_some, bd_some, b2i_0, Bool.true_eq_false, Bool.false_eq_true, eq_self, if_true, if_false, not_true_eq_false, not_false_eq_true, pow_shl N A.n8, gM_102, A.mm, show (n2 (2 ^ N) ≤ n2 (2 ^ N)) = True from eq_true (Int32.le_refl _)]
    rcases hb with ⟨rfl, rfl⟩ | ⟨u, hu, rfl, rfl⟩
    · simp -implicitDefEqProofs only [Option.bind_some, bd_some, b2i_0, Bool.true_eq_false, Bool.false_eq_true, eq_self, if_true, if_false, not_true_eq_false, not_false_eq_true, show ((0 : Int32) ≤ (-1 : Int32)) = False from eq_false (by decide)]
      exact ⟨_, _, _, rfl, rfl, R⟩
    · have D : Duo b (XS.mk (x.taped) (x.fault) (n2 u) (x.worthMany) (x.beganFirst) (x.beganSecond) (x.seed) (x.arranged) (x.paid) (x.hiss) (x.orders) (x.house) (x.cues) (x.tape) (x.states) (x.asked) (x.carriesSet) (x.heights) (x.worth) (x.mouths) (x.sided) (x.keptHouse) (x.keptPaid) (x.keptHiss) (x.kMod) (x.kData) (x.kSize) (x.out) (x.n0) (x.n1)) (MS.mk (m.thrown) (m.length) (m.seatsPaid) (m.seatsHiss) (m.lays) (m.arranged) (m.tape) (m.s) (m.area) (m.kept) (m.keptPaid) (m.keptHiss) (m.isKept) (m.r) (m.h) (m.n) ((MC.mk (m.c.askedMany) (n2 u) (m.c.worthMany) (m.c.allOrders) (m.c.hasSides) (m.c.seenClaps) (m.c.seenStand) (m.c.seenAll) (m.c.beganA) (m.c.beganB) (m.c.seed) (m.c.asked) (m.c.carried) (m.c.heights) (m.c.worths) (m.c.side) (m.c.otherClaps) (m.c.otherStand)))) H C h c K := ⟨R.hb, R.fz, R.ok, R.ar, R.XH, R.xh, R.XC, R.xc, R.MH, R.MC, R.lays, R.l01, R.tape, R.len, R.fault, R.paid, R.hiss, rfl, R.worth, R.sided, R.b1, R.b2, R.arranged, R.kept, R.keptC⟩
      have A2 : Hnd (XS.mk (x.taped) (x.fault) (n2 u) (x.worthMany) (x.beganFirst) (x.beganSecond) (x.seed) (x.arranged) (x.paid) (x.hiss) (x.orders) (x.house) (x.cues) (x.tape) (x.states) (x.asked) (x.carriesSet) (x.heights) (x.worth) (x.mouths) (x.sided) (x.keptHouse) (x.keptPaid) (x.keptHiss) (x.kMod) (x.kData) (x.kSize) (x.out) (x.n0) (x.n1)) (MS.mk (m.thrown) (m.length) (m.seatsPaid) (m.seatsHiss) (m.lays) (m.arranged) (m.tape) (m.s) (m.area) (m.kept) (m.keptPaid) (m.keptHiss) (m.isKept) (m.r) (m.h) (m.n) ((MC.mk (m.c.askedMany) (n2 u) (m.c.worthMany) (m.c.allOrders) (m.c.hasSides) (m.c.seenClaps) (m.c.seenStand) (m.c.seenAll) (m.c.beganA) (m.c.beganB) (m.c.seed) (m.c.asked) (m.c.carried) (m.c.heights) (m.c.worths) (m.c.side) (m.c.otherClaps) (m.c.otherStand)))) H N a := ⟨A.n1, A.n8, A.xa, A.ma, A.mm, A.sz⟩
      simp -implicitDefEqProofs only [Option.bind_some, bd_some, b2i_0, Bool.true_eq_false, Bool.false_eq_true, eq_self, if_true, if_false, not_true_eq_false, not_false_eq_true, n2_nm1 (show u < 2147483648 by omega), n2_le0 (show u < 2147483648 by omega), pX_12 R.hb, pM_103, ivX R.hb, X_priceOf R.hb R.XH R.ok D.xh A2 hu]
      exact ⟨_, _, _, rfl, rfl, D⟩
  | succ k ih =>
    intro f f' set best least x m hk hf hf' R A hb
    obtain ⟨f, rfl⟩ : ∃ g, f = g + 1 := ⟨f - 1, by omega⟩
    obtain ⟨f', rfl⟩ : ∃ g, f' = g + 1 := ⟨f' - 1, by omega⟩
    have h256 := pow_le8 A.n8
    have n8 := A.n8
    have hs : set < 2 ^ N := by omega
    have le : (n2 (2 ^ N) ≤ n2 set) = False := by rw [n2_le (by omega) (by omega)]; exact eq_false (by omega)
    have p1 : m.seatsPaid = x.paid := R.paid.symm
    have p2 : m.seatsHiss = x.hiss := R.hiss.symm
    have ev : n2 set + 1 = n2 (set + 1) := n2_add set 1
    have pl := prcS_le R.ok a set N
    obtain ⟨y, g, z, e1, e2, D, A2, q1, q2⟩ := D_hh (b' := b') (n := n) (s := s) R A (x.paid ||| hdsS a set N) x.hiss
    have e3 := X_isCarried R.hb R.XH e1
    have S := M_sum (b' := b') (n := n) (s := s) (kk23 := bX4_cheapest_23 f') (v1 := best) (v2 := least) (set := set) R.ok R.MH A N hcFuel 0 (by omega) (by unfold hcFuel; omega)
    have S' : bX4_cheapest_39 (bX4_cheapest_23 f') hcFuel (some 106) best least (n2 set) 0 0 (mkM b' n s m) = bX4_cheapest_39B (bX4_cheapest_23 f') (bX4_cheapest_39 (bX4_cheapest_23 f') 0) (some 106) best least (n2 set) (n2 (prcS H a set N)) (n2 N) (mkM b' n s m) := S
    have tail : ∃ r x' m', bX1_cheapest_92 (bX1_cheapest_37 f) (some 64) (n2 N) best (n2 set) 0 (mkX b x) = some (r, mkX b x') ∧ bX4_cheapest_111 (bX4_cheapest_23 f') (some 106) best least (n2 set) (n2 (prcS H a set N)) (mkM b' n s m) = some (r, mkM b' n s m') ∧ Duo b x' m' H C h c K := by
      unfold bX1_cheapest_92 bX4_cheapest_111 bX1_cheapest_122 bX4_cheapest_145
      simp -implicitDefEqProofs only [Option.bind_some, bd_some, b2i_0, Bool.true_eq_false, Bool.false_eq_true, eq_self, if_true, if_false, not_true_eq_false, not_false_eq_true, gX_4 R.hb, gX_5 R.hb, R.xh, ivX R.hb, X_hands R.hb A R.ok hs, e3, gM_71, gM_72, p1, p2, ivM, M_hands A, e2, gM_100, q2, ev]
      by_cases hc : n2 H.carry ≤ hgtS H C (x.paid ||| hdsS a set N) x.hiss 61
      · rw [decide_eq_true hc]; simp -implicitDefEqProofs only [Option.bind_some, bd_some, b2i_0, Bool.true_eq_false, Bool.false_eq_true, eq_self, if_true, if_false, not_true_eq_false, not_false_eq_true]
        exact ih f f' (set + 1) _ _ _ _ (by omega) (by omega) (by omega) D A2 (Or.inr ⟨set, hs, rfl, rfl⟩)
      · rw [decide_eq_false hc]; simp -implicitDefEqProofs only [Option.bind_some, bd_some, b2i_0, Bool.true_eq_false, Bool.false_eq_true, eq_self, if_true, if_false, not_true_eq_false, not_false_eq_true]
        exact ih f f' (set + 1) _ _ _ _ (by omega) (by omega) (by omega) D A2 hb
    have skip : ∃ r x' m', bX1_cheapest_92 (bX1_cheapest_37 f) (some 64) (n2 N) best (n2 set) 1 (mkX b x) = some (r, mkX b x') ∧ bX4_cheapest_145 (bX4_cheapest_23 f') (some 106) best least (n2 set) (mkM b' n s m) = some (r, mkM b' n s m') ∧ Duo b x' m' H C h c K := by
      unfold bX1_cheapest_92 bX1_cheapest_122 bX4_cheapest_145
      simp -implicitDefEqProofs only [Option.bind_some, bd_some, b2i_0, Bool.true_eq_false, Bool.false_eq_true, eq_self, if_true, if_false, not_true_eq_false, not_false_eq_true, ev, show (1 : Int32) = 0 ↔ False by decide]
      exact ih f f' (set + 1) _ _ _ _ (by omega) (by omega) (by omega) R A hb
    show ∃ r x' m', bX1_cheapest_37B (bX1_cheapest_37 f) _ _ _ _ _ = _ ∧ bX4_cheapest_23B (bX4_cheapest_23 f') _ _ _ _ _ = _ ∧ _
    unfold bX1_cheapest_37B bX4_cheapest_23B bX1_cheapest_91 bX1_cheapest_87
    simp -implicitDefEqProofs only [Option.bind_some, bd_some, b2i_0, Bool.true_eq_false, Bool.false_eq_true, eq_self, if_true, if_false, not_true_eq_false, not_false_eq_true, pow_shl N A.n8, gM_102, A.mm, le, S', ivX R.hb, X_priceOf R.hb R.XH R.ok R.xh A hs]
    unfold bX4_cheapest_39B
    simp -implicitDefEqProofs only [Option.bind_some, bd_some, b2i_0, Bool.true_eq_false, Bool.false_eq_true, eq_self, if_true, if_false, not_true_eq_false, not_false_eq_true, gM_102, A.mm, show (n2 N ≤ n2 N) = True from eq_true (Int32.le_refl _)]
    rcases hb with ⟨rfl, rfl⟩ | ⟨u, hu, rfl, rfl⟩
    · have c1 : ((1000000000 : Int32) < n2 (prcS H a set N)) = False := by rw [show (1000000000 : Int32) = n2 1000000000 from rfl, n2_lt (by omega) (by omega)]; exact eq_false (by omega)
      have c2 : (n2 (prcS H a set N) = (1000000000 : Int32)) = False := by rw [show (1000000000 : Int32) = n2 1000000000 from rfl, n2_eq (by omega) (by omega)]; exact eq_false (by omega)
      simp -implicitDefEqProofs only [Option.bind_some, bd_some, b2i_0, Bool.true_eq_false, Bool.false_eq_true, eq_self, if_true, if_false, not_true_eq_false, not_false_eq_true, c1, c2]
      exact tail
    · have pu := prcS_le R.ok a u N
      simp -implicitDefEqProofs only [Option.bind_some, bd_some, b2i_0, Bool.true_eq_false, Bool.false_eq_true, eq_self, if_true, if_false, not_true_eq_false, not_false_eq_true, n2_nm1 (show u < 2147483648 by omega), ivX R.hb, X_priceOf R.hb R.XH R.ok R.xh A hu, pcI_eq, pcM, pcI_pc set (by omega), pcI_pc u (by omega)]
      by_cases c1 : n2 (prcS H a u N) < n2 (prcS H a set N)
      · simp -implicitDefEqProofs only [Option.bind_some, bd_some, b2i_0, Bool.true_eq_false, Bool.false_eq_true, eq_self, if_true, if_false, not_true_eq_false, not_false_eq_true, c1]; exact skip
      · simp -implicitDefEqProofs only [Option.bind_some, bd_some, b2i_0, Bool.true_eq_false, Bool.false_eq_true, eq_self, if_true, if_false, not_true_eq_false, not_false_eq_true, c1]
        by_cases c2 : n2 (prcS H a set N) = n2 (prcS H a u N)
        · simp -implicitDefEqProofs only [Option.bind_some, bd_some, b2i_0, Bool.true_eq_false, Bool.false_eq_true, eq_self, if_true, if_false, not_true_eq_false, not_false_eq_true, c2]
          by_cases c3 : pc (n2 set).toInt64 < pc (n2 u).toInt64
          · simp -implicitDefEqProofs only [Option.bind_some, bd_some, b2i_0, Bool.true_eq_false, Bool.false_eq_true, eq_self, if_true, if_false, not_true_eq_false, not_false_eq_true, c3]; rw [c2] at tail; exact tail
          · simp -implicitDefEqProofs only [Option.bind_some, bd_some, b2i_0, Bool.true_eq_false, Bool.false_eq_true, eq_self, if_true, if_false, not_true_eq_false, not_false_eq_true, c3]; exact skip
        · simp -implicitDefEqProofs only [Option.bind_some, bd_some, b2i_0, Bool.true_eq_false, Bool.false_eq_true, eq_self, if_true, if_false, not_true_eq_false, not_false_eq_true, c2]; exact tail
theorem C_cheapest (R : Duo b x m H C h c K) : ∃ r x' m', fX1_cheapest (some 64) (mkX b x) = some (r, mkX b x') ∧ fX4_cheapest (some 106) (mkM b' n s m) = some (r, mkM b' n s m') ∧ Duo b x' m' H C h c K := by
  have T := R.th (v := 0)
  have hF : 256 < hcFuel := by unfold hcFuel; omega
  unfold fX1_cheapest fX4_cheapest
  generalize hcFuel = fu at hF ⊢
  obtain ⟨k, k1, -, ⟨m', c1, e1, D⟩ | ⟨F, m', c1, e0, e1, D⟩ | ⟨F, m', a, c1, c2, e0, e1, D, A⟩⟩ := D_eight (b' := b') (n := n) (s := s) T
  · simp -implicitDefEqProofs only [Option.bind_some, bd_some, b2i_0, Bool.true_eq_false, Bool.false_eq_true, eq_self, if_true, if_false, not_true_eq_false, not_false_eq_true, pM_55', ivX R.hb, X_take R.hb, k1, X_isIn, c1, ivM, e1]
    exact ⟨_, _, _, rfl, rfl, D⟩
  · simp -implicitDefEqProofs only [Option.bind_some, bd_some, b2i_0, Bool.true_eq_false, Bool.false_eq_true, eq_self, if_true, if_false, not_true_eq_false, not_false_eq_true, pM_55', ivX R.hb, X_take R.hb, k1, X_isIn, c1, ivM, e1, gX_11 R.hb, e0]
    exact ⟨_, _, _, rfl, rfl, D⟩
  · have h256 := pow_le8 A.n8
    simp -implicitDefEqProofs only [Option.bind_some, bd_some, b2i_0, Bool.true_eq_false, Bool.false_eq_true, eq_self, if_true, if_false, not_true_eq_false, not_false_eq_true, pM_55', ivX R.hb, X_take R.hb, k1, X_isIn, c1, c2, ivM, e1, gX_11 R.hb, e0, show (1 : Int32) = 0 ↔ False by decide]
    exact L_cheap (2 ^ k) fu fu 0 (-1) 1000000000 _ _ (by omega) (by omega) (by omega) D A (Or.inl ⟨rfl, rfl⟩)
end Hush
