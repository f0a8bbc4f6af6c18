set_option linter.unusedVariables false
set_option linter.unusedSimpArgs false
set_option maxRecDepth 100000
/-! ===== commands: worth ===== -/
theorem n2_or (a b : Nat) : n2 a ||| n2 b = n2 (a ||| b) := by
  refine Int32.toBitVec.inj ?_
  rw [Int32.toBitVec_or]
  show BitVec.ofNat 32 a ||| BitVec.ofNat 32 b = BitVec.ofNat 32 (a ||| b)
  rw [BitVec.ofNat_or]
def fcN : Nat → Int64
  | 0 => 1
  | k + 1 => fcN k * (n2 (k + 1)).toInt64
theorem fcN_rng : ∀ k, k ≤ 8 → 1 ≤ (fcN k).toInt ∧ (fcN k).toInt ≤ 40320 := by decide +kernel
def fcZ (z : Int32) : Int64 := if z < 2 then 1 else fcN z.toNatClampNeg
theorem fac_eq : ∀ f, bX1_factorial_4 f = bX4_orders_4 f
  | 0 => rfl
  | f + 1 => by
    show bX1_factorial_4B (bX1_factorial_4 f) = bX4_orders_4B (bX4_orders_4 f)
    rw [fac_eq f]; rfl
theorem M_fac_ {N : Nat} (hN : N ≤ 8) (st : Mem) : ∀ (k f v : Nat), v + k = N + 1 → k < f → 2 ≤ v → bX4_orders_4 f (n2 N) (fcN (v - 1)) (n2 v) st = some (fcN N, st) := by
  intro k
  induction k with
  | zero =>
    intro f v hk hf hv
    obtain ⟨f, rfl⟩ : ∃ g, f = g + 1 := ⟨f - 1, by omega⟩
    show bX4_orders_4B _ _ _ _ _ = _
    unfold bX4_orders_4B
    rw [if_pos (by rw [n2_lt (by omega) (by omega)]; omega), show v - 1 = N by omega]
  | succ k ih =>
    intro f v hk hf hv
    obtain ⟨f, rfl⟩ : ∃ g, f = g + 1 := ⟨f - 1, by omega⟩
    show bX4_orders_4B (bX4_orders_4 f) _ _ _ _ = _
    unfold bX4_orders_4B
    rw [if_neg (by rw [n2_lt (by omega) (by omega)]; omega), Option.bind_some, show n2 v + 1 = n2 (v + 1) from n2_add v 1]
    have := ih f (v + 1) (by omega) (by omega) (by omega)
    obtain ⟨u, rfl⟩ : ∃ u, v = u + 1 := ⟨v - 1, by omega⟩
    rw [Nat.add_sub_cancel] at this ⊢
    exact this
theorem M_fac {z : Int32} (hz : z ≤ 8) (st : Mem) : fX4_orders z st = some (fcZ z, st) := by
  have hF : 20 < hcFuel := by unfold hcFuel; omega
  unfold fX4_orders fcZ
  generalize hcFuel = fu at hF ⊢
  by_cases h2 : z < 2
  · obtain ⟨fu, rfl⟩ : ∃ g, fu = g + 1 := ⟨fu - 1, by omega⟩
    rw [if_pos h2]
    show bX4_orders_4B _ _ _ _ _ = _
    unfold bX4_orders_4B
    rw [if_pos h2]
  · have h0 : (0 : Int32) ≤ z := Int32.le_trans (show (0 : Int32) ≤ 2 by decide) (Int32.not_lt.mp h2)
    obtain ⟨k, rfl, hk⟩ := n2_of h0
    rw [li_8, n2_le hk (by decide)] at hz
    rw [li_2, n2_lt hk (by decide)] at h2
    rw [if_neg (show ¬ n2 k < 2 by rw [li_2, n2_lt hk (by decide)]; exact h2), n2_nat hk]
    exact M_fac_ (by omega) st (k - 1) fu 2 (by omega) (by omega) (by omega)
theorem X_fac {z : Int32} (hz : z ≤ 8) (st : Mem) : fX1_factorial z st = some (fcZ z, st) := by
  rw [← M_fac hz st]
  unfold fX1_factorial fX4_orders
  rw [fac_eq]
theorem fcZ_rng {z : Int32} (hz : z ≤ 8) : 1 ≤ (fcZ z).toInt ∧ (fcZ z).toInt ≤ 40320 := by
  unfold fcZ
  by_cases h2 : z < 2
  · rw [if_pos h2]; decide
  · rw [if_neg h2]
    have h0 : (0 : Int32) ≤ z := Int32.le_trans (show (0 : Int32) ≤ 2 by decide) (Int32.not_lt.mp h2)
    obtain ⟨k, rfl, hk⟩ := n2_of h0
    rw [li_8, n2_le hk (by decide)] at hz
    rw [n2_nat hk]; exact fcN_rng k hz
def pcN (k : Nat) : Nat := (pc (n2 k).toInt64).toNatClampNeg
theorem pcN_eq : ∀ k, k < 256 → pc (n2 k).toInt64 = n2 (pcN k) ∧ pcN k ≤ 8 := by decide +kernel
theorem hgtS_rng (H : HS) (C : List Cu) (p hi : Int64) : ∀ k, 0 ≤ (hgtS H C p hi k).toInt ∧ (hgtS H C p hi k).toInt ≤ 127
  | 0 => by show 0 ≤ (0 : Int32).toInt ∧ (0 : Int32).toInt ≤ 127; decide
  | k + 1 => by
    show 0 ≤ (if pc (nightS H C p hi k).c2 ≤ hgtS H C p hi k then hgtS H C p hi k else pc (nightS H C p hi k).c2).toInt ∧ (if pc (nightS H C p hi k).c2 ≤ hgtS H C p hi k then hgtS H C p hi k else pc (nightS H C p hi k).c2).toInt ≤ 127
    split
    · exact hgtS_rng H C p hi k
    · have h0 := pc_nonneg (nightS H C p hi k).c2
      unfold pc at h0 ⊢
      dsimp only at h0 ⊢
      generalize Int64.toInt32 _ = z at h0 ⊢
      have := (and_nonneg z 127 127 (by decide) (by decide)).2
      rw [Int32.le_iff_toInt_le] at h0
      have e : (z &&& 127).toNatClampNeg = (z &&& 127).toInt.toNat := rfl
      rw [e] at this
      have z0 : (0 : Int32).toInt = 0 := rfl
      rw [z0] at h0
      omega
/-- the worth of a seat: the sum over the sets without it -/
def wS (ht : Nat → Int32) (N i : Nat) : Nat → Int64
  | 0 => 0
  | u + 1 => if hasB u i = true then wS ht N i u else wS ht N i u + fcZ (n2 (pcN u)) * fcZ (i2 ((N : Int) - 1 - pcN u)) * (ht (u ||| 2 ^ i) - ht u).toInt64
theorem bm (z : Int) (h1 : -9000000000000000000 ≤ z) (h2 : z ≤ 9000000000000000000) : z.bmod (2 ^ 64) = z := Int.bmod_eq_of_le (by omega) (by omega)
theorem mul_le3 {u v w : Int} (h1 : 1 ≤ u) (h2 : u ≤ 40320) (h3 : 1 ≤ v) (h4 : v ≤ 40320) (h5 : -127 ≤ w) (h6 : w ≤ 127) : (u * v ≤ 1625702400 ∧ 1 ≤ u * v) ∧ (-206464204800 ≤ u * v * w ∧ u * v * w ≤ 206464204800) := by
  have a : u * v ≤ 40320 * 40320 := Int.mul_le_mul h2 h4 (by omega) (by omega)
  have a0 : 1 * 1 ≤ u * v := Int.mul_le_mul h1 h3 (by omega) (by omega)
  generalize hp : u * v = p at a a0 ⊢
  refine ⟨⟨by omega, by omega⟩, ?_, ?_⟩
  · have : p * (-127) ≤ p * w := Int.mul_le_mul_of_nonneg_left h5 (by omega)
    omega
  · have : p * w ≤ p * 127 := Int.mul_le_mul_of_nonneg_left h6 (by omega)
    omega
theorem wS_rng {ht : Nat → Int32} (hr : ∀ u, 0 ≤ (ht u).toInt ∧ (ht u).toInt ≤ 127) {N i : Nat} (hN : N ≤ 8) : ∀ u : Nat, u ≤ 256 → -(206464204800 * (u : Int)) ≤ (wS ht N i u).toInt ∧ (wS ht N i u).toInt ≤ 206464204800 * (u : Int)
  | 0, _ => by show -(206464204800 * ((0 : Nat) : Int)) ≤ (0 : Int64).toInt ∧ (0 : Int64).toInt ≤ 206464204800 * ((0 : Nat) : Int); decide
  | u + 1, hu => by
    have ih := wS_rng hr (N := N) (i := i) hN u (by omega)
    simp -implicitDefEqProofs only [wS]
    split
    · omega
    · obtain ⟨p1, p2⟩ := pcN_eq u (by omega)
      have z1 : n2 (pcN u) ≤ 8 := by rw [li_8, n2_le (by omega) (by omega)]; exact p2
      have z2 : i2 ((N : Int) - 1 - pcN u) ≤ 8 := by rw [li_8, in_le (by omega) (by omega) (by omega)]; omega
      obtain ⟨f1, f2⟩ := fcZ_rng z1
      obtain ⟨g1, g2⟩ := fcZ_rng z2
      generalize fcZ (n2 (pcN u)) = F at f1 f2 ⊢
      generalize fcZ (i2 ((N : Int) - 1 - pcN u)) = G at g1 g2 ⊢
      have ha := hr (u ||| 2 ^ i)
      have hb := hr u
      have dt : (ht (u ||| 2 ^ i) - ht u).toInt64.toInt = (ht (u ||| 2 ^ i)).toInt - (ht u).toInt := by
        rw [Int32.toInt_toInt64, Int32.toInt_sub]
        exact Int.bmod_eq_of_le (by omega) (by omega)
      generalize (ht (u ||| 2 ^ i) - ht u).toInt64 = D at dt ⊢
      have m3 := mul_le3 (w := D.toInt) f1 f2 g1 g2 (by omega) (by omega)
      have e1 : (F * G).toInt = F.toInt * G.toInt := by rw [Int64.toInt_mul]; exact bm _ (by omega) (by omega)
      have e2 : (F * G * D).toInt = F.toInt * G.toInt * D.toInt := by rw [Int64.toInt_mul, e1]; exact bm _ (by omega) (by omega)
      have e3 : (wS ht N i u + F * G * D).toInt = (wS ht N i u).toInt + F.toInt * G.toInt * D.toInt := by rw [Int64.toInt_add, e2]; exact bm _ (by omega) (by omega)
      rw [e3]
      omega
def XS.sHt (x : XS) (f : Nat → Int32) : XS := (XS.mk (x.taped) (x.fault) (x.bought) (x.worthMany) (x.beganFirst) (x.beganSecond) (x.seed) (x.arranged) (x.paid) (x.hiss) (x.orders) (x.house) (x.cues) (x.tape) (x.states) (x.asked) (x.carriesSet) (f) (x.worth) (x.mouths) (x.sided) (x.keptHouse) (x.keptPaid) (x.keptHiss) (x.kMod) (x.kData) (x.kSize) (x.out) (x.n0) (x.n1))
def MS.sHt (m : MS) (f : Nat → Int32) : MS := (MS.mk (m.thrown) (m.length) (m.seatsPaid) (m.seatsHiss) (m.lays) (m.arranged) (m.tape) (m.s) (m.area) (m.kept) (m.keptPaid) (m.keptHiss) (m.isKept) (m.r) (m.h) (m.n) ((MC.mk (m.c.askedMany) (m.c.bought) (m.c.worthMany) (m.c.allOrders) (m.c.hasSides) (m.c.seenClaps) (m.c.seenStand) (m.c.seenAll) (m.c.beganA) (m.c.beganB) (m.c.seed) (m.c.asked) (m.c.carried) (f) (m.c.worths) (m.c.side) (m.c.otherClaps) (m.c.otherStand))))
def XS.sWo (x : XS) (f : Nat → Int64) : XS := (XS.mk (x.taped) (x.fault) (x.bought) (x.worthMany) (x.beganFirst) (x.beganSecond) (x.seed) (x.arranged) (x.paid) (x.hiss) (x.orders) (x.house) (x.cues) (x.tape) (x.states) (x.asked) (x.carriesSet) (x.heights) (f) (x.mouths) (x.sided) (x.keptHouse) (x.keptPaid) (x.keptHiss) (x.kMod) (x.kData) (x.kSize) (x.out) (x.n0) (x.n1))
def MS.sWo (m : MS) (f : Nat → Int64) : MS := (MS.mk (m.thrown) (m.length) (m.seatsPaid) (m.seatsHiss) (m.lays) (m.arranged) (m.tape) (m.s) (m.area) (m.kept) (m.keptPaid) (m.keptHiss) (m.isKept) (m.r) (m.h) (m.n) ((MC.mk (m.c.askedMany) (m.c.bought) (m.c.worthMany) (m.c.allOrders) (m.c.hasSides) (m.c.seenClaps) (m.c.seenStand) (m.c.seenAll) (m.c.beganA) (m.c.beganB) (m.c.seed) (m.c.asked) (m.c.carried) (m.c.heights) (f) (m.c.side) (m.c.otherClaps) (m.c.otherStand))))
def XS.sWm (x : XS) (v : Int32) (o : Int64) : XS := (XS.mk (x.taped) (x.fault) (x.bought) (v) (x.beganFirst) (x.beganSecond) (x.seed) (x.arranged) (x.paid) (x.hiss) (o) (x.house) (x.cues) (x.tape) (x.states) (x.asked) (x.carriesSet) (x.heights) (x.worth) (x.mouths) (x.sided) (x.keptHouse) (x.keptPaid) (x.keptHiss) (x.kMod) (x.kData) (x.kSize) (x.out) (x.n0) (x.n1))
def MS.sWm (m : MS) (v : Int32) (o : Int64) : MS := (MS.mk (m.thrown) (m.length) (m.seatsPaid) (m.seatsHiss) (m.lays) (m.arranged) (m.tape) (m.s) (m.area) (m.kept) (m.keptPaid) (m.keptHiss) (m.isKept) (m.r) (m.h) (m.n) ((MC.mk (m.c.askedMany) (m.c.bought) (v) (o) (m.c.hasSides) (m.c.seenClaps) (m.c.seenStand) (m.c.seenAll) (m.c.beganA) (m.c.beganB) (m.c.seed) (m.c.asked) (m.c.carried) (m.c.heights) (m.c.worths) (m.c.side) (m.c.otherClaps) (m.c.otherStand))))
section Worth
variable {b b' : Mem} {n s : Nat} {x : XS} {m : MS} {H : HS} {C : List Cu} {h c : Nat} {K : Nat → Option (HS × List Cu)} {p hi : Int64} {a : Nat → Nat} {N : Nat} {ht : Nat → Int32}
theorem Duo.sHtX {f : Nat → Int32} (R : Duo b x m H C h c K) : Duo b (x.sHt f) m H C h c K := ⟨R.hb, R.fz, R.ok, R.ar, R.XH, R.xh, R.XC, R.xc, R.MH, R.MC, R.lays, R.l01, R.tape, R.len, R.fault, R.paid, R.hiss, R.bought, R.worth, R.sided, R.b1, R.b2, R.arranged, R.kept, R.keptC⟩
theorem Duo.sHtM {f : Nat → Int32} (R : Duo b x m H C h c K) : Duo b x (m.sHt f) H C h c K := ⟨R.hb, R.fz, R.ok, R.ar, R.XH, R.xh, R.XC, R.xc, R.MH, R.MC, R.lays, R.l01, R.tape, R.len, R.fault, R.paid, R.hiss, R.bought, R.worth, R.sided, R.b1, R.b2, R.arranged, R.kept, R.keptC⟩
theorem Hnd.sHtX {f : Nat → Int32} (A : Hnd x m H N a) : Hnd (x.sHt f) m H N a := ⟨A.n1, A.n8, A.xa, A.ma, A.mm, A.sz⟩
theorem Hnd.sHtM {f : Nat → Int32} (A : Hnd x m H N a) : Hnd x (m.sHt f) H N a := ⟨A.n1, A.n8, A.xa, A.ma, A.mm, A.sz⟩
theorem sHt_hiss {f : Nat → Int32} : (x.sHt f).hiss = x.hiss := rfl
theorem sHt_hX {f : Nat → Int32} : (x.sHt f).heights = f := rfl
theorem sHt_hM {f : Nat → Int32} : (m.sHt f).c.heights = f := rfl
theorem lay_hts {g : Nat → Int64} {z : MN} : (m.lay g z).c.heights = m.c.heights := rfl
theorem uX_98' (hb : 131 ≤ mNx b) {u : Nat} (hu : u < 256) {v : Int32} : uI (mkX b x) (some 98) (n2 u) v = some (mkX b (x.sHt (upq x.heights u v))) := by
  rw [uX_98 hb, ifx_k hu (by omega), n2_nat (by omega)]; unfold XS.sHt; rfl
theorem uM_121' {u : Nat} (hu : u < 256) {v : Int32} : uI (mkM b' n s m) (some 121) (n2 u) v = some (mkM b' n s (m.sHt (upq m.c.heights u v))) := by
  rw [uM_121, ifx_k hu (by omega), n2_nat (by omega)]; unfold MS.sHt; rfl
theorem L_worth1 : ∀ (k f f' u : Nat) (x : XS) (m : MS), u + k = 2 ^ N → k < f → k < f' → Duo b x m H C h c K → Hnd x m H N a → x.hiss = hi → (∀ w, w < u → x.heights w = hgtS H C (hdsS a w N) hi 61 ∧ m.c.heights w = hgtS H C (hdsS a w N) hi 61) →
    ∃ x' m', bX1_worth_34 f (some 64) (n2 N) (n2 u) (mkX b x) = bX1_worth_34 1 (some 64) (n2 N) (n2 (2 ^ N)) (mkX b x') ∧ bX4_worth_16 f' (some 106) (n2 u) (mkM b' n s m) = bX4_worth_16 1 (some 106) (n2 (2 ^ N)) (mkM b' n s m') ∧ Duo b x' m' H C h c K ∧ Hnd x' m' H N a ∧ (∀ w, w < 2 ^ N → x'.heights w = hgtS H C (hdsS a w N) hi 61 ∧ m'.c.heights w = hgtS H C (hdsS a w N) hi 61) := by
  intro k
  induction k with
  | zero =>
    intro f f' u x m hk hf hf' R A hh hw
    obtain ⟨f, rfl⟩ : ∃ g, f = g + 1 := ⟨f - 1, by omega⟩
    obtain ⟨f', rfl⟩ : ∃ g, f' = g + 1 := ⟨f' - 1, by omega⟩
    have e : u = 2 ^ N := by omega
    subst e
    refine ⟨x, m, ?_, ?_, R, A, hw⟩
    · show bX1_worth_34B _ _ _ _ _ = bX1_worth_34B _ _ _ _ _
      unfold bX1_worth_34B
      rw [pow_shl N A.n8, if_pos (Int32.le_refl _), if_pos (Int32.le_refl _)]
    · show bX4_worth_16B _ _ _ _ = bX4_worth_16B _ _ _ _
      unfold bX4_worth_16B
      rw [gM_102, Option.bind_some, Option.bind_some, A.mm, pow_shl N A.n8, if_pos (Int32.le_refl _), if_pos (Int32.le_refl _)]
  | succ k ih =>
    intro f f' u x m hk hf hf' R A hh hw
    obtain ⟨f, rfl⟩ : ∃ g, f = g + 1 := ⟨f - 1, by omega⟩
    obtain ⟨f', rfl⟩ : ∃ g, f' = g + 1 := ⟨f' - 1, by omega⟩
    have h256 := pow_le8 A.n8
    have hs : u < 2 ^ N := by omega
    have u256 : u < 256 := by omega
    have le : (n2 (2 ^ N) ≤ n2 u) = False := by rw [n2_le (by omega) (by omega)]; exact eq_false (by omega)
    have p2 : m.seatsHiss = hi := R.hiss.symm.trans hh
    have eu : n2 u + 1 = n2 (u + 1) := n2_add u 1
    obtain ⟨y, g, z, e1, e2, D, A2, q1, q2⟩ := D_hh (b' := b') (n := n) (s := s) R A (hdsS a u N) hi
    obtain ⟨x', m', e3, e4, D2, A3, J⟩ := ih f f' (u + 1) ((x.setN false y).sHt (upq (x.setN false y).heights u (hgtS H C (hdsS a u N) hi 61))) ((m.lay g z).sHt (upq (m.lay g z).c.heights u (hgtS H C (hdsS a u N) hi 61))) (by omega) (by omega) (by omega) (D.sHtX.sHtM) (A2.sHtX.sHtM) (by rw [sHt_hiss, setN_hiss]; exact hh) (fun w h2 => by
      rw [sHt_hX, sHt_hM, setN_heights, lay_hts]
      by_cases e : w = u
      · rw [e, upq_self, upq_self]; exact ⟨rfl, rfl⟩
      · rw [upq_ne _ _ e, upq_ne _ _ e]; exact hw w (by omega))
    refine ⟨x', m', Eq.trans ?_ e3, Eq.trans ?_ e4, D2, A3, J⟩
    · show bX1_worth_34B (bX1_worth_34 f) _ _ _ _ = _
      unfold bX1_worth_34B
      simp -implicitDefEqProofs only [Option.bind_some, bd_some, b2i_0, Bool.true_eq_false, Bool.false_eq_true, eq_self, if_true, if_false, not_true_eq_false, not_false_eq_true, pow_shl N A.n8, le, gX_14 R.hb, gX_4 R.hb, R.xh, ivX R.hb, X_hands R.hb A R.ok hs, gX_6 R.hb, hh, e1, uX_98' R.hb u256, eu]
    · show bX4_worth_16B (bX4_worth_16 f') _ _ _ = _
      unfold bX4_worth_16B
      simp -implicitDefEqProofs only [Option.bind_some, bd_some, b2i_0, Bool.true_eq_false, Bool.false_eq_true, eq_self, if_true, if_false, not_true_eq_false, not_false_eq_true, gM_102, A.mm, pow_shl N A.n8, le, gM_105, ivM, M_hands A, gM_72, p2, e2, uM_121' u256, eu]
theorem sWo_X {f : Nat → Int64} : (x.sWo f).worth = f := rfl
theorem sWo_M {f : Nat → Int64} : (m.sWo f).c.worths = f := rfl
theorem sWo_hX {f : Nat → Int64} : (x.sWo f).heights = x.heights := rfl
theorem sWo_hM {f : Nat → Int64} : (m.sWo f).c.heights = m.c.heights := rfl
theorem sWo_many {f : Nat → Int64} : (m.sWo f).c.askedMany = m.c.askedMany := rfl
theorem sWoX2 {f g : Nat → Int64} : (x.sWo f).sWo g = x.sWo g := by simp -implicitDefEqProofs only [XS.sWo, mk_XS_taped, mk_XS_fault, mk_XS_bought, mk_XS_worthMany, mk_XS_beganFirst, mk_XS_beganSecond, mk_XS_seed, mk_XS_arranged, mk_XS_paid, mk_XS_hiss, mk_XS_orders, mk_XS_house, mk_XS_cues, mk_XS_tape, mk_XS_states, mk_XS_asked, mk_XS_carriesSet, mk_XS_heights, mk_XS_worth, mk_XS_mouths, mk_XS_sided, mk_XS_keptHouse, mk_XS_keptPaid, mk_XS_keptHiss, mk_XS_kMod, mk_XS_kData, mk_XS_kSize, mk_XS_out, mk_XS_n0, mk_XS_n1]
theorem sWoM2 {f g : Nat → Int64} : (m.sWo f).sWo g = m.sWo g := by simp -implicitDefEqProofs only [gM_55, gM_57, gM_58, gM_59, gM_60, gM_64, gM_65, gM_66, gM_67, gM_68, gM_69, gM_70, gM_71, gM_72, gM_73, gM_74, gM_75, gM_76, gM_77, gM_81, gM_82, gM_83, gM_85, gM_86, gM_91, gM_92, gM_93, gM_94, gM_95, gM_96, gM_97, gM_98, gM_99, gM_100, gM_102, gM_103, gM_107, gM_108, gM_110, gM_111, gM_112, gM_113, gM_114, gM_115, gM_118, gM_119, gM_56, aM_107, nM_107, gM_61, aM_108, nM_108, gM_62, aM_109, nM_109, gM_63, aM_110, nM_110, gM_78, aM_111, nM_111, gM_79, aM_112, nM_112, gM_80, aM_113, nM_113, gM_84, aM_114, nM_114, gM_87, aM_115, nM_115, gM_88, aM_116, nM_116, gM_89, aM_117, nM_117, gM_90, aM_118, nM_118, gM_101, aM_119, nM_119, gM_104, aM_120, nM_120, gM_105, aM_121, nM_121, gM_106, aM_122, nM_122, gM_109, aM_123, nM_123, gM_116, aM_124, nM_124, gM_117, aM_125, nM_125, gM_120, aM_126, nM_126, gM_121, aM_127, nM_127, gM_122, aM_128, nM_128, gM_123, aM_129, nM_129, pM_55, pM_57, pM_58, pM_59, pM_60, pM_64, pM_65, pM_66, pM_67, pM_68, pM_69, pM_70, pM_71, pM_72, pM_73, pM_74, pM_75, pM_76, pM_77, pM_81, pM_82, pM_83, pM_85, pM_86, pM_91, pM_92, pM_93, pM_94, pM_95, pM_96, pM_97, pM_98, pM_99, pM_100, pM_102, pM_103, pM_107, pM_108, pM_110, pM_111, pM_112, pM_113, pM_114, pM_115, pM_118, pM_119, uM_107, uM_108, uM_109, uM_110, uM_111, uM_112, uM_113, uM_114, uM_115, uM_116, uM_117, uM_118, uM_119, uM_120, uM_121, uM_122, uM_123, uM_124, uM_125, uM_126, uM_127, uM_128, uM_129, ivM, Option.bind_some, bd_some, mk_MS_thrown, mk_MS_length, mk_MS_seatsPaid, mk_MS_seatsHiss, mk_MS_lays, mk_MS_arranged, mk_MS_tape, mk_MS_s, mk_MS_area, mk_MS_kept, mk_MS_keptPaid, mk_MS_keptHiss, mk_MS_isKept, mk_MS_r, mk_MS_h, mk_MS_n, mk_MS_c, mk_MR_size, mk_MR_p, mk_MR_limit, mk_MR_token, mk_MR_place, mk_MR_span, mk_MR_number, mk_MR_fault, mk_MR_faultAt, mk_MR_word, mk_MR_got, mk_MH_lines, mk_MH_prices, mk_MH_leavings, mk_MH_onces, mk_MH_codeMany, mk_MH_pileMany, mk_MH_ones, mk_MH_coming, mk_MH_hh, mk_MH_newCues, mk_MH_code, mk_MH_pile, mk_MN_paidNow, mk_MN_hissNow, mk_MN_clapping, mk_MN_standing, mk_MN_low, mk_MN_high, mk_MN_gone, mk_MN_cueNext, mk_MN_nightHeight, mk_MN_nightCarries, mk_MN_held, mk_MN_claps, mk_MN_stand, mk_MN_heldLow, mk_MN_heldHigh, mk_MC_askedMany, mk_MC_bought, mk_MC_worthMany, mk_MC_allOrders, mk_MC_hasSides, mk_MC_seenClaps, mk_MC_seenStand, mk_MC_seenAll, mk_MC_beganA, mk_MC_beganB, mk_MC_seed, mk_MC_asked, mk_MC_carried, mk_MC_heights, mk_MC_worths, mk_MC_side, mk_MC_otherClaps, mk_MC_otherStand, mk_NT_paid, mk_NT_hiss, mk_NT_c1, mk_NT_c2, mk_NT_lo, mk_NT_hi, mk_NT_next, mk_Ac_a1, mk_Ac_a2, mk_Ac_l, mk_Ac_h, MS.sWo]
theorem uX_99' (hb : 131 ≤ mNx b) {u : Nat} (hu : u < 8) {v : Int64} : uJ (mkX b x) (some 99) (n2 u) v = some (mkX b (x.sWo (upq x.worth u v))) := by
  rw [uX_99 hb, ifx_k hu (by omega), n2_nat (by omega)]; unfold XS.sWo; rfl
theorem uM_122' {u : Nat} (hu : u < 8) {v : Int64} : uJ (mkM b' n s m) (some 122) (n2 u) v = some (mkM b' n s (m.sWo (upq m.c.worths u v))) := by
  rw [uM_122, ifx_k hu (by omega), n2_nat (by omega)]; unfold MS.sWo; rfl
theorem upd_upd {α : Type} (f : Nat → α) (k : Nat) (v w : α) : upq (upq f k v) k w = upq f k w := by
  funext j; unfold upq; split <;> rfl
theorem upd_same {α : Type} (f : Nat → α) (k : Nat) : upq f k (f k) = f := by
  funext j; unfold upq; split
  · next e => rw [e]
  · rfl
theorem X_worth99 {kk : Rf → Int32 → Int32 → Mem → Option (Int32 × Mem)} (hb : 131 ≤ mNx b) (hN : N ≤ 8) {i : Nat} (hi8 : i < N) : ∀ (k f u : Nat) (x : XS), u + k = 2 ^ N → k < f → (∀ w, w < 2 ^ N → x.heights w = ht w) → x.worth i = wS ht N i u →
    bX1_worth_99 kk f (some 64) (n2 N) (n2 i) (n2 u) (mkX b x) = kk (some 64) (n2 N) (n2 (i + 1)) (mkX b (x.sWo (upq x.worth i (wS ht N i (2 ^ N))))) := by
  have h256 := pow_le8 hN
  intro k
  induction k with
  | zero =>
    intro f u x hk hf hh hw
    obtain ⟨f, rfl⟩ : ∃ g, f = g + 1 := ⟨f - 1, by omega⟩
    have e : u = 2 ^ N := by omega
    subst e
    show bX1_worth_99B kk _ _ _ _ _ _ = _
    unfold bX1_worth_99B
    rw [pow_shl N hN, if_pos (Int32.le_refl _), ← hw, upd_same, show n2 i + 1 = n2 (i + 1) from n2_add i 1]
    have : x.sWo x.worth = x := by unfold XS.sWo; exact XS_eta x
    rw [this]
  | succ k ih =>
    intro f u x hk hf hh hw
    obtain ⟨f, rfl⟩ : ∃ g, f = g + 1 := ⟨f - 1, by omega⟩
    have u256 : u < 256 := by omega
    have i8 : i < 8 := by omega
    have le : (n2 (2 ^ N) ≤ n2 u) = False := by rw [n2_le (by omega) (by omega)]; exact eq_false (by omega)
    obtain ⟨p1, p2⟩ := pcN_eq u u256
    have z1 : n2 (pcN u) ≤ 8 := by rw [li_8, n2_le (by omega) (by omega)]; exact p2
    have z2 : i2 ((N : Int) - 1 - pcN u) ≤ 8 := by rw [li_8, in_le (by omega) (by omega) (by omega)]; omega
    have za : n2 N - n2 (pcN u) - (1 : Int32) = i2 ((N : Int) - 1 - pcN u) := by rw [nn_sub, li_1, in_sub]; congr 1; omega
    have io : n2 u ||| shlI (1 : Int32) (n2 i) = n2 (u ||| 2 ^ i) := by rw [pow_shl i (by omega), n2_or]
    have ol : u ||| 2 ^ i < 2 ^ N := Nat.or_lt_two_pow (by omega) (Nat.pow_lt_pow_right (by decide) hi8)
    have o256 : u ||| 2 ^ i < 256 := by omega
    have eu : n2 u + 1 = n2 (u + 1) := n2_add u 1
    show bX1_worth_99B kk (bX1_worth_99 kk f) _ _ _ _ _ = _
    unfold bX1_worth_99B bX1_worth_166
    simp -implicitDefEqProofs only [Option.bind_some, bd_some, b2i_0, Bool.true_eq_false, Bool.false_eq_true, eq_self, if_true, if_false, not_true_eq_false, not_false_eq_true, pow_shl N hN, le, X_hasB, pcI_eq, pcI_pc u u256, p1, gX_15 hb, aX_99 hb, ifx_k i8 (show i < 2147483648 by omega), n2_nat (show i < 2147483648 by omega), X_fac z1, za, X_fac z2, gX_14 hb, aX_98 hb, ← pow_shl i (show i ≤ 8 by omega)]
    simp -implicitDefEqProofs only [Option.bind_some, bd_some, b2i_0, Bool.true_eq_false, Bool.false_eq_true, eq_self, if_true, if_false, not_true_eq_false, not_false_eq_true, io, ifx_k o256 (show u ||| 2 ^ i < 2147483648 by omega), n2_nat (show u ||| 2 ^ i < 2147483648 by omega), ifx_k u256 (show u < 2147483648 by omega), n2_nat (show u < 2147483648 by omega), hh u (by omega), hh _ ol, hw, uX_99' hb i8, eu]
    rcases Bool.eq_false_or_eq_true (hasB u i) with e | e
    · simp -implicitDefEqProofs only [Option.bind_some, bd_some, b2i_0, Bool.true_eq_false, Bool.false_eq_true, eq_self, if_true, if_false, not_true_eq_false, not_false_eq_true, e]
      exact ih f (u + 1) x (by omega) (by omega) hh (by rw [hw]; simp -implicitDefEqProofs only [wS]; rw [e, if_pos rfl])
    · simp -implicitDefEqProofs only [Option.bind_some, bd_some, b2i_0, Bool.true_eq_false, Bool.false_eq_true, eq_self, if_true, if_false, not_true_eq_false, not_false_eq_true, e]
      have I := ih f (u + 1) (x.sWo (upq x.worth i (wS ht N i u + fcZ (n2 (pcN u)) * fcZ (i2 ((N : Int) - 1 - pcN u)) * (ht (u ||| 2 ^ i) - ht u).toInt64))) (by omega) (by omega) (by rw [sWo_hX]; exact hh) (by rw [sWo_X, upq_self]; simp -implicitDefEqProofs only [wS]; rw [e, if_neg (by decide)])
      rw [sWo_X, upd_upd, sWoX2] at I
      exact I
theorem M_worth70 {kk : Rf → Int32 → Mem → Option (Int32 × Mem)} (hN : N ≤ 8) {i : Nat} (hi8 : i < N) : ∀ (k f u : Nat) (m : MS), u + k = 2 ^ N → k < f → m.c.askedMany = n2 N → (∀ w, w < 2 ^ N → m.c.heights w = ht w) → m.c.worths i = wS ht N i u →
    bX4_worth_70 kk f (some 106) (n2 i) (n2 u) (mkM b' n s m) = kk (some 106) (n2 (i + 1)) (mkM b' n s (m.sWo (upq m.c.worths i (wS ht N i (2 ^ N))))) := by
  have h256 := pow_le8 hN
  intro k
  induction k with
  | zero =>
    intro f u m hk hf hm hh hw
    obtain ⟨f, rfl⟩ : ∃ g, f = g + 1 := ⟨f - 1, by omega⟩
    have e : u = 2 ^ N := by omega
    subst e
    show bX4_worth_70B kk _ _ _ _ _ = _
    unfold bX4_worth_70B
    rw [gM_102, Option.bind_some, hm, pow_shl N hN, if_pos (Int32.le_refl _), ← hw, upd_same, show n2 i + 1 = n2 (i + 1) from n2_add i 1]
    have : m.sWo m.c.worths = m := rfl
    rw [this]
  | succ k ih =>
    intro f u m hk hf hm hh hw
    obtain ⟨f, rfl⟩ : ∃ g, f = g + 1 := ⟨f - 1, by omega⟩
    have u256 : u < 256 := by omega
    have i8 : i < 8 := by omega
    have le : (n2 (2 ^ N) ≤ n2 u) = False := by rw [n2_le (by omega) (by omega)]; exact eq_false (by omega)
    obtain ⟨p1, p2⟩ := pcN_eq u u256
    have z1 : n2 (pcN u) ≤ 8 := by rw [li_8, n2_le (by omega) (by omega)]; exact p2
    have z2 : i2 ((N : Int) - 1 - pcN u) ≤ 8 := by rw [li_8, in_le (by omega) (by omega) (by omega)]; omega
    have za : n2 N - (1 : Int32) - n2 (pcN u) = i2 ((N : Int) - 1 - pcN u) := by rw [li_1, nn_sub, in_sub]; rfl
    have io : n2 u ||| shlI (1 : Int32) (n2 i) = n2 (u ||| 2 ^ i) := by rw [pow_shl i (by omega), n2_or]
    have ol : u ||| 2 ^ i < 2 ^ N := Nat.or_lt_two_pow (by omega) (Nat.pow_lt_pow_right (by decide) hi8)
    have o256 : u ||| 2 ^ i < 256 := by omega
    have eu : n2 u + 1 = n2 (u + 1) := n2_add u 1
    show bX4_worth_70B kk (bX4_worth_70 kk f) _ _ _ _ = _
    unfold bX4_worth_70B bX4_worth_141
    simp -implicitDefEqProofs only [Option.bind_some, bd_some, b2i_0, Bool.true_eq_false, Bool.false_eq_true, eq_self, if_true, if_false, not_true_eq_false, not_false_eq_true, gM_102, hm, pow_shl N hN, le, M_hasB, pcM, p1, gM_106, aM_122, ifx_k i8 (show i < 2147483648 by omega), n2_nat (show i < 2147483648 by omega), M_fac z1, za, M_fac z2, gM_105, aM_121, ← pow_shl i (show i ≤ 8 by omega)]
    simp -implicitDefEqProofs only [Option.bind_some, bd_some, b2i_0, Bool.true_eq_false, Bool.false_eq_true, eq_self, if_true, if_false, not_true_eq_false, not_false_eq_true, io, ifx_k o256 (show u ||| 2 ^ i < 2147483648 by omega), n2_nat (show u ||| 2 ^ i < 2147483648 by omega), ifx_k u256 (show u < 2147483648 by omega), n2_nat (show u < 2147483648 by omega), hh u (by omega), hh _ ol, hw, uM_122' i8, eu]
    rcases Bool.eq_false_or_eq_true (hasB u i) with e | e
    · simp -implicitDefEqProofs only [Option.bind_some, bd_some, b2i_0, Bool.true_eq_false, Bool.false_eq_true, eq_self, if_true, if_false, not_true_eq_false, not_false_eq_true, e]
      exact ih f (u + 1) m (by omega) (by omega) hm hh (by rw [hw]; simp -implicitDefEqProofs only [wS]; rw [e, if_pos rfl])
    · simp -implicitDefEqProofs only [Option.bind_some, bd_some, b2i_0, Bool.true_eq_false, Bool.false_eq_true, eq_self, if_true, if_false, not_true_eq_false, not_false_eq_true, e]
      have I := ih f (u + 1) (m.sWo (upq m.c.worths i (wS ht N i u + fcZ (n2 (pcN u)) * fcZ (i2 ((N : Int) - 1 - pcN u)) * (ht (u ||| 2 ^ i) - ht u).toInt64))) (by omega) (by omega) (by rw [sWo_many]; exact hm) (by rw [sWo_hM]; exact hh) (by rw [sWo_M, upq_self]; simp -implicitDefEqProofs only [wS]; rw [e, if_neg (by decide)])
      rw [sWo_M, upd_upd, sWoM2] at I
      exact I
end Worth
