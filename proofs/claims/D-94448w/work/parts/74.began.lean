set_option linter.unusedVariables false
set_option linter.unusedSimpArgs false
set_option maxRecDepth 100000
/-! ===== commands: began ===== -/
def inK (H : HS) (tp : Nat → Int32) (v : Nat) : Bool := decide (octN (tp v) ≠ 3) && decide (H.kind v ≠ 0)
def skA (H : HS) (tp : Nat → Int32) : Nat → Int64
  | 0 => 0
  | v + 1 => if inK H tp v = true then skA H tp v ||| bitS v else skA H tp v
def skL (H : HS) (tp : Nat → Int32) (l : Nat) : Nat → Int64
  | 0 => 0
  | v + 1 => if inK H tp v = true then skL H tp l v ||| (if l < octN (tp v) then bitS v else 0) else skL H tp l v
theorem skA_tb {H : HS} {tp : Nat → Int32} (j : Nat) : ∀ n, n ≤ 64 → (tb (skA H tp n) j = true ↔ j < n ∧ inK H tp j = true)
  | 0, _ => by
    have : tb (skA H tp 0) j = false := tb_zero j
    rw [this]; exact ⟨fun h => absurd h (by decide), fun h => by omega⟩
  | n + 1, hn => by
    have ih := skA_tb (H := H) (tp := tp) j n (by omega)
    simp -implicitDefEqProofs only [skA]
    by_cases hc : inK H tp n = true
    · rw [if_pos hc, tb_or, Bool.or_eq_true, ih, tb_bitS (by omega), decide_eq_true_eq]
      constructor
      · rintro (⟨h1, h2⟩ | rfl)
        · exact ⟨by omega, h2⟩
        · exact ⟨by omega, hc⟩
      · rintro ⟨h1, h2⟩
        by_cases e : j = n
        · exact Or.inr e
        · exact Or.inl ⟨by omega, h2⟩
    · rw [if_neg hc, ih]
      constructor
      · rintro ⟨h1, h2⟩; exact ⟨by omega, h2⟩
      · rintro ⟨h1, h2⟩
        refine ⟨?_, h2⟩
        rcases Nat.lt_or_ge j n with h | h
        · exact h
        · have : j = n := by omega
          subst this; exact absurd h2 hc
theorem skL_tb {H : HS} {tp : Nat → Int32} {l : Nat} (j : Nat) : ∀ n, n ≤ 64 → (tb (skL H tp l n) j = true ↔ (j < n ∧ inK H tp j = true) ∧ l < octN (tp j))
  | 0, _ => by
    have : tb (skL H tp l 0) j = false := tb_zero j
    rw [this]; exact ⟨fun h => absurd h (by decide), fun h => by omega⟩
  | n + 1, hn => by
    have ih := skL_tb (H := H) (tp := tp) (l := l) j n (by omega)
    simp -implicitDefEqProofs only [skL]
    by_cases hc : inK H tp n = true
    · rw [if_pos hc, tb_or, Bool.or_eq_true, ih]
      have e2 : tb (if l < octN (tp n) then bitS n else 0) j = true ↔ j = n ∧ l < octN (tp n) := by
        by_cases h : l < octN (tp n)
        · rw [if_pos h, tb_bitS (by omega), decide_eq_true_eq]; exact ⟨fun e => ⟨e, h⟩, fun e => e.1⟩
        · rw [if_neg h, tb_zero]; exact ⟨fun e => absurd e (by decide), fun e => absurd e.2 h⟩
      rw [e2]
      constructor
      · rintro (⟨⟨h1, h2⟩, h3⟩ | ⟨rfl, h3⟩)
        · exact ⟨⟨by omega, h2⟩, h3⟩
        · exact ⟨⟨by omega, hc⟩, h3⟩
      · rintro ⟨⟨h1, h2⟩, h3⟩
        by_cases e : j = n
        · subst e; exact Or.inr ⟨rfl, h3⟩
        · exact Or.inl ⟨⟨by omega, h2⟩, h3⟩
    · rw [if_neg hc, ih]
      constructor
      · rintro ⟨⟨h1, h2⟩, h3⟩; exact ⟨⟨by omega, h2⟩, h3⟩
      · rintro ⟨⟨h1, h2⟩, h3⟩
        refine ⟨⟨?_, h2⟩, h3⟩
        rcases Nat.lt_or_ge j n with h | h
        · exact h
        · have : j = n := by omega
          subst this; exact absurd h2 hc
/-- a night is like the sketch -/
def likeS (H : HS) (tp : Nat → Int32) (c1 c2 : Int64) : Bool := decide (∀ u, u < H.size → (inK H tp u = true → octN (tp u) = lvOf c1 c2 u))
theorem likeS_eq {H : HS} {tp : Nat → Int32} {c1 c2 : Int64} (h64 : H.size ≤ 64) (h3 : ∀ u, u < H.size → octN (tp u) ≤ 3) (hs : ∀ j, tb c2 j = true → tb c1 j = true) :
    (c1 &&& skA H tp H.size = skL H tp 0 H.size ∧ c2 &&& skA H tp H.size = skL H tp 1 H.size) ↔ likeS H tp c1 c2 = true := by
  have bi : ∀ (x y : Bool), (x = true ↔ y = true) → x = y := fun x y => by cases x <;> cases y <;> simp
  unfold likeS
  rw [decide_eq_true_eq]
  constructor
  · rintro ⟨e1, e2⟩ u hu hk
    have t1 := congrArg (fun z => tb z u) e1
    have t2 := congrArg (fun z => tb z u) e2
    simp -implicitDefEqProofs only [tb_and] at t1 t2
    have kA := (skA_tb (H := H) (tp := tp) u H.size h64).mpr ⟨hu, hk⟩
    rw [kA, Bool.and_true] at t1 t2
    have l0 := skL_tb (H := H) (tp := tp) (l := 0) u H.size h64
    have l1 := skL_tb (H := H) (tp := tp) (l := 1) u H.size h64
    rw [← t1] at l0
    rw [← t2] at l1
    have o3 := h3 u hu
    have on3 : octN (tp u) ≠ 3 := by unfold inK at hk; simp -implicitDefEqProofs only [Bool.and_eq_true, decide_eq_true_eq] at hk; exact hk.1
    unfold lvOf
    by_cases q2 : tb c2 u = true
    · rw [if_pos q2]; have := l1.mp q2; omega
    · rw [if_neg q2]
      by_cases q1 : tb c1 u = true
      · rw [if_pos q1]
        have := l0.mp q1
        have n1 : ¬ 1 < octN (tp u) := fun h => q2 (l1.mpr ⟨⟨hu, hk⟩, h⟩)
        omega
      · rw [if_neg q1]
        have n0 : ¬ 0 < octN (tp u) := fun h => q1 (l0.mpr ⟨⟨hu, hk⟩, h⟩)
        omega
  · intro hall
    constructor
    · refine tb_ext fun j hj => bi _ _ ?_
      rw [tb_and, Bool.and_eq_true, skA_tb j H.size h64, skL_tb j H.size h64]
      constructor
      · rintro ⟨q1, hu, hk⟩
        have e := hall j hu hk
        refine ⟨⟨hu, hk⟩, ?_⟩
        unfold lvOf at e
        rw [if_pos q1] at e
        split at e <;> omega
      · rintro ⟨⟨hu, hk⟩, h0⟩
        have e := hall j hu hk
        refine ⟨?_, hu, hk⟩
        unfold lvOf at e
        by_cases q2 : tb c2 j = true
        · exact hs j q2
        · rw [if_neg q2] at e
          by_cases q1 : tb c1 j = true
          · exact q1
          · rw [if_neg q1] at e; omega
    · refine tb_ext fun j hj => bi _ _ ?_
      rw [tb_and, Bool.and_eq_true, skA_tb j H.size h64, skL_tb j H.size h64]
      constructor
      · rintro ⟨q2, hu, hk⟩
        have e := hall j hu hk
        refine ⟨⟨hu, hk⟩, ?_⟩
        unfold lvOf at e
        rw [if_pos q2] at e; omega
      · rintro ⟨⟨hu, hk⟩, h0⟩
        have e := hall j hu hk
        refine ⟨?_, hu, hk⟩
        unfold lvOf at e
        by_cases q2 : tb c2 j = true
        · exact q2
        · rw [if_neg q2] at e
          split at e <;> omega
def XS.bg (x : XS) (p q : Int32) : XS := (XS.mk (x.taped) (x.fault) (x.bought) (x.worthMany) (p) (q) (x.seed) (x.arranged) (x.paid) (x.hiss) (x.orders) (x.house) (x.cues) (x.tape) (x.states) (x.asked) (x.carriesSet) (x.heights) (x.worth) (x.mouths) (x.sided) (x.keptHouse) (x.keptPaid) (x.keptHiss) (x.kMod) (x.kData) (x.kSize) (x.out) (x.n0) (x.n1))
def MS.bg (m : MS) (p q : Int32) : MS := (MS.mk (m.thrown) (m.length) (m.seatsPaid) (m.seatsHiss) (m.lays) (m.arranged) (m.tape) (m.s) (m.area) (m.kept) (m.keptPaid) (m.keptHiss) (m.isKept) (m.r) (m.h) (m.n) ((MC.mk (m.c.askedMany) (m.c.bought) (m.c.worthMany) (m.c.allOrders) (m.c.hasSides) (m.c.seenClaps) (m.c.seenStand) (m.c.seenAll) (p) (q) (m.c.seed) (m.c.asked) (m.c.carried) (m.c.heights) (m.c.worths) (m.c.side) (m.c.otherClaps) (m.c.otherStand))))
def MS.sk (m : MS) (u v w : Int64) : MS := (MS.mk (m.thrown) (m.length) (m.seatsPaid) (m.seatsHiss) (m.lays) (m.arranged) (m.tape) (m.s) (m.area) (m.kept) (m.keptPaid) (m.keptHiss) (m.isKept) (m.r) (m.h) (m.n) ((MC.mk (m.c.askedMany) (m.c.bought) (m.c.worthMany) (m.c.allOrders) (m.c.hasSides) (u) (v) (w) (m.c.beganA) (m.c.beganB) (m.c.seed) (m.c.asked) (m.c.carried) (m.c.heights) (m.c.worths) (m.c.side) (m.c.otherClaps) (m.c.otherStand))))
section Began
variable {b b' : Mem} {n s : Nat} {x : XS} {m : MS} {H : HS} {C : List Cu} {h c : Nat} {K : Nat → Option (HS × List Cu)} {p hi : Int64} {tp : Nat → Int32}
theorem Duo.bg {u v : Int32} (R : Duo b x m H C h c K) : Duo b (x.bg u v) (m.bg u v) H C h c K := ⟨R.hb, R.fz, R.ok, R.ar, R.XH, R.xh, R.XC, R.xc, R.MH, R.MC, R.lays, R.l01, R.tape, R.len, R.fault, R.paid, R.hiss, R.bought, R.worth, R.sided, rfl, rfl, R.arranged, R.kept, R.keptC⟩
theorem Duo.sk {u v w : Int64} (R : Duo b x m H C h c K) : Duo b x (m.sk u v w) H C h c K := ⟨R.hb, R.fz, R.ok, R.ar, R.XH, R.xh, R.XC, R.xc, R.MH, R.MC, R.lays, R.l01, R.tape, R.len, R.fault, R.paid, R.hiss, R.bought, R.worth, R.sided, R.b1, R.b2, R.arranged, R.kept, R.keptC⟩
theorem X_like {N : NT} {t : Nat} (hb : 131 ≤ mNx b) (X : XHouse b h H) (ok : H.Ok) (xh : x.house = some h) (I : XNt (x.n false) h c H N t) (h3 : ∀ u, u < H.size → octN (x.tape u) ≤ 3) : ∀ (k f u : Nat), u + k = H.size → k < f → (∀ w, w < u → inK H x.tape w = true → octN (x.tape w) = lvOf N.c1 N.c2 w) →
    bX1_isLikeSketch_2 f (some 64) (some (nid false)) (n2 u) (mkX b x) = some (b2i (likeS H x.tape N.c1 N.c2), mkX b x) := by
  have h64 := ok.size
  intro k
  induction k with
  | zero =>
    intro f u hk hf hw
    obtain ⟨f, rfl⟩ : ∃ g, f = g + 1 := ⟨f - 1, by omega⟩
    have e : u = H.size := by omega
    subst e
    show bX1_isLikeSketch_2B _ _ _ _ _ = _
    unfold bX1_isLikeSketch_2B
    have d : likeS H x.tape N.c1 N.c2 = true := decide_eq_true hw
    simp -implicitDefEqProofs only [Option.bind_some, bd_some, b2i_0, Bool.true_eq_false, Bool.false_eq_true, eq_self, if_true, if_false, not_true_eq_false, not_false_eq_true, gX_4 hb, xh, xh_iv X, xh_size X, show (n2 H.size ≤ n2 H.size) = True from eq_true (Int32.le_refl _), d]
    rfl
  | succ k ih =>
    intro f u hk hf hw
    obtain ⟨f, rfl⟩ : ∃ g, f = g + 1 := ⟨f - 1, by omega⟩
    have hu : u < H.size := by omega
    have u64 : u < 64 := by omega
    have le : (n2 H.size ≤ n2 u) = False := by rw [n2_le (by omega) (by omega)]; exact eq_false (by omega)
    have o3 := h3 u hu
    have lv := lvOf_le N.c1 N.c2 u
    have aL := aN_level (x := x) (q := false) (i := n2 u) hb
    rw [ifx_k u64 (by omega), n2_nat (by omega), I.level u hu] at aL
    have c3 : (n2 (octN (x.tape u)) = (3 : Int32)) = (octN (x.tape u) = 3) := by rw [li_3, n2_eq (by omega) (by omega)]
    have cl : (n2 (octN (x.tape u)) = n2 (lvOf N.c1 N.c2 u)) = (octN (x.tape u) = lvOf N.c1 N.c2 u) := n2_eq (by omega) (by omega)
    have nxt := fun (hc : inK H x.tape u = true → octN (x.tape u) = lvOf N.c1 N.c2 u) => ih f (u + 1) (by omega) (by omega) (fun w h2 hk2 => by
      by_cases e : w = u
      · subst e; exact hc hk2
      · exact hw w (by omega) hk2)
    show bX1_isLikeSketch_2B (bX1_isLikeSketch_2 f) _ _ _ _ = _
    unfold bX1_isLikeSketch_2B bX1_isLikeSketch_52
    simp -implicitDefEqProofs only [Option.bind_some, bd_some, b2i_0, Bool.true_eq_false, Bool.false_eq_true, eq_self, if_true, if_false, not_true_eq_false, not_false_eq_true, gX_4 hb, xh, xh_iv X, xh_size X, le, xh_34 X, xh_kind X hu h64, kindX_9 (ok.kind u), ivX hb, X_byteAt hb (show u < 940 by omega), c3, gN_49 hb, aL, cl, show n2 u + 1 = n2 (u + 1) from n2_add u 1]
    by_cases k0 : H.kind u = 0
    · simp -implicitDefEqProofs only [Option.bind_some, bd_some, b2i_0, Bool.true_eq_false, Bool.false_eq_true, eq_self, if_true, if_false, not_true_eq_false, not_false_eq_true, k0]
      exact nxt (fun hk2 => by unfold inK at hk2; simp [k0] at hk2)
    · by_cases q3 : octN (x.tape u) = 3
      · simp -implicitDefEqProofs only [Option.bind_some, bd_some, b2i_0, Bool.true_eq_false, Bool.false_eq_true, eq_self, if_true, if_false, not_true_eq_false, not_false_eq_true, k0, q3]
        exact nxt (fun hk2 => by unfold inK at hk2; simp [q3] at hk2)
      · by_cases ql : octN (x.tape u) = lvOf N.c1 N.c2 u
        · simp -implicitDefEqProofs only [Option.bind_some, bd_some, b2i_0, Bool.true_eq_false, Bool.false_eq_true, eq_self, if_true, if_false, not_true_eq_false, not_false_eq_true, k0, q3]; rw [if_pos ql]
          exact nxt (fun _ => ql)
        · simp -implicitDefEqProofs only [Option.bind_some, bd_some, b2i_0, Bool.true_eq_false, Bool.false_eq_true, eq_self, if_true, if_false, not_true_eq_false, not_false_eq_true, k0, q3]; rw [if_neg ql]
          have d : likeS H x.tape N.c1 N.c2 = false := decide_eq_false (fun hall => ql (hall u hu (by unfold inK; simp [k0, q3])))
          rw [d]; rfl
theorem M_like {T : Nat} (ok : H.Ok) (hT : T ≤ 600) (h3 : ∀ u, u < H.size → octN (tp u) ≤ 3) : ∀ (k f t : Nat) (m : MS), t + k = T + 1 → k < f → MHouse m.s H → MCues m.s C → MArea m H → MRun m H C p hi t → m.c.seenClaps = skL H tp 0 H.size → m.c.seenStand = skL H tp 1 H.size → m.c.seenAll = skA H tp H.size →
    ∃ y, bX4_isSketch_9 f (some 106) (n2 T) (mkM b' n s m) = some (b2i (likeS H tp (nightS H C p hi T).c1 (nightS H C p hi T).c2), mkM b' n s (m.sN y)) := by
  have h64 := ok.size
  intro k
  induction k with
  | zero =>
    intro f t m hk hf hH hC ha hR s1 s2 s3
    obtain ⟨f, rfl⟩ : ∃ g, f = g + 1 := ⟨f - 1, by omega⟩
    have e : t = T + 1 := by omega
    subst e
    refine ⟨m.n, ?_⟩
    have c1 : m.n.clapping = (nightS H C p hi T).c1 := hR.nt.c1
    have c2 : m.n.standing = (nightS H C p hi T).c2 := hR.nt.c2
    have E := likeS_eq (H := H) (tp := tp) (c1 := (nightS H C p hi T).c1) (c2 := (nightS H C p hi T).c2) h64 h3 (fun j => (night_bits h64 T j).2)
    have lt : (n2 T < n2 (T + 1)) = True := by rw [n2_lt (by omega) (by omega)]; exact eq_true (by omega)
    show bX4_isSketch_9B _ _ _ _ = _
    unfold bX4_isSketch_9B bX4_isSketch_62
    simp -implicitDefEqProofs only [Option.bind_some, bd_some, b2i_0, Bool.true_eq_false, Bool.false_eq_true, eq_self, if_true, if_false, not_true_eq_false, not_false_eq_true, gM_97, hR.nt.gone, lt, gM_93, gM_94, gM_113, gM_111, gM_112, c1, c2, s1, s2, s3]
    by_cases q1 : (nightS H C p hi T).c1 &&& skA H tp H.size = skL H tp 0 H.size
    · by_cases q2 : (nightS H C p hi T).c2 &&& skA H tp H.size = skL H tp 1 H.size
      · rw [E.mp ⟨q1, q2⟩]; simp -implicitDefEqProofs only [Option.bind_some, bd_some, b2i_0, Bool.true_eq_false, Bool.false_eq_true, eq_self, if_true, if_false, not_true_eq_false, not_false_eq_true, q1, q2]; rfl
      · have d : likeS H tp (nightS H C p hi T).c1 (nightS H C p hi T).c2 = false := by
          cases e : likeS H tp (nightS H C p hi T).c1 (nightS H C p hi T).c2
          · rfl
          · exact absurd (E.mpr e).2 q2
        rw [d]; simp -implicitDefEqProofs only [Option.bind_some, bd_some, b2i_0, Bool.true_eq_false, Bool.false_eq_true, eq_self, if_true, if_false, not_true_eq_false, not_false_eq_true, q1, q2]; rfl
    · have d : likeS H tp (nightS H C p hi T).c1 (nightS H C p hi T).c2 = false := by
        cases e : likeS H tp (nightS H C p hi T).c1 (nightS H C p hi T).c2
        · rfl
        · exact absurd (E.mpr e).1 q1
      rw [d]; simp -implicitDefEqProofs only [Option.bind_some, bd_some, b2i_0, Bool.true_eq_false, Bool.false_eq_true, eq_self, if_true, if_false, not_true_eq_false, not_false_eq_true, q1]; rfl
  | succ k ih =>
    intro f t m hk hf hH hC ha hR s1 s2 s3
    obtain ⟨f, rfl⟩ : ∃ g, f = g + 1 := ⟨f - 1, by omega⟩
    obtain ⟨y, e, hR', -⟩ := M_step (b := b') (n := n) (s := s) hH ok hC ha hR (by omega)
    obtain ⟨y', e'⟩ := ih f (t + 1) (m.sN y) (by omega) (by omega) hH hC ha.sN hR' s1 s2 s3
    refine ⟨y', Eq.trans ?_ e'⟩
    show bX4_isSketch_9B (bX4_isSketch_9 f) _ _ _ = _
    unfold bX4_isSketch_9B
    rw [gM_97, Option.bind_some, hR.nt.gone, if_neg (show ¬ n2 T < n2 t by rw [n2_lt (by omega) (by omega)]; omega), ivM, e, bd_some]; rfl
/-- the masks of the sketch -/
abbrev Skt (m : MS) (H : HS) (tp : Nat → Int32) : Prop := (m.c.seenClaps = skL H tp 0 H.size) ∧ (m.c.seenStand = skL H tp 1 H.size) ∧ (m.c.seenAll = skA H tp H.size)
theorem Skt.s1 {m : MS} {H : HS} {tp : Nat → Int32} (self : Skt m H tp) : m.c.seenClaps = skL H tp 0 H.size := self.1
theorem Skt.s2 {m : MS} {H : HS} {tp : Nat → Int32} (self : Skt m H tp) : m.c.seenStand = skL H tp 1 H.size := self.2.1
theorem Skt.s3 {m : MS} {H : HS} {tp : Nat → Int32} (self : Skt m H tp) : m.c.seenAll = skA H tp H.size := self.2.2
/-- one night of the sketch in both -/
theorem D_like (R : Duo b x m H C h c K) {T : Nat} (hT : T ≤ 600) (ht : x.tape = tp) (h3 : ∀ u, u < H.size → octN (tp u) ≤ 3) (S : Skt m H tp) (p : Int64) :
    ∃ y y2 g z, fX3_begin (some (nid false)) (some h) (some c) p x.hiss (mkX b x) = some (some (nid false), mkX b (x.setN false y)) ∧ fX3_to (some (nid false)) (n2 T) (mkX b (x.setN false y)) = some (some (nid false), mkX b (x.setN false y2)) ∧ fX1_isLikeSketch (some 64) (some (nid false)) (mkX b (x.setN false y2)) = some (b2i (likeS H tp (nightS H C p x.hiss T).c1 (nightS H C p x.hiss T).c2), mkX b (x.setN false y2)) ∧ fX4_isSketch (some 106) p (n2 T) (mkM b' n s m) = some (b2i (likeS H tp (nightS H C p x.hiss T).c1 (nightS H C p x.hiss T).c2), mkM b' n s (m.lay g z)) ∧ Duo b (x.setN false y2) (m.lay g z) H C h c K ∧ Skt (m.lay g z) H tp := by
  subst ht
  have h64 := R.ok.size
  have hF : 2000 < hcFuel := by unfold hcFuel; omega
  have p2 : m.seatsHiss = x.hiss := R.hiss.symm
  obtain ⟨y, e1, I⟩ := X_begin R.hb (q := false) (x := x) (p := p) (hi := x.hiss) R.XH R.ok R.XC
  unfold fX3_to fX1_isLikeSketch fX4_isSketch
  generalize hcFuel = fu at hF ⊢
  obtain ⟨y2, e2, I2⟩ := X_to R.hb (q := false) (p := p) (hi := x.hiss) R.XH R.ok R.XC hT T fu 0 (x.setN false y) (by omega) (by omega) (by rw [setN_n]; exact I)
  rw [setN_setN] at e2
  have I2' : XNt ((x.setN false y2).n false) h c H (nightS H C p x.hiss T) T := by rw [setN_n]; exact I2
  have e3 := X_like R.hb R.XH R.ok (x := x.setN false y2) R.xh I2' h3 H.size fu 0 (by omega) (by omega) (fun w hw => absurd hw (Nat.not_lt_zero w))
  obtain ⟨g, e4, ha, hR⟩ := M_begin (b := b') (n := n) (s := s) (C := C) (p := p) (h := x.hiss) R.ok R.ar R.MH R.lays R.l01
  rw [beg_lay] at e4 ha hR
  obtain ⟨z, e5⟩ := M_like (b' := b') (n := n) (s := s) (tp := x.tape) R.ok hT h3 (T + 1) fu 0 (m.lay g (m.beg g p x.hiss).n) (by omega) (by omega) R.MH R.MC ha hR S.s1 S.s2 S.s3
  rw [lay_sN] at e5
  have a3 := ha.sN (y := z)
  rw [lay_sN] at a3
  refine ⟨y, y2, g, z, e1, e2, e3, ?_, (R.lay a3).nX, S.s1, S.s2, S.s3⟩
  rw [gM_72, Option.bind_some, p2, ivM, e4, bd_some, e5]
theorem bg_tape {u v : Int32} : (x.bg u v).tape = x.tape := rfl
theorem setN_tp {y : NX} : (x.setN false y).tape = x.tape := rfl
theorem Skt.bg {u v : Int32} (S : Skt m H tp) : Skt (m.bg u v) H tp := ⟨S.s1, S.s2, S.s3⟩
theorem Skt_sk : Skt (m.sk (skL H tp 0 H.size) (skL H tp 1 H.size) (skA H tp H.size)) H tp := ⟨rfl, rfl, rfl⟩
theorem pX_20' (hb : 131 ≤ mNx b) {u : Int32} : pI (mkX b x) (some 64) 20 u = some (mkX b (x.bg u x.beganSecond)) := by
  rw [pX_20 hb]; simp -implicitDefEqProofs only [XS.bg]
theorem pX_21' (hb : 131 ≤ mNx b) {u w v : Int32} : pI (mkX b (x.bg u w)) (some 64) 21 v = some (mkX b (x.bg u v)) := by
  rw [pX_21 hb]; simp -implicitDefEqProofs only [XS.bg, mk_XS_taped, mk_XS_fault, mk_XS_bought, mk_XS_worthMany, mk_XS_beganFirst, mk_XS_beganSecond, mk_XS_seed, mk_XS_arranged, mk_XS_paid, mk_XS_hiss, mk_XS_orders, mk_XS_house, mk_XS_cues, mk_XS_tape, mk_XS_states, mk_XS_asked, mk_XS_carriesSet, mk_XS_heights, mk_XS_worth, mk_XS_mouths, mk_XS_sided, mk_XS_keptHouse, mk_XS_keptPaid, mk_XS_keptHiss, mk_XS_kMod, mk_XS_kData, mk_XS_kSize, mk_XS_out, mk_XS_n0, mk_XS_n1]
theorem pM_114' {u : Int32} : pI (mkM b' n s m) (some 106) 114 u = some (mkM b' n s (m.bg u m.c.beganB)) := by
  rw [pM_114]; simp -implicitDefEqProofs only [gM_55, gM_57, gM_58, gM_59, gM_60, gM_64, gM_65, gM_66, gM_67, gM_68, gM_69, gM_70, gM_71, gM_72, gM_73, gM_74, gM_75, gM_76, gM_77, gM_81, gM_82, gM_83, gM_85, gM_86, gM_91, gM_92, gM_93, gM_94, gM_95, gM_96, gM_97, gM_98, gM_99, gM_100, gM_102, gM_103, gM_107, gM_108, gM_110, gM_111, gM_112, gM_113, gM_114, gM_115, gM_118, gM_119, gM_56, aM_107, nM_107, gM_61, aM_108, nM_108, gM_62, aM_109, nM_109, gM_63, aM_110, nM_110, gM_78, aM_111, nM_111, gM_79, aM_112, nM_112, gM_80, aM_113, nM_113, gM_84, aM_114, nM_114, gM_87, aM_115, nM_115, gM_88, aM_116, nM_116, gM_89, aM_117, nM_117, gM_90, aM_118, nM_118, gM_101, aM_119, nM_119, gM_104, aM_120, nM_120, gM_105, aM_121, nM_121, gM_106, aM_122, nM_122, gM_109, aM_123, nM_123, gM_116, aM_124, nM_124, gM_117, aM_125, nM_125, gM_120, aM_126, nM_126, gM_121, aM_127, nM_127, gM_122, aM_128, nM_128, gM_123, aM_129, nM_129, pM_55, pM_57, pM_58, pM_59, pM_60, pM_64, pM_65, pM_66, pM_67, pM_68, pM_69, pM_70, pM_71, pM_72, pM_73, pM_74, pM_75, pM_76, pM_77, pM_81, pM_82, pM_83, pM_85, pM_86, pM_91, pM_92, pM_93, pM_94, pM_95, pM_96, pM_97, pM_98, pM_99, pM_100, pM_102, pM_103, pM_107, pM_108, pM_110, pM_111, pM_112, pM_113, pM_114, pM_115, pM_118, pM_119, uM_107, uM_108, uM_109, uM_110, uM_111, uM_112, uM_113, uM_114, uM_115, uM_116, uM_117, uM_118, uM_119, uM_120, uM_121, uM_122, uM_123, uM_124, uM_125, uM_126, uM_127, uM_128, uM_129, ivM, Option.bind_some, bd_some, mk_MS_thrown, mk_MS_length, mk_MS_seatsPaid, mk_MS_seatsHiss, mk_MS_lays, mk_MS_arranged, mk_MS_tape, mk_MS_s, mk_MS_area, mk_MS_kept, mk_MS_keptPaid, mk_MS_keptHiss, mk_MS_isKept, mk_MS_r, mk_MS_h, mk_MS_n, mk_MS_c, mk_MR_size, mk_MR_p, mk_MR_limit, mk_MR_token, mk_MR_place, mk_MR_span, mk_MR_number, mk_MR_fault, mk_MR_faultAt, mk_MR_word, mk_MR_got, mk_MH_lines, mk_MH_prices, mk_MH_leavings, mk_MH_onces, mk_MH_codeMany, mk_MH_pileMany, mk_MH_ones, mk_MH_coming, mk_MH_hh, mk_MH_newCues, mk_MH_code, mk_MH_pile, mk_MN_paidNow, mk_MN_hissNow, mk_MN_clapping, mk_MN_standing, mk_MN_low, mk_MN_high, mk_MN_gone, mk_MN_cueNext, mk_MN_nightHeight, mk_MN_nightCarries, mk_MN_held, mk_MN_claps, mk_MN_stand, mk_MN_heldLow, mk_MN_heldHigh, mk_MC_askedMany, mk_MC_bought, mk_MC_worthMany, mk_MC_allOrders, mk_MC_hasSides, mk_MC_seenClaps, mk_MC_seenStand, mk_MC_seenAll, mk_MC_beganA, mk_MC_beganB, mk_MC_seed, mk_MC_asked, mk_MC_carried, mk_MC_heights, mk_MC_worths, mk_MC_side, mk_MC_otherClaps, mk_MC_otherStand, mk_NT_paid, mk_NT_hiss, mk_NT_c1, mk_NT_c2, mk_NT_lo, mk_NT_hi, mk_NT_next, mk_Ac_a1, mk_Ac_a2, mk_Ac_l, mk_Ac_h, MS.bg]
theorem pM_115' {u w v : Int32} : pI (mkM b' n s (m.bg u w)) (some 106) 115 v = some (mkM b' n s (m.bg u v)) := by
  rw [pM_115]; simp -implicitDefEqProofs only [gM_55, gM_57, gM_58, gM_59, gM_60, gM_64, gM_65, gM_66, gM_67, gM_68, gM_69, gM_70, gM_71, gM_72, gM_73, gM_74, gM_75, gM_76, gM_77, gM_81, gM_82, gM_83, gM_85, gM_86, gM_91, gM_92, gM_93, gM_94, gM_95, gM_96, gM_97, gM_98, gM_99, gM_100, gM_102, gM_103, gM_107, gM_108, gM_110, gM_111, gM_112, gM_113, gM_114, gM_115, gM_118, gM_119, gM_56, aM_107, nM_107, gM_61, aM_108, nM_108, gM_62, aM_109, nM_109, gM_63, aM_110, nM_110, gM_78, aM_111, nM_111, gM_79, aM_112, nM_112, gM_80, aM_113, nM_113, gM_84, aM_114, nM_114, gM_87, aM_115, nM_115, gM_88, aM_116, nM_116, gM_89, aM_117, nM_117, gM_90, aM_118, nM_118, gM_101, aM_119, nM_119, gM_104, aM_120, nM_120, gM_105, aM_121, nM_121, gM_106, aM_122, nM_122, gM_109, aM_123, nM_123, gM_116, aM_124, nM_124, gM_117, aM_125, nM_125, gM_120, aM_126, nM_126, gM_121, aM_127, nM_127, gM_122, aM_128, nM_128, gM_123, aM_129, nM_129, pM_55, pM_57, pM_58, pM_59, pM_60, pM_64, pM_65, pM_66, pM_67, pM_68, pM_69, pM_70, pM_71, pM_72, pM_73, pM_74, pM_75, pM_76, pM_77, pM_81, pM_82, pM_83, pM_85, pM_86, pM_91, pM_92, pM_93, pM_94, pM_95, pM_96, pM_97, pM_98, pM_99, pM_100, pM_102, pM_103, pM_107, pM_108, pM_110, pM_111, pM_112, pM_113, pM_114, pM_115, pM_118, pM_119, uM_107, uM_108, uM_109, uM_110, uM_111, uM_112, uM_113, uM_114, uM_115, uM_116, uM_117, uM_118, uM_119, uM_120, uM_121, uM_122, uM_123, uM_124, uM_125, uM_126, uM_127, uM_128, uM_129, ivM, Option.bind_some, bd_some, mk_MS_thrown, mk_MS_length, mk_MS_seatsPaid, mk_MS_seatsHiss, mk_MS_lays, mk_MS_arranged, mk_MS_tape, mk_MS_s, mk_MS_area, mk_MS_kept, mk_MS_keptPaid, mk_MS_keptHiss, mk_MS_isKept, mk_MS_r, mk_MS_h, mk_MS_n, mk_MS_c, mk_MR_size, mk_MR_p, mk_MR_limit, mk_MR_token, mk_MR_place, mk_MR_span, mk_MR_number, mk_MR_fault, mk_MR_faultAt, mk_MR_word, mk_MR_got, mk_MH_lines, mk_MH_prices, mk_MH_leavings, mk_MH_onces, mk_MH_codeMany, mk_MH_pileMany, mk_MH_ones, mk_MH_coming, mk_MH_hh, mk_MH_newCues, mk_MH_code, mk_MH_pile, mk_MN_paidNow, mk_MN_hissNow, mk_MN_clapping, mk_MN_standing, mk_MN_low, mk_MN_high, mk_MN_gone, mk_MN_cueNext, mk_MN_nightHeight, mk_MN_nightCarries, mk_MN_held, mk_MN_claps, mk_MN_stand, mk_MN_heldLow, mk_MN_heldHigh, mk_MC_askedMany, mk_MC_bought, mk_MC_worthMany, mk_MC_allOrders, mk_MC_hasSides, mk_MC_seenClaps, mk_MC_seenStand, mk_MC_seenAll, mk_MC_beganA, mk_MC_beganB, mk_MC_seed, mk_MC_asked, mk_MC_carried, mk_MC_heights, mk_MC_worths, mk_MC_side, mk_MC_otherClaps, mk_MC_otherStand, mk_NT_paid, mk_NT_hiss, mk_NT_c1, mk_NT_c2, mk_NT_lo, mk_NT_hi, mk_NT_next, mk_Ac_a1, mk_Ac_a2, mk_Ac_l, mk_Ac_h, MS.bg]
theorem L_beg89 {kk : Rf → Int32 → Int32 → Int32 → Int32 → Mem → Option (Int32 × Mem)} {kk' : Rf → Int32 → Int32 → Int32 → Int32 → Mem → Option (Int32 × Mem)} {T va : Nat} (hT : T ≤ 600) (h3 : ∀ u, u < H.size → octN (tp u) ≤ 3) (hva : va < H.size)
    (hkk : ∀ (cn : Nat) (x : XS) (m : MS), cn ≤ H.size * (va + 1) → Duo b x m H C h c K → x.tape = tp → Skt m H tp → ∃ r x' m', kk (some 64) (n2 T) (n2 H.size) (n2 cn) (n2 (va + 1)) (mkX b x) = some (r, mkX b x') ∧ kk' (some 106) (n2 T) (n2 H.size) (n2 cn) (n2 (va + 1)) (mkM b' n s m) = some (r, mkM b' n s m') ∧ Duo b x' m' H C h c K) :
    ∀ (k f f' vb cn : Nat) (x : XS) (m : MS), vb + k = H.size → k < f → k < f' → cn ≤ H.size * va + vb → Duo b x m H C h c K → x.tape = tp → Skt m H tp → 
    ∃ r x' m', bX1_began_89 kk f (some 64) (n2 T) (n2 H.size) (n2 cn) (n2 va) (n2 vb) (mkX b x) = some (r, mkX b x') ∧ bX4_began_208 kk' f' (some 106) (n2 T) (n2 H.size) (n2 cn) (n2 va) (n2 vb) (mkM b' n s m) = some (r, mkM b' n s m') ∧ Duo b x' m' H C h c K := by
  intro k
  induction k with
  | zero =>
    intro f f' vb cn x m hk hf hf' hcn R ht S
    obtain ⟨f, rfl⟩ : ∃ g, f = g + 1 := ⟨f - 1, by omega⟩
    obtain ⟨f', rfl⟩ : ∃ g, f' = g + 1 := ⟨f' - 1, by omega⟩
    have e : vb = H.size := by omega
    subst e
    have le : (n2 H.size ≤ n2 H.size) = True := eq_true (Int32.le_refl _)
    have ea : n2 va + 1 = n2 (va + 1) := n2_add va 1
    show ∃ r x' m', bX1_began_89B kk _ _ _ _ _ _ _ _ = _ ∧ bX4_began_208B kk' _ _ _ _ _ _ _ _ = _ ∧ _
    unfold bX1_began_89B bX4_began_208B bX1_began_197
    simp -implicitDefEqProofs only [Option.bind_some, bd_some, b2i_0, Bool.true_eq_false, Bool.false_eq_true, eq_self, if_true, if_false, not_true_eq_false, not_false_eq_true, le, ea]
    exact hkk cn x m (by rw [Nat.mul_succ]; exact hcn) R ht S
  | succ k ih =>
    intro f f' vb cn x m hk hf hf' hcn R ht S
    have h64 := R.ok.size
    obtain ⟨f, rfl⟩ : ∃ g, f = g + 1 := ⟨f - 1, by omega⟩
    obtain ⟨f', rfl⟩ : ∃ g, f' = g + 1 := ⟨f' - 1, by omega⟩
    have hb2 : H.size * va ≤ 64 * 64 := Nat.mul_le_mul h64 (by omega)
    have le : (n2 H.size ≤ n2 vb) = False := by rw [n2_le (by omega) (by omega)]; exact eq_false (by omega)
    have ea : n2 va + 1 = n2 (va + 1) := n2_add va 1
    have eb : n2 vb + 1 = n2 (vb + 1) := n2_add vb 1
    have ec : n2 cn + 1 = n2 (cn + 1) := n2_add cn 1
    have c0 : (n2 cn = 0) = (cn = 0) := by rw [li_0, n2_eq (by omega) (by decide)]
    have c1 : (n2 (cn + 1) ≤ (1 : Int32)) = (cn = 0) := by rw [li_1, n2_le (by omega) (by decide)]; exact propext (by omega)
    have cab : (n2 vb = n2 va) = (vb = va) := n2_eq (by omega) (by omega)
    have cab' : (n2 va = n2 vb) = (vb = va) := by rw [n2_eq (by omega) (by omega)]; exact propext ⟨Eq.symm, Eq.symm⟩
    obtain ⟨y, y2, g, z, e1, e2, e3, e4, D, S2⟩ := D_like (b' := b') (n := n) (s := s) R hT ht h3 S (shlL 1 (n2 va) ||| shlL 1 (n2 vb))
    have go := fun (cn' : Nat) (x' : XS) (m' : MS) (hc' : cn' ≤ H.size * va + (vb + 1)) => ih f f' (vb + 1) cn' x' m' (by omega) (by omega) (by omega) hc'
    have hx : (x.setN false y2).tape = tp := setN_tp.trans ht
    show ∃ r x' m', bX1_began_89B kk (bX1_began_89 kk f) _ _ _ _ _ _ _ = _ ∧ bX4_began_208B kk' (bX4_began_208 kk' f') _ _ _ _ _ _ _ = _ ∧ _
    unfold bX1_began_89B bX4_began_208B bX1_began_197 bX1_began_191 bX1_began_188 bX1_began_185 bX4_began_287 bX4_began_284 bX1_began_191 bX1_began_188 bX4_began_287 bX1_began_191
    simp -implicitDefEqProofs only [Option.bind_some, bd_some, b2i_0, Bool.true_eq_false, Bool.false_eq_true, eq_self, if_true, if_false, not_true_eq_false, not_false_eq_true, le, gX_4 R.hb, R.xh, xh_iv R.XH, X_isSeatI R.XH R.ok, ivM, M_isSeatI R.MH R.ok, isS_seatI (show va < 2147483648 by omega), isS_seatI (show vb < 2147483648 by omega), gX_8 R.hb, gX_7 R.hb, gX_6 R.hb, R.xc, ivN R.hb, e1, e2, ivX R.hb, e3, e4, ea, eb, ec, c0, c1, cab, cab']
    rcases (Bool.eq_false_or_eq_true (isS H va)).symm with sa | sa
    · -- no seat: neither finds any
      have skipM : ∀ (k f' vb : Nat), vb + k = H.size → k < f' → bX4_began_208 kk' f' (some 106) (n2 T) (n2 H.size) (n2 cn) (n2 va) (n2 vb) (mkM b' n s m) = kk' (some 106) (n2 T) (n2 H.size) (n2 cn) (n2 (va + 1)) (mkM b' n s m) := by
        intro k
        induction k with
        | zero =>
          intro f' vb h1 h2
          obtain ⟨f', rfl⟩ : ∃ g, f' = g + 1 := ⟨f' - 1, by omega⟩
          have e : vb = H.size := by omega
          subst e
          show bX4_began_208B kk' _ _ _ _ _ _ _ _ = _
          unfold bX4_began_208B
          rw [if_pos (Int32.le_refl _), ea]
        | succ k ih2 =>
          intro f' vb h1 h2
          obtain ⟨f', rfl⟩ : ∃ g, f' = g + 1 := ⟨f' - 1, by omega⟩
          have le2 : (n2 H.size ≤ n2 vb) = False := by rw [n2_le (by omega) (by omega)]; exact eq_false (by omega)
          show bX4_began_208B kk' (bX4_began_208 kk' f') _ _ _ _ _ _ _ = _
          unfold bX4_began_208B bX4_began_287
          simp -implicitDefEqProofs only [Option.bind_some, bd_some, b2i_0, Bool.true_eq_false, Bool.false_eq_true, eq_self, if_true, if_false, not_true_eq_false, not_false_eq_true, le2, ivM, M_isSeatI R.MH R.ok, isS_seatI (show va < 2147483648 by omega), sa, show n2 vb + 1 = n2 (vb + 1) from n2_add vb 1]
          exact ih2 f' (vb + 1) (by omega) (by omega)
      simp -implicitDefEqProofs only [Option.bind_some, bd_some, b2i_0, Bool.true_eq_false, Bool.false_eq_true, eq_self, if_true, if_false, not_true_eq_false, not_false_eq_true, sa]
      rw [skipM k f' (vb + 1) (by omega) (by omega)]
      exact hkk cn x m (by rw [Nat.mul_succ]; omega) R ht S
    · rcases (Bool.eq_false_or_eq_true (isS H vb)).symm with sb | sb
      · simp -implicitDefEqProofs only [Option.bind_some, bd_some, b2i_0, Bool.true_eq_false, Bool.false_eq_true, eq_self, if_true, if_false, not_true_eq_false, not_false_eq_true, sa, sb]
        exact go cn x m (by omega) R ht S
      · rcases (Bool.eq_false_or_eq_true (likeS H tp (nightS H C (shlL 1 (n2 va) ||| shlL 1 (n2 vb)) x.hiss T).c1 (nightS H C (shlL 1 (n2 va) ||| shlL 1 (n2 vb)) x.hiss T).c2)).symm with lk | lk
        · simp -implicitDefEqProofs only [Option.bind_some, bd_some, b2i_0, Bool.true_eq_false, Bool.false_eq_true, eq_self, if_true, if_false, not_true_eq_false, not_false_eq_true, sa, sb, lk]
          exact go cn _ _ (by omega) D hx S2
        · by_cases hc0 : cn = 0
          · by_cases hab : vb = va
            · subst hab
              simp -implicitDefEqProofs only [Option.bind_some, bd_some, b2i_0, Bool.true_eq_false, Bool.false_eq_true, eq_self, if_true, if_false, not_true_eq_false, not_false_eq_true, sb, lk, hc0, pX_20' R.hb, pX_21' R.hb, pM_114', pM_115']
              exact go 1 _ _ (by omega) D.bg (by rw [bg_tape]; exact hx) S2.bg
            · simp -implicitDefEqProofs only [Option.bind_some, bd_some, b2i_0, Bool.true_eq_false, Bool.false_eq_true, eq_self, if_true, if_false, not_true_eq_false, not_false_eq_true, sa, sb, lk, hc0, hab, pX_20' R.hb, pX_21' R.hb, pM_114', pM_115']
              exact go 1 _ _ (by omega) D.bg (by rw [bg_tape]; exact hx) S2.bg
          · simp -implicitDefEqProofs only [Option.bind_some, bd_some, b2i_0, Bool.true_eq_false, Bool.false_eq_true, eq_self, if_true, if_false, not_true_eq_false, not_false_eq_true, sa, sb, lk, hc0]
            exact go (cn + 1) _ _ (by omega) D hx S2
theorem L_beg79 {T : Nat} (hT : T ≤ 600) (h3 : ∀ u, u < H.size → octN (tp u) ≤ 3) : ∀ (k f f' va cn : Nat) (x : XS) (m : MS), va + k = H.size → k < f → k < f' → cn ≤ H.size * va → Duo b x m H C h c K → x.tape = tp → Skt m H tp →
    ∃ r x' m', bX1_began_79 f (some 64) (n2 T) (n2 H.size) (n2 cn) (n2 va) (mkX b x) = some (r, mkX b x') ∧ bX4_began_198 f' (some 106) (n2 T) (n2 H.size) (n2 cn) (n2 va) (mkM b' n s m) = some (r, mkM b' n s m') ∧ Duo b x' m' H C h c K := by
  intro k
  induction k with
  | zero =>
    intro f f' va cn x m hk hf hf' hcn R ht S
    obtain ⟨f, rfl⟩ : ∃ g, f = g + 1 := ⟨f - 1, by omega⟩
    obtain ⟨f', rfl⟩ : ∃ g, f' = g + 1 := ⟨f' - 1, by omega⟩
    have e : va = H.size := by omega
    subst e
    show ∃ r x' m', bX1_began_79B _ _ _ _ _ _ _ = _ ∧ bX4_began_198B _ _ _ _ _ _ _ = _ ∧ _
    unfold bX1_began_79B bX4_began_198B
    rw [if_pos (Int32.le_refl _), if_pos (Int32.le_refl _)]
    exact ⟨_, _, _, rfl, rfl, R⟩
  | succ k ih =>
    intro f f' va cn x m hk hf hf' hcn R ht S
    have h64 := R.ok.size
    obtain ⟨f, rfl⟩ : ∃ g, f = g + 1 := ⟨f - 1, by omega⟩
    obtain ⟨f', rfl⟩ : ∃ g, f' = g + 1 := ⟨f' - 1, by omega⟩
    have hF : 2000 < hcFuel := by unfold hcFuel; omega
    show ∃ r x' m', bX1_began_79B (bX1_began_79 f) _ _ _ _ _ _ = _ ∧ bX4_began_198B (bX4_began_198 f') _ _ _ _ _ _ = _ ∧ _
    unfold bX1_began_79B bX4_began_198B
    rw [if_neg (by rw [n2_le (by omega) (by omega)]; omega), if_neg (by rw [n2_le (by omega) (by omega)]; omega)]
    exact L_beg89 hT h3 (by omega) (fun cn' x' m' hc' R' ht' S' => ih f f' (va + 1) cn' x' m' (by omega) (by omega) (by omega) hc' R' ht' S') (H.size - va) hcFuel hcFuel va cn x m (by omega) (by omega) (by omega) (by omega) R ht S
theorem L_beg42 {T : Nat} (hT : T ≤ 600) : ∀ (k f f' v : Nat) (x : XS) (m : MS), v + k = H.size → k < f → k < f' → Duo b x m H C h c K → x.tape = tp → m.r.size = n2 H.size → (∀ u, u < v → octN (tp u) ≤ 3) →
    ∃ r x' m', bX1_began_42 f (some 64) (n2 T) (n2 H.size) (n2 v) (mkX b x) = some (r, mkX b x') ∧ bX4_began_68 f' (some 106) (n2 T) (n2 H.size) (skL H tp 0 v) (skL H tp 1 v) (skA H tp v) (n2 v) (mkM b' n s m) = some (r, mkM b' n s m') ∧ Duo b x' m' H C h c K := by
  intro k
  induction k with
  | zero =>
    intro f f' v x m hk hf hf' R ht hz h3
    have h64 := R.ok.size
    have hF : 2000 < hcFuel := by unfold hcFuel; omega
    obtain ⟨f, rfl⟩ : ∃ g, f = g + 1 := ⟨f - 1, by omega⟩
    obtain ⟨f', rfl⟩ : ∃ g, f' = g + 1 := ⟨f' - 1, by omega⟩
    have e : v = H.size := by omega
    subst e
    have le : (n2 H.size ≤ n2 H.size) = True := eq_true (Int32.le_refl _)
    have pJ3 : ∀ (u v w : Int64) (g : Mem → Option (Int32 × Mem)), ((pJ (mkM b' n s m) (some 106) 111 u).bind fun st => (pJ st (some 106) 112 v).bind fun st => (pJ st (some 106) 113 w).bind g) = g (mkM b' n s (m.sk u v w)) := fun u v w g => by
      simp -implicitDefEqProofs only [gM_55, gM_57, gM_58, gM_59, gM_60, gM_64, gM_65, gM_66, gM_67, gM_68, gM_69, gM_70, gM_71, gM_72, gM_73, gM_74, gM_75, gM_76, gM_77, gM_81, gM_82, gM_83, gM_85, gM_86, gM_91, gM_92, gM_93, gM_94, gM_95, gM_96, gM_97, gM_98, gM_99, gM_100, gM_102, gM_103, gM_107, gM_108, gM_110, gM_111, gM_112, gM_113, gM_114, gM_115, gM_118, gM_119, gM_56, aM_107, nM_107, gM_61, aM_108, nM_108, gM_62, aM_109, nM_109, gM_63, aM_110, nM_110, gM_78, aM_111, nM_111, gM_79, aM_112, nM_112, gM_80, aM_113, nM_113, gM_84, aM_114, nM_114, gM_87, aM_115, nM_115, gM_88, aM_116, nM_116, gM_89, aM_117, nM_117, gM_90, aM_118, nM_118, gM_101, aM_119, nM_119, gM_104, aM_120, nM_120, gM_105, aM_121, nM_121, gM_106, aM_122, nM_122, gM_109, aM_123, nM_123, gM_116, aM_124, nM_124, gM_117, aM_125, nM_125, gM_120, aM_126, nM_126, gM_121, aM_127, nM_127, gM_122, aM_128, nM_128, gM_123, aM_129, nM_129, pM_55, pM_57, pM_58, pM_59, pM_60, pM_64, pM_65, pM_66, pM_67, pM_68, pM_69, pM_70, pM_71, pM_72, pM_73, pM_74, pM_75, pM_76, pM_77, pM_81, pM_82, pM_83, pM_85, pM_86, pM_91, pM_92, pM_93, pM_94, pM_95, pM_96, pM_97, pM_98, pM_99, pM_100, pM_102, pM_103, pM_107, pM_108, pM_110, pM_111, pM_112, pM_113, pM_114, pM_115, pM_118, pM_119, uM_107, uM_108, uM_109, uM_110, uM_111, uM_112, uM_113, uM_114, uM_115, uM_116, uM_117, uM_118, uM_119, uM_120, uM_121, uM_122, uM_123, uM_124, uM_125, uM_126, uM_127, uM_128, uM_129, ivM, Option.bind_some, bd_some, mk_MS_thrown, mk_MS_length, mk_MS_seatsPaid, mk_MS_seatsHiss, mk_MS_lays, mk_MS_arranged, mk_MS_tape, mk_MS_s, mk_MS_area, mk_MS_kept, mk_MS_keptPaid, mk_MS_keptHiss, mk_MS_isKept, mk_MS_r, mk_MS_h, mk_MS_n, mk_MS_c, mk_MR_size, mk_MR_p, mk_MR_limit, mk_MR_token, mk_MR_place, mk_MR_span, mk_MR_number, mk_MR_fault, mk_MR_faultAt, mk_MR_word, mk_MR_got, mk_MH_lines, mk_MH_prices, mk_MH_leavings, mk_MH_onces, mk_MH_codeMany, mk_MH_pileMany, mk_MH_ones, mk_MH_coming, mk_MH_hh, mk_MH_newCues, mk_MH_code, mk_MH_pile, mk_MN_paidNow, mk_MN_hissNow, mk_MN_clapping, mk_MN_standing, mk_MN_low, mk_MN_high, mk_MN_gone, mk_MN_cueNext, mk_MN_nightHeight, mk_MN_nightCarries, mk_MN_held, mk_MN_claps, mk_MN_stand, mk_MN_heldLow, mk_MN_heldHigh, mk_MC_askedMany, mk_MC_bought, mk_MC_worthMany, mk_MC_allOrders, mk_MC_hasSides, mk_MC_seenClaps, mk_MC_seenStand, mk_MC_seenAll, mk_MC_beganA, mk_MC_beganB, mk_MC_seed, mk_MC_asked, mk_MC_carried, mk_MC_heights, mk_MC_worths, mk_MC_side, mk_MC_otherClaps, mk_MC_otherStand, mk_NT_paid, mk_NT_hiss, mk_NT_c1, mk_NT_c2, mk_NT_lo, mk_NT_hi, mk_NT_next, mk_Ac_a1, mk_Ac_a2, mk_Ac_l, mk_Ac_h, MS.sk]
    show ∃ r x' m', bX1_began_42B _ _ _ _ _ _ = _ ∧ bX4_began_68B _ _ _ _ _ _ _ _ _ = _ ∧ _
    unfold bX1_began_42B bX4_began_68B
    rw [pJ3]
    simp -implicitDefEqProofs only [Option.bind_some, bd_some, b2i_0, Bool.true_eq_false, Bool.false_eq_true, eq_self, if_true, if_false, not_true_eq_false, not_false_eq_true, le, gM_58, hz, pX_20' R.hb, pX_21' R.hb, pM_114', pM_115']
    exact L_beg79 hT h3 H.size hcFuel hcFuel 0 0 _ _ (by omega) (by omega) (by omega) (by omega) (R.sk.bg) (by rw [bg_tape]; exact ht) Skt_sk.bg
  | succ k ih =>
    intro f f' v x m hk hf hf' R ht hz h3
    have h64 := R.ok.size
    obtain ⟨f, rfl⟩ : ∃ g, f = g + 1 := ⟨f - 1, by omega⟩
    obtain ⟨f', rfl⟩ : ∃ g, f' = g + 1 := ⟨f' - 1, by omega⟩
    have hv : v < H.size := by omega
    have v64 : v < 64 := by omega
    have le : (n2 H.size ≤ n2 v) = False := by rw [n2_le (by omega) (by omega)]; exact eq_false (by omega)
    have ol := oct_lt (tp v)
    have mt : m.tape = tp := R.tape.symm.trans ht
    have c3 : (n2 (octN (tp v)) ≤ (3 : Int32)) = (octN (tp v) ≤ 3) := by rw [li_3, n2_le (by omega) (by omega)]
    have e3 : (n2 (octN (tp v)) = (3 : Int32)) = (octN (tp v) = 3) := by rw [li_3, n2_eq (by omega) (by omega)]
    have c0 : (n2 (octN (tp v)) ≤ (0 : Int32)) = (octN (tp v) = 0) := le0 (by omega)
    have c1 : (n2 (octN (tp v)) ≤ (1 : Int32)) = (octN (tp v) ≤ 1) := by rw [li_1, n2_le (by omega) (by omega)]
    have k6 := R.ok.kind v
    have kd : m.s (6 + v) = n2 (H.kind v) := by
      have := R.MH.kind v v64; rw [if_pos hv] at this; exact this
    have k0 : (n2 (H.kind v) = (0 : Int32)) = (H.kind v = 0) := by rw [li_0, n2_eq (by omega) (by decide)]
    have ev : n2 v + 1 = n2 (v + 1) := n2_add v 1
    have i6 : (6 : Int32) + n2 v = n2 (6 + v) := n2_add 6 v
    show ∃ r x' m', bX1_began_42B (bX1_began_42 f) _ _ _ _ _ = _ ∧ bX4_began_68B (bX4_began_68 f') _ _ _ _ _ _ _ _ = _ ∧ _
    unfold bX1_began_42B bX4_began_68B bX4_began_159 bX4_began_138 bX4_began_156 bX4_began_159
    simp -implicitDefEqProofs only [Option.bind_some, bd_some, b2i_0, Bool.true_eq_false, Bool.false_eq_true, eq_self, if_true, if_false, not_true_eq_false, not_false_eq_true, le, ivX R.hb, X_byteAt R.hb (show v < 940 by omega), ht, ivM, gM_58, hz, M_octet (show v < 940 by omega), mt, c3, e3, c0, c1, gM_61, i6, rd_s' (show 6 + v < 681 by omega), kd, k0, ev]
    by_cases q3 : octN (tp v) ≤ 3
    · have I := ih f f' (v + 1) x m (by omega) (by omega) (by omega) R ht hz (fun u hu => by
        by_cases e : u = v
        · rw [e]; exact q3
        · exact h3 u (by omega))
      simp -implicitDefEqProofs only [skL, skA] at I
      by_cases z3 : octN (tp v) = 3
      · have ik : inK H tp v = false := by unfold inK; simp [z3]
        rw [ik] at I
        simp -implicitDefEqProofs only [Option.bind_some, bd_some, b2i_0, Bool.true_eq_false, Bool.false_eq_true, eq_self, if_true, if_false, not_true_eq_false, not_false_eq_true, q3, z3] at I ⊢
        simp -implicitDefEqProofs only [Nat.le_refl, if_true]
        exact I
      · by_cases zk : H.kind v = 0
        · have ik : inK H tp v = false := by unfold inK; simp [zk]
          rw [ik] at I
          simp -implicitDefEqProofs only [Option.bind_some, bd_some, b2i_0, Bool.true_eq_false, Bool.false_eq_true, eq_self, if_true, if_false, not_true_eq_false, not_false_eq_true, q3, z3, zk] at I ⊢
          exact I
        · have ik : inK H tp v = true := by unfold inK; simp [z3, zk]
          rw [ik] at I
          simp -implicitDefEqProofs only [Option.bind_some, bd_some, b2i_0, Bool.true_eq_false, Bool.false_eq_true, eq_self, if_true, if_false, not_true_eq_false, not_false_eq_true, q3, z3, zk] at I ⊢
          rcases (by omega : octN (tp v) = 0 ∨ octN (tp v) = 1 ∨ octN (tp v) = 2) with o | o | o
          · rw [o] at I ⊢; simp -implicitDefEqProofs only [Option.bind_some, bd_some, b2i_0, Bool.true_eq_false, Bool.false_eq_true, eq_self, if_true, if_false, not_true_eq_false, not_false_eq_true, Nat.lt_irrefl, show ¬ 1 < 0 by decide, show (0 : Nat) ≤ 1 from by decide, Int64.or_zero] at I ⊢; exact I
          · rw [o] at I ⊢; simp -implicitDefEqProofs only [Option.bind_some, bd_some, b2i_0, Bool.true_eq_false, Bool.false_eq_true, eq_self, if_true, if_false, not_true_eq_false, not_false_eq_true, Nat.lt_irrefl, show (0 : Nat) < 1 from by decide, show ((1 : Nat) = 0) = False from eq_false (by decide), show (1 : Nat) ≤ 1 from by decide, Int64.or_zero] at I ⊢; exact I
          · rw [o] at I ⊢; simp -implicitDefEqProofs only [Option.bind_some, bd_some, b2i_0, Bool.true_eq_false, Bool.false_eq_true, eq_self, if_true, if_false, not_true_eq_false, not_false_eq_true, show (0 : Nat) < 2 from by decide, show (1 : Nat) < 2 from by decide, show ((2 : Nat) = 0) = False from eq_false (by decide), show ((2 : Nat) ≤ 1) = False from eq_false (by decide)] at I ⊢; exact I
    · simp -implicitDefEqProofs only [Option.bind_some, bd_some, b2i_0, Bool.true_eq_false, Bool.false_eq_true, eq_self, if_true, if_false, not_true_eq_false, not_false_eq_true, q3]
      exact ⟨_, _, _, rfl, rfl, R⟩
theorem C_began (R : Duo b x m H C h c K) (a : Int32) : ∃ r x' m', fX1_began (some 64) a (mkX b x) = some (r, mkX b x') ∧ fX4_began (some 106) a (mkM b' n s m) = some (r, mkM b' n s m') ∧ Duo b x' m' H C h c K := by
  have T := R.th (v := 0)
  have T2 := T.tk (v := 940)
  have h64 := R.ok.size
  have hsl := seats_le H
  have hF : 2000 < hcFuel := by unfold hcFuel; omega
  obtain ⟨k, hk, k1, k2⟩ := R.len
  have sz : ((m.th 0).tk 940).r.size = n2 k := k2
  have r0 : aI (mkM b' n s ((m.th 0).tk 940)) (some 108) (0 : Int32) = some (n2 H.rows) := (rd_s' (k := 0) (by decide)).trans (congrArg some T2.MH.rows)
  have r1 : aI (mkM b' n s ((m.th 0).tk 940)) (some 108) (1 : Int32) = some (n2 H.cols) := (rd_s' (k := 1) (by decide)).trans (congrArg some T2.MH.cols)
  have r2 : aI (mkM b' n s ((m.th 0).tk 940)) (some 108) (2 : Int32) = some (n2 H.seats) := (rd_s' (k := 2) (by decide)).trans (congrArg some T2.MH.seats)
  have szm : n2 H.rows * n2 H.cols = n2 H.size := n2_mul _ _
  have ek : (n2 k = n2 H.size) = (k = H.size) := n2_eq (by omega) (by omega)
  have c24 : (n2 H.seats ≤ (24 : Int32)) = (H.seats ≤ 24) := by rw [li_24, n2_le (by omega) (by omega)]
  have hx : x.tp0.house = some h := R.xh
  unfold fX1_began fX4_began
  generalize hcFuel = fu at hF ⊢
  simp -implicitDefEqProofs only [Option.bind_some, bd_some, b2i_0, Bool.true_eq_false, Bool.false_eq_true, eq_self, if_true, if_false, not_true_eq_false, not_false_eq_true, pM_55', ivX R.hb, X_take R.hb, k1, gX_4 R.hb, hx, xh_iv R.XH, xh_size R.XH, ivM, M_taken, gM_61, r0, r1, r2, szm, gM_58, sz, ek, X_isIn, M_isIn, X_seats R.XH R.ok, c24]
  by_cases hs : k = H.size
  · rcases (Bool.eq_false_or_eq_true (decide ((0 : Int32) ≤ a ∧ a ≤ 60))).symm with et | et
    · simp -implicitDefEqProofs only [Option.bind_some, bd_some, b2i_0, Bool.true_eq_false, Bool.false_eq_true, eq_self, if_true, if_false, not_true_eq_false, not_false_eq_true, hs, et]; exact ⟨_, _, _, rfl, rfl, T2⟩
    · obtain ⟨τ, -, hτ, rfl⟩ := in_true (l := 0) (u := 60) (by decide) (by decide) et
      by_cases h24 : H.seats ≤ 24
      · simp -implicitDefEqProofs only [Option.bind_some, bd_some, b2i_0, Bool.true_eq_false, Bool.false_eq_true, eq_self, if_true, if_false, not_true_eq_false, not_false_eq_true, hs, et, h24]
        subst hs
        exact L_beg42 (by omega) H.size fu fu 0 _ _ (by omega) (by omega) (by omega) T2 rfl sz (fun u hu => absurd hu (Nat.not_lt_zero u))
      · simp -implicitDefEqProofs only [Option.bind_some, bd_some, b2i_0, Bool.true_eq_false, Bool.false_eq_true, eq_self, if_true, if_false, not_true_eq_false, not_false_eq_true, hs, et, h24]; exact ⟨_, _, _, rfl, rfl, T2⟩
  · simp -implicitDefEqProofs only [Option.bind_some, bd_some, b2i_0, Bool.true_eq_false, Bool.false_eq_true, eq_self, if_true, if_false, not_true_eq_false, not_false_eq_true, hs]; exact ⟨_, _, _, rfl, rfl, T2⟩
end Began
