set_option linter.unusedVariables false
set_option linter.unusedSimpArgs false
set_option maxRecDepth 100000
/-! ===== the readers' state when cells change; a comparison in both ===== -/
theorem StrT.keep {N : Nat} {T T' : List Cl} {e k : Nat} {ch : Nat → Nat} (hl : T.length ≤ T'.length) (hk : ∀ i, i < T.length → clD T' i = clD T i ∨ ((clD T i).t ≠ 19 ∧ (clD T i).t ≠ 100)) (h : StrT N T e k ch) : StrT N T' e k ch := by
  obtain ⟨d, h1, h2, h3, h4, h5, h6, h7, h8⟩ := h
  have e1 : clD T' e = clD T e := by
    rcases hk e h1 with q | q
    · exact q
    · exact absurd h3 q.1
  have e2 : clD T' d = clD T d := by
    rcases hk d h2 with q | q
    · exact q
    · exact absurd h6 q.2
  exact ⟨d, by omega, by omega, by rw [e1]; exact h3, by rw [e1]; exact h4, by rw [e1]; exact h5, by rw [e2]; exact h6, by rw [e2]; exact h7, fun i hi => by rw [e2]; exact h8 i hi⟩
/-- cells that are neither conditions nor strings may change, new ones may come -/
def Chg (T T' : List Cl) : Prop := T.length ≤ T'.length ∧ ∀ i, i < T.length → clD T' i = clD T i ∨ (Blk (clD T i) ∧ (clD T i).t ≠ 19 ∧ (clD T i).t ≠ 100)
theorem Chg.refl (T : List Cl) : Chg T T := ⟨Nat.le_refl _, fun _ _ => Or.inl rfl⟩
theorem Chg.app (T R : List Cl) : Chg T (T ++ R) := ⟨by rw [List.length_append]; omega, fun i hi => Or.inl (clD_apL T R i hi)⟩
theorem Chg.trans {T U V : List Cl} (a : Chg T U) (b : Chg U V) : Chg T V := by
  refine ⟨Nat.le_trans a.1 b.1, fun i hi => ?_⟩
  rcases a.2 i hi with e | e
  · rcases b.2 i (Nat.lt_of_lt_of_le hi a.1) with f | f
    · exact Or.inl (f.trans e)
    · rw [e] at f; exact Or.inr f
  · exact Or.inr e
theorem Chg.set {T : List Cl} {i : Nat} {d : Cl} (hb : Blk (clD T i)) (h1 : (clD T i).t ≠ 19) (h2 : (clD T i).t ≠ 100) : Chg T (clS T i d) := by
  refine ⟨by rw [clS_len]; exact Nat.le_refl _, fun j hj => ?_⟩
  by_cases e : j = i
  · subst e; exact Or.inr ⟨hb, h1, h2⟩
  · exact Or.inl (clS_ne T i j d e)
theorem CondT.ch {N : Nat} {T T' : List Cl} {c : Cd} {e : Nat} (h : CondT N T c e) (C : Chg T T') : CondT N T' c e := h.keep C.1 (fun i hi => (C.2 i hi).elim Or.inl (fun q => Or.inr q.1))
theorem StrT.ch {N : Nat} {T T' : List Cl} {e k : Nat} {f : Nat → Nat} (h : StrT N T e k f) (C : Chg T T') : StrT N T' e k f := h.keep C.1 (fun i hi => (C.2 i hi).elim Or.inl (fun q => Or.inr q.2))
theorem WdR.ch {N : Nat} {c : Cl} {T T' : List Cl} {r : MR} {tp : Nat → Int32} {to : Nat} (h : WdR N c T r tp to) (C : Chg T T') : WdR N c T' r tp to := by
  obtain ⟨P, k, e, w1, w2, w3, w4, w5, w6, w7, w8, w9⟩ := h
  exact ⟨P, k, e, w1, w2, w3, w4, w5, w6, w7, w8, w9.ch C⟩
section StKeep
variable {B b' : Mem} {c d : Cl} {T T' : List Cl} {tp : Nat → Int32} {to most z n s p A Z : Nat} {m : MS} {r : MR} {h : MH} {α β : Type}
theorem RsR.hh (S : RsR B c T (m.sRH r h) tp to most p) (h' : MH) : RsR B c T (m.sRH r h') tp to most p := ⟨S.R, S.K, S.tape, S.size, S.limit, S.le, S.xp, S.mp, S.nf⟩
theorem RsR.ch (S : RsR B c T m tp to most p) (C : Chg T T') : RsR B c T' m tp to most p := by
  refine ⟨S.R, ⟨S.K.pl, ?_, S.K.nb⟩, S.tape, S.size, S.limit, S.le, S.xp, S.mp, S.nf⟩
  rcases S.K.kd with q | q | ⟨q1, q2, q3⟩ | q | q
  · exact Or.inl q
  · exact Or.inr (Or.inl q)
  · exact Or.inr (Or.inr (Or.inl ⟨q1, q2, q3.ch C⟩))
  · exact Or.inr (Or.inr (Or.inr (Or.inl q)))
  · exact Or.inr (Or.inr (Or.inr (Or.inr q)))
theorem RsR.cl (S : RsR B c T m tp to most p) (ht : d.t = c.t) (hi : ∀ k, 125 ≤ k → k ≤ 131 → d.i k = c.i k) (h1 : d.a 124 = c.a 124) (h2 : d.a 132 = c.a 132) : RsR B d T m tp to most p := by
  have i5 := hi 125 (by decide) (by decide)
  have i6 := hi 126 (by decide) (by decide)
  have i7 := hi 127 (by decide) (by decide)
  have i8 := hi 128 (by decide) (by decide)
  have i9 := hi 129 (by decide) (by decide)
  have i0 := hi 130 (by decide) (by decide)
  have i1 := hi 131 (by decide) (by decide)
  refine ⟨⟨S.R.hB, by rw [ht]; exact S.R.t, i5.trans S.R.i125, i6.trans S.R.i126, h1.trans S.R.a124, S.R.tape, S.R.to_, S.R.ms, S.R.str⟩, ⟨i9.trans S.K.pl, ?_, S.K.nb⟩, S.tape, S.size, S.limit, S.le, i7.trans S.xp, S.mp, S.nf⟩
  rw [i8, i0, i1]
  rcases S.K.kd with q | q | ⟨q1, q2, P, k, e, w1, w2, w3, w4, w5, w6, w7, w8, w9⟩ | q | q
  · exact Or.inl q
  · exact Or.inr (Or.inl q)
  · exact Or.inr (Or.inr (Or.inl ⟨q1, q2, P, k, e, w1, w2, w3, w4, w5, w6, w7, h2.trans w8, w9⟩))
  · exact Or.inr (Or.inr (Or.inr (Or.inl q)))
  · exact Or.inr (Or.inr (Or.inr (Or.inr q)))
theorem RsR.sI (S : RsR B c T m tp to most p) {f : Nat} (hf : f < 125 ∨ 131 < f) (v : Int32) : RsR B (c.sI f v) T m tp to most p := S.cl rfl (fun k h1 h2 => i_ne c v (by omega)) rfl rfl
theorem nu_sI {f : Nat} {v : Int32} (hf : 128 ≠ f) : nu (c.sI f v) to p = nu c to p := by unfold nu; rw [i_ne c v hf]
theorem goG (S : RsR B c T (m.sRH r h) tp to most p) (g : Bg A Z T z (nu c to p) p) (hv : ¬ (c.i 128 = 0 ∨ c.i 128 = 5)) :
    ∃ c' T' z' r' q R, fX5_go (some (mNx B)) (ovs B (c :: T) z) = some ((), ovs B (c' :: T') z') ∧ fX4_next (some 106) (mkM b' n s (m.sRH r h)) = some ((), mkM b' n s (m.sRH r' h)) ∧ RsR B c' T' (m.sRH r' h) tp to most q ∧ Kp c c' ∧ Kr r r' ∧ T' = T ++ R ∧ p ≤ q ∧ nu c' to q < nu c to p ∧ Bg A Z T' z' (nu c' to q + 1) q := by
  obtain ⟨c', T', z', r', q, Rl, i1, i2, i3, i4, i5, i6, i7, i8, i9, i10, i11⟩ := S.go (b' := b') (n := n) (s := s) (z := z)
  rw [sRH_sR] at i2 i3
  have pq := nu_lt (c := c) i8 i7 i3.le hv
  exact ⟨c', T', z', r', q, Rl, i1, i2, i3, i4, i5, i6, i7, pq, g.go i9 i10 (by omega)⟩
theorem Bad.sRH {rx : Option ((α ⊕ Nat) × Mem)} {rm : Option (Int32 × Mem)} (hb : Bad B (m.sRH r h) A Z to b' n s rx rm) : Bad B m A Z to b' n s rx rm := by
  obtain ⟨e, c', T', z', r', h', h1, h2, h3⟩ := hb
  rw [sRH_sR, sRH_sH2] at h2
  exact ⟨e, c', T', z', r', h', h1, h2, h3⟩
theorem Bad.bt {rx : Option ((α ⊕ Nat) × Mem)} {rm : Option (Int32 × Mem)} (hb : Bad B m A Z to b' n s rx rm) (f : α → Mem → Option ((β ⊕ Nat) × Mem)) : Bad B m A Z to b' n s (bt rx f) rm := by
  obtain ⟨e, c', T', z', r', h', h1, h2, h3⟩ := hb
  exact ⟨e, c', T', z', r', h', by rw [h1]; rfl, h2, h3⟩
theorem Bad.eq {rx rx' : Option ((α ⊕ Nat) × Mem)} {rm rm' : Option (Int32 × Mem)} (hb : Bad B m A Z to b' n s rx rm) (h1 : rx' = rx) (h2 : rm' = rm) : Bad B m A Z to b' n s rx' rm' := by rw [h1, h2]; exact hb
theorem Bg.add {z' v : Nat} (g : Bg A Z T z (v + 1) p) (h1 : T'.length ≤ T.length + 2) (h2 : z' ≤ z + 8) : Bg A Z T' z' v p := by
  obtain ⟨g1, g2⟩ := g
  exact ⟨by omega, by omega⟩
/-- a fault of kind a in both -/
theorem D_badH (S : RsR B c T (m.sRH r h) tp to most p) (g : Bg A Z T z (nu c to p) p) (a : Int32) (ha : a = 1 ∨ ¬ (c.i 128 = 1 ∨ c.i 128 = 5)) :
    Bad (α := α) B m A Z to b' n s (some (.inr (mNx B + (1 + T.length)), ovs B (c :: (T ++ [fcC (if c.i 128 = 1 ∨ c.i 128 = 5 then 1 else a) (c.i 129)])) (z + 8))) (some (0, mkM b' n s (m.sRH (r.sF a r.place) h))) := by
  have D := D_bad (α := α) (b' := b') (n := n) (s := s) (a1 := a) (a2 := a) S g (fun hc => ha.elim id (fun q => absurd hc q)) (fun _ => rfl)
  have := D.sRH
  rw [sRH_sR] at this
  exact this
theorem M_badH (v : Int32) : fX4_bad (some 106) v (mkM b' n s (m.sRH r h)) = some (0, mkM b' n s (m.sRH (r.sF v r.place) h)) := by rw [M_bad, sRH_sR]; rfl
end StKeep
theorem n2_or_add {x y k : Nat} (hx : x < 2 ^ k) (hb : x + 2 ^ k * y < 2147483648) : n2 x ||| n2 (2 ^ k * y) = n2 (x + 2 ^ k * y) := by
  refine Int32.toBitVec.inj (BitVec.eq_of_toNat_eq ?_)
  rw [Int32.toBitVec_or, BitVec.toNat_or]
  show (x % 2 ^ 32) ||| ((2 ^ k * y) % 2 ^ 32) = (x + 2 ^ k * y) % 2 ^ 32
  have h32 : (2 : Nat) ^ 32 = 4294967296 := rfl
  rw [Nat.mod_eq_of_lt (show x < 2 ^ 32 by omega), Nat.mod_eq_of_lt (show 2 ^ k * y < 2 ^ 32 by omega), Nat.mod_eq_of_lt (show x + 2 ^ k * y < 2 ^ 32 by omega), Nat.or_comm, ← Nat.two_pow_add_eq_or_of_lt hx, Nat.add_comm]
theorem shlI_n2 {x k : Nat} (hk : k < 32) (hb : 2 ^ k * x < 2147483648) : shlI (n2 x) (n2 k) = n2 (2 ^ k * x) := by
  unfold shlI
  have e1 : (n2 k &&& (31 : Int32)) = n2 k := by
    have : ∀ k : Nat, k < 32 → (n2 k &&& (31 : Int32)) = n2 k := by decide
    exact this k hk
  rw [e1]
  refine Int32.toBitVec.inj ?_
  rw [Int32.toBitVec_shiftLeft]
  have e2 : (((n2 k).toBitVec).smod 32).toNat = k := by
    have : ∀ k : Nat, k < 32 → (((n2 k).toBitVec).smod 32).toNat = k := by decide
    exact this k hk
  rw [BitVec.shiftLeft_eq', e2]
  refine BitVec.eq_of_toNat_eq ?_
  rw [BitVec.toNat_shiftLeft, Nat.shiftLeft_eq]
  show (x % 2 ^ 32) * 2 ^ k % 2 ^ 32 = (2 ^ k * x) % 2 ^ 32
  have h32 : (2 : Nat) ^ 32 = 4294967296 := rfl
  have hp : 1 ≤ 2 ^ k := Nat.one_le_two_pow
  have : x ≤ 2 ^ k * x := Nat.le_mul_of_pos_left x (by omega)
  rw [Nat.mod_eq_of_lt (show x < 2 ^ 32 by omega), Nat.mul_comm]
/-- the model's word of a comparison -/
def lfW (kd ar lv sn num : Nat) : Nat := kd + 8 * ar + 64 * lv + 256 * sn + 1024 * num
theorem lfW_eq {kd ar lv sn num : Nat} (h1 : kd < 8) (h2 : ar < 8) (h3 : lv < 4) (h4 : sn < 4) (h5 : num < 1000) : (((n2 kd ||| shlI (n2 ar) (3 : Int32)) ||| shlI (n2 lv) (6 : Int32)) ||| shlI (n2 sn) (8 : Int32)) ||| shlI (n2 num) (10 : Int32) = n2 (lfW kd ar lv sn num) := by
  have s3 : shlI (n2 ar) (3 : Int32) = n2 (2 ^ 3 * ar) := shlI_n2 (k := 3) (by decide) (by omega)
  have s6 : shlI (n2 lv) (6 : Int32) = n2 (2 ^ 6 * lv) := shlI_n2 (k := 6) (by decide) (by omega)
  have s8 : shlI (n2 sn) (8 : Int32) = n2 (2 ^ 8 * sn) := shlI_n2 (k := 8) (by decide) (by omega)
  have s10 : shlI (n2 num) (10 : Int32) = n2 (2 ^ 10 * num) := shlI_n2 (k := 10) (by decide) (by omega)
  rw [s3, s6, s8, s10, n2_or_add (by omega) (by omega), n2_or_add (by omega) (by omega), n2_or_add (by omega) (by omega), n2_or_add (by omega) (by omega)]
  rfl
theorem lfW_ok {kd ar lv sn num : Nat} (h1 : kd < 3) (h2 : ar < 6) (h3 : lv < 3) (h4 : sn < 3) (h5 : num < 1000) (h6 : kd = 0 → lv = 1 ∨ lv = 2) : leafOk (lfW kd ar lv sn num) ∧ lk (lfW kd ar lv sn num) = kd ∧ la (lfW kd ar lv sn num) = ar ∧ ll (lfW kd ar lv sn num) = lv ∧ ls (lfW kd ar lv sn num) = sn ∧ lnum (lfW kd ar lv sn num) = num := by
  have e1 : lk (lfW kd ar lv sn num) = kd := by unfold lk lfW; omega
  have e2 : la (lfW kd ar lv sn num) = ar := by unfold la lfW; omega
  have e3 : ll (lfW kd ar lv sn num) = lv := by unfold ll lfW; omega
  have e4 : ls (lfW kd ar lv sn num) = sn := by unfold ls lfW; omega
  have e5 : lnum (lfW kd ar lv sn num) = num := by unfold lnum lfW; omega
  refine ⟨⟨by unfold lfW; omega, by rw [e1]; exact h1, by rw [e2]; exact h2, by rw [e1, e3]; exact h6, by rw [e4]; exact h4⟩, e1, e2, e3, e4, e5⟩
def arX (a : Nat) : Int32 := if a < 6 then n2 a else -1
section Leaf
variable {B b' : Mem} {c : Cl} {T : List Cl} {tp : Nat → Int32} {to most z n s p A Z o a lv : Nat} {m : MS} {r : MR} {h : MH} {Q : List Nat} {l : List Int32}
theorem M_wr {v : Int32} (P : PS h Q l o) (h64 : l.length < 64) : ∃ h', fX4_write (some 106) v (mkM b' n s (m.sRH r h)) = some ((), mkM b' n s (m.sRH r h')) ∧ PS h' Q (l ++ [v]) o ∧ Kh h h' := by
  have e := M_write (b' := b') (n := n) (s := s) (m := m.sR r) (h := h) (pm := h.pileMany) (v := v) (cd := h.code) (k := l.length) h64
  have hs : h.wd h.pileMany (n2 l.length) h.code = h := by rw [← P.cm]; rfl
  rw [hs] at e
  refine ⟨_, e, ⟨P.pm, P.pl, ?_, P.cd.app v, P.on⟩, rfl, rfl, rfl, rfl, rfl, rfl, rfl⟩
  rw [List.length_append]; rfl
/-- what a comparison comes to -/
def LeafR (B : Mem) (c : Cl) (T : List Cl) (m : MS) (h : MH) (tp : Nat → Int32) (to most p A Z : Nat) (b' : Mem) (n s : Nat) (Q : List Nat) (l : List Int32) (o : Nat) (rx : Option ((Rf ⊕ Nat) × Mem)) (rm : Option (Int32 × Mem)) : Prop :=
  (∃ e c' T' z' r' h' q R w, rx = some (.inl (some (mNx B + (1 + e))), ovs B (c' :: T') z') ∧ rm = some (1, mkM b' n s (m.sRH r' h')) ∧ RsR B c' T' (m.sRH r' h') tp to most q ∧ Kp c c' ∧ T' = T ++ R ∧ p ≤ q ∧ nu c' to q < nu c to p ∧ Bg A Z T' z' (nu c' to q) q ∧ CondT (mNx B) T' (.var w) e ∧ leafOk w ∧ PS h' (wdR 3 Q) (l ++ [n2 w] ++ (wdP 3 Q).map n2) o ∧ Kh h h') ∨ Bad B m A Z to b' n s rx rm
theorem D_leaf2 (ha : a < 8) (hlv : (a < 6 → lv = 1 ∨ lv = 2) ∧ (6 ≤ a → lv = 0)) (S : RsR B c T (m.sRH r h) tp to most p) (g : Bg A Z T z (nu c to p) p) (h5 : c.t = 5) (P : PS h Q l o) (h28 : Q.length ≤ 28) (h64 : l.length + 1 + Q.length ≤ 64) :
    LeafR B c T m h tp to most p A Z b' n s Q l o (bX6_compare_15 (some (mNx B)) (arX a) (b2i (decide (a = 6))) (n2 lv) (ovs B (c :: T) z)) (bX4_asks_24 (some 106) (n2 a) (n2 lv) (mkM b' n s (m.sRH r h))) := by
  have R := S.R
  have hB : 64 ≤ mNx B := by have := R.hB; omega
  have nz0 : nz (0 : Int32) = 0 := by decide
  have IV13 : ∀ {α : Type} {c : Cl} {T : List Cl} {z : Nat} (w : Option α), c.t = 5 → iv (ovs B (c :: T) z) (some (mNx B)) [13, 5] w = w := fun w ht => rd_iv (by rw [ht]; rfl) rfl
  -- the sign
  by_cases hs : ∃ sn, sn < 3 ∧ sg r (n2 (60 + sn)) = true
  · obtain ⟨sn, hsn, hsg⟩ := hs
    obtain ⟨k4, k131⟩ := sg_kind S hsg
    have num : r.number = n2 (60 + sn) := (of_decide_eq_true hsg).2
    have v4 : ¬ (c.i 128 = 0 ∨ c.i 128 = 5) := by rw [k4]; decide
    obtain ⟨c1, T1, z1, r1, p1, R1, x1, m1, S1, Kp1, Kr1, T1e, le1, nu1, g1⟩ := goG (b' := b') (n := n) (s := s) S g v4
    have c15 : c1.t = 5 := Kp1.1.trans h5
    have G131 : gI (ovs B (c :: T) z) (some (mNx B)) 131 = some (n2 (60 + sn)) := (rd_get R.t rfl).trans (congrArg some k131)
    have sub60 : n2 (60 + sn) - (60 : Int32) = n2 sn := by rw [li_60, n2_sub (by omega), Nat.add_sub_cancel_left]
    have X49 : bX6_compare_15 (some (mNx B)) (arX a) (b2i (decide (a = 6))) (n2 lv) (ovs B (c :: T) z) = bX6_compare_49 (some (mNx B)) (arX a) (b2i (decide (a = 6))) (n2 lv) (some (mNx B)) 1 (ovs B (c :: T) z) := by
      unfold bX6_compare_15 bX6_compare_44
      have e0 := sgs_eq hsg 60
      have e1 := sgs_eq hsg 61
      have e2 := sgs_eq hsg 62
      rcases (show sn = 0 ∨ sn = 1 ∨ sn = 2 by omega) with rfl | rfl | rfl
      · have f0 : sg (m.sRH r h).r 60 = true := hsg
        simp -implicitDefEqProofs only [Option.bind_some, bd_some, b2i_0, Bool.true_eq_false, Bool.false_eq_true, eq_self, if_true, if_false, not_true_eq_false, not_false_eq_true, rd_iv5 h5, X_sg S, f0]
      · have f0 : sg (m.sRH r h).r 60 = false := e0
        have f1 : sg (m.sRH r h).r 61 = true := hsg
        simp -implicitDefEqProofs only [Option.bind_some, bd_some, b2i_0, Bool.true_eq_false, Bool.false_eq_true, eq_self, if_true, if_false, not_true_eq_false, not_false_eq_true, rd_iv5 h5, X_sg S, f0, f1]
      · have f0 : sg (m.sRH r h).r 60 = false := e0
        have f1 : sg (m.sRH r h).r 61 = false := e1
        have f2 : sg (m.sRH r h).r 62 = true := hsg
        simp -implicitDefEqProofs only [Option.bind_some, bd_some, b2i_0, Bool.true_eq_false, Bool.false_eq_true, eq_self, if_true, if_false, not_true_eq_false, not_false_eq_true, rd_iv5 h5, X_sg S, f0, f1, f2]
    have M57 : bX4_asks_24 (some 106) (n2 a) (n2 lv) (mkM b' n s (m.sRH r h)) = bX4_asks_57 (some 106) (n2 a) (n2 lv) (mkM b' n s (m.sRH r h)) := by
      unfold bX4_asks_24
      have e0 := sgs_eq hsg 60
      have e1 := sgs_eq hsg 61
      have e2 := sgs_eq hsg 62
      rcases (show sn = 0 ∨ sn = 1 ∨ sn = 2 by omega) with rfl | rfl | rfl
      · have f0 : sg r 60 = true := hsg
        simp -implicitDefEqProofs only [Option.bind_some, bd_some, b2i_0, Bool.true_eq_false, Bool.false_eq_true, eq_self, if_true, if_false, not_true_eq_false, not_false_eq_true, ivM, M_sgq, f0]
      · have f0 : sg r 60 = false := e0
        have f1 : sg r 61 = true := hsg
        simp -implicitDefEqProofs only [Option.bind_some, bd_some, b2i_0, Bool.true_eq_false, Bool.false_eq_true, eq_self, if_true, if_false, not_true_eq_false, not_false_eq_true, ivM, M_sgq, f0, f1]
      · have f0 : sg r 60 = false := e0
        have f1 : sg r 61 = false := e1
        have f2 : sg r 62 = true := hsg
        simp -implicitDefEqProofs only [Option.bind_some, bd_some, b2i_0, Bool.true_eq_false, Bool.false_eq_true, eq_self, if_true, if_false, not_true_eq_false, not_false_eq_true, ivM, M_sgq, f0, f1, f2]
    rw [X49, M57]
    have g67 : ∀ q : MR, gI (mkM b' n s (m.sRH q h)) (some 106) 67 = some q.number := fun q => gM_67
    have g64 : ∀ q : MR, gI (mkM b' n s (m.sRH q h)) (some 106) 64 = some q.token := fun q => gM_64
    have g1' : Bg A Z T1 z1 (nu c1 to p1) p1 := g1.add (by omega) (by omega)
    -- the number
    rcases D_hold (z := z1) S1 (0 : Int32) (999 : Int32) with ⟨t2, k3, k130, hr, hX⟩ | ⟨t2, hX⟩ | ⟨t2, k3, k130, hr, hX⟩
    · obtain ⟨num1, hn1, hn2⟩ := S1.K.nb t2
      change r1.number = n2 num1 at hn2
      have hX' : fX5_hold (some (mNx B)) 0 999 (ovs B (c1 :: T1) z1) = some (.inl (n2 num1), ovs B (c1 :: T1) z1) := by rw [hX]; exact congrArg (fun y => some (Sum.inl y, ovs B (c1 :: T1) z1)) hn2
      have v3 : ¬ (c1.i 128 = 0 ∨ c1.i 128 = 5) := by rw [k3]; decide
      have t2' : r1.token = 2 := t2
      -- the kind and the area
      obtain ⟨kd, ar, hkd, har, hka, hM, hkr⟩ : ∃ kd ar, kd < 3 ∧ ar < 6 ∧ (kd = 0 → lv = 1 ∨ lv = 2) ∧ bX4_asks_57 (some 106) (n2 a) (n2 lv) (mkM b' n s (m.sRH r h)) = bX4_asks_120 (some 106) (n2 lv) (n2 sn) (some 106) (n2 kd) (n2 ar) (mkM b' n s (m.sRH r1 h)) ∧ (if kd = 0 then arX a = n2 ar ∧ a < 6 else arX a = -1 ∧ a = 5 + kd) := by
        unfold bX4_asks_57 bX4_asks_104
        by_cases h6 : a < 6
        · refine ⟨0, a, by omega, h6, fun _ => hlv.1 h6, ?_, ?_⟩
          · have q1 : (n2 a = (6 : Int32)) = False := by rw [li_6, n2_eq (by omega) (by omega)]; exact eq_false (by omega)
            have q2 : (n2 a = (7 : Int32)) = False := by rw [li_7, n2_eq (by omega) (by omega)]; exact eq_false (by omega)
            have q3 : ((6 : Int32) ≤ n2 a) = False := by rw [li_6, n2_le (by omega) (by omega)]; exact eq_false (by omega)
            simp -implicitDefEqProofs only [Option.bind_some, bd_some, b2i_0, Bool.true_eq_false, Bool.false_eq_true, eq_self, if_true, if_false, not_true_eq_false, not_false_eq_true, g67, num, ivM, m1, g64, t2', q1, q2, q3, sub60]
            rfl
          · rw [if_pos rfl]; unfold arX; rw [if_pos h6]; exact ⟨rfl, h6⟩
        · rcases (show a = 6 ∨ a = 7 by omega) with rfl | rfl
          · refine ⟨1, 0, by omega, by omega, fun q => absurd q (by decide), ?_, ?_⟩
            · simp -implicitDefEqProofs only [Option.bind_some, bd_some, b2i_0, Bool.true_eq_false, Bool.false_eq_true, eq_self, if_true, if_false, not_true_eq_false, not_false_eq_true, g67, num, ivM, m1, g64, t2', show (n2 6 = (6 : Int32)) = True from eq_true rfl, show ((6 : Int32) ≤ n2 6) = True from eq_true (by decide), sub60]
              rfl
            · rw [if_neg (by decide)]; exact ⟨rfl, rfl⟩
          · refine ⟨2, 0, by omega, by omega, fun q => absurd q (by decide), ?_, ?_⟩
            · simp -implicitDefEqProofs only [Option.bind_some, bd_some, b2i_0, Bool.true_eq_false, Bool.false_eq_true, eq_self, if_true, if_false, not_true_eq_false, not_false_eq_true, g67, num, ivM, m1, g64, t2', show (n2 7 = (6 : Int32)) = False from eq_false (by decide), show (n2 7 = (7 : Int32)) = True from eq_true rfl, show ((6 : Int32) ≤ n2 7) = True from eq_true (by decide), sub60]
              rfl
            · rw [if_neg (by decide)]; exact ⟨rfl, rfl⟩
      have lv3 : lv < 3 := by
        by_cases h6 : a < 6
        · have := hlv.1 h6; omega
        · have := hlv.2 (by omega); omega
      obtain ⟨ok, w1, w2, w3, w4, w5⟩ := lfW_ok (kd := kd) (ar := ar) (lv := lv) (sn := sn) (num := num1) hkd har lv3 hsn hn1 hka
      have we := lfW_eq (kd := kd) (ar := ar) (lv := lv) (sn := sn) (num := num1) (by omega) (by omega) (by omega) (by omega) hn1
      generalize lfW kd ar lv sn num1 = w at ok w1 w2 w3 w4 w5 we
      obtain ⟨h2, e2, P2, K2⟩ := M_wr (b' := b') (n := n) (s := s) (m := m) (r := r1) (v := n2 w) P (by omega)
      obtain ⟨c2, T2, z2, r2, p2, R2, x2, m2, S2, Kp2, Kr2, T2e, le2, nu2, g2⟩ := goG (b' := b') (n := n) (s := s) (S1.hh h2) g1' v3
      have c25 : c2.t = 5 := Kp2.1.trans c15
      obtain ⟨h3, e3, P3, K3⟩ := M_wdown (b' := b') (n := n) (s := s) (m := m) (r := r2) (v := 3) (by decide) P2 (by omega) (by rw [List.length_append]; simp -implicitDefEqProofs only [List.length_cons, List.length_nil]; omega)
      have e3' : fX4_writeDown (some 106) (3 : Int32) (mkM b' n s (m.sRH r2 h2)) = some ((), mkM b' n s (m.sRH r2 h3)) := e3
      have MM : bX4_asks_57 (some 106) (n2 a) (n2 lv) (mkM b' n s (m.sRH r h)) = some (1, mkM b' n s (m.sRH r2 h3)) := by
        rw [hM]
        unfold bX4_asks_120
        simp -implicitDefEqProofs only [Option.bind_some, bd_some, b2i_0, Bool.true_eq_false, Bool.false_eq_true, eq_self, if_true, if_false, not_true_eq_false, not_false_eq_true, g67, hn2, we, ivM, e2, m2, e3']
      have X1 : bX6_compare_49 (some (mNx B)) (arX a) (b2i (decide (a = 6))) (n2 lv) (some (mNx B)) 1 (ovs B (c :: T) z) = (if arX a = (-1 : Int32) then if b2i (decide (a = 6)) = 0 then (bd (nO (ovs B (c2 :: T2) z2) 10) fun y st => bd (nn y (fX13_init y (n2 (60 + sn)) (n2 num1) st)) fun _ st => some ((.inl y : Rf ⊕ Nat), st)) else (bd (nO (ovs B (c2 :: T2) z2) 9) fun y st => bd (nn y (fX12_init y (n2 (60 + sn)) (n2 num1) st)) fun _ st => some ((.inl y : Rf ⊕ Nat), st)) else (bd (nO (ovs B (c2 :: T2) z2) 8) fun y st => bd (nn y (fX11_init y (arX a) (n2 lv) (n2 (60 + sn)) (n2 num1) st)) fun _ st => some ((.inl y : Rf ⊕ Nat), st))) := by
        unfold bX6_compare_49 fX5_number
        simp -implicitDefEqProofs only [Option.bind_some, bd_some, b2i_0, Bool.true_eq_false, Bool.false_eq_true, eq_self, if_true, if_false, not_true_eq_false, not_false_eq_true, rd_iv5 h5, rd_iv5 c15, X_need1', bt_inl, G131, x1, IV13 _ c15, hX', x2]
      rw [X_mk8 hB, X_mk9 hB, X_mk10 hB] at X1
      have ok2 : RsR B c2 T2 (m.sRH r2 h3) tp to most p2 := S2.hh h3
      have fin : ∀ (f : Cl) (zz : Nat), zz ≤ z2 + 8 → bX6_compare_49 (some (mNx B)) (arX a) (b2i (decide (a = 6))) (n2 lv) (some (mNx B)) 1 (ovs B (c :: T) z) = some (.inl (some (mNx B + (1 + T2.length))), ovs B (c2 :: (T2 ++ [f])) zz) → f.t = 8 + kd → f.i 142 = n2 (60 + sn) → f.i 143 = n2 num1 → (kd = 0 → f.i 144 = n2 ar ∧ f.i 145 = n2 lv) → LeafR B c T m h tp to most p A Z b' n s Q l o (bX6_compare_49 (some (mNx B)) (arX a) (b2i (decide (a = 6))) (n2 lv) (some (mNx B)) 1 (ovs B (c :: T) z)) (bX4_asks_57 (some 106) (n2 a) (n2 lv) (mkM b' n s (m.sRH r h))) := by
        intro f zz hz e1 f1 f2 f3 f4
        have at_ : clD (T2 ++ [f]) T2.length = f := clD_last T2 f
        have len : (T2 ++ [f]).length = T2.length + 1 := by rw [List.length_append]; rfl
        refine Or.inl ⟨T2.length, c2, T2 ++ [f], zz, r2, h3, p2, R1 ++ R2 ++ [f], w, e1, MM, ok2.ch (Chg.app _ _), Kp1.trans Kp2, by rw [T2e, T1e]; simp, by omega, by omega, g2.add (by omega) hz, ?_, ok, P3, K2.trans K3⟩
        refine ⟨by omega, ok, ?_, ?_, ?_, fun hk => ?_⟩
        · rw [at_, w1]; exact f1
        · rw [at_, w4]; exact f2
        · rw [at_, w5]; exact f3
        · rw [at_, w2, w3]; exact f4 (by rw [← w1]; exact hk)
      by_cases hk0 : kd = 0
      · rw [if_pos hk0] at hkr
        have ne : arX a ≠ -1 := by
          rw [hkr.1]; intro q
          have := congrArg Int32.toInt q
          rw [n2_i2, i2_int (by omega) (by omega)] at this
          exact absurd this (by intro q2; have : ((ar : Nat) : Int) = -1 := q2; omega)
        rw [if_neg ne] at X1
        refine fin _ _ (by omega) X1 ?_ ?_ ?_ ?_
        · rw [hk0]; rfl
        · exact seC_2 _ _ _ _
        · exact seC_3 _ _ _ _
        · intro _
          exact ⟨(seC_4 _ _ _ _).trans hkr.1, seC_5 _ _ _ _⟩
      · rw [if_neg hk0] at hkr
        rw [if_pos hkr.1] at X1
        rcases (show kd = 1 ∨ kd = 2 by omega) with e | e
        · have a6 : a = 6 := by omega
          rw [if_neg (by rw [decide_eq_true a6]; decide)] at X1
          refine fin _ _ (by omega) X1 ?_ ?_ ?_ ?_
          · rw [e]; rfl
          · exact cpC_2 _ _ _
          · exact cpC_3 _ _ _
          · intro q; exact absurd q hk0
        · have a7 : ¬ a = 6 := by omega
          rw [if_pos (by rw [decide_eq_false a7]; decide)] at X1
          refine fin _ _ (by omega) X1 ?_ ?_ ?_ ?_
          · rw [e]; rfl
          · exact cpC_2 _ _ _
          · exact cpC_3 _ _ _
          · intro q; exact absurd q hk0
    · refine Or.inr ((D_badH (α := Rf) (b' := b') (n := n) (s := s) S1 g1' 1 (Or.inl rfl)).eq ?_ ?_)
      · unfold bX6_compare_49 fX5_number
        simp -implicitDefEqProofs only [Option.bind_some, bd_some, b2i_0, Bool.true_eq_false, Bool.false_eq_true, eq_self, if_true, if_false, not_true_eq_false, not_false_eq_true, rd_iv5 h5, rd_iv5 c15, X_need1', bt_inl, G131, x1, IV13 _ c15, hX, bt_inr]
      · have t2' : (r1.token = 2) = False := eq_false t2
        unfold bX4_asks_57
        simp -implicitDefEqProofs only [Option.bind_some, bd_some, b2i_0, Bool.true_eq_false, Bool.false_eq_true, eq_self, if_true, if_false, not_true_eq_false, not_false_eq_true, g67, num, ivM, m1, g64, t2', M_badH, nz0]
    · obtain ⟨num1, hn1, hn2⟩ := S1.K.nb t2
      refine absurd ?_ hr
      rw [hn2]
      exact ⟨n2_pos (by omega), by rw [li_999, n2_le (by omega) (by omega)]; omega⟩
  · have e0 : sg r 60 = false := by
      rcases Bool.eq_false_or_eq_true (sg r 60) with e | e
      · exact absurd ⟨0, by decide, e⟩ hs
      · exact e
    have e1 : sg r 61 = false := by
      rcases Bool.eq_false_or_eq_true (sg r 61) with e | e
      · exact absurd ⟨1, by decide, e⟩ hs
      · exact e
    have e2 : sg r 62 = false := by
      rcases Bool.eq_false_or_eq_true (sg r 62) with e | e
      · exact absurd ⟨2, by decide, e⟩ hs
      · exact e
    refine Or.inr ((D_badH (α := Rf) (b' := b') (n := n) (s := s) S g 1 (Or.inl rfl)).eq ?_ ?_)
    · have f0 : sg (m.sRH r h).r 60 = false := e0
      have f1 : sg (m.sRH r h).r 61 = false := e1
      have f2 : sg (m.sRH r h).r 62 = false := e2
      unfold bX6_compare_15 bX6_compare_49
      simp -implicitDefEqProofs only [Option.bind_some, bd_some, b2i_0, Bool.true_eq_false, Bool.false_eq_true, eq_self, if_true, if_false, not_true_eq_false, not_false_eq_true, rd_iv5 h5, X_sg S, f0, f1, f2, X_need0' R 1, bt_inr]
    · unfold bX4_asks_24
      simp -implicitDefEqProofs only [Option.bind_some, bd_some, b2i_0, Bool.true_eq_false, Bool.false_eq_true, eq_self, if_true, if_false, not_true_eq_false, not_false_eq_true, ivM, M_sgq, e0, e1, e2, M_badH, nz0]
theorem D_leaf (ha : a < 8) (S : RsR B c T (m.sRH r h) tp to most p) (g : Bg A Z T z (nu c to p) p) (h5 : c.t = 5) (P : PS h Q l o) (h28 : Q.length ≤ 28) (h64 : l.length + 1 + Q.length ≤ 64) :
    LeafR B c T m h tp to most p A Z b' n s Q l o (fX6_compare (some (mNx B)) (arX a) (b2i (decide (a = 6))) (ovs B (c :: T) z)) (fX4_asks (some 106) (n2 a) (mkM b' n s (m.sRH r h))) := by
  by_cases h6 : a < 6
  · have ne : (arX a = (-1 : Int32)) = False := by
      unfold arX; rw [if_pos h6]
      refine eq_false (fun q => ?_)
      have := congrArg Int32.toInt q
      rw [n2_i2, i2_int (by omega) (by omega)] at this
      exact absurd this (by intro q2; have : ((a : Nat) : Int) = -1 := q2; omega)
    have q3 : ((6 : Int32) ≤ n2 a) = False := by rw [li_6, n2_le (by omega) (by omega)]; exact eq_false (by omega)
    unfold fX6_compare fX4_asks
    rcases D_number (b' := b') (n := n) (s := s) (lo := 1) (hi := 2) S g with ⟨v, c1, T1, z1, r1, p1, R1, x1, m1, S1, Kp1, T1e, le1, nu1, g1, hgot, hlo, hhi⟩ | hb
    · rw [sRH_sR] at m1 S1
      obtain ⟨lv, hl1, hl2, rfl⟩ := in_true (a := v) (l := 1) (u := 2) (by decide) (by decide) (decide_eq_true ⟨hlo, hhi⟩)
      have c15 : c1.t = 5 := Kp1.1.trans h5
      have L := D_leaf2 (b' := b') (n := n) (s := s) (z := z1) (lv := lv) ha ⟨fun _ => by omega, fun q => absurd h6 (by omega)⟩ S1 (g1.add (by omega) (by omega)) c15 P h28 h64
      have g73 : gI (mkM b' n s (m.sRH r1 h)) (some 106) 73 = some (n2 lv) := gM_73.trans (congrArg some hgot)
      simp -implicitDefEqProofs only [Option.bind_some, bd_some, b2i_0, Bool.true_eq_false, Bool.false_eq_true, eq_self, if_true, if_false, not_true_eq_false, not_false_eq_true, ne, rd_iv5 h5, x1, bt_inl, q3, ivM, m1, show ((1 : Int32) = 0) = False from eq_false (by decide), g73]
      rcases L with ⟨e, c', T', z', r', h', q, R, w, l1, l2, l3, l4, l5, l6, l7, l8⟩ | L
      · exact Or.inl ⟨e, c', T', z', r', h', q, R1 ++ R, w, l1, l2, l3, Kp1.trans l4, by rw [l5, T1e]; simp, by omega, by omega, l8⟩
      · exact Or.inr L
    · refine Or.inr ?_
      have hb' := hb.sRH
      obtain ⟨e, c', T', z', r', h', y1, y2, y3⟩ := hb'
      refine ⟨e, c', T', z', r', h', ?_, ?_, y3⟩
      · simp -implicitDefEqProofs only [Option.bind_some, bd_some, b2i_0, Bool.true_eq_false, Bool.false_eq_true, eq_self, if_true, if_false, not_true_eq_false, not_false_eq_true, ne, rd_iv5 h5, y1, bt_inr]
      · simp -implicitDefEqProofs only [Option.bind_some, bd_some, b2i_0, Bool.true_eq_false, Bool.false_eq_true, eq_self, if_true, if_false, not_true_eq_false, not_false_eq_true, q3, ivM, y2]
  · have ne : (arX a = (-1 : Int32)) = True := by
      unfold arX; rw [if_neg h6]; exact eq_true rfl
    have q3 : ((6 : Int32) ≤ n2 a) = True := by rw [li_6, n2_le (by omega) (by omega)]; exact eq_true (by omega)
    have L := D_leaf2 (b' := b') (n := n) (s := s) (lv := 0) ha ⟨fun q => absurd q h6, fun _ => rfl⟩ S g h5 P h28 h64
    unfold fX6_compare fX4_asks
    simp -implicitDefEqProofs only [Option.bind_some, bd_some, b2i_0, Bool.true_eq_false, Bool.false_eq_true, eq_self, if_true, if_false, not_true_eq_false, not_false_eq_true, ne, q3]
    exact L
end Leaf
