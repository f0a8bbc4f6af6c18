set_option linter.unusedVariables false
set_option linter.unusedSimpArgs false
set_option maxRecDepth 100000
/-! ===== lines of a house: a law (partly printed) ===== -/
def HS.sLaw (H : HS) (k w : Nat) (cn : Cd) (o : Nat) : HS := HS.mk H.rows H.cols H.carry H.paid H.byRows H.kind H.price H.leaves (fun q v => if q = k ∧ v = w then some (cn, o) else H.law q v) H.ar
section Law0
variable {b' : Mem} {m : MS} {n s : Nat} {r : MR} {h : MH}
theorem M_cp {to len : Nat} (hl : h.codeMany = n2 len) (h40 : len ≤ 40) (hto : to + 42 ≤ 590) : ∀ (j F i : Nat) (f0 : Nat → Int32), i + j = len → j < F →
    ∃ f, bX4_readLaw_133 F (some 106) (n2 to) (n2 i) (mkM b' n s (m.sRH r (h.sHh f0))) = some (1, mkM b' n s (m.sRH r (h.sHh f))) ∧ ∀ v, f v = if to + 2 + i ≤ v ∧ v < to + 2 + len then h.code (v - (to + 2)) else f0 v := by
  have g81 : ∀ f, gI (mkM b' n s (m.sRH r (h.sHh f))) (some 106) 81 = some (n2 len) := fun f => g_cm.trans (congrArg some hl)
  intro j
  induction j with
  | zero =>
    intro F i f0 hi hF
    obtain ⟨F, rfl⟩ : ∃ g, F = g + 1 := ⟨F - 1, by omega⟩
    have ei : i = len := by omega
    subst ei
    refine ⟨f0, ?_, fun v => by rw [if_neg (by omega)]⟩
    show bX4_readLaw_133B _ _ _ _ _ = _
    unfold bX4_readLaw_133B
    simp -implicitDefEqProofs only [Option.bind_some, bd_some, b2i_0, Bool.true_eq_false, Bool.false_eq_true, eq_self, if_true, if_false, not_true_eq_false, not_false_eq_true, g81, show (n2 i ≤ n2 i) = True from eq_true (Int32.le_refl _)]
  | succ j ih =>
    intro F i f0 hi hF
    obtain ⟨F, rfl⟩ : ∃ g, F = g + 1 := ⟨F - 1, by omega⟩
    have le : (n2 len ≤ n2 i) = False := by rw [n2_le (by omega) (by omega)]; exact eq_false (by omega)
    have ix : n2 to + (2 : Int32) + n2 i = n2 (to + 2 + i) := by rw [li_2, n2_add, n2_add]
    have ac : aI (mkM b' n s (m.sRH r (h.sHh f0))) (some 111) (n2 i) = some (h.code i) := by
      rw [aM_111, ifx_k (show i < 64 by omega) (by omega), n2_nat (by omega)]; rfl
    have u : ∀ w, uI (mkM b' n s (m.sRH r (h.sHh f0))) (some 109) (n2 (to + 2 + i)) w = some (mkM b' n s (m.sRH r (h.sHh (upq f0 (to + 2 + i) w)))) := fun w => (u_hhq (by omega)).trans rfl
    have e1 : n2 i + 1 = n2 (i + 1) := n2_add i 1
    obtain ⟨f, f1, f2⟩ := ih F (i + 1) (upq f0 (to + 2 + i) (h.code i)) (by omega) (by omega)
    refine ⟨f, ?_, fun v => ?_⟩
    · rw [← f1]
      show bX4_readLaw_133B (bX4_readLaw_133 F) _ _ _ _ = _
      unfold bX4_readLaw_133B
      simp -implicitDefEqProofs only [Option.bind_some, bd_some, b2i_0, Bool.true_eq_false, Bool.false_eq_true, eq_self, if_true, if_false, not_true_eq_false, not_false_eq_true, g81, le, gM_62, gM_78, ac, ix, u, e1]
    · rw [f2 v]
      by_cases ev : v = to + 2 + i
      · rw [if_neg (by omega), ev, upq_self, if_pos (by omega), Nat.add_sub_cancel_left]
      · rw [upq_ne _ _ ev]
        by_cases cv : to + 2 + (i + 1) ≤ v ∧ v < to + 2 + len
        · rw [if_pos cv, if_pos (by omega)]
        · rw [if_neg cv, if_neg (by omega)]
end Law0
theorem MHouse.sLaw {f f' : Nat → Int32} {H : HS} {k w o : Nat} {cn : Cd} {l : List Int32} (X : MHouse f H) (hk : k < 6) (hw : w < 2) (hp : Post cn l) (h40 : l.length ≤ 40) (hlv : clvs cn ≤ 20) (f0 : f' (86 + 42 * (2 * k + w)) = n2 o) (f1 : f' (86 + 42 * (2 * k + w) + 1) = n2 l.length) (f2 : ∀ i (hi : i < l.length), f' (86 + 42 * (2 * k + w) + 2 + i) = l[i]) (f3 : ∀ v, (v < 86 + 42 * (2 * k + w) ∨ 86 + 42 * (2 * k + w) + 42 ≤ v) → f' v = f v) : MHouse f' (H.sLaw k w cn o) := by
  have e : ∀ v, v < 86 → f' v = f v := fun v hv => f3 v (by omega)
  refine ⟨by rw [e _ (by omega)]; exact X.rows, by rw [e _ (by omega)]; exact X.cols, by rw [e _ (by omega)]; exact X.seats, by rw [e _ (by omega)]; exact X.carry, by rw [e _ (by omega)]; exact X.paid, by rw [e _ (by omega)]; exact X.byRows, fun v hv => by rw [e _ (by omega)]; exact X.kind v hv, fun q hq => by rw [e _ (by omega)]; exact X.price q hq, fun q hq => by rw [e _ (by omega)]; exact X.leaves q hq, fun q v hq hv hl => ?_, fun q v c' o' hq hv hl => ?_⟩
  · have hl' : (if q = k ∧ v = w then some (cn, o) else H.law q v) = none := hl
    by_cases c : q = k ∧ v = w
    · rw [if_pos c] at hl'; exact absurd hl' (by simp)
    · rw [if_neg c] at hl'
      rw [f3 _ (by omega)]; exact X.law0 q v hq hv hl'
  · have hl' : (if q = k ∧ v = w then some (cn, o) else H.law q v) = some (c', o') := hl
    by_cases c : q = k ∧ v = w
    · rw [if_pos c] at hl'
      cases hl'
      obtain ⟨rfl, rfl⟩ := c
      exact ⟨l, hp, f0, f1, f2, h40, hlv⟩
    · rw [if_neg c] at hl'
      obtain ⟨l', L⟩ := X.law q v c' o' hq hv hl'
      have h40' := L.short
      exact ⟨l', L.post, by rw [f3 _ (by omega)]; exact L.ones_, by rw [f3 _ (by omega)]; exact L.len, fun i hi => by rw [f3 _ (by omega)]; exact L.code i hi, L.short, L.lvs⟩
theorem HT.sLaw0 {N : Nat} {T : List Cl} {f f' : Nat → Int32} {H : HS} {ln k e o : Nat} {cn : Cd} (X : HT N T f H ln) (hk : k < 6) (hC : CondT N T cn e) (h1 : cdep cn ≤ 40) (h2 : clvs cn ≤ 20) (h3 : 1 ≤ o) (h4 : o ≤ 20) (mh : MHouse f' (H.sLaw k 0 cn o)) {T1 T2 : List Cl} (e1 : T1 = clS T 4 ((clD T 4).sA k (some (N + (1 + e))))) (e2 : T2 = clS T1 6 ((clD T1 6).sI (k) (n2 o))) : HT N T2 f' (H.sLaw k 0 cn o) ln ∧ Chg T T2 ∧ T2.length = T.length := by
  have len := X.len
  have sh1 : HSh N T1 := by rw [e1]; exact X.sh.setA (by decide) (by decide) (by decide)
  have sh2 : HSh N T2 := by rw [e2]; exact sh1.setI (by decide)
  have l1 : T1.length = T.length := by rw [e1, clS_len]
  have l2 : T2.length = T.length := by rw [e2, clS_len, l1]
  have a1 : clD T1 4 = (clD T 4).sA k (some (N + (1 + e))) := by rw [e1]; exact clS_at T 4 _ (by omega)
  have n1 : ∀ i, i ≠ 4 → clD T1 i = clD T i := fun i hi => by rw [e1]; exact clS_ne T 4 i _ hi
  have a6 : clD T2 6 = (clD T 6).sI (k) (n2 o) := by rw [e2, clS_at T1 6 _ (by omega), n1 6 (by decide)]
  have n3 : ∀ i, i ≠ 6 → i ≠ 4 → clD T2 i = clD T i := fun i h6 h5 => by rw [e2, clS_ne T1 6 i _ h6, n1 i h5]
  have aL : clD T2 4 = (clD T 4).sA k (some (N + (1 + e))) := by rw [e2, clS_ne T1 6 4 _ (by decide), a1]
  have C : Chg T T2 := by
    have c1 : Chg T T1 := by rw [e1]; exact X.sh.chg (by decide) _
    have c2 : Chg T1 T2 := by rw [e2]; exact sh1.chg (by decide) _
    exact c1.trans c2
  have aN : ∀ q, q ≠ k → (clD T2 4).a q = (clD T 4).a q := fun q hq => by rw [aL]; exact upq_ne _ _ hq
  have iN : ∀ q, q ≠ k → (clD T2 6).i q = (clD T 6).i q := fun q hq => by rw [a6]; exact i_ne _ _ hq
  exact ⟨⟨sh2, by rw [n3 _ (by decide) (by decide)]; exact X.rows, by rw [n3 _ (by decide) (by decide)]; exact X.cols, by rw [n3 _ (by decide) (by decide)]; exact X.carry, by rw [n3 _ (by decide) (by decide)]; exact X.paid, by rw [n3 _ (by decide) (by decide)]; exact X.lines, by rw [n3 _ (by decide) (by decide)]; exact X.byRows, fun v hv => by rw [n3 _ (by decide) (by decide)]; exact X.kind v hv, fun j hj => by rw [n3 _ (by decide) (by decide)]; exact X.price j hj, fun j hj => by rw [n3 _ (by decide) (by decide)]; exact X.leaves j hj, fun q hq hl => by
    have hl' : (if q = k ∧ (0 : Nat) = 0 then some (cn, o) else H.law q 0) = none := hl
    by_cases c : q = k
    · rw [if_pos ⟨c, rfl⟩] at hl'; exact absurd hl' (by simp)
    · rw [if_neg (fun z => c z.1)] at hl'
      rw [aN q c]; exact X.up0 q hq hl', fun q c' o' hq hl => by
    have hl' : (if q = k ∧ (0 : Nat) = 0 then some (cn, o) else H.law q 0) = some (c', o') := hl
    by_cases c : q = k
    · rw [if_pos ⟨c, rfl⟩] at hl'
      cases hl'
      subst c
      exact ⟨by rw [a6, i_self], e, by rw [aL]; exact upq_self _ _ _, hC.ch C⟩
    · rw [if_neg (fun z => c z.1)] at hl'
      obtain ⟨q1, a, q2, q3⟩ := X.up q c' o' hq hl'
      exact ⟨by rw [iN _ (by omega)]; exact q1, a, by rw [aN q c]; exact q2, q3.ch C⟩, fun q hq hl => by
    have hl' : (if q = k ∧ (1 : Nat) = 0 then some (cn, o) else H.law q 1) = none := hl
    rw [if_neg (fun z => absurd z.2 (by decide))] at hl'
    rw [n3 _ (by decide) (by decide)]; exact X.down0 q hq hl', fun q c' o' hq hl => by
    have hl' : (if q = k ∧ (1 : Nat) = 0 then some (cn, o) else H.law q 1) = some (c', o') := hl
    rw [if_neg (fun z => absurd z.2 (by decide))] at hl'
    obtain ⟨q1, a, q2, q3⟩ := X.down q c' o' hq hl'
    exact ⟨by rw [iN _ (by omega)]; exact q1, a, by rw [n3 _ (by decide) (by decide)]; exact q2, q3.ch C⟩, mh, ⟨X.ok.rows, X.ok.cols, X.ok.empty, X.ok.carry, X.ok.paid, X.ok.kind, X.ok.price, X.ok.leaves, fun q v c' o' hl => by
    have hl' : (if q = k ∧ v = 0 then some (cn, o) else H.law q v) = some (c', o') := hl
    by_cases c : q = k ∧ v = 0
    · rw [if_pos c] at hl'
      cases hl'
      exact ⟨h1, h2, h3, h4⟩
    · rw [if_neg c] at hl'
      exact X.ok.dep q v c' o' hl'⟩⟩, C, l2⟩
theorem HT.sLaw1 {N : Nat} {T : List Cl} {f f' : Nat → Int32} {H : HS} {ln k e o : Nat} {cn : Cd} (X : HT N T f H ln) (hk : k < 6) (hC : CondT N T cn e) (h1 : cdep cn ≤ 40) (h2 : clvs cn ≤ 20) (h3 : 1 ≤ o) (h4 : o ≤ 20) (mh : MHouse f' (H.sLaw k 1 cn o)) {T1 T2 : List Cl} (e1 : T1 = clS T 5 ((clD T 5).sA k (some (N + (1 + e))))) (e2 : T2 = clS T1 6 ((clD T1 6).sI (6 + k) (n2 o))) : HT N T2 f' (H.sLaw k 1 cn o) ln ∧ Chg T T2 ∧ T2.length = T.length := by
  have len := X.len
  have sh1 : HSh N T1 := by rw [e1]; exact X.sh.setA (by decide) (by decide) (by decide)
  have sh2 : HSh N T2 := by rw [e2]; exact sh1.setI (by decide)
  have l1 : T1.length = T.length := by rw [e1, clS_len]
  have l2 : T2.length = T.length := by rw [e2, clS_len, l1]
  have a1 : clD T1 5 = (clD T 5).sA k (some (N + (1 + e))) := by rw [e1]; exact clS_at T 5 _ (by omega)
  have n1 : ∀ i, i ≠ 5 → clD T1 i = clD T i := fun i hi => by rw [e1]; exact clS_ne T 5 i _ hi
  have a6 : clD T2 6 = (clD T 6).sI (6 + k) (n2 o) := by rw [e2, clS_at T1 6 _ (by omega), n1 6 (by decide)]
  have n3 : ∀ i, i ≠ 6 → i ≠ 5 → clD T2 i = clD T i := fun i h6 h5 => by rw [e2, clS_ne T1 6 i _ h6, n1 i h5]
  have aL : clD T2 5 = (clD T 5).sA k (some (N + (1 + e))) := by rw [e2, clS_ne T1 6 5 _ (by decide), a1]
  have C : Chg T T2 := by
    have c1 : Chg T T1 := by rw [e1]; exact X.sh.chg (by decide) _
    have c2 : Chg T1 T2 := by rw [e2]; exact sh1.chg (by decide) _
    exact c1.trans c2
  have aN : ∀ q, q ≠ k → (clD T2 5).a q = (clD T 5).a q := fun q hq => by rw [aL]; exact upq_ne _ _ hq
  have iN : ∀ q, q ≠ 6 + k → (clD T2 6).i q = (clD T 6).i q := fun q hq => by rw [a6]; exact i_ne _ _ hq
  exact ⟨⟨sh2, by rw [n3 _ (by decide) (by decide)]; exact X.rows, by rw [n3 _ (by decide) (by decide)]; exact X.cols, by rw [n3 _ (by decide) (by decide)]; exact X.carry, by rw [n3 _ (by decide) (by decide)]; exact X.paid, by rw [n3 _ (by decide) (by decide)]; exact X.lines, by rw [n3 _ (by decide) (by decide)]; exact X.byRows, fun v hv => by rw [n3 _ (by decide) (by decide)]; exact X.kind v hv, fun j hj => by rw [n3 _ (by decide) (by decide)]; exact X.price j hj, fun j hj => by rw [n3 _ (by decide) (by decide)]; exact X.leaves j hj, fun q hq hl => by
    have hl' : (if q = k ∧ (0 : Nat) = 1 then some (cn, o) else H.law q 0) = none := hl
    rw [if_neg (fun z => absurd z.2 (by decide))] at hl'
    rw [n3 _ (by decide) (by decide)]; exact X.up0 q hq hl', fun q c' o' hq hl => by
    have hl' : (if q = k ∧ (0 : Nat) = 1 then some (cn, o) else H.law q 0) = some (c', o') := hl
    rw [if_neg (fun z => absurd z.2 (by decide))] at hl'
    obtain ⟨q1, a, q2, q3⟩ := X.up q c' o' hq hl'
    exact ⟨by rw [iN _ (by omega)]; exact q1, a, by rw [n3 _ (by decide) (by decide)]; exact q2, q3.ch C⟩, fun q hq hl => by
    have hl' : (if q = k ∧ (1 : Nat) = 1 then some (cn, o) else H.law q 1) = none := hl
    by_cases c : q = k
    · rw [if_pos ⟨c, rfl⟩] at hl'; exact absurd hl' (by simp)
    · rw [if_neg (fun z => c z.1)] at hl'
      rw [aN q c]; exact X.down0 q hq hl', fun q c' o' hq hl => by
    have hl' : (if q = k ∧ (1 : Nat) = 1 then some (cn, o) else H.law q 1) = some (c', o') := hl
    by_cases c : q = k
    · rw [if_pos ⟨c, rfl⟩] at hl'
      cases hl'
      subst c
      exact ⟨by rw [a6, i_self], e, by rw [aL]; exact upq_self _ _ _, hC.ch C⟩
    · rw [if_neg (fun z => c z.1)] at hl'
      obtain ⟨q1, a, q2, q3⟩ := X.down q c' o' hq hl'
      exact ⟨by rw [iN _ (by omega)]; exact q1, a, by rw [aN q c]; exact q2, q3.ch C⟩, mh, ⟨X.ok.rows, X.ok.cols, X.ok.empty, X.ok.carry, X.ok.paid, X.ok.kind, X.ok.price, X.ok.leaves, fun q v c' o' hl => by
    have hl' : (if q = k ∧ v = 1 then some (cn, o) else H.law q v) = some (c', o') := hl
    by_cases c : q = k ∧ v = 1
    · rw [if_pos c] at hl'
      cases hl'
      exact ⟨h1, h2, h3, h4⟩
    · rw [if_neg c] at hl'
      exact X.ok.dep q v c' o' hl'⟩⟩, C, l2⟩
theorem w1_id : ∀ c : Nat, c < 128 → Int64.toInt32 (shlL 0 (8 : Int32) ||| (n2 c).toInt64) = n2 c := by decide +kernel
section Law1
variable {B b' : Mem} {m : MS} {tp : Nat → Int32} {to most A Z n s : Nat} {c : Cl} {T : List Cl} {z p ln : Nat} {r : MR} {h : MH} {H : HS}
/-- a law in both: w = 0 up, w = 1 down -/
theorem D_law (X : HR B m tp to most A Z c T z r h p H ln) (hv : ¬ (c.i 128 = 0 ∨ c.i 128 = 5)) {w : Nat} (hw : w = 0 ∨ w = 1) :
    LnR B m tp to most A Z b' n s c p ln (fX6_law (some (mNx B)) (some (mNx B + (1 + (4 + w)))) (n2 (6 * w)) (ovs B (c :: T) z)) (fX4_readLaw (some 106) (n2 w) (mkM b' n s (m.sRH r h))) := by
  have R := X.S.R
  have hB : 64 ≤ mNx B := by have := R.hB; omega
  have nz0 : nz (0 : Int32) = 0 := by decide
  have w2 : w < 2 := by omega
  obtain ⟨c1, T1, z1, r1, p1, R1, x1, m1, S1, Kp1, Kr1, T1e, le1, nu1, g1⟩ := goG (b' := b') (n := n) (s := s) X.S X.g hv
  have X1 : HR B m tp to most A Z c1 T1 z1 r1 h p1 H ln := X.go S1 (g1.add (by omega) (by omega)) Kp1.c (Kh.refl h) T1e
  have G128 : gI (ovs B (c1 :: T1) z1) (some (mNx B)) 128 = some (c1.i 128) := rd_get S1.R.t rfl
  have no : c1.i 128 ≠ 2 → r1.token ≠ 1 → LnR B m tp to most A Z b' n s c p ln (fX6_law (some (mNx B)) (some (mNx B + (1 + (4 + w)))) (n2 (6 * w)) (ovs B (c :: T) z)) (fX4_readLaw (some 106) (n2 w) (mkM b' n s (m.sRH r h))) := fun e1 e2 => by
    refine Or.inr ((D_badH (α := Unit) (b' := b') (n := n) (s := s) S1 X1.g 1 (Or.inl rfl)).eq ?_ ?_)
    · unfold fX6_law bX6_law_18
      simp -implicitDefEqProofs only [Option.bind_some, bd_some, b2i_0, Bool.true_eq_false, Bool.false_eq_true, eq_self, if_true, if_false, not_true_eq_false, not_false_eq_true, rd_iv5 X.t5, x1, G128, e1, rd_iv5 X1.t5, X_need0' S1.R 1, bt_inr]
    · unfold fX4_readLaw
      simp -implicitDefEqProofs only [Option.bind_some, bd_some, b2i_0, Bool.true_eq_false, Bool.false_eq_true, eq_self, if_true, if_false, not_true_eq_false, not_false_eq_true, ivM, m1, g_tok, e2, M_badH, nz0]
  rcases S1.K.kd with ⟨k1, k2⟩ | ⟨k1, k2⟩ | ⟨k1, k2, P, k, e, w1, w2', w3, w4, w5, w6, w7, w8, w9⟩ | ⟨k1, k2, -⟩ | ⟨k1, k2, -⟩
  · rw [sRH_r] at k2; exact no (by rw [k1]; decide) (by rw [k2]; decide)
  · rw [sRH_r] at k2
    refine no ?_ (by rw [k2]; decide)
    rcases k1 with k1 | k1 <;> rw [k1] <;> decide
  · rw [sRH_r] at k2 w4 w5 w7
    have nv : ¬ (c1.i 128 = 1 ∨ c1.i 128 = 5) := by rw [k1]; decide
    have v1 : ¬ (c1.i 128 = 0 ∨ c1.i 128 = 5) := by rw [k1]; decide
    have G2 : gA (ovs B (c1 :: T1) z1) (some (mNx B)) 132 = some (some (mNx B + (1 + e))) := (rd_132 S1.R.t).trans (congrArg some w8)
    have I19 : ∀ {α : Type} (o : Option α), iv (ovs B (c1 :: T1) z1) (some (mNx B + (1 + e))) [19] o = o := fun o => by
      obtain ⟨d, q1, q2, q3, -⟩ := w9
      exact tc_iv q1 (by rw [q3]; rfl)
    have XL := X_len (c := c1) (z := z1) w9 w2'
    have g66 : gI (mkM b' n s (m.sRH r1 h)) (some 106) 66 = some (n2 k) := gM_66.trans (congrArg some w5)
    have q1 : (n2 k = (1 : Int32)) = (k = 1) := by rw [li_1, n2_eq (by omega) (by omega)]
    have X18 : fX6_law (some (mNx B)) (some (mNx B + (1 + (4 + w)))) (n2 (6 * w)) (ovs B (c :: T) z) = bX6_law_18 (some (mNx B)) (some (mNx B + (1 + (4 + w)))) (n2 (6 * w)) (some (mNx B)) 1 (ovs B (c1 :: T1) z1) := by
      unfold fX6_law
      simp -implicitDefEqProofs only [Option.bind_some, bd_some, b2i_0, Bool.true_eq_false, Bool.false_eq_true, eq_self, if_true, if_false, not_true_eq_false, not_false_eq_true, rd_iv5 X.t5, x1, G128, k1]
    have bad2 : Bad (α := Unit) B m A Z to b' n s (some (.inr (mNx B + (1 + T1.length)), ovs B (c1 :: (T1 ++ [fcC (if c1.i 128 = 1 ∨ c1.i 128 = 5 then 1 else 2) (c1.i 129)])) (z1 + 8))) (some (0, mkM b' n s (m.sRH (r1.sF 2 r1.place) h))) := D_badH S1 X1.g 2 (Or.inr nv)
    by_cases hk1 : k = 1
    · subst hk1
      have c0 := w6 0 (by decide)
      rw [Nat.add_zero] at c0
      unfold isLtN at c0
      have c0' := of_decide_eq_true c0
      generalize hch : octN (tp P) = ch at c0'
      have XC := X_chr (c := c1) (z := z1) (i := 0) w9 w2' (by decide) (by show octN (tp (P + 0)) < 128; rw [Nat.add_zero, hch]; omega)
      have XC' : fJ4_charAt (some (mNx B + (1 + e))) (0 : Int32) (ovs B (c1 :: T1) z1) = some (n2 ch, ovs B (c1 :: T1) z1) := by
        refine XC.trans ?_
        show some (n2 (octN (tp (P + 0))), _) = _
        rw [Nat.add_zero, hch]
      have wE : Int64.toInt32 r1.word = n2 ch := by
        rw [w7]
        show Int64.toInt32 (shlL 0 (8 : Int32) ||| (n2 (octN (tp (P + 0)))).toInt64) = n2 ch
        rw [Nat.add_zero, hch]; exact w1_id ch (by omega)
      have g70 : gJ (mkM b' n s (m.sRH r1 h)) (some 106) 70 = some r1.word := gM_70
      have in_ : decide ((97 : Int32) ≤ n2 ch ∧ n2 ch ≤ (102 : Int32)) = decide (ch ≤ 102) := decide_eq_decide.mpr (by
        rw [li_97, li_102, n2_le (by omega) (by omega), n2_le (by omega) (by omega)]
        exact ⟨fun q => q.2, fun q => ⟨c0'.1, q⟩⟩)
      have l102 : ((102 : Int32) < n2 ch) = (102 < ch) := by rw [li_102, n2_lt (by omega) (by omega)]
      by_cases h102 : ch ≤ 102
      · obtain ⟨k, hk⟩ : ∃ k, ch = 97 + k := ⟨ch - 97, by omega⟩
        have hk6 : k < 6 := by omega
        have ks : n2 ch - (97 : Int32) = n2 k := by rw [hk, li_97, n2_sub (by omega), Nat.add_sub_cancel_left]
        have toE : (86 : Int32) + (42 : Int32) * ((2 : Int32) * n2 k + n2 w) = n2 (86 + 42 * (2 * k + w)) := by rw [li_86, li_42, li_2, n2_mul, n2_add, n2_mul, n2_add]
        have len1 := X1.ho.len
        obtain ⟨t1, t2, t3, t4, t5, t6, t7⟩ := X1.ho.sh.tg
        obtain ⟨l1, l2, l3, l4, l5, l6, l7⟩ := X1.ho.sh.ls
        have tL : (clD T1 (4 + w)).t = 105 := by rcases hw with rfl | rfl; exact t4; exact t5
        have lL : (clD T1 (4 + w)).l = 6 := by rcases hw with rfl | rfl; exact l4; exact l5
        have AA : aA (ovs B (c1 :: T1) z1) (some (mNx B + (1 + (4 + w)))) (n2 k) = some ((clD T1 (4 + w)).a k) :=
          (o_aA (decide_eq_true (tc_len (by omega))) (by rw [tc_at, tL]; rfl) (by rw [tc_at, lL]; exact decide_eq_true ⟨by omega, by omega⟩)).trans (by rw [tc_at])
        have hX52 : ∀ v : Int32, v = (if (clD T1 (4 + w)).a k = none then 1 else 0) → bX6_law_18 (some (mNx B)) (some (mNx B + (1 + (4 + w)))) (n2 (6 * w)) (some (mNx B)) 1 (ovs B (c1 :: T1) z1) = bX6_law_80 (some (mNx B)) (some (mNx B + (1 + (4 + w)))) (n2 (6 * w)) (n2 k) (some (mNx B)) v (ovs B (c1 :: T1) z1) := by
          intro v hv
          unfold bX6_law_18 bX6_law_52
          by_cases hn : (clD T1 (4 + w)).a k = none
          · rw [hv]; simp -implicitDefEqProofs only [Option.bind_some, bd_some, b2i_0, Bool.true_eq_false, Bool.false_eq_true, eq_self, if_true, if_false, not_true_eq_false, not_false_eq_true, rd_iv5 X1.t5, X_need1', bt_inl, G2, I19, XL, q1, XC', l102, show (102 < ch) = False from eq_false (by omega), ks, AA, hn]
          · rw [hv]; simp -implicitDefEqProofs only [Option.bind_some, bd_some, b2i_0, Bool.true_eq_false, Bool.false_eq_true, eq_self, if_true, if_false, not_true_eq_false, not_false_eq_true, rd_iv5 X1.t5, X_need1', bt_inl, G2, I19, XL, q1, XC', l102, show (102 < ch) = False from eq_false (by omega), ks, AA, hn]
        have rdT : aI (mkM b' n s (m.sRH r1 h)) (some 109) (n2 (86 + 42 * (2 * k + w))) = some (h.hh (86 + 42 * (2 * k + w))) := a_hhq (by omega)
        -- is it told already
        cases hlaw : H.law k w with
        | some q =>
          obtain ⟨cn, ol⟩ := q
          obtain ⟨l', L⟩ := X1.ho.mh.law k w cn ol hk6 w2 hlaw
          obtain ⟨-, -, o1, o2⟩ := X1.ho.ok.dep k w cn ol hlaw
          have anz : ¬ (clD T1 (4 + w)).a k = none := by
            rcases hw with rfl | rfl
            · obtain ⟨-, a, q2, -⟩ := X1.ho.up k cn ol hk6 hlaw
              rw [show 4 + 0 = 4 from rfl, q2]; exact fun q => by cases q
            · obtain ⟨-, a, q2, -⟩ := X1.ho.down k cn ol hk6 hlaw
              rw [show 4 + 1 = 5 from rfl, q2]; exact fun q => by cases q
          refine Or.inr ((D_badH (α := Unit) (b' := b') (n := n) (s := s) S1 X1.g 3 (Or.inr nv)).eq ?_ ?_)
          · rw [X18, hX52 0 (by rw [if_neg anz])]
            unfold bX6_law_80
            simp -implicitDefEqProofs only [Option.bind_some, bd_some, b2i_0, Bool.true_eq_false, Bool.false_eq_true, eq_self, if_true, if_false, not_true_eq_false, not_false_eq_true, rd_iv5 X1.t5, X_need0' S1.R 3, bt_inr]
          · have pos : (n2 ol ≤ (0 : Int32)) = False := by rw [li_0, n2_le (by omega) (by omega)]; exact eq_false (by omega)
            unfold fX4_readLaw
            simp -implicitDefEqProofs only [Option.bind_some, bd_some, b2i_0, Bool.true_eq_false, Bool.false_eq_true, eq_self, if_true, if_false, not_true_eq_false, not_false_eq_true, ivM, m1, g_tok, k2, g66, q1, g70, wE, M_isIn, in_, decide_eq_true h102, ks, toE, gM_62, rdT, L.ones_, pos, M_badH, nz0]
        | none =>
          have anz : (clD T1 (4 + w)).a k = none := by
            rcases hw with rfl | rfl
            · exact X1.ho.up0 k hk6 hlaw
            · exact X1.ho.down0 k hk6 hlaw
          have z0 : h.hh (86 + 42 * (2 * k + w)) = 0 := X1.ho.mh.law0 k w hk6 w2 hlaw
          -- the next token
          obtain ⟨c2, T2, z2, r2, p2, R2, x2, m2, S2, Kp2, Kr2, T2e, le2, nu2, g2⟩ := goG (b' := b') (n := n) (s := s) S1 X1.g v1
          have X2 : HR B m tp to most A Z c2 T2 z2 r2 h p2 H ln := X1.go S2 (g2.add (by omega) (by omega)) Kp2.c (Kh.refl h) T2e
          have P7 : pI (ovs B (c2 :: T2) z2) (some (mNx B)) 137 (0 : Int32) = some (ovs B (c2.sI 137 0 :: T2) z2) := rd5_put hB X2.t5 (by decide)
          have P8 : pI (ovs B (c2.sI 137 0 :: T2) z2) (some (mNx B)) 138 (0 : Int32) = some (ovs B ((c2.sI 137 0).sI 138 0 :: T2) z2) := rd5_put (c := c2.sI 137 0) hB X2.t5 (by decide)
          have kc3 : Kc c2 ((c2.sI 137 0).sI 138 0) := ((Kc.refl c2).s7 0).s8 0
          have i7 : ((c2.sI 137 0).sI 138 0).i 137 = n2 0 := by rw [i_ne _ _ (by decide), i_self]; rfl
          have i8 : ((c2.sI 137 0).sI 138 0).i 138 = n2 0 := i_self _ _ _
          have S3 : RsR B ((c2.sI 137 0).sI 138 0) T2 (m.sRH r2 (((h.scm 0).spm 0).son 0)) tp to most p2 := ((S2.hh _).sI (f := 137) (by omega) _).sI (f := 138) (by omega) _
          have nu3 : nu ((c2.sI 137 0).sI 138 0) to p2 = nu c2 to p2 := by rw [nu_sI (by decide), nu_sI (by decide)]
          generalize (c2.sI 137 0).sI 138 0 = c3 at P8 kc3 i7 i8 S3 nu3
          have t53 : c3.t = 5 := kc3.1.trans X2.t5
          have P3 : PS (((h.scm 0).spm 0).son 0) [] [] 0 := ⟨rfl, trivial, rfl, fun i hi => absurd hi (Nat.not_lt_zero i), rfl⟩
          have kh3 : Kh h (((h.scm 0).spm 0).son 0) := ⟨rfl, rfl, rfl, rfl, rfl, rfl, rfl⟩
          have C3 : CSt B m tp to most A Z c3 T2 z2 r2 (((h.scm 0).spm 0).son 0) p2 [] [] 0 := ⟨S3, by rw [nu3]; exact X2.g, t53, i7, by decide, P3⟩
          have XX : fX6_law (some (mNx B)) (some (mNx B + (1 + (4 + w)))) (n2 (6 * w)) (ovs B (c :: T) z) = bt (fX6_or (fX6_oneR 30) (some (mNx B)) (ovs B (c3 :: T2) z2)) fun x101 st => (uA st (some (mNx B + (1 + (4 + w)))) (n2 k) x101).bind fun st => (gA st (some (mNx B)) 133).bind fun x106 => (gA st x106 39).bind fun x109 => (gI st (some (mNx B)) 137).bind fun x116 => (uI st x109 (n2 (6 * w) + n2 k) x116).bind fun st => some (.inl (), st) := by
            rw [X18, hX52 1 (by rw [if_pos anz])]
            unfold bX6_law_80
            simp -implicitDefEqProofs only [Option.bind_some, bd_some, b2i_0, Bool.true_eq_false, Bool.false_eq_true, eq_self, if_true, if_false, not_true_eq_false, not_false_eq_true, rd_iv5 X1.t5, X_need1', bt_inl, x2, P7, P8, rd_iv5 t53]
          have MM : fX4_readLaw (some 106) (n2 w) (mkM b' n s (m.sRH r h)) = bd (fX4_cond (some 106) (mkM b' n s (m.sRH r2 (((h.scm 0).spm 0).son 0)))) fun x101 st => if ¬ x101 = 0 then (gA st (some 106) 62).bind fun x110 => (gI st (some 106) 83).bind fun x115 => (uI st x110 (n2 (86 + 42 * (2 * k + w))) x115).bind fun st => (gA st (some 106) 62).bind fun x120 => (gI st (some 106) 81).bind fun x127 => (uI st x120 (n2 (86 + 42 * (2 * k + w)) + (1 : Int32)) x127).bind fun st => bX4_readLaw_133 hcFuel (some 106) (n2 (86 + 42 * (2 * k + w))) (0 : Int32) st else some ((0 : Int32), st) := by
            unfold fX4_readLaw
            generalize hcFuel = fu
            simp -implicitDefEqProofs only [Option.bind_some, bd_some, b2i_0, Bool.true_eq_false, Bool.false_eq_true, eq_self, if_true, if_false, not_true_eq_false, not_false_eq_true, ivM, m1, g_tok, k2, g66, q1, g70, wE, M_isIn, in_, decide_eq_true h102, ks, toE, gM_62, rdT, z0, show ((0 : Int32) ≤ 0) = True from eq_true (by decide), m2, p_cm, p_pm, p_on]
          rw [XX, MM]
          rcases D_cond (b' := b') (n := n) (s := s) C3 i8 with ⟨e4, c4, T4, z4, r4, h4, p4, R4, cn, l4', o4, y1, y2, S4, g4, t54, i74, o41, o42, on4, cm4, cd4, ps4, ll4, ct4, dp4, lv4, T4e, kc4, kh4, le4, nu4⟩ | hb
          · have X3 : HR B m tp to most A Z c3 T2 z2 r2 (((h.scm 0).spm 0).son 0) p2 H ln := by
              have := X2.go (R := []) (z' := z2) S3 (by rw [nu3]; exact X2.g) kc3 kh3 (by simp)
              exact this
            have X4 := X3.go S4 g4 kc4 kh4 T4e
            have h4hh : h4.hh = h.hh := kh4.2.2.2.2.2.1
            have len4 := X4.ho.len
            obtain ⟨s1, s2, s3, s4, s5, s6, s7⟩ := X4.ho.sh.tg
            obtain ⟨m1', m2', m3', m4', m5', m6', m7'⟩ := X4.ho.sh.ls
            have sL : (clD T4 (4 + w)).t = 105 := by rcases hw with rfl | rfl; exact s4; exact s5
            have mL : (clD T4 (4 + w)).l = 6 := by rcases hw with rfl | rfl; exact m4'; exact m5'
            have U1 := tc_uA (B := B) (c := c4) (z := z4) (T := T4) (i := 4 + w) (k := k) (e := e4) hB (by omega) (by rw [mL]; exact hk6) (by omega) ct4.lt (by rw [sL]; exact ct4.asg)
            obtain ⟨Ta, eTa⟩ : ∃ Ta, Ta = clS T4 (4 + w) ((clD T4 (4 + w)).sA k (some (mNx B + (1 + e4)))) := ⟨_, rfl⟩
            rw [← eTa] at U1
            have la : Ta.length = T4.length := by rw [eTa, clS_len]
            have a0 : clD Ta 0 = clD T4 0 := by rw [eTa]; exact clS_ne _ _ _ _ (by omega)
            have a6 : clD Ta 6 = clD T4 6 := by rw [eTa]; exact clS_ne _ _ _ _ (by omega)
            have G3 : gA (ovs B (c4 :: Ta) z4) (some (mNx B)) 133 = some (some (mNx B + (1 + 0))) := (rd5_gA t54 (by decide)).trans (congrArg some X4.a133)
            have G39 : gA (ovs B (c4 :: Ta) z4) (some (mNx B + (1 + 0))) 39 = some (some (mNx B + (1 + 6))) := (tc_gA (by omega) (by rw [a0, X4.ho.t0]; rfl)).trans (by rw [a0, X4.ho.sh.refs.2.2.2.2.2.1])
            have G7 : gI (ovs B (c4 :: Ta) z4) (some (mNx B)) 137 = some (n2 o4) := (rd5_get t54 (by decide)).trans (congrArg some i74)
            have U2 := tc_uI (B := B) (c := c4) (z := z4) (T := Ta) (i := 6) (k := 6 * w + k) (v := n2 o4) hB (by omega) (by rw [a6]; exact s6) (by rw [a6, m6']; omega) (by omega)
            obtain ⟨Tb, eTb⟩ : ∃ Tb, Tb = clS Ta 6 ((clD Ta 6).sI (6 * w + k) (n2 o4)) := ⟨_, rfl⟩
            rw [← eTb] at U2
            have ix : n2 (6 * w) + n2 k = n2 (6 * w + k) := n2_add _ _
            have XF : (bt (fX6_or (fX6_oneR 30) (some (mNx B)) (ovs B (c3 :: T2) z2)) fun x101 st => (uA st (some (mNx B + (1 + (4 + w)))) (n2 k) x101).bind fun st => (gA st (some (mNx B)) 133).bind fun x106 => (gA st x106 39).bind fun x109 => (gI st (some (mNx B)) 137).bind fun x116 => (uI st x109 (n2 (6 * w) + n2 k) x116).bind fun st => some ((.inl () : Unit ⊕ Nat), st)) = some (.inl (), ovs B (c4 :: Tb) z4) := by
              rw [y1, bt_inl]
              simp -implicitDefEqProofs only [Option.bind_some, bd_some, b2i_0, Bool.true_eq_false, Bool.false_eq_true, eq_self, if_true, if_false, not_true_eq_false, not_false_eq_true, U1, G3, G39, G7, ix, U2]
            -- the model
            have u1 : uI (mkM b' n s (m.sRH r4 h4)) (some 109) (n2 (86 + 42 * (2 * k + w))) (n2 o4) = some (mkM b' n s (m.sRH r4 (h4.sHh (upq h.hh (86 + 42 * (2 * k + w)) (n2 o4))))) := by rw [u_hhq (by omega), h4hh]
            have u2 : uI (mkM b' n s (m.sRH r4 (h4.sHh (upq h.hh (86 + 42 * (2 * k + w)) (n2 o4))))) (some 109) (n2 (86 + 42 * (2 * k + w) + 1)) (n2 l4'.length) = some (mkM b' n s (m.sRH r4 (h4.sHh (upq (upq h.hh (86 + 42 * (2 * k + w)) (n2 o4)) (86 + 42 * (2 * k + w) + 1) (n2 l4'.length))))) := (u_hhq (by omega)).trans rfl
            obtain ⟨f, f1, f2⟩ := M_cp (b' := b') (n := n) (s := s) (m := m) (r := r4) (h := h4) (to := 86 + 42 * (2 * k + w)) cm4 ll4 (by omega) l4'.length hcFuel 0 (upq (upq h.hh (86 + 42 * (2 * k + w)) (n2 o4)) (86 + 42 * (2 * k + w) + 1) (n2 l4'.length)) (by omega) (by unfold hcFuel; omega)
            have MF : (bd (fX4_cond (some 106) (mkM b' n s (m.sRH r2 (((h.scm 0).spm 0).son 0)))) fun x101 st => if ¬ x101 = 0 then (gA st (some 106) 62).bind fun x110 => (gI st (some 106) 83).bind fun x115 => (uI st x110 (n2 (86 + 42 * (2 * k + w))) x115).bind fun st => (gA st (some 106) 62).bind fun x120 => (gI st (some 106) 81).bind fun x127 => (uI st x120 (n2 (86 + 42 * (2 * k + w)) + (1 : Int32)) x127).bind fun st => bX4_readLaw_133 hcFuel (some 106) (n2 (86 + 42 * (2 * k + w))) (0 : Int32) st else some ((0 : Int32), st)) = some (1, mkM b' n s (m.sRH r4 (h4.sHh f))) := by
              have f1' : bX4_readLaw_133 hcFuel (some 106) (n2 (86 + 42 * (2 * k + w))) (0 : Int32) (mkM b' n s (m.sRH r4 (h4.sHh (upq (upq h.hh (86 + 42 * (2 * k + w)) (n2 o4)) (86 + 42 * (2 * k + w) + 1) (n2 l4'.length))))) = some (1, mkM b' n s (m.sRH r4 (h4.sHh f))) := f1
              have g83 : gI (mkM b' n s (m.sRH r4 h4)) (some 106) 83 = some (n2 o4) := g_on.trans (congrArg some on4)
              have g81 : ∀ q, gI (mkM b' n s (m.sRH r4 (h4.sHh q))) (some 106) 81 = some (n2 l4'.length) := fun q => g_cm.trans (congrArg some cm4)
              generalize hcFuel = fu at f1' ⊢
              rw [y2, bd_some]
              simp -implicitDefEqProofs only [Option.bind_some, bd_some, b2i_0, Bool.true_eq_false, Bool.false_eq_true, eq_self, if_true, if_false, not_true_eq_false, not_false_eq_true, show ((1 : Int32) = 0) = False from eq_false (by decide), gM_62, g83, u1, g81, show n2 (86 + 42 * (2 * k + w)) + (1 : Int32) = n2 (86 + 42 * (2 * k + w) + 1) from n2_add _ 1, u2, f1']
            have mh : MHouse f (H.sLaw k w cn o4) := by
              have mh0 := X1.ho.mh
              refine mh0.sLaw hk6 w2 ps4 ll4 lv4 ?_ ?_ (fun i hi => ?_) (fun v hv => ?_)
              · rw [f2, if_neg (by omega), upq_ne _ _ (by omega), upq_self]
              · rw [f2, if_neg (by omega), upq_self]
              · rw [f2, if_pos (by omega), show 86 + 42 * (2 * k + w) + 2 + i - (86 + 42 * (2 * k + w) + 2) = i by omega]; exact cd4 i hi
              · rw [f2, if_neg (by omega), upq_ne _ _ (by omega), upq_ne _ _ (by omega)]
            have HTb : HT (mNx B) Tb f (H.sLaw k w cn o4) ln ∧ Chg T4 Tb ∧ Tb.length = T4.length := by
              rcases hw with rfl | rfl
              · refine X4.ho.sLaw0 hk6 ct4 dp4 lv4 o41 o42 mh eTa ?_
                rw [eTb]; simp
              · exact X4.ho.sLaw1 hk6 ct4 dp4 lv4 o41 o42 mh eTa (by rw [eTb])
            obtain ⟨HTb, Cb, lb⟩ := HTb
            refine Or.inl ⟨c4, Tb, z4, r4, h4.sHh f, p4, H.sLaw k w cn o4, XF, MF, ⟨(S4.hh _).ch Cb, ?_, t54, HTb, X4.a133, X4.i134, X4.i135, X4.i136, X4.ml⟩, by omega, by omega⟩
            obtain ⟨b1, b2⟩ := g4
            exact ⟨by rw [lb]; exact b1, b2⟩
          · refine Or.inr ?_
            obtain ⟨e', c', T', z', r', h', y1, y2, y3⟩ := hb
            refine ⟨e', c', T', z', r', h', by rw [y1]; rfl, ?_, y3⟩
            rw [y2, bd_some, if_neg (fun q => q rfl)]
      · refine Or.inr (bad2.eq ?_ ?_)
        · rw [X18]
          unfold bX6_law_18 bX6_law_51 bX6_law_52
          simp -implicitDefEqProofs only [Option.bind_some, bd_some, b2i_0, Bool.true_eq_false, Bool.false_eq_true, eq_self, if_true, if_false, not_true_eq_false, not_false_eq_true, rd_iv5 X1.t5, X_need1', bt_inl, G2, I19, XL, q1, XC', l102, show (102 < ch) = True from eq_true (by omega), X_need0' S1.R 2, bt_inr]
        · unfold fX4_readLaw bX4_readLaw_41
          simp -implicitDefEqProofs only [Option.bind_some, bd_some, b2i_0, Bool.true_eq_false, Bool.false_eq_true, eq_self, if_true, if_false, not_true_eq_false, not_false_eq_true, ivM, m1, g_tok, k2, g66, q1, g70, wE, M_isIn, in_, decide_eq_false h102, M_badH, nz0]
    · refine Or.inr (bad2.eq ?_ ?_)
      · rw [X18]
        unfold bX6_law_18 bX6_law_51 bX6_law_52
        simp -implicitDefEqProofs only [Option.bind_some, bd_some, b2i_0, Bool.true_eq_false, Bool.false_eq_true, eq_self, if_true, if_false, not_true_eq_false, not_false_eq_true, rd_iv5 X1.t5, X_need1', bt_inl, G2, I19, XL, q1, hk1, X_need0' S1.R 2, bt_inr]
      · unfold fX4_readLaw bX4_readLaw_41
        simp -implicitDefEqProofs only [Option.bind_some, bd_some, b2i_0, Bool.true_eq_false, Bool.false_eq_true, eq_self, if_true, if_false, not_true_eq_false, not_false_eq_true, ivM, m1, g_tok, k2, g66, q1, hk1, M_badH, nz0]
  · rw [sRH_r] at k2; exact no (by rw [k1]; decide) (by rw [k2]; decide)
  · rw [sRH_r] at k2; exact no (by rw [k1]; decide) (by rw [k2]; decide)
end Law1
