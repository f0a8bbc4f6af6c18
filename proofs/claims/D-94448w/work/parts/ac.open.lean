set_option linter.unusedVariables false
set_option linter.unusedSimpArgs false
set_option maxRecDepth 100000
/-! ===== House.open: which seats a seat perceives ===== -/
def HS.wAr (H : HS) (g : Nat → Nat → Int64) : HS := HS.mk H.rows H.cols H.carry H.paid H.byRows H.kind H.price H.leaves H.law g
theorem wAr_ok {H : HS} {g : Nat → Nat → Int64} (ok : H.Ok) : (H.wAr g).Ok := ⟨ok.rows, ok.cols, ok.empty, ok.carry, ok.paid, ok.kind, ok.price, ok.leaves, ok.dep⟩
theorem wAr_size {H : HS} {g : Nat → Nat → Int64} : (H.wAr g).size = H.size := rfl
theorem wAr_bit (H : HS) (g : Nat → Nat → Int64) (r c : Int) : bitAtS (H.wAr g) r c = bitAtS H r c := rfl
theorem wAr_sp (H : HS) (g : Nat → Nat → Int64) : (H.wAr g).SameP H := ⟨rfl, rfl, fun _ => rfl⟩
/-- row v as e, the others as before -/
def rowF (g : Nat → Nat → Int64) (v : Nat) (e : Nat → Int64) : Nat → Nat → Int64 := fun a u => if u = v then e a else g a u
def KpO (b st : Mem) (h : Nat) : Prop := mNx st = mNx b ∧ mNs st = mNs b ∧ ∀ a, (a < h + 8 ∨ h + 14 ≤ a) → dyn a → Sm b st a
theorem KpO.refl (b : Mem) (h : Nat) : KpO b b h := ⟨rfl, rfl, fun a _ _ => Sm.refl b a⟩
theorem KpO.trans {b c d : Mem} {h : Nat} (k : KpO b c h) (j : KpO c d h) : KpO b d h := ⟨j.1.trans k.1, j.2.1.trans k.2.1, fun a ha hd => (k.2.2 a ha hd).trans (j.2.2 a ha hd)⟩
section OpenX
variable {b st : Mem} {x : XS} {h v : Nat} {H : HS} {g : Nat → Nat → Int64} {e : Nat → Int64}
/-- an element written into an array of longs -/
theorem uJ_dyn {d : Nat} (hd : dyn d) (h64 : 64 ≤ d) (hl : d < mNx b) (ht : mTag b d = 103) {i : Nat} (hi : i < mLen b d) (hi2 : i < 1000) (w : Int64) :
    ∃ st, uJ (mkX b x) (some d) (n2 i) w = some (mkX st x) ∧ mNx st = mNx b ∧ mNs st = mNs b ∧ (∀ a, a ≠ d → dyn a → Sm b st a) ∧ mTag st d = 103 ∧ mLen st d = mLen b d ∧ mJ st d = upq (mJ b d) i w := by
  have sm : ∀ a, a ≠ d → Sm (mkX b x) (mSJ (mkX b x) d i w) a := fun a ha => ⟨rfl, rfl, rfl, up2_rn _ ha, rfl⟩
  have e1 : mkX (mSJ (mkX b x) d i w) x = mSJ (mkX b x) d i w := mkX_same (b := b) (fun a ha => sm a (fun e => ha (by rw [e]; exact hd)))
  refine ⟨mSJ (mkX b x) d i w, ?_, rfl, rfl, fun a ha hda => ?_, (ov_tag (x := x) hd).trans ht, ov_len (x := x) hd, ?_⟩
  · rw [e1]
    have cond : 64 ≤ d ∧ d < mNx (mkX b x) ∧ mTag (mkX b x) d = 103 ∧ (0 : Int32) ≤ n2 i ∧ (n2 i).toNatClampNeg < mLen (mkX b x) d := ⟨h64, hl, (ov_tag hd).trans ht, n2_pos (by omega), by rw [n2_nat (by omega), ov_len hd]; exact hi⟩
    refine (if_pos cond).trans ?_
    rw [n2_nat (by omega)]
  · obtain ⟨s1, s2, s3, s4, s5⟩ := sm a ha
    exact ⟨s1.trans (ov_tag hda), s2.trans (ov_len hda), s3.trans (ov_I hda), s4.trans (ov_J hda), s5.trans (ov_A hda)⟩
  · exact (up2_rs _ _ _ _).trans (congrArg (fun g => upq g i w) (ov_J (x := x) hd))
theorem XHouse.sAr {a : Nat} {g' : Nat → Nat → Int64} (X : XHouse b h H) (ha : a < 6) (hx : mNx st = mNx b) (hs : ∀ q, q ≠ h + 8 + a → dyn q → Sm b st q) (ht : mTag st (h + 8 + a) = 103) (hl : mLen st (h + 8 + a) = 64) (hj : ∀ q v, q < 6 → v < H.size → mJ st (h + 8 + q) v = g' q v) : XHouse st h (H.wAr g') := by
  have s : ∀ j, j < 14 → j ≠ 8 + a → Sm b st (h + j) := fun j hj hne => hs _ (by omega) (X.dynJ hj)
  have s0 : Sm b st h := s 0 (by decide) (by omega)
  have E : ∀ q, q < mNx b → dyn q → mTag b q < 100 → Sm b st q := fun q hq hd htq => hs q (fun e => by rw [e, X.t8 a ha] at htq; omega) hd
  refine ⟨X.at_, by rw [hx]; exact X.lt, s0.1.trans X.tag, ?_, ?_, ?_, ?_, ?_, ?_, ?_, ?_, ?_, ?_, ?_, ?_, ?_, ?_, ?_, ?_, ?_, ?_, ?_, ?_, ?_, ?_, ?_, ?_, ?_, ?_, ?_, ?_, ?_, ?_, ?_, ?_, ?_, ?_, ?_, ?_, ?_⟩
  · rw [s0.2.2.2.2]; exact X.r34
  · rw [s0.2.2.2.2]; exact X.r35
  · rw [s0.2.2.2.2]; exact X.r36
  · rw [s0.2.2.2.2]; exact X.r37
  · rw [s0.2.2.2.2]; exact X.r38
  · rw [s0.2.2.2.2]; exact X.r39
  · rw [s0.2.2.2.2]; exact X.r40
  · exact (s 1 (by decide) (by omega)).1.trans X.t1
  · exact (s 2 (by decide) (by omega)).1.trans X.t2
  · exact (s 3 (by decide) (by omega)).1.trans X.t3
  · exact (s 4 (by decide) (by omega)).1.trans X.t4
  · exact (s 5 (by decide) (by omega)).1.trans X.t5
  · exact (s 6 (by decide) (by omega)).1.trans X.t6
  · exact (s 7 (by decide) (by omega)).1.trans X.t7
  · intro q hq
    by_cases e : q = a
    · rw [e]; exact ht
    · rw [Nat.add_assoc]; refine (s (8 + q) (by omega) (by omega)).1.trans ?_; rw [← Nat.add_assoc]; exact X.t8 q hq
  · exact (s 1 (by decide) (by omega)).2.1.trans X.l1
  · exact (s 2 (by decide) (by omega)).2.1.trans X.l2
  · exact (s 3 (by decide) (by omega)).2.1.trans X.l3
  · exact (s 4 (by decide) (by omega)).2.1.trans X.l4
  · exact (s 5 (by decide) (by omega)).2.1.trans X.l5
  · exact (s 6 (by decide) (by omega)).2.1.trans X.l6
  · exact (s 7 (by decide) (by omega)).2.1.trans X.l7
  · intro q hq
    by_cases e : q = a
    · rw [e]; exact hl
    · rw [Nat.add_assoc]; refine (s (8 + q) (by omega) (by omega)).2.1.trans ?_; rw [← Nat.add_assoc]; exact X.l8 q hq
  · intro q hq; rw [(s 7 (by decide) (by omega)).2.2.2.2]; exact X.r7 q hq
  · rw [s0.2.2.1]; exact X.rows
  · rw [s0.2.2.1]; exact X.cols
  · rw [s0.2.2.1]; exact X.carry
  · rw [s0.2.2.1]; exact X.paid
  · rw [s0.2.2.1]; exact X.byRows
  · intro v hv; rw [(s 1 (by decide) (by omega)).2.2.1]; exact X.kind v hv
  · intro r hr; rw [(s 2 (by decide) (by omega)).2.2.1]; exact X.price r hr
  · intro r hr; rw [(s 3 (by decide) (by omega)).2.2.1]; exact X.leaves r hr
  · intro k hk hl; rw [(s 4 (by decide) (by omega)).2.2.2.2]; exact X.up0 k hk hl
  · intro k c o hk hl
    obtain ⟨q1, q, q2, q3⟩ := X.up k c o hk hl
    refine ⟨?_, q, ?_, q3.smT (by rw [hx]; exact Nat.le_refl _) E⟩
    · rw [(s 6 (by decide) (by omega)).2.2.1]; exact q1
    · rw [(s 4 (by decide) (by omega)).2.2.2.2]; exact q2
  · intro k hk hl; rw [(s 5 (by decide) (by omega)).2.2.2.2]; exact X.down0 k hk hl
  · intro k c o hk hl
    obtain ⟨q1, q, q2, q3⟩ := X.down k c o hk hl
    refine ⟨?_, q, ?_, q3.smT (by rw [hx]; exact Nat.le_refl _) E⟩
    · rw [(s 6 (by decide) (by omega)).2.2.1]; exact q1
    · rw [(s 5 (by decide) (by omega)).2.2.2.2]; exact q2
  · exact hj
theorem X_uar {a : Nat} (X : XHouse b h (H.wAr (rowF g v e))) (h64 : H.size ≤ 64) (ha : a < 6) (hv : v < H.size) (w : Int64) :
    ∃ st, uJ (mkX b x) (some (h + 8 + a)) (n2 v) w = some (mkX st x) ∧ XHouse st h (H.wAr (rowF g v (upq e a w))) ∧ KpO b st h := by
  have hd : dyn (h + 8 + a) := by rw [Nat.add_assoc]; exact X.dynJ (by omega)
  have hl : h + 8 + a < mNx b := by rw [Nat.add_assoc]; exact X.ltJ (by omega)
  obtain ⟨st, e1, e2, e3, e4, e5, e6, e7⟩ := uJ_dyn (x := x) hd (by have := X.at_; omega) hl (X.t8 a ha) (i := v) (by rw [X.l8 a ha]; omega) (by omega) w
  refine ⟨st, e1, ?_, e2, e3, fun q hq hdq => e4 q (by omega) hdq⟩
  have := X.sAr (g' := rowF g v (upq e a w)) ha e2 e4 e5 (e6.trans (X.l8 a ha)) (fun q u hq hu => ?_)
  · exact this
  · have old := X.area q u hq hu
    change mJ b (h + 8 + q) u = rowF g v e q u at old
    by_cases eq : q = a
    · subst eq
      rw [e7]
      by_cases eu : u = v
      · rw [eu, upq_self]; unfold rowF; rw [if_pos rfl, upq_self]
      · rw [upq_ne _ _ eu, old]; unfold rowF; rw [if_neg eu, if_neg eu]
    · rw [(e4 (h + 8 + q) (by omega) (by rw [Nat.add_assoc]; exact X.dynJ (by omega))).2.2.2.1, old]
      unfold rowF
      by_cases eu : u = v
      · rw [if_pos eu, if_pos eu, upq_ne _ _ eq]
      · rw [if_neg eu, if_neg eu]
/-- see -/
theorem X_see {a : Nat} {r c : Int} (X : XHouse b h (H.wAr (rowF g v e))) (ok : H.Ok) (ha : a < 6) (hv : v < H.size) (hr : -100 ≤ r ∧ r ≤ 100) (hc : -100 ≤ c ∧ c ≤ 100) :
    ∃ st, fX2_see (some h) (n2 a) (n2 v) (i2 r) (i2 c) (mkX b x) = some ((), mkX st x) ∧ XHouse st h (H.wAr (rowF g v (upq e a (e a ||| bitAtS H r c)))) ∧ KpO b st h := by
  have h64 := ok.size
  have r8 := ok.rows
  have c8 := ok.cols
  have g28 : gI (mkX b x) (some h) 28 = some (n2 H.rows) := xh_28 (x := x) (H := H.wAr (rowF g v e)) X
  have g29 : gI (mkX b x) (some h) 29 = some (n2 H.cols) := xh_29 (x := x) (H := H.wAr (rowF g v e)) X
  have d1 : decide ((0 : Int32) ≤ i2 r ∧ i2 r ≤ n2 H.rows - 1) = decide (0 ≤ r ∧ r < H.rows) := decide_eq_decide.mpr (by
    rw [li_0, li_1, nn_sub, ni_le (by decide) (by omega) (by omega), ii_le (by omega) (by omega) (by omega) (by omega)]
    omega)
  have d2 : decide ((0 : Int32) ≤ i2 c ∧ i2 c ≤ n2 H.cols - 1) = decide (0 ≤ c ∧ c < H.cols) := decide_eq_decide.mpr (by
    rw [li_0, li_1, nn_sub, ni_le (by decide) (by omega) (by omega), ii_le (by omega) (by omega) (by omega) (by omega)]
    omega)
  have same : ∀ w, w = 0 → XHouse b h (H.wAr (rowF g v (upq e a (e a ||| w)))) := fun w hw => by
    have : e a ||| w = e a := by
      rw [hw]
      refine tb_ext fun k _ => ?_
      rw [tb_or, tb_zero, Bool.or_false]
    rw [this, upd_same]; exact X
  unfold fX2_see
  by_cases hr1 : 0 ≤ r ∧ r < H.rows
  · by_cases hc1 : 0 ≤ c ∧ c < H.cols
    · obtain ⟨i, rfl⟩ : ∃ i : Nat, r = i := ⟨r.toNat, by omega⟩
      obtain ⟨j, rfl⟩ : ∃ j : Nat, c = j := ⟨c.toNat, by omega⟩
      have i8 : i < H.rows := by omega
      have j8 : j < H.cols := by omega
      have ij : H.cols * i + j < H.size := by
        show H.cols * i + j < H.rows * H.cols
        have : H.cols * (i + 1) ≤ H.cols * H.rows := Nat.mul_le_mul_left _ (by omega)
        rw [Nat.mul_add, Nat.mul_one, Nat.mul_comm H.cols H.rows] at this; omega
      have ix : n2 H.cols * i2 (i : Int) + i2 (j : Int) = n2 (H.cols * i + j) := by rw [← n2_i2, ← n2_i2, n2_mul, n2_add]
      have kd : aI (mkX b x) (some (h + 1)) (n2 (H.cols * i + j)) = some (n2 (kindX (H.kind (H.cols * i + j)))) := xh_kind (x := x) (H := H.wAr (rowF g v e)) X ij h64
      have bt0 : bitAtS H (i : Int) (j : Int) = if H.kind (H.cols * i + j) = 0 then 0 else bitS (H.cols * i + j) := by
        unfold bitAtS seatAt
        rw [decide_eq_true hr1, decide_eq_true hc1, Int.toNat_natCast, Int.toNat_natCast]
        by_cases hk : H.kind (H.cols * i + j) = 0
        · rw [if_pos hk, decide_eq_false (fun q => q hk)]; rfl
        · rw [if_neg hk, decide_eq_true hk]; rfl
      by_cases hk : H.kind (H.cols * i + j) = 0
      · refine ⟨b, ?_, same _ (by rw [bt0, if_pos hk]), KpO.refl b h⟩
        have k9 : (n2 (kindX (H.kind (H.cols * i + j))) = (9 : Int32)) = True := by rw [kindX_9 (ok.kind _)]; exact eq_true hk
        simp -implicitDefEqProofs only [Option.bind_some, bd_some, b2i_0, Bool.true_eq_false, Bool.false_eq_true, eq_self, if_true, if_false, not_true_eq_false, not_false_eq_true, g28, X_isIn, d1, decide_eq_true hr1, g29, d2, decide_eq_true hc1, xh_34 X, ix, kd, k9]
      · have k9 : (n2 (kindX (H.kind (H.cols * i + j))) = (9 : Int32)) = False := by rw [kindX_9 (ok.kind _)]; exact eq_false hk
        have ar : aJ (mkX b x) (some (h + 8 + a)) (n2 v) = some (e a) := by
          rw [xh_ar X ha hv h64]
          show some (rowF g v e a v) = _
          unfold rowF; rw [if_pos rfl]
        obtain ⟨st, u1, u2, u3⟩ := X_uar (x := x) X h64 ha hv (e a ||| shlL (1 : Int64) (n2 (H.cols * i + j)))
        refine ⟨st, ?_, ?_, u3⟩
        · simp -implicitDefEqProofs only [Option.bind_some, bd_some, b2i_0, Bool.true_eq_false, Bool.false_eq_true, eq_self, if_true, if_false, not_true_eq_false, not_false_eq_true, g28, X_isIn, d1, decide_eq_true hr1, g29, d2, decide_eq_true hc1, xh_34 X, ix, kd, k9, xh_40 X, xh_area X ha, ar, u1]
        · rw [bt0, if_neg hk]; exact u2
    · refine ⟨b, ?_, same _ ?_, KpO.refl b h⟩
      · simp -implicitDefEqProofs only [Option.bind_some, bd_some, b2i_0, Bool.true_eq_false, Bool.false_eq_true, eq_self, if_true, if_false, not_true_eq_false, not_false_eq_true, g28, X_isIn, d1, decide_eq_true hr1, g29, d2, decide_eq_false hc1]
      · unfold bitAtS seatAt
        rw [decide_eq_false hc1, Bool.false_and, Bool.and_false]; rfl
  · refine ⟨b, ?_, same _ ?_, KpO.refl b h⟩
    · simp -implicitDefEqProofs only [Option.bind_some, bd_some, b2i_0, Bool.true_eq_false, Bool.false_eq_true, eq_self, if_true, if_false, not_true_eq_false, not_false_eq_true, g28, X_isIn, d1, decide_eq_false hr1]
    · unfold bitAtS seatAt
      rw [decide_eq_false hr1, Bool.false_and]; rfl
end OpenX
section OpenL
variable {x : XS} {h v r c : Nat} {H : HS} {g : Nat → Nat → Int64} {kk2 : Rf → Int32 → Mem → Option (Rf × Mem)}
/-- the seats near, inner loop -/
theorem X_nin (ok : H.Ok) (hv : v < H.size) (hr : r < 64) (hc : c < 64) {i : Nat} (hi : i < 3) {kk93 : Rf → Int32 → Int32 → Int32 → Int32 → Mem → Option (Rf × Mem)} : ∀ (k f j : Nat) (b : Mem) (e : Nat → Int64), j + k = 3 → k < f → XHouse b h (H.wAr (rowF g v e)) → e 0 = nearAcc H r c (3 * i + j) →
    ∃ st e', bX2_open_102 kk2 kk93 f (some h) (n2 v) (n2 r) (n2 c) (i2 ((i : Int) - 1)) (i2 ((j : Int) - 1)) (mkX b x) = kk93 (some h) (n2 v) (n2 r) (n2 c) (i2 (((i + 1 : Nat) : Int) - 1)) (mkX st x) ∧ XHouse st h (H.wAr (rowF g v e')) ∧ KpO b st h ∧ e' 0 = nearAcc H r c (3 * (i + 1)) ∧ ∀ a, a ≠ 0 → e' a = e a := by
  intro k
  induction k with
  | zero =>
    intro f j b e hj hf X he
    obtain ⟨f, rfl⟩ : ∃ g, f = g + 1 := ⟨f - 1, by omega⟩
    have hj2 : j = 3 := by omega
    subst hj2
    refine ⟨b, e, ?_, X, KpO.refl b h, by rw [he]; congr 1, fun _ _ => rfl⟩
    show bX2_open_102B kk2 kk93 _ _ _ _ _ _ _ _ = _
    unfold bX2_open_102B
    have a1 : i2 ((i : Int) - 1) + 1 = i2 (((i + 1 : Nat) : Int) - 1) := by rw [show (1 : Int32) = i2 1 from rfl, i2_add]; congr 1; omega
    rw [if_pos (by decide), a1]
  | succ k ih =>
    intro f j b e hj hf X he
    obtain ⟨f, rfl⟩ : ∃ g, f = g + 1 := ⟨f - 1, by omega⟩
    have le : ((2 : Int32) ≤ i2 ((j : Int) - 1)) = False := by rw [li_2, ni_le (by decide) (by omega) (by omega)]; exact eq_false (by omega)
    have i0 : (i2 ((i : Int) - 1) = (0 : Int32)) = (i = 1) := by rw [li_0, in_eq (by decide) (by omega) (by omega)]; exact propext (by omega)
    have j0 : (i2 ((j : Int) - 1) = (0 : Int32)) = (j = 1) := by rw [li_0, in_eq (by decide) (by omega) (by omega)]; exact propext (by omega)
    have a1 : i2 ((j : Int) - 1) + 1 = i2 (((j + 1 : Nat) : Int) - 1) := by rw [show (1 : Int32) = i2 1 from rfl, i2_add]; congr 1; omega
    have q1 : n2 r + i2 ((i : Int) - 1) = i2 ((r : Int) + ((i : Int) - 1)) := ni_add r _
    have q2 : n2 c + i2 ((j : Int) - 1) = i2 ((c : Int) + ((j : Int) - 1)) := ni_add c _
    have nA : nearAcc H r c (3 * i + (j + 1)) = if 3 * i + j = 4 then nearAcc H r c (3 * i + j) else nearAcc H r c (3 * i + j) ||| bitAtS H ((r : Int) + ((i : Int) - 1)) ((c : Int) + ((j : Int) - 1)) := by
      show nearAcc H r c (3 * i + j + 1) = _
      have d1 : (3 * i + j) / 3 = i := by omega
      have d2 : (3 * i + j) % 3 = j := by omega
      simp -implicitDefEqProofs only [nearAcc, d1, d2]
      rw [show (r : Int) + (i : Int) - 1 = (r : Int) + ((i : Int) - 1) by omega, show (c : Int) + (j : Int) - 1 = (c : Int) + ((j : Int) - 1) by omega]
    show ∃ st e', bX2_open_102B kk2 kk93 (bX2_open_102 kk2 kk93 f) _ _ _ _ _ _ _ = _ ∧ _
    unfold bX2_open_102B bX2_open_118 bX2_open_132
    by_cases h4 : 3 * i + j = 4
    · rw [if_pos h4] at nA
      obtain ⟨st, e', s1, s2, s3, s4, s5⟩ := ih f (j + 1) b e (by omega) (by omega) X (by rw [nA]; exact he)
      refine ⟨st, e', ?_, s2, s3, s4, s5⟩
      rw [← s1]
      simp -implicitDefEqProofs only [Option.bind_some, bd_some, b2i_0, Bool.true_eq_false, Bool.false_eq_true, eq_self, if_true, if_false, not_true_eq_false, not_false_eq_true, le, i0, show (i = 1) = True from eq_true (by omega), j0, show (j = 1) = True from eq_true (by omega), a1]
    · rw [if_neg h4] at nA
      obtain ⟨st0, t1, t2, t3⟩ := X_see (x := x) (a := 0) X ok (by decide) hv (r := (r : Int) + ((i : Int) - 1)) (c := (c : Int) + ((j : Int) - 1)) (by omega) (by omega)
      have t1' : fX2_see (some h) (0 : Int32) (n2 v) (i2 ((r : Int) + ((i : Int) - 1))) (i2 ((c : Int) + ((j : Int) - 1))) (mkX b x) = some ((), mkX st0 x) := t1
      obtain ⟨st, e', s1, s2, s3, s4, s5⟩ := ih f (j + 1) st0 _ (by omega) (by omega) t2 (by rw [nA, ← he]; exact upq_self _ _ _)
      refine ⟨st, e', ?_, s2, t3.trans s3, s4, fun a ha => (s5 a ha).trans (upq_ne _ _ ha)⟩
      rw [← s1]
      by_cases i1 : i = 1
      · simp -implicitDefEqProofs only [Option.bind_some, bd_some, b2i_0, Bool.true_eq_false, Bool.false_eq_true, eq_self, if_true, if_false, not_true_eq_false, not_false_eq_true, le, i0, show (i = 1) = True from eq_true i1, j0, show (j = 1) = False from eq_false (by omega), q1, q2, xh_iv X, t1', a1]
      · simp -implicitDefEqProofs only [Option.bind_some, bd_some, b2i_0, Bool.true_eq_false, Bool.false_eq_true, eq_self, if_true, if_false, not_true_eq_false, not_false_eq_true, le, i0, show (i = 1) = False from eq_false i1, q1, q2, xh_iv X, t1', a1]
/-- the seats near, and what is behind them -/
theorem X_nout (ok : H.Ok) (hv : v < H.size) (hr : r = v / H.cols) (hc : c = v % H.cols) : ∀ (k f i : Nat) (b : Mem) (e : Nat → Int64), i + k = 3 → k < f → XHouse b h (H.wAr (rowF g v e)) → e 0 = nearAcc H r c (3 * i) →
    ∃ st e', bX2_open_93 kk2 f (some h) (n2 v) (n2 r) (n2 c) (i2 ((i : Int) - 1)) (mkX b x) = bX2_open_178 kk2 hcFuel (some h) (n2 v) (n2 r) (n2 c) (b2i (hidS H r v)) (1 : Int32) (mkX st x) ∧ XHouse st h (H.wAr (rowF g v e')) ∧ KpO b st h ∧ e' 0 = nearAcc H r c 9 ∧ ∀ a, a ≠ 0 → e' a = e a := by
  have h64 := ok.size
  have r8 := ok.rows
  have c8 := ok.cols
  have hp := pos_of_size hv
  have hrl := row_lt hv
  have hcl := Nat.mod_lt v hp.1
  intro k
  induction k with
  | zero =>
    intro f i b e hi hf X he
    obtain ⟨f, rfl⟩ : ∃ g, f = g + 1 := ⟨f - 1, by omega⟩
    have hi2 : i = 3 := by omega
    subst hi2
    refine ⟨b, e, ?_, X, KpO.refl b h, he, fun _ _ => rfl⟩
    show bX2_open_93B kk2 _ _ _ _ _ _ _ = _
    unfold bX2_open_93B bX2_open_172 bX2_open_173 hidS
    generalize hcFuel = fu
    have g29 : gI (mkX b x) (some h) 29 = some (n2 H.cols) := xh_29 (x := x) (H := H.wAr (rowF g v e)) X
    by_cases h0 : r = 0
    · simp -implicitDefEqProofs only [Option.bind_some, bd_some, b2i_0, Bool.true_eq_false, Bool.false_eq_true, eq_self, if_true, if_false, not_true_eq_false, not_false_eq_true, show ((2 : Int32) ≤ i2 (((3 : Nat) : Int) - 1)) = True from eq_true (by decide), show (n2 r ≤ (0 : Int32)) = True from by rw [h0]; exact eq_true (by decide)]
      rw [h0]; rfl
    · have lr : (n2 r ≤ (0 : Int32)) = False := by rw [li_0, n2_le (by omega) (by decide)]; exact eq_false (by omega)
      have dm := Nat.div_add_mod v H.cols
      rw [← hr, ← hc] at dm
      have e1 : H.cols * (r - 1) + c = v - H.cols := by
        obtain ⟨q, rfl⟩ : ∃ q, r = q + 1 := ⟨r - 1, by omega⟩
        rw [Nat.add_sub_cancel, Nat.mul_add, Nat.mul_one] at *
        omega
      have ix : n2 H.cols * (n2 r - (1 : Int32)) + n2 c = n2 (v - H.cols) := by
        rw [li_1, n2_sub (by omega), n2_mul, n2_add, e1]
      have kd : aI (mkX b x) (some (h + 1)) (n2 (v - H.cols)) = some (n2 (kindX (H.kind (v - H.cols)))) := xh_kind (x := x) (H := H.wAr (rowF g v e)) X (by show v - H.cols < H.size; omega) h64
      by_cases hk : H.kind (v - H.cols) = 0
      · have k9 : (n2 (kindX (H.kind (v - H.cols))) = (9 : Int32)) = True := by rw [kindX_9 (ok.kind _)]; exact eq_true hk
        simp -implicitDefEqProofs only [Option.bind_some, bd_some, b2i_0, Bool.true_eq_false, Bool.false_eq_true, eq_self, if_true, if_false, not_true_eq_false, not_false_eq_true, show ((2 : Int32) ≤ i2 (((3 : Nat) : Int) - 1)) = True from eq_true (by decide), lr, xh_34 X, g29, ix, kd, k9]
        rw [decide_eq_true (Nat.pos_of_ne_zero h0), decide_eq_true hk]; rfl
      · have k9 : (n2 (kindX (H.kind (v - H.cols))) = (9 : Int32)) = False := by rw [kindX_9 (ok.kind _)]; exact eq_false hk
        simp -implicitDefEqProofs only [Option.bind_some, bd_some, b2i_0, Bool.true_eq_false, Bool.false_eq_true, eq_self, if_true, if_false, not_true_eq_false, not_false_eq_true, show ((2 : Int32) ≤ i2 (((3 : Nat) : Int) - 1)) = True from eq_true (by decide), lr, xh_34 X, g29, ix, kd, k9]
        rw [decide_eq_true (Nat.pos_of_ne_zero h0), decide_eq_false hk]; rfl
  | succ k ih =>
    intro f i b e hi hf X he
    obtain ⟨f, rfl⟩ : ∃ g, f = g + 1 := ⟨f - 1, by omega⟩
    have le : ((2 : Int32) ≤ i2 ((i : Int) - 1)) = False := by rw [li_2, ni_le (by decide) (by omega) (by omega)]; exact eq_false (by omega)
    obtain ⟨st0, e0, t1, t2, t3, t4, t5⟩ := X_nin (x := x) (kk2 := kk2) (kk93 := bX2_open_93 kk2 f) (r := r) (c := c) ok hv (by omega) (by omega) (show i < 3 by omega) 3 hcFuel 0 b e (by omega) (by unfold hcFuel; omega) X he
    obtain ⟨st, e', s1, s2, s3, s4, s5⟩ := ih f (i + 1) st0 e0 (by omega) (by omega) t2 t4
    refine ⟨st, e', ?_, s2, t3.trans s3, s4, fun a ha => (s5 a ha).trans (t5 a ha)⟩
    rw [← s1]
    show bX2_open_93B kk2 (bX2_open_93 kk2 f) _ _ _ _ _ _ = _
    unfold bX2_open_93B
    refine (if_neg (by rw [le]; exact id)).trans ?_
    exact t1
/-- the seats seen, one row of them -/
theorem X_sin (ok : H.Ok) (hv : v < H.size) (hr : r < 64) (hc : c < 64) {q : Nat} (hq : q ≤ 3) {w : Int32} {acc : Int64} {kk178 : Rf → Int32 → Int32 → Int32 → Int32 → Int32 → Mem → Option (Rf × Mem)} : ∀ (k f j : Nat) (b : Mem) (e : Nat → Int64), j + k = 2 * q + 1 → k < f → XHouse b h (H.wAr (rowF g v e)) → e 4 = seenIn H r c q acc j →
    ∃ st e', bX2_open_194 kk2 kk178 f (some h) (n2 v) (n2 r) (n2 c) w (n2 q) (i2 (-(q : Int) + j)) (mkX b x) = kk178 (some h) (n2 v) (n2 r) (n2 c) w (n2 (q + 1)) (mkX st x) ∧ XHouse st h (H.wAr (rowF g v e')) ∧ KpO b st h ∧ e' 4 = seenIn H r c q acc (2 * q + 1) ∧ ∀ a, a ≠ 4 → e' a = e a := by
  intro k
  induction k with
  | zero =>
    intro f j b e hj hf X he
    obtain ⟨f, rfl⟩ : ∃ g, f = g + 1 := ⟨f - 1, by omega⟩
    have hj2 : j = 2 * q + 1 := by omega
    subst hj2
    refine ⟨b, e, ?_, X, KpO.refl b h, he, fun _ _ => rfl⟩
    show bX2_open_194B kk2 kk178 _ _ _ _ _ _ _ _ _ = _
    unfold bX2_open_194B
    rw [if_pos (show n2 q < i2 (-(q : Int) + (2 * q + 1 : Nat)) by rw [n2_i2, i2_lt (by omega) (by omega)]; omega), show n2 q + 1 = n2 (q + 1) from n2_add q 1]
  | succ k ih =>
    intro f j b e hj hf X he
    obtain ⟨f, rfl⟩ : ∃ g, f = g + 1 := ⟨f - 1, by omega⟩
    have q1 : n2 r - n2 q = i2 ((r : Int) - q) := i2_sub (r : Int) (q : Int)
    have q2 : n2 c + i2 (-(q : Int) + j) = i2 ((c : Int) + (-(q : Int) + j)) := i2_add (c : Int) _
    have q3 : i2 (-(q : Int) + j) + 1 = i2 (-(q : Int) + (j + 1 : Nat)) := by rw [show (1 : Int32) = i2 1 from rfl, i2_add]; congr 1; omega
    obtain ⟨st0, t1, t2, t3⟩ := X_see (x := x) (a := 4) X ok (by decide) hv (r := (r : Int) - q) (c := (c : Int) + (-(q : Int) + j)) (by omega) (by omega)
    have t1' : fX2_see (some h) (4 : Int32) (n2 v) (i2 ((r : Int) - q)) (i2 ((c : Int) + (-(q : Int) + j))) (mkX b x) = some ((), mkX st0 x) := t1
    obtain ⟨st, e', s1, s2, s3, s4, s5⟩ := ih f (j + 1) st0 _ (by omega) (by omega) t2 (by rw [upq_self, he]; rfl)
    refine ⟨st, e', ?_, s2, t3.trans s3, s4, fun a ha => (s5 a ha).trans (upq_ne _ _ ha)⟩
    rw [← s1]
    show bX2_open_194B kk2 kk178 (bX2_open_194 kk2 kk178 f) _ _ _ _ _ _ _ _ = _
    unfold bX2_open_194B
    rw [if_neg (show ¬ n2 q < i2 (-(q : Int) + j) by rw [n2_i2, i2_lt (by omega) (by omega)]; omega)]
    simp -implicitDefEqProofs only [Option.bind_some, bd_some, b2i_0, Bool.true_eq_false, Bool.false_eq_true, eq_self, if_true, if_false, not_true_eq_false, not_false_eq_true, q1, q2, xh_iv X, t1', q3]
theorem X_sout (ok : H.Ok) (hv : v < H.size) (hr : r < 64) (hc : c < 64) (hd : Bool) : ∀ (k f i : Nat) (b : Mem) (e : Nat → Int64), i + k = 3 → k < f → XHouse b h (H.wAr (rowF g v e)) → e 4 = (if hd = true then 0 else seenAcc H r c i) →
    ∃ st e', bX2_open_178 kk2 f (some h) (n2 v) (n2 r) (n2 c) (b2i hd) (n2 (i + 1)) (mkX b x) = bX2_open_230 kk2 hcFuel (some h) (n2 v) (0 : Int32) (mkX st x) ∧ XHouse st h (H.wAr (rowF g v e')) ∧ KpO b st h ∧ e' 4 = (if hd = true then 0 else seenAcc H r c 3) ∧ ∀ a, a ≠ 4 → e' a = e a := by
  intro k
  induction k with
  | zero =>
    intro f i b e hi hf X he
    obtain ⟨f, rfl⟩ : ∃ g, f = g + 1 := ⟨f - 1, by omega⟩
    have hi2 : i = 3 := by omega
    subst hi2
    refine ⟨b, e, ?_, X, KpO.refl b h, he, fun _ _ => rfl⟩
    show bX2_open_178B kk2 _ _ _ _ _ _ _ _ = _
    unfold bX2_open_178B bX2_open_227
    generalize hcFuel = fu
    rw [if_pos (by decide)]
  | succ k ih =>
    intro f i b e hi hf X he
    obtain ⟨f, rfl⟩ : ∃ g, f = g + 1 := ⟨f - 1, by omega⟩
    have lt : ((3 : Int32) < n2 (i + 1)) = False := by rw [li_3, n2_lt (by decide) (by omega)]; exact eq_false (by omega)
    cases hd
    · have he' : e 4 = seenAcc H r c i := he
      have ng : -(n2 (i + 1)) = i2 (-((i + 1 : Nat) : Int) + (0 : Nat)) := by
        show -(Int32.ofInt ((i + 1 : Nat) : Int)) = Int32.ofInt _
        rw [← Int32.ofInt_neg]; congr 1
      obtain ⟨st0, e0, t1, t2, t3, t4, t5⟩ := X_sin (x := x) (kk2 := kk2) (kk178 := bX2_open_178 kk2 f) (r := r) (c := c) (w := b2i false) (acc := seenAcc H r c i) ok hv hr hc (show i + 1 ≤ 3 by omega) (2 * (i + 1) + 1) hcFuel 0 b e (by omega) (by unfold hcFuel; omega) X he'
      obtain ⟨st, e', s1, s2, s3, s4, s5⟩ := ih f (i + 1) st0 e0 (by omega) (by omega) t2 (by rw [t4]; rfl)
      refine ⟨st, e', ?_, s2, t3.trans s3, s4, fun a ha => (s5 a ha).trans (t5 a ha)⟩
      rw [← s1, ← t1, ← ng]
      show bX2_open_178B kk2 (bX2_open_178 kk2 f) _ _ _ _ _ _ _ = _
      unfold bX2_open_178B
      generalize hcFuel = fu
      rw [if_neg (by rw [lt]; exact id), if_neg (fun q => q rfl)]
    · refine ⟨b, e, ?_, X, KpO.refl b h, he, fun _ _ => rfl⟩
      show bX2_open_178B kk2 (bX2_open_178 kk2 f) _ _ _ _ _ _ _ = _
      unfold bX2_open_178B bX2_open_227
      generalize hcFuel = fu
      rw [if_neg (by rw [lt]; exact id), if_pos (by decide)]
/-- the whole house -/
theorem bit_o (ok : H.Ok) {o : Nat} (ho : o < H.size) : bitAtS H ((o / H.cols : Nat) : Int) ((o % H.cols : Nat) : Int) = if H.kind o = 0 then 0 else bitS o := by
  have hp := pos_of_size ho
  have hrl := row_lt ho
  have hcl := Nat.mod_lt o hp.1
  have key : ∀ q w : Nat, q < w → (0 : Int) ≤ (q : Int) ∧ (q : Int) < (w : Int) := fun q w hq => by omega
  unfold bitAtS seatAt
  rw [decide_eq_true (key _ _ hrl), decide_eq_true (key _ _ hcl), Int.toNat_natCast, Int.toNat_natCast, Nat.div_add_mod]
  by_cases hk : H.kind o = 0
  · rw [if_pos hk, decide_eq_false (fun q => q hk)]; rfl
  · rw [if_neg hk, decide_eq_true hk]; rfl
theorem X_whole (ok : H.Ok) (hv : v < H.size) : ∀ (k f o : Nat) (b : Mem) (e : Nat → Int64), o + k = H.size → k < f → XHouse b h (H.wAr (rowF g v e)) → e 5 = wholeAcc H v o →
    ∃ st e', bX2_open_230 kk2 f (some h) (n2 v) (n2 o) (mkX b x) = kk2 (some h) (n2 (v + 1)) (mkX st x) ∧ XHouse st h (H.wAr (rowF g v e')) ∧ KpO b st h ∧ e' 5 = wholeAcc H v H.size ∧ ∀ a, a ≠ 5 → e' a = e a := by
  have h64 := ok.size
  have r8 := ok.rows
  have c8 := ok.cols
  intro k
  induction k with
  | zero =>
    intro f o b e ho hf X he
    obtain ⟨f, rfl⟩ : ∃ g, f = g + 1 := ⟨f - 1, by omega⟩
    have ho2 : o = H.size := by omega
    refine ⟨b, e, ?_, X, KpO.refl b h, by rw [he, ho2], fun _ _ => rfl⟩
    have sz : fX2_size (some h) (mkX b x) = some (n2 H.size, mkX b x) := xh_size (x := x) (H := H.wAr (rowF g v e)) X
    show bX2_open_230B kk2 _ _ _ _ _ = _
    unfold bX2_open_230B
    simp -implicitDefEqProofs only [Option.bind_some, bd_some, b2i_0, Bool.true_eq_false, Bool.false_eq_true, eq_self, if_true, if_false, not_true_eq_false, not_false_eq_true, xh_iv X, sz, ho2, show (n2 H.size ≤ n2 H.size) = True from eq_true (Int32.le_refl _), show n2 v + 1 = n2 (v + 1) from n2_add v 1]
  | succ k ih =>
    intro f o b e ho hf X he
    obtain ⟨f, rfl⟩ : ∃ g, f = g + 1 := ⟨f - 1, by omega⟩
    have os : o < H.size := by omega
    have hp := pos_of_size os
    have hrl := row_lt os
    have hcl := Nat.mod_lt o hp.1
    have kb : ∀ q : Nat, q < 64 → -100 ≤ (q : Int) ∧ (q : Int) ≤ 100 := fun q hq => by omega
    have sz : fX2_size (some h) (mkX b x) = some (n2 H.size, mkX b x) := xh_size (x := x) (H := H.wAr (rowF g v e)) X
    have g29 : gI (mkX b x) (some h) 29 = some (n2 H.cols) := xh_29 (x := x) (H := H.wAr (rowF g v e)) X
    have le : (n2 H.size ≤ n2 o) = False := by rw [n2_le (by omega) (by omega)]; exact eq_false (by omega)
    have ov : (n2 o = n2 v) = (o = v) := n2_eq (by omega) (by omega)
    have a1 : n2 o + 1 = n2 (o + 1) := n2_add o 1
    show ∃ st e', bX2_open_230B kk2 (bX2_open_230 kk2 f) _ _ _ _ = _ ∧ _
    unfold bX2_open_230B bX2_open_265
    by_cases eo : o = v
    · have nA : wholeAcc H v (o + 1) = wholeAcc H v o := by simp -implicitDefEqProofs only [wholeAcc, if_pos eo]
      obtain ⟨st, e', s1, s2, s3, s4, s5⟩ := ih f (o + 1) b e (by omega) (by omega) X (by rw [nA]; exact he)
      refine ⟨st, e', ?_, s2, s3, s4, s5⟩
      rw [← s1]
      simp -implicitDefEqProofs only [Option.bind_some, bd_some, b2i_0, Bool.true_eq_false, Bool.false_eq_true, eq_self, if_true, if_false, not_true_eq_false, not_false_eq_true, xh_iv X, sz, le, ov, eq_true eo, a1]
    · have nA : wholeAcc H v (o + 1) = wholeAcc H v o ||| bitAtS H ((o / H.cols : Nat) : Int) ((o % H.cols : Nat) : Int) := by rw [bit_o ok os]; simp -implicitDefEqProofs only [wholeAcc, if_neg eo]
      obtain ⟨st0, t1, t2, t3⟩ := X_see (x := x) (a := 5) X ok (by decide) hv (r := ((o / H.cols : Nat) : Int)) (c := ((o % H.cols : Nat) : Int)) (kb _ (by omega)) (kb _ (by omega))
      have t1' : fX2_see (some h) (5 : Int32) (n2 v) (n2 (o / H.cols)) (n2 (o % H.cols)) (mkX b x) = some ((), mkX st0 x) := t1
      obtain ⟨st, e', s1, s2, s3, s4, s5⟩ := ih f (o + 1) st0 _ (by omega) (by omega) t2 (by rw [upq_self, he, nA])
      refine ⟨st, e', ?_, s2, t3.trans s3, s4, fun a ha => (s5 a ha).trans (upq_ne _ _ ha)⟩
      rw [← s1]
      simp -implicitDefEqProofs only [Option.bind_some, bd_some, b2i_0, Bool.true_eq_false, Bool.false_eq_true, eq_self, if_true, if_false, not_true_eq_false, not_false_eq_true, xh_iv X, sz, le, ov, eo, g29, n2_dv (show o < 2147483648 by omega) (show H.cols < 2147483648 by omega) hp.1, n2_rm (show o < 2147483648 by omega) (show H.cols < 2147483648 by omega) hp.1, t1', a1]
end OpenL
