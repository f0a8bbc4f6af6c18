set_option linter.unusedVariables false
set_option linter.unusedSimpArgs false
set_option maxRecDepth 100000
/-! ===== seats exchanged ===== -/
theorem CondAt.smT {b st : Mem} (hx : mNx b ≤ mNx st) (E : ∀ a, a < mNx b → dyn a → mTag b a < 100 → Sm b st a) : ∀ {c : Cd} {a : Nat}, CondAt b c a → CondAt st c a
  | .neg c, a, ⟨⟨h1, h2⟩, h3, p, h4, h5⟩ => by
    obtain ⟨s1, -, -, -, s5⟩ := E a h2 h1 (by rw [h3]; decide)
    exact ⟨⟨h1, Nat.lt_of_lt_of_le h2 hx⟩, s1.trans h3, p, by rw [s5]; exact h4, CondAt.smT hx E h5⟩
  | .add c d, a, ⟨⟨h1, h2⟩, h3, p, q, h4, h5, h6, h7⟩ => by
    obtain ⟨s1, -, -, -, s5⟩ := E a h2 h1 (by rw [h3]; decide)
    exact ⟨⟨h1, Nat.lt_of_lt_of_le h2 hx⟩, s1.trans h3, p, q, by rw [s5]; exact h4, by rw [s5]; exact h5, CondAt.smT hx E h6, CondAt.smT hx E h7⟩
  | .sub c d, a, ⟨⟨h1, h2⟩, h3, p, q, h4, h5, h6, h7⟩ => by
    obtain ⟨s1, -, -, -, s5⟩ := E a h2 h1 (by rw [h3]; decide)
    exact ⟨⟨h1, Nat.lt_of_lt_of_le h2 hx⟩, s1.trans h3, p, q, by rw [s5]; exact h4, by rw [s5]; exact h5, CondAt.smT hx E h6, CondAt.smT hx E h7⟩
  | .var w, a, ⟨⟨h1, h2⟩, h3, h4, h5, h6, h7⟩ => by
    obtain ⟨s1, -, s3, -, -⟩ := E a h2 h1 (by rw [h4]; have := h3.2.1; omega)
    exact ⟨⟨h1, Nat.lt_of_lt_of_le h2 hx⟩, h3, s1.trans h4, by rw [s3]; exact h5, by rw [s3]; exact h6, fun h => by rw [s3]; exact h7 h⟩
  | .num _, _, h => h.elim
  | .mulL _ _, _, h => h.elim
  | .mulR _ _, _, h => h.elim
theorem CondAt.ag {b : Mem} : ∀ {c : Cd} {a : Nat}, CondAt b c a → a < mNx b ∧ dyn a ∧ asg 105 (mTag b a) = true
  | .neg _, _, ⟨⟨h1, h2⟩, h3, _⟩ => ⟨h2, h1, by rw [h3]; rfl⟩
  | .add _ _, _, ⟨⟨h1, h2⟩, h3, _⟩ => ⟨h2, h1, by rw [h3]; rfl⟩
  | .sub _ _, _, ⟨⟨h1, h2⟩, h3, _⟩ => ⟨h2, h1, by rw [h3]; rfl⟩
  | .var w, _, ⟨⟨h1, h2⟩, h3, h4, _⟩ => ⟨h2, h1, by
    rw [h4]
    have := h3.2.1
    rcases (show lk w = 0 ∨ lk w = 1 ∨ lk w = 2 by omega) with e | e | e <;> rw [e] <;> rfl⟩
  | .num _, _, h => h.elim
  | .mulL _ _, _, h => h.elim
  | .mulR _ _, _, h => h.elim
def HS.kd (H : HS) (k : Nat → Nat) : HS := HS.mk H.rows H.cols H.carry H.paid H.byRows k H.price H.leaves H.law H.ar
def HS.sw (H : HS) (u v : Nat) : HS := H.kd (fun k => if k = v then H.kind u else if k = u then H.kind v else H.kind k)
theorem kd_self (H : HS) : H.kd H.kind = H := rfl
theorem kd_kd (H : HS) (k l : Nat → Nat) : (H.kd k).kd l = H.kd l := rfl
theorem kd_kind (H : HS) (k : Nat → Nat) : (H.kd k).kind = k := rfl
theorem kd_size (H : HS) (k : Nat → Nat) : (H.kd k).size = H.size := rfl
theorem kd_rows (H : HS) (k : Nat → Nat) : (H.kd k).rows = H.rows := rfl
theorem kd_cols (H : HS) (k : Nat → Nat) : (H.kd k).cols = H.cols := rfl
theorem kd_ar (H : HS) (k : Nat → Nat) : (H.kd k).ar = H.ar := rfl
theorem kd_law (H : HS) (k : Nat → Nat) : (H.kd k).law = H.law := rfl
theorem kd_carry (H : HS) (k : Nat → Nat) : (H.kd k).carry = H.carry := rfl
theorem sw_kind (H : HS) (u v : Nat) : (H.sw u v).kind = fun k => if k = v then H.kind u else if k = u then H.kind v else H.kind k := rfl
theorem sw_sw (H : HS) (u v : Nat) : (H.sw u v).sw u v = H := by
  have e : (fun k => if k = v then (H.sw u v).kind u else if k = u then (H.sw u v).kind v else (H.sw u v).kind k) = H.kind := by
    funext k
    simp -implicitDefEqProofs only [sw_kind]
    by_cases h1 : k = v
    · by_cases h2 : u = v
      · rw [if_pos h1, if_pos h2, h1, h2]
      · rw [if_pos h1, if_neg h2, if_pos trivial, h1]
    · by_cases h2 : k = u
      · rw [if_neg h1, if_pos h2, if_pos trivial, h2]
      · rw [if_neg h1, if_neg h2, if_neg h1, if_neg h2]
  show (H.sw u v).kd _ = H
  rw [e]; rfl
theorem sw_self (H : HS) (u : Nat) : H.sw u u = H := by
  have e : (fun k => if k = u then H.kind u else if k = u then H.kind u else H.kind k) = H.kind := by
    funext k
    by_cases h : k = u
    · rw [if_pos h, h]
    · rw [if_neg h, if_neg h]
  show H.kd _ = H
  rw [e]; rfl
/-- pillars stay where they are -/
def HS.SameP (H G : HS) : Prop := H.rows = G.rows ∧ H.cols = G.cols ∧ ∀ o, (H.kind o = 0) = (G.kind o = 0)
section SameP
variable {H G : HS}
theorem sp_bit (h : H.SameP G) (r c : Int) : bitAtS H r c = bitAtS G r c := by
  obtain ⟨h1, h2, h3⟩ := h
  unfold bitAtS seatAt
  simp -implicitDefEqProofs only [h1, h2, ne_eq, h3]
theorem sp_near (h : H.SameP G) (r c : Nat) : ∀ j, nearAcc H r c j = nearAcc G r c j
  | 0 => rfl
  | j + 1 => by simp -implicitDefEqProofs only [nearAcc, sp_near h r c j, sp_bit h]
theorem sp_in (h : H.SameP G) (r c k : Nat) (acc : Int64) : ∀ j, seenIn H r c k acc j = seenIn G r c k acc j
  | 0 => rfl
  | j + 1 => by simp -implicitDefEqProofs only [seenIn, sp_in h r c k acc j, sp_bit h]
theorem sp_seen (h : H.SameP G) (r c : Nat) : ∀ k, seenAcc H r c k = seenAcc G r c k
  | 0 => rfl
  | k + 1 => by simp -implicitDefEqProofs only [seenAcc, sp_seen h r c k, sp_in h]
theorem sp_whole (h : H.SameP G) (v : Nat) : ∀ o, wholeAcc H v o = wholeAcc G v o
  | 0 => rfl
  | o + 1 => by simp -implicitDefEqProofs only [wholeAcc, sp_whole h v o, h.2.2]
theorem sp_ar (h : H.SameP G) (a v : Nat) : arS H a v = arS G a v := by
  have hs : H.size = G.size := by unfold HS.size; rw [h.1, h.2.1]
  unfold arS hidS
  simp -implicitDefEqProofs only [sp_near h, sp_bit h, sp_seen h, sp_whole h, h.2.1, h.2.2, hs]
theorem sp_seats (h : H.SameP G) : H.seats = G.seats := by
  have hs : H.size = G.size := by unfold HS.size; rw [h.1, h.2.1]
  unfold HS.seats
  simp -implicitDefEqProofs only [hs, ne_eq, h.2.2]
end SameP
theorem sw_sp {H : HS} {u v : Nat} (hu : H.kind u ≠ 0) (hv : H.kind v ≠ 0) : (H.sw u v).SameP H := by
  refine ⟨rfl, rfl, fun o => ?_⟩
  simp -implicitDefEqProofs only [sw_kind]
  by_cases h1 : o = v
  · rw [if_pos h1, h1, eq_false hu, eq_false hv]
  · by_cases h2 : o = u
    · rw [if_neg h1, if_pos h2, h2, eq_false hu, eq_false hv]
    · rw [if_neg h1, if_neg h2]
theorem sw_ok {H : HS} (ok : H.Ok) (u v : Nat) : (H.sw u v).Ok := by
  refine ⟨ok.rows, ok.cols, ok.empty, ok.carry, ok.paid, fun k => ?_, ok.price, ok.leaves, ok.dep⟩
  simp -implicitDefEqProofs only [sw_kind]
  have := ok.kind u
  have := ok.kind v
  have := ok.kind k
  split
  · omega
  · split <;> omega
theorem sw_arok {H : HS} (ar : H.ArOk) {u v : Nat} (hu : H.kind u ≠ 0) (hv : H.kind v ≠ 0) : (H.sw u v).ArOk := by
  intro a w ha hw
  rw [sp_ar (sw_sp hu hv)]
  exact ar a w ha hw
section Swap
variable {b b' st : Mem} {n s : Nat} {x : XS} {m : MS} {H : HS} {C : List Cu} {h c d u v : Nat} {K : Nat → Option (HS × List Cu)}
theorem XHouse.kd {k : Nat → Nat} (X : XHouse b h H) (hx : mNx b ≤ mNx st) (hs : ∀ a, a < mNx b → a ≠ h + 1 → dyn a → Sm b st a) (t1 : mTag st (h + 1) = 102) (l1 : mLen st (h + 1) = 64) (hk : ∀ v, v < H.size → mI st (h + 1) v = n2 (kindX (k v))) : XHouse st h (H.kd k) := by
  have s : ∀ j, j < 14 → j ≠ 1 → Sm b st (h + j) := fun j hj hne => hs _ (X.ltJ hj) (by omega) (X.dynJ hj)
  have s0 : Sm b st h := s 0 (by decide) (by decide)
  have E : ∀ a, a < mNx b → dyn a → mTag b a < 100 → Sm b st a := fun a ha hd ht => hs a ha (fun e => by rw [e, X.t1] at ht; omega) hd
  refine ⟨X.at_, Nat.le_trans X.lt hx, s0.1.trans X.tag, ?_, ?_, ?_, ?_, ?_, ?_, ?_, ?_, ?_, ?_, ?_, ?_, ?_, ?_, ?_, ?_, ?_, ?_, ?_, ?_, ?_, ?_, ?_, ?_, ?_, ?_, ?_, ?_, ?_, ?_, ?_, ?_, ?_, ?_, ?_, ?_, ?_⟩
  · rw [s0.2.2.2.2]; exact X.r34
  · rw [s0.2.2.2.2]; exact X.r35
  · rw [s0.2.2.2.2]; exact X.r36
  · rw [s0.2.2.2.2]; exact X.r37
  · rw [s0.2.2.2.2]; exact X.r38
  · rw [s0.2.2.2.2]; exact X.r39
  · rw [s0.2.2.2.2]; exact X.r40
  · exact t1
  · exact (s 2 (by decide) (by decide)).1.trans X.t2
  · exact (s 3 (by decide) (by decide)).1.trans X.t3
  · exact (s 4 (by decide) (by decide)).1.trans X.t4
  · exact (s 5 (by decide) (by decide)).1.trans X.t5
  · exact (s 6 (by decide) (by decide)).1.trans X.t6
  · exact (s 7 (by decide) (by decide)).1.trans X.t7
  · intro a ha; rw [Nat.add_assoc]; refine (s (8 + a) (by omega) (by omega)).1.trans ?_; rw [← Nat.add_assoc]; exact X.t8 a ha
  · exact l1
  · exact (s 2 (by decide) (by decide)).2.1.trans X.l2
  · exact (s 3 (by decide) (by decide)).2.1.trans X.l3
  · exact (s 4 (by decide) (by decide)).2.1.trans X.l4
  · exact (s 5 (by decide) (by decide)).2.1.trans X.l5
  · exact (s 6 (by decide) (by decide)).2.1.trans X.l6
  · exact (s 7 (by decide) (by decide)).2.1.trans X.l7
  · intro a ha; rw [Nat.add_assoc]; refine (s (8 + a) (by omega) (by omega)).2.1.trans ?_; rw [← Nat.add_assoc]; exact X.l8 a ha
  · intro a ha; rw [(s 7 (by decide) (by decide)).2.2.2.2]; exact X.r7 a ha
  · rw [s0.2.2.1]; exact X.rows
  · rw [s0.2.2.1]; exact X.cols
  · rw [s0.2.2.1]; exact X.carry
  · rw [s0.2.2.1]; exact X.paid
  · rw [s0.2.2.1]; exact X.byRows
  · exact hk
  · intro r hr; rw [(s 2 (by decide) (by decide)).2.2.1]; exact X.price r hr
  · intro r hr; rw [(s 3 (by decide) (by decide)).2.2.1]; exact X.leaves r hr
  · intro k hk hl; rw [(s 4 (by decide) (by decide)).2.2.2.2]; exact X.up0 k hk hl
  · intro k c o hk hl
    obtain ⟨q1, a, q2, q3⟩ := X.up k c o hk hl
    refine ⟨?_, a, ?_, q3.smT hx E⟩
    · rw [(s 6 (by decide) (by decide)).2.2.1]; exact q1
    · rw [(s 4 (by decide) (by decide)).2.2.2.2]; exact q2
  · intro k hk hl; rw [(s 5 (by decide) (by decide)).2.2.2.2]; exact X.down0 k hk hl
  · intro k c o hk hl
    obtain ⟨q1, a, q2, q3⟩ := X.down k c o hk hl
    refine ⟨?_, a, ?_, q3.smT hx E⟩
    · rw [(s 6 (by decide) (by decide)).2.2.1]; exact q1
    · rw [(s 5 (by decide) (by decide)).2.2.2.2]; exact q2
  · intro a v ha hv; rw [Nat.add_assoc, (s (8 + a) (by omega) (by omega)).2.2.2.1, ← Nat.add_assoc]; exact X.area a v ha hv
/-- an element written into an array of ints -/
theorem uI_dyn (hd : dyn d) (h64 : 64 ≤ d) (hl : d < mNx b) (ht : mTag b d = 102) {i : Nat} (hi : i < mLen b d) (hi2 : i < 1000) (v : Int32) :
    ∃ st, uI (mkX b x) (some d) (n2 i) v = some (mkX st x) ∧ mNx st = mNx b ∧ mNs st = mNs b ∧ (∀ a, a ≠ d → dyn a → Sm b st a) ∧ mTag st d = 102 ∧ mLen st d = mLen b d ∧ mI st d = upq (mI b d) i v := by
  have sm : ∀ a, a ≠ d → Sm (mkX b x) (mSI (mkX b x) d i v) a := fun a ha => ⟨rfl, rfl, up2_rn _ ha, rfl, rfl⟩
  have e1 : mkX (mSI (mkX b x) d i v) x = mSI (mkX b x) d i v := mkX_same (b := b) (fun a ha => sm a (fun e => ha (by rw [e]; exact hd)))
  refine ⟨mSI (mkX b x) d i v, ?_, rfl, rfl, fun a ha hda => ?_, (ov_tag (x := x) hd).trans ht, ov_len (x := x) hd, ?_⟩
  · rw [e1]
    have cond : 64 ≤ d ∧ d < mNx (mkX b x) ∧ mTag (mkX b x) d = 102 ∧ (0 : Int32) ≤ n2 i ∧ (n2 i).toNatClampNeg < mLen (mkX b x) d := ⟨h64, hl, (ov_tag hd).trans ht, n2_pos (by omega), by rw [n2_nat (by omega), ov_len hd]; exact hi⟩
    refine (if_pos cond).trans ?_
    rw [n2_nat (by omega)]
  · obtain ⟨s1, s2, s3, s4, s5⟩ := sm a ha
    exact ⟨s1.trans (ov_tag hda), s2.trans (ov_len hda), s3.trans (ov_I hda), s4.trans (ov_J hda), s5.trans (ov_A hda)⟩
  · exact (up2_rs _ _ _ _).trans (congrArg (fun g => upq g i v) (ov_I (x := x) hd))
theorem X_swap (X : XHouse b h H) (hu : u < 64) (hv : v < 64) (huv : (u < H.size ∧ v < H.size) ∨ u = v) :
    ∃ st, fX2_swap (some h) (n2 u) (n2 v) (mkX b x) = some ((), mkX st x) ∧ mNx st = mNx b ∧ mNs st = mNs b ∧ (∀ a, a ≠ h + 1 → dyn a → Sm b st a) ∧ XHouse st h (H.sw u v) := by
  have d1 : dyn (h + 1) := X.dynJ (by decide)
  have l1 : h + 1 < mNx b := X.ltJ (by decide)
  have g1 : 64 ≤ h + 1 := by have := X.at_; omega
  have rd : ∀ w, w < 64 → aI (mkX b x) (some (h + 1)) (n2 w) = some (mI b (h + 1) w) := fun w hw => by
    rw [dRI d1 l1 X.t1 X.l1, ifx_k hw (by omega), n2_nat (by omega)]
  obtain ⟨s1, e1, x1, z1, m1, t1, k1, i1⟩ := uI_dyn (x := x) d1 g1 l1 X.t1 (i := u) (by rw [X.l1]; exact hu) (by omega) (mI b (h + 1) v)
  obtain ⟨s2, e2, x2, z2, m2, t2, k2, i2⟩ := uI_dyn (x := x) d1 g1 (show h + 1 < mNx s1 by rw [x1]; exact l1) t1 (i := v) (by rw [k1, X.l1]; exact hv) (by omega) (mI b (h + 1) u)
  have sm : ∀ a, a ≠ h + 1 → dyn a → Sm b s2 a := fun a ha hd => (m1 a ha hd).trans (m2 a ha hd)
  have h0 : Sm b s1 h := m1 h (by omega) X.dyn0
  have g34 : gA (mkX s1 x) (some h) 34 = some (some (h + 1)) := by
    rw [dA X.dyn0 (show h < mNx s1 by rw [x1]; exact X.lt0) (h0.1.trans X.tag) (by decide), h0.2.2.2.2, X.r34]
  refine ⟨s2, ?_, x2.trans x1, z2.trans z1, sm, ?_⟩
  · unfold fX2_swap
    rw [xh_34 X, Option.bind_some, rd u hu, Option.bind_some, Option.bind_some, Option.bind_some, rd v hv, Option.bind_some, e1, Option.bind_some, g34, Option.bind_some, e2, Option.bind_some]
  · refine X.kd (by rw [x2, x1]; exact Nat.le_refl _) (fun a _ ha hd => sm a ha hd) t2 (by rw [k2, k1]; exact X.l1) (fun w hw => ?_)
    rw [i2, i1]
    by_cases e1 : w = v
    · subst e1
      have hus : u < H.size := by rcases huv with q | q <;> omega
      rw [upq_self, if_pos rfl, X.kind u hus]
    · rw [upq_ne _ _ e1, if_neg e1]
      by_cases e2 : w = u
      · subst e2
        have hvs : v < H.size := by rcases huv with q | q <;> omega
        rw [upq_self, if_pos rfl, X.kind v hvs]
      · rw [upq_ne _ _ e2, if_neg e2, X.kind w hw]
/-- in the model -/
def swS (f : Nat → Int32) (u v : Nat) : Nat → Int32 := upq (upq f (6 + u) (f (6 + v))) (6 + v) (f (6 + u))
theorem M_change (hu : u < 64) (hv : v < 64) : fX4_change (some 106) (n2 u) (n2 v) (mkM b' n s m) = some ((), mkM b' n s (m.ss (swS m.s u v))) := by
  have iu : (6 : Int32) + n2 u = n2 (6 + u) := n2_add 6 u
  have iv' : (6 : Int32) + n2 v = n2 (6 + v) := n2_add 6 v
  have us : ∀ (q : MS) (k : Nat) (w : Int32), k < 681 → uI (mkM b' n s q) (some 108) (n2 k) w = some (mkM b' n s (q.ss (upq q.s k w))) := fun q k w hk => by
    rw [uM_108, ifx_k hk (by omega), n2_nat (by omega)]; rfl
  unfold fX4_change
  simp -implicitDefEqProofs only [Option.bind_some, bd_some, b2i_0, Bool.true_eq_false, Bool.false_eq_true, eq_self, if_true, if_false, not_true_eq_false, not_false_eq_true, gM_61, iu, iv', rd_s' (show 6 + u < 681 by omega), rd_s' (show 6 + v < 681 by omega), us _ _ _ (show 6 + u < 681 by omega), us _ _ _ (show 6 + v < 681 by omega), ss_s, ss_ss]
  rfl
theorem swS_lo {f : Nat → Int32} {i : Nat} (h : i < 6) : swS f u v i = f i := by
  unfold swS; rw [upq_ne _ _ (by omega), upq_ne _ _ (by omega)]
theorem swS_hi {f : Nat → Int32} {i : Nat} (hu : u < 64) (hv : v < 64) (h : 70 ≤ i) : swS f u v i = f i := by
  unfold swS; rw [upq_ne _ _ (by omega), upq_ne _ _ (by omega)]
theorem MHouse.sw {r : Nat → Int32} (X : MHouse r H) (hu : u < H.size) (hv : v < H.size) (h64 : H.size ≤ 64) (ku : H.kind u ≠ 0) (kv : H.kind v ≠ 0) : MHouse (swS r u v) (H.sw u v) := by
  have u64 : u < 64 := by omega
  have v64 : v < 64 := by omega
  have hi : ∀ i, 70 ≤ i → swS r u v i = r i := fun i h => swS_hi u64 v64 h
  refine ⟨by rw [swS_lo (by decide)]; exact X.rows, by rw [swS_lo (by decide)]; exact X.cols, by rw [swS_lo (by decide), sp_seats (sw_sp ku kv)]; exact X.seats, by rw [swS_lo (by decide)]; exact X.carry, by rw [swS_lo (by decide)]; exact X.paid, by rw [swS_lo (by decide)]; exact X.byRows, fun w hw => ?_, fun q hq => by rw [hi _ (by omega)]; exact X.price q hq, fun q hq => by rw [hi _ (by omega)]; exact X.leaves q hq, fun k w hk hw hl => by rw [hi _ (by omega)]; exact X.law0 k w hk hw hl, fun k w c o hk hw hl => ?_⟩
  · have hsz : (H.sw u v).size = H.size := rfl
    rw [hsz]
    have k1 := X.kind u u64
    have k2 := X.kind v v64
    rw [if_pos hu] at k1
    rw [if_pos hv] at k2
    unfold swS
    simp -implicitDefEqProofs only [sw_kind]
    by_cases e1 : w = v
    · subst e1
      rw [upq_self, if_pos hv, if_pos rfl, k1]
    · rw [upq_ne _ _ (by omega), if_neg e1]
      by_cases e2 : w = u
      · subst e2
        rw [upq_self, if_pos hu, if_pos rfl, k2]
      · rw [upq_ne _ _ (by omega), if_neg e2, X.kind w hw]
  · obtain ⟨l, L⟩ := X.law k w c o hk hw hl
    have h40 := L.short
    exact ⟨l, L.post, by rw [hi _ (by omega)]; exact L.ones_, by rw [hi _ (by omega)]; exact L.len, fun i h => by rw [hi _ (by omega)]; exact L.code i h, L.short, L.lvs⟩
theorem MCues.sw {r : Nat → Int32} (X : MCues r C) (hu : u < 64) (hv : v < 64) : MCues (swS r u v) C := by
  have h30 := X.len
  have hi : ∀ i, 70 ≤ i → swS r u v i = r i := fun i h => swS_hi hu hv h
  exact ⟨by rw [hi _ (by omega)]; exact X.many, X.len, fun i h => by rw [hi _ (by omega)]; exact X.t i h, fun i h => by rw [hi _ (by omega)]; exact X.w i h, fun i h => by rw [hi _ (by omega)]; exact X.s i h, X.ok⟩
end Swap
