set_option linter.unusedVariables false
set_option linter.unusedSimpArgs false
set_option maxRecDepth 100000
/-! ===== a house made anew ===== -/
def Bld (N : Nat) (L : List Cl) : Prop := L.length = 14 ∧ (clD L 0).t = 2 ∧ (clD L 0).a 40 = some (N + 7) ∧ (clD L 7).t = 107 ∧ (clD L 7).l = 6 ∧ (∀ a, a < 6 → (clD L 7).a a = some (N + (8 + a))) ∧ ∀ a, a < 6 → (clD L (8 + a)).t = 103 ∧ (clD L (8 + a)).l = 64
/-- what stands in the first eight cells -/
def Bld2 (b : Mem) (h N : Nat) (L : List Cl) : Prop :=
  ((clD L 0).a 34 = some (N + 1) ∧ (clD L 0).a 35 = some (N + 2) ∧ (clD L 0).a 36 = some (N + 3) ∧ (clD L 0).a 37 = some (N + 4) ∧ (clD L 0).a 38 = some (N + 5) ∧ (clD L 0).a 39 = some (N + 6)) ∧
  ((clD L 0).i 28 = mI b h 28 ∧ (clD L 0).i 29 = mI b h 29 ∧ (clD L 0).i 30 = mI b h 30 ∧ (clD L 0).i 31 = mI b h 31 ∧ (clD L 0).i 33 = mI b h 33) ∧
  ((clD L 1).t = 102 ∧ (clD L 2).t = 102 ∧ (clD L 3).t = 102 ∧ (clD L 4).t = 105 ∧ (clD L 5).t = 105 ∧ (clD L 6).t = 102) ∧
  ((clD L 1).l = 64 ∧ (clD L 2).l = 8 ∧ (clD L 3).l = 8 ∧ (clD L 4).l = 6 ∧ (clD L 5).l = 6 ∧ (clD L 6).l = 12) ∧
  (∀ k, k < 64 → (clD L 1).i k = mI b (h + 1) k) ∧ (∀ k, k < 8 → (clD L 2).i k = mI b (h + 2) k) ∧ (∀ k, k < 8 → (clD L 3).i k = mI b (h + 3) k) ∧ (∀ k, k < 12 → (clD L 6).i k = mI b (h + 6) k) ∧
  (∀ k, k < 6 → (clD L 4).a k = mA b (h + 4) k) ∧ (∀ k, k < 6 → (clD L 5).a k = mA b (h + 5) k)
theorem cp_at {α : Type} {f g : Nat → α} {n k : Nat} (hk : k < n) : va_cpy f g 0 0 n k = f k := by
  unfold va_cpy; rw [if_pos ⟨Nat.zero_le k, by omega⟩, Nat.zero_add, Nat.sub_zero]
theorem nn_some {α : Type} {a : Nat} {z : Option α} : nn (some a) z = z := rfl
section Exch
variable {b b' st : Mem} {n s : Nat} {x : XS} {m : MS} {H : HS} {C : List Cu} {h c d u v z : Nat} {K : Nat → Option (HS × List Cu)} {L : List Cl}
theorem Bld.len (B : Bld d L) : L.length = 14 := B.1
theorem X_e149 (X : XHouse b h H) {a1 a2 : Int32} : ∀ (k fu j : Nat) (L : List Cl), j + k = 6 → k < fu → Bld (mNx b) L → (∀ a, a < j → ∀ v, v < 64 → (clD L (8 + a)).j v = mJ b (h + 8 + a) v) →
    ∃ L', bX2_exchanged_149 fu (some h) a1 a2 (some (mNx b)) (n2 j) (ovs (mkX b x) L z) = (bd (iv (ovs (mkX b x) L' z) (some (mNx b)) [2] (fX2_swap (some (mNx b)) a1 a2 (ovs (mkX b x) L' z))) fun _ st => some (some (mNx b), st)) ∧ Bld (mNx b) L' ∧ (∀ i, i < 8 → clD L' i = clD L i) ∧ (∀ a, a < 6 → ∀ v, v < 64 → (clD L' (8 + a)).j v = mJ b (h + 8 + a) v) := by
  have hN : mNx (mkX b x) = mNx b := rfl
  have h14 := X.lt
  have h64 : 64 ≤ mNx (mkX b x) := by have := X.at_; rw [hN]; omega
  intro k
  induction k with
  | zero =>
    intro fu j L hk hf hB hj
    obtain ⟨fu, rfl⟩ : ∃ g, fu = g + 1 := ⟨fu - 1, by omega⟩
    have e : j = 6 := by omega
    subst e
    refine ⟨L, ?_, hB, fun _ _ => rfl, hj⟩
    show bX2_exchanged_149B _ _ _ _ _ _ _ = _
    unfold bX2_exchanged_149B
    rw [if_pos (by decide)]
  | succ k ih =>
    intro fu j L hk hf hB hj
    obtain ⟨fu, rfl⟩ : ∃ g, fu = g + 1 := ⟨fu - 1, by omega⟩
    obtain ⟨q0, q1, q2, q3, q4, q5, q6⟩ := id hB
    have j6 : j < 6 := by omega
    have i8 : 8 + j < L.length := by omega
    have hd : dyn (h + 8 + j) := by rw [Nat.add_assoc]; exact X.dynJ (by omega)
    have hl : h + 8 + j < mNx b := by omega
    have le : ((6 : Int32) ≤ n2 j) = False := by rw [li_6, n2_le (by omega) (by omega)]; exact eq_false (by omega)
    have r1 : gA (ovs (mkX b x) L z) (some h) 40 = some (some (h + 7)) := (oo_gA (B := mkX b x) X.lt0).trans (xh_40 X)
    have r2 : aA (ovs (mkX b x) L z) (some (h + 7)) (n2 j) = some (some (h + 8 + j)) := (oo_aA (B := mkX b x) (show h + 7 < mNx b by omega)).trans (xh_area X j6)
    have r3 : gA (ovs (mkX b x) L z) (some (mNx b)) 40 = some (some (mNx b + 7)) := by
      rw [← q2]; exact o_gA (B := mkX b x) (i := 0) (decide_eq_true (by omega)) (by rw [q1]; rfl)
    have r4 : aA (ovs (mkX b x) L z) (some (mNx b + 7)) (n2 j) = some (some (mNx b + (8 + j))) := by
      rw [← q5 j j6]; exact o_aA (B := mkX b x) (i := 7) (decide_eq_true (by omega)) (by rw [q3]; rfl) (decide_eq_true (by rw [q4]; omega))
    have r5 : cpy (ovs (mkX b x) L z) (some (h + 8 + j)) 0 (some (mNx b + (8 + j))) 0 64 = some (ovs (mkX b x) (clS L (8 + j) ((clD L (8 + j)).rJ (va_cpy (mJ (mkX b x) (h + 8 + j)) (clD L (8 + j)).j 0 0 64))) z) :=
      o_cpJ (B := mkX b x) (n := 64) h64 hl i8 ((ov_tag hd).trans (X.t8 j j6)) (q6 j j6).1 (by rw [ov_len hd, X.l8 j j6]; exact Nat.le_refl _) (by rw [(q6 j j6).2]; exact Nat.le_refl _) (by decide)
    generalize hL2 : clS L (8 + j) ((clD L (8 + j)).rJ (va_cpy (mJ (mkX b x) (h + 8 + j)) (clD L (8 + j)).j 0 0 64)) = L2 at r5
    have at8 : clD L2 (8 + j) = (clD L (8 + j)).rJ (va_cpy (mJ (mkX b x) (h + 8 + j)) (clD L (8 + j)).j 0 0 64) := by rw [← hL2]; exact clS_at L _ _ i8
    have ne8 : ∀ i, i ≠ 8 + j → clD L2 i = clD L i := fun i hi => by rw [← hL2]; exact clS_ne L _ _ _ hi
    have B2 : Bld (mNx b) L2 := by
      refine ⟨by rw [← hL2, clS_len]; exact q0, by rw [ne8 0 (by omega)]; exact q1, by rw [ne8 0 (by omega)]; exact q2, by rw [ne8 7 (by omega)]; exact q3, by rw [ne8 7 (by omega)]; exact q4, fun a ha => by rw [ne8 7 (by omega)]; exact q5 a ha, fun a ha => ?_⟩
      by_cases e : a = j
      · rw [e, at8]; exact q6 j j6
      · rw [ne8 _ (by omega)]; exact q6 a ha
    obtain ⟨L', g1, g2, g3, g4⟩ := ih fu (j + 1) L2 (by omega) (by omega) B2 (fun a ha v hv => by
      by_cases e : a = j
      · rw [e, at8]
        show va_cpy _ _ _ _ _ _ = _
        rw [cp_at hv, ov_J hd]
      · rw [ne8 _ (by omega)]; exact hj a (by omega) v hv)
    refine ⟨L', ?_, g2, fun i hi => by rw [g3 i hi, ne8 i (by omega)], g4⟩
    rw [← g1]
    show bX2_exchanged_149B (bX2_exchanged_149 fu) _ _ _ _ _ _ = _
    unfold bX2_exchanged_149B
    simp -implicitDefEqProofs only [Option.bind_some, bd_some, b2i_0, Bool.true_eq_false, Bool.false_eq_true, eq_self, if_true, if_false, not_true_eq_false, not_false_eq_true, le, r1, r2, r3, r4, r5, show n2 j + 1 = n2 (j + 1) from n2_add j 1]
theorem X_house2 (hb : 131 ≤ mNx b) (X : XHouse b h H) (hB : Bld (mNx b) L) (hB2 : Bld2 b h (mNx b) L) (hj : ∀ a, a < 6 → ∀ v, v < 64 → (clD L (8 + a)).j v = mJ b (h + 8 + a) v) (h64 : H.size ≤ 64) : mkX (ovs (mkX b x) L z) x = ovs (mkX b x) L z ∧ Ext b (ovs (mkX b x) L z) ∧ XHouse (ovs (mkX b x) L z) (mNx b) H := by
  obtain ⟨g1, g2⟩ := grow_of (b := b) (x := x) (st := ovs (mkX b x) L z) hb (Nat.le_add_right _ _) (fun a ha => ov_lt ha)
  refine ⟨g1, g2, ?_⟩
  obtain ⟨q0, q1, q2, q3, q4, q5, q6⟩ := hB
  obtain ⟨⟨p34, p35, p36, p37, p38, p39⟩, ⟨p28, p29, p30, p31, p33⟩, ⟨t1, t2, t3, t4, t5, t6⟩, ⟨l1, l2, l3, l4, l5, l6⟩, w1, w2, w3, w6, w4, w5⟩ := hB2
  have ce : ∀ i, i < 14 → Ce (ovs (mkX b x) L z) (mNx b + i) (clD L i) := fun i hi => ov_ce (B := mkX b x) (by omega)
  have c0 : Ce (ovs (mkX b x) L z) (mNx b) (clD L 0) := ce 0 (by decide)
  have nx : mNx (ovs (mkX b x) L z) = mNx b + 14 := by rw [ov_nx, q0]; rfl
  refine ⟨Or.inr hb, by rw [nx]; exact Nat.le_refl _, c0.1.trans q1, ?_, ?_, ?_, ?_, ?_, ?_, ?_, ?_, ?_, ?_, ?_, ?_, ?_, ?_, ?_, ?_, ?_, ?_, ?_, ?_, ?_, ?_, ?_, ?_, ?_, ?_, ?_, ?_, ?_, ?_, ?_, ?_, ?_, ?_, ?_, ?_, ?_⟩
  · rw [c0.2.2.2.2]; exact p34
  · rw [c0.2.2.2.2]; exact p35
  · rw [c0.2.2.2.2]; exact p36
  · rw [c0.2.2.2.2]; exact p37
  · rw [c0.2.2.2.2]; exact p38
  · rw [c0.2.2.2.2]; exact p39
  · rw [c0.2.2.2.2]; exact q2
  · exact (ce 1 (by decide)).1.trans t1
  · exact (ce 2 (by decide)).1.trans t2
  · exact (ce 3 (by decide)).1.trans t3
  · exact (ce 4 (by decide)).1.trans t4
  · exact (ce 5 (by decide)).1.trans t5
  · exact (ce 6 (by decide)).1.trans t6
  · exact (ce 7 (by decide)).1.trans q3
  · intro a ha; rw [Nat.add_assoc]; exact (ce (8 + a) (by omega)).1.trans (q6 a ha).1
  · exact (ce 1 (by decide)).2.1.trans l1
  · exact (ce 2 (by decide)).2.1.trans l2
  · exact (ce 3 (by decide)).2.1.trans l3
  · exact (ce 4 (by decide)).2.1.trans l4
  · exact (ce 5 (by decide)).2.1.trans l5
  · exact (ce 6 (by decide)).2.1.trans l6
  · exact (ce 7 (by decide)).2.1.trans q4
  · intro a ha; rw [Nat.add_assoc]; exact (ce (8 + a) (by omega)).2.1.trans (q6 a ha).2
  · intro a ha; rw [(ce 7 (by decide)).2.2.2.2, Nat.add_assoc]; exact q5 a ha
  · rw [c0.2.2.1, p28]; exact X.rows
  · rw [c0.2.2.1, p29]; exact X.cols
  · rw [c0.2.2.1, p30]; exact X.carry
  · rw [c0.2.2.1, p31]; exact X.paid
  · rw [c0.2.2.1, p33]; exact X.byRows
  · intro v hv; rw [(ce 1 (by decide)).2.2.1, w1 v (by omega)]; exact X.kind v hv
  · intro r hr; rw [(ce 2 (by decide)).2.2.1, w2 r hr]; exact X.price r hr
  · intro r hr; rw [(ce 3 (by decide)).2.2.1, w3 r hr]; exact X.leaves r hr
  · intro k hk hl; rw [(ce 4 (by decide)).2.2.2.2, w4 k hk]; exact X.up0 k hk hl
  · intro k c o hk hl
    obtain ⟨r1, a, r2, r3⟩ := X.up k c o hk hl
    refine ⟨?_, a, ?_, r3.ext g2⟩
    · rw [(ce 6 (by decide)).2.2.1, w6 k (by omega)]; exact r1
    · rw [(ce 4 (by decide)).2.2.2.2, w4 k hk]; exact r2
  · intro k hk hl; rw [(ce 5 (by decide)).2.2.2.2, w5 k hk]; exact X.down0 k hk hl
  · intro k c o hk hl
    obtain ⟨r1, a, r2, r3⟩ := X.down k c o hk hl
    refine ⟨?_, a, ?_, r3.ext g2⟩
    · rw [(ce 6 (by decide)).2.2.1, w6 (6 + k) (by omega)]; exact r1
    · rw [(ce 5 (by decide)).2.2.2.2, w5 k hk]; exact r2
  · intro a v ha hv; rw [Nat.add_assoc, (ce (8 + a) (by omega)).2.2.2.1, hj a ha v (by omega)]; exact X.area a v ha hv
end Exch
