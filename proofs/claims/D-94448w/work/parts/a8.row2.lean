set_option linter.unusedVariables false
set_option linter.unusedSimpArgs false
set_option maxRecDepth 100000
/-- a row's kinds written into a row of numbers from a place on -/
def wrF (f : Nat → Int32) (base : Nat) (g : Nat → Int32) (i : Nat) : Nat → Int32 := fun v => if base ≤ v ∧ v < base + i then g (v - base) else f v
theorem wrF_0 (f : Nat → Int32) (base : Nat) (g : Nat → Int32) : wrF f base g 0 = f := by
  funext v; unfold wrF; rw [if_neg (by omega)]
theorem wrF_s (f : Nat → Int32) (base : Nat) (g : Nat → Int32) (i : Nat) : upq (wrF f base g i) (base + i) (g i) = wrF f base g (i + 1) := by
  funext v; unfold upq wrF
  by_cases e : v = base + i
  · rw [if_pos e, if_pos (by omega), e, Nat.add_sub_cancel_left]
  · rw [if_neg e]
    by_cases c : base ≤ v ∧ v < base + i
    · rw [if_pos c, if_pos (by omega)]
    · rw [if_neg c, if_neg (by omega)]
theorem rI_rI (d : Cl) (f g : Nat → Int32) : (d.rI f).rI g = d.rI g := rfl
theorem rI_sI (d : Cl) (f : Nat → Int32) (k : Nat) (v : Int32) : (d.rI f).sI k v = d.rI (upq f k v) := rfl
theorem rI_self (d : Cl) : d.rI d.i = d := rfl
section Row2
variable {B b' : Mem} {m : MS} {tp : Nat → Int32} {to most A Z n s : Nat} {c : Cl} {T : List Cl} {z p ln k e P R : Nat} {r : MR} {h : MH} {H : HS}
/-- the kinds in HouseClaps -/
theorem X_row152 (ch : Nat → Nat) (hB : 64 ≤ mNx B) (h5 : c.t = 5) (h132 : c.a 132 = some (mNx B + (1 + e))) (h133 : c.a 133 = some (mNx B + (1 + 0))) (Sh : HSh (mNx B) T) (St : StrT (mNx B) T e k ch) (hk : k ≤ 8) (hR : R ≤ 7) (i29 : (clD T 0).i 29 = n2 k) (i28 : (clD T 0).i 28 = n2 R) (hch : ∀ i, i < k → 97 ≤ ch i ∧ ch i ≤ 122) : ∀ (j F i : Nat), i + j = k → j < F →
    bX6_row_152 F (some (mNx B)) (n2 i) (ovs B (c :: clS T 1 ((clD T 1).rI (wrF (clD T 1).i (k * R) (fun q => n2 (kindX (kdc (ch q)))) i))) z) = (bd (fX5_go (some (mNx B)) (ovs B (c :: clS (clS T 1 ((clD T 1).rI (wrF (clD T 1).i (k * R) (fun q => n2 (kindX (kdc (ch q)))) k))) 0 ((clD T 0).sI 28 (n2 (R + 1)))) z)) fun _ st => some (.inl (), st)) := by
  have len := Sh.len
  have rdt : rdT c.t = true := by rw [h5]; rfl
  intro j
  induction j with
  | zero =>
    intro F i hi hF
    obtain ⟨F, rfl⟩ : ∃ g, F = g + 1 := ⟨F - 1, by omega⟩
    have ei : i = k := by omega
    subst ei
    generalize hT2 : clS T 1 ((clD T 1).rI (wrF (clD T 1).i (i * R) (fun q => n2 (kindX (kdc (ch q)))) i)) = T2
    have l2 : T2.length = T.length := by rw [← hT2, clS_len]
    have e0 : clD T2 0 = clD T 0 := by rw [← hT2]; exact clS_ne T 1 0 _ (by decide)
    have G3 : gA (ovs B (c :: T2) z) (some (mNx B)) 133 = some (some (mNx B + (1 + 0))) := (rd5_gA h5 (by decide)).trans (congrArg some h133)
    have G29 : gI (ovs B (c :: T2) z) (some (mNx B + (1 + 0))) 29 = some (n2 i) := (tc_gI (by omega) (by rw [e0, Sh.t0]; rfl)).trans (by rw [e0, i29])
    have G28 : gI (ovs B (c :: T2) z) (some (mNx B + (1 + 0))) 28 = some (n2 R) := (tc_gI (by omega) (by rw [e0, Sh.t0]; rfl)).trans (by rw [e0, i28])
    have P28 := tc_pI (B := B) (c := c) (z := z) (T := T2) (i := 0) (f := 28) (v := n2 (R + 1)) hB (by omega) (by rw [e0, Sh.t0]; rfl)
    rw [e0] at P28
    show bX6_row_152B _ _ _ _ = _
    unfold bX6_row_152B
    simp -implicitDefEqProofs only [Option.bind_some, bd_some, b2i_0, Bool.true_eq_false, Bool.false_eq_true, eq_self, if_true, if_false, not_true_eq_false, not_false_eq_true, G3, G29, show (n2 i ≤ n2 i) = True from eq_true (Int32.le_refl _), G28, show n2 R + 1 = n2 (R + 1) from n2_add R 1, P28, rd_iv5 h5]
  | succ j ih =>
    intro F i hi hF
    obtain ⟨F, rfl⟩ : ∃ g, F = g + 1 := ⟨F - 1, by omega⟩
    have ik : i < k := by omega
    have hc := hch i ik
    have I := ih F (i + 1) (by omega) (by omega)
    rw [← I]
    have kR : k * R ≤ 8 * 7 := Nat.mul_le_mul hk hR
    have at1 : clD (clS T 1 ((clD T 1).rI (wrF (clD T 1).i (k * R) (fun q => n2 (kindX (kdc (ch q)))) i))) 1 = (clD T 1).rI (wrF (clD T 1).i (k * R) (fun q => n2 (kindX (kdc (ch q)))) i) := clS_at T 1 _ (by omega)
    have nx : clS (clS T 1 ((clD T 1).rI (wrF (clD T 1).i (k * R) (fun q => n2 (kindX (kdc (ch q)))) i))) 1 (((clD T 1).rI (wrF (clD T 1).i (k * R) (fun q => n2 (kindX (kdc (ch q)))) i)).sI (k * R + i) (n2 (kindX (kdc (ch i))))) = clS T 1 ((clD T 1).rI (wrF (clD T 1).i (k * R) (fun q => n2 (kindX (kdc (ch q)))) (i + 1))) := by
      rw [clS_clS, rI_sI, wrF_s (clD T 1).i (k * R) (fun q => n2 (kindX (kdc (ch q)))) i]
    generalize hT2 : clS T 1 ((clD T 1).rI (wrF (clD T 1).i (k * R) (fun q => n2 (kindX (kdc (ch q)))) i)) = T2 at at1 nx
    have l2 : T2.length = T.length := by rw [← hT2, clS_len]
    have e0 : clD T2 0 = clD T 0 := by rw [← hT2]; exact clS_ne T 1 0 _ (by decide)
    have St2 : StrT (mNx B) T2 e k ch := by rw [← hT2]; exact St.ch (Sh.chg (by decide) _)
    have G2 : gA (ovs B (c :: T2) z) (some (mNx B)) 132 = some (some (mNx B + (1 + e))) := (rd_132 rdt).trans (congrArg some h132)
    have G3 : gA (ovs B (c :: T2) z) (some (mNx B)) 133 = some (some (mNx B + (1 + 0))) := (rd5_gA h5 (by decide)).trans (congrArg some h133)
    have G29 : gI (ovs B (c :: T2) z) (some (mNx B + (1 + 0))) 29 = some (n2 k) := (tc_gI (by omega) (by rw [e0, Sh.t0]; rfl)).trans (by rw [e0, i29])
    have G28 : gI (ovs B (c :: T2) z) (some (mNx B + (1 + 0))) 28 = some (n2 R) := (tc_gI (by omega) (by rw [e0, Sh.t0]; rfl)).trans (by rw [e0, i28])
    have G34 : gA (ovs B (c :: T2) z) (some (mNx B + (1 + 0))) 34 = some (some (mNx B + (1 + 1))) := (tc_gA (by omega) (by rw [e0, Sh.t0]; rfl)).trans (by rw [e0, Sh.refs.1])
    have I19 : ∀ {α : Type} (o : Option α), iv (ovs B (c :: T2) z) (some (mNx B + (1 + e))) [19] o = o := fun o => by
      obtain ⟨d, q1, q2, q3, -⟩ := St2
      exact tc_iv q1 (by rw [q3]; rfl)
    have XC := X_chr (c := c) (z := z) (i := i) St2 hk ik (by omega)
    have le : (n2 k ≤ n2 i) = False := by rw [n2_le (by omega) (by omega)]; exact eq_false (by omega)
    have ix : n2 k * n2 R + n2 i = n2 (k * R + i) := by rw [n2_mul, n2_add]
    have U := tc_uI (B := B) (c := c) (z := z) (T := T2) (i := 1) (k := k * R + i) (v := n2 (kindX (kdc (ch i)))) hB (by omega) (by rw [at1]; exact Sh.tg.1) (by rw [at1]; show _ < (clD T 1).l; rw [Sh.ls.1]; omega) (by omega)
    rw [at1, nx] at U
    have e120 : (n2 (ch i) = (120 : Int32)) = (ch i = 120) := by rw [li_120, n2_eq (by omega) (by omega)]
    have e1 : n2 i + 1 = n2 (i + 1) := n2_add i 1
    show bX6_row_152B (bX6_row_152 F) _ _ _ = _
    unfold bX6_row_152B bX6_row_216
    by_cases h120 : ch i = 120
    · have kv : n2 (kindX (kdc (ch i))) = (9 : Int32) := by unfold kdc; rw [if_pos h120]; rfl
      rw [kv] at U
      simp -implicitDefEqProofs only [Option.bind_some, bd_some, b2i_0, Bool.true_eq_false, Bool.false_eq_true, eq_self, if_true, if_false, not_true_eq_false, not_false_eq_true, G3, G29, le, G34, G28, G2, I19, XC, e120, eq_true h120, ix, U, e1]
    · have kv : n2 (kindX (kdc (ch i))) = n2 (ch i) - (97 : Int32) := by
        unfold kdc; rw [if_neg h120, kindX_pos (by omega), li_97, n2_sub (by omega)]
        congr 1
      rw [kv] at U
      simp -implicitDefEqProofs only [Option.bind_some, bd_some, b2i_0, Bool.true_eq_false, Bool.false_eq_true, eq_self, if_true, if_false, not_true_eq_false, not_false_eq_true, G3, G29, le, G34, G28, G2, I19, XC, e120, h120, ix, U, e1]
/-- the kinds in the model -/
theorem M_row143 (ch : Nat → Nat) (hch' : ∀ i, i < k → octN (tp (P + i)) = ch i) (ht : m.tape = tp) (hpl : r.place = n2 P) (hsp : r.span = n2 k) (hk : k ≤ 8) (hR : R ≤ 7) (hP : P + k ≤ 940) {st0 : Nat} (hch : ∀ i, i < k → 97 ≤ ch i ∧ ch i ≤ 122) : ∀ (j F i : Nat) (f0 : Nat → Int32), i + j = k → j < F → f0 2 = n2 (st0 + cntN ch i) →
    ∃ f, bX4_readRow_143 F (some 106) (n2 R) (n2 i) (mkM b' n s (m.sRH r (h.sHh f0))) = ((aI (mkM b' n s (m.sRH r (h.sHh f))) (some 109) (0 : Int32)).bind fun x228 => (uI (mkM b' n s (m.sRH r (h.sHh f))) (some 109) (0 : Int32) (x228 + (1 : Int32))).bind fun st => bd (iv st (some 106) [4] (fX4_next (some 106) st)) fun _ st => some ((1 : Int32), st)) ∧ f 2 = n2 (st0 + cntN ch k) ∧ ∀ v, v ≠ 2 → f v = if 6 + k * R + i ≤ v ∧ v < 6 + k * R + k then n2 (kdc (ch (v - (6 + k * R)))) else f0 v := by
  have g66 : ∀ f, gI (mkM b' n s (m.sRH r (h.sHh f))) (some 106) 66 = some (n2 k) := fun f => gM_66.trans (congrArg some hsp)
  have g65 : ∀ f, gI (mkM b' n s (m.sRH r (h.sHh f))) (some 106) 65 = some (n2 P) := fun f => gM_65.trans (congrArg some hpl)
  have kR : k * R ≤ 8 * 7 := Nat.mul_le_mul hk hR
  intro j
  induction j with
  | zero =>
    intro F i f0 hi hF h2
    obtain ⟨F, rfl⟩ : ∃ g, F = g + 1 := ⟨F - 1, by omega⟩
    have ei : i = k := by omega
    subst ei
    refine ⟨f0, ?_, h2, fun v _ => by rw [if_neg (by omega)]⟩
    show bX4_readRow_143B _ _ _ _ _ = _
    unfold bX4_readRow_143B
    simp -implicitDefEqProofs only [Option.bind_some, bd_some, b2i_0, Bool.true_eq_false, Bool.false_eq_true, eq_self, if_true, if_false, not_true_eq_false, not_false_eq_true, g66, show (n2 i ≤ n2 i) = True from eq_true (Int32.le_refl _), gM_62]
  | succ j ih =>
    intro F i f0 hi hF h2
    obtain ⟨F, rfl⟩ : ∃ g, F = g + 1 := ⟨F - 1, by omega⟩
    have ik : i < k := by omega
    have hc := hch i ik
    have MO := M_oct (b' := b') (n := n) (s := s) (m := m) (r := r) (h := h.sHh f0) (tp := tp) (i := P + i) ht (by omega)
    rw [hch' i ik] at MO
    have ix : n2 P + n2 i = n2 (P + i) := n2_add P i
    have le : (n2 k ≤ n2 i) = False := by rw [n2_le (by omega) (by omega)]; exact eq_false (by omega)
    have iy : (6 : Int32) + n2 k * n2 R + n2 i = n2 (6 + k * R + i) := by rw [li_6, n2_mul, n2_add, n2_add]
    have e120 : (n2 (ch i) = (120 : Int32)) = (ch i = 120) := by rw [li_120, n2_eq (by omega) (by omega)]
    have e1 : n2 i + 1 = n2 (i + 1) := n2_add i 1
    have sHs : ∀ f g, ((h.sHh f).sHh g) = h.sHh g := fun _ _ => rfl
    have shh : ∀ f, (h.sHh f).hh = f := fun _ => rfl
    have u1 : ∀ w, uI (mkM b' n s (m.sRH r (h.sHh f0))) (some 109) (n2 (6 + k * R + i)) w = some (mkM b' n s (m.sRH r (h.sHh (upq f0 (6 + k * R + i) w)))) := fun w => by
      rw [u_hhq (by omega), sHs, shh]
    have a2 : ∀ w, aI (mkM b' n s (m.sRH r (h.sHh (upq f0 (6 + k * R + i) w)))) (some 109) (2 : Int32) = some (n2 (st0 + cntN ch i)) := fun w => by
      refine (a_hhq (k := 2) (by decide)).trans ?_
      rw [shh, upq_ne _ _ (by omega), h2]
    have u2 : ∀ f w, uI (mkM b' n s (m.sRH r (h.sHh f))) (some 109) (2 : Int32) w = some (mkM b' n s (m.sRH r (h.sHh (upq f 2 w)))) := fun f w => by
      refine (u_hhq (k := 2) (by decide)).trans ?_
      rw [sHs, shh]
    have cn : cntN ch (i + 1) = cntN ch i + (if ch i = 120 then 0 else 1) := rfl
    obtain ⟨f, f1, f2, f3⟩ := ih F (i + 1) (upq (upq f0 (6 + k * R + i) (n2 (kdc (ch i)))) 2 (n2 (st0 + cntN ch (i + 1)))) (by omega) (by omega) (upq_self _ _ _)
    refine ⟨f, ?_, f2, fun v hv => ?_⟩
    · rw [← f1]
      show bX4_readRow_143B (bX4_readRow_143 F) _ _ _ _ = _
      unfold bX4_readRow_143B bX4_readRow_194 bX4_readRow_214
      by_cases h120 : ch i = 120
      · have kv : kdc (ch i) = 0 := by unfold kdc; rw [if_pos h120]
        have ad : n2 (st0 + cntN ch i) + (0 : Int32) = n2 (st0 + cntN ch (i + 1)) := by rw [cn, if_pos h120]; exact Int32.add_zero _
        have u1' : uI (mkM b' n s (m.sRH r (h.sHh f0))) (some 109) (n2 (6 + k * R + i)) (0 : Int32) = some (mkM b' n s (m.sRH r (h.sHh (upq f0 (6 + k * R + i) (n2 (kdc (ch i))))))) := by rw [kv]; exact u1 _
        simp -implicitDefEqProofs only [Option.bind_some, bd_some, b2i_0, Bool.true_eq_false, Bool.false_eq_true, eq_self, if_true, if_false, not_true_eq_false, not_false_eq_true, g66, le, g65, ix, ivM, MO, gM_62, e120, eq_true h120, iy, u1', a2, ad, u2, e1]
      · have kv : n2 (ch i) - (96 : Int32) = n2 (kdc (ch i)) := by unfold kdc; rw [if_neg h120, li_96, n2_sub (by omega)]
        have ad : n2 (st0 + cntN ch i) + (1 : Int32) = n2 (st0 + cntN ch (i + 1)) := by rw [cn, if_neg h120]; exact n2_add _ 1
        simp -implicitDefEqProofs only [Option.bind_some, bd_some, b2i_0, Bool.true_eq_false, Bool.false_eq_true, eq_self, if_true, if_false, not_true_eq_false, not_false_eq_true, g66, le, g65, ix, ivM, MO, gM_62, e120, eq_false h120, iy, kv, u1, a2, ad, u2, e1]
    · rw [f3 v hv, upq_ne _ _ hv]
      by_cases ev : v = 6 + k * R + i
      · rw [if_neg (by omega), ev, upq_self, if_pos (by omega), Nat.add_sub_cancel_left]
      · rw [upq_ne _ _ ev]
        by_cases cv : 6 + k * R + (i + 1) ≤ v ∧ v < 6 + k * R + k
        · rw [if_pos cv, if_pos (by omega)]
        · rw [if_neg cv, if_neg (by omega)]
end Row2
