set_option linter.unusedVariables false
set_option linter.unusedSimpArgs false
set_option maxRecDepth 100000
theorem clS_self : ∀ (M : List Cl) (q : Nat), clS M q (clD M q) = M
  | [], _ => rfl
  | _ :: _, 0 => rfl
  | c :: M, q + 1 => congrArg (c :: ·) (clS_self M q)
theorem HSh.setR {N : Nat} {T : List Cl} (X : HSh N T) {i : Nat} {f : Nat → Int32} (hi : i < 14) : HSh N (clS T i ((clD T i).rI f)) := by
  have hl := X.len
  have at_ : clD (clS T i ((clD T i).rI f)) i = (clD T i).rI f := clS_at T i _ (by omega)
  have e : ∀ j, (clD (clS T i ((clD T i).rI f)) j).t = (clD T j).t ∧ (clD (clS T i ((clD T i).rI f)) j).l = (clD T j).l ∧ (clD (clS T i ((clD T i).rI f)) j).a = (clD T j).a := fun j => by
    by_cases e : j = i
    · subst e; rw [at_]; exact ⟨rfl, rfl, rfl⟩
    · rw [clS_ne T i j _ e]; exact ⟨rfl, rfl, rfl⟩
  exact X.keep (by rw [clS_len]; exact Nat.le_refl _) (fun j _ => ⟨(e j).1, (e j).2.1⟩) (fun q _ _ => by rw [(e 0).2.2]) (fun q _ => by rw [(e 7).2.2])
section Row3
variable {N : Nat} {T : List Cl} {f f' : Nat → Int32} {H : HS} {ln k : Nat} {ch : Nat → Nat}
theorem MHouse.sRow (X : MHouse f H) (ok : H.Ok) (h8 : H.rows ≤ 7) (hk : k ≤ 8) (hc : H.rows = 0 ∨ H.cols = k) (hch : ∀ i, i < k → 97 ≤ ch i) (f0 : f' 0 = n2 (H.rows + 1)) (f1 : f' 1 = n2 k) (f2 : f' 2 = n2 (H.seats + cntN ch k)) (f3 : ∀ v, 3 ≤ v → f' v = if 6 + k * H.rows ≤ v ∧ v < 6 + k * H.rows + k then n2 (kdc (ch (v - (6 + k * H.rows)))) else f v) : MHouse f' (H.sRow k ch) := by
  have sz : H.size = k * H.rows := by
    show H.rows * H.cols = _
    rcases hc with q | q
    · rw [q]; simp
    · rw [q, Nat.mul_comm]
  have kR : k * H.rows + k ≤ 64 := by
    have : k * (H.rows + 1) ≤ 8 * 8 := Nat.mul_le_mul hk (by omega)
    rw [Nat.mul_add, Nat.mul_one] at this; exact this
  have sz' := sRow_size (ch := ch) hc
  have lo : ∀ v, 3 ≤ v → v < 6 → f' v = f v := fun v h1 h2 => by rw [f3 v h1, if_neg (by omega)]
  have hi : ∀ v, 70 ≤ v → f' v = f v := fun v h1 => by rw [f3 v (by omega), if_neg (by omega)]
  refine ⟨f0, f1, f2.trans (by rw [sRow_seats hc hch]), by rw [lo 3 (by omega) (by omega)]; exact X.carry, by rw [lo 4 (by omega) (by omega)]; exact X.paid, by rw [lo 5 (by omega) (by omega)]; exact X.byRows, fun v hv => ?_, fun q hq => by rw [hi _ (by omega)]; exact X.price q hq, fun q hq => by rw [hi _ (by omega)]; exact X.leaves q hq, fun q w hq hw hl => by rw [hi _ (by omega)]; exact X.law0 q w hq hw hl, fun q w c o hq hw hl => ?_⟩
  · rw [f3 _ (by omega), sz']
    show _ = n2 (if v < H.size + k then (if H.size ≤ v ∧ v < H.size + k then kdc (ch (v - H.size)) else H.kind v) else 0)
    rw [sz]
    by_cases c1 : k * H.rows ≤ v ∧ v < k * H.rows + k
    · rw [if_pos (by omega), if_pos c1.2, if_pos c1, show 6 + v - (6 + k * H.rows) = v - k * H.rows by omega]
    · rw [if_neg (by omega), X.kind v hv, sz]
      by_cases c2 : v < k * H.rows
      · rw [if_pos c2, if_pos (by omega), if_neg c1]
      · rw [if_neg c2, if_neg (by omega)]
  · obtain ⟨l, L⟩ := X.law q w c o hq hw hl
    exact ⟨l, L.post, by rw [hi _ (by omega)]; exact L.ones_, by rw [hi _ (by omega)]; exact L.len, fun i hi' => by rw [hi _ (by omega)]; exact L.code i hi', L.short, L.lvs⟩
theorem HT.sRow (X : HT N T f H ln) (h8 : H.rows ≤ 7) (hk1 : 1 ≤ k) (hk : k ≤ 8) (hc : H.rows = 0 ∨ H.cols = k) (hch : ∀ i, i < k → 97 ≤ ch i ∧ ch i ≤ 122) (hok : ∀ i, i < k → okc (ch i) = true) (mh : MHouse f' (H.sRow k ch)) {T1 T2 T3 : List Cl} (e1 : T1 = clS T 0 ((clD T 0).sI 29 (n2 k))) (e2 : T2 = clS T1 1 ((clD T1 1).rI (wrF (clD T1 1).i (k * H.rows) (fun q => n2 (kindX (kdc (ch q)))) k))) (e3 : T3 = clS T2 0 ((clD T1 0).sI 28 (n2 (H.rows + 1)))) : HT N T3 f' (H.sRow k ch) ln ∧ Chg T T3 ∧ T3.length = T.length := by
  have len := X.len
  have sh1 : HSh N T1 := by rw [e1]; exact X.sh.setI (by decide)
  have sh2 : HSh N T2 := by rw [e2]; exact sh1.setR (by decide)
  have l1 : T1.length = T.length := by rw [e1, clS_len]
  have l2 : T2.length = T.length := by rw [e2, clS_len, l1]
  have l3 : T3.length = T.length := by rw [e3, clS_len, l2]
  have a10 : clD T1 0 = (clD T 0).sI 29 (n2 k) := by rw [e1]; exact clS_at T 0 _ (by omega)
  have n1 : ∀ i, i ≠ 0 → clD T1 i = clD T i := fun i hi => by rw [e1]; exact clS_ne T 0 i _ hi
  have a20 : clD T2 0 = clD T1 0 := by rw [e2]; exact clS_ne T1 1 0 _ (by decide)
  have a21 : clD T2 1 = (clD T1 1).rI (wrF (clD T1 1).i (k * H.rows) (fun q => n2 (kindX (kdc (ch q)))) k) := by rw [e2]; exact clS_at T1 1 _ (by omega)
  have n2' : ∀ i, i ≠ 1 → clD T2 i = clD T1 i := fun i hi => by rw [e2]; exact clS_ne T1 1 i _ hi
  have sh3 : HSh N T3 := by rw [e3, ← a20]; exact sh2.setI (by decide)
  have a30 : clD T3 0 = ((clD T 0).sI 29 (n2 k)).sI 28 (n2 (H.rows + 1)) := by rw [e3, clS_at T2 0 _ (by omega), a10]
  have a31 : clD T3 1 = (clD T 1).rI (wrF (clD T 1).i (k * H.rows) (fun q => n2 (kindX (kdc (ch q)))) k) := by rw [e3, clS_ne T2 0 1 _ (by decide), a21, n1 1 (by decide)]
  have n3 : ∀ i, i ≠ 0 → i ≠ 1 → clD T3 i = clD T i := fun i h0 h1 => by rw [e3, clS_ne T2 0 i _ h0, n2' i h1, n1 i h0]
  have C : Chg T T3 := by
    have c1 : Chg T T1 := by rw [e1]; exact X.sh.chg (by decide) _
    have c2 : Chg T1 T2 := by rw [e2]; exact sh1.chg (by decide) _
    have c3 : Chg T2 T3 := by rw [e3]; exact sh2.chg (by decide) _
    exact (c1.trans c2).trans c3
  have iN : ∀ q, q ≠ 28 → q ≠ 29 → (clD T3 0).i q = (clD T 0).i q := fun q h1 h2 => by rw [a30, i_ne _ _ h1, i_ne _ _ h2]
  have sz : H.size = k * H.rows := by
    show H.rows * H.cols = _
    rcases hc with q | q
    · rw [q]; simp
    · rw [q, Nat.mul_comm]
  have sz' := sRow_size (ch := ch) hc
  refine ⟨⟨sh3, by rw [a30, i_self]; rfl, by rw [a30, i_ne _ _ (by decide), i_self]; rfl, by rw [iN _ (by decide) (by decide)]; exact X.carry, by rw [iN _ (by decide) (by decide)]; exact X.paid, by rw [iN _ (by decide) (by decide)]; exact X.lines, by rw [iN _ (by decide) (by decide)]; exact X.byRows, fun v hv => ?_, fun j hj => by rw [n3 _ (by decide) (by decide)]; exact X.price j hj, fun j hj => by rw [n3 _ (by decide) (by decide)]; exact X.leaves j hj, fun q hq hl => by rw [n3 _ (by decide) (by decide)]; exact X.up0 q hq hl, fun q c o hq hl => ?_, fun q hq hl => by rw [n3 _ (by decide) (by decide)]; exact X.down0 q hq hl, fun q c o hq hl => ?_, mh, ⟨by show H.rows + 1 ≤ 8; omega, hk, ⟨fun q => absurd q (Nat.succ_ne_zero _), fun q => by have : k = 0 := q; omega⟩, X.ok.carry, X.ok.paid, fun v => ?_, X.ok.price, X.ok.leaves, X.ok.dep⟩⟩, C, l3⟩
  · rw [a31]
    show wrF (clD T 1).i (k * H.rows) (fun q => n2 (kindX (kdc (ch q)))) k v = n2 (kindX (if H.size ≤ v ∧ v < H.size + k then kdc (ch (v - H.size)) else H.kind v))
    unfold wrF
    rw [sz' , sz] at hv
    rw [sz]
    by_cases c1 : k * H.rows ≤ v ∧ v < k * H.rows + k
    · rw [if_pos c1, if_pos c1]
    · rw [if_neg c1, if_neg c1]; exact X.kind v (by rw [sz]; omega)
  · obtain ⟨q1, a, q2, q3⟩ := X.up q c o hq hl
    exact ⟨by rw [n3 _ (by decide) (by decide)]; exact q1, a, by rw [n3 _ (by decide) (by decide)]; exact q2, q3.ch C⟩
  · obtain ⟨q1, a, q2, q3⟩ := X.down q c o hq hl
    exact ⟨by rw [n3 _ (by decide) (by decide)]; exact q1, a, by rw [n3 _ (by decide) (by decide)]; exact q2, q3.ch C⟩
  · show (if H.size ≤ v ∧ v < H.size + k then kdc (ch (v - H.size)) else H.kind v) ≤ 6
    by_cases c1 : H.size ≤ v ∧ v < H.size + k
    · rw [if_pos c1]
      have h1 := of_decide_eq_true (hok (v - H.size) (by omega))
      unfold kdc
      by_cases e : ch (v - H.size) = 120
      · rw [if_pos e]; omega
      · rw [if_neg e]; omega
    · rw [if_neg c1]; exact X.ok.kind v
end Row3
section Row4
variable {B b' : Mem} {m : MS} {tp : Nat → Int32} {to most A Z n s : Nat} {c : Cl} {T : List Cl} {z p ln : Nat} {r : MR} {h : MH} {H : HS}
theorem D_row (X : HR B m tp to most A Z c T z r h p H ln) (hw : wd r 7499639 = true) :
    LnR B m tp to most A Z b' n s c p ln (fX6_row (some (mNx B)) (ovs B (c :: T) z)) (fX4_line (some 106) (mkM b' n s (m.sRH r h))) := by
  have R := X.S.R
  have hB : 64 ≤ mNx B := by have := R.hB; omega
  have nz0 : nz (0 : Int32) = 0 := by decide
  have nz1 : nz (1 : Int32) = 1 := by decide
  have kd : c.i 128 = 2 := wd_kind (w := 7499639) X.S hw
  have r8 := X.ho.ok.rows
  have c8 := X.ho.ok.cols
  have t940 := R.to_
  have G3 := X.gA
  have G28 : gI (ovs B (c :: T) z) (some (mNx B + (1 + 0))) 28 = some (n2 H.rows) := (X.ho.gI (by decide)).trans (congrArg some X.ho.rows)
  have rd0 : aI (mkM b' n s (m.sRH r h)) (some 109) (0 : Int32) = some (n2 H.rows) := (a_hhq (k := 0) (by decide)).trans (congrArg some X.ho.mh.rows)
  have q8 : (n2 H.rows = (8 : Int32)) = (H.rows = 8) := by rw [li_8, n2_eq (by omega) (by omega)]
  have le8 : ((8 : Int32) ≤ n2 H.rows) = (8 ≤ H.rows) := by rw [li_8, n2_le (by omega) (by omega)]
  have M0 : fX4_line (some 106) (mkM b' n s (m.sRH r h)) = bd (fX4_readRow (some 106) (mkM b' n s (m.sRH r h))) fun x st => some ((nz x), st) := by
    unfold fX4_line
    simp -implicitDefEqProofs only [Option.bind_some, bd_some, b2i_0, Bool.true_eq_false, Bool.false_eq_true, eq_self, if_true, if_false, not_true_eq_false, not_false_eq_true, ivM, M_wdq, hw]
  rw [M0]
  have badR : ∀ {α : Type} {rx : Option ((α ⊕ Nat) × Mem)} {y : Option (Int32 × Mem)}, Bad B m A Z to b' n s rx y → Bad B m A Z to b' n s rx (bd y fun x st => some ((nz x), st)) := fun hb => by
    obtain ⟨e, c', T', z', r', h', y1, y2, y3⟩ := hb
    refine ⟨e, c', T', z', r', h', y1, ?_, y3⟩
    rw [y2, bd_some, nz0]
  by_cases h8 : H.rows = 8
  · refine Or.inr (badR ((D_badH (α := Unit) (b' := b') (n := n) (s := s) X.S X.g 4 (Or.inr (by rw [kd]; decide))).eq ?_ ?_))
    · unfold fX6_row bX6_row_18
      simp -implicitDefEqProofs only [Option.bind_some, bd_some, b2i_0, Bool.true_eq_false, Bool.false_eq_true, eq_self, if_true, if_false, not_true_eq_false, not_false_eq_true, G3, G28, le8, show (8 ≤ H.rows) = True from eq_true (by omega), rd_iv5 X.t5, X_need0' R 4, bt_inr]
    · unfold fX4_readRow
      simp -implicitDefEqProofs only [Option.bind_some, bd_some, b2i_0, Bool.true_eq_false, Bool.false_eq_true, eq_self, if_true, if_false, not_true_eq_false, not_false_eq_true, gM_62, rd0, q8, eq_true h8, ivM, M_badH, nz0]
  · obtain ⟨c1, T1, z1, r1, p1, R1, x1, m1, S1, Kp1, Kr1, T1e, le1, nu1, g1⟩ := goG (b' := b') (n := n) (s := s) X.S X.g (by rw [kd]; decide)
    have X1 : HR B m tp to most A Z c1 T1 z1 r1 h p1 H ln := X.go S1 (g1.add (by omega) (by omega)) Kp1.c (Kh.refl h) T1e
    have G128 : gI (ovs B (c1 :: T1) z1) (some (mNx B)) 128 = some (c1.i 128) := rd_get S1.R.t rfl
    have X0 : ∀ v, (v = (if c1.i 128 = 2 then (1 : Int32) else 0)) → fX6_row (some (mNx B)) (ovs B (c :: T) z) = bX6_row_40 (some (mNx B)) (some (mNx B)) v (ovs B (c1 :: T1) z1) := by
      intro v hv
      unfold fX6_row bX6_row_18
      by_cases e2 : c1.i 128 = 2
      · rw [hv]; simp -implicitDefEqProofs only [Option.bind_some, bd_some, b2i_0, Bool.true_eq_false, Bool.false_eq_true, eq_self, if_true, if_false, not_true_eq_false, not_false_eq_true, G3, G28, le8, show (8 ≤ H.rows) = False from eq_false (by omega), rd_iv5 X.t5, X_need1', bt_inl, x1, G128, e2]
      · rw [hv]; simp -implicitDefEqProofs only [Option.bind_some, bd_some, b2i_0, Bool.true_eq_false, Bool.false_eq_true, eq_self, if_true, if_false, not_true_eq_false, not_false_eq_true, G3, G28, le8, show (8 ≤ H.rows) = False from eq_false (by omega), rd_iv5 X.t5, X_need1', bt_inl, x1, G128, e2]
    have G3' := X1.gA
    have G28' : gI (ovs B (c1 :: T1) z1) (some (mNx B + (1 + 0))) 28 = some (n2 H.rows) := (X1.ho.gI (by decide)).trans (congrArg some X1.ho.rows)
    have G29' : gI (ovs B (c1 :: T1) z1) (some (mNx B + (1 + 0))) 29 = some (n2 H.cols) := (X1.ho.gI (by decide)).trans (congrArg some X1.ho.cols)
    have rd1 : aI (mkM b' n s (m.sRH r1 h)) (some 109) (1 : Int32) = some (n2 H.cols) := (a_hhq (k := 1) (by decide)).trans (congrArg some X1.ho.mh.cols)
    have no : c1.i 128 ≠ 2 → r1.token ≠ 1 → LnR B m tp to most A Z b' n s c p ln (fX6_row (some (mNx B)) (ovs B (c :: T) z)) (bd (fX4_readRow (some 106) (mkM b' n s (m.sRH r h))) fun x st => some ((nz x), st)) := fun e1 e2 => by
      refine Or.inr (badR ((D_badH (α := Unit) (b' := b') (n := n) (s := s) S1 X1.g 1 (Or.inl rfl)).eq ?_ ?_))
      · rw [X0 0 (by rw [if_neg e1])]
        unfold bX6_row_40
        simp -implicitDefEqProofs only [Option.bind_some, bd_some, b2i_0, Bool.true_eq_false, Bool.false_eq_true, eq_self, if_true, if_false, not_true_eq_false, not_false_eq_true, rd_iv5 X1.t5, X_need0' S1.R 1, bt_inr]
      · unfold fX4_readRow
        simp -implicitDefEqProofs only [Option.bind_some, bd_some, b2i_0, Bool.true_eq_false, Bool.false_eq_true, eq_self, if_true, if_false, not_true_eq_false, not_false_eq_true, gM_62, rd0, q8, h8, ivM, m1, g_tok, e2, M_badH, nz0]
    rcases S1.K.kd with ⟨k1, k2⟩ | ⟨k1, k2⟩ | ⟨k1, k2, P, k, e, w1, w2, w3, w4, w5, w6, w7, w8, w9⟩ | ⟨k1, k2, -⟩ | ⟨k1, k2, -⟩
    · rw [sRH_r] at k2; exact no (by rw [k1]; decide) (by rw [k2]; decide)
    · rw [sRH_r] at k2
      refine no ?_ (by rw [k2]; decide)
      rcases k1 with k1 | k1 <;> rw [k1] <;> decide
    · rw [sRH_r] at k2 w4 w5 w7
      generalize hch : (fun i => octN (tp (P + i))) = ch at w9
      have chE : ∀ i, octN (tp (P + i)) = ch i := fun i => by rw [← hch]
      have hl : ∀ i, i < k → 97 ≤ ch i ∧ ch i ≤ 122 := fun i hi => by
        have := w6 i hi
        unfold isLtN at this
        have := of_decide_eq_true this
        rw [chE] at this; exact this
      have hl' : ∀ i, i < k → 97 ≤ octN (tp (P + i)) ∧ octN (tp (P + i)) ≤ 122 := fun i hi => by rw [chE]; exact hl i hi
      have nv : ¬ (c1.i 128 = 1 ∨ c1.i 128 = 5) := by rw [k1]; decide
      have G2 : gA (ovs B (c1 :: T1) z1) (some (mNx B)) 132 = some (some (mNx B + (1 + e))) := (rd_132 S1.R.t).trans (congrArg some w8)
      have I19 : ∀ {α : Type} (o : Option α), iv (ovs B (c1 :: T1) z1) (some (mNx B + (1 + e))) [19] o = o := fun o => by
        obtain ⟨d, q1, q2, q3, -⟩ := w9
        exact tc_iv q1 (by rw [q3]; rfl)
      have XL := X_len (c := c1) (z := z1) w9 w2
      have g66 : gI (mkM b' n s (m.sRH r1 h)) (some 106) 66 = some (n2 k) := gM_66.trans (congrArg some w5)
      have rq : (n2 H.rows = 0) = (H.rows = 0) := by rw [li_0, n2_eq (by omega) (by omega)]
      have kq : (n2 k = n2 H.cols) = (k = H.cols) := n2_eq (by omega) (by omega)
      have S1t : m.tape = tp := S1.tape
      have M62 := fun v => M_row62 (b' := b') (n := n) (s := s) (H := H) (m := m) (r := r1) (h := h) (tp := tp) (P := P) (k := k) S1t w4 w5 w2 (by omega) hl' k hcFuel 0 v (by omega) (by unfold hcFuel; omega)
      by_cases hc : H.rows = 0 ∨ k = H.cols
      · have hc' : H.rows = 0 ∨ H.cols = k := hc.elim Or.inl (fun q => Or.inr q.symm)
        have X77 : fX6_row (some (mNx B)) (ovs B (c :: T) z) = bX6_row_83 hcFuel (some (mNx B)) (n2 0) (ovs B (c1 :: T1) z1) := by
          rw [X0 1 (by rw [if_pos k1])]
          unfold bX6_row_40 bX6_row_72 bX6_row_77
          generalize hcFuel = fu
          by_cases hr0 : H.rows = 0
          · simp -implicitDefEqProofs only [Option.bind_some, bd_some, b2i_0, Bool.true_eq_false, Bool.false_eq_true, eq_self, if_true, if_false, not_true_eq_false, not_false_eq_true, rd_iv5 X1.t5, X_need1', bt_inl, G3', G28', rq, eq_true hr0]; rfl
          · have hk' : k = H.cols := hc.elim (fun q => absurd q hr0) id
            simp -implicitDefEqProofs only [Option.bind_some, bd_some, b2i_0, Bool.true_eq_false, Bool.false_eq_true, eq_self, if_true, if_false, not_true_eq_false, not_false_eq_true, rd_iv5 X1.t5, X_need1', bt_inl, G3', G28', rq, hr0, G2, I19, XL, G29', kq, eq_true hk']; rfl
        have MR : fX4_readRow (some 106) (mkM b' n s (m.sRH r h)) = bX4_readRow_62 hcFuel (some 106) (n2 H.rows) (b2i true) (n2 0) (mkM b' n s (m.sRH r1 h)) := by
          unfold fX4_readRow bX4_readRow_54 bX4_readRow_59
          generalize hcFuel = fu
          by_cases hr0 : H.rows = 0
          · simp -implicitDefEqProofs only [Option.bind_some, bd_some, b2i_0, Bool.true_eq_false, Bool.false_eq_true, eq_self, if_true, if_false, not_true_eq_false, not_false_eq_true, gM_62, rd0, q8, h8, ivM, m1, g_tok, k2, rq, eq_true hr0]; rfl
          · have hk' : k = H.cols := hc.elim (fun q => absurd q hr0) id
            simp -implicitDefEqProofs only [Option.bind_some, bd_some, b2i_0, Bool.true_eq_false, Bool.false_eq_true, eq_self, if_true, if_false, not_true_eq_false, not_false_eq_true, gM_62, rd0, q8, h8, ivM, m1, g_tok, k2, rq, hr0, g66, rd1, kq, eq_true hk']; rfl
        obtain ⟨w, ww, M2⟩ := M62 true
        rw [X77, MR, M2]
        rcases X_row83 (m := m) (r := r1) (h := h) (z := z1) ch S1 X1.t5 k1 w8 w9 w2 hl k hcFuel 0 (by omega) (by unfold hcFuel; omega) (fun q hq => absurd hq (Nat.not_lt_zero q)) with ⟨ok, X2⟩ | ⟨nok, X2⟩
        · -- all letters are good
          have wt : w = true := ww.mpr ⟨rfl, fun q _ hq => by rw [chE]; exact ok q hq⟩
          rw [X2, G3', Option.bind_some, wt, if_pos (by decide)]
          have len1 := X1.ho.len
          have P29 := tc_pI (B := B) (c := c1) (z := z1) (T := T1) (i := 0) (f := 29) (v := n2 k) hB (by omega) (by rw [X1.ho.t0]; rfl)
          rw [P29, Option.bind_some]
          obtain ⟨Ta, eTa⟩ : ∃ Ta, Ta = clS T1 0 ((clD T1 0).sI 29 (n2 k)) := ⟨_, rfl⟩
          rw [← eTa]
          have la : Ta.length = T1.length := by rw [eTa, clS_len]
          have sha : HSh (mNx B) Ta := by rw [eTa]; exact X1.ho.sh.setI (by decide)
          have a0 : clD Ta 0 = (clD T1 0).sI 29 (n2 k) := by rw [eTa]; exact clS_at T1 0 _ (by omega)
          have X3 := X_row152 (B := B) (c := c1) (T := Ta) (z := z1) (k := k) (e := e) (R := H.rows) ch hB X1.t5 w8 X1.a133 sha (w9.ch (by rw [eTa]; exact X1.ho.sh.chg (by decide) _)) w2 (by omega) (by rw [a0, i_self]) (by rw [a0, i_ne _ _ (by decide)]; exact X1.ho.rows) hl k hcFuel 0 (by omega) (by unfold hcFuel; omega)
          rw [wrF_0, rI_self, clS_self] at X3
          have X3' : bX6_row_152 hcFuel (some (mNx B)) (0 : Int32) (ovs B (c1 :: Ta) z1) = _ := X3
          rw [X3']
          obtain ⟨Tb, eTb⟩ : ∃ Tb, Tb = clS Ta 1 ((clD Ta 1).rI (wrF (clD Ta 1).i (k * H.rows) (fun q => n2 (kindX (kdc (ch q)))) k)) := ⟨_, rfl⟩
          rw [← eTb]
          obtain ⟨Tc, eTc⟩ : ∃ Tc, Tc = clS Tb 0 ((clD Ta 0).sI 28 (n2 (H.rows + 1))) := ⟨_, rfl⟩
          rw [← eTc]
          -- the model
          have u1 : uI (mkM b' n s (m.sRH r1 h)) (some 109) (1 : Int32) (n2 k) = some (mkM b' n s (m.sRH r1 (h.sHh (upq h.hh 1 (n2 k))))) := u_hhq (k := 1) (by decide)
          rw [u1, Option.bind_some]
          obtain ⟨f, M3, f2, f3⟩ := M_row143 (b' := b') (n := n) (s := s) (m := m) (r := r1) (h := h) (tp := tp) (P := P) (k := k) (R := H.rows) (st0 := H.seats) ch (fun i _ => chE i) S1t w4 w5 w2 (by omega) (by omega) hl k hcFuel 0 (upq h.hh 1 (n2 k)) (by omega) (by unfold hcFuel; omega) (by rw [upq_ne _ _ (by decide)]; exact X1.ho.mh.seats)
          have M3' : bX4_readRow_143 hcFuel (some 106) (n2 H.rows) (0 : Int32) (mkM b' n s (m.sRH r1 (h.sHh (upq h.hh 1 (n2 k))))) = _ := M3
          have a0' : aI (mkM b' n s (m.sRH r1 (h.sHh f))) (some 109) (0 : Int32) = some (n2 H.rows) := by
            refine (a_hhq (k := 0) (by decide)).trans ?_
            show some (f 0) = _
            rw [f3 0 (by decide), if_neg (by omega), upq_ne _ _ (by decide)]; exact congrArg some X1.ho.mh.rows
          have u0 : uI (mkM b' n s (m.sRH r1 (h.sHh f))) (some 109) (0 : Int32) (n2 (H.rows + 1)) = some (mkM b' n s (m.sRH r1 (h.sHh (upq f 0 (n2 (H.rows + 1)))))) := u_hhq (k := 0) (by decide)
          rw [M3', a0', Option.bind_some, show n2 H.rows + 1 = n2 (H.rows + 1) from n2_add _ 1, u0, Option.bind_some, ivM]
          have mh : MHouse (upq f 0 (n2 (H.rows + 1))) (H.sRow k ch) := by
            refine X1.ho.mh.sRow X1.ho.ok (by omega) w2 hc' (fun i hi => (hl i hi).1) (upq_self _ _ _) ?_ ?_ (fun v hv => ?_)
            · rw [upq_ne _ _ (by decide), f3 1 (by decide), if_neg (by omega), upq_self]
            · rw [upq_ne _ _ (by decide)]; exact f2
            · rw [upq_ne _ _ (by omega), f3 v (by omega)]
              by_cases cv : 6 + k * H.rows ≤ v ∧ v < 6 + k * H.rows + k
              · rw [if_pos (by omega), if_pos cv]
              · rw [if_neg (by omega), if_neg cv, upq_ne _ _ (by omega)]
          obtain ⟨HTc, Cc, lc⟩ := X1.ho.sRow (by omega) w1 w2 hc' hl ok mh eTa eTb eTc
          obtain ⟨c4, T4, z4, r4, p4, R4, x4, m4, S4, Kp4, Kr4, T4e, le4, nu4, g4⟩ := goG (b' := b') (n := n) (s := s) (z := z1) (A := A) (Z := Z) ((S1.hh (h.sHh (upq f 0 (n2 (H.rows + 1))))).ch Cc) (by obtain ⟨b1, b2⟩ := X1.g; exact ⟨by rw [lc]; exact b1, b2⟩) (by rw [k1]; decide)
          refine Or.inl ⟨c4, T4, z4, r4, _, p4, H.sRow k ch, ?_, ?_, ⟨S4, g4.add (by omega) (by omega), Kp4.1.trans X1.t5, by rw [T4e]; exact HTc.app R4, (Kp4.2.2.2.2 133 (by decide)).trans X1.a133, ?_, ?_, ?_, X1.ml⟩, by omega, by omega⟩
          · rw [x4, bd_some]
          · rw [m4, bd_some, bd_some, nz1]
          · rw [Kp4.2.2.2.1 134 (by omega)]; exact X1.i134
          · rw [Kp4.2.2.2.1 135 (by omega)]; exact X1.i135
          · rw [Kp4.2.2.2.1 136 (by omega)]; exact X1.i136
        · -- a bad letter
          have wf : w = false := by
            cases w
            · rfl
            · exact absurd (fun q hq => by have := (ww.mp rfl).2 q (by omega) hq; rw [chE] at this; exact this) nok
          rw [wf, if_neg (show ¬ ¬ b2i false = (0 : Int32) from fun q => q rfl), X2]
          exact Or.inr (badR (D_badH (α := Unit) (b' := b') (n := n) (s := s) S1 X1.g 2 (Or.inr nv)))
      · -- not as long as the others
        have hr0 : ¬ H.rows = 0 := fun q => hc (Or.inl q)
        have hk' : ¬ k = H.cols := fun q => hc (Or.inr q)
        obtain ⟨w, ww, M2⟩ := M62 false
        have wf : w = false := by
          cases w
          · rfl
          · exact absurd (ww.mp rfl).1 (by decide)
        have MR : fX4_readRow (some 106) (mkM b' n s (m.sRH r h)) = bX4_readRow_62 hcFuel (some 106) (n2 H.rows) (b2i false) (n2 0) (mkM b' n s (m.sRH r1 h)) := by
          unfold fX4_readRow bX4_readRow_59
          generalize hcFuel = fu
          simp -implicitDefEqProofs only [Option.bind_some, bd_some, b2i_0, Bool.true_eq_false, Bool.false_eq_true, eq_self, if_true, if_false, not_true_eq_false, not_false_eq_true, gM_62, rd0, q8, h8, ivM, m1, g_tok, k2, rq, hr0, g66, rd1, kq, hk']; rfl
        rw [MR, M2, wf, if_neg (fun q => q rfl)]
        refine Or.inr (badR ((D_badH (α := Unit) (b' := b') (n := n) (s := s) S1 X1.g 2 (Or.inr nv)).eq ?_ rfl))
        rw [X0 1 (by rw [if_pos k1])]
        unfold bX6_row_40 bX6_row_77
        simp -implicitDefEqProofs only [Option.bind_some, bd_some, b2i_0, Bool.true_eq_false, Bool.false_eq_true, eq_self, if_true, if_false, not_true_eq_false, not_false_eq_true, rd_iv5 X1.t5, X_need1', bt_inl, G3', G28', rq, hr0, G2, I19, XL, G29', kq, hk', X_need0' S1.R 2, bt_inr]
    · rw [sRH_r] at k2; exact no (by rw [k1]; decide) (by rw [k2]; decide)
    · rw [sRH_r] at k2; exact no (by rw [k1]; decide) (by rw [k2]; decide)
end Row4
