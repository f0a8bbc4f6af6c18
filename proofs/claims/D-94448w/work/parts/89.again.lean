set_option linter.unusedVariables false
set_option linter.unusedSimpArgs false
set_option maxRecDepth 100000
/-! ===== command: again ===== -/
def nbS (N : NT) (s : Nat) : Nat := 4 * lvOf N.c1 N.c2 s + hdOf N.lo N.hi s
theorem nbS_lt (N : NT) (s : Nat) : nbS N s < 16 := by
  have := lvOf_le N.c1 N.c2 s
  have := hdOf_le N.lo N.hi s
  unfold nbS; omega
def pkS (H : HS) (N : NT) (g : Nat) : Nat → Int64
  | 0 => 0
  | s + 1 => if H.kind s ≠ 0 ∧ s / 16 = g then pkS H N g s ||| shlL (n2 (nbS N s)).toInt64 (n2 (4 * (s % 16))) else pkS H N g s
theorem tb_nib {w j l i : Nat} (hw : w < 16) (hj : j < 16) (hl : l < 16) (hi : i < 4) : tb (shlL (n2 w).toInt64 (n2 (4 * l))) (4 * j + i) = (decide (j = l) && w.testBit i) := by
  unfold tb
  rw [shl_bv _ (by omega), sh_nat (by omega), BitVec.getLsbD_shiftLeft, BitVec.getLsbD_ofNat]
  rcases Nat.lt_trichotomy j l with h | h | h
  · rw [decide_eq_false (show ¬ j = l by omega), decide_eq_true (show 4 * j + i < 4 * l by omega)]; simp
  · subst h
    rw [show 4 * j + i - 4 * j = i by omega, decide_eq_true (show 4 * j + i < 64 by omega), decide_eq_false (show ¬ 4 * j + i < 4 * j by omega), decide_eq_true (show i < 64 by omega), decide_eq_true (rfl : j = j)]; simp
  · have hp : (2 : Nat) ^ 4 ≤ 2 ^ (4 * j + i - 4 * l) := Nat.pow_le_pow_right (by decide) (by omega)
    rw [decide_eq_false (show ¬ j = l by omega), Nat.testBit_lt_two_pow (Nat.lt_of_lt_of_le hw hp)]; simp
theorem tb_pk (H : HS) (N : NT) (g : Nat) {j i : Nat} (hj : j < 16) (hi : i < 4) : ∀ k, tb (pkS H N g k) (4 * j + i) = (decide (16 * g + j < k ∧ H.kind (16 * g + j) ≠ 0) && (nbS N (16 * g + j)).testBit i)
  | 0 => by
    show tb 0 _ = _
    rw [tb_zero, decide_eq_false (by omega)]; rfl
  | s + 1 => by
    have ih := tb_pk H N g hj hi s
    simp -implicitDefEqProofs only [pkS]
    by_cases e : 16 * g + j = s
    · have hd : s / 16 = g := by omega
      have hm : s % 16 = j := by omega
      rw [e] at ih ⊢
      rw [decide_eq_false (show ¬ (s < s ∧ H.kind s ≠ 0) by omega), Bool.false_and] at ih
      by_cases hk : H.kind s = 0
      · rw [if_neg (fun h => h.1 hk), ih, decide_eq_false (fun h => h.2 hk), Bool.false_and]
      · rw [if_pos ⟨hk, hd⟩, tb_or, ih, tb_nib (nbS_lt N s) hj (by omega) hi, hm, decide_eq_true (rfl : j = j), decide_eq_true (show s < s + 1 ∧ H.kind s ≠ 0 from ⟨by omega, hk⟩), Bool.false_or]
    · have d : decide (16 * g + j < s + 1 ∧ H.kind (16 * g + j) ≠ 0) = decide (16 * g + j < s ∧ H.kind (16 * g + j) ≠ 0) := decide_eq_decide.mpr ⟨fun h => ⟨by omega, h.2⟩, fun h => ⟨by omega, h.2⟩⟩
      rw [d]
      by_cases c : H.kind s ≠ 0 ∧ s / 16 = g
      · rw [if_pos c, tb_or, ih, tb_nib (nbS_lt N s) hj (by omega) hi, decide_eq_false (show ¬ j = s % 16 by omega), Bool.false_and, Bool.or_false]
      · rw [if_neg c, ih]
theorem nib_inj : ∀ a, a < 16 → ∀ b, b < 16 → (∀ i, i < 4 → a.testBit i = b.testBit i) → a = b := by decide +kernel
theorem pk_inj {H : HS} {N M : NT} (h : ∀ g, g < 4 → pkS H N g H.size = pkS H M g H.size) {s : Nat} (hs : s < H.size) (h64 : H.size ≤ 64) (hk : H.kind s ≠ 0) : nbS N s = nbS M s := by
  refine nib_inj _ (nbS_lt N s) _ (nbS_lt M s) fun i hi => ?_
  have e := congrArg (fun z => tb z (4 * (s % 16) + i)) (h (s / 16) (by omega))
  have e : tb (pkS H N (s / 16) H.size) (4 * (s % 16) + i) = tb (pkS H M (s / 16) H.size) (4 * (s % 16) + i) := e
  rw [tb_pk H N _ (by omega) hi, tb_pk H M _ (by omega) hi, show 16 * (s / 16) + s % 16 = s by omega, decide_eq_true ⟨hs, hk⟩, Bool.true_and, Bool.true_and] at e
  exact e
theorem pkS_congr {H : HS} {N M : NT} {g : Nat} (h : ∀ s, nbS N s = nbS M s) : ∀ k, pkS H N g k = pkS H M g k
  | 0 => rfl
  | s + 1 => by simp -implicitDefEqProofs only [pkS]; rw [pkS_congr h s, h s]
def Tidy (H : HS) (N : NT) : Prop := ∀ j, j < 64 → (tb N.c2 j = true → tb N.c1 j = true) ∧ (¬ (j < H.size ∧ H.kind j ≠ 0) → tb N.c1 j = false ∧ tb N.c2 j = false ∧ tb N.lo j = false ∧ tb N.hi j = false)
theorem tb_ifb (p : Prop) [Decidable p] {s j : Nat} (hs : s < 64) : tb (if p then bitS s else 0) j = (decide p && decide (j = s)) := by
  by_cases h : p
  · rw [if_pos h, tb_bitS hs, decide_eq_true h, Bool.true_and]
  · rw [if_neg h, tb_zero, decide_eq_false h, Bool.false_and]
theorem seatRun_tidy {H : HS} {t : Nat} {P : Int64 × Int64 × Bool} {N : NT} : ∀ (s : Nat), s ≤ 64 → ∀ j, (tb (seatRun H t P N s).a2 j = true → tb (seatRun H t P N s).a1 j = true) ∧ (H.kind j = 0 → tb (seatRun H t P N s).a1 j = false ∧ tb (seatRun H t P N s).a2 j = false ∧ tb (seatRun H t P N s).l j = false ∧ tb (seatRun H t P N s).h j = false)
  | 0, _, j => ⟨fun h => absurd ((tb_zero j).symm.trans h) (by decide), fun _ => ⟨tb_zero j, tb_zero j, tb_zero j, tb_zero j⟩⟩
  | s + 1, hs, j => by
    obtain ⟨i1, i2⟩ := seatRun_tidy (H := H) (t := t) (P := P) (N := N) s (by omega) j
    simp -implicitDefEqProofs only [seatRun]
    generalize seatRun H t P N s = A at *
    unfold seatSt
    split
    · exact ⟨i1, i2⟩
    · next hk =>
      generalize seatLv H t P _ _ _ _ s = lv
      generalize sinceOf t lv _ _ = sn
      unfold putLv
      simp -implicitDefEqProofs only [mk_Ac_a1, mk_Ac_a2, mk_Ac_l, mk_Ac_h, tb_or, tb_ifb _ (show s < 64 by omega)]
      by_cases e : j = s
      · subst e
        refine ⟨fun h => ?_, fun h => absurd h hk⟩
        simp -implicitDefEqProofs only [decide_true, Bool.and_true, Bool.or_eq_true, decide_eq_true_eq] at h ⊢
        rcases h with h | h
        · exact Or.inl (i1 h)
        · exact Or.inr (by omega)
      · simp -implicitDefEqProofs only [decide_eq_false e, Bool.and_false, Bool.or_false]
        exact ⟨i1, i2⟩
theorem momentS_tidy {H : HS} {C : List Cu} {t : Nat} {N : NT} (h64 : H.size ≤ 64) : Tidy H (momentS H C t N) := by
  intro j hj
  obtain ⟨i1, i2⟩ := seatRun_tidy (H := H) (t := t) (P := (cuesAt C t N).2) (N := N) H.size h64 j
  refine ⟨i1, fun hn => ?_⟩
  by_cases hk : H.kind j = 0
  · exact i2 hk
  · exact seatRun_lt (H := H) (t := t) (P := (cuesAt C t N).2) (N := N) H.size h64 j (by
      by_cases hjs : j < H.size
      · exact absurd ⟨hjs, hk⟩ hn
      · omega)
theorem nightS_tidy {H : HS} {C : List Cu} {p hi : Int64} (h64 : H.size ≤ 64) : ∀ t, Tidy H (nightS H C p hi t)
  | 0 => momentS_tidy h64
  | t + 1 => momentS_tidy h64
theorem bits8 : ∀ (a1 a2 a3 a4 b1 b2 b3 b4 : Bool), (a2 = true → a1 = true) → (b2 = true → b1 = true) → 4 * (if a2 = true then 2 else if a1 = true then 1 else 0) + ((if a3 = true then 1 else 0) + (if a4 = true then 2 else 0)) = 4 * (if b2 = true then 2 else if b1 = true then 1 else 0) + ((if b3 = true then 1 else 0) + (if b4 = true then 2 else 0)) → a1 = b1 ∧ a2 = b2 ∧ a3 = b3 ∧ a4 = b4 := by decide
def Alike (N M : NT) : Prop := N.c1 = M.c1 ∧ N.c2 = M.c2 ∧ N.lo = M.lo ∧ N.hi = M.hi
theorem alike_pk {H : HS} {N M : NT} (h64 : H.size ≤ 64) (tN : Tidy H N) (tM : Tidy H M) : (∀ g, g < 4 → pkS H N g H.size = pkS H M g H.size) ↔ Alike N M := by
  constructor
  · intro h
    have key : ∀ j, j < 64 → tb N.c1 j = tb M.c1 j ∧ tb N.c2 j = tb M.c2 j ∧ tb N.lo j = tb M.lo j ∧ tb N.hi j = tb M.hi j := by
      intro j hj
      obtain ⟨n1, n2'⟩ := tN j hj
      obtain ⟨m1, m2'⟩ := tM j hj
      by_cases hc : j < H.size ∧ H.kind j ≠ 0
      · have e := pk_inj h hc.1 h64 hc.2
        exact bits8 _ _ _ _ _ _ _ _ n1 m1 e
      · obtain ⟨a1, a2, a3, a4⟩ := n2' hc
        obtain ⟨c1, c2, c3, c4⟩ := m2' hc
        rw [a1, a2, a3, a4, c1, c2, c3, c4]; exact ⟨rfl, rfl, rfl, rfl⟩
    exact ⟨tb_ext fun k hk => (key k hk).1, tb_ext fun k hk => (key k hk).2.1, tb_ext fun k hk => (key k hk).2.2.1, tb_ext fun k hk => (key k hk).2.2.2⟩
  · rintro ⟨h1, h2, h3, h4⟩ g -
    refine pkS_congr (fun s => ?_) _
    unfold nbS; rw [h1, h2, h3, h4]
def XS.sSt (x : XS) (f : Nat → Int64) : XS := (XS.mk (x.taped) (x.fault) (x.bought) (x.worthMany) (x.beganFirst) (x.beganSecond) (x.seed) (x.arranged) (x.paid) (x.hiss) (x.orders) (x.house) (x.cues) (x.tape) (f) (x.asked) (x.carriesSet) (x.heights) (x.worth) (x.mouths) (x.sided) (x.keptHouse) (x.keptPaid) (x.keptHiss) (x.kMod) (x.kData) (x.kSize) (x.out) (x.n0) (x.n1))
theorem sSt_n (x : XS) (f : Nat → Int64) (q : Bool) : (x.sSt f).n q = x.n q := by cases q <;> rfl
theorem sSt_states (x : XS) (f : Nat → Int64) : (x.sSt f).states = f := rfl
theorem sSt_paid (x : XS) (f : Nat → Int64) : (x.sSt f).paid = x.paid := rfl
theorem sSt_self (x : XS) : x.sSt x.states = x := by unfold XS.sSt; exact XS_eta x
section Pack
variable {b b' : Mem} {n s : Nat} {x : XS} {m : MS} {H : HS} {C : List Cu} {h c t : Nat} {K : Nat → Option (HS × List Cu)} {p hi : Int64} {q : Bool} {N : NT}
theorem uS_t (hb : 131 ≤ mNx b) {f : Nat → Int64} {k : Nat} {v : Int64} (hk : k < 2404) : uJ (mkX b (x.sSt f)) (some 95) (n2 k) v = some (mkX b (x.sSt (upq f k v))) := by
  rw [uX_95 hb, ifx_k hk (by omega), n2_nat (by omega)]; simp -implicitDefEqProofs only [XS.sSt, mk_XS_taped, mk_XS_fault, mk_XS_bought, mk_XS_worthMany, mk_XS_beganFirst, mk_XS_beganSecond, mk_XS_seed, mk_XS_arranged, mk_XS_paid, mk_XS_hiss, mk_XS_orders, mk_XS_house, mk_XS_cues, mk_XS_tape, mk_XS_states, mk_XS_asked, mk_XS_carriesSet, mk_XS_heights, mk_XS_worth, mk_XS_mouths, mk_XS_sided, mk_XS_keptHouse, mk_XS_keptPaid, mk_XS_keptHiss, mk_XS_kMod, mk_XS_kData, mk_XS_kSize, mk_XS_out, mk_XS_n0, mk_XS_n1]
theorem aS_t (hb : 131 ≤ mNx b) {f : Nat → Int64} {k : Nat} (hk : k < 2404) : aJ (mkX b (x.sSt f)) (some 95) (n2 k) = some (f k) := by
  rw [aX_95 hb, ifx_k hk (by omega), n2_nat (by omega)]; simp -implicitDefEqProofs only [XS.sSt, mk_XS_taped, mk_XS_fault, mk_XS_bought, mk_XS_worthMany, mk_XS_beganFirst, mk_XS_beganSecond, mk_XS_seed, mk_XS_arranged, mk_XS_paid, mk_XS_hiss, mk_XS_orders, mk_XS_house, mk_XS_cues, mk_XS_tape, mk_XS_states, mk_XS_asked, mk_XS_carriesSet, mk_XS_heights, mk_XS_worth, mk_XS_mouths, mk_XS_sided, mk_XS_keptHouse, mk_XS_keptPaid, mk_XS_keptHiss, mk_XS_kMod, mk_XS_kData, mk_XS_kSize, mk_XS_out, mk_XS_n0, mk_XS_n1]
theorem X_pk26 (hb : 131 ≤ mNx b) (X : XHouse b h H) (ok : H.Ok) (ht : t ≤ 600) (I : XNt (x.n q) h c H N t) : ∀ (k fu s : Nat) (f : Nat → Int64), s + k = H.size → k < fu → (∀ g, g < 4 → f (4 * t + g) = pkS H N g s) →
    ∃ F, bX3_pack_26 fu (some (nid q)) (some 95) (n2 s) (mkX b (x.sSt f)) = some ((), mkX b (x.sSt F)) ∧ (∀ g, g < 4 → F (4 * t + g) = pkS H N g H.size) ∧ (∀ w, w < 4 * t → F w = f w) := by
  have h64 := ok.size
  intro k
  induction k with
  | zero =>
    intro fu s f hk hf hp
    obtain ⟨fu, rfl⟩ : ∃ g, fu = g + 1 := ⟨fu - 1, by omega⟩
    have e : s = H.size := by omega
    subst e
    have I' : XNt ((x.sSt f).n q) h c H N t := by rw [sSt_n]; exact I
    refine ⟨f, ?_, hp, fun _ _ => rfl⟩
    show bX3_pack_26B _ _ _ _ _ = _
    unfold bX3_pack_26B
    simp -implicitDefEqProofs only [Option.bind_some, bd_some, b2i_0, Bool.true_eq_false, Bool.false_eq_true, eq_self, if_true, if_false, not_true_eq_false, not_false_eq_true, gN_41 hb, I'.h_, xh_iv X, xh_size X, show (n2 H.size ≤ n2 H.size) = True from eq_true (Int32.le_refl _)]
  | succ k ih =>
    intro fu s f hk hf hp
    obtain ⟨fu, rfl⟩ : ∃ g, fu = g + 1 := ⟨fu - 1, by omega⟩
    have hs : s < H.size := by omega
    have I' : XNt ((x.sSt f).n q) h c H N t := by rw [sSt_n]; exact I
    have le : (n2 H.size ≤ n2 s) = False := by rw [n2_le (by omega) (by omega)]; exact eq_false (by omega)
    have ev : n2 s + 1 = n2 (s + 1) := n2_add s 1
    show ∃ F, bX3_pack_26B (bX3_pack_26 fu) _ _ _ _ = _ ∧ _
    unfold bX3_pack_26B bX3_pack_90
    by_cases hk0 : H.kind s = 0
    · have hp' : ∀ g, g < 4 → f (4 * t + g) = pkS H N g (s + 1) := by
        intro g hg; rw [hp g hg]; simp -implicitDefEqProofs only [pkS]; rw [if_neg (fun h => h.1 hk0)]
      simp -implicitDefEqProofs only [Option.bind_some, bd_some, b2i_0, Bool.true_eq_false, Bool.false_eq_true, eq_self, if_true, if_false, not_true_eq_false, not_false_eq_true, gN_41 hb, I'.h_, xh_iv X, xh_size X, le, xh_34 X, xh_kind X hs h64, kindX_9 (ok.kind s), hk0, ev]
      exact ih fu (s + 1) f (by omega) (by omega) hp'
    · have dv : dvI (n2 s) (16 : Int32) = some (n2 (s / 16)) := by rw [li_16]; exact n2_dv (by omega) (by omega) (by omega)
      have rm : rmI (n2 s) (16 : Int32) = some (n2 (s % 16)) := by rw [li_16]; exact n2_rm (by omega) (by omega) (by omega)
      have ix : (4 : Int32) * n2 t + n2 (s / 16) = n2 (4 * t + s / 16) := by rw [li_4, n2_mul, n2_add]
      have iy : (4 : Int32) * n2 (lvOf N.c1 N.c2 s) + n2 (hdOf N.lo N.hi s) = n2 (nbS N s) := by rw [li_4, n2_mul, n2_add]; rfl
      have iz : (4 : Int32) * n2 (s % 16) = n2 (4 * (s % 16)) := by rw [li_4, n2_mul]
      have kx : (H.kind s = 0) = False := eq_false hk0
      have hp' : ∀ g, g < 4 → upq f (4 * t + s / 16) (f (4 * t + s / 16) ||| shlL (n2 (nbS N s)).toInt64 (n2 (4 * (s % 16)))) (4 * t + g) = pkS H N g (s + 1) := by
        intro g hg; simp -implicitDefEqProofs only [pkS]
        by_cases eg : s / 16 = g
        · rw [if_pos ⟨hk0, eg⟩, eg, upq_self, hp g hg]
        · rw [if_neg (fun h => eg h.2), upq_ne _ _ (by omega), hp g hg]
      obtain ⟨F, e1, e2, e3⟩ := ih fu (s + 1) _ (by omega) (by omega) hp'
      refine ⟨F, ?_, e2, fun w hw => by rw [e3 w hw, upq_ne _ _ (by omega)]⟩
      rw [← e1]
      simp -implicitDefEqProofs only [Option.bind_some, bd_some, b2i_0, Bool.true_eq_false, Bool.false_eq_true, eq_self, if_true, if_false, not_true_eq_false, not_false_eq_true, gN_41 hb, I'.h_, xh_iv X, xh_size X, le, xh_34 X, xh_kind X hs h64, kindX_9 (ok.kind s), kx, gN_44 hb, I'.now, dv, ix, aS_t hb (show 4 * t + s / 16 < 2404 by omega), gN_49 hb, aN_level hb, ifx_k (show s < 64 by omega) (show s < 2147483648 by omega), n2_nat (show s < 2147483648 by omega), I'.level s hs, gN_51 hb, aN_held hb, I'.held s hs hk0, rm, iy, iz, uS_t hb (show 4 * t + s / 16 < 2404 by omega), ev]
theorem X_pk2 (hb : 131 ≤ mNx b) (ht : t ≤ 600) (I : XNt (x.n q) h c H N t) : ∀ (k fu j : Nat) (f : Nat → Int64), j + k = 4 → k < fu → (∀ g, g < j → f (4 * t + g) = 0) →
    ∃ F, bX3_pack_2 fu (some (nid q)) (some 95) (n2 j) (mkX b (x.sSt f)) = bX3_pack_26 hcFuel (some (nid q)) (some 95) 0 (mkX b (x.sSt F)) ∧ (∀ g, g < 4 → F (4 * t + g) = 0) ∧ (∀ w, w < 4 * t → F w = f w) := by
  intro k
  induction k with
  | zero =>
    intro fu j f hk hf hp
    obtain ⟨fu, rfl⟩ : ∃ g, fu = g + 1 := ⟨fu - 1, by omega⟩
    have e : j = 4 := by omega
    subst e
    refine ⟨f, ?_, hp, fun _ _ => rfl⟩
    show bX3_pack_2B _ _ _ _ _ = _
    unfold bX3_pack_2B
    rw [if_pos (by decide)]
  | succ k ih =>
    intro fu j f hk hf hp
    obtain ⟨fu, rfl⟩ : ∃ g, fu = g + 1 := ⟨fu - 1, by omega⟩
    have I' : XNt ((x.sSt f).n q) h c H N t := by rw [sSt_n]; exact I
    have le : ((4 : Int32) ≤ n2 j) = False := by rw [li_4, n2_le (by omega) (by omega)]; exact eq_false (by omega)
    have ix : (4 : Int32) * n2 t + n2 j = n2 (4 * t + j) := by rw [li_4, n2_mul, n2_add]
    obtain ⟨F, e1, e2, e3⟩ := ih fu (j + 1) (upq f (4 * t + j) 0) (by omega) (by omega) (fun g hg => by
      by_cases eg : g = j
      · rw [eg, upq_self]
      · rw [upq_ne _ _ (by omega)]; exact hp g (by omega))
    refine ⟨F, ?_, e2, fun w hw => by rw [e3 w hw, upq_ne _ _ (by omega)]⟩
    rw [← e1]
    show bX3_pack_2B (bX3_pack_2 fu) _ _ _ _ = _
    unfold bX3_pack_2B
    simp -implicitDefEqProofs only [Option.bind_some, bd_some, b2i_0, Bool.true_eq_false, Bool.false_eq_true, eq_self, if_true, if_false, not_true_eq_false, not_false_eq_true, le, gN_44 hb, I'.now, ix, uS_t hb (show 4 * t + j < 2404 by omega), show n2 j + 1 = n2 (j + 1) from n2_add j 1]
theorem X_pack (hb : 131 ≤ mNx b) (X : XHouse b h H) (ok : H.Ok) (ht : t ≤ 600) (I : XNt (x.n q) h c H N t) :
    ∃ F, fX3_pack (some (nid q)) (some 95) (mkX b x) = some ((), mkX b (x.sSt F)) ∧ (∀ g, g < 4 → F (4 * t + g) = pkS H N g H.size) ∧ (∀ w, w < 4 * t → F w = x.states w) := by
  have h64 := ok.size
  obtain ⟨F, e1, e2, e3⟩ := X_pk2 hb ht I 4 hcFuel 0 x.states (by omega) (by unfold hcFuel; omega) (fun g hg => absurd hg (Nat.not_lt_zero g))
  obtain ⟨G, f1, f2, f3⟩ := X_pk26 hb X ok ht I H.size hcFuel 0 F (by omega) (by unfold hcFuel; omega) e2
  rw [sSt_self] at e1
  exact ⟨G, e1.trans f1, f2, fun w hw => (f3 w hw).trans (e3 w hw)⟩
theorem Duo.sSt {f : Nat → Int64} (R : Duo b x m H C h c K) : Duo b (x.sSt f) m H C h c K := ⟨R.hb, R.fz, R.ok, R.ar, R.XH, R.xh, R.XC, R.xc, R.MH, R.MC, R.lays, R.l01, R.tape, R.len, R.fault, R.paid, R.hiss, R.bought, R.worth, R.sided, R.b1, R.b2, R.arranged, R.kept, R.keptC⟩
theorem setN_st (x : XS) (y : NX) : (x.setN false y).states = x.states := rfl
theorem setN_pd (x : XS) (y : NX) : (x.setN false y).paid = x.paid := rfl
theorem X_ag24 {a : Int32} : ∀ (k fu t : Nat) (x : XS), t + k = 600 → k < fu → Duo b x m H C h c K → XNt (x.n false) h c H (nightS H C p hi t) t → (∀ u, u ≤ t → ∀ g, g < 4 → x.states (4 * u + g) = pkS H (nightS H C p hi u) g H.size) →
    ∃ x', bX1_again_24 fu (some 64) a (some (nid false)) (mkX b x) = bd (fX1_quiet (some 64) (mkX b x')) (fun r st => bX1_again_54 hcFuel (some 64) a r st) ∧ Duo b x' m H C h c K ∧ x'.paid = x.paid ∧ (∀ u, u ≤ 600 → ∀ g, g < 4 → x'.states (4 * u + g) = pkS H (nightS H C p hi u) g H.size) := by
  intro k
  induction k with
  | zero =>
    intro fu t x hk hf R I hs
    obtain ⟨fu, rfl⟩ : ∃ g, fu = g + 1 := ⟨fu - 1, by omega⟩
    have e : t = 600 := by omega
    subst e
    refine ⟨x, ?_, R, rfl, hs⟩
    show bX1_again_24B _ _ _ _ _ = _
    unfold bX1_again_24B
    simp -implicitDefEqProofs only [Option.bind_some, bd_some, b2i_0, Bool.true_eq_false, Bool.false_eq_true, eq_self, if_true, if_false, not_true_eq_false, not_false_eq_true, gN_44 R.hb, I.now, show ((600 : Int32) ≤ n2 600) = True from eq_true (by decide), ivX R.hb]
  | succ k ih =>
    intro fu t x hk hf R I hs
    obtain ⟨fu, rfl⟩ : ∃ g, fu = g + 1 := ⟨fu - 1, by omega⟩
    have le : ((600 : Int32) ≤ n2 t) = False := by rw [li_600, n2_le (by omega) (by omega)]; exact eq_false (by omega)
    obtain ⟨y, e1, I2⟩ := X_nstep R.hb R.XH R.ok R.XC (by omega) I
    obtain ⟨F, e2, f1, f2⟩ := X_pack (q := false) (x := x.setN false y) R.hb R.XH R.ok (show t + 1 ≤ 600 by omega) (by rw [setN_n]; exact I2)
    rw [setN_st] at f2
    obtain ⟨x', g1, g2, g3, g4⟩ := ih fu (t + 1) ((x.setN false y).sSt F) (by omega) (by omega) (R.nX.sSt) (by rw [sSt_n, setN_n]; exact I2) (by
      rw [sSt_states]
      intro u hu g hg
      by_cases eu : u = t + 1
      · subst eu; exact f1 g hg
      · rw [f2 _ (by omega)]; exact hs u (by omega) g hg)
    rw [sSt_paid, setN_pd] at g3
    refine ⟨x', ?_, g2, g3, g4⟩
    rw [← g1]
    show bX1_again_24B (bX1_again_24 fu) _ _ _ _ = _
    unfold bX1_again_24B
    simp -implicitDefEqProofs only [Option.bind_some, bd_some, b2i_0, Bool.true_eq_false, Bool.false_eq_true, eq_self, if_true, if_false, not_true_eq_false, not_false_eq_true, gN_44 R.hb, I.now, le, ivN R.hb, e1, gX_10 R.hb, e2]
theorem max_lv {v l : Nat} (hv : v ≤ 601) (hl : l ≤ 601) : mmaxI (n2 v) (i2 ((l : Int) - 1)) = n2 (max v (l - 1)) := by
  unfold mmaxI
  by_cases e : v < l - 1
  · rw [if_pos (by rw [ni_lt (by omega) (by omega) (by omega)]; omega), show max v (l - 1) = l - 1 by omega, n2_i2]
    congr 1; omega
  · rw [if_neg (by rw [ni_lt (by omega) (by omega) (by omega)]; omega), show max v (l - 1) = v by omega]
theorem sub_lv {l : Nat} : n2 l - (1 : Int32) = i2 ((l : Int) - 1) := by rw [show (1 : Int32) = i2 1 from rfl, n2_i2, i2_sub]
theorem L_qr {a fl : Int32} (R : Duo b x m H C h c K) : ∀ (k F F' r v : Nat), r + k = H.rows → k < F → k < F' → v ≤ 601 →
    ∃ v', v' ≤ 601 ∧ bX1_quiet_4 F (some 64) (n2 v) (n2 r) (mkX b x) = bX1_quiet_52 hcFuel (some 64) (n2 v') (if x.paid = 0 then 0 else 1) 0 (mkX b x) ∧ bX4_again_43 F' (some 106) a (n2 v) fl (n2 r) (mkM b' n s m) = bX4_again_96 hcFuel (some 106) a (n2 v') fl 0 (mkM b' n s m) := by
  have h8 := R.ok.rows
  have r0 : aI (mkM b' n s m) (some 108) (0 : Int32) = some (n2 H.rows) := (rd_s' (k := 0) (by decide)).trans (congrArg some R.MH.rows)
  intro k
  induction k with
  | zero =>
    intro F F' r v hk hF hF' hv
    obtain ⟨F, rfl⟩ : ∃ g, F = g + 1 := ⟨F - 1, by omega⟩
    obtain ⟨F', rfl⟩ : ∃ g, F' = g + 1 := ⟨F' - 1, by omega⟩
    have e : r = H.rows := by omega
    subst e
    refine ⟨v, hv, ?_, ?_⟩
    · show bX1_quiet_4B _ _ _ _ _ = _
      unfold bX1_quiet_4B bX1_quiet_49
      simp -implicitDefEqProofs only [Option.bind_some, bd_some, b2i_0, Bool.true_eq_false, Bool.false_eq_true, eq_self, if_true, if_false, not_true_eq_false, not_false_eq_true, gX_4 R.hb, R.xh, xh_28 R.XH, show (n2 H.rows ≤ n2 H.rows) = True from eq_true (Int32.le_refl _), gX_5 R.hb]
      by_cases e : x.paid = 0
      · rw [if_pos e, if_pos e]
      · rw [if_neg e, if_neg e]
    · show bX4_again_43B _ _ _ _ _ _ _ = _
      unfold bX4_again_43B
      simp -implicitDefEqProofs only [Option.bind_some, bd_some, b2i_0, Bool.true_eq_false, Bool.false_eq_true, eq_self, if_true, if_false, not_true_eq_false, not_false_eq_true, gM_61, r0, show (n2 H.rows ≤ n2 H.rows) = True from eq_true (Int32.le_refl _)]
  | succ k ih =>
    intro F F' r v hk hF hF' hv
    obtain ⟨F, rfl⟩ : ∃ g, F = g + 1 := ⟨F - 1, by omega⟩
    obtain ⟨F', rfl⟩ : ∃ g, F' = g + 1 := ⟨F' - 1, by omega⟩
    have le : (n2 H.rows ≤ n2 r) = False := by rw [n2_le (by omega) (by omega)]; exact eq_false (by omega)
    have hl := R.ok.leaves r
    have ev : n2 r + 1 = n2 (r + 1) := n2_add r 1
    obtain ⟨v', g1, g2, g3⟩ := ih F F' (r + 1) (max v (H.leaves r - 1)) (by omega) (by omega) (by omega) (by omega)
    refine ⟨v', g1, ?_, ?_⟩
    · rw [← g2]
      show bX1_quiet_4B (bX1_quiet_4 F) _ _ _ _ = _
      unfold bX1_quiet_4B
      simp -implicitDefEqProofs only [Option.bind_some, bd_some, b2i_0, Bool.true_eq_false, Bool.false_eq_true, eq_self, if_true, if_false, not_true_eq_false, not_false_eq_true, gX_4 R.hb, R.xh, xh_28 R.XH, le, xh_36 R.XH, xh_leaves R.XH (show r < 8 by omega), max_lv hv hl, ev]
    · rw [← g3]
      have ix : (78 : Int32) + n2 r = n2 (78 + r) := by rw [li_78, n2_add]
      have e78 : aI (mkM b' n s m) (some 108) (n2 (78 + r)) = some (n2 (H.leaves r)) := (rd_s' (by omega)).trans (congrArg some (R.MH.leaves r (by omega)))
      show bX4_again_43B (bX4_again_43 F') _ _ _ _ _ _ = _
      unfold bX4_again_43B bX4_again_86
      simp -implicitDefEqProofs only [Option.bind_some, bd_some, b2i_0, Bool.true_eq_false, Bool.false_eq_true, eq_self, if_true, if_false, not_true_eq_false, not_false_eq_true, gM_61, r0, le, ix, e78, sub_lv, ev]
      by_cases hc : v < H.leaves r - 1
      · rw [if_neg (by rw [in_le (by omega) (by omega) (by omega)]; omega), show max v (H.leaves r - 1) = H.leaves r - 1 by omega, n2_i2 (H.leaves r - 1), show (((H.leaves r - 1 : Nat) : Int)) = (H.leaves r : Int) - 1 by omega]
      · rw [if_pos (by rw [in_le (by omega) (by omega) (by omega)]; omega), show max v (H.leaves r - 1) = v by omega]
theorem L_qc {a : Int32} (R : Duo b x m H C h c K) : ∀ (k F F' i v : Nat) (fl : Int32), i + k = C.length → k < F → k < F' → v ≤ 601 → (fl = 0 ∨ fl = 1) →
    ∃ u, u ≤ 601 ∧ bX1_quiet_52 F (some 64) (n2 v) fl (n2 i) (mkX b x) = some (n2 u, mkX b x) ∧ bX4_again_96 F' (some 106) a (n2 v) fl (n2 i) (mkM b' n s m) = bX4_again_218 hcFuel (some 106) a (n2 u) (mkM b' n s m) := by
  have h30 := R.XC.len
  have hpd := R.ok.paid
  have r590 : aI (mkM b' n s m) (some 108) (590 : Int32) = some (n2 C.length) := (rd_s' (k := 590) (by decide)).trans (congrArg some R.MC.many)
  have r4 : aI (mkM b' n s m) (some 108) (4 : Int32) = some (n2 H.paid) := (rd_s' (k := 4) (by decide)).trans (congrArg some R.MH.paid)
  intro k
  induction k with
  | zero =>
    intro F F' i v fl hk hF hF' hv hfl
    obtain ⟨F, rfl⟩ : ∃ g, F = g + 1 := ⟨F - 1, by omega⟩
    obtain ⟨F', rfl⟩ : ∃ g, F' = g + 1 := ⟨F' - 1, by omega⟩
    have e : i = C.length := by omega
    subst e
    show ∃ u, _ ∧ bX1_quiet_52B _ _ _ _ _ _ = _ ∧ bX4_again_96B _ _ _ _ _ _ _ = _
    unfold bX1_quiet_52B bX4_again_96B bX1_quiet_148 bX4_again_215
    simp -implicitDefEqProofs only [Option.bind_some, bd_some, b2i_0, Bool.true_eq_false, Bool.false_eq_true, eq_self, if_true, if_false, not_true_eq_false, not_false_eq_true, gX_7 R.hb, R.xc, xc_iv R.XC, xc_size R.XC, show (n2 C.length ≤ n2 C.length) = True from eq_true (Int32.le_refl _), gM_61, r590]
    rcases hfl with rfl | rfl
    · simp -implicitDefEqProofs only [Option.bind_some, bd_some, b2i_0, Bool.true_eq_false, Bool.false_eq_true, eq_self, if_true, if_false, not_true_eq_false, not_false_eq_true]; exact ⟨v, hv, rfl, rfl⟩
    · simp -implicitDefEqProofs only [Option.bind_some, bd_some, b2i_0, Bool.true_eq_false, Bool.false_eq_true, eq_self, if_true, if_false, not_true_eq_false, not_false_eq_true, show (1 : Int32) = 0 ↔ False by decide, gX_4 R.hb, R.xh, xh_31 R.XH, r4, show n2 H.paid + 1 = n2 (H.paid + 1) from n2_add _ 1]
      by_cases h6 : H.paid = 600
      · simp -implicitDefEqProofs only [Option.bind_some, bd_some, b2i_0, Bool.true_eq_false, Bool.false_eq_true, eq_self, if_true, if_false, not_true_eq_false, not_false_eq_true, h6, show ((600 : Int32) ≤ n2 600) = True from eq_true (by decide)]
        exact ⟨v, hv, rfl, rfl⟩
      · have c6 : ((600 : Int32) ≤ n2 H.paid) = False := by rw [li_600, n2_le (by omega) (by omega)]; exact eq_false (by omega)
        simp -implicitDefEqProofs only [Option.bind_some, bd_some, b2i_0, Bool.true_eq_false, Bool.false_eq_true, eq_self, if_true, if_false, not_true_eq_false, not_false_eq_true, c6, mm_max v (H.paid + 1) (by omega) (by omega)]
        by_cases hc : H.paid + 1 ≤ v
        · have c7 : (n2 (H.paid + 1) ≤ n2 v) = True := by rw [n2_le (by omega) (by omega)]; exact eq_true hc
          simp -implicitDefEqProofs only [Option.bind_some, bd_some, b2i_0, Bool.true_eq_false, Bool.false_eq_true, eq_self, if_true, if_false, not_true_eq_false, not_false_eq_true, c7]
          exact ⟨v, hv, by rw [show max v (H.paid + 1) = v by omega], rfl⟩
        · have c7 : (n2 (H.paid + 1) ≤ n2 v) = False := by rw [n2_le (by omega) (by omega)]; exact eq_false hc
          simp -implicitDefEqProofs only [Option.bind_some, bd_some, b2i_0, Bool.true_eq_false, Bool.false_eq_true, eq_self, if_true, if_false, not_true_eq_false, not_false_eq_true, c7]
          exact ⟨H.paid + 1, by omega, by rw [show max v (H.paid + 1) = H.paid + 1 by omega], rfl⟩
  | succ k ih =>
    intro F F' i v fl hk hF hF' hv hfl
    obtain ⟨F, rfl⟩ : ∃ g, F = g + 1 := ⟨F - 1, by omega⟩
    obtain ⟨F', rfl⟩ : ∃ g, F' = g + 1 := ⟨F' - 1, by omega⟩
    have hi : i < C.length := by omega
    obtain ⟨o1, o2, -⟩ := R.XC.ok i hi
    obtain ⟨e, g1, g2⟩ := xc_get (x := x) R.XC hi
    have le : (n2 C.length ≤ n2 i) = False := by rw [n2_le (by omega) (by omega)]; exact eq_false (by omega)
    have ev : n2 i + 1 = n2 (i + 1) := n2_add i 1
    have i0 : (591 : Int32) + (3 : Int32) * n2 i = n2 (591 + 3 * i) := by rw [li_591, li_3, n2_mul, n2_add]
    have i1 : n2 (591 + 3 * i) + (1 : Int32) = n2 (591 + 3 * i + 1) := n2_add _ 1
    have rt : aI (mkM b' n s m) (some 108) (n2 (591 + 3 * i)) = some (n2 C[i].t) := (rd_s' (by omega)).trans (congrArg some (R.MC.t i hi))
    have rw' : aI (mkM b' n s m) (some 108) (n2 (591 + 3 * i + 1)) = some (n2 C[i].w) := (rd_s' (by omega)).trans (congrArg some (R.MC.w i hi))
    generalize C[i] = k at *
    -- M up to the flag
    have eM : ∀ fl, bX4_again_96 (F' + 1) (some 106) a (n2 v) fl (n2 i) (mkM b' n s m) = bX4_again_143 (bX4_again_96 F') (some 106) a fl (n2 i) (n2 (max v k.t)) (mkM b' n s m) := by
      intro fl
      show bX4_again_96B (bX4_again_96 F') _ _ _ _ _ _ = _
      unfold bX4_again_96B
      simp -implicitDefEqProofs only [Option.bind_some, bd_some, b2i_0, Bool.true_eq_false, Bool.false_eq_true, eq_self, if_true, if_false, not_true_eq_false, not_false_eq_true, gM_61, r590, le, i0, rt]
      by_cases hc : k.t ≤ v
      · rw [if_pos (by rw [n2_le (by omega) (by omega)]; exact hc), show max v k.t = v by omega]
      · rw [if_neg (by rw [n2_le (by omega) (by omega)]; exact hc), show max v k.t = k.t by omega]
    have eX : ∀ fl, bX1_quiet_52 (F + 1) (some 64) (n2 v) fl (n2 i) (mkX b x) = if ¬ fl = 0 then bX1_quiet_52 F (some 64) (n2 (max v k.t)) 1 (n2 (i + 1)) (mkX b x) else if ¬ n2 k.w = 0 then bX1_quiet_52 F (some 64) (n2 (max v k.t)) 0 (n2 (i + 1)) (mkX b x) else bX1_quiet_52 F (some 64) (n2 (max v k.t)) 1 (n2 (i + 1)) (mkX b x) := by
      intro fl
      show bX1_quiet_52B (bX1_quiet_52 F) _ _ _ _ _ = _
      unfold bX1_quiet_52B bX1_quiet_103 bX1_quiet_108
      simp -implicitDefEqProofs only [Option.bind_some, bd_some, b2i_0, Bool.true_eq_false, Bool.false_eq_true, eq_self, if_true, if_false, not_true_eq_false, not_false_eq_true, gX_7 R.hb, R.xc, xc_iv R.XC, xc_size R.XC, le, g1, cu_ck g2, cu_t g2, cu_what g2 o2, mm_max v k.t (by omega) (by omega), ev]
    rw [eX, eM]
    unfold bX4_again_143 bX4_again_166 bX4_again_171
    simp -implicitDefEqProofs only [Option.bind_some, bd_some, b2i_0, Bool.true_eq_false, Bool.false_eq_true, eq_self, if_true, if_false, not_true_eq_false, not_false_eq_true, gM_61, i0, i1, rw', ev]
    by_cases hf : fl = 0
    · rw [hf]; simp -implicitDefEqProofs only [Option.bind_some, bd_some, b2i_0, Bool.true_eq_false, Bool.false_eq_true, eq_self, if_true, if_false, not_true_eq_false, not_false_eq_true]
      by_cases hw : n2 k.w = 0
      · simp -implicitDefEqProofs only [Option.bind_some, bd_some, b2i_0, Bool.true_eq_false, Bool.false_eq_true, eq_self, if_true, if_false, not_true_eq_false, not_false_eq_true, hw]
        exact ih F F' (i + 1) (max v k.t) 1 (by omega) (by omega) (by omega) (by omega) (Or.inr rfl)
      · simp -implicitDefEqProofs only [Option.bind_some, bd_some, b2i_0, Bool.true_eq_false, Bool.false_eq_true, eq_self, if_true, if_false, not_true_eq_false, not_false_eq_true, hw]
        exact ih F F' (i + 1) (max v k.t) 0 (by omega) (by omega) (by omega) (by omega) (Or.inl rfl)
    · simp -implicitDefEqProofs only [Option.bind_some, bd_some, b2i_0, Bool.true_eq_false, Bool.false_eq_true, eq_self, if_true, if_false, not_true_eq_false, not_false_eq_true, hf]
      exact ih F F' (i + 1) (max v k.t) 1 (by omega) (by omega) (by omega) (by omega) (Or.inr rfl)
theorem X_alk (hb : 131 ≤ mNx b) (h64 : H.size ≤ 64) (hs : ∀ u, u ≤ 600 → ∀ g, g < 4 → x.states (4 * u + g) = pkS H (nightS H C p hi u) g H.size) {u v : Nat} (hu : u ≤ 600) (hv : v ≤ 600) : ∃ r : Bool, fX1_areLike (some 64) (n2 u) (n2 v) (mkX b x) = some (b2i r, mkX b x) ∧ (r = true ↔ Alike (nightS H C p hi u) (nightS H C p hi v)) := by
  have loop : ∀ (k fu j : Nat), j + k = 4 → k < fu → (∀ g, g < j → pkS H (nightS H C p hi u) g H.size = pkS H (nightS H C p hi v) g H.size) → ∃ r : Bool, bX1_areLike_2 fu (some 64) (n2 u) (n2 v) (n2 j) (mkX b x) = some (b2i r, mkX b x) ∧ (r = true ↔ Alike (nightS H C p hi u) (nightS H C p hi v)) := by
    intro k
    induction k with
    | zero =>
      intro fu j hk hf hg
      obtain ⟨fu, rfl⟩ : ∃ g, fu = g + 1 := ⟨fu - 1, by omega⟩
      have e : j = 4 := by omega
      subst e
      refine ⟨true, ?_, fun _ => (alike_pk h64 (nightS_tidy h64 u) (nightS_tidy h64 v)).mp hg, fun _ => rfl⟩
      show bX1_areLike_2B _ _ _ _ _ _ = _
      unfold bX1_areLike_2B
      rw [if_pos (by decide)]; rfl
    | succ k ih =>
      intro fu j hk hf hg
      obtain ⟨fu, rfl⟩ : ∃ g, fu = g + 1 := ⟨fu - 1, by omega⟩
      have le : ((4 : Int32) ≤ n2 j) = False := by rw [li_4, n2_le (by omega) (by omega)]; exact eq_false (by omega)
      have ix : ∀ u, (4 : Int32) * n2 u + n2 j = n2 (4 * u + j) := fun u => by rw [li_4, n2_mul, n2_add]
      show ∃ r : Bool, bX1_areLike_2B (bX1_areLike_2 fu) _ _ _ _ _ = _ ∧ _
      unfold bX1_areLike_2B
      simp -implicitDefEqProofs only [Option.bind_some, bd_some, b2i_0, Bool.true_eq_false, Bool.false_eq_true, eq_self, if_true, if_false, not_true_eq_false, not_false_eq_true, le, gX_10 hb, aX_95 hb, ix, ifx_k (show 4 * u + j < 2404 by omega) (show 4 * u + j < 2147483648 by omega), n2_nat (show 4 * u + j < 2147483648 by omega), ifx_k (show 4 * v + j < 2404 by omega) (show 4 * v + j < 2147483648 by omega), n2_nat (show 4 * v + j < 2147483648 by omega), hs u hu j (by omega), hs v hv j (by omega)]
      by_cases hc : pkS H (nightS H C p hi u) j H.size = pkS H (nightS H C p hi v) j H.size
      · rw [if_pos hc, show n2 j + 1 = n2 (j + 1) from n2_add j 1]
        exact ih fu (j + 1) (by omega) (by omega) (fun g h2 => by
          by_cases eg : g = j
          · rw [eg]; exact hc
          · exact hg g (by omega))
      · rw [if_neg hc]
        exact ⟨false, rfl, fun h => absurd h (by decide), fun h => absurd ((alike_pk h64 (nightS_tidy h64 u) (nightS_tidy h64 v)).mpr h j (by omega)) hc⟩
  exact loop 4 hcFuel 0 (by omega) (by unfold hcFuel; omega) (fun g hg => absurd hg (Nat.not_lt_zero g))
theorem M_alk (hR : MRun m H C p hi 601) {u v : Nat} (hu : u ≤ 600) (hv : v ≤ 600) : ∃ r : Bool, fX4_areLike (some 106) (n2 u) (n2 v) (mkM b' n s m) = some (b2i r, mkM b' n s m) ∧ (r = true ↔ Alike (nightS H C p hi u) (nightS H C p hi v)) := by
  unfold fX4_areLike bX4_areLike_68
  simp -implicitDefEqProofs only [Option.bind_some, bd_some, b2i_0, Bool.true_eq_false, Bool.false_eq_true, eq_self, if_true, if_false, not_true_eq_false, not_false_eq_true, gM_87, gM_88, gM_89, gM_90, aM_115, aM_116, aM_117, aM_118, ifx_k (show u < 601 by omega) (show u < 2147483648 by omega), n2_nat (show u < 2147483648 by omega), ifx_k (show v < 601 by omega) (show v < 2147483648 by omega), n2_nat (show v < 2147483648 by omega), hR.k1 u (by omega), hR.k2 u (by omega), hR.k3 u (by omega), hR.k4 u (by omega), hR.k1 v (by omega), hR.k2 v (by omega), hR.k3 v (by omega), hR.k4 v (by omega)]
  generalize nightS H C p hi u = N
  generalize nightS H C p hi v = M
  unfold Alike
  by_cases h1 : N.c1 = M.c1
  · by_cases h2 : N.c2 = M.c2
    · by_cases h3 : N.lo = M.lo
      · by_cases h4 : N.hi = M.hi
        · simp -implicitDefEqProofs only [Option.bind_some, bd_some, b2i_0, Bool.true_eq_false, Bool.false_eq_true, eq_self, if_true, if_false, not_true_eq_false, not_false_eq_true, h1, h2, h3, h4]; exact ⟨true, rfl, fun _ => ⟨trivial, trivial, trivial, trivial⟩, fun _ => rfl⟩
        · simp -implicitDefEqProofs only [Option.bind_some, bd_some, b2i_0, Bool.true_eq_false, Bool.false_eq_true, eq_self, if_true, if_false, not_true_eq_false, not_false_eq_true, h1, h2, h3, h4]; exact ⟨false, rfl, fun h => absurd h (by decide), fun h => absurd h.2.2.2 (fun h => h)⟩
      · simp -implicitDefEqProofs only [Option.bind_some, bd_some, b2i_0, Bool.true_eq_false, Bool.false_eq_true, eq_self, if_true, if_false, not_true_eq_false, not_false_eq_true, h1, h2, h3]; exact ⟨false, rfl, fun h => absurd h (by decide), fun h => absurd h.2.2.1 (fun h => h)⟩
    · simp -implicitDefEqProofs only [Option.bind_some, bd_some, b2i_0, Bool.true_eq_false, Bool.false_eq_true, eq_self, if_true, if_false, not_true_eq_false, not_false_eq_true, h1, h2]; exact ⟨false, rfl, fun h => absurd h (by decide), fun h => absurd h.2.1 (fun h => h)⟩
  · simp -implicitDefEqProofs only [Option.bind_some, bd_some, b2i_0, Bool.true_eq_false, Bool.false_eq_true, eq_self, if_true, if_false, not_true_eq_false, not_false_eq_true, h1]; exact ⟨false, rfl, fun h => absurd h (by decide), fun h => absurd h.1 (fun h => h)⟩
theorem D_alk (hb : 131 ≤ mNx b) (h64 : H.size ≤ 64) (hs : ∀ u, u ≤ 600 → ∀ g, g < 4 → x.states (4 * u + g) = pkS H (nightS H C p hi u) g H.size) (hR : MRun m H C p hi 601) {u v : Nat} (hu : u ≤ 600) (hv : v ≤ 600) : ∃ r : Bool, fX1_areLike (some 64) (n2 u) (n2 v) (mkX b x) = some (b2i r, mkX b x) ∧ fX4_areLike (some 106) (n2 u) (n2 v) (mkM b' n s m) = some (b2i r, mkM b' n s m) := by
  obtain ⟨r, e1, h1⟩ := X_alk hb h64 hs hu hv
  obtain ⟨r', e2, h2⟩ := M_alk (b' := b') (n := n) (s := s) hR hu hv
  have : r = r' := Bool.eq_iff_iff.mpr (h1.trans h2.symm)
  subst this
  exact ⟨r, e1, e2⟩
theorem L_agi {a : Int32} {kX : Rf → Int32 → Int32 → Mem → Option (Int32 × Mem)} {kM : Rf → Int32 → Int32 → Mem → Option (Int32 × Mem)} (hb : 131 ≤ mNx b) (h64 : H.size ≤ 64) (hs : ∀ u, u ≤ 600 → ∀ g, g < 4 → x.states (4 * u + g) = pkS H (nightS H C p hi u) g H.size) (hR : MRun m H C p hi 601) {u : Nat} (hu : u ≤ 600) : ∀ (k F F' v : Nat), v + k = 601 → k < F → k < F' →
    (∃ r, bX1_again_66 kX F (some 64) a (n2 u) (n2 v) (mkX b x) = some (r, mkX b x) ∧ bX4_again_232 kM F' (some 106) a (n2 u) (n2 v) (mkM b' n s m) = some (r, mkM b' n s m)) ∨
    (bX1_again_66 kX F (some 64) a (n2 u) (n2 v) (mkX b x) = kX (some 64) a (n2 (u + 1)) (mkX b x) ∧ bX4_again_232 kM F' (some 106) a (n2 u) (n2 v) (mkM b' n s m) = kM (some 106) a (n2 (u + 1)) (mkM b' n s m)) := by
  have eu : n2 u + 1 = n2 (u + 1) := n2_add u 1
  intro k
  induction k with
  | zero =>
    intro F F' v hk hF hF'
    obtain ⟨F, rfl⟩ : ∃ g, F = g + 1 := ⟨F - 1, by omega⟩
    obtain ⟨F', rfl⟩ : ∃ g, F' = g + 1 := ⟨F' - 1, by omega⟩
    have e : v = 601 := by omega
    subst e
    refine Or.inr ⟨?_, ?_⟩
    · show bX1_again_66B kX _ _ _ _ _ _ = _
      unfold bX1_again_66B
      rw [if_pos (by decide), eu]
    · show bX4_again_232B kM _ _ _ _ _ _ = _
      unfold bX4_again_232B
      rw [if_pos (by decide), eu]
  | succ k ih =>
    intro F F' v hk hF hF'
    obtain ⟨F, rfl⟩ : ∃ g, F = g + 1 := ⟨F - 1, by omega⟩
    obtain ⟨F', rfl⟩ : ∃ g, F' = g + 1 := ⟨F' - 1, by omega⟩
    have lt : ((600 : Int32) < n2 v) = False := by rw [li_600, n2_lt (by omega) (by omega)]; exact eq_false (by omega)
    obtain ⟨r, e1, e2⟩ := D_alk (b' := b') (n := n) (s := s) hb h64 hs hR hu (show v ≤ 600 by omega)
    show (∃ r, bX1_again_66B kX (bX1_again_66 kX F) _ _ _ _ _ = _ ∧ bX4_again_232B kM (bX4_again_232 kM F') _ _ _ _ _ = _) ∨ (bX1_again_66B kX (bX1_again_66 kX F) _ _ _ _ _ = _ ∧ bX4_again_232B kM (bX4_again_232 kM F') _ _ _ _ _ = _)
    unfold bX1_again_66B bX4_again_232B
    simp -implicitDefEqProofs only [Option.bind_some, bd_some, b2i_0, Bool.true_eq_false, Bool.false_eq_true, eq_self, if_true, if_false, not_true_eq_false, not_false_eq_true, lt, ivX hb, e1, ivM, e2, show n2 v + 1 = n2 (v + 1) from n2_add v 1]
    cases r
    · simp -implicitDefEqProofs only [Option.bind_some, bd_some, b2i_0, Bool.true_eq_false, Bool.false_eq_true, eq_self, if_true, if_false, not_true_eq_false, not_false_eq_true]
      exact ih F F' (v + 1) (by omega) (by omega) (by omega)
    · simp -implicitDefEqProofs only [Option.bind_some, bd_some, b2i_0, Bool.true_eq_false, Bool.false_eq_true, eq_self, if_true, if_false, not_true_eq_false, not_false_eq_true]
      refine Or.inl ?_
      by_cases ha : a = 0
      · simp -implicitDefEqProofs only [Option.bind_some, bd_some, b2i_0, Bool.true_eq_false, Bool.false_eq_true, eq_self, if_true, if_false, not_true_eq_false, not_false_eq_true, ha]; exact ⟨_, rfl, rfl⟩
      · simp -implicitDefEqProofs only [Option.bind_some, bd_some, b2i_0, Bool.true_eq_false, Bool.false_eq_true, eq_self, if_true, if_false, not_true_eq_false, not_false_eq_true, ha]; exact ⟨_, rfl, rfl⟩
theorem L_ago {a : Int32} (hb : 131 ≤ mNx b) (h64 : H.size ≤ 64) (hs : ∀ u, u ≤ 600 → ∀ g, g < 4 → x.states (4 * u + g) = pkS H (nightS H C p hi u) g H.size) (hR : MRun m H C p hi 601) : ∀ (k F F' u : Nat), u + k = 601 → k < F → k < F' →
    ∃ r, bX1_again_54 F (some 64) a (n2 u) (mkX b x) = some (r, mkX b x) ∧ bX4_again_218 F' (some 106) a (n2 u) (mkM b' n s m) = some (r, mkM b' n s m) := by
  intro k
  induction k with
  | zero =>
    intro F F' u hk hF hF'
    obtain ⟨F, rfl⟩ : ∃ g, F = g + 1 := ⟨F - 1, by omega⟩
    obtain ⟨F', rfl⟩ : ∃ g, F' = g + 1 := ⟨F' - 1, by omega⟩
    have e : u = 601 := by omega
    subst e
    refine ⟨-1, ?_, ?_⟩
    · show bX1_again_54B _ _ _ _ _ = _
      unfold bX1_again_54B
      rw [if_pos (by decide)]
    · show bX4_again_218B _ _ _ _ _ = _
      unfold bX4_again_218B
      rw [if_pos (by decide)]
  | succ k ih =>
    intro F F' u hk hF hF'
    obtain ⟨F, rfl⟩ : ∃ g, F = g + 1 := ⟨F - 1, by omega⟩
    obtain ⟨F', rfl⟩ : ∃ g, F' = g + 1 := ⟨F' - 1, by omega⟩
    have hFu : 700 < hcFuel := by unfold hcFuel; omega
    have lt : ((600 : Int32) < n2 u) = False := by rw [li_600, n2_lt (by omega) (by omega)]; exact eq_false (by omega)
    have eu : n2 u + 1 = n2 (u + 1) := n2_add u 1
    obtain ⟨r, e1, e2⟩ := ih F F' (u + 1) (by omega) (by omega) (by omega)
    show ∃ r, bX1_again_54B (bX1_again_54 F) _ _ _ _ = _ ∧ bX4_again_218B (bX4_again_218 F') _ _ _ _ = _
    unfold bX1_again_54B bX4_again_218B
    generalize hcFuel = fu at hFu ⊢
    have L := L_agi (b' := b') (n := n) (s := s) (a := a) (kX := bX1_again_54 F) (kM := bX4_again_218 F') hb h64 hs hR (show u ≤ 600 by omega) (601 - (u + 1)) fu fu (u + 1) (by omega) (by omega) (by omega)
    by_cases h6 : u = 600
    · subst h6
      have le : ((600 : Int32) ≤ n2 600) = True := eq_true (by decide)
      obtain ⟨fu, rfl⟩ : ∃ g, fu = g + 1 := ⟨fu - 1, by omega⟩
      obtain ⟨F', rfl⟩ : ∃ g, F' = g + 1 := ⟨F' - 1, by omega⟩
      refine ⟨-1, ?_, ?_⟩
      · rw [if_pos (by decide)]
      · rw [if_neg (by decide)]
        show bX4_again_232B _ _ _ _ _ _ _ = _
        unfold bX4_again_232B
        rw [if_pos (by decide)]
        show bX4_again_218B _ _ _ _ _ = _
        unfold bX4_again_218B
        rw [if_pos (by decide)]
    · have le : ((600 : Int32) ≤ n2 u) = False := by rw [li_600, n2_le (by omega) (by omega)]; exact eq_false (by omega)
      simp -implicitDefEqProofs only [Option.bind_some, bd_some, b2i_0, Bool.true_eq_false, Bool.false_eq_true, eq_self, if_true, if_false, not_true_eq_false, not_false_eq_true, le, lt, eu]
      rcases L with ⟨r', l1, l2⟩ | ⟨l1, l2⟩
      · exact ⟨r', l1, l2⟩
      · exact ⟨r, l1.trans e1, l2.trans e2⟩
theorem C_again (R : Duo b x m H C h c K) (a : Int32) : ∃ r x' m', fX1_again (some 64) a (mkX b x) = some (r, mkX b x') ∧ fX4_again (some 106) a (mkM b' n s m) = some (r, mkM b' n s m') ∧ Duo b x' m' H C h c K := by
  have T := R.th (v := 0)
  have h64 := R.ok.size
  have h8 := R.ok.rows
  have h30 := R.XC.len
  unfold fX1_again fX4_again
  simp -implicitDefEqProofs only [Option.bind_some, bd_some, b2i_0, Bool.true_eq_false, Bool.false_eq_true, eq_self, if_true, if_false, not_true_eq_false, not_false_eq_true, pM_55', X_isIn, M_isIn]
  cases et : decide ((0 : Int32) ≤ a ∧ a ≤ 1)
  · simp -implicitDefEqProofs only [Option.bind_some, bd_some, b2i_0, Bool.true_eq_false, Bool.false_eq_true, eq_self, if_true, if_false, not_true_eq_false, not_false_eq_true]; exact ⟨_, _, _, rfl, rfl, T⟩
  obtain ⟨y, e1, I⟩ := X_tonight (T := 0) R.hb R.XH R.ok R.XC R.xh R.xc
  obtain ⟨g, ym, e3, T2, ha, hR⟩ := M_tn (b' := b') (n := n) (s := s) T (show 600 ≤ 600 from Nat.le_refl _)
  obtain ⟨F, e2, f1, f2⟩ := X_pack (q := false) (x := x.setN false y) R.hb R.XH R.ok (show 0 ≤ 600 by decide) (by rw [setN_n]; exact I)
  have T3 : Duo b ((x.setN false y).sSt F) ((m.th 0).lay g ym) H C h c K := T2.nX.sSt
  obtain ⟨x', g1, g2, g3, g4⟩ := X_ag24 (a := a) (p := x.paid) (hi := x.hiss) 600 hcFuel 0 ((x.setN false y).sSt F) (by omega) (by unfold hcFuel; omega) T3 (by rw [sSt_n, setN_n]; exact I) (by
    rw [sSt_states]
    intro u hu g hg
    have : u = 0 := by omega
    subst this
    exact f1 g hg)
  rw [sSt_paid, setN_pd] at g3
  have p1 : ((m.th 0).lay g ym).seatsPaid = x.paid := T2.paid.symm
  have e3' : fX4_night (some 106) (600 : Int32) (mkM b' n s (m.th 0)) = some ((), mkM b' n s ((m.th 0).lay g ym)) := e3
  have fin : ∀ fl : Int32, (fl = if x.paid = 0 then 0 else 1) → ∃ r, bd (fX1_quiet (some 64) (mkX b x')) (fun r st => bX1_again_54 hcFuel (some 64) a r st) = some (r, mkX b x') ∧ bX4_again_39 (some 106) a 0 fl (mkM b' n s ((m.th 0).lay g ym)) = some (r, mkM b' n s ((m.th 0).lay g ym)) := by
    intro fl hfl
    obtain ⟨v', v1, v2, v3⟩ := L_qr (b' := b') (n := n) (s := s) (a := a) (fl := fl) g2 H.rows hcFuel hcFuel 0 0 (by omega) (by unfold hcFuel; omega) (by unfold hcFuel; omega) (by omega)
    have hfl' : fl = 0 ∨ fl = 1 := by rw [hfl]; split <;> simp
    obtain ⟨u, u1, u2, u3⟩ := L_qc (b' := b') (n := n) (s := s) (a := a) g2 C.length hcFuel hcFuel 0 v' fl (by omega) (by unfold hcFuel; omega) (by unfold hcFuel; omega) v1 hfl'
    obtain ⟨r, r1, r2⟩ := L_ago (b' := b') (n := n) (s := s) (a := a) (m := (m.th 0).lay g ym) g2.hb h64 g4 hR (601 - u) hcFuel hcFuel u (by omega) (by unfold hcFuel; omega) (by unfold hcFuel; omega)
    rw [g3, ← hfl] at v2
    refine ⟨r, ?_, ?_⟩
    · have q : fX1_quiet (some 64) (mkX b x') = some (n2 u, mkX b x') := v2.trans u2
      rw [q, bd_some, r1]
    · exact (v3.trans u3).trans r2
  simp -implicitDefEqProofs only [Option.bind_some, bd_some, b2i_0, Bool.true_eq_false, Bool.false_eq_true, eq_self, if_true, if_false, not_true_eq_false, not_false_eq_true, ivX R.hb, e1, gX_10 R.hb, ivN R.hb, e2, g1, ivM, e3', gM_71, p1]
  by_cases hp : x.paid = 0
  · obtain ⟨r, r1, r2⟩ := fin 0 (by rw [if_pos hp])
    simp -implicitDefEqProofs only [Option.bind_some, bd_some, b2i_0, Bool.true_eq_false, Bool.false_eq_true, eq_self, if_true, if_false, not_true_eq_false, not_false_eq_true, hp]
    exact ⟨r, _, _, r1, r2, g2⟩
  · obtain ⟨r, r1, r2⟩ := fin 1 (by rw [if_neg hp])
    simp -implicitDefEqProofs only [Option.bind_some, bd_some, b2i_0, Bool.true_eq_false, Bool.false_eq_true, eq_self, if_true, if_false, not_true_eq_false, not_false_eq_true, hp]
    exact ⟨r, _, _, r1, r2, g2⟩
end Pack
