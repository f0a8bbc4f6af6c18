set_option linter.unusedVariables false
set_option linter.unusedSimpArgs false
set_option maxRecDepth 100000
/-! ===== whole nights in HouseClaps ===== -/
theorem seatRun_at {H : HS} {t : Nat} {P : Int64 × Int64 × Bool} {N : NT} {s u : Nat} (hu : u < s) (hs : s ≤ 64) : lvOf (seatRun H t P N s).a1 (seatRun H t P N s).a2 u = lvOf (seatRun H t P N (u + 1)).a1 (seatRun H t P N (u + 1)).a2 u ∧ hdOf (seatRun H t P N s).l (seatRun H t P N s).h u = hdOf (seatRun H t P N (u + 1)).l (seatRun H t P N (u + 1)).h u := by
  have k := seatRun_keep (H := H) (t := t) (P := P) (N := N) (u + 1) s hs hu u (by omega)
  exact ⟨lvOf_congr k.1 k.2.1, hdOf_congr k.2.2.1 k.2.2.2⟩
/-- levels of the first moment -/
def lv0 (H : HS) (P : Int64 × Int64 × Bool) (u : Nat) : Nat := if frc H 0 P u = -1 then 0 else (frc H 0 P u).toNat
theorem lv0_le (H : HS) (P : Int64 × Int64 × Bool) (u : Nat) : lv0 H P u ≤ 2 := by
  unfold lv0
  rcases frc_or H 0 P u with r | r | r <;> rw [r] <;> decide
theorem lv0_p {H : HS} {P : Int64 × Int64 × Bool} {u : Nat} (hk : H.kind u = 0) : lv0 H P u = 0 := by
  unfold lv0 frc; rw [if_pos (Or.inl hk)]; rfl
theorem seatRun_0 (H : HS) (P : Int64 × Int64 × Bool) (N : NT) (s : Nat) : seatRun H 0 P N (s + 1) = if H.kind s = 0 then seatRun H 0 P N s else putLv (seatRun H 0 P N s) s (lv0 H P s) 0 := by
  show seatSt H 0 P N _ _ _ _ = _
  unfold seatSt
  by_cases hk : H.kind s = 0
  · rw [if_pos hk, if_pos hk]
  · rw [if_neg hk, if_neg hk, frc_lv hk]
    simp only [if_true]
    unfold sinceOf
    rw [if_pos (Or.inl rfl)]; rfl
def cntS (g : Nat → Nat) (l : Nat) : Nat → Int64
  | 0 => 0
  | s + 1 => cntS g l s ||| (if l ≤ g s then bitS s else 0)
theorem cntS_1 (H : HS) (P : Int64 × Int64 × Bool) (N : NT) : ∀ s, cntS (lv0 H P) 1 s = (seatRun H 0 P N s).a1
  | 0 => rfl
  | s + 1 => by
    rw [seatRun_0]; simp only [cntS]
    rw [cntS_1 H P N s]
    by_cases hk : H.kind s = 0
    · rw [if_pos hk, lv0_p hk, if_neg (by decide), Int64.or_zero]
    · rw [if_neg hk]; rfl
theorem cntS_2 (H : HS) (P : Int64 × Int64 × Bool) (N : NT) : ∀ s, cntS (lv0 H P) 2 s = (seatRun H 0 P N s).a2
  | 0 => rfl
  | s + 1 => by
    rw [seatRun_0]; simp only [cntS]
    rw [cntS_2 H P N s]
    by_cases hk : H.kind s = 0
    · rw [if_pos hk, lv0_p hk, if_neg (by decide), Int64.or_zero]
    · rw [if_neg hk]; rfl
theorem seatRun_0lv {H : HS} {P : Int64 × Int64 × Bool} {N : NT} {s u : Nat} (hu : u < s) (hs : s ≤ 64) : lvOf (seatRun H 0 P N s).a1 (seatRun H 0 P N s).a2 u = lv0 H P u ∧ (H.kind u ≠ 0 → hdOf (seatRun H 0 P N s).l (seatRun H 0 P N s).h u = 0) := by
  obtain ⟨e1, e2⟩ := seatRun_at (H := H) (t := 0) (P := P) (N := N) hu hs
  obtain ⟨b1, b2, b3, b4⟩ := seatRun_lt (H := H) (t := 0) (P := P) (N := N) u (by omega) u (Nat.le_refl _)
  rw [e1, e2, seatRun_0]
  by_cases hk : H.kind u = 0
  · rw [if_pos hk, lv0_p hk]
    refine ⟨?_, fun h => absurd hk h⟩
    unfold lvOf; rw [b1, b2]; rfl
  · rw [if_neg hk]
    exact ⟨lvOf_put (by omega) (lv0_le H P u) b1 b2, fun _ => hdOf_put (by omega) (by omega) b3 b4⟩
def NX.bgn (y : NX) (h c : Nat) (P : Int64 × Int64 × Bool) (nx : Nat) : NX := (NX.mk (0) (n2 nx) (b2i P.2.2) (P.1) (P.2.1) (y.ahead) (some h) (some c) (y.sw) (y.was) (y.level) (y.wasHeld) (y.held) (y.wasWith) (y.wth))
theorem bgn_eq (y : NX) (h c nx : Nat) (P : Int64 × Int64 × Bool) (p hi : Int64) : ((((((y.s_h (some h)).s_cues (some c)).s_paid p).s_hiss hi).s_now 0).s_next 0).cu P nx = y.bgn h c P nx := by
  unfold NX.cu NX.bgn; simp -implicitDefEqProofs only [NX.s_now, NX.s_next, NX.s_isStill, NX.s_paid, NX.s_hiss, NX.s_ahead, NX.s_h, NX.s_cues, NX.s_sw, NX.s_was, NX.s_level, NX.s_wasHeld, NX.s_held, NX.s_wasWith, NX.s_wth, mk_NX_now, mk_NX_next, mk_NX_isStill, mk_NX_paid, mk_NX_hiss, mk_NX_ahead, mk_NX_h, mk_NX_cues, mk_NX_sw, mk_NX_was, mk_NX_level, mk_NX_wasHeld, mk_NX_held, mk_NX_wasWith, mk_NX_wth]
def NX.stp (y : NX) (t : Nat) (P : Int64 × Int64 × Bool) (nx : Nat) : NX := (NX.mk (n2 t) (n2 nx) (b2i P.2.2) (P.1) (P.2.1) (0) (y.h) (y.cues) (!y.sw) (y.level) (y.was) (y.held) (y.wasHeld) (va_cpy y.wth y.wasWith 0 0 3) (upq (upq y.wth 1 0) 2 0))
theorem beg_eq (y : NX) (a b l2 h2 : Nat → Int32) (u v : Int64) : ((((y.s_level a).s_held b).s_level l2).s_held h2).s_wth (upq (upq ((y.s_level a).s_held b).wth 1 u) 2 v) = ((y.s_level l2).s_held h2).s_wth (upq (upq y.wth 1 u) 2 v) := by
  simp -implicitDefEqProofs only [NX.s_now, NX.s_next, NX.s_isStill, NX.s_paid, NX.s_hiss, NX.s_ahead, NX.s_h, NX.s_cues, NX.s_sw, NX.s_was, NX.s_level, NX.s_wasHeld, NX.s_held, NX.s_wasWith, NX.s_wth, mk_NX_now, mk_NX_next, mk_NX_isStill, mk_NX_paid, mk_NX_hiss, mk_NX_ahead, mk_NX_h, mk_NX_cues, mk_NX_sw, mk_NX_was, mk_NX_level, mk_NX_wasHeld, mk_NX_held, mk_NX_wasWith, mk_NX_wth]
section NightsX
variable {b : Mem} {x : XS} {q : Bool} {h c e t s nx own lv l : Nat} {H : HS} {C : List Cu} {k : Cu} {Q P : Int64 × Int64 × Bool} {N : NT} {ah p hi : Int64}
theorem X_cnt16 (hb : 131 ≤ mNx b) {kk2 : Rf → Int32 → Mem → Option (Unit × Mem)} {g : Nat → Nat} (X : XHouse b h H) (ok : H.Ok) (hl : l = 1 ∨ l = 2) (hg : ∀ u, g u ≤ 2) : ∀ (k f s : Nat) (x : XS), s + k = H.size → k < f → (x.n q).h = some h → (∀ u, u < H.size → (x.n q).level u = n2 (g u)) → (x.n q).wth l = cntS g l s →
    bX3_count_16 kk2 f (some (nid q)) (n2 l) (n2 s) (mkX b x) = kk2 (some (nid q)) (n2 (l + 1)) (mkX b (x.setN q ((x.n q).s_wth (upq (x.n q).wth l (cntS g l H.size))))) := by
  have h64 := ok.size
  intro k
  induction k with
  | zero =>
    intro f s x hk hf hh hlv hw
    obtain ⟨f, rfl⟩ : ∃ g, f = g + 1 := ⟨f - 1, by omega⟩
    have e : s = H.size := by omega
    subst e
    show bX3_count_16B kk2 _ _ _ _ _ = _
    unfold bX3_count_16B
    have eu : upq (x.n q).wth l (cntS g l H.size) = (x.n q).wth := by
      funext j; unfold upq; split
      · next e => rw [e, hw]
      · rfl
    rw [gN_41 hb, Option.bind_some, hh, xh_iv X, xh_size X, bd_some, if_pos (Int32.le_refl _), eu, show n2 l + 1 = n2 (l + 1) from n2_add l 1]
    show _ = kk2 _ _ (mkX b (x.setN q (x.n q)))
    rw [setN_self]
  | succ k ih =>
    intro f s x hk hf hh hlv hw
    obtain ⟨f, rfl⟩ : ∃ g, f = g + 1 := ⟨f - 1, by omega⟩
    have := hg s
    show bX3_count_16B kk2 (bX3_count_16 kk2 f) _ _ _ _ = _
    unfold bX3_count_16B bX3_count_49
    rw [gN_41 hb, Option.bind_some, hh, xh_iv X, xh_size X, bd_some, if_neg (by rw [n2_le (by omega) (by omega)]; omega), gN_49 hb, Option.bind_some, aN_level hb, ifx_k (by omega) (by omega), Option.bind_some, n2_nat (by omega), hlv s (by omega), show n2 s + 1 = n2 (s + 1) from n2_add s 1]
    by_cases hc : g s < l
    · rw [if_pos (by rw [n2_lt (by omega) (by omega)]; exact hc)]
      exact ih f (s + 1) x (by omega) (by omega) hh hlv (by rw [hw]; simp only [cntS]; rw [if_neg (by omega), Int64.or_zero])
    · rw [if_neg (by rw [n2_lt (by omega) (by omega)]; exact hc), gN_53 hb, Option.bind_some, aN_wth hb, ifx_k (by omega) (by omega), Option.bind_some, n2_nat (by omega), uN_wth hb, ifx_k (by omega) (by omega), Option.bind_some, n2_nat (by omega)]
      have I := ih f (s + 1) (x.setN q ((x.n q).s_wth (upq (x.n q).wth l ((x.n q).wth l ||| shlL (1 : Int64) (n2 s))))) (by omega) (by omega) (by rw [setN_n]; exact hh) (by rw [setN_n]; exact hlv) (by rw [setN_n]; show upq _ _ _ _ = _; rw [upq_self, hw]; simp only [cntS]; rw [if_pos (by omega)]; rfl)
      rw [I, setN_n, setN_setN]
      have eu : ∀ v w : Int64, upq (upq (x.n q).wth l v) l w = upq (x.n q).wth l w := fun v w => by funext j; unfold upq; split <;> rfl
      refine congrArg (fun z => kk2 (some (nid q)) (n2 (l + 1)) (mkX b (x.setN q z))) ?_
      show NX.s_wth _ (upq (upq (x.n q).wth l _) l _) = _
      rw [eu]; rfl
theorem X_count (hb : 131 ≤ mNx b) {g : Nat → Nat} (X : XHouse b h H) (ok : H.Ok) (hg : ∀ u, g u ≤ 2) (hh : (x.n q).h = some h) (hlv : ∀ u, u < H.size → (x.n q).level u = n2 (g u)) :
    fX3_count (some (nid q)) (mkX b x) = some ((), mkX b (x.setN q ((x.n q).s_wth (upq (upq (x.n q).wth 1 (cntS g 1 H.size)) 2 (cntS g 2 H.size))))) := by
  have h64 := ok.size
  unfold fX3_count
  obtain ⟨f, hf⟩ : ∃ f, hcFuel = f + 3 := ⟨99997, rfl⟩
  have h66 : H.size < hcFuel := by unfold hcFuel; omega
  have one : ∀ (z : XS) (f l : Nat), l = 1 ∨ l = 2 → (z.n q).h = some h → (∀ u, u < H.size → (z.n q).level u = n2 (g u)) → bX3_count_2 (f + 1) (some (nid q)) (n2 l) (mkX b z) = bX3_count_2 f (some (nid q)) (n2 (l + 1)) (mkX b (z.setN q ((z.n q).s_wth (upq (z.n q).wth l (cntS g l H.size))))) := by
    intro z f l hl zh zl
    show bX3_count_2B (bX3_count_2 f) _ _ _ = _
    unfold bX3_count_2B
    rw [if_neg (by rw [show (2 : Int32) = n2 2 from rfl, n2_lt (by omega) (by omega)]; omega), gN_53 hb, Option.bind_some, uN_wth hb, ifx_k (by omega) (by omega), Option.bind_some, n2_nat (by omega)]
    have I := X_cnt16 hb (q := q) (kk2 := bX3_count_2 f) X ok hl hg H.size hcFuel 0 (z.setN q ((z.n q).s_wth (upq (z.n q).wth l 0))) (by omega) h66 (by rw [setN_n]; exact zh) (by rw [setN_n]; exact zl) (by rw [setN_n]; exact upq_self _ _ _)
    rw [setN_n, setN_setN] at I
    refine I.trans ?_
    have eu : ∀ v w : Int64, upq (upq (z.n q).wth l v) l w = upq (z.n q).wth l w := fun v w => by funext j; unfold upq; split <;> rfl
    refine congrArg (fun y => bX3_count_2 f (some (nid q)) (n2 (l + 1)) (mkX b (z.setN q y))) ?_
    show NX.s_wth _ (upq (upq (z.n q).wth l _) l _) = _
    rw [eu]; rfl
  rw [hf, show (1 : Int32) = n2 1 from rfl, one x _ 1 (Or.inl rfl) hh hlv, one _ _ 2 (Or.inr rfl) (by rw [setN_n]; exact hh) (by rw [setN_n]; exact hlv)]
  show bX3_count_2B _ _ _ _ = _
  unfold bX3_count_2B
  rw [if_pos (by decide), setN_n, setN_setN]; rfl
theorem X_beg38 (hb : 131 ≤ mNx b) (X : XHouse b h H) (ok : H.Ok) : ∀ (k f s : Nat) (x : XS), s + k = H.size → k < f → (x.n q).h = some h → (x.n q).now = n2 0 → (x.n q).paid = P.1 → (x.n q).hiss = P.2.1 → (x.n q).isStill = b2i P.2.2 → (∀ u, u < s → (x.n q).level u = n2 (lv0 H P u) ∧ (x.n q).held u = 0) →
    ∃ lev hld, bX3_begin_38 f (some (nid q)) (n2 s) (mkX b x) = some (some (nid q), mkX b (x.setN q ((((x.n q).s_level lev).s_held hld).s_wth (upq (upq (x.n q).wth 1 (cntS (lv0 H P) 1 H.size)) 2 (cntS (lv0 H P) 2 H.size))))) ∧ ∀ u, u < H.size → lev u = n2 (lv0 H P u) ∧ hld u = 0 := by
  have h64 := ok.size
  intro k
  induction k with
  | zero =>
    intro f s x hk hf hh hn hp hi hst hlv
    obtain ⟨f, rfl⟩ : ∃ g, f = g + 1 := ⟨f - 1, by omega⟩
    have e : s = H.size := by omega
    subst e
    refine ⟨(x.n q).level, (x.n q).held, ?_, hlv⟩
    show bX3_begin_38B _ _ _ _ = _
    unfold bX3_begin_38B
    rw [gN_41 hb, Option.bind_some, hh, xh_iv X, xh_size X, bd_some, if_pos (Int32.le_refl _), ivN hb, X_count hb X ok (lv0_le H P) hh (fun u hu => (hlv u hu).1), bd_some]
    rfl
  | succ k ih =>
    intro f s x hk hf hh hn hp hi hst hlv
    obtain ⟨f, rfl⟩ : ∃ g, f = g + 1 := ⟨f - 1, by omega⟩
    have hs : s < H.size := by omega
    have fo := X_forced hb X ok hs hh hn (by omega) hp hi hst
    have lev : ((if ¬ i2 (frc H 0 P s) = (-1 : Int32) then bd (iv (mkX b x) (some (nid q)) [3] (fX3_forced (some (nid q)) (n2 s) (mkX b x))) fun x73 st => bX3_begin_76 (bX3_begin_38 f) (some (nid q)) (n2 s) (some (nid q + (if (x.n q).sw then 1 else 2))) (n2 s) x73 st else bX3_begin_76 (bX3_begin_38 f) (some (nid q)) (n2 s) (some (nid q + (if (x.n q).sw then 1 else 2))) (n2 s) (0 : Int32) (mkX b x))) = bX3_begin_76 (bX3_begin_38 f) (some (nid q)) (n2 s) (some (nid q + (if (x.n q).sw then 1 else 2))) (n2 s) (n2 (lv0 H P s)) (mkX b x) := by
      rw [ivN hb, fo, bd_some]
      unfold lv0
      rcases frc_or H 0 P s with r | r | r <;> rw [r] <;> rfl
    show ∃ lev hld, bX3_begin_38B (bX3_begin_38 f) _ _ _ = _ ∧ _
    unfold bX3_begin_38B
    rw [gN_41 hb, Option.bind_some, hh, xh_iv X, xh_size X, bd_some, if_neg (by rw [n2_le (by omega) (by omega)]; omega), gN_49 hb, Option.bind_some, ivN hb, fo, bd_some]
    rw [lev]
    unfold bX3_begin_76
    rw [uN_level hb, ifx_k (by omega) (by omega), Option.bind_some, n2_nat (by omega), gN_51 hb, Option.bind_some, uN_held hb, ifx_k (by omega) (by omega), Option.bind_some, n2_nat (by omega), setN_n, setN_setN, show n2 s + 1 = n2 (s + 1) from n2_add s 1]
    obtain ⟨l2, h2, e, J⟩ := ih f (s + 1) (x.setN q (((x.n q).s_level (upq (x.n q).level s (n2 (lv0 H P s)))).s_held (upq (x.n q).held s 0))) (by omega) (by omega) (by rw [setN_n]; exact hh) (by rw [setN_n]; exact hn) (by rw [setN_n]; exact hp) (by rw [setN_n]; exact hi) (by rw [setN_n]; exact hst) (by
      intro u hu
      rw [setN_n]
      show upq (x.n q).level s (n2 (lv0 H P s)) u = _ ∧ upq (x.n q).held s 0 u = _
      by_cases e : u = s
      · rw [e, upq_self, upq_self]; exact ⟨rfl, rfl⟩
      · rw [upq_ne _ _ e, upq_ne _ _ e]; exact hlv u (by omega))
    rw [setN_n, setN_setN, beg_eq] at e
    exact ⟨l2, h2, e, J⟩
theorem X_begin (hb : 131 ≤ mNx b) (X : XHouse b h H) (ok : H.Ok) (XC : XCues b c C) :
    ∃ y, fX3_begin (some (nid q)) (some h) (some c) p hi (mkX b x) = some (some (nid q), mkX b (x.setN q y)) ∧ XNt y h c H (nightS H C p hi 0) 0 := by
  have h64 := ok.size
  generalize hN : night0 p hi = N
  have n1 : N.paid = p := by rw [← hN]; rfl
  have n2' : N.hiss = hi := by rw [← hN]; rfl
  have n3 : N.next = 0 := by rw [← hN]; rfl
  obtain ⟨lev, hld, e, J⟩ := X_beg38 hb (q := q) (P := (cuesAt C 0 N).2) X ok H.size hcFuel 0 (x.setN q ((x.n q).bgn h c (cuesAt C 0 N).2 (N.next + (cuesAt C 0 N).1))) (by omega) (by unfold hcFuel; omega) (by rw [setN_n]; rfl) (by rw [setN_n]; rfl) (by rw [setN_n]; rfl) (by rw [setN_n]; rfl) (by rw [setN_n]; rfl) (fun u hu => absurd hu (Nat.not_lt_zero u))
  rw [setN_n, setN_setN] at e
  refine ⟨_, Eq.trans ?_ e, ?_⟩
  · unfold fX3_begin
    rw [pN_41 hb, Option.bind_some, pN_47 hb, Option.bind_some, pN_42 hb, Option.bind_some, pN_43 hb, Option.bind_some, pN_44 hb, Option.bind_some, pN_45 hb, Option.bind_some]
    simp -implicitDefEqProofs only [Option.bind_some, bd_some, setN_n, setN_setN]
    rw [ivN hb, X_cue hb (t := 0) (nx := 0) (N := N) XC (by rw [setN_n]; rfl) (by rw [setN_n]; rfl) (by omega) (by omega) (by rw [setN_n]; rfl) (by rw [setN_n, n1]; rfl) (by rw [setN_n, n2']; rfl) n3, bd_some, setN_n, setN_setN, bgn_eq]; rfl
  · have hM : nightS H C p hi 0 = momentS H C 0 N := by rw [← hN]; rfl
    rw [hM]
    unfold momentS
    refine ⟨?_, ?_, ?_, ?_, ?_, ?_, ?_, ?_, ?_, ?_⟩ <;> simp -implicitDefEqProofs only [NX.bgn, NX.s_now, NX.s_next, NX.s_isStill, NX.s_paid, NX.s_hiss, NX.s_ahead, NX.s_h, NX.s_cues, NX.s_sw, NX.s_was, NX.s_level, NX.s_wasHeld, NX.s_held, NX.s_wasWith, NX.s_wth, mk_NX_now, mk_NX_next, mk_NX_isStill, mk_NX_paid, mk_NX_hiss, mk_NX_ahead, mk_NX_h, mk_NX_cues, mk_NX_sw, mk_NX_was, mk_NX_level, mk_NX_wasHeld, mk_NX_held, mk_NX_wasWith, mk_NX_wth, mk_NT_paid, mk_NT_hiss, mk_NT_c1, mk_NT_c2, mk_NT_lo, mk_NT_hi, mk_NT_next]
    · rfl
    · rw [upq_ne _ _ (by decide), upq_self, cntS_1 H _ N]
    · rw [upq_self, cntS_2 H _ N]
    · intro u hu
      rw [(J u hu).1]
      exact congrArg n2 (seatRun_0lv (P := (cuesAt C 0 N).2) (N := N) hu h64).1.symm
    · intro u hu hk
      rw [(J u hu).2]
      exact congrArg n2 ((seatRun_0lv (P := (cuesAt C 0 N).2) (N := N) hu h64).2 hk).symm
theorem X_step (hb : 131 ≤ mNx b) (X : XHouse b h H) (ok : H.Ok) (XC : XCues b c C) (ht : t + 1 ≤ 600) (hn : N.next ≤ C.length) (I : XNt (x.n q) h c H N t) :
    ∃ y, fX3_step (some (nid q)) (mkX b x) = some ((), mkX b (x.setN q y)) ∧ XNt y h c H (momentS H C (t + 1) N) (t + 1) := by
  have h64 := ok.size
  have I0 : XSt ((x.n q).stp (t + 1) (cuesAt C (t + 1) N).2 (N.next + (cuesAt C (t + 1) N).1)) h c H (t + 1) (cuesAt C (t + 1) N).2 N (N.next + (cuesAt C (t + 1) N).1) 0 (aheadAt H 0) := by
    refine ⟨?_, ?_, ?_, ?_, ?_, ?_, ?_, ?_, ?_, ?_, ?_, ?_, ?_, fun u hu => absurd hu (Nat.not_lt_zero u), fun u hu => absurd hu (Nat.not_lt_zero u), ?_⟩ <;> simp -implicitDefEqProofs only [NX.stp, NX.s_now, NX.s_next, NX.s_isStill, NX.s_paid, NX.s_hiss, NX.s_ahead, NX.s_h, NX.s_cues, NX.s_sw, NX.s_was, NX.s_level, NX.s_wasHeld, NX.s_held, NX.s_wasWith, NX.s_wth, mk_NX_now, mk_NX_next, mk_NX_isStill, mk_NX_paid, mk_NX_hiss, mk_NX_ahead, mk_NX_h, mk_NX_cues, mk_NX_sw, mk_NX_was, mk_NX_level, mk_NX_wasHeld, mk_NX_held, mk_NX_wasWith, mk_NX_wth]
    · exact I.h_
    · exact I.cs
    · exact I.level
    · exact I.held
    · unfold va_cpy; rw [if_pos (by decide)]; exact I.a1
    · unfold va_cpy; rw [if_pos (by decide)]; exact I.a2
    · rw [upq_ne _ _ (by decide), upq_self]; rfl
    · rw [upq_self]; rfl
    · rfl
  obtain ⟨y, ah, e, J⟩ := X_step85 hb (q := q) X ok (show 1 ≤ t + 1 by omega) ht H.size hcFuel 0 (x.setN q ((x.n q).stp (t + 1) (cuesAt C (t + 1) N).2 (N.next + (cuesAt C (t + 1) N).1))) (by omega) (by unfold hcFuel; omega) (by rw [setN_n]; exact I0)
  rw [setN_setN] at e
  refine ⟨y, ?_, J.h_, J.cs, J.now, J.next, J.paid, J.hiss, J.a1, J.a2, J.level, J.held⟩
  unfold fX3_step
  generalize hcFuel = fu at e ⊢
  rw [gN_48 hb, Option.bind_some, gN_49 hb, Option.bind_some]
  refine (X_swp hb _).trans ?_
  rw [gN_53 hb, Option.bind_some, gN_52 hb, Option.bind_some, X_cpW hb, Option.bind_some, setN_n, setN_setN, gN_44 hb, Option.bind_some, pN_44 hb, Option.bind_some, setN_n, setN_setN]
  have ew : (((x.n q).swp.s_wasWith (va_cpy (x.n q).swp.wth (x.n q).swp.wasWith 0 0 3)).now + 1) = n2 (t + 1) := by
    simp -implicitDefEqProofs only [NX.swp, NX.s_now, NX.s_next, NX.s_isStill, NX.s_paid, NX.s_hiss, NX.s_ahead, NX.s_h, NX.s_cues, NX.s_sw, NX.s_was, NX.s_level, NX.s_wasHeld, NX.s_held, NX.s_wasWith, NX.s_wth, mk_NX_now, mk_NX_next, mk_NX_isStill, mk_NX_paid, mk_NX_hiss, mk_NX_ahead, mk_NX_h, mk_NX_cues, mk_NX_sw, mk_NX_was, mk_NX_level, mk_NX_wasHeld, mk_NX_held, mk_NX_wasWith, mk_NX_wth, I.now]
    exact n2_add t 1
  rw [ew, ivN hb, X_cue hb (t := t + 1) (nx := N.next) (N := N) XC (by simp -implicitDefEqProofs only [setN_n, NX.swp, NX.s_now, NX.s_next, NX.s_isStill, NX.s_paid, NX.s_hiss, NX.s_ahead, NX.s_h, NX.s_cues, NX.s_sw, NX.s_was, NX.s_level, NX.s_wasHeld, NX.s_held, NX.s_wasWith, NX.s_wth, mk_NX_now, mk_NX_next, mk_NX_isStill, mk_NX_paid, mk_NX_hiss, mk_NX_ahead, mk_NX_h, mk_NX_cues, mk_NX_sw, mk_NX_was, mk_NX_level, mk_NX_wasHeld, mk_NX_held, mk_NX_wasWith, mk_NX_wth]; exact I.cs) (by simp -implicitDefEqProofs only [setN_n, NX.s_now, NX.s_next, NX.s_isStill, NX.s_paid, NX.s_hiss, NX.s_ahead, NX.s_h, NX.s_cues, NX.s_sw, NX.s_was, NX.s_level, NX.s_wasHeld, NX.s_held, NX.s_wasWith, NX.s_wth, mk_NX_now, mk_NX_next, mk_NX_isStill, mk_NX_paid, mk_NX_hiss, mk_NX_ahead, mk_NX_h, mk_NX_cues, mk_NX_sw, mk_NX_was, mk_NX_level, mk_NX_wasHeld, mk_NX_held, mk_NX_wasWith, mk_NX_wth]) ht hn (by simp -implicitDefEqProofs only [setN_n, NX.swp, NX.s_now, NX.s_next, NX.s_isStill, NX.s_paid, NX.s_hiss, NX.s_ahead, NX.s_h, NX.s_cues, NX.s_sw, NX.s_was, NX.s_level, NX.s_wasHeld, NX.s_held, NX.s_wasWith, NX.s_wth, mk_NX_now, mk_NX_next, mk_NX_isStill, mk_NX_paid, mk_NX_hiss, mk_NX_ahead, mk_NX_h, mk_NX_cues, mk_NX_sw, mk_NX_was, mk_NX_level, mk_NX_wasHeld, mk_NX_held, mk_NX_wasWith, mk_NX_wth]; exact I.next) (by simp -implicitDefEqProofs only [setN_n, NX.swp, NX.s_now, NX.s_next, NX.s_isStill, NX.s_paid, NX.s_hiss, NX.s_ahead, NX.s_h, NX.s_cues, NX.s_sw, NX.s_was, NX.s_level, NX.s_wasHeld, NX.s_held, NX.s_wasWith, NX.s_wth, mk_NX_now, mk_NX_next, mk_NX_isStill, mk_NX_paid, mk_NX_hiss, mk_NX_ahead, mk_NX_h, mk_NX_cues, mk_NX_sw, mk_NX_was, mk_NX_level, mk_NX_wasHeld, mk_NX_held, mk_NX_wasWith, mk_NX_wth]; exact I.paid) (by simp -implicitDefEqProofs only [setN_n, NX.swp, NX.s_now, NX.s_next, NX.s_isStill, NX.s_paid, NX.s_hiss, NX.s_ahead, NX.s_h, NX.s_cues, NX.s_sw, NX.s_was, NX.s_level, NX.s_wasHeld, NX.s_held, NX.s_wasWith, NX.s_wth, mk_NX_now, mk_NX_next, mk_NX_isStill, mk_NX_paid, mk_NX_hiss, mk_NX_ahead, mk_NX_h, mk_NX_cues, mk_NX_sw, mk_NX_was, mk_NX_level, mk_NX_wasHeld, mk_NX_held, mk_NX_wasWith, mk_NX_wth]; exact I.hiss) rfl, bd_some, setN_n, setN_setN, pN_54 hb, Option.bind_some, setN_n, setN_setN, gN_53 hb, Option.bind_some, uN_wth hb, show (1 : Int32) = n2 1 from rfl, ifx_k (by decide) (by decide), Option.bind_some, n2_nat (by decide), gN_53 hb, Option.bind_some, uN_wth hb, show (2 : Int32) = n2 2 from rfl, ifx_k (by decide) (by decide), Option.bind_some, n2_nat (by decide)]
  simp -implicitDefEqProofs only [Option.bind_some, bd_some, setN_n, setN_setN]
  refine Eq.trans ?_ e
  refine congrArg (fun z => bX3_step_85 fu (some (nid q)) (0 : Int32) (mkX b (x.setN q z))) ?_
  unfold NX.cu NX.stp NX.swp
  simp -implicitDefEqProofs only [NX.s_now, NX.s_next, NX.s_isStill, NX.s_paid, NX.s_hiss, NX.s_ahead, NX.s_h, NX.s_cues, NX.s_sw, NX.s_was, NX.s_level, NX.s_wasHeld, NX.s_held, NX.s_wasWith, NX.s_wth, mk_NX_now, mk_NX_next, mk_NX_isStill, mk_NX_paid, mk_NX_hiss, mk_NX_ahead, mk_NX_h, mk_NX_cues, mk_NX_sw, mk_NX_was, mk_NX_level, mk_NX_wasHeld, mk_NX_held, mk_NX_wasWith, mk_NX_wth]
end NightsX
