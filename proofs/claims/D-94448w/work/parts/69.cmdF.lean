set_option linter.unusedVariables false
set_option linter.unusedSimpArgs false
set_option maxRecDepth 100000
/-! ===== commands: would, parts ===== -/
theorem seatRun_sub {H : HS} {t : Nat} {P : Int64 × Int64 × Bool} {N : NT} (j : Nat) : ∀ s, s ≤ 64 → tb (seatRun H t P N s).a2 j = true → tb (seatRun H t P N s).a1 j = true
  | 0, _, h => by
    have : tb (seatRun H t P N 0).a2 j = false := tb_zero j
    rw [this] at h; exact absurd h (by decide)
  | s + 1, hs, h => by
    have ih := seatRun_sub (H := H) (t := t) (P := P) (N := N) j s (by omega)
    simp -implicitDefEqProofs only [seatRun] at h ⊢
    unfold seatSt putLv at h ⊢
    generalize seatLv H t P _ _ _ _ s = lv at h ⊢
    split at h
    · next hk => rw [if_pos hk]; exact ih h
    · next hk =>
      rw [if_neg hk]
      simp -implicitDefEqProofs only [mk_Ac_a1, mk_Ac_a2, tb_or, Bool.or_eq_true] at h ⊢
      rcases h with h | h
      · exact Or.inl (ih h)
      · by_cases h1 : 1 < lv
        · rw [if_pos h1] at h; rw [if_pos (by omega)]; exact Or.inr h
        · rw [if_neg h1, tb_zero] at h; exact absurd h (by decide)
theorem night_bits {H : HS} {C : List Cu} {p hi : Int64} (h64 : H.size ≤ 64) (t j : Nat) : (H.size ≤ j → tb (nightS H C p hi t).c1 j = false ∧ tb (nightS H C p hi t).c2 j = false) ∧ (tb (nightS H C p hi t).c2 j = true → tb (nightS H C p hi t).c1 j = true) := by
  rw [nightS_ntAt]
  unfold momentS
  simp -implicitDefEqProofs only [mk_NT_c1, mk_NT_c2]
  refine ⟨fun hj => ?_, seatRun_sub j H.size h64⟩
  have := seatRun_lt (H := H) (t := t) (P := (cuesAt C t (ntAt H C p hi t)).2) (N := ntAt H C p hi t) H.size h64 j hj
  exact ⟨this.1, this.2.1⟩
theorem lv_inj {H : HS} {C : List Cu} {p p' hi hi' : Int64} (h64 : H.size ≤ 64) (t : Nat) (h : ∀ u, u < H.size → lvOf (nightS H C p hi t).c1 (nightS H C p hi t).c2 u = lvOf (nightS H C p' hi' t).c1 (nightS H C p' hi' t).c2 u) : (nightS H C p hi t).c1 = (nightS H C p' hi' t).c1 ∧ (nightS H C p hi t).c2 = (nightS H C p' hi' t).c2 := by
  have key : ∀ j, tb (nightS H C p hi t).c1 j = tb (nightS H C p' hi' t).c1 j ∧ tb (nightS H C p hi t).c2 j = tb (nightS H C p' hi' t).c2 j := by
    intro j
    obtain ⟨a1, a2⟩ := night_bits (C := C) (p := p) (hi := hi) h64 t j
    obtain ⟨b1, b2⟩ := night_bits (C := C) (p := p') (hi := hi') h64 t j
    by_cases hj : j < H.size
    · have e := h j hj
      unfold lvOf at e
      revert e a2 b2
      cases tb (nightS H C p hi t).c1 j <;> cases tb (nightS H C p hi t).c2 j <;> cases tb (nightS H C p' hi' t).c1 j <;> cases tb (nightS H C p' hi' t).c2 j <;> simp
    · rw [(a1 (by omega)).1, (a1 (by omega)).2, (b1 (by omega)).1, (b1 (by omega)).2]; exact ⟨rfl, rfl⟩
  exact ⟨tb_ext fun k _ => (key k).1, tb_ext fun k _ => (key k).2⟩
theorem vw_0 {y : NX} (h : y.ahead = 0) (l : Nat) : vw y l = y.wasWith l := by
  have : vw y l = vwS y.ahead (y.wasWith l) (y.wth l) := rfl
  rw [this, h, vwS_0]
section CmdF
variable {b b' : Mem} {n s : Nat} {x : XS} {m : MS} {H : HS} {C : List Cu} {h c : Nat} {K : Nat → Option (HS × List Cu)} {p p' hi : Int64}
theorem Duo.sN {y : MN} (R : Duo b x m H C h c K) : Duo b x (m.sN y) H C h c K := ⟨R.hb, R.fz, R.ok, R.ar, R.XH, R.xh, R.XC, R.xc, R.MH, R.MC, fun e => (R.lays e).sN, R.l01, R.tape, R.len, R.fault, R.paid, R.hiss, R.bought, R.worth, R.sided, R.b1, R.b2, R.arranged, R.kept, R.keptC⟩
theorem C_would (R : Duo b x m H C h c K) (a t w : Int32) : ∃ r x' m', fX1_would (some 64) a t w (mkX b x) = some (r, mkX b x') ∧ fX4_would (some 106) a t w (mkM b' n s m) = some (r, mkM b' n s m') ∧ Duo b x' m' H C h c K := by
  have T := R.th (v := 0)
  have h64 := R.ok.size
  unfold fX1_would fX4_would
  simp -implicitDefEqProofs only [Option.bind_some, bd_some, b2i_0, Bool.true_eq_false, Bool.false_eq_true, eq_self, if_true, if_false, not_true_eq_false, not_false_eq_true, pM_55', gX_4 R.hb, R.xh, xh_iv R.XH, X_isSeatI R.XH R.ok, ivM, M_isSeatI T.MH R.ok, X_isMoment, M_isMoment, X_isIn, M_isIn]
  cases es : seatI H a
  · simp -implicitDefEqProofs only [Option.bind_some, bd_some, b2i_0, Bool.true_eq_false, Bool.false_eq_true, eq_self, if_true, if_false, not_true_eq_false, not_false_eq_true]; exact ⟨_, _, _, rfl, rfl, T⟩
  obtain ⟨v, hv, hk, rfl⟩ := seatI_true es
  cases et : decide ((0 : Int32) ≤ t ∧ t ≤ 600)
  · simp -implicitDefEqProofs only [Option.bind_some, bd_some, b2i_0, Bool.true_eq_false, Bool.false_eq_true, eq_self, if_true, if_false, not_true_eq_false, not_false_eq_true]; exact ⟨_, _, _, rfl, rfl, T⟩
  obtain ⟨τ, -, hτ, rfl⟩ := in_true (l := 0) (u := 600) (by decide) (by decide) et
  cases ew : decide ((0 : Int32) ≤ w ∧ w ≤ 1)
  · simp -implicitDefEqProofs only [Option.bind_some, bd_some, b2i_0, Bool.true_eq_false, Bool.false_eq_true, eq_self, if_true, if_false, not_true_eq_false, not_false_eq_true]; exact ⟨_, _, _, rfl, rfl, T⟩
  obtain ⟨ω, -, hω, rfl⟩ := in_true (l := 0) (u := 1) (by decide) (by decide) ew
  have k6 := R.ok.kind v
  have k5 : H.kind v - 1 < 6 := by omega
  have v64 : v < 64 := by omega
  have w0 : (n2 ω = 0) = (ω = 0) := by rw [li_0, n2_eq (by omega) (by decide)]
  have i1 : (6 : Int32) + n2 v = n2 (6 + v) := n2_add 6 v
  have i2' : (86 : Int32) + (42 : Int32) * ((2 : Int32) * (n2 (H.kind v) - (1 : Int32)) + n2 ω) = n2 (86 + 42 * (2 * (H.kind v - 1) + ω)) := by
    rw [li_1, n2_sub (by omega), li_2, n2_mul, n2_add, li_42, n2_mul, li_86, n2_add]
  have kd : (m.th 0).s (6 + v) = n2 (H.kind v) := by
    have := T.MH.kind v v64; rw [if_pos hv] at this; exact this
  have l1 : 86 + 42 * (2 * (H.kind v - 1) + ω) < 681 := by omega
  simp -implicitDefEqProofs only [Option.bind_some, bd_some, b2i_0, Bool.true_eq_false, Bool.false_eq_true, eq_self, if_true, if_false, not_true_eq_false, not_false_eq_true, xh_37 R.XH, xh_38 R.XH, xh_34 R.XH, xh_kind R.XH hv h64, kindX_pos hk, xh_up R.XH k5, xh_down R.XH k5, w0, gM_61, i1, rd_s' (show 6 + v < 681 by omega), kd, i2', rd_s' l1]
  -- both laws alike
  have key : ∀ (f : Nat), (ω = 0 ∧ f = h + 4) ∨ (ω = 1 ∧ f = h + 5) → ∃ r x' m', bX1_would_70 (some 64) (n2 v) (n2 τ) (mA b f (H.kind v - 1)) (mkX b x) = some (r, mkX b x') ∧ (if ¬ (m.th 0).s (86 + 42 * (2 * (H.kind v - 1) + ω)) = 0 then bd (iv (mkM b' n s (m.th 0)) (some 106) [4] (fX4_night (some 106) (n2 τ) (mkM b' n s (m.th 0)))) fun _ st => (gJ st (some 106) 93).bind fun x76 => (gJ st (some 106) 94).bind fun x80 => bd (iv st (some 106) [4] (fX4_levelOf (some 106) (n2 v) st)) fun x85 st => bd (iv st (some 106) [4] (fX4_heldOf (some 106) (n2 v) st)) fun x90 st => bd (iv st (some 106) [4] (fX4_isLaw (some 106) (n2 (86 + 42 * (2 * (H.kind v - 1) + ω))) (n2 v) x76 x80 x85 x90 st)) fun x93 st => if x93 = 0 then some ((0 : Int32), st) else some ((1 : Int32), st) else some ((-1 : Int32), mkM b' n s (m.th 0))) = some (r, mkM b' n s m') ∧ Duo b x' m' H C h c K := by
    intro f hf
    cases hl : H.law (H.kind v - 1) ω with
    | none =>
      have a0 : mA b f (H.kind v - 1) = none := by
        rcases hf with ⟨rfl, rfl⟩ | ⟨rfl, rfl⟩
        · exact R.XH.up0 _ k5 hl
        · exact R.XH.down0 _ k5 hl
      have z : (m.th 0).s (86 + 42 * (2 * (H.kind v - 1) + ω)) = 0 := T.MH.law0 _ _ k5 (by omega) hl
      unfold bX1_would_70
      simp -implicitDefEqProofs only [Option.bind_some, bd_some, b2i_0, Bool.true_eq_false, Bool.false_eq_true, eq_self, if_true, if_false, not_true_eq_false, not_false_eq_true, a0, z]; exact ⟨_, _, _, rfl, rfl, T⟩
    | some co =>
      obtain ⟨cd, o⟩ := co
      obtain ⟨aa, a1, a2⟩ : ∃ a, mA b f (H.kind v - 1) = some a ∧ CondAt b cd a := by
        rcases hf with ⟨rfl, rfl⟩ | ⟨rfl, rfl⟩
        · exact (R.XH.up _ _ _ k5 hl).2
        · exact (R.XH.down _ _ _ k5 hl).2
      obtain ⟨d1, -, o1, o2⟩ := R.ok.dep _ _ _ _ hl
      obtain ⟨l, L⟩ := T.MH.law _ _ _ _ k5 (by omega) hl
      have oz : ((m.th 0).s (86 + 42 * (2 * (H.kind v - 1) + ω)) = 0) = False := by rw [L.ones_, li_0, n2_eq (by omega) (by decide)]; exact eq_false (by omega)
      obtain ⟨y, y2, e1, e2, -, I⟩ := X_tn R hτ
      obtain ⟨g, ym, e3, T2, ha, hR⟩ := M_tn (b' := b') (n := n) (s := s) T hτ
      have c1 : ((m.th 0).lay g ym).n.clapping = (nightS H C x.paid x.hiss τ).c1 := hR.nt.c1
      have c2 : ((m.th 0).lay g ym).n.standing = (nightS H C x.paid x.hiss τ).c2 := hR.nt.c2
      have c3 : ((m.th 0).lay g ym).n.low = (nightS H C x.paid x.hiss τ).lo := hR.nt.lo
      have c4 : ((m.th 0).lay g ym).n.high = (nightS H C x.paid x.hiss τ).hi := hR.nt.hi
      have ea := X_asked (b := b) (x := x.setN false y2) (q := false) R.hb
      rw [setN_n, setN_setN] at ea
      have hh := X_holds R.hb (x := x.setN false y2.ask) (q := false) R.XH (by rw [setN_n]; exact I.h_) hv h64 cd aa 60 a2 (by omega)
      rw [setN_n, vw_0 rfl, vw_0 rfl] at hh
      have q1 : y2.ask.wasWith 1 = (nightS H C x.paid x.hiss τ).c1 := by
        show va_cpy y2.wth y2.wasWith 0 0 3 1 = _
        unfold va_cpy; rw [if_pos (by decide)]; exact I.a1
      have q2 : y2.ask.wasWith 2 = (nightS H C x.paid x.hiss τ).c2 := by
        show va_cpy y2.wth y2.wasWith 0 0 3 2 = _
        unfold va_cpy; rw [if_pos (by decide)]; exact I.a2
      have q3 : y2.ask.was v = n2 (lvOf (nightS H C x.paid x.hiss τ).c1 (nightS H C x.paid x.hiss τ).c2 v) := by
        show va_cpy y2.level y2.was 0 0 64 v = _
        unfold va_cpy; rw [if_pos ⟨Nat.zero_le _, by omega⟩, Nat.zero_add, Nat.sub_zero]; exact I.level v hv
      have q4 : y2.ask.wasHeld v = n2 (hdOf (nightS H C x.paid x.hiss τ).lo (nightS H C x.paid x.hiss τ).hi v) := by
        show va_cpy y2.held y2.wasHeld 0 0 64 v = _
        unfold va_cpy; rw [if_pos ⟨Nat.zero_le _, by omega⟩, Nat.zero_add, Nat.sub_zero]; exact I.held v hv hk
      rw [q1, q2, q3, q4] at hh
      obtain ⟨hd, el⟩ := M_isLaw (b := b') (n := n) (s := s) (one := (nightS H C x.paid x.hiss τ).c1) (two := (nightS H C x.paid x.hiss τ).c2) (own := n2 (lvOf (nightS H C x.paid x.hiss τ).c1 (nightS H C x.paid x.hiss τ).c2 v)) (since := n2 (hdOf (nightS H C x.paid x.hiss τ).lo (nightS H C x.paid x.hiss τ).hi v)) (m := (m.th 0).lay g ym) (show 86 + 42 * (2 * (H.kind v - 1) + ω) + 42 ≤ 681 by omega) v64 L
      rw [cev_congr (f := fun a => ((m.th 0).lay g ym).area (6 * v + a)) (g := fun a => H.ar a v) (fun a h6 => ha a v h6 hv) cd l L.post] at el
      unfold bX1_would_70
      simp -implicitDefEqProofs only [Option.bind_some, bd_some, b2i_0, Bool.true_eq_false, Bool.false_eq_true, eq_self, if_true, if_false, not_true_eq_false, not_false_eq_true, a1, show (some aa = (none : Rf)) = False from eq_false (by simp), ivX R.hb, e1, ivN R.hb, e2, ea, hh, oz, ivM, e3, gM_93, gM_94, c1, c2, c3, c4, M_levelOf v64, M_heldOf v64, el]
      cases cev (fun a => H.ar a v) (nightS H C x.paid x.hiss τ).c1 (nightS H C x.paid x.hiss τ).c2 (n2 (lvOf (nightS H C x.paid x.hiss τ).c1 (nightS H C x.paid x.hiss τ).c2 v)) (n2 (hdOf (nightS H C x.paid x.hiss τ).lo (nightS H C x.paid x.hiss τ).hi v)) cd
      · simp -implicitDefEqProofs only [Option.bind_some, bd_some, b2i_0, Bool.true_eq_false, Bool.false_eq_true, eq_self, if_true, if_false, not_true_eq_false, not_false_eq_true]; exact ⟨_, _, _, rfl, rfl, (T2.nX).sN⟩
      · simp -implicitDefEqProofs only [Option.bind_some, bd_some, b2i_0, Bool.true_eq_false, Bool.false_eq_true, eq_self, if_true, if_false, not_true_eq_false, not_false_eq_true]; exact ⟨_, _, _, rfl, rfl, (T2.nX).sN⟩
  rcases (by omega : ω = 0 ∨ ω = 1) with rfl | rfl
  · simp -implicitDefEqProofs only [Option.bind_some, bd_some, b2i_0, Bool.true_eq_false, Bool.false_eq_true, eq_self, if_true, if_false, not_true_eq_false, not_false_eq_true]; exact key _ (Or.inl ⟨rfl, rfl⟩)
  · simp -implicitDefEqProofs only [Option.bind_some, bd_some, b2i_0, Bool.true_eq_false, Bool.false_eq_true, eq_self, if_true, if_false, not_true_eq_false, not_false_eq_true, show (1 : Nat) = 0 ↔ False by decide]; exact key _ (Or.inr ⟨rfl, rfl⟩)
end CmdF
