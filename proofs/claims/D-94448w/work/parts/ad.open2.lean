set_option linter.unusedVariables false
set_option linter.unusedSimpArgs false
set_option maxRecDepth 100000
theorem or0L (w : Int64) : (0 : Int64) ||| w = w := tb_ext fun k _ => by rw [tb_or, tb_zero, Bool.false_or]
theorem rowF_self (g : Nat → Nat → Int64) (v : Nat) : rowF g v (fun a => g a v) = g := by
  funext a u; unfold rowF
  by_cases e : u = v
  · rw [if_pos e, e]
  · rw [if_neg e]
section OpenM
variable {x : XS} {h v r c : Nat} {H : HS} {g : Nat → Nat → Int64} {kk2 : Rf → Int32 → Mem → Option (Rf × Mem)}
theorem X_zero (ok : H.Ok) (hv : v < H.size) (hr : r < 64) (hc : c < 64) : ∀ (k f a : Nat) (b : Mem) (e : Nat → Int64), a + k = 6 → k < f → XHouse b h (H.wAr (rowF g v e)) → (∀ q, q < a → e q = 0) →
    ∃ st e', bX2_open_27 kk2 f (some h) (n2 v) (n2 r) (n2 c) (n2 a) (mkX b x) = bX2_open_93 kk2 hcFuel (some h) (n2 v) (n2 r) (n2 c) (i2 (((0 : Nat) : Int) - 1)) (mkX st x) ∧ XHouse st h (H.wAr (rowF g v e')) ∧ KpO b st h ∧ e' 0 = 0 ∧ e' 1 = bitAtS H ((r : Int) - 1) (c : Int) ∧ e' 2 = (bitAtS H (r : Int) ((c : Int) - 1) ||| bitAtS H (r : Int) ((c : Int) + 1)) ∧ e' 3 = bitAtS H ((r : Int) + 1) (c : Int) ∧ e' 4 = 0 ∧ e' 5 = 0 := by
  have h64 := ok.size
  intro k
  induction k with
  | zero =>
    intro f a b e ha hf X he
    obtain ⟨f, rfl⟩ : ∃ g, f = g + 1 := ⟨f - 1, by omega⟩
    have ha2 : a = 6 := by omega
    subst ha2
    obtain ⟨s1, a1, X1, K1⟩ := X_see (x := x) (a := 1) X ok (by decide) hv (r := (r : Int) - 1) (c := (c : Int)) (by omega) (by omega)
    obtain ⟨s2, a2, X2, K2⟩ := X_see (x := x) (a := 3) X1 ok (by decide) hv (r := (r : Int) + 1) (c := (c : Int)) (by omega) (by omega)
    obtain ⟨s3, a3, X3, K3⟩ := X_see (x := x) (a := 2) X2 ok (by decide) hv (r := (r : Int)) (c := (c : Int) - 1) (by omega) (by omega)
    obtain ⟨s4, a4, X4, K4⟩ := X_see (x := x) (a := 2) X3 ok (by decide) hv (r := (r : Int)) (c := (c : Int) + 1) (by omega) (by omega)
    have a1' : fX2_see (some h) (1 : Int32) (n2 v) (i2 ((r : Int) - 1)) (n2 c) (mkX b x) = some ((), mkX s1 x) := a1
    have a2' : fX2_see (some h) (3 : Int32) (n2 v) (i2 ((r : Int) + 1)) (n2 c) (mkX s1 x) = some ((), mkX s2 x) := a2
    have a3' : fX2_see (some h) (2 : Int32) (n2 v) (n2 r) (i2 ((c : Int) - 1)) (mkX s2 x) = some ((), mkX s3 x) := a3
    have a4' : fX2_see (some h) (2 : Int32) (n2 v) (n2 r) (i2 ((c : Int) + 1)) (mkX s3 x) = some ((), mkX s4 x) := a4
    refine ⟨s4, _, ?_, X4, ((K1.trans K2).trans K3).trans K4, ?_, ?_, ?_, ?_, ?_, ?_⟩
    · show bX2_open_27B kk2 _ _ _ _ _ _ _ = _
      unfold bX2_open_27B
      generalize hcFuel = fu
      have q1 : n2 r - (1 : Int32) = i2 ((r : Int) - 1) := i2_sub (r : Int) 1
      have q2 : n2 r + (1 : Int32) = i2 ((r : Int) + 1) := i2_add (r : Int) 1
      have q3 : n2 c - (1 : Int32) = i2 ((c : Int) - 1) := i2_sub (c : Int) 1
      have q4 : n2 c + (1 : Int32) = i2 ((c : Int) + 1) := i2_add (c : Int) 1
      simp -implicitDefEqProofs only [Option.bind_some, bd_some, b2i_0, Bool.true_eq_false, Bool.false_eq_true, eq_self, if_true, if_false, not_true_eq_false, not_false_eq_true, show ((6 : Int32) ≤ n2 6) = True from eq_true (by decide), q1, q2, q3, q4, xh_iv X, a1', xh_iv X1, a2', xh_iv X2, a3', xh_iv X3, a4']
      rfl
    · rw [upq_ne _ _ (by decide), upq_ne _ _ (by decide), upq_ne _ _ (by decide), upq_ne _ _ (by decide)]; exact he 0 (by decide)
    · rw [upq_ne _ _ (by decide), upq_ne _ _ (by decide), upq_ne _ _ (by decide), upq_self, he 1 (by decide), or0L]
    · rw [upq_self, upq_self, upq_ne _ _ (by decide), upq_ne _ _ (by decide), he 2 (by decide), or0L]
    · rw [upq_ne _ _ (by decide), upq_ne _ _ (by decide), upq_self, upq_ne _ _ (by decide), he 3 (by decide), or0L]
    · rw [upq_ne _ _ (by decide), upq_ne _ _ (by decide), upq_ne _ _ (by decide), upq_ne _ _ (by decide)]; exact he 4 (by decide)
    · rw [upq_ne _ _ (by decide), upq_ne _ _ (by decide), upq_ne _ _ (by decide), upq_ne _ _ (by decide)]; exact he 5 (by decide)
  | succ k ih =>
    intro f a b e ha hf X he
    obtain ⟨f, rfl⟩ : ∃ g, f = g + 1 := ⟨f - 1, by omega⟩
    have le : ((6 : Int32) ≤ n2 a) = False := by rw [li_6, n2_le (by decide) (by omega)]; exact eq_false (by omega)
    obtain ⟨st0, t1, t2, t3⟩ := X_uar (x := x) X h64 (show a < 6 by omega) hv 0
    obtain ⟨st, e', s1, s2, s3, s4⟩ := ih f (a + 1) st0 _ (by omega) (by omega) t2 (fun q hq => by
      by_cases eq : q = a
      · rw [eq, upq_self]
      · rw [upq_ne _ _ eq]; exact he q (by omega))
    refine ⟨st, e', ?_, s2, t3.trans s3, s4⟩
    rw [← s1]
    show bX2_open_27B kk2 (bX2_open_27 kk2 f) _ _ _ _ _ _ = _
    unfold bX2_open_27B
    generalize hcFuel = fu
    simp -implicitDefEqProofs only [Option.bind_some, bd_some, b2i_0, Bool.true_eq_false, Bool.false_eq_true, eq_self, if_true, if_false, not_true_eq_false, not_false_eq_true, le, xh_40 X, xh_area X (show a < 6 by omega), t1, show n2 a + 1 = n2 (a + 1) from n2_add a 1]
theorem X_orow (ok : H.Ok) (hv : v < H.size) {b : Mem} (X : XHouse b h (H.wAr g)) : ∃ st e, bX2_open_2B kk2 (some h) (n2 v) (mkX b x) = kk2 (some h) (n2 (v + 1)) (mkX st x) ∧ XHouse st h (H.wAr (rowF g v e)) ∧ KpO b st h ∧ ∀ a, a < 6 → e a = arS H a v := by
  have h64 := ok.size
  have r8 := ok.rows
  have c8 := ok.cols
  have hp := pos_of_size hv
  have hrl := row_lt hv
  have hcl := Nat.mod_lt v hp.1
  have X0 : XHouse b h (H.wAr (rowF g v (fun a => g a v))) := by rw [rowF_self]; exact X
  obtain ⟨s1, e1, a1, X1, K1, q0, q1, q2, q3, q4, q5⟩ := X_zero (x := x) (kk2 := kk2) (r := v / H.cols) (c := v % H.cols) ok hv (by omega) (by omega) 6 hcFuel 0 b _ (by omega) (by unfold hcFuel; omega) X0 (fun q hq => absurd hq (Nat.not_lt_zero q))
  obtain ⟨s2, e2, a2, X2, K2, p0, p1⟩ := X_nout (x := x) (kk2 := kk2) (r := v / H.cols) (c := v % H.cols) ok hv rfl rfl 3 hcFuel 0 s1 e1 (by omega) (by unfold hcFuel; omega) X1 (by rw [q0]; rfl)
  obtain ⟨s3, e3, a3, X3, K3, o4, o5⟩ := X_sout (x := x) (kk2 := kk2) (r := v / H.cols) (c := v % H.cols) ok hv (by omega) (by omega) (hidS H (v / H.cols) v) 3 hcFuel 0 s2 e2 (by omega) (by unfold hcFuel; omega) X2 (by rw [p1 4 (by decide), q4]; split <;> rfl)
  obtain ⟨s4, e4, a4, X4, K4, m5, m6⟩ := X_whole (x := x) (kk2 := kk2) ok hv H.size hcFuel 0 s3 e3 (by omega) (by unfold hcFuel; omega) X3 (by rw [o5 5 (by decide), p1 5 (by decide), q5]; rfl)
  refine ⟨s4, e4, ?_, X4, ((K1.trans K2).trans K3).trans K4, fun a ha => ?_⟩
  · have sz : fX2_size (some h) (mkX b x) = some (n2 H.size, mkX b x) := xh_size (x := x) (H := H.wAr g) X
    have g29 : gI (mkX b x) (some h) 29 = some (n2 H.cols) := xh_29 (x := x) (H := H.wAr g) X
    have le : (n2 H.size ≤ n2 v) = False := by rw [n2_le (by omega) (by omega)]; exact eq_false (by omega)
    rw [← a4]
    have a3' : bX2_open_178 kk2 hcFuel (some h) (n2 v) (n2 (v / H.cols)) (n2 (v % H.cols)) (b2i (hidS H (v / H.cols) v)) (1 : Int32) (mkX s2 x) = bX2_open_230 kk2 hcFuel (some h) (n2 v) (n2 0) (mkX s3 x) := a3
    rw [← a3', ← a2, ← a1]
    unfold bX2_open_2B
    generalize hcFuel = fu
    simp -implicitDefEqProofs only [Option.bind_some, bd_some, b2i_0, Bool.true_eq_false, Bool.false_eq_true, eq_self, if_true, if_false, not_true_eq_false, not_false_eq_true, xh_iv X, sz, le, g29, n2_dv (show v < 2147483648 by omega) (show H.cols < 2147483648 by omega) hp.1, n2_rm (show v < 2147483648 by omega) (show H.cols < 2147483648 by omega) hp.1]
    rfl
  · rcases (show a = 0 ∨ a = 1 ∨ a = 2 ∨ a = 3 ∨ a = 4 ∨ a = 5 by omega) with rfl | rfl | rfl | rfl | rfl | rfl
    · rw [m6 0 (by decide), o5 0 (by decide), p0, arS_0]
    · rw [m6 1 (by decide), o5 1 (by decide), p1 1 (by decide), q1, arS_1]
    · rw [m6 2 (by decide), o5 2 (by decide), p1 2 (by decide), q2, arS_2]
    · rw [m6 3 (by decide), o5 3 (by decide), p1 3 (by decide), q3, arS_3]
    · rw [m6 4 (by decide), o4, arS_4]
    · rw [m5, arS_5]
theorem X_oall (ok : H.Ok) : ∀ (k f v : Nat) (b : Mem) (g : Nat → Nat → Int64), v + k = H.size → k < f → XHouse b h (H.wAr g) → (∀ a u, a < 6 → u < v → g a u = arS H a u) →
    ∃ st g', bX2_open_2 f (some h) (n2 v) (mkX b x) = some (some h, mkX st x) ∧ XHouse st h (H.wAr g') ∧ KpO b st h ∧ ∀ a u, a < 6 → u < H.size → g' a u = arS H a u := by
  intro k
  induction k with
  | zero =>
    intro f v b g hv hf X hg
    obtain ⟨f, rfl⟩ : ∃ g, f = g + 1 := ⟨f - 1, by omega⟩
    have ev : v = H.size := by omega
    refine ⟨b, g, ?_, X, KpO.refl b h, fun a u ha hu => hg a u ha (by omega)⟩
    have sz : fX2_size (some h) (mkX b x) = some (n2 H.size, mkX b x) := xh_size (x := x) (H := H.wAr g) X
    show bX2_open_2B _ _ _ _ = _
    unfold bX2_open_2B
    generalize hcFuel = fu
    simp -implicitDefEqProofs only [Option.bind_some, bd_some, b2i_0, Bool.true_eq_false, Bool.false_eq_true, eq_self, if_true, if_false, not_true_eq_false, not_false_eq_true, xh_iv X, sz, ev, show (n2 H.size ≤ n2 H.size) = True from eq_true (Int32.le_refl _)]
  | succ k ih =>
    intro f v b g hv hf X hg
    obtain ⟨f, rfl⟩ : ∃ g, f = g + 1 := ⟨f - 1, by omega⟩
    obtain ⟨s1, e, a1, X1, K1, q⟩ := X_orow (x := x) (kk2 := bX2_open_2 f) ok (show v < H.size by omega) X
    obtain ⟨st, g', s2, s3, s4, s5⟩ := ih f (v + 1) s1 (rowF g v e) (by omega) (by omega) X1 (fun a u ha hu => by
      unfold rowF
      by_cases eu : u = v
      · rw [if_pos eu, q a ha, eu]
      · rw [if_neg eu]; exact hg a u ha (by omega))
    exact ⟨st, g', a1.trans s2, s3, K1.trans s4, s5⟩
theorem X_open (ok : H.Ok) {b : Mem} (X : XHouse b h H) : ∃ st g, fX2_open (some h) (mkX b x) = some (some h, mkX st x) ∧ XHouse st h (H.wAr g) ∧ KpO b st h ∧ (H.wAr g).ArOk := by
  have h64 := ok.size
  have X0 : XHouse b h (H.wAr H.ar) := X
  obtain ⟨st, g, s1, s2, s3, s4⟩ := X_oall (x := x) ok H.size hcFuel 0 b H.ar (by omega) (by unfold hcFuel; omega) X0 (fun a u _ hu => absurd hu (Nat.not_lt_zero u))
  refine ⟨st, g, s1, s2, s3, fun a u ha hu => ?_⟩
  rw [sp_ar (wAr_sp H g)]; exact s4 a u ha hu
end OpenM
