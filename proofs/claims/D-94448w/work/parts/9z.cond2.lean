set_option linter.unusedVariables false
set_option linter.unusedSimpArgs false
set_option maxRecDepth 100000
section OrLoop
variable {B b' : Mem} {tp : Nat → Int32} {to most n s A Z d : Nat} {m : MS}
theorem L_or (IH : CAnd B m tp to most A Z b' n s d) {c0 : Cl} {T0 : List Cl} {h0 : MH} {p0 o0 v0 : Nat} {Q : List Nat} {l : List Int32} (hQ8 : opS Q ≤ 8) (hq : Q = [] ∨ ∃ Q', Q = 6 :: Q') (hQl : Q.length ≤ 3 * opS Q) (hd : 8 - opS Q < d) : ∀ (j F F0 F9 : Nat) (c : Cl) (T : List Cl) (z : Nat) (r : MR) (h : MH) (p : Nat) (o e : Nat) (u : List Nat) (k : List Int32) (cnd : Cd) (R : List Cl),
    nu c to p < j → nu c to p < F → nu c to p < F0 → nu c to p < F9 → CSt B m tp to most A Z c T z r h p (u ++ Q) (l ++ k) o → opL u → u.length ≤ 2 → wd r 6385252 = false → Post cnd (k ++ u.map n2) → CondT (mNx B) T cnd e → c.i 138 = n2 (opS Q) → (l ++ k).length + (u ++ Q).length + 1 ≤ 2 * o → cwt cnd + o0 ≤ o → T = T0 ++ R → Kc c0 c → c.i 138 = c0.i 138 → Kh h0 h → p0 ≤ p → nu c to p < v0 →
    CdG B m tp to most A Z b' n s c0 T0 h0 p0 v0 o0 (DOr Q l) (bX6_or_5 (fX6_oneR d) F (some (mNx B)) (some (mNx B + (1 + e))) (ovs B (c :: T) z)) (MCx b' n s F0 F9 (m.sRH r h)) ∨ Bad B m A Z to b' n s (bX6_or_5 (fX6_oneR d) F (some (mNx B)) (some (mNx B + (1 + e))) (ovs B (c :: T) z)) (MCx b' n s F0 F9 (m.sRH r h)) := by
  intro j
  induction j with
  | zero => intro F F0 F9 c T z r h p o e u k cnd R hn; exact absurd hn (Nat.not_lt_zero _)
  | succ j ih =>
    intro F F0 F9 c T z r h p o e u k cnd R hn hF hF0 hF9 C hu hul hna hP hC h138 hlen hcw hT hK hK8 hKh hp hv
    obtain ⟨F, rfl⟩ : ∃ g, F = g + 1 := ⟨F - 1, by omega⟩
    have hB : 64 ≤ mNx B := by have := C.S.R.hB; omega
    have w13 := X_w13 (z := z) C.S
    rw [sRH_r] at w13
    rcases Bool.eq_false_or_eq_true (wd r 28530) with hw | hw
    · -- or
      obtain ⟨F9, rfl⟩ : ∃ g, F9 = g + 1 := ⟨F9 - 1, by omega⟩
      obtain ⟨F0, rfl⟩ : ∃ g, F0 = g + 1 := ⟨F0 - 1, by omega⟩
      obtain ⟨q1, q2⟩ := or_wd hq hu
      have lapp : (u ++ Q).length = u.length + Q.length := List.length_append
      obtain ⟨h1, M1, P1, K1⟩ := M_opx (b' := b') (n := n) (s := s) (F := F9) (m := m) (r := r) (kk := bX4_cond_0 (F0 + 1)) (x := 5) (v := 1) C.P (by omega) (by have := C.o20; omega) (Or.inr ⟨rfl, rfl, hw⟩)
      rw [q1, q2] at P1
      have kd2 : c.i 128 = 2 := wd_kind (w := 28530) C.S hw
      have hv2 : ¬ (c.i 128 = 0 ∨ c.i 128 = 5) := by rw [kd2]; decide
      obtain ⟨c1, T1, z1, r1, p1, R1, x1, m1, S1, Kp1, Kr1, T1e, le1, nu1, g1⟩ := goG (b' := b') (n := n) (s := s) (C.S.hh h1) C.g hv2
      have c15 : c1.t = 5 := Kp1.1.trans C.t5
      have rm : MCx b' n s (F0 + 1) (F9 + 1) (m.sRH r h) = MB b' n s F0 hcFuel (m.sRH r1 h1) := by
        unfold MCx
        rw [M1, m1, bd_some, MB_of]
      have C1 : CSt B m tp to most A Z c1 (T1 ++ [Cl.nw 12 0]) (z1 + 2) r1 h1 p1 (5 :: Q) (l ++ k ++ u.map n2) o :=
        ⟨S1.ch (Chg.app _ _), g1.add (by rw [List.length_append]; simp -implicitDefEqProofs only [List.length_cons, List.length_nil]; omega) (by omega), c15, (Kp1.2.2.2.1 137 (by omega)).trans C.x7, C.o20, P1⟩
      have op5 : opS (5 :: Q) = opS Q := by simp [opS]
      have c18 : c1.i 138 = c.i 138 := Kp1.2.2.2.1 138 (by omega)
      have lm : (u.map n2).length = u.length := List.length_map ..
      have lk' : (l ++ k ++ u.map n2).length = (l ++ k).length + u.length := by rw [List.length_append, lm]
      have I := IH c1 (T1 ++ [Cl.nw 12 0]) (z1 + 2) r1 h1 p1 (5 :: Q) (l ++ k ++ u.map n2) o F0 hcFuel C1 (by rw [op5, c18]; exact h138) (by rw [op5]; exact hQ8) (Or.inr ⟨5, Q, rfl, Or.inl rfl⟩) (by rw [op5, List.length_cons]; omega) (by rw [lk', List.length_cons]; omega) (by rw [op5]; exact hd) (by omega) (by have := C.S.R.to_; unfold nu hcFuel; split <;> omega)
      have rx : bX6_or_5 (fX6_oneR d) (F + 1) (some (mNx B)) (some (mNx B + (1 + e))) (ovs B (c :: T) z) = bt (fX6_and (fX6_oneR d) (some (mNx B)) (ovs B (c1 :: (T1 ++ [Cl.nw 12 0])) (z1 + 2))) fun x24 st => bd (nn (some (mNx B + (1 + T1.length))) (fX16_init (some (mNx B + (1 + T1.length))) (some (mNx B + (1 + e))) x24 st)) fun _ st => bX6_or_5 (fX6_oneR d) F (some (mNx B)) (some (mNx B + (1 + T1.length))) st := by
        show bX6_or_5B (fX6_oneR d) (bX6_or_5 (fX6_oneR d) F) _ _ _ = _
        unfold bX6_or_5B
        simp -implicitDefEqProofs only [Option.bind_some, bd_some, b2i_0, Bool.true_eq_false, Bool.false_eq_true, eq_self, if_true, if_false, not_true_eq_false, not_false_eq_true, rd_iv5 C.t5, w13, hw, x1, tc_nO (t := 12) (by decide), nsl_12, rd_iv5 c15]
      rw [rx, rm]
      rcases I with ⟨e2, c2, T2, z2, r2, h2, p2, R2, Q2, l2, o2, cnd2, F0', F9', y1, y2, C2, y4, y5, y6, y7, y8, y9, y10, y11, y12, y13, u2, k2, y14, y15, y16, y17, y18⟩ | I
      · subst y15
        subst y16
        have u2l : u2.length ≤ 1 := by rcases y14 with rfl | rfl <;> simp
        have len2 : T2.length = T1.length + 1 + R2.length := by rw [y4, List.length_append, List.length_append]; rfl
        have at2 : clD T2 T1.length = Cl.nw 12 0 := by
          rw [y4, clD_apL _ _ _ (by rw [List.length_append]; simp), clD_last]
        have X2 : fX16_init (some (mNx B + (1 + T1.length))) (some (mNx B + (1 + e))) (some (mNx B + (1 + e2))) (ovs B (c2 :: T2) z2) = some ((), ovs B (c2 :: clS T2 T1.length (((clD T2 T1.length).sA 146 (some (mNx B + (1 + e)))).sA 147 (some (mNx B + (1 + e2))))) z2) := X_or16 hB (by omega) (by rw [at2]; rfl)
        rw [at2] at X2
        have chg : Chg T2 (clS T2 T1.length (((Cl.nw 12 0).sA 146 (some (mNx B + (1 + e)))).sA 147 (some (mNx B + (1 + e2))))) := Chg.set (by rw [at2]; exact ⟨fun _ => rfl, fun _ => rfl, by decide⟩) (by rw [at2]; decide) (by rw [at2]; decide)
        have T3e : clS T2 T1.length (((Cl.nw 12 0).sA 146 (some (mNx B + (1 + e)))).sA 147 (some (mNx B + (1 + e2)))) = T0 ++ (R ++ R1 ++ [((Cl.nw 12 0).sA 146 (some (mNx B + (1 + e)))).sA 147 (some (mNx B + (1 + e2)))] ++ R2) := by
          have := clS_apR T1 ([Cl.nw 12 0] ++ R2) 0 (((Cl.nw 12 0).sA 146 (some (mNx B + (1 + e)))).sA 147 (some (mNx B + (1 + e2))))
          rw [y4, List.append_assoc]
          refine this.trans ?_
          rw [T1e, hT]; simp [clS]
        have at3 : clD (clS T2 T1.length (((Cl.nw 12 0).sA 146 (some (mNx B + (1 + e)))).sA 147 (some (mNx B + (1 + e2))))) T1.length = ((Cl.nw 12 0).sA 146 (some (mNx B + (1 + e)))).sA 147 (some (mNx B + (1 + e2))) := clS_at T2 _ _ (by omega)
        have len3 : (clS T2 T1.length (((Cl.nw 12 0).sA 146 (some (mNx B + (1 + e)))).sA 147 (some (mNx B + (1 + e2))))).length = T2.length := clS_len _ _ _
        generalize clS T2 T1.length (((Cl.nw 12 0).sA 146 (some (mNx B + (1 + e)))).sA 147 (some (mNx B + (1 + e2)))) = T3 at X2 chg T3e at3 len3
        have C3 : CSt B m tp to most A Z c2 T3 z2 r2 h2 p2 ((u2 ++ [5]) ++ Q) (l ++ (k ++ u.map n2 ++ k2)) o2 :=
          ⟨C2.S.ch chg, ⟨by rw [len3]; exact C2.g.1, C2.g.2⟩, C2.t5, C2.x7, C2.o20, by have := C2.P; rw [show l ++ (k ++ u.map n2 ++ k2) = l ++ k ++ u.map n2 ++ k2 by simp, show (u2 ++ [5]) ++ Q = u2 ++ 5 :: Q by simp]; exact this⟩
        have cT : Chg T T3 := by
          have a1 : Chg T T1 := by rw [T1e]; exact Chg.app _ _
          have a2 : Chg T1 T2 := by rw [y4, List.append_assoc]; exact Chg.app _ _
          exact (a1.trans a2).trans chg
        have cd3 : CondT (mNx B) T3 (.sub cnd cnd2) T1.length := by
          refine ⟨by omega, by rw [at3]; rfl, e, e2, ?_, ?_, hC.ch cT, y5.ch chg⟩
          · rw [at3, a_ne _ _ (by decide), a_self]
          · rw [at3, a_self]
        have pl := Post_len y17
        rw [List.length_append, List.length_map] at pl
        have l3 : (l ++ (k ++ u.map n2 ++ k2)).length = (l ++ k).length + u.length + k2.length := by simp -implicitDefEqProofs only [List.length_append, List.length_map]; omega
        have uu : opL (u2 ++ [5]) := by
          intro x hx
          rcases List.mem_append.mp hx with q | q
          · exact opL_and y14 x q
          · exact Or.inr (List.mem_singleton.mp q)
        have J := ih F F0' F9' c2 T3 z2 r2 h2 p2 o2 T1.length (u2 ++ [5]) (k ++ u.map n2 ++ k2) (.sub cnd cnd2) (R ++ R1 ++ [((Cl.nw 12 0).sA 146 (some (mNx B + (1 + e)))).sA 147 (some (mNx B + (1 + e2)))] ++ R2)
          (by omega) (by omega) (by omega) (by omega) C3 uu (by rw [List.length_append]; simp -implicitDefEqProofs only [List.length_cons, List.length_nil]; omega) y18 ⟨k ++ u.map n2, k2 ++ u2.map n2, hP, y17, by simp [n2]⟩ cd3 (y8.trans (c18.trans h138)) (by rw [l3]; simp -implicitDefEqProofs only [List.length_append, List.length_cons, List.length_nil] at hlen ⊢; omega) (by simp -implicitDefEqProofs only [cwt]; omega) T3e ((hK.trans Kp1.c).trans y7) (y8.trans (c18.trans hK8)) (hKh.trans (K1.trans y9)) (by omega) (by omega)
        rw [y1, bt_inl, nn_some, X2, bd_some, y2]
        exact J
      · exact Or.inr (I.bt _)
    · -- no or: done
      refine Or.inl ⟨e, c, T, z, r, h, p, R, u ++ Q, l ++ k, o, cnd, F0, F9, ?_, rfl, C, hT, hC, hcw, hK, hK8, hKh, hp, hv, by omega, by omega, u, k, hu, hul, rfl, rfl, hP, hna, hw⟩
      show bX6_or_5B (fX6_oneR d) (bX6_or_5 (fX6_oneR d) F) _ _ _ = _
      unfold bX6_or_5B
      simp -implicitDefEqProofs only [Option.bind_some, bd_some, b2i_0, Bool.true_eq_false, Bool.false_eq_true, eq_self, if_true, if_false, not_true_eq_false, not_false_eq_true, rd_iv5 C.t5, w13, hw]
theorem or_of (IH : CAnd B m tp to most A Z b' n s d) : COr B m tp to most A Z b' n s d := by
  intro c T z r h p Q l o F0 F1 C h138 hQ8 hq hQl hlen hd hF0 hF1
  have hq' : Q = [] ∨ ∃ x Q', Q = x :: Q' ∧ (x = 5 ∨ x = 6) := by
    rcases hq with q | ⟨Q', q⟩
    · exact Or.inl q
    · exact Or.inr ⟨6, Q', q, Or.inr rfl⟩
  have I := IH c T z r h p Q l o F0 F1 C h138 hQ8 hq' (by omega) hlen hd hF0 hF1
  unfold fX6_or
  rw [rd_iv5 C.t5]
  rcases I with ⟨e2, c2, T2, z2, r2, h2, p2, R2, Q2, l2, o2, cnd2, F0', F9', y1, y2, C2, y4, y5, y6, y7, y8, y9, y10, y11, y12, y13, u2, k2, y14, y15, y16, y17, y18⟩ | I
  · subst y15
    subst y16
    rw [y1, bt_inl, y2]
    have pl := Post_len y17
    rw [List.length_append, List.length_map] at pl
    have ll : (l ++ k2).length = l.length + k2.length := List.length_append
    have ul : (u2 ++ Q).length = u2.length + Q.length := List.length_append
    have u2l : u2.length ≤ 1 := by rcases y14 with rfl | rfl <;> simp
    exact L_or IH hQ8 hq hQl hd (nu c2 to p2 + 1) hcFuel F0' F9' c2 T2 z2 r2 h2 p2 o2 e2 u2 k2 cnd2 R2 (Nat.lt_succ_self _) (by have := C.S.R.to_; unfold nu hcFuel; split <;> omega) y12 y13 C2 (opL_and y14) (by omega) y18 y17 y5 (y8.trans h138) (by omega) y6 y4 y7 y8 y9 y10 y11
  · exact Or.inr (I.bt _)
end OrLoop
