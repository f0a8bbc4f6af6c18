set_option linter.unusedVariables false
set_option linter.unusedSimpArgs false
set_option maxRecDepth 100000
/-! ===== words and signs at hand, as truth values (printed) ===== -/
def wd (r : MR) (w : Int64) : Bool := decide (r.token = 1 ∧ r.word = w)
def sg (r : MR) (a : Int32) : Bool := decide (r.token = 3 ∧ r.number = a)
theorem wd_eq {r : MR} {a : Int64} (h : wd r a = true) (b : Int64) : wd r b = decide (a = b) := by
  have h2 := of_decide_eq_true h
  unfold wd; rw [h2.2]
  by_cases e : a = b
  · rw [decide_eq_true e, decide_eq_true ⟨h2.1, e⟩]
  · rw [decide_eq_false e, decide_eq_false (fun c => e c.2)]
theorem sg_wd {r : MR} {a : Int32} (h : sg r a = true) (b : Int64) : wd r b = false := by
  have h2 := of_decide_eq_true h
  unfold wd
  refine decide_eq_false (fun c => ?_)
  rw [h2.1] at c; exact absurd c.1 (by decide)
theorem wd_sg {r : MR} {a : Int64} (h : wd r a = true) (b : Int32) : sg r b = false := by
  have h2 := of_decide_eq_true h
  unfold sg
  refine decide_eq_false (fun c => ?_)
  rw [h2.1] at c; exact absurd c.1 (by decide)
theorem sgs_eq {r : MR} {a : Int32} (h : sg r a = true) (b : Int32) : sg r b = decide (a = b) := by
  have h2 := of_decide_eq_true h
  unfold sg; rw [h2.2]
  by_cases e : a = b
  · rw [decide_eq_true e, decide_eq_true ⟨h2.1, e⟩]
  · rw [decide_eq_false e, decide_eq_false (fun c => e c.2)]
theorem b2i_inj {v w : Bool} (h : b2i v = b2i w) : v = w := by
  cases v <;> cases w
  · rfl
  · exact absurd h (by decide)
  · exact absurd h (by decide)
  · rfl
section Bools
variable {B b' : Mem} {c : Cl} {T : List Cl} {tp : Nat → Int32} {to most z n s p i : Nat} {m : MS}
theorem M_wd (w : Int64) : fX4_isWord (some 106) w (mkM b' n s m) = some (b2i (wd m.r w), mkM b' n s m) := by
  unfold fX4_isWord bX4_isWord_21 wd
  by_cases h1 : m.r.token = 1
  · by_cases h2 : m.r.word = w
    · rw [decide_eq_true ⟨h1, h2⟩]; simp -implicitDefEqProofs only [Option.bind_some, bd_some, b2i_0, Bool.true_eq_false, Bool.false_eq_true, eq_self, if_true, if_false, not_true_eq_false, not_false_eq_true, gM_64, gM_70, h1, h2]; rfl
    · rw [decide_eq_false (fun c => h2 c.2)]; simp -implicitDefEqProofs only [Option.bind_some, bd_some, b2i_0, Bool.true_eq_false, Bool.false_eq_true, eq_self, if_true, if_false, not_true_eq_false, not_false_eq_true, gM_64, gM_70, h1, h2]; rfl
  · rw [decide_eq_false (fun c => h1 c.1)]; simp -implicitDefEqProofs only [Option.bind_some, bd_some, b2i_0, Bool.true_eq_false, Bool.false_eq_true, eq_self, if_true, if_false, not_true_eq_false, not_false_eq_true, gM_64, h1]; rfl
theorem M_sg (a : Int32) : fX4_isSign (some 106) a (mkM b' n s m) = some (b2i (sg m.r a), mkM b' n s m) := by
  unfold fX4_isSign bX4_isSign_20 sg
  by_cases h1 : m.r.token = 3
  · by_cases h2 : m.r.number = a
    · rw [decide_eq_true ⟨h1, h2⟩]; simp -implicitDefEqProofs only [Option.bind_some, bd_some, b2i_0, Bool.true_eq_false, Bool.false_eq_true, eq_self, if_true, if_false, not_true_eq_false, not_false_eq_true, gM_64, gM_67, h1, h2]; rfl
    · rw [decide_eq_false (fun c => h2 c.2)]; simp -implicitDefEqProofs only [Option.bind_some, bd_some, b2i_0, Bool.true_eq_false, Bool.false_eq_true, eq_self, if_true, if_false, not_true_eq_false, not_false_eq_true, gM_64, gM_67, h1, h2]; rfl
  · rw [decide_eq_false (fun c => h1 c.1)]; simp -implicitDefEqProofs only [Option.bind_some, bd_some, b2i_0, Bool.true_eq_false, Bool.false_eq_true, eq_self, if_true, if_false, not_true_eq_false, not_false_eq_true, gM_64, h1]; rfl
theorem X_wd (S : RsR B c T m tp to most p) (hi : i < 24) {code : Int64} (hcode : code = pkW (stF i) (stL i)) : fX5_is (some (mNx B)) (some (2 * i)) (ovs B (c :: T) z) = some (b2i (wd m.r code), ovs B (c :: T) z) := by
  obtain ⟨v, e1, e2, -⟩ := D_is (b' := B) (n := 0) (s := 0) (z := z) S.R S.K hi hcode
  rw [M_wd] at e2
  have e3 := (Prod.mk.inj (Option.some.inj e2)).1
  rw [e1, e3]
theorem X_sg (S : RsR B c T m tp to most p) (a : Int32) : fX5_isSign (some (mNx B)) a (ovs B (c :: T) z) = some (b2i (sg m.r a), ovs B (c :: T) z) := by
  obtain ⟨v, -, e1, e2, -⟩ := D_isSign (b' := B) (n := 0) (s := 0) (z := z) S.R S.K a
  rw [M_sg] at e2
  have e3 := (Prod.mk.inj (Option.some.inj e2)).1
  rw [e1, e3]
theorem wd_kind (S : RsR B c T m tp to most p) {w : Int64} (h : wd m.r w = true) : c.i 128 = 2 := by
  have h2 := (of_decide_eq_true h).1
  rcases S.K.kd with ⟨h3, h4⟩ | ⟨h3, h4⟩ | ⟨h3, h4, -⟩ | ⟨h3, h4, -⟩ | ⟨h3, h4, -⟩
  · rw [h4] at h2; exact absurd h2 (by decide)
  · rw [h4] at h2; exact absurd h2 (by decide)
  · exact h3
  · rw [h4] at h2; exact absurd h2 (by decide)
  · rw [h4] at h2; exact absurd h2 (by decide)
theorem sg_kind (S : RsR B c T m tp to most p) {a : Int32} (h : sg m.r a = true) : c.i 128 = 4 ∧ c.i 131 = a := by
  have h5 := of_decide_eq_true h
  have h2 := h5.1
  rcases S.K.kd with ⟨h3, h4⟩ | ⟨h3, h4⟩ | ⟨h3, h4, -⟩ | ⟨h3, h4, -⟩ | ⟨h3, h4, h6⟩
  · rw [h4] at h2; exact absurd h2 (by decide)
  · rw [h4] at h2; exact absurd h2 (by decide)
  · rw [h4] at h2; exact absurd h2 (by decide)
  · rw [h4] at h2; exact absurd h2 (by decide)
  · exact ⟨h3, h6.trans h5.2⟩
theorem rd_iv5 {α : Type} {w : Option α} (h : c.t = 5) : iv (ovs B (c :: T) z) (some (mNx B)) [5] w = w :=
  o_iv (B := B) (L := c :: T) (i := 0) (Nat.succ_pos _) (by show [5].contains c.t = true; rw [h]; rfl)
theorem rd_iv13 {α : Type} {w : Option α} (h : c.t = 13) : iv (ovs B (c :: T) z) (some (mNx B)) [13] w = w :=
  o_iv (B := B) (L := c :: T) (i := 0) (Nat.succ_pos _) (by show [13].contains c.t = true; rw [h]; rfl)
theorem X_w0 (S : RsR B c T m tp to most p) : fX5_is (some (mNx B)) (some 0) (ovs B (c :: T) z) = some (b2i (wd m.r 24948), ovs B (c :: T) z) := X_wd S (i := 0) (by decide) cd_0
theorem X_w1 (S : RsR B c T m tp to most p) : fX5_is (some (mNx B)) (some 2) (ovs B (c :: T) z) = some (b2i (wd m.r 7364985), ovs B (c :: T) z) := X_wd S (i := 1) (by decide) cd_1
theorem X_w2 (S : RsR B c T m tp to most p) : fX5_is (some (mNx B)) (some 4) (ovs B (c :: T) z) = some (b2i (wd m.r 1751741299), ovs B (c :: T) z) := X_wd S (i := 2) (by decide) cd_2
theorem X_w3 (S : RsR B c T m tp to most p) : fX5_is (some (mNx B)) (some 6) (ovs B (c :: T) z) = some (b2i (wd m.r 1718773093), ovs B (c :: T) z) := X_wd S (i := 3) (by decide) cd_3
theorem X_w4 (S : RsR B c T m tp to most p) : fX5_is (some (mNx B)) (some 8) (ovs B (c :: T) z) = some (b2i (wd m.r 495874305132), ovs B (c :: T) z) := X_wd S (i := 4) (by decide) cd_4
theorem X_w5 (S : RsR B c T m tp to most p) : fX5_is (some (mNx B)) (some 10) (ovs B (c :: T) z) = some (b2i (wd m.r 7499639), ovs B (c :: T) z) := X_wd S (i := 5) (by decide) cd_5
theorem X_w6 (S : RsR B c T m tp to most p) : fX5_is (some (mNx B)) (some 12) (ovs B (c :: T) z) = some (b2i (wd m.r 30064), ovs B (c :: T) z) := X_wd S (i := 6) (by decide) cd_6
theorem X_w7 (S : RsR B c T m tp to most p) : fX5_is (some (mNx B)) (some 14) (ovs B (c :: T) z) = some (b2i (wd m.r 1685026670), ovs B (c :: T) z) := X_wd S (i := 7) (by decide) cd_7
theorem X_w8 (S : RsR B c T m tp to most p) : fX5_is (some (mNx B)) (some 16) (ovs B (c :: T) z) = some (b2i (wd m.r 482955846501), ovs B (c :: T) z) := X_wd S (i := 8) (by decide) cd_8
theorem X_w9 (S : RsR B c T m tp to most p) : fX5_is (some (mNx B)) (some 18) (ovs B (c :: T) z) = some (b2i (wd m.r 119182682645875), ovs B (c :: T) z) := X_wd S (i := 9) (by decide) cd_9
theorem X_w10 (S : RsR B c T m tp to most p) : fX5_is (some (mNx B)) (some 20) (ovs B (c :: T) z) = some (b2i (wd m.r 426836652665), ovs B (c :: T) z) := X_wd S (i := 10) (by decide) cd_10
theorem X_w11 (S : RsR B c T m tp to most p) : fX5_is (some (mNx B)) (some 22) (ovs B (c :: T) z) = some (b2i (wd m.r 1885432164), ovs B (c :: T) z) := X_wd S (i := 11) (by decide) cd_11
theorem X_w12 (S : RsR B c T m tp to most p) : fX5_is (some (mNx B)) (some 24) (ovs B (c :: T) z) = some (b2i (wd m.r 1919907699), ovs B (c :: T) z) := X_wd S (i := 12) (by decide) cd_12
theorem X_w13 (S : RsR B c T m tp to most p) : fX5_is (some (mNx B)) (some 26) (ovs B (c :: T) z) = some (b2i (wd m.r 28530), ovs B (c :: T) z) := X_wd S (i := 13) (by decide) cd_13
theorem X_w14 (S : RsR B c T m tp to most p) : fX5_is (some (mNx B)) (some 28) (ovs B (c :: T) z) = some (b2i (wd m.r 6385252), ovs B (c :: T) z) := X_wd S (i := 14) (by decide) cd_14
theorem X_w15 (S : RsR B c T m tp to most p) : fX5_is (some (mNx B)) (some 30) (ovs B (c :: T) z) = some (b2i (wd m.r 1852137842), ovs B (c :: T) z) := X_wd S (i := 15) (by decide) cd_15
theorem X_w16 (S : RsR B c T m tp to most p) : fX5_is (some (mNx B)) (some 32) (ovs B (c :: T) z) = some (b2i (wd m.r 418363302244), ovs B (c :: T) z) := X_wd S (i := 16) (by decide) cd_16
theorem X_w17 (S : RsR B c T m tp to most p) : fX5_is (some (mNx B)) (some 34) (ovs B (c :: T) z) = some (b2i (wd m.r 108187867505765), ovs B (c :: T) z) := X_wd S (i := 17) (by decide) cd_17
theorem X_w18 (S : RsR B c T m tp to most p) : fX5_is (some (mNx B)) (some 36) (ovs B (c :: T) z) = some (b2i (wd m.r 108187682958948), ovs B (c :: T) z) := X_wd S (i := 18) (by decide) cd_18
theorem X_w19 (S : RsR B c T m tp to most p) : fX5_is (some (mNx B)) (some 38) (ovs B (c :: T) z) = some (b2i (wd m.r 1936024942), ovs B (c :: T) z) := X_wd S (i := 19) (by decide) cd_19
theorem X_w20 (S : RsR B c T m tp to most p) : fX5_is (some (mNx B)) (some 40) (ovs B (c :: T) z) = some (b2i (wd m.r 448546567013), ovs B (c :: T) z) := X_wd S (i := 20) (by decide) cd_20
theorem X_w21 (S : RsR B c T m tp to most p) : fX5_is (some (mNx B)) (some 42) (ovs B (c :: T) z) = some (b2i (wd m.r 7237492), ovs B (c :: T) z) := X_wd S (i := 21) (by decide) cd_21
theorem X_w22 (S : RsR B c T m tp to most p) : fX5_is (some (mNx B)) (some 44) (ovs B (c :: T) z) = some (b2i (wd m.r 1936026726), ovs B (c :: T) z) := X_wd S (i := 22) (by decide) cd_22
theorem X_w23 (S : RsR B c T m tp to most p) : fX5_is (some (mNx B)) (some 46) (ovs B (c :: T) z) = some (b2i (wd m.r 1751477348), ovs B (c :: T) z) := X_wd S (i := 23) (by decide) cd_23
/-- which atom of a condition is at hand: 0..5 an area, 6 self, 7 held, 8 none -/
def atN (r : MR) : Nat := if wd r 1852137842 = true then 0 else if wd r 418363302244 = true then 1 else if wd r 108187867505765 = true then 2 else if wd r 108187682958948 = true then 3 else if wd r 1936024942 = true then 4 else if wd r 448546567013 = true then 5 else if wd r 1936026726 = true then 6 else if wd r 1751477348 = true then 7 else 8
theorem X_area (S : RsR B c T m tp to most p) (h5 : c.t = 5) : fX6_areaAtHand (some (mNx B)) (ovs B (c :: T) z) = some (if atN m.r < 6 then n2 (atN m.r) else -1, ovs B (c :: T) z) := by
  unfold fX6_areaAtHand atN
  simp -implicitDefEqProofs only [Option.bind_some, bd_some, b2i_0, Bool.true_eq_false, Bool.false_eq_true, eq_self, if_true, if_false, not_true_eq_false, not_false_eq_true, rd_iv5 h5, X_w15 S, X_w16 S, X_w17 S, X_w18 S, X_w19 S, X_w20 S]
  rcases Bool.eq_false_or_eq_true (wd m.r 1852137842) with e0 | e0
  · simp -implicitDefEqProofs only [Option.bind_some, bd_some, b2i_0, Bool.true_eq_false, Bool.false_eq_true, eq_self, if_true, if_false, not_true_eq_false, not_false_eq_true, e0]; rfl
  · rcases Bool.eq_false_or_eq_true (wd m.r 418363302244) with e1 | e1
    · simp -implicitDefEqProofs only [Option.bind_some, bd_some, b2i_0, Bool.true_eq_false, Bool.false_eq_true, eq_self, if_true, if_false, not_true_eq_false, not_false_eq_true, e0, e1]; rfl
    · rcases Bool.eq_false_or_eq_true (wd m.r 108187867505765) with e2 | e2
      · simp -implicitDefEqProofs only [Option.bind_some, bd_some, b2i_0, Bool.true_eq_false, Bool.false_eq_true, eq_self, if_true, if_false, not_true_eq_false, not_false_eq_true, e0, e1, e2]; rfl
      · rcases Bool.eq_false_or_eq_true (wd m.r 108187682958948) with e3 | e3
        · simp -implicitDefEqProofs only [Option.bind_some, bd_some, b2i_0, Bool.true_eq_false, Bool.false_eq_true, eq_self, if_true, if_false, not_true_eq_false, not_false_eq_true, e0, e1, e2, e3]; rfl
        · rcases Bool.eq_false_or_eq_true (wd m.r 1936024942) with e4 | e4
          · simp -implicitDefEqProofs only [Option.bind_some, bd_some, b2i_0, Bool.true_eq_false, Bool.false_eq_true, eq_self, if_true, if_false, not_true_eq_false, not_false_eq_true, e0, e1, e2, e3, e4]; rfl
          · rcases Bool.eq_false_or_eq_true (wd m.r 448546567013) with e5 | e5
            · simp -implicitDefEqProofs only [Option.bind_some, bd_some, b2i_0, Bool.true_eq_false, Bool.false_eq_true, eq_self, if_true, if_false, not_true_eq_false, not_false_eq_true, e0, e1, e2, e3, e4, e5]; rfl
            · rcases Bool.eq_false_or_eq_true (wd m.r 1936026726) with e6 | e6
              · simp -implicitDefEqProofs only [Option.bind_some, bd_some, b2i_0, Bool.true_eq_false, Bool.false_eq_true, eq_self, if_true, if_false, not_true_eq_false, not_false_eq_true, e0, e1, e2, e3, e4, e5, e6]; rfl
              · rcases Bool.eq_false_or_eq_true (wd m.r 1751477348) with e7 | e7
                · simp -implicitDefEqProofs only [Option.bind_some, bd_some, b2i_0, Bool.true_eq_false, Bool.false_eq_true, eq_self, if_true, if_false, not_true_eq_false, not_false_eq_true, e0, e1, e2, e3, e4, e5, e6, e7]; rfl
                · simp -implicitDefEqProofs only [Option.bind_some, bd_some, b2i_0, Bool.true_eq_false, Bool.false_eq_true, eq_self, if_true, if_false, not_true_eq_false, not_false_eq_true, e0, e1, e2, e3, e4, e5, e6, e7]; rfl
theorem M_atom : fX4_atom (some 106) (mkM b' n s m) = some (if atN m.r < 8 then n2 (atN m.r) else -1, mkM b' n s m) := by
  unfold fX4_atom atN
  simp -implicitDefEqProofs only [Option.bind_some, bd_some, b2i_0, Bool.true_eq_false, Bool.false_eq_true, eq_self, if_true, if_false, not_true_eq_false, not_false_eq_true, ivM, M_wd]
  rcases Bool.eq_false_or_eq_true (wd m.r 1852137842) with e0 | e0
  · simp -implicitDefEqProofs only [Option.bind_some, bd_some, b2i_0, Bool.true_eq_false, Bool.false_eq_true, eq_self, if_true, if_false, not_true_eq_false, not_false_eq_true, e0]; rfl
  · rcases Bool.eq_false_or_eq_true (wd m.r 418363302244) with e1 | e1
    · simp -implicitDefEqProofs only [Option.bind_some, bd_some, b2i_0, Bool.true_eq_false, Bool.false_eq_true, eq_self, if_true, if_false, not_true_eq_false, not_false_eq_true, e0, e1]; rfl
    · rcases Bool.eq_false_or_eq_true (wd m.r 108187867505765) with e2 | e2
      · simp -implicitDefEqProofs only [Option.bind_some, bd_some, b2i_0, Bool.true_eq_false, Bool.false_eq_true, eq_self, if_true, if_false, not_true_eq_false, not_false_eq_true, e0, e1, e2]; rfl
      · rcases Bool.eq_false_or_eq_true (wd m.r 108187682958948) with e3 | e3
        · simp -implicitDefEqProofs only [Option.bind_some, bd_some, b2i_0, Bool.true_eq_false, Bool.false_eq_true, eq_self, if_true, if_false, not_true_eq_false, not_false_eq_true, e0, e1, e2, e3]; rfl
        · rcases Bool.eq_false_or_eq_true (wd m.r 1936024942) with e4 | e4
          · simp -implicitDefEqProofs only [Option.bind_some, bd_some, b2i_0, Bool.true_eq_false, Bool.false_eq_true, eq_self, if_true, if_false, not_true_eq_false, not_false_eq_true, e0, e1, e2, e3, e4]; rfl
          · rcases Bool.eq_false_or_eq_true (wd m.r 448546567013) with e5 | e5
            · simp -implicitDefEqProofs only [Option.bind_some, bd_some, b2i_0, Bool.true_eq_false, Bool.false_eq_true, eq_self, if_true, if_false, not_true_eq_false, not_false_eq_true, e0, e1, e2, e3, e4, e5]; rfl
            · rcases Bool.eq_false_or_eq_true (wd m.r 1936026726) with e6 | e6
              · simp -implicitDefEqProofs only [Option.bind_some, bd_some, b2i_0, Bool.true_eq_false, Bool.false_eq_true, eq_self, if_true, if_false, not_true_eq_false, not_false_eq_true, e0, e1, e2, e3, e4, e5, e6]; rfl
              · rcases Bool.eq_false_or_eq_true (wd m.r 1751477348) with e7 | e7
                · simp -implicitDefEqProofs only [Option.bind_some, bd_some, b2i_0, Bool.true_eq_false, Bool.false_eq_true, eq_self, if_true, if_false, not_true_eq_false, not_false_eq_true, e0, e1, e2, e3, e4, e5, e6, e7]; rfl
                · simp -implicitDefEqProofs only [Option.bind_some, bd_some, b2i_0, Bool.true_eq_false, Bool.false_eq_true, eq_self, if_true, if_false, not_true_eq_false, not_false_eq_true, e0, e1, e2, e3, e4, e5, e6, e7]; rfl
theorem atN_8 {r : MR} (h : ∀ w, w = 1852137842 ∨ w = 418363302244 ∨ w = 108187867505765 ∨ w = 108187682958948 ∨ w = 1936024942 ∨ w = 448546567013 ∨ w = 1936026726 ∨ w = 1751477348 → wd r w = false) : atN r = 8 := by
  unfold atN
  rw [if_neg (by rw [h _ (Or.inl rfl)]; decide), if_neg (by rw [h _ (Or.inr (Or.inl rfl))]; decide), if_neg (by rw [h _ (Or.inr (Or.inr (Or.inl rfl)))]; decide), if_neg (by rw [h _ (Or.inr (Or.inr (Or.inr (Or.inl rfl))))]; decide), if_neg (by rw [h _ (Or.inr (Or.inr (Or.inr (Or.inr (Or.inl rfl)))))]; decide), if_neg (by rw [h _ (Or.inr (Or.inr (Or.inr (Or.inr (Or.inr (Or.inl rfl))))))]; decide), if_neg (by rw [h _ (Or.inr (Or.inr (Or.inr (Or.inr (Or.inr (Or.inr (Or.inl rfl)))))))]; decide), if_neg (by rw [h _ (Or.inr (Or.inr (Or.inr (Or.inr (Or.inr (Or.inr (Or.inr (rfl))))))))]; decide)]
theorem atN_sg {r : MR} {a : Int32} (h : sg r a = true) : atN r = 8 := atN_8 (fun w _ => sg_wd h w)
theorem atN_not {r : MR} (h : wd r 7237492 = true) : atN r = 8 := atN_8 (fun w hw => by
  rw [wd_eq h]
  rcases hw with rfl | rfl | rfl | rfl | rfl | rfl | rfl | rfl <;> decide)
theorem atN_self (r : MR) : wd r 1936026726 = decide (atN r = 6) := by
  unfold atN
  rcases Bool.eq_false_or_eq_true (wd r 1852137842) with e0 | e0
  · rw [if_pos e0, wd_eq e0]; decide
  · rcases Bool.eq_false_or_eq_true (wd r 418363302244) with e1 | e1
    · rw [if_neg (by rw [e0]; decide), if_pos e1, wd_eq e1]; decide
    · rcases Bool.eq_false_or_eq_true (wd r 108187867505765) with e2 | e2
      · rw [if_neg (by rw [e0]; decide), if_neg (by rw [e1]; decide), if_pos e2, wd_eq e2]; decide
      · rcases Bool.eq_false_or_eq_true (wd r 108187682958948) with e3 | e3
        · rw [if_neg (by rw [e0]; decide), if_neg (by rw [e1]; decide), if_neg (by rw [e2]; decide), if_pos e3, wd_eq e3]; decide
        · rcases Bool.eq_false_or_eq_true (wd r 1936024942) with e4 | e4
          · rw [if_neg (by rw [e0]; decide), if_neg (by rw [e1]; decide), if_neg (by rw [e2]; decide), if_neg (by rw [e3]; decide), if_pos e4, wd_eq e4]; decide
          · rcases Bool.eq_false_or_eq_true (wd r 448546567013) with e5 | e5
            · rw [if_neg (by rw [e0]; decide), if_neg (by rw [e1]; decide), if_neg (by rw [e2]; decide), if_neg (by rw [e3]; decide), if_neg (by rw [e4]; decide), if_pos e5, wd_eq e5]; decide
            · rcases Bool.eq_false_or_eq_true (wd r 1936026726) with e6 | e6
              · rw [if_neg (by rw [e0]; decide), if_neg (by rw [e1]; decide), if_neg (by rw [e2]; decide), if_neg (by rw [e3]; decide), if_neg (by rw [e4]; decide), if_neg (by rw [e5]; decide), if_pos e6, wd_eq e6]; decide
              · rcases Bool.eq_false_or_eq_true (wd r 1751477348) with e7 | e7
                · rw [if_neg (by rw [e0]; decide), if_neg (by rw [e1]; decide), if_neg (by rw [e2]; decide), if_neg (by rw [e3]; decide), if_neg (by rw [e4]; decide), if_neg (by rw [e5]; decide), if_neg (by rw [e6]; decide), if_pos e7, wd_eq e7]; decide
                · rw [if_neg (by rw [e0]; decide), if_neg (by rw [e1]; decide), if_neg (by rw [e2]; decide), if_neg (by rw [e3]; decide), if_neg (by rw [e4]; decide), if_neg (by rw [e5]; decide), if_neg (by rw [e6]; decide), if_neg (by rw [e7]; decide), e6]; rfl
theorem atN_held (r : MR) : wd r 1751477348 = decide (atN r = 7) := by
  unfold atN
  rcases Bool.eq_false_or_eq_true (wd r 1852137842) with e0 | e0
  · rw [if_pos e0, wd_eq e0]; decide
  · rcases Bool.eq_false_or_eq_true (wd r 418363302244) with e1 | e1
    · rw [if_neg (by rw [e0]; decide), if_pos e1, wd_eq e1]; decide
    · rcases Bool.eq_false_or_eq_true (wd r 108187867505765) with e2 | e2
      · rw [if_neg (by rw [e0]; decide), if_neg (by rw [e1]; decide), if_pos e2, wd_eq e2]; decide
      · rcases Bool.eq_false_or_eq_true (wd r 108187682958948) with e3 | e3
        · rw [if_neg (by rw [e0]; decide), if_neg (by rw [e1]; decide), if_neg (by rw [e2]; decide), if_pos e3, wd_eq e3]; decide
        · rcases Bool.eq_false_or_eq_true (wd r 1936024942) with e4 | e4
          · rw [if_neg (by rw [e0]; decide), if_neg (by rw [e1]; decide), if_neg (by rw [e2]; decide), if_neg (by rw [e3]; decide), if_pos e4, wd_eq e4]; decide
          · rcases Bool.eq_false_or_eq_true (wd r 448546567013) with e5 | e5
            · rw [if_neg (by rw [e0]; decide), if_neg (by rw [e1]; decide), if_neg (by rw [e2]; decide), if_neg (by rw [e3]; decide), if_neg (by rw [e4]; decide), if_pos e5, wd_eq e5]; decide
            · rcases Bool.eq_false_or_eq_true (wd r 1936026726) with e6 | e6
              · rw [if_neg (by rw [e0]; decide), if_neg (by rw [e1]; decide), if_neg (by rw [e2]; decide), if_neg (by rw [e3]; decide), if_neg (by rw [e4]; decide), if_neg (by rw [e5]; decide), if_pos e6, wd_eq e6]; decide
              · rcases Bool.eq_false_or_eq_true (wd r 1751477348) with e7 | e7
                · rw [if_neg (by rw [e0]; decide), if_neg (by rw [e1]; decide), if_neg (by rw [e2]; decide), if_neg (by rw [e3]; decide), if_neg (by rw [e4]; decide), if_neg (by rw [e5]; decide), if_neg (by rw [e6]; decide), if_pos e7, wd_eq e7]; decide
                · rw [if_neg (by rw [e0]; decide), if_neg (by rw [e1]; decide), if_neg (by rw [e2]; decide), if_neg (by rw [e3]; decide), if_neg (by rw [e4]; decide), if_neg (by rw [e5]; decide), if_neg (by rw [e6]; decide), if_neg (by rw [e7]; decide), e7]; rfl
theorem atN_wd {r : MR} (h : atN r < 8) : r.token = 1 := by
  by_cases e : r.token = 1
  · exact e
  · have : atN r = 8 := atN_8 (fun w _ => by unfold wd; exact decide_eq_false (fun c => e c.1))
    omega
theorem atN_no {r : MR} (h : atN r < 8) : wd r 7237492 = false ∧ ∀ a, sg r a = false := by
  refine ⟨?_, fun a => ?_⟩
  · rcases Bool.eq_false_or_eq_true (wd r 7237492) with e | e
    · have := atN_not e; omega
    · exact e
  · rcases Bool.eq_false_or_eq_true (sg r a) with e | e
    · have := atN_sg e; omega
    · exact e
end Bools
