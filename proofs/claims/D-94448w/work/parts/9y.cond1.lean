set_option linter.unusedVariables false
set_option linter.unusedSimpArgs false
set_option maxRecDepth 100000
/-! ===== conditions in both: the state, and, or ===== -/
def Kc (c d : Cl) : Prop := d.t = c.t ∧ d.l = c.l ∧ d.j = c.j ∧ (∀ k, (k < 127 ∨ 131 < k) → k ≠ 137 → k ≠ 138 → d.i k = c.i k) ∧ ∀ k, k ≠ 132 → d.a k = c.a k
theorem Kp.c {c d : Cl} (h : Kp c d) : Kc c d := ⟨h.1, h.2.1, h.2.2.1, fun k hk _ _ => h.2.2.2.1 k hk, h.2.2.2.2⟩
theorem Kc.refl (c : Cl) : Kc c c := ⟨rfl, rfl, rfl, fun _ _ _ _ => rfl, fun _ _ => rfl⟩
theorem Kc.trans {c d e : Cl} (h : Kc c d) (k : Kc d e) : Kc c e := ⟨k.1.trans h.1, k.2.1.trans h.2.1, k.2.2.1.trans h.2.2.1, fun j hj h7 h8 => (k.2.2.2.1 j hj h7 h8).trans (h.2.2.2.1 j hj h7 h8), fun j hj => (k.2.2.2.2 j hj).trans (h.2.2.2.2 j hj)⟩
theorem Kc.s7 {c d : Cl} (h : Kc c d) (v : Int32) : Kc c (d.sI 137 v) := ⟨h.1, h.2.1, h.2.2.1, fun k hk h7 h8 => (i_ne d v h7).trans (h.2.2.2.1 k hk h7 h8), h.2.2.2.2⟩
theorem Kc.s8 {c d : Cl} (h : Kc c d) (v : Int32) : Kc c (d.sI 138 v) := ⟨h.1, h.2.1, h.2.2.1, fun k hk h7 h8 => (i_ne d v h8).trans (h.2.2.2.1 k hk h7 h8), h.2.2.2.2⟩
section Rd5
variable {B : Mem} {c : Cl} {T : List Cl} {z f : Nat}
theorem rd5_get (h : c.t = 5) (hf : okI 5 f = true) : gI (ovs B (c :: T) z) (some (mNx B)) f = some (c.i f) :=
  o_gI (B := B) (L := c :: T) (i := 0) (decide_eq_true (Nat.succ_pos _)) (by show okI c.t f = true; rw [h]; exact hf)
theorem rd5_put (hB : 64 ≤ mNx B) (h : c.t = 5) (hf : okPI 5 f = true) {v : Int32} : pI (ovs B (c :: T) z) (some (mNx B)) f v = some (ovs B (c.sI f v :: T) z) :=
  o_pI (B := B) (L := c :: T) (i := 0) hB (decide_eq_true (Nat.succ_pos _)) (by show okPI c.t f = true; rw [h]; exact hf)
theorem rd5_gA (h : c.t = 5) (hf : okA 5 f = true) : gA (ovs B (c :: T) z) (some (mNx B)) f = some (c.a f) :=
  o_gA (B := B) (L := c :: T) (i := 0) (decide_eq_true (Nat.succ_pos _)) (by show okA c.t f = true; rw [h]; exact hf)
end Rd5
def MB (b' : Mem) (n s F0 F1 : Nat) (q : MS) : Option (Int32 × Mem) := bd (bX4_one_0 F1 (some 106) (mkM b' n s q)) fun x st => if ¬ x = 0 then bX4_cond_9 (bX4_cond_0 F0) hcFuel (some 106) st else some (0, st)
def MCx (b' : Mem) (n s F0 F9 : Nat) (q : MS) : Option (Int32 × Mem) := bX4_cond_9 (bX4_cond_0 F0) F9 (some 106) (mkM b' n s q)
theorem MB_of (b' : Mem) (n s F0 : Nat) (q : MS) : bX4_cond_0 (F0 + 1) (some 106) (mkM b' n s q) = MB b' n s F0 hcFuel q := by
  show bX4_cond_0B (bX4_cond_0 F0) _ _ = _
  unfold bX4_cond_0B fX4_one MB
  rw [ivM]
abbrev CSt (B : Mem) (m : MS) (tp : Nat → Int32) (to most A Z : Nat) (c : Cl) (T : List Cl) (z : Nat) (r : MR) (h : MH) (p : Nat) (Q : List Nat) (l : List Int32) (o : Nat) : Prop := (RsR B c T (m.sRH r h) tp to most p) ∧ (Bg A Z T z (nu c to p) p) ∧ (c.t = 5) ∧ (c.i 137 = n2 o) ∧ (o ≤ 20) ∧ (PS h Q l o)
theorem CSt.S {B : Mem} {m : MS} {tp : Nat → Int32} {to most A Z : Nat} {c : Cl} {T : List Cl} {z : Nat} {r : MR} {h : MH} {p : Nat} {Q : List Nat} {l : List Int32} {o : Nat} (self : CSt B m tp to most A Z c T z r h p Q l o) : RsR B c T (m.sRH r h) tp to most p := self.1
theorem CSt.g {B : Mem} {m : MS} {tp : Nat → Int32} {to most A Z : Nat} {c : Cl} {T : List Cl} {z : Nat} {r : MR} {h : MH} {p : Nat} {Q : List Nat} {l : List Int32} {o : Nat} (self : CSt B m tp to most A Z c T z r h p Q l o) : Bg A Z T z (nu c to p) p := self.2.1
theorem CSt.t5 {B : Mem} {m : MS} {tp : Nat → Int32} {to most A Z : Nat} {c : Cl} {T : List Cl} {z : Nat} {r : MR} {h : MH} {p : Nat} {Q : List Nat} {l : List Int32} {o : Nat} (self : CSt B m tp to most A Z c T z r h p Q l o) : c.t = 5 := self.2.2.1
theorem CSt.x7 {B : Mem} {m : MS} {tp : Nat → Int32} {to most A Z : Nat} {c : Cl} {T : List Cl} {z : Nat} {r : MR} {h : MH} {p : Nat} {Q : List Nat} {l : List Int32} {o : Nat} (self : CSt B m tp to most A Z c T z r h p Q l o) : c.i 137 = n2 o := self.2.2.2.1
theorem CSt.o20 {B : Mem} {m : MS} {tp : Nat → Int32} {to most A Z : Nat} {c : Cl} {T : List Cl} {z : Nat} {r : MR} {h : MH} {p : Nat} {Q : List Nat} {l : List Int32} {o : Nat} (self : CSt B m tp to most A Z c T z r h p Q l o) : o ≤ 20 := self.2.2.2.2.1
theorem CSt.P {B : Mem} {m : MS} {tp : Nat → Int32} {to most A Z : Nat} {c : Cl} {T : List Cl} {z : Nat} {r : MR} {h : MH} {p : Nat} {Q : List Nat} {l : List Int32} {o : Nat} (self : CSt B m tp to most A Z c T z r h p Q l o) : PS h Q l o := self.2.2.2.2.2
/-- a condition was read: what the model has left to do -/
def CdG (B : Mem) (m : MS) (tp : Nat → Int32) (to most A Z : Nat) (b' : Mem) (n s : Nat) (c : Cl) (T : List Cl) (h : MH) (p v o : Nat) (D : Cd → List Nat → List Int32 → MR → Prop) (rx : Option ((Rf ⊕ Nat) × Mem)) (rm : Option (Int32 × Mem)) : Prop :=
  ∃ e c' T' z' r' h' q R Q' l' o' cnd F0 F9, rx = some (.inl (some (mNx B + (1 + e))), ovs B (c' :: T') z') ∧ rm = MCx b' n s F0 F9 (m.sRH r' h') ∧ CSt B m tp to most A Z c' T' z' r' h' q Q' l' o' ∧ T' = T ++ R ∧ CondT (mNx B) T' cnd e ∧ cwt cnd + o ≤ o' ∧ Kc c c' ∧ c'.i 138 = c.i 138 ∧ Kh h h' ∧ p ≤ q ∧ nu c' to q < v ∧ nu c' to q < F0 ∧ nu c' to q < F9 ∧ D cnd Q' l' r'
def DOne (Q : List Nat) (l : List Int32) : Cd → List Nat → List Int32 → MR → Prop := fun cnd Q' l' _ => Q' = wdR 3 Q ∧ ∃ k, Post cnd k ∧ l' = l ++ k ++ (wdP 3 Q).map n2
def DAnd (Q : List Nat) (l : List Int32) : Cd → List Nat → List Int32 → MR → Prop := fun cnd Q' l' r' => ∃ u k, (u = [] ∨ u = [4]) ∧ Q' = u ++ Q ∧ l' = l ++ k ∧ Post cnd (k ++ u.map n2) ∧ wd r' 6385252 = false
def DOr (Q : List Nat) (l : List Int32) : Cd → List Nat → List Int32 → MR → Prop := fun cnd Q' l' r' => ∃ u k, opL u ∧ u.length ≤ 2 ∧ Q' = u ++ Q ∧ l' = l ++ k ∧ Post cnd (k ++ u.map n2) ∧ wd r' 6385252 = false ∧ wd r' 28530 = false
def COne (B : Mem) (m : MS) (tp : Nat → Int32) (to most A Z : Nat) (b' : Mem) (n s d : Nat) : Prop :=
  ∀ (c : Cl) (T : List Cl) (z : Nat) (r : MR) (h : MH) (p : Nat) (Q : List Nat) (l : List Int32) (o F0 F1 : Nat), CSt B m tp to most A Z c T z r h p Q l o → c.i 138 = n2 (opS Q) → opS Q ≤ 8 → Q.length ≤ 3 * opS Q + 2 → l.length + Q.length ≤ 2 * o → 8 - opS Q < d → nu c to p < F0 → nu c to p < F1 →
    CdG B m tp to most A Z b' n s c T h p (nu c to p) o (DOne Q l) (fX6_oneR d (some (mNx B)) (ovs B (c :: T) z)) (MB b' n s F0 F1 (m.sRH r h)) ∨ Bad B m A Z to b' n s (fX6_oneR d (some (mNx B)) (ovs B (c :: T) z)) (MB b' n s F0 F1 (m.sRH r h))
def CAnd (B : Mem) (m : MS) (tp : Nat → Int32) (to most A Z : Nat) (b' : Mem) (n s d : Nat) : Prop :=
  ∀ (c : Cl) (T : List Cl) (z : Nat) (r : MR) (h : MH) (p : Nat) (Q : List Nat) (l : List Int32) (o F0 F1 : Nat), CSt B m tp to most A Z c T z r h p Q l o → c.i 138 = n2 (opS Q) → opS Q ≤ 8 → (Q = [] ∨ ∃ x Q', Q = x :: Q' ∧ (x = 5 ∨ x = 6)) → Q.length ≤ 3 * opS Q + 1 → l.length + Q.length ≤ 2 * o → 8 - opS Q < d → nu c to p < F0 → nu c to p < F1 →
    CdG B m tp to most A Z b' n s c T h p (nu c to p) o (DAnd Q l) (fX6_and (fX6_oneR d) (some (mNx B)) (ovs B (c :: T) z)) (MB b' n s F0 F1 (m.sRH r h)) ∨ Bad B m A Z to b' n s (fX6_and (fX6_oneR d) (some (mNx B)) (ovs B (c :: T) z)) (MB b' n s F0 F1 (m.sRH r h))
def COr (B : Mem) (m : MS) (tp : Nat → Int32) (to most A Z : Nat) (b' : Mem) (n s d : Nat) : Prop :=
  ∀ (c : Cl) (T : List Cl) (z : Nat) (r : MR) (h : MH) (p : Nat) (Q : List Nat) (l : List Int32) (o F0 F1 : Nat), CSt B m tp to most A Z c T z r h p Q l o → c.i 138 = n2 (opS Q) → opS Q ≤ 8 → (Q = [] ∨ ∃ Q', Q = 6 :: Q') → Q.length ≤ 3 * opS Q → l.length + Q.length ≤ 2 * o → 8 - opS Q < d → nu c to p < F0 → nu c to p < F1 →
    CdG B m tp to most A Z b' n s c T h p (nu c to p) o (DOr Q l) (fX6_or (fX6_oneR d) (some (mNx B)) (ovs B (c :: T) z)) (MB b' n s F0 F1 (m.sRH r h)) ∨ Bad B m A Z to b' n s (fX6_or (fX6_oneR d) (some (mNx B)) (ovs B (c :: T) z)) (MB b' n s F0 F1 (m.sRH r h))
theorem and_wd {Q u : List Nat} (hq : Q = [] ∨ ∃ x Q', Q = x :: Q' ∧ (x = 5 ∨ x = 6)) (hu : u = [] ∨ u = [4]) : wdR 2 (u ++ Q) = Q ∧ wdP 2 (u ++ Q) = u ∧ wdR 3 Q = Q ∧ wdP 3 Q = [] := by
  rcases hq with rfl | ⟨x, Q', rfl, hx⟩
  · rcases hu with rfl | rfl
    · exact ⟨rfl, rfl, rfl, rfl⟩
    · exact ⟨by simp [wdR, bnd], by simp [wdP, bnd], rfl, rfl⟩
  · have c2 : x = 6 ∨ bnd x < 2 := by rcases hx with rfl | rfl <;> decide
    have c3 : x = 6 ∨ bnd x < 3 := by rcases hx with rfl | rfl <;> decide
    have c4 : ¬ ((4 : Nat) = 6 ∨ bnd 4 < 2) := by decide
    rcases hu with rfl | rfl
    · simp -implicitDefEqProofs only [List.nil_append, wdR, wdP, if_pos c2, if_pos c3]; exact ⟨trivial, trivial, trivial, trivial⟩
    · simp -implicitDefEqProofs only [List.cons_append, List.nil_append, wdR, wdP, if_pos c2, if_pos c3, if_neg c4]; exact ⟨trivial, trivial, trivial, trivial⟩
theorem or_wd {Q u : List Nat} (hq : Q = [] ∨ ∃ Q', Q = 6 :: Q') (hu : opL u) : wdR 1 (u ++ Q) = Q ∧ wdP 1 (u ++ Q) = u := by
  rcases hq with rfl | ⟨Q', rfl⟩
  · rw [List.append_nil]; exact ⟨opL_wdR0 hu, opL_wdP0 hu⟩
  · exact ⟨opL_wdR hu, opL_wdP hu⟩
theorem opS_op : ∀ {u : List Nat} {Q : List Nat}, opL u → opS (u ++ Q) = opS Q
  | [], Q, _ => rfl
  | x :: u, Q, h => by
    have hx := h x (List.mem_cons_self ..)
    simp -implicitDefEqProofs only [List.cons_append, opS, if_neg (show ¬ (x = 3 ∨ x = 6) by omega), Nat.zero_add]
    exact opS_op (fun y hy => h y (List.mem_cons_of_mem _ hy))
theorem opL_and {u : List Nat} (hu : u = [] ∨ u = [4]) : opL u := by
  rcases hu with rfl | rfl
  · intro x hx; cases hx
  · intro x hx; exact Or.inl (List.mem_singleton.mp hx)
section AndLoop
variable {B b' : Mem} {tp : Nat → Int32} {to most n s A Z d : Nat} {m : MS}
theorem L_and (IH : COne B m tp to most A Z b' n s d) {c0 : Cl} {T0 : List Cl} {h0 : MH} {p0 o0 v0 : Nat} {Q : List Nat} {l : List Int32} (hQ8 : opS Q ≤ 8) (hq : Q = [] ∨ ∃ x Q', Q = x :: Q' ∧ (x = 5 ∨ x = 6)) (hQl : Q.length ≤ 3 * opS Q + 1) (hd : 8 - opS Q < d) : ∀ (j F F0 F9 : Nat) (c : Cl) (T : List Cl) (z : Nat) (r : MR) (h : MH) (p : Nat) (o e : Nat) (u : List Nat) (k : List Int32) (cnd : Cd) (R : List Cl),
    nu c to p < j → nu c to p < F → nu c to p < F0 → nu c to p < F9 → CSt B m tp to most A Z c T z r h p (u ++ Q) (l ++ k) o → (u = [] ∨ u = [4]) → Post cnd (k ++ u.map n2) → CondT (mNx B) T cnd e → c.i 138 = n2 (opS Q) → (l ++ k).length + (u ++ Q).length + 1 ≤ 2 * o → cwt cnd + o0 ≤ o → T = T0 ++ R → Kc c0 c → c.i 138 = c0.i 138 → Kh h0 h → p0 ≤ p → nu c to p < v0 →
    CdG B m tp to most A Z b' n s c0 T0 h0 p0 v0 o0 (DAnd Q l) (bX6_and_5 (fX6_oneR d) F (some (mNx B)) (some (mNx B + (1 + e))) (ovs B (c :: T) z)) (MCx b' n s F0 F9 (m.sRH r h)) ∨ Bad B m A Z to b' n s (bX6_and_5 (fX6_oneR d) F (some (mNx B)) (some (mNx B + (1 + e))) (ovs B (c :: T) z)) (MCx b' n s F0 F9 (m.sRH r h)) := by
  intro j
  induction j with
  | zero => intro F F0 F9 c T z r h p o e u k cnd R hn; exact absurd hn (Nat.not_lt_zero _)
  | succ j ih =>
    intro F F0 F9 c T z r h p o e u k cnd R hn hF hF0 hF9 C hu hP hC h138 hlen hcw hT hK hK8 hKh hp hv
    obtain ⟨F, rfl⟩ : ∃ g, F = g + 1 := ⟨F - 1, by omega⟩
    have hB : 64 ≤ mNx B := by have := C.S.R.hB; omega
    have w14 := X_w14 (z := z) C.S
    rw [sRH_r] at w14
    rcases Bool.eq_false_or_eq_true (wd r 6385252) with hw | hw
    · -- and
      obtain ⟨F9, rfl⟩ : ∃ g, F9 = g + 1 := ⟨F9 - 1, by omega⟩
      obtain ⟨F0, rfl⟩ : ∃ g, F0 = g + 1 := ⟨F0 - 1, by omega⟩
      obtain ⟨q1, q2, -, -⟩ := and_wd hq hu
      have ul : u.length ≤ 1 := by rcases hu with rfl | rfl <;> simp
      have lapp : (u ++ Q).length = u.length + Q.length := List.length_append
      obtain ⟨h1, M1, P1, K1⟩ := M_opx (b' := b') (n := n) (s := s) (F := F9) (m := m) (r := r) (kk := bX4_cond_0 (F0 + 1)) (x := 4) (v := 2) C.P (by omega) (by have := C.o20; omega) (Or.inl ⟨rfl, rfl, hw⟩)
      rw [q1, q2] at P1
      have kd2 : c.i 128 = 2 := wd_kind (w := 6385252) C.S hw
      have hv2 : ¬ (c.i 128 = 0 ∨ c.i 128 = 5) := by rw [kd2]; decide
      obtain ⟨c1, T1, z1, r1, p1, R1, x1, m1, S1, Kp1, Kr1, T1e, le1, nu1, g1⟩ := goG (b' := b') (n := n) (s := s) (C.S.hh h1) C.g hv2
      have c15 : c1.t = 5 := Kp1.1.trans C.t5
      have rm : MCx b' n s (F0 + 1) (F9 + 1) (m.sRH r h) = MB b' n s F0 hcFuel (m.sRH r1 h1) := by
        unfold MCx
        rw [M1, m1, bd_some, MB_of]
      have C1 : CSt B m tp to most A Z c1 (T1 ++ [Cl.nw 11 0]) (z1 + 2) r1 h1 p1 (4 :: Q) (l ++ k ++ u.map n2) o :=
        ⟨S1.ch (Chg.app _ _), g1.add (by rw [List.length_append]; simp -implicitDefEqProofs only [List.length_cons, List.length_nil]; omega) (by omega), c15, (Kp1.2.2.2.1 137 (by omega)).trans C.x7, C.o20, P1⟩
      have op4 : opS (4 :: Q) = opS Q := by simp [opS]
      have c18 : c1.i 138 = c.i 138 := Kp1.2.2.2.1 138 (by omega)
      have lm : (u.map n2).length = u.length := List.length_map ..
      have lk' : (l ++ k ++ u.map n2).length = (l ++ k).length + u.length := by rw [List.length_append, lm]
      have I := IH c1 (T1 ++ [Cl.nw 11 0]) (z1 + 2) r1 h1 p1 (4 :: Q) (l ++ k ++ u.map n2) o F0 hcFuel C1 (by rw [op4, c18]; exact h138) (by rw [op4]; exact hQ8) (by rw [op4, List.length_cons]; omega) (by rw [lk', List.length_cons]; omega) (by rw [op4]; exact hd) (by omega) (by have := C.S.R.to_; unfold nu hcFuel; split <;> omega)
      have rx : bX6_and_5 (fX6_oneR d) (F + 1) (some (mNx B)) (some (mNx B + (1 + e))) (ovs B (c :: T) z) = bt (fX6_oneR d (some (mNx B)) (ovs B (c1 :: (T1 ++ [Cl.nw 11 0])) (z1 + 2))) fun x24 st => bd (nn (some (mNx B + (1 + T1.length))) (fX15_init (some (mNx B + (1 + T1.length))) (some (mNx B + (1 + e))) x24 st)) fun _ st => bX6_and_5 (fX6_oneR d) F (some (mNx B)) (some (mNx B + (1 + T1.length))) st := by
        show bX6_and_5B (fX6_oneR d) (bX6_and_5 (fX6_oneR d) F) _ _ _ = _
        unfold bX6_and_5B
        simp -implicitDefEqProofs only [Option.bind_some, bd_some, b2i_0, Bool.true_eq_false, Bool.false_eq_true, eq_self, if_true, if_false, not_true_eq_false, not_false_eq_true, rd_iv5 C.t5, w14, hw, x1, tc_nO (t := 11) (by decide), nsl_11, rd_iv5 c15]
      rw [rx, rm]
      rcases I with ⟨e2, c2, T2, z2, r2, h2, p2, R2, Q2, l2, o2, cnd2, F0', F9', y1, y2, C2, y4, y5, y6, y7, y8, y9, y10, y11, y12, y13, y14, k2, y15, y16⟩ | I
      · have e4 : wdR 3 (4 :: Q) = 4 :: Q := by simp [wdR, bnd]
        have e5 : wdP 3 (4 :: Q) = [] := by simp [wdP, bnd]
        rw [e4] at y14
        rw [e5, List.map_nil, List.append_nil] at y16
        subst y14
        subst y16
        have len2 : T2.length = T1.length + 1 + R2.length := by rw [y4, List.length_append, List.length_append]; rfl
        have at2 : clD T2 T1.length = Cl.nw 11 0 := by
          rw [y4, clD_apL _ _ _ (by rw [List.length_append]; simp), clD_last]
        have X2 : fX15_init (some (mNx B + (1 + T1.length))) (some (mNx B + (1 + e))) (some (mNx B + (1 + e2))) (ovs B (c2 :: T2) z2) = some ((), ovs B (c2 :: clS T2 T1.length (((clD T2 T1.length).sA 146 (some (mNx B + (1 + e)))).sA 147 (some (mNx B + (1 + e2))))) z2) := X_and15 hB (by omega) (by rw [at2]; rfl)
        rw [at2] at X2
        have chg : Chg T2 (clS T2 T1.length (((Cl.nw 11 0).sA 146 (some (mNx B + (1 + e)))).sA 147 (some (mNx B + (1 + e2))))) := Chg.set (by rw [at2]; exact ⟨fun _ => rfl, fun _ => rfl, by decide⟩) (by rw [at2]; decide) (by rw [at2]; decide)
        have T3e : clS T2 T1.length (((Cl.nw 11 0).sA 146 (some (mNx B + (1 + e)))).sA 147 (some (mNx B + (1 + e2)))) = T0 ++ (R ++ R1 ++ [((Cl.nw 11 0).sA 146 (some (mNx B + (1 + e)))).sA 147 (some (mNx B + (1 + e2)))] ++ R2) := by
          have := clS_apR T1 ([Cl.nw 11 0] ++ R2) 0 (((Cl.nw 11 0).sA 146 (some (mNx B + (1 + e)))).sA 147 (some (mNx B + (1 + e2))))
          rw [y4, List.append_assoc]
          refine this.trans ?_
          rw [T1e, hT]; simp [clS]
        have at3 : clD (clS T2 T1.length (((Cl.nw 11 0).sA 146 (some (mNx B + (1 + e)))).sA 147 (some (mNx B + (1 + e2))))) T1.length = ((Cl.nw 11 0).sA 146 (some (mNx B + (1 + e)))).sA 147 (some (mNx B + (1 + e2))) := clS_at T2 _ _ (by omega)
        have len3 : (clS T2 T1.length (((Cl.nw 11 0).sA 146 (some (mNx B + (1 + e)))).sA 147 (some (mNx B + (1 + e2))))).length = T2.length := clS_len _ _ _
        generalize clS T2 T1.length (((Cl.nw 11 0).sA 146 (some (mNx B + (1 + e)))).sA 147 (some (mNx B + (1 + e2)))) = T3 at X2 chg T3e at3 len3
        have C3 : CSt B m tp to most A Z c2 T3 z2 r2 h2 p2 ([4] ++ Q) (l ++ (k ++ u.map n2 ++ k2)) o2 :=
          ⟨C2.S.ch chg, ⟨by rw [len3]; exact C2.g.1, C2.g.2⟩, C2.t5, C2.x7, C2.o20, by have := C2.P; rw [show l ++ (k ++ u.map n2 ++ k2) = l ++ k ++ u.map n2 ++ k2 by simp]; exact this⟩
        have cT : Chg T T3 := by
          have a1 : Chg T T1 := by rw [T1e]; exact Chg.app _ _
          have a2 : Chg T1 T2 := by rw [y4, List.append_assoc]; exact Chg.app _ _
          exact (a1.trans a2).trans chg
        have cd3 : CondT (mNx B) T3 (.add cnd cnd2) T1.length := by
          refine ⟨by omega, by rw [at3]; rfl, e, e2, ?_, ?_, hC.ch cT, y5.ch chg⟩
          · rw [at3, a_ne _ _ (by decide), a_self]
          · rw [at3, a_self]
        have pl := Post_len y15
        have l3 : (l ++ (k ++ u.map n2 ++ k2)).length = (l ++ k).length + u.length + k2.length := by simp -implicitDefEqProofs only [List.length_append, List.length_map]; omega
        have J := ih F F0' F9' c2 T3 z2 r2 h2 p2 o2 T1.length [4] (k ++ u.map n2 ++ k2) (.add cnd cnd2) (R ++ R1 ++ [((Cl.nw 11 0).sA 146 (some (mNx B + (1 + e)))).sA 147 (some (mNx B + (1 + e2)))] ++ R2)
          (by omega) (by omega) (by omega) (by omega) C3 (Or.inr rfl) ⟨k ++ u.map n2, k2, hP, y15, by simp [n2]⟩ cd3 (y8.trans (c18.trans h138)) (by rw [l3]; simp -implicitDefEqProofs only [List.length_append, List.length_cons, List.length_nil] at hlen ⊢; omega) (by simp -implicitDefEqProofs only [cwt]; omega) T3e ((hK.trans Kp1.c).trans y7) (y8.trans (c18.trans hK8)) (hKh.trans (K1.trans y9)) (by omega) (by omega)
        rw [y1, bt_inl, nn_some, X2, bd_some, y2]
        exact J
      · exact Or.inr (I.bt _)
    · -- no and: done
      refine Or.inl ⟨e, c, T, z, r, h, p, R, u ++ Q, l ++ k, o, cnd, F0, F9, ?_, rfl, C, hT, hC, hcw, hK, hK8, hKh, hp, hv, by omega, by omega, u, k, hu, rfl, rfl, hP, hw⟩
      show bX6_and_5B (fX6_oneR d) (bX6_and_5 (fX6_oneR d) F) _ _ _ = _
      unfold bX6_and_5B
      simp -implicitDefEqProofs only [Option.bind_some, bd_some, b2i_0, Bool.true_eq_false, Bool.false_eq_true, eq_self, if_true, if_false, not_true_eq_false, not_false_eq_true, rd_iv5 C.t5, w14, hw]
theorem and_of (IH : COne B m tp to most A Z b' n s d) : CAnd B m tp to most A Z b' n s d := by
  intro c T z r h p Q l o F0 F1 C h138 hQ8 hq hQl hlen hd hF0 hF1
  have I := IH c T z r h p Q l o F0 F1 C h138 hQ8 (by omega) hlen hd hF0 hF1
  obtain ⟨-, -, w3, w4⟩ := and_wd (u := []) hq (Or.inl rfl)
  unfold fX6_and
  rw [rd_iv5 C.t5]
  rcases I with ⟨e2, c2, T2, z2, r2, h2, p2, R2, Q2, l2, o2, cnd2, F0', F9', y1, y2, C2, y4, y5, y6, y7, y8, y9, y10, y11, y12, y13, y14, k2, y15, y16⟩ | I
  · rw [w3] at y14
    rw [w4, List.map_nil, List.append_nil] at y16
    subst y14
    subst y16
    rw [y1, bt_inl, y2]
    have pl := Post_len y15
    have ll : (l ++ k2).length = l.length + k2.length := List.length_append
    exact L_and IH hQ8 hq hQl hd (nu c2 to p2 + 1) hcFuel F0' F9' c2 T2 z2 r2 h2 p2 o2 e2 [] k2 cnd2 R2 (Nat.lt_succ_self _) (by have := C.S.R.to_; unfold nu hcFuel; split <;> omega) y12 y13 C2 (Or.inl rfl) (by rw [List.map_nil, List.append_nil]; exact y15) y5 (y8.trans h138) (by rw [ll, List.nil_append]; omega) y6 y4 y7 y8 y9 y10 y11
  · exact Or.inr (I.bt _)
end AndLoop
