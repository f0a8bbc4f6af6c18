set_option linter.unusedVariables false
set_option linter.unusedSimpArgs false
set_option maxRecDepth 100000
/-! ===== a token, both at once ===== -/
def Kp (c d : Cl) : Prop := d.t = c.t ∧ d.l = c.l ∧ d.j = c.j ∧ (∀ k, (k < 127 ∨ 131 < k) → d.i k = c.i k) ∧ ∀ k, k ≠ 132 → d.a k = c.a k
theorem Kp.refl (c : Cl) : Kp c c := ⟨rfl, rfl, rfl, fun _ _ => rfl, fun _ _ => rfl⟩
theorem Kp.sI {c d : Cl} (h : Kp c d) {f : Nat} (hf : 127 ≤ f ∧ f ≤ 131) (v : Int32) : Kp c (d.sI f v) := ⟨h.1, h.2.1, h.2.2.1, fun k hk => (show upq d.i f v k = d.i k from upq_ne _ _ (by omega)).trans (h.2.2.2.1 k hk), h.2.2.2.2⟩
theorem Kp.sA {c d : Cl} (h : Kp c d) (v : Rf) : Kp c (d.sA 132 v) := ⟨h.1, h.2.1, h.2.2.1, h.2.2.2.1, fun k hk => (show upq d.a 132 v k = d.a k from upq_ne _ _ hk).trans (h.2.2.2.2 k hk)⟩
theorem Kp.trans {c d e : Cl} (h : Kp c d) (k : Kp d e) : Kp c e := ⟨k.1.trans h.1, k.2.1.trans h.2.1, k.2.2.1.trans h.2.2.1, fun j hj => (k.2.2.2.1 j hj).trans (h.2.2.2.1 j hj), fun j hj => (k.2.2.2.2 j hj).trans (h.2.2.2.2 j hj)⟩
def Kr (r q : MR) : Prop := q.size = r.size ∧ q.limit = r.limit ∧ q.fault = r.fault ∧ q.faultAt = r.faultAt ∧ q.got = r.got
theorem Kr.refl (r : MR) : Kr r r := ⟨rfl, rfl, rfl, rfl, rfl⟩
theorem Kr.trans {r q u : MR} (h : Kr r q) (k : Kr q u) : Kr r u := ⟨k.1.trans h.1, k.2.1.trans h.2.1, k.2.2.1.trans h.2.2.1, k.2.2.2.1.trans h.2.2.2.1, k.2.2.2.2.trans h.2.2.2.2⟩
theorem Kr.sP {r : MR} (v : Int32) : Kr r (r.sP v) := ⟨rfl, rfl, rfl, rfl, rfl⟩
theorem Kr.sTok {r : MR} (v : Int32) : Kr r (r.sTok v) := ⟨rfl, rfl, rfl, rfl, rfl⟩
theorem Kr.sPl {r : MR} (v : Int32) : Kr r (r.sPl v) := ⟨rfl, rfl, rfl, rfl, rfl⟩
theorem Kr.sSp {r : MR} (v : Int32) : Kr r (r.sSp v) := ⟨rfl, rfl, rfl, rfl, rfl⟩
theorem Kr.sNum {r : MR} (v : Int32) : Kr r (r.sNum v) := ⟨rfl, rfl, rfl, rfl, rfl⟩
theorem Kr.wq {r : MR} (q k : Nat) (num : Int32) (w : Int64) : Kr r (r.wq q k num w) := ⟨rfl, rfl, rfl, rfl, rfl⟩
def StrT (N : Nat) (T : List Cl) (e k : Nat) (ch : Nat → Nat) : Prop := ∃ d, e < T.length ∧ d < T.length ∧ (clD T e).t = 19 ∧ (clD T e).i 156 = 0 ∧ (clD T e).a 155 = some (N + (1 + d)) ∧ (clD T d).t = 100 ∧ (clD T d).l = k ∧ ∀ i, i < k → (clD T d).i i = n2 (ch i)
theorem StrT.app {N : Nat} {T R : List Cl} {e k : Nat} {ch : Nat → Nat} (h : StrT N T e k ch) : StrT N (T ++ R) e k ch := by
  obtain ⟨d, h1, h2, h3, h4, h5, h6, h7, h8⟩ := h
  refine ⟨d, by rw [List.length_append]; omega, by rw [List.length_append]; omega, ?_⟩
  rw [clD_apL T R e h1, clD_apL T R d h2]
  exact ⟨h3, h4, h5, h6, h7, h8⟩
def WdR (N : Nat) (c : Cl) (T : List Cl) (r : MR) (tp : Nat → Int32) (to : Nat) : Prop := ∃ P k e, 1 ≤ k ∧ k ≤ 8 ∧ P + k ≤ to ∧ r.place = n2 P ∧ r.span = n2 k ∧ (∀ i, i < k → isLtN (octN (tp (P + i))) = true) ∧ r.word = pkW (fun i => octN (tp (P + i))) k ∧ c.a 132 = some (N + (1 + e)) ∧ StrT N T e k (fun i => octN (tp (P + i)))
abbrev Tk (N : Nat) (c : Cl) (T : List Cl) (r : MR) (tp : Nat → Int32) (to : Nat) : Prop := (c.i 129 = r.place) ∧ ((c.i 128 = 0 ∧ r.token = 0) ∨ ((c.i 128 = 1 ∨ c.i 128 = 5) ∧ r.token = 4) ∨ (c.i 128 = 2 ∧ r.token = 1 ∧ WdR N c T r tp to) ∨ (c.i 128 = 3 ∧ r.token = 2 ∧ c.i 130 = r.number) ∨ (c.i 128 = 4 ∧ r.token = 3 ∧ c.i 131 = r.number)) ∧ (r.token = 2 → ∃ v, v < 1000 ∧ r.number = n2 v)
theorem Tk.pl {N : Nat} {c : Cl} {T : List Cl} {r : MR} {tp : Nat → Int32} {to : Nat} (self : Tk N c T r tp to) : c.i 129 = r.place := self.1
theorem Tk.kd {N : Nat} {c : Cl} {T : List Cl} {r : MR} {tp : Nat → Int32} {to : Nat} (self : Tk N c T r tp to) : (c.i 128 = 0 ∧ r.token = 0) ∨ ((c.i 128 = 1 ∨ c.i 128 = 5) ∧ r.token = 4) ∨ (c.i 128 = 2 ∧ r.token = 1 ∧ WdR N c T r tp to) ∨ (c.i 128 = 3 ∧ r.token = 2 ∧ c.i 130 = r.number) ∨ (c.i 128 = 4 ∧ r.token = 3 ∧ c.i 131 = r.number) := self.2.1
theorem Tk.nb {N : Nat} {c : Cl} {T : List Cl} {r : MR} {tp : Nat → Int32} {to : Nat} (self : Tk N c T r tp to) : r.token = 2 → ∃ v, v < 1000 ∧ r.number = n2 v := self.2.2
/-- what a token read comes to: from place p -/
def TokR (B : Mem) (c : Cl) (T : List Cl) (z p : Nat) (m : MS) (r : MR) (tp : Nat → Int32) (to : Nat) (b' : Mem) (n s : Nat) (rx rm : Option (Unit × Mem)) : Prop :=
  ∃ c' T' z' r' q R, rx = some ((), ovs B (c' :: T') z') ∧ rm = some ((), mkM b' n s (m.sR r')) ∧ Tk (mNx B) c' T' r' tp to ∧ Kp c c' ∧ Kr r r' ∧ T' = T ++ R ∧ c'.i 127 = n2 q ∧ r'.p = n2 q ∧ p ≤ q ∧ q ≤ to ∧ (c'.i 128 = 0 ∨ c'.i 128 = 5 ∨ p < q) ∧ T'.length + 4 * p ≤ T.length + 4 * q ∧ z' + 32 * p ≤ z + 32 * q ∧ z ≤ z'
section DTok
variable {B b' : Mem} {c : Cl} {T : List Cl} {tp : Nat → Int32} {to most z n s p q k : Nat} {m : MS} {r : MR}
theorem i_self (c : Cl) (f : Nat) (v : Int32) : (c.sI f v).i f = v := upq_self c.i f v
theorem i_ne (c : Cl) {f k : Nat} (v : Int32) (h : k ≠ f) : (c.sI f v).i k = c.i k := upq_ne c.i v h
theorem D_sign {R : RdX B c tp to most} (hq : q < to) (h127 : c.i 127 = n2 q) (h129 : c.i 129 = n2 q) (hm : m.tape = tp) (hz : r.size = n2 to) (hp : r.p = n2 q) (hpl : r.place = n2 q) (h1 : isLtN (octN (tp q)) = false) (h2 : isDgN (octN (tp q)) = false) :
    TokR B c T z q m r tp to b' n s (bX5_go_94 (some (mNx B)) (ovs B (c :: T) z)) (bX4_next_80 (some 106) (mkM b' n s (m.sR r))) := by
  have h940 := R.to_
  have hB : 64 ≤ mNx B := by have := R.hB; omega
  have ol := oct_lt (tp q)
  have PK := M_pk (b' := b') (n := n) (s := s) (m := m) (r := r) (p := q) h940 hz hp (by omega)
  rw [hm, if_pos hq] at PK
  have RB := X_rb (T := T) (z := z) R (show q ≤ 940 by omega)
  rw [if_pos hq] at RB
  obtain ⟨v, i1, i2⟩ := X_idx (L := c :: T) (z := z) (R.str 25 (by decide)) ol
  have G127 : gI (ovs B (c :: T) z) (some (mNx B)) 127 = some (n2 q) := (rd_get R.t rfl).trans (congrArg some h127)
  have G125 : gI (ovs B (c :: T) z) (some (mNx B)) 125 = some (n2 to) := (rd_get R.t rfl).trans (congrArg some R.i125)
  have IV : ∀ {α : Type} (o : Option α), iv (ovs B (c :: T) z) (some (mNx B)) [5, 13] o = o := fun o => rd_iv R.t rfl
  have I19 : ∀ {α : Type} (o : Option α), iv (ovs B (c :: T) z) (some 50) [19] o = o := fun o => by
    obtain ⟨⟨-, g2⟩, g3, -⟩ := R.str 25 (by decide)
    rw [oo_iv g2]; exact if_pos ⟨g2, by rw [g3]; rfl⟩
  have lt : (n2 q < n2 to) = True := by rw [n2_lt (by omega) (by omega)]; exact eq_true hq
  generalize octN (tp q) = ch at *
  have PP : ∀ k1 : Int32, bX5_go_149 (some (mNx B)) (n2 ch) (some (mNx B)) k1 (ovs B (c :: T) z) = some ((), ovs B (((c.sI 128 k1).sI 131 (n2 ch)).sI 127 (n2 (q + 1)) :: T) z) := by
    intro k1
    have g : gI (ovs B ((c.sI 128 k1).sI 131 (n2 ch) :: T) z) (some (mNx B)) 127 = some (n2 q) := (rd_get (c := (c.sI 128 k1).sI 131 (n2 ch)) R.t rfl).trans (congrArg some (by rw [i_ne _ _ (by decide), i_ne _ _ (by decide)]; exact h127))
    have p1 : pI (ovs B (c :: T) z) (some (mNx B)) 128 k1 = some (ovs B (c.sI 128 k1 :: T) z) := rd_put hB R.t rfl
    have p2 : pI (ovs B (c.sI 128 k1 :: T) z) (some (mNx B)) 131 (n2 ch) = some (ovs B ((c.sI 128 k1).sI 131 (n2 ch) :: T) z) := rd_put (c := c.sI 128 k1) hB R.t rfl
    have p3 : pI (ovs B ((c.sI 128 k1).sI 131 (n2 ch) :: T) z) (some (mNx B)) 127 (n2 (q + 1)) = some (ovs B (((c.sI 128 k1).sI 131 (n2 ch)).sI 127 (n2 (q + 1)) :: T) z) := rd_put (c := (c.sI 128 k1).sI 131 (n2 ch)) hB R.t rfl
    unfold bX5_go_149
    simp -implicitDefEqProofs only [Option.bind_some, bd_some, b2i_0, Bool.true_eq_false, Bool.false_eq_true, eq_self, if_true, if_false, not_true_eq_false, not_false_eq_true, p1, p2, g, show n2 q + 1 = n2 (q + 1) from n2_add q 1, p3]
  have MM : ∀ k1 : Int32, bX4_next_145 (some 106) (n2 ch) (some 106) k1 (mkM b' n s (m.sR r)) = some ((), mkM b' n s (m.sR (((r.sTok k1).sNum (n2 ch)).sP (n2 (q + 1))))) := by
    intro k1
    unfold bX4_next_145
    have g : ((r.sTok k1).sNum (n2 ch)).p = n2 q := hp
    simp -implicitDefEqProofs only [Option.bind_some, bd_some, b2i_0, Bool.true_eq_false, Bool.false_eq_true, eq_self, if_true, if_false, not_true_eq_false, not_false_eq_true, pR_64, pR_67, gM_59, sR_r, g, show n2 q + 1 = n2 (q + 1) from n2_add q 1, pR_58]
  have ge : ((0 : Int32) ≤ n2 ch) = True := eq_true (n2_pos (by omega))
  have fin : ∀ (k1 k2 : Int32), ((k1 = 1 ∧ k2 = 4) ∨ (k1 = 4 ∧ k2 = 3)) → TokR B c T z q m r tp to b' n s (some ((), ovs B (((c.sI 128 k1).sI 131 (n2 ch)).sI 127 (n2 (q + 1)) :: T) z)) (some ((), mkM b' n s (m.sR (((r.sTok k2).sNum (n2 ch)).sP (n2 (q + 1)))))) := by
    intro k1 k2 hk
    refine ⟨_, T, z, _, q + 1, [], rfl, rfl, ⟨?_, ?_, fun ht => ?_⟩, (((Kp.refl c).sI (by omega) _).sI (by omega) _).sI (by omega) _, ((Kr.sTok k2).trans (Kr.sNum (n2 ch))).trans (Kr.sP (n2 (q + 1))), (List.append_nil T).symm, i_self _ _ _, rfl, by omega, by omega, Or.inr (Or.inr (by omega)), by omega, by omega, Nat.le_refl _⟩
    · rw [i_ne _ _ (by decide), i_ne _ _ (by decide), i_ne _ _ (by decide), h129]; exact hpl.symm
    · have e : (((c.sI 128 k1).sI 131 (n2 ch)).sI 127 (n2 (q + 1))).i 128 = k1 := by rw [i_ne _ _ (by decide), i_ne _ _ (by decide), i_self]
      have e2 : (((c.sI 128 k1).sI 131 (n2 ch)).sI 127 (n2 (q + 1))).i 131 = n2 ch := by rw [i_ne _ _ (by decide), i_self]
      rw [e, e2]
      rcases hk with ⟨h1, h2⟩ | ⟨h1, h2⟩
      · exact Or.inr (Or.inl ⟨Or.inl h1, h2⟩)
      · exact Or.inr (Or.inr (Or.inr (Or.inr ⟨h1, h2, rfl⟩)))
    · have ht' : k2 = 2 := ht
      rcases hk with ⟨-, h2⟩ | ⟨-, h2⟩ <;> rw [h2] at ht' <;> exact absurd ht' (by decide)
  have ne : ∀ j, j < 256 → (n2 ch = n2 j) = (ch = j) := fun j hj => n2_eq (by omega) (by omega)
  unfold bX5_go_94 bX4_next_80 bX4_next_140 bX4_next_144
  simp -implicitDefEqProofs only [Option.bind_some, bd_some, b2i_0, Bool.true_eq_false, Bool.false_eq_true, eq_self, if_true, if_false, not_true_eq_false, not_false_eq_true, G127, G125, lt, IV, RB, X_isLt ol, h1, X_isDg ol, h2, I19, i1, PP, ivM, PK, ge, M_isLt ol, M_isDg ol, MM, li_59, li_40, li_41, li_60, li_62, ne 59 (by decide), ne 40 (by decide), ne 41 (by decide), n2_lt (show ch < 2147483648 by omega) (show 60 < 2147483648 by decide), n2_lt (show 62 < 2147483648 by decide) (show ch < 2147483648 by omega)]
  by_cases hs : isSgN ch = false
  · have hv : (v < 0) = True := eq_true (i2.mpr hs)
    unfold isSgN at hs
    have hs' := of_decide_eq_false hs
    simp -implicitDefEqProofs only [Option.bind_some, bd_some, b2i_0, Bool.true_eq_false, Bool.false_eq_true, eq_self, if_true, if_false, not_true_eq_false, not_false_eq_true, hv, show (ch = 59) = False from eq_false (by omega), show (ch = 40) = False from eq_false (by omega), show (ch = 41) = False from eq_false (by omega)]
    by_cases h60 : ch < 60
    · simp -implicitDefEqProofs only [Option.bind_some, bd_some, b2i_0, Bool.true_eq_false, Bool.false_eq_true, eq_self, if_true, if_false, not_true_eq_false, not_false_eq_true, h60]; exact fin 1 4 (Or.inl ⟨rfl, rfl⟩)
    · simp -implicitDefEqProofs only [Option.bind_some, bd_some, b2i_0, Bool.true_eq_false, Bool.false_eq_true, eq_self, if_true, if_false, not_true_eq_false, not_false_eq_true, h60, show (62 < ch) = True from eq_true (by omega)]; exact fin 1 4 (Or.inl ⟨rfl, rfl⟩)
  · have hv : (v < 0) = False := eq_false (fun h => hs (i2.mp h))
    have hs2 : isSgN ch = true := by
      rcases Bool.eq_false_or_eq_true (isSgN ch) with e | e
      · exact e
      · exact absurd e hs
    unfold isSgN at hs2
    have hs' := of_decide_eq_true hs2
    simp -implicitDefEqProofs only [Option.bind_some, bd_some, b2i_0, Bool.true_eq_false, Bool.false_eq_true, eq_self, if_true, if_false, not_true_eq_false, not_false_eq_true, hv]
    by_cases h59 : ch = 59
    · simp -implicitDefEqProofs only [Option.bind_some, bd_some, b2i_0, Bool.true_eq_false, Bool.false_eq_true, eq_self, if_true, if_false, not_true_eq_false, not_false_eq_true, h59] at fin ⊢; exact fin 4 3 (Or.inr ⟨rfl, rfl⟩)
    · by_cases h40 : ch = 40
      · simp -implicitDefEqProofs only [Option.bind_some, bd_some, b2i_0, Bool.true_eq_false, Bool.false_eq_true, eq_self, if_true, if_false, not_true_eq_false, not_false_eq_true, h59, h40] at fin ⊢; exact fin 4 3 (Or.inr ⟨rfl, rfl⟩)
      · by_cases h41 : ch = 41
        · simp -implicitDefEqProofs only [Option.bind_some, bd_some, b2i_0, Bool.true_eq_false, Bool.false_eq_true, eq_self, if_true, if_false, not_true_eq_false, not_false_eq_true, h59, h40, h41] at fin ⊢; exact fin 4 3 (Or.inr ⟨rfl, rfl⟩)
        · simp -implicitDefEqProofs only [Option.bind_some, bd_some, b2i_0, Bool.true_eq_false, Bool.false_eq_true, eq_self, if_true, if_false, not_true_eq_false, not_false_eq_true, h59, h40, h41, show (ch < 60) = False from eq_false (by omega), show (62 < ch) = False from eq_false (by omega)]; exact fin 4 3 (Or.inr ⟨rfl, rfl⟩)
end DTok
