set_option linter.unusedVariables false
set_option linter.unusedSimpArgs false
set_option maxRecDepth 100000
/-! ===== new cells behind a memory ===== -/
abbrev Cl : Type := (Nat) × (Nat) × (Nat → Int32) × (Nat → Int64) × (Nat → Rf)
def Cl.mk (t : Nat) (l : Nat) (i : Nat → Int32) (j : Nat → Int64) (a : Nat → Rf) : Cl := (t, l, i, j, a)
def Cl.t (z : Cl) : Nat := z.1
def Cl.l (z : Cl) : Nat := z.2.1
def Cl.i (z : Cl) : Nat → Int32 := z.2.2.1
def Cl.j (z : Cl) : Nat → Int64 := z.2.2.2.1
def Cl.a (z : Cl) : Nat → Rf := z.2.2.2.2
theorem mk_Cl_t {v0 : Nat} {v1 : Nat} {v2 : Nat → Int32} {v3 : Nat → Int64} {v4 : Nat → Rf} : (Cl.mk v0 v1 v2 v3 v4).t = v0 := rfl
theorem mk_Cl_l {v0 : Nat} {v1 : Nat} {v2 : Nat → Int32} {v3 : Nat → Int64} {v4 : Nat → Rf} : (Cl.mk v0 v1 v2 v3 v4).l = v1 := rfl
theorem mk_Cl_i {v0 : Nat} {v1 : Nat} {v2 : Nat → Int32} {v3 : Nat → Int64} {v4 : Nat → Rf} : (Cl.mk v0 v1 v2 v3 v4).i = v2 := rfl
theorem mk_Cl_j {v0 : Nat} {v1 : Nat} {v2 : Nat → Int32} {v3 : Nat → Int64} {v4 : Nat → Rf} : (Cl.mk v0 v1 v2 v3 v4).j = v3 := rfl
theorem mk_Cl_a {v0 : Nat} {v1 : Nat} {v2 : Nat → Int32} {v3 : Nat → Int64} {v4 : Nat → Rf} : (Cl.mk v0 v1 v2 v3 v4).a = v4 := rfl
def Cl.nw (t l : Nat) : Cl := Cl.mk t l (fun _ => 0) (fun _ => 0) (fun _ => none)
def Cl.sI (c : Cl) (k : Nat) (v : Int32) : Cl := Cl.mk c.t c.l (upq c.i k v) c.j c.a
def Cl.sA (c : Cl) (k : Nat) (v : Rf) : Cl := Cl.mk c.t c.l c.i c.j (upq c.a k v)
def Cl.rI (c : Cl) (f : Nat → Int32) : Cl := Cl.mk c.t c.l f c.j c.a
def Cl.rJ (c : Cl) (f : Nat → Int64) : Cl := Cl.mk c.t c.l c.i f c.a
def Cl.rA (c : Cl) (f : Nat → Rf) : Cl := Cl.mk c.t c.l c.i c.j f
def clD : List Cl → Nat → Cl
  | [], _ => Cl.nw 0 0
  | c :: _, 0 => c
  | _ :: L, i + 1 => clD L i
def clS : List Cl → Nat → Cl → List Cl
  | [], _, _ => []
  | _ :: L, 0, d => d :: L
  | c :: L, i + 1, d => c :: clS L i d
theorem clS_len : ∀ (L : List Cl) (i : Nat) (d : Cl), (clS L i d).length = L.length
  | [], _, _ => rfl
  | _ :: _, 0, _ => rfl
  | _ :: L, i + 1, d => congrArg (· + 1) (clS_len L i d)
theorem clS_at : ∀ (L : List Cl) (i : Nat) (d : Cl), i < L.length → clD (clS L i d) i = d
  | [], _, _, h => absurd h (Nat.not_lt_zero _)
  | _ :: _, 0, _, _ => rfl
  | _ :: L, i + 1, d, h => clS_at L i d (Nat.lt_of_succ_lt_succ h)
theorem clS_ne : ∀ (L : List Cl) (i j : Nat) (d : Cl), j ≠ i → clD (clS L i d) j = clD L j
  | [], _, _, _, _ => rfl
  | _ :: _, 0, 0, _, h => absurd rfl h
  | _ :: _, 0, _ + 1, _, _ => rfl
  | _ :: _, _ + 1, 0, _, _ => rfl
  | _ :: L, i + 1, j + 1, d, h => clS_ne L i j d (fun e => h (congrArg (· + 1) e))
theorem clD_app : ∀ (L : List Cl) (c : Cl) (i : Nat), i < L.length → clD (L ++ [c]) i = clD L i
  | [], _, _, h => absurd h (Nat.not_lt_zero _)
  | _ :: _, _, 0, _ => rfl
  | _ :: L, c, i + 1, h => clD_app L c i (Nat.lt_of_succ_lt_succ h)
theorem clD_last : ∀ (L : List Cl) (c : Cl), clD (L ++ [c]) L.length = c
  | [], _ => rfl
  | _ :: L, c => clD_last L c
def ovs (B : Mem) (L : List Cl) (z : Nat) : Mem :=
  (fun a => if mNx B ≤ a ∧ a < mNx B + L.length then (clD L (a - mNx B)).t else mTag B a,
   fun a => if mNx B ≤ a ∧ a < mNx B + L.length then (clD L (a - mNx B)).l else mLen B a,
   fun a => if mNx B ≤ a ∧ a < mNx B + L.length then (clD L (a - mNx B)).i else mI B a,
   fun a => if mNx B ≤ a ∧ a < mNx B + L.length then (clD L (a - mNx B)).j else mJ B a,
   fun a => if mNx B ≤ a ∧ a < mNx B + L.length then (clD L (a - mNx B)).a else mA B a,
   mNx B + L.length, mNs B + z)
/-- a cell has these contents -/
def Ce (st : Mem) (a : Nat) (c : Cl) : Prop := mTag st a = c.t ∧ mLen st a = c.l ∧ mI st a = c.i ∧ mJ st a = c.j ∧ mA st a = c.a
theorem Sm.of {st st' : Mem} {a : Nat} {c : Cl} (h : Ce st a c) (k : Ce st' a c) : Sm st st' a := ⟨k.1.trans h.1.symm, k.2.1.trans h.2.1.symm, k.2.2.1.trans h.2.2.1.symm, k.2.2.2.1.trans h.2.2.2.1.symm, k.2.2.2.2.trans h.2.2.2.2.symm⟩
theorem Ce.sm {st st' : Mem} {a : Nat} {c : Cl} (h : Ce st a c) (k : Sm st st' a) : Ce st' a c := ⟨k.1.trans h.1, k.2.1.trans h.2.1, k.2.2.1.trans h.2.2.1, k.2.2.2.1.trans h.2.2.2.1, k.2.2.2.2.trans h.2.2.2.2⟩
section Ovs
variable {B st : Mem} {L : List Cl} {z i a f : Nat}
theorem ov_nx : mNx (ovs B L z) = mNx B + L.length := rfl
theorem ov_ns : mNs (ovs B L z) = mNs B + z := rfl
theorem ov_ce (hi : i < L.length) : Ce (ovs B L z) (mNx B + i) (clD L i) := by
  have c : mNx B ≤ mNx B + i ∧ mNx B + i < mNx B + L.length := ⟨by omega, by omega⟩
  have e : mNx B + i - mNx B = i := by omega
  refine ⟨?_, ?_, ?_, ?_, ?_⟩
  · exact (if_pos c).trans (by rw [e])
  · exact (if_pos c).trans (by rw [e])
  · exact (if_pos c).trans (by rw [e])
  · exact (if_pos c).trans (by rw [e])
  · exact (if_pos c).trans (by rw [e])
theorem ov_old (ha : ¬ (mNx B ≤ a ∧ a < mNx B + L.length)) : Sm B (ovs B L z) a := ⟨if_neg ha, if_neg ha, if_neg ha, if_neg ha, if_neg ha⟩
theorem ov_lt (ha : a < mNx B) : Sm B (ovs B L z) a := ov_old (by omega)
theorem ov_nil : ovs B [] 0 = B := by
  refine mem_ext (fun a => ?_) (fun a => ?_) (fun a => ?_) (fun a => ?_) (fun a => ?_) rfl rfl
  · exact (ov_old (L := []) (z := 0) (by simp)).1
  · exact (ov_old (L := []) (z := 0) (by simp)).2.1
  · exact (ov_old (L := []) (z := 0) (by simp)).2.2.1
  · exact (ov_old (L := []) (z := 0) (by simp)).2.2.2.1
  · exact (ov_old (L := []) (z := 0) (by simp)).2.2.2.2
theorem sm_ext {st st' : Mem} (h : ∀ a, Sm st st' a) (h5 : mNx st' = mNx st) (h6 : mNs st' = mNs st) : st' = st :=
  mem_ext (fun a => (h a).1) (fun a => (h a).2.1) (fun a => (h a).2.2.1) (fun a => (h a).2.2.2.1) (fun a => (h a).2.2.2.2) h5 h6
theorem ov_set {d : Cl} (hi : i < L.length) (h : ∀ a, a ≠ mNx B + i → Sm (ovs B L z) st a) (hd : Ce st (mNx B + i) d) (h5 : mNx st = mNx (ovs B L z)) (h6 : mNs st = mNs (ovs B L z)) : st = ovs B (clS L i d) z := by
  refine sm_ext (fun a => ?_) (by rw [h5, ov_nx, ov_nx, clS_len]) h6
  by_cases e : a = mNx B + i
  · subst e
    have := ov_ce (B := B) (L := clS L i d) (z := z) (i := i) (by rw [clS_len]; exact hi)
    rw [clS_at L i d hi] at this
    exact Sm.of this hd
  · refine Sm.trans ?_ (h a e)
    by_cases hr : mNx B ≤ a ∧ a < mNx B + L.length
    · obtain ⟨j, rfl⟩ : ∃ j, a = mNx B + j := ⟨a - mNx B, by omega⟩
      have hj : j < L.length := by omega
      have h1 := ov_ce (B := B) (L := clS L i d) (z := z) (i := j) (by rw [clS_len]; exact hj)
      rw [clS_ne L i j d (by omega)] at h1
      exact Sm.of h1 (ov_ce hj)
    · have h1 := ov_old (B := B) (L := clS L i d) (z := z) (a := a) (by rw [clS_len]; exact hr)
      have h2 := ov_old (B := B) (L := L) (z := z) (a := a) hr
      exact ⟨h2.1.trans h1.1.symm, h2.2.1.trans h1.2.1.symm, h2.2.2.1.trans h1.2.2.1.symm, h2.2.2.2.1.trans h1.2.2.2.1.symm, h2.2.2.2.2.trans h1.2.2.2.2.symm⟩
theorem ov_add {c : Cl} {w : Nat} (h : ∀ a, a ≠ mNx B + L.length → Sm (ovs B L z) st a) (hd : Ce st (mNx B + L.length) c) (h5 : mNx st = mNx (ovs B L z) + 1) (h6 : mNs st = mNs (ovs B L z) + w) : st = ovs B (L ++ [c]) (z + w) := by
  have hl : (L ++ [c]).length = L.length + 1 := by simp
  refine sm_ext (fun a => ?_) (by rw [h5, ov_nx, ov_nx, hl]; omega) (by rw [h6, ov_ns, ov_ns]; omega)
  by_cases e : a = mNx B + L.length
  · subst e
    have := ov_ce (B := B) (L := L ++ [c]) (z := z + w) (i := L.length) (by rw [hl]; omega)
    rw [clD_last] at this
    exact Sm.of this hd
  · refine Sm.trans ?_ (h a e)
    by_cases hr : mNx B ≤ a ∧ a < mNx B + L.length
    · obtain ⟨j, rfl⟩ : ∃ j, a = mNx B + j := ⟨a - mNx B, by omega⟩
      have hj : j < L.length := by omega
      have h1 := ov_ce (B := B) (L := L ++ [c]) (z := z + w) (i := j) (by rw [hl]; omega)
      rw [clD_app L c j hj] at h1
      exact Sm.of h1 (ov_ce hj)
    · have h1 := ov_old (B := B) (L := L ++ [c]) (z := z + w) (a := a) (by rw [hl]; omega)
      have h2 := ov_old (B := B) (L := L) (z := z) (a := a) hr
      exact ⟨h2.1.trans h1.1.symm, h2.2.1.trans h1.2.1.symm, h2.2.2.1.trans h1.2.2.1.symm, h2.2.2.2.1.trans h1.2.2.2.1.symm, h2.2.2.2.2.trans h1.2.2.2.2.symm⟩
theorem o_new {t l w : Nat} : mNew (ovs B L z) t l w = ovs B (L ++ [Cl.nw t l]) (z + w) := by
  refine ov_add (fun a ha => ?_) ?_ rfl rfl
  · exact ⟨up1_nq _ _ ha, up1_nq _ _ ha, up1_nq _ _ ha, up1_nq _ _ ha, up1_nq _ _ ha⟩
  · exact ⟨up1_at _ _ _, up1_at _ _ _, up1_at _ _ _, up1_at _ _ _, up1_at _ _ _⟩
theorem up2_rn {α : Type} (f : Nat → Nat → α) {a c k : Nat} {v : α} (h : a ≠ c) : up2 f c k v a = f a := by
  funext j; unfold up2; rw [if_neg h]
theorem up2_rs {α : Type} (f : Nat → Nat → α) (c k : Nat) (v : α) : up2 f c k v c = upq (f c) k v := by
  funext j; unfold up2 upq; rw [if_pos rfl]
theorem o_SI (hi : i < L.length) {k : Nat} {v : Int32} : mSI (ovs B L z) (mNx B + i) k v = ovs B (clS L i ((clD L i).sI k v)) z := by
  obtain ⟨c1, c2, c3, c4, c5⟩ := ov_ce (B := B) (z := z) hi
  refine ov_set hi (fun a ha => ⟨rfl, rfl, up2_rn _ ha, rfl, rfl⟩) ⟨c1, c2, ?_, c4, c5⟩ rfl rfl
  exact (up2_rs _ _ _ _).trans (congrArg (fun g => upq g k v) c3)
theorem o_SA (hi : i < L.length) {k : Nat} {v : Rf} : mSA (ovs B L z) (mNx B + i) k v = ovs B (clS L i ((clD L i).sA k v)) z := by
  obtain ⟨c1, c2, c3, c4, c5⟩ := ov_ce (B := B) (z := z) hi
  refine ov_set hi (fun a ha => ⟨rfl, rfl, rfl, rfl, up2_rn _ ha⟩) ⟨c1, c2, c3, c4, ?_⟩ rfl rfl
  exact (up2_rs _ _ _ _).trans (congrArg (fun g => upq g k v) c5)
theorem o_RI (hi : i < L.length) {g : Nat → Int32} : mRow (ovs B L z) (mNx B + i) g = ovs B (clS L i ((clD L i).rI g)) z := by
  obtain ⟨c1, c2, c3, c4, c5⟩ := ov_ce (B := B) (z := z) hi
  exact ov_set hi (fun a ha => ⟨rfl, rfl, up1_nq _ _ ha, rfl, rfl⟩) ⟨c1, c2, up1_at _ _ _, c4, c5⟩ rfl rfl
theorem o_RJ (hi : i < L.length) {g : Nat → Int64} : mRowJ (ovs B L z) (mNx B + i) g = ovs B (clS L i ((clD L i).rJ g)) z := by
  obtain ⟨c1, c2, c3, c4, c5⟩ := ov_ce (B := B) (z := z) hi
  exact ov_set hi (fun a ha => ⟨rfl, rfl, rfl, up1_nq _ _ ha, rfl⟩) ⟨c1, c2, c3, up1_at _ _ _, c5⟩ rfl rfl
theorem o_RA (hi : i < L.length) {g : Nat → Rf} : mRowA (ovs B L z) (mNx B + i) g = ovs B (clS L i ((clD L i).rA g)) z := by
  obtain ⟨c1, c2, c3, c4, c5⟩ := ov_ce (B := B) (z := z) hi
  exact ov_set hi (fun a ha => ⟨rfl, rfl, rfl, rfl, up1_nq _ _ ha⟩) ⟨c1, c2, c3, c4, up1_at _ _ _⟩ rfl rfl
def okI (t f : Nat) : Bool := (fl t).contains f && (fty f == 0 || fty f == 3 || fty f == 4)
def okA (t f : Nat) : Bool := (fl t).contains f && fty f == 2
def okPI (t f : Nat) : Bool := (fl t).contains f && fty f == 0
def okPZ (t f : Nat) : Bool := (fl t).contains f && fty f == 3
theorem o_nO {t : Nat} (h : decide (0 < t ∧ t < 22) = true) : nO (ovs B L z) t = some (some (mNx B + L.length), ovs B (L ++ [Cl.nw t 0]) (z + nsl t)) := by
  unfold nO; rw [if_pos (of_decide_eq_true h), o_new, ov_nx]
theorem o_nA {t n : Nat} (h : decide (100 ≤ t ∧ t < 107 ∧ n ≤ 100000) = true) : nA (ovs B L z) t (n2 n) = some (some (mNx B + L.length), ovs B (L ++ [Cl.nw t n]) (z + n)) := by
  have h' := of_decide_eq_true h
  unfold nA; rw [n2_nat (by omega), if_pos ⟨h'.1, h'.2.1, n2_pos (by omega), h'.2.2⟩, o_new, ov_nx]
theorem o_gI (hi : decide (i < L.length) = true) (h : okI (clD L i).t f = true) : gI (ovs B L z) (some (mNx B + i)) f = some ((clD L i).i f) := by
  have hi' := of_decide_eq_true hi
  obtain ⟨c1, c2, c3, c4, c5⟩ := ov_ce (B := B) (z := z) hi'
  unfold okI at h
  simp -implicitDefEqProofs only [Bool.and_eq_true, Bool.or_eq_true, beq_iff_eq] at h
  have cond : mNx B + i < mNx (ovs B L z) ∧ (fl (mTag (ovs B L z) (mNx B + i))).contains f = true ∧ (fty f = 0 ∨ fty f = 3 ∨ fty f = 4) := ⟨by rw [ov_nx]; omega, by rw [c1]; exact h.1, by have := h.2; omega⟩
  refine (if_pos cond).trans ?_
  rw [c3]
theorem o_gA (hi : decide (i < L.length) = true) (h : okA (clD L i).t f = true) : gA (ovs B L z) (some (mNx B + i)) f = some ((clD L i).a f) := by
  have hi' := of_decide_eq_true hi
  obtain ⟨c1, c2, c3, c4, c5⟩ := ov_ce (B := B) (z := z) hi'
  unfold okA at h
  simp -implicitDefEqProofs only [Bool.and_eq_true, beq_iff_eq] at h
  have cond : mNx B + i < mNx (ovs B L z) ∧ (fl (mTag (ovs B L z) (mNx B + i))).contains f = true ∧ fty f = 2 := ⟨by rw [ov_nx]; omega, by rw [c1]; exact h.1, h.2⟩
  refine (if_pos cond).trans ?_
  rw [c5]
theorem o_pI (hB : 64 ≤ mNx B) (hi : decide (i < L.length) = true) (h : okPI (clD L i).t f = true) {v : Int32} : pI (ovs B L z) (some (mNx B + i)) f v = some (ovs B (clS L i ((clD L i).sI f v)) z) := by
  have hi' := of_decide_eq_true hi
  obtain ⟨c1, c2, c3, c4, c5⟩ := ov_ce (B := B) (z := z) hi'
  unfold okPI at h
  simp -implicitDefEqProofs only [Bool.and_eq_true, beq_iff_eq] at h
  have cond : 64 ≤ mNx B + i ∧ mNx B + i < mNx (ovs B L z) ∧ (fl (mTag (ovs B L z) (mNx B + i))).contains f = true ∧ (fty f = 0 ∨ (fty f = 3 ∧ (v = 0 ∨ v = 1)) ∨ (fty f = 4 ∧ v = 0)) := ⟨by omega, by rw [ov_nx]; omega, by rw [c1]; exact h.1, Or.inl h.2⟩
  refine (if_pos cond).trans ?_
  rw [o_SI hi']
theorem o_pZ (hB : 64 ≤ mNx B) (hi : decide (i < L.length) = true) (h : okPZ (clD L i).t f = true) {v : Bool} : pI (ovs B L z) (some (mNx B + i)) f (b2i v) = some (ovs B (clS L i ((clD L i).sI f (b2i v))) z) := by
  have hi' := of_decide_eq_true hi
  obtain ⟨c1, c2, c3, c4, c5⟩ := ov_ce (B := B) (z := z) hi'
  unfold okPZ at h
  simp -implicitDefEqProofs only [Bool.and_eq_true, beq_iff_eq] at h
  have cond : 64 ≤ mNx B + i ∧ mNx B + i < mNx (ovs B L z) ∧ (fl (mTag (ovs B L z) (mNx B + i))).contains f = true ∧ (fty f = 0 ∨ (fty f = 3 ∧ (b2i v = 0 ∨ b2i v = 1)) ∨ (fty f = 4 ∧ b2i v = 0)) := ⟨by omega, by rw [ov_nx]; omega, by rw [c1]; exact h.1, Or.inr (Or.inl ⟨h.2, by cases v; exact Or.inl rfl; exact Or.inr rfl⟩)⟩
  refine (if_pos cond).trans ?_
  rw [o_SI hi']
theorem o_pA (hB : 64 ≤ mNx B) (hi : decide (i < L.length) = true) (h : okA (clD L i).t f = true) {v : Rf} : pA (ovs B L z) (some (mNx B + i)) f v = some (ovs B (clS L i ((clD L i).sA f v)) z) := by
  have hi' := of_decide_eq_true hi
  obtain ⟨c1, c2, c3, c4, c5⟩ := ov_ce (B := B) (z := z) hi'
  unfold okA at h
  simp -implicitDefEqProofs only [Bool.and_eq_true, beq_iff_eq] at h
  have cond : 64 ≤ mNx B + i ∧ mNx B + i < mNx (ovs B L z) ∧ (fl (mTag (ovs B L z) (mNx B + i))).contains f = true ∧ fty f = 2 := ⟨by omega, by rw [ov_nx]; omega, by rw [c1]; exact h.1, h.2⟩
  refine (if_pos cond).trans ?_
  rw [o_SA hi']
theorem o_aA (hi : decide (i < L.length) = true) (h : decide (104 ≤ (clD L i).t ∧ (clD L i).t < 108) = true) {k : Nat} (hk : decide (k < (clD L i).l ∧ k < 1000) = true) : aA (ovs B L z) (some (mNx B + i)) (n2 k) = some ((clD L i).a k) := by
  have hi' := of_decide_eq_true hi
  have h' := of_decide_eq_true h
  have hk' := of_decide_eq_true hk
  obtain ⟨c1, c2, c3, c4, c5⟩ := ov_ce (B := B) (z := z) hi'
  have cond : mNx B + i < mNx (ovs B L z) ∧ 104 ≤ mTag (ovs B L z) (mNx B + i) ∧ mTag (ovs B L z) (mNx B + i) < 108 ∧ (0 : Int32) ≤ n2 k ∧ (n2 k).toNatClampNeg < mLen (ovs B L z) (mNx B + i) := ⟨by rw [ov_nx]; omega, by rw [c1]; exact h'.1, by rw [c1]; exact h'.2, n2_pos (by omega), by rw [c2, n2_nat (by omega)]; exact hk'.1⟩
  refine (if_pos cond).trans ?_
  rw [c5, n2_nat (by omega)]
theorem oo_gI (ha : a < mNx B) : gI (ovs B L z) (some a) f = gI B (some a) f := by
  obtain ⟨s1, s2, s3, s4, s5⟩ := ov_lt (L := L) (z := z) ha
  unfold gI
  simp -implicitDefEqProofs only [s1, s3]
  have e : (a < mNx (ovs B L z)) = (a < mNx B) := by rw [eq_true ha, ov_nx]; exact eq_true (by omega)
  simp -implicitDefEqProofs only [e]
theorem oo_gA (ha : a < mNx B) : gA (ovs B L z) (some a) f = gA B (some a) f := by
  obtain ⟨s1, s2, s3, s4, s5⟩ := ov_lt (L := L) (z := z) ha
  unfold gA
  simp -implicitDefEqProofs only [s1, s5]
  have e : (a < mNx (ovs B L z)) = (a < mNx B) := by rw [eq_true ha, ov_nx]; exact eq_true (by omega)
  simp -implicitDefEqProofs only [e]
theorem oo_aA (ha : a < mNx B) {k : Int32} : aA (ovs B L z) (some a) k = aA B (some a) k := by
  obtain ⟨s1, s2, s3, s4, s5⟩ := ov_lt (L := L) (z := z) ha
  unfold aA
  simp -implicitDefEqProofs only [s1, s2, s5]
  have e : (a < mNx (ovs B L z)) = (a < mNx B) := by rw [eq_true ha, ov_nx]; exact eq_true (by omega)
  simp -implicitDefEqProofs only [e]
/-- a row filled -/
theorem o_fill (hB : 64 ≤ mNx B) (hi : i < L.length) (ht : (clD L i).t = 102) {n : Nat} (hn : (clD L i).l = n) (h1000 : n ≤ 1000) {v : Int32} : fJ0_fill (some (mNx B + i)) v (ovs B L z) = some ((), ovs B (clS L i ((clD L i).rI (fun k => if k < n then v else (clD L i).i k))) z) := by
  have loop : ∀ (k fu j : Nat), j + k = n → k < fu → bJ0_fill_5 fu (some (mNx B + i)) v (n2 j) (n2 n) (ovs B (clS L i ((clD L i).rI (fun k => if k < j then v else (clD L i).i k))) z) = some ((), ovs B (clS L i ((clD L i).rI (fun k => if k < n then v else (clD L i).i k))) z) := by
    intro k
    induction k with
    | zero =>
      intro fu j hk hf
      obtain ⟨fu, rfl⟩ : ∃ g, fu = g + 1 := ⟨fu - 1, by omega⟩
      have e : j = n := by omega
      subst e
      show bJ0_fill_5B _ _ _ _ _ _ = _
      unfold bJ0_fill_5B
      rw [if_pos (Int32.le_refl _)]
    | succ k ih =>
      intro fu j hk hf
      obtain ⟨fu, rfl⟩ : ∃ g, fu = g + 1 := ⟨fu - 1, by omega⟩
      have I := ih fu (j + 1) (by omega) (by omega)
      generalize hL2 : clS L i ((clD L i).rI (fun k => if k < j then v else (clD L i).i k)) = L2
      have hi2 : i < L2.length := by rw [← hL2, clS_len]; exact hi
      have hD : clD L2 i = (clD L i).rI (fun k => if k < j then v else (clD L i).i k) := by rw [← hL2, clS_at L i _ hi]
      obtain ⟨c1, c2, c3, c4, c5⟩ := ov_ce (B := B) (z := z) hi2
      have t2 : (clD L2 i).t = 102 := by rw [hD]; exact ht
      have l2 : (clD L2 i).l = n := by rw [hD]; exact hn
      have u : uI (ovs B L2 z) (some (mNx B + i)) (n2 j) v = some (ovs B (clS L i ((clD L i).rI (fun k => if k < j + 1 then v else (clD L i).i k))) z) := by
        have cond : 64 ≤ mNx B + i ∧ mNx B + i < mNx (ovs B L2 z) ∧ mTag (ovs B L2 z) (mNx B + i) = 102 ∧ (0 : Int32) ≤ n2 j ∧ (n2 j).toNatClampNeg < mLen (ovs B L2 z) (mNx B + i) := ⟨by omega, by rw [ov_nx]; omega, by rw [c1]; exact t2, n2_pos (by omega), by rw [c2, n2_nat (by omega), l2]; omega⟩
        refine (if_pos cond).trans ?_
        rw [n2_nat (by omega), o_SI hi2, hD]
        have e2 : clS L2 i (((clD L i).rI (fun k => if k < j then v else (clD L i).i k)).sI j v) = clS L i ((clD L i).rI (fun k => if k < j + 1 then v else (clD L i).i k)) := by
          have e3 : ((clD L i).rI (fun k => if k < j then v else (clD L i).i k)).sI j v = (clD L i).rI (fun k => if k < j + 1 then v else (clD L i).i k) := by
            unfold Cl.sI Cl.rI
            have : upq (fun k => if k < j then v else (clD L i).i k) j v = fun k => if k < j + 1 then v else (clD L i).i k := by
              funext q; unfold upq
              by_cases e : q = j
              · rw [if_pos e, if_pos (by omega)]
              · by_cases e2 : q < j
                · rw [if_neg e]; show (if q < j then v else _) = _; rw [if_pos e2, if_pos (by omega)]
                · rw [if_neg e]; show (if q < j then v else _) = _; rw [if_neg e2, if_neg (by omega)]
            rw [← this]; rfl
          rw [e3, ← hL2]
          have ss : ∀ (M : List Cl) (q : Nat) (d e : Cl), clS (clS M q d) q e = clS M q e := by
            intro M
            induction M with
            | nil => intro q d e; rfl
            | cons c M ihM => intro q d e; cases q with
              | zero => rfl
              | succ q => exact congrArg (c :: ·) (ihM q d e)
          rw [ss]
        rw [e2]
      show bJ0_fill_5B (bJ0_fill_5 fu) _ _ _ _ _ = _
      unfold bJ0_fill_5B
      rw [if_neg (by rw [n2_le (by omega) (by omega)]; omega), u, Option.bind_some, show n2 j + 1 = n2 (j + 1) from n2_add j 1]
      exact I
  obtain ⟨c1, c2, c3, c4, c5⟩ := ov_ce (B := B) (z := z) hi
  have an : aN (ovs B L z) (some (mNx B + i)) = some (n2 n) := by
    have cond : mNx B + i < mNx (ovs B L z) ∧ 100 ≤ mTag (ovs B L z) (mNx B + i) ∧ mTag (ovs B L z) (mNx B + i) < 108 := ⟨by rw [ov_nx]; omega, by rw [c1, ht]; decide, by rw [c1, ht]; decide⟩
    refine (if_pos cond).trans ?_
    rw [c2, hn]; rfl
  have e0 : clS L i ((clD L i).rI (fun k => if k < 0 then v else (clD L i).i k)) = L := by
    have e1 : (clD L i).rI (fun k => if k < 0 then v else (clD L i).i k) = clD L i := by
      have : (fun k => if k < 0 then v else (clD L i).i k) = (clD L i).i := by funext k; rw [if_neg (Nat.not_lt_zero k)]
      rw [this]; rfl
    rw [e1]
    have ss : ∀ (M : List Cl) (q : Nat), q < M.length → clS M q (clD M q) = M := by
      intro M
      induction M with
      | nil => intro q hq; exact absurd hq (Nat.not_lt_zero q)
      | cons c M ihM => intro q hq; cases q with
        | zero => rfl
        | succ q => exact congrArg (c :: ·) (ihM q (Nat.lt_of_succ_lt_succ hq))
    exact ss L i hi
  have := loop n hcFuel 0 (by omega) (by unfold hcFuel; omega)
  rw [e0] at this
  unfold fJ0_fill
  rw [an, Option.bind_some]
  exact this
/-- copies of old rows -/
theorem cp_all {n : Nat} {p : Nat → Bool} (h : ∀ i, i < n → p i = true) : (List.range n).all p = true := by
  rw [List.all_eq_true]; intro i hi; exact h i (List.mem_range.mp hi)
theorem o_cpy {n t : Nat} (hB : 64 ≤ mNx B) (ha : a < mNx B) (hi : i < L.length) (ht : mTag B a = t) (ht2 : (clD L i).t = t) (h1 : 100 ≤ t ∧ t < 106) (hn : n ≤ mLen B a) (hn2 : n ≤ (clD L i).l) (h1000 : n ≤ 1000) (hc : cpOK (ovs B L z) t a 0 n = true) : cpy (ovs B L z) (some a) 0 (some (mNx B + i)) 0 (n2 n) = some (mCopy (ovs B L z) t a (mNx B + i) 0 0 n) := by
  obtain ⟨c1, c2, c3, c4, c5⟩ := ov_ce (B := B) (z := z) hi
  obtain ⟨s1, s2, s3, s4, s5⟩ := ov_lt (L := L) (z := z) ha
  have z0 : (0 : Int32).toNatClampNeg = 0 := by decide
  have cond : 64 ≤ mNx B + i ∧ a < mNx (ovs B L z) ∧ mNx B + i < mNx (ovs B L z) ∧ a ≠ mNx B + i ∧ mTag (ovs B L z) a = mTag (ovs B L z) (mNx B + i) ∧ 100 ≤ mTag (ovs B L z) (mNx B + i) ∧ mTag (ovs B L z) (mNx B + i) < 106 ∧ (0 : Int32) ≤ 0 ∧ (0 : Int32) ≤ 0 ∧ (0 : Int32) ≤ n2 n ∧ (0 : Int32).toNatClampNeg + (n2 n).toNatClampNeg ≤ mLen (ovs B L z) a ∧ (0 : Int32).toNatClampNeg + (n2 n).toNatClampNeg ≤ mLen (ovs B L z) (mNx B + i) ∧ cpOK (ovs B L z) (mTag (ovs B L z) (mNx B + i)) a (0 : Int32).toNatClampNeg (n2 n).toNatClampNeg = true := by
    rw [s1, ht, c1, ht2, s2, c2, z0, n2_nat (by omega), ov_nx]
    exact ⟨by omega, by omega, by omega, by omega, rfl, h1.1, h1.2, by decide, by decide, n2_pos (by omega), by omega, by omega, hc⟩
  refine (if_pos cond).trans ?_
  rw [c1, ht2, z0, n2_nat (by omega)]
theorem o_cpI {n : Nat} (hB : 64 ≤ mNx B) (ha : a < mNx B) (hi : i < L.length) (ht : mTag B a = 102) (ht2 : (clD L i).t = 102) (hn : n ≤ mLen B a) (hn2 : n ≤ (clD L i).l) (h1000 : n ≤ 1000) : cpy (ovs B L z) (some a) 0 (some (mNx B + i)) 0 (n2 n) = some (ovs B (clS L i ((clD L i).rI (va_cpy (mI B a) (clD L i).i 0 0 n))) z) := by
  rw [o_cpy hB ha hi ht ht2 (by decide) hn hn2 h1000 (cp_all (fun _ _ => rfl))]
  obtain ⟨c1, c2, c3, c4, c5⟩ := ov_ce (B := B) (z := z) hi
  obtain ⟨s1, s2, s3, s4, s5⟩ := ov_lt (L := L) (z := z) ha
  unfold mCopy
  rw [if_neg (by decide), if_neg (by decide), s3, c3, o_RI hi]
theorem o_cpJ {n : Nat} (hB : 64 ≤ mNx B) (ha : a < mNx B) (hi : i < L.length) (ht : mTag B a = 103) (ht2 : (clD L i).t = 103) (hn : n ≤ mLen B a) (hn2 : n ≤ (clD L i).l) (h1000 : n ≤ 1000) : cpy (ovs B L z) (some a) 0 (some (mNx B + i)) 0 (n2 n) = some (ovs B (clS L i ((clD L i).rJ (va_cpy (mJ B a) (clD L i).j 0 0 n))) z) := by
  rw [o_cpy hB ha hi ht ht2 (by decide) hn hn2 h1000 (cp_all (fun _ _ => rfl))]
  obtain ⟨c1, c2, c3, c4, c5⟩ := ov_ce (B := B) (z := z) hi
  obtain ⟨s1, s2, s3, s4, s5⟩ := ov_lt (L := L) (z := z) ha
  unfold mCopy
  rw [if_pos rfl, s4, c4, o_RJ hi]
theorem o_cpA {n : Nat} (hB : 64 ≤ mNx B) (ha : a < mNx B) (hi : i < L.length) (ht : mTag B a = 105) (ht2 : (clD L i).t = 105) (hn : n ≤ mLen B a) (hn2 : n ≤ (clD L i).l) (h1000 : n ≤ 1000) (he : ∀ k, k < n → mA B a k = none ∨ ∃ e, mA B a k = some e ∧ e < mNx B ∧ asg 105 (mTag B e) = true) : cpy (ovs B L z) (some a) 0 (some (mNx B + i)) 0 (n2 n) = some (ovs B (clS L i ((clD L i).rA (va_cpy (mA B a) (clD L i).a 0 0 n))) z) := by
  obtain ⟨c1, c2, c3, c4, c5⟩ := ov_ce (B := B) (z := z) hi
  obtain ⟨s1, s2, s3, s4, s5⟩ := ov_lt (L := L) (z := z) ha
  rw [o_cpy hB ha hi ht ht2 (by decide) hn hn2 h1000 (cp_all (fun k hk => by
    rw [if_neg (by decide), if_neg (by decide), if_pos (by decide), s5, Nat.zero_add]
    rcases he k hk with h | ⟨e, h1, h2, h3⟩
    · rw [h]
    · rw [h1]
      show (decide (e < mNx (ovs B L z)) && asg 105 (mTag (ovs B L z) e)) = true
      rw [(ov_lt (L := L) (z := z) h2).1, h3, decide_eq_true (by rw [ov_nx]; omega)]; rfl))]
  unfold mCopy
  rw [if_neg (by decide), if_pos (by decide), s5, c5, o_RA hi]
end Ovs
