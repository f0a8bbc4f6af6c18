set_option linter.unusedVariables false
set_option linter.unusedSimpArgs false
theorem gI_of {st : Mem} {a t f : Nat} (h : a < mNx st) (ht : mTag st a = t) (hc : (fl t).contains f = true ∧ (fty f = 0 ∨ fty f = 3 ∨ fty f = 4)) : gI st (some a) f = some (mI st a f) := by
  subst ht; exact if_pos ⟨h, hc.1, hc.2⟩
theorem gJ_of {st : Mem} {a t f : Nat} (h : a < mNx st) (ht : mTag st a = t) (hc : (fl t).contains f = true ∧ fty f = 1) : gJ st (some a) f = some (mJ st a f) := by
  subst ht; exact if_pos ⟨h, hc.1, hc.2⟩
theorem gA_of {st : Mem} {a t f : Nat} (h : a < mNx st) (ht : mTag st a = t) (hc : (fl t).contains f = true ∧ fty f = 2) : gA st (some a) f = some (mA st a f) := by
  subst ht; exact if_pos ⟨h, hc.1, hc.2⟩
theorem pI_of {st : Mem} {a t f : Nat} {x : Int32} (h0 : 64 ≤ a) (h : a < mNx st) (ht : mTag st a = t) (hc : (fl t).contains f = true) (hv : fty f = 0 ∨ (fty f = 3 ∧ (x = 0 ∨ x = 1)) ∨ (fty f = 4 ∧ x = 0)) : pI st (some a) f x = some (mSI st a f x) := by
  subst ht; exact if_pos ⟨h0, h, hc, hv⟩
theorem pJ_of {st : Mem} {a t f : Nat} {x : Int64} (h0 : 64 ≤ a) (h : a < mNx st) (ht : mTag st a = t) (hc : (fl t).contains f = true ∧ fty f = 1) : pJ st (some a) f x = some (mSJ st a f x) := by
  subst ht; exact if_pos ⟨h0, h, hc.1, hc.2⟩
theorem pA_of {st : Mem} {a t f : Nat} {x : Rf} (h0 : 64 ≤ a) (h : a < mNx st) (ht : mTag st a = t) (hc : (fl t).contains f = true ∧ fty f = 2) : pA st (some a) f x = some (mSA st a f x) := by
  subst ht; exact if_pos ⟨h0, h, hc.1, hc.2⟩
theorem ifx_of {α : Type} {P : Prop} [Decidable P] {n : Nat} {i : Int32} {x : α} (h : P ↔ (0 ≤ i ∧ i.toNatClampNeg < n)) : (if P then some x else none) = ifx n i x := by
  unfold ifx; by_cases hp : P
  · rw [if_pos hp, if_pos (h.mp hp)]
  · rw [if_neg hp, if_neg (fun c => hp (h.mpr c))]
theorem aI_of {st : Mem} {a n : Nat} {i : Int32} (h : a < mNx st) (ht : mTag st a = 102) (hl : mLen st a = n) : aI st (some a) i = ifx n i (mI st a i.toNatClampNeg) :=
  ifx_of ⟨fun c => ⟨c.2.2.1, hl ▸ c.2.2.2⟩, fun c => ⟨h, ht, c.1, hl.symm ▸ c.2⟩⟩
theorem aB_of {st : Mem} {a n : Nat} {i : Int32} (h : a < mNx st) (ht : mTag st a = 100 ∨ mTag st a = 101) (hl : mLen st a = n) : aB st (some a) i = ifx n i (mI st a i.toNatClampNeg) :=
  ifx_of ⟨fun c => ⟨c.2.2.1, hl ▸ c.2.2.2⟩, fun c => ⟨h, ht, c.1, hl.symm ▸ c.2⟩⟩
theorem aJ_of {st : Mem} {a n : Nat} {i : Int32} (h : a < mNx st) (ht : mTag st a = 103) (hl : mLen st a = n) : aJ st (some a) i = ifx n i (mJ st a i.toNatClampNeg) :=
  ifx_of ⟨fun c => ⟨c.2.2.1, hl ▸ c.2.2.2⟩, fun c => ⟨h, ht, c.1, hl.symm ▸ c.2⟩⟩
theorem aA_of {st : Mem} {a n : Nat} {i : Int32} (h : a < mNx st) (ht : 104 ≤ mTag st a ∧ mTag st a < 108) (hl : mLen st a = n) : aA st (some a) i = ifx n i (mA st a i.toNatClampNeg) :=
  ifx_of ⟨fun c => ⟨c.2.2.2.1, hl ▸ c.2.2.2.2⟩, fun c => ⟨h, ht.1, ht.2, c.1, hl.symm ▸ c.2⟩⟩
theorem aN_of {st : Mem} {a n t : Nat} (h : a < mNx st) (ht : mTag st a = t) (hl : mLen st a = n) (hc : 100 ≤ t ∧ t < 108) : aN st (some a) = some (Int32.ofNat n) := by
  subst ht; subst hl; exact if_pos ⟨h, hc.1, hc.2⟩
theorem uI_of {st : Mem} {a n : Nat} {i v : Int32} (h0 : 64 ≤ a) (h : a < mNx st) (ht : mTag st a = 102) (hl : mLen st a = n) : uI st (some a) i v = ifx n i (mSI st a i.toNatClampNeg v) :=
  ifx_of ⟨fun c => ⟨c.2.2.2.1, hl ▸ c.2.2.2.2⟩, fun c => ⟨h0, h, ht, c.1, hl.symm ▸ c.2⟩⟩
theorem uJ_of {st : Mem} {a n : Nat} {i : Int32} {v : Int64} (h0 : 64 ≤ a) (h : a < mNx st) (ht : mTag st a = 103) (hl : mLen st a = n) : uJ st (some a) i v = ifx n i (mSJ st a i.toNatClampNeg v) :=
  ifx_of ⟨fun c => ⟨c.2.2.2.1, hl ▸ c.2.2.2.2⟩, fun c => ⟨h0, h, ht, c.1, hl.symm ▸ c.2⟩⟩
theorem uB_of {st : Mem} {a n : Nat} {i v : Int32} (h0 : 64 ≤ a) (h : a < mNx st) (ht : mTag st a = 100 ∨ mTag st a = 101) (hl : mLen st a = n) : uB st (some a) i v = ifx n i (mSI st a i.toNatClampNeg (if mTag st a = 100 then v.toInt8.toInt32 else nz v)) :=
  ifx_of ⟨fun c => ⟨c.2.2.2.1, hl ▸ c.2.2.2.2⟩, fun c => ⟨h0, h, ht, c.1, hl.symm ▸ c.2⟩⟩
theorem up2_row {α : Type} (f : Nat → Nat → α) (a k : Nat) (v : α) (g : Nat → α) : up2 (up1 f a g) a k v = up1 f a (upq g k v) := by
  funext x y; unfold up2 up1 upq
  by_cases h : x = a
  · simp only [h, if_true]
  · simp only [h, if_false]
theorem up2_nq {α : Type} (f : Nat → Nat → α) {a c : Nat} (k : Nat) (v : α) (g : Nat → α) (h : a ≠ c) : up2 (up1 f c g) a k v = up1 (up2 f a k v) c g := by
  funext x y; unfold up2 up1
  by_cases hx : x = a
  · subst hx; simp only [h, if_false, if_true]
  · by_cases hc : x = c
    · subst hc; simp only [hx, if_false, if_true]
    · simp only [hx, hc, if_false]
theorem bd_some {α β : Type} (v : α) (st : Mem) (f : α → Mem → Option β) : bd (some (v, st)) f = f v st := rfl
theorem mSI_eq {st st' : Mem} {a k : Nat} {v : Int32} (h0 : st.1 = st'.1) (h1 : st.2.1 = st'.2.1) (h2 : up2 st.2.2.1 a k v = st'.2.2.1) (h3 : st.2.2.2 = st'.2.2.2) : mSI st a k v = st' := by
  unfold mSI; rw [h0, h1, h2, h3]
theorem mSJ_eq {st st' : Mem} {a k : Nat} {v : Int64} (h0 : st.1 = st'.1) (h1 : st.2.1 = st'.2.1) (h2 : st.2.2.1 = st'.2.2.1) (h3 : up2 st.2.2.2.1 a k v = st'.2.2.2.1) (h4 : st.2.2.2.2 = st'.2.2.2.2) : mSJ st a k v = st' := by
  unfold mSJ; rw [h0, h1, h2, h3, h4]
theorem mSA_eq {st st' : Mem} {a k : Nat} {v : Rf} (h0 : st.1 = st'.1) (h1 : st.2.1 = st'.2.1) (h2 : st.2.2.1 = st'.2.2.1) (h3 : st.2.2.2.1 = st'.2.2.2.1) (h4 : up2 st.2.2.2.2.1 a k v = st'.2.2.2.2.1) (h5 : st.2.2.2.2.2 = st'.2.2.2.2.2) : mSA st a k v = st' := by
  unfold mSA; rw [h0, h1, h2, h3, h4, h5]
