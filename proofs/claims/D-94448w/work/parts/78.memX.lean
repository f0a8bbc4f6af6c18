set_option linter.unusedVariables false
set_option linter.unusedSimpArgs false
set_option maxRecDepth 100000
/-! ===== HouseClaps' memory grows ===== -/
/-- a cell is the same in two memories -/
def Sm (st st' : Mem) (a : Nat) : Prop := mTag st' a = mTag st a ∧ mLen st' a = mLen st a ∧ mI st' a = mI st a ∧ mJ st' a = mJ st a ∧ mA st' a = mA st a
theorem Sm.refl (st : Mem) (a : Nat) : Sm st st a := ⟨rfl, rfl, rfl, rfl, rfl⟩
theorem Sm.trans {st st' st'' : Mem} {a : Nat} (h : Sm st st' a) (k : Sm st' st'' a) : Sm st st'' a := ⟨k.1.trans h.1, k.2.1.trans h.2.1, k.2.2.1.trans h.2.2.1, k.2.2.2.1.trans h.2.2.2.1, k.2.2.2.2.trans h.2.2.2.2⟩
theorem up1_or {α : Type} {f g : Nat → α} {c a : Nat} {v w : α} (h : f a = g a ∨ f a = w) : up1 f c v a = up1 g c v a ∨ up1 f c v a = w := by
  by_cases e : a = c
  · subst e; exact Or.inl (by unfold up1; rw [if_pos rfl, if_pos rfl])
  · rw [up1_nq _ _ e, up1_nq _ _ e]; exact h
theorem up1_at {α : Type} (f : Nat → α) (a : Nat) (v : α) : up1 f a v a = v := if_pos rfl
theorem mem_ext {st st' : Mem} (h0 : ∀ a, mTag st a = mTag st' a) (h1 : ∀ a, mLen st a = mLen st' a) (h2 : ∀ a, mI st a = mI st' a) (h3 : ∀ a, mJ st a = mJ st' a) (h4 : ∀ a, mA st a = mA st' a) (h5 : mNx st = mNx st') (h6 : mNs st = mNs st') : st = st' := by
  obtain ⟨a1, a2, a3, a4, a5, a6, a7⟩ := st
  obtain ⟨b1, b2, b3, b4, b5, b6, b7⟩ := st'
  have e1 : a1 = b1 := funext h0
  have e2 : a2 = b2 := funext h1
  have e3 : a3 = b3 := funext h2
  have e4 : a4 = b4 := funext h3
  have e5 : a5 = b5 := funext h4
  have e6 : a6 = b6 := h5
  have e7 : a7 = b7 := h6
  rw [e1, e2, e3, e4, e5, e6, e7]
section MemX
variable {b st : Mem} {x : XS}
theorem or_tag (a : Nat) : mTag (mkX st x) a = mTag (mkX b x) a ∨ mTag (mkX st x) a = mTag st a := by
  show (up1 _ _ _ : Nat → Nat) a = (up1 _ _ _ : Nat → Nat) a ∨ (up1 _ _ _ : Nat → Nat) a = _
  repeat refine up1_or ?_
  exact Or.inr rfl
theorem or_len (a : Nat) : mLen (mkX st x) a = mLen (mkX b x) a ∨ mLen (mkX st x) a = mLen st a := by
  show (up1 _ _ _ : Nat → Nat) a = (up1 _ _ _ : Nat → Nat) a ∨ (up1 _ _ _ : Nat → Nat) a = _
  repeat refine up1_or ?_
  exact Or.inr rfl
theorem row_x {α : Type} {f g h : Nat → α} (h1 : f = g) (h2 : ∀ k, h k = g k ∨ h k = f k) : h = f := by
  funext k
  rcases h2 k with e | e
  · rw [e, h1]
  · exact e
theorem if_or {α : Type} {p : Prop} [Decidable p] {u v w z : α} (h : v = w ∨ v = z) : (if p then u else v) = (if p then u else w) ∨ (if p then u else v) = z := by
  by_cases e : p
  · rw [if_pos e, if_pos e]; exact Or.inl rfl
  · rw [if_neg e, if_neg e]; exact h
theorem mkX_same (h : ∀ a, ¬ dyn a → Sm (mkX b x) st a) : mkX st x = st := by
  have nd : ∀ a, a = 64 ∨ a = 81 ∨ a = 88 ∨ a = 105 → ¬ dyn a := fun a ha => by unfold dyn; omega
  refine mem_ext (fun a => ?_) (fun a => ?_) (fun a => ?_) (fun a => ?_) (fun a => ?_) rfl rfl
  · by_cases hd : dyn a
    · exact ov_tag hd
    · rcases or_tag (b := b) (st := st) (x := x) a with e | e
      · rw [e, (h a hd).1]
      · exact e
  · by_cases hd : dyn a
    · exact ov_len hd
    · rcases or_len (b := b) (st := st) (x := x) a with e | e
      · rw [e, (h a hd).2.1]
      · exact e
  · by_cases hd : dyn a
    · exact ov_I hd
    · by_cases e1 : a = 64
      · subst e1
        refine row_x (h 64 hd).2.2.1 (fun k => ?_)
        show xRI st x k = xRI b x k ∨ xRI st x k = mI st 64 k
        unfold xRI
        repeat refine if_or ?_
        exact Or.inr rfl
      by_cases e2 : a = 81
      · subst e2
        refine row_x (h 81 hd).2.2.1 (fun k => ?_)
        show nRI st 81 x.n0 k = nRI b 81 x.n0 k ∨ nRI st 81 x.n0 k = mI st 81 k
        unfold nRI
        repeat refine if_or ?_
        exact Or.inr rfl
      by_cases e3 : a = 88
      · subst e3
        refine row_x (h 88 hd).2.2.1 (fun k => ?_)
        show nRI st 88 x.n1 k = nRI b 88 x.n1 k ∨ nRI st 88 x.n1 k = mI st 88 k
        unfold nRI
        repeat refine if_or ?_
        exact Or.inr rfl
      by_cases e4 : a = 105
      · subst e4
        refine row_x (h 105 hd).2.2.1 (fun k => ?_)
        show kRI st x k = kRI b x k ∨ kRI st x k = mI st 105 k
        unfold kRI
        repeat refine if_or ?_
        exact Or.inr rfl
      have o : mI (mkX st x) a = mI (mkX b x) a ∨ mI (mkX st x) a = mI st a := by
        show (up1 _ _ _ : Nat → Nat → Int32) a = (up1 _ _ _ : Nat → Nat → Int32) a ∨ (up1 _ _ _ : Nat → Nat → Int32) a = _
        rw [up1_nq _ _ e1, up1_nq _ _ e1, up1_nq _ _ e2, up1_nq _ _ e2, up1_nq _ _ e3, up1_nq _ _ e3, up1_nq _ _ e4, up1_nq _ _ e4]
        repeat refine up1_or ?_
        exact Or.inr rfl
      rcases o with e | e
      · rw [e, (h a hd).2.2.1]
      · exact e
  · by_cases hd : dyn a
    · exact ov_J hd
    · by_cases e1 : a = 64
      · subst e1
        refine row_x (h 64 hd).2.2.2.1 (fun k => ?_)
        show xRJ st x k = xRJ b x k ∨ xRJ st x k = mJ st 64 k
        unfold xRJ
        repeat refine if_or ?_
        exact Or.inr rfl
      by_cases e2 : a = 81
      · subst e2
        refine row_x (h 81 hd).2.2.2.1 (fun k => ?_)
        show nRJ st 81 x.n0 k = nRJ b 81 x.n0 k ∨ nRJ st 81 x.n0 k = mJ st 81 k
        unfold nRJ
        repeat refine if_or ?_
        exact Or.inr rfl
      by_cases e3 : a = 88
      · subst e3
        refine row_x (h 88 hd).2.2.2.1 (fun k => ?_)
        show nRJ st 88 x.n1 k = nRJ b 88 x.n1 k ∨ nRJ st 88 x.n1 k = mJ st 88 k
        unfold nRJ
        repeat refine if_or ?_
        exact Or.inr rfl
      have o : mJ (mkX st x) a = mJ (mkX b x) a ∨ mJ (mkX st x) a = mJ st a := by
        show (up1 _ _ _ : Nat → Nat → Int64) a = (up1 _ _ _ : Nat → Nat → Int64) a ∨ (up1 _ _ _ : Nat → Nat → Int64) a = _
        rw [up1_nq _ _ e1, up1_nq _ _ e1, up1_nq _ _ e2, up1_nq _ _ e2, up1_nq _ _ e3, up1_nq _ _ e3]
        repeat refine up1_or ?_
        exact Or.inr rfl
      rcases o with e | e
      · rw [e, (h a hd).2.2.2.1]
      · exact e
  · by_cases hd : dyn a
    · exact ov_A hd
    · by_cases e1 : a = 64
      · subst e1
        refine row_x (h 64 hd).2.2.2.2 (fun k => ?_)
        show xRA st x k = xRA b x k ∨ xRA st x k = mA st 64 k
        unfold xRA
        repeat refine if_or ?_
        exact Or.inr rfl
      by_cases e2 : a = 81
      · subst e2
        refine row_x (h 81 hd).2.2.2.2 (fun k => ?_)
        show nRA st 81 x.n0 k = nRA b 81 x.n0 k ∨ nRA st 81 x.n0 k = mA st 81 k
        unfold nRA
        repeat refine if_or ?_
        exact Or.inr rfl
      by_cases e3 : a = 88
      · subst e3
        refine row_x (h 88 hd).2.2.2.2 (fun k => ?_)
        show nRA st 88 x.n1 k = nRA b 88 x.n1 k ∨ nRA st 88 x.n1 k = mA st 88 k
        unfold nRA
        repeat refine if_or ?_
        exact Or.inr rfl
      by_cases e4 : a = 105
      · subst e4
        refine row_x (h 105 hd).2.2.2.2 (fun k => ?_)
        show kRA st x k = kRA b x k ∨ kRA st x k = mA st 105 k
        unfold kRA
        repeat refine if_or ?_
        exact Or.inr rfl
      have o : mA (mkX st x) a = mA (mkX b x) a ∨ mA (mkX st x) a = mA st a := by
        show (up1 _ _ _ : Nat → Nat → Rf) a = (up1 _ _ _ : Nat → Nat → Rf) a ∨ (up1 _ _ _ : Nat → Nat → Rf) a = _
        rw [up1_nq _ _ e1, up1_nq _ _ e1, up1_nq _ _ e2, up1_nq _ _ e2, up1_nq _ _ e3, up1_nq _ _ e3, up1_nq _ _ e4, up1_nq _ _ e4]
        repeat refine up1_or ?_
        exact Or.inr rfl
      rcases o with e | e
      · rw [e, (h a hd).2.2.2.2]
      · exact e
end MemX
