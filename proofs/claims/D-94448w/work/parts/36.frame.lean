/-! ===== two memories on one heap ===== -/
/-- a's cells, and b's where a has none; the room used is a's -/
def mU (a b : Mem) : Mem :=
  (fun x => if mTag a x = 0 then mTag b x else mTag a x,
   fun x => if mTag a x = 0 then (if mTag b x = 0 then 0 else mLen b x) else mLen a x,
   fun x => if mTag a x = 0 then (if mTag b x = 0 then fun _ => 0 else b.2.2.1 x) else a.2.2.1 x,
   fun x => if mTag a x = 0 then (if mTag b x = 0 then fun _ => 0 else b.2.2.2.1 x) else a.2.2.2.1 x,
   fun x => if mTag a x = 0 then (if mTag b x = 0 then fun _ => none else b.2.2.2.2.1 x) else a.2.2.2.2.1 x,
   mNx a, mNs a)
theorem mU_nx (a b : Mem) : mNx (mU a b) = mNx a ∧ mNs (mU a b) = mNs a := ⟨rfl, rfl⟩
theorem mU_tag {a b : Mem} {x : Nat} (h : mTag a x ≠ 0) : mTag (mU a b) x = mTag a x := if_neg h
theorem mU_tag0 {a b : Mem} {x : Nat} (h : mTag a x = 0) : mTag (mU a b) x = mTag b x := if_pos h
theorem okCell.none {w : Wd} {st : Mem} {H : Heap} {x : Nat} (h : mTag st x = 0) : okCell w st H x := ⟨fun h1 => by omega, fun h1 _ => by omega⟩
theorem okCell.ofU {w : Wd} {a b : Mem} {H : Heap} {x : Nat} (h : okCell w (mU a b) H x) : okCell w a H x := by
  by_cases h0 : mTag a x = 0
  · exact okCell.none h0
  · exact h.congr (if_neg h0).symm (if_neg h0).symm (fun j => (congrFun (if_neg h0) j).symm) (fun j => (congrFun (if_neg h0) j).symm) (fun j => (congrFun (if_neg h0) j).symm)
theorem okCell.toU {w : Wd} {a b : Mem} {H : Heap} {x : Nat} (h0 : mTag a x ≠ 0) (h : okCell w a H x) : okCell w (mU a b) H x :=
  h.congr (if_neg h0) (if_neg h0) (fun j => congrFun (if_neg h0) j) (fun j => congrFun (if_neg h0) j) (fun j => congrFun (if_neg h0) j)
theorem mU_53 {a b : Mem} (h : mTag (mU a b) 53 = 0) : mTag a 53 = 0 ∧ mTag b 53 = 0 := by
  by_cases h0 : mTag a 53 = 0
  · exact ⟨h0, by rw [mU_tag0 h0] at h; exact h⟩
  · rw [mU_tag h0] at h; exact absurd h h0
theorem mU_54 {a b : Mem} (h : mTag (mU a b) 54 = 0 ∨ mTag (mU a b) 54 = 102) : mTag a 54 = 0 ∨ mTag a 54 = 102 := by
  by_cases h0 : mTag a 54 = 0
  · exact Or.inl h0
  · rw [mU_tag h0] at h; exact h
theorem Rel.ofU {w : Wd} {a b : Mem} {H : Heap} (h : Rel w (mU a b) H) : Rel w a H := ⟨fun x hx => (h.1 x hx).ofU, h.2.1, h.2.2.1, h.2.2.2.1, h.2.2.2.2.1, h.2.2.2.2.2.1, h.2.2.2.2.2.2.1, h.2.2.2.2.2.2.2.1, (mU_53 h.2.2.2.2.2.2.2.2.1).1, mU_54 h.2.2.2.2.2.2.2.2.2⟩
/-- where both a and f have no cell, the unions are b's -/
theorem okCell.swap {w : Wd} {a f b : Mem} {H : Heap} {x : Nat} (h0 : mTag a x = 0) (h1 : mTag f x = 0) (h : okCell w (mU a b) H x) : okCell w (mU f b) H x :=
  h.congr ((if_pos h1).trans (if_pos h0).symm) ((if_pos h1).trans (if_pos h0).symm) (fun j => congrFun ((if_pos h1).trans (if_pos h0).symm) j) (fun j => congrFun ((if_pos h1).trans (if_pos h0).symm) j) (fun j => congrFun ((if_pos h1).trans (if_pos h0).symm) j)
theorem Rel.frame {w : Wd} {a b f : Mem} {H0 H : Heap} (hU : Rel w (mU a b) H0) (hle : mLe a f) (hb : ∀ x, mNx a ≤ x → mTag b x = 0) (hf : Rel w f H) (hk : ∀ q : Nat, q < H0.size → ¬ zA w a H0 q → H[q]? = H0[q]?) : Rel w (mU f b) H := by
  have t53 : mTag (mU f b) 53 = 0 := (mU_tag0 hf.2.2.2.2.2.2.2.2.1).trans (mU_53 hU.2.2.2.2.2.2.2.2.1).2
  have t54 : mTag (mU f b) 54 = mTag (mU a b) 54 := by
    have e := hle.2.2 54 (Nat.lt_of_lt_of_le (by decide) hU.2.2.2.2.2.1)
    show (if mTag f 54 = 0 then mTag b 54 else mTag f 54) = if mTag a 54 = 0 then mTag b 54 else mTag a 54
    rw [e]
  refine ⟨fun x hx => ?_, hf.2.1, hf.2.2.1, hf.2.2.2.1, hf.2.2.2.2.1, hf.2.2.2.2.2.1, hf.2.2.2.2.2.2.1, hf.2.2.2.2.2.2.2.1, t53, by rw [t54]; exact hU.2.2.2.2.2.2.2.2.2⟩
  by_cases h53 : x = 53
  · rw [h53]; exact okCell.none t53
  by_cases h1 : mTag f x = 0
  · by_cases h2 : x < mNx a
    · have h0 : mTag a x = 0 := by rw [← hle.2.2 x h2]; exact h1
      have ok := hU.1 x h2
      refine (ok.swap h0 h1).kept (hk _ (hU.2.2.2.2.2.2.2.1 x h2 h53) ?_)
      rintro (⟨c, c1, c2, c3, c4⟩ | c)
      · have := hU.2.1 c x c1 c2 h2 h53 c4
        subst this
        exact c3 h0
      · have := hU.2.2.2.2.2.2.2.1 x h2 h53
        omega
    · exact okCell.none (by rw [mU_tag0 h1]; exact hb x (by omega))
  · exact (hf.1 x hx).toU h1
theorem mLe.U {a f b : Mem} (h : mLe a f) : mLe (mU a b) (mU f b) := ⟨h.1, h.2.1, fun x hx => by
  have e := h.2.2 x hx
  show (if mTag f x = 0 then mTag b x else mTag f x) = if mTag a x = 0 then mTag b x else mTag a x
  rw [e]⟩
theorem zA.U {w : Wd} {a b : Mem} {H : Heap} {q : Nat} (h : zA w a H q) : zA w (mU a b) H q := by
  rcases h with ⟨x, h1, h2, h3, h4⟩ | h
  · exact Or.inl ⟨x, h1, h2, by rw [mU_tag h3]; exact h3, h4⟩
  · exact Or.inr h
/-- THE FRAME RULE -/
theorem Con.frame {y : MethodName} {lev : Nat} {av : List Ev} {a b : Mem} {β : Type} {tr : β → Rs} {fin : β × Mem} (hb : ∀ x, mNx a ≤ x → mTag b x = 0) (c : Con y lev av a tr fin) : Con y lev av (mU a b) tr (fin.1, mU fin.2 b) := by
  refine ⟨c.1.U, c.2.1, fun k w h1 h2 h3 h4 h5 h6 h0 h7 h8 h9 h10 h11 T hT X => ?_⟩
  obtain ⟨t, hs, o, z1, z2, z3, ⟨L, z4, z5⟩, z6, z7, z8⟩ := c.2.2 k w h1 h2 h3 h4 h5 h6 h0 h7 h8 h9 h10 h11.ofU T hT X
  exact ⟨t, hs, o, z1, z2, z3, ⟨L, z4, fun q hq => (z5 q hq).U⟩, z6, h11.frame c.1 hb z7 z8.2, z8.1, fun q hq hn => z8.2 q hq fun h => hn h.U⟩
/-- the other way about -/
theorem mU_comm {a b : Mem} (h1 : mNx a = mNx b) (h2 : mNs a = mNs b) (h : ∀ x, mTag a x = 0 ∨ mTag b x = 0 ∨ (mTag a x = mTag b x ∧ mLen a x = mLen b x ∧ a.2.2.1 x = b.2.2.1 x ∧ a.2.2.2.1 x = b.2.2.2.1 x ∧ a.2.2.2.2.1 x = b.2.2.2.2.1 x)) : mU a b = mU b a := by
  unfold mU
  rw [h1, h2]
  have key : ∀ {α : Type} (f g z : α) (x : Nat), (mTag a x = 0 ∨ mTag b x = 0 ∨ f = g) → (if mTag a x = 0 then (if mTag b x = 0 then z else g) else f) = if mTag b x = 0 then (if mTag a x = 0 then z else f) else g := by
    intro α f g z x hx
    by_cases e1 : mTag a x = 0 <;> by_cases e2 : mTag b x = 0 <;> simp_all
  have kt : ∀ x, (if mTag a x = 0 then mTag b x else mTag a x) = if mTag b x = 0 then mTag a x else mTag b x := by
    intro x
    rcases h x with e | e | e
    · by_cases e2 : mTag b x = 0 <;> simp_all
    · by_cases e2 : mTag a x = 0 <;> simp_all
    · rw [e.1]
  congr 1
  · funext x; exact kt x
  · congr 1
    · funext x; exact key _ _ _ x ((h x).imp id (Or.imp id fun e => e.2.1))
    · congr 1
      · funext x; exact key _ _ _ x ((h x).imp id (Or.imp id fun e => e.2.2.1))
      · congr 1
        · funext x; exact key _ _ _ x ((h x).imp id (Or.imp id fun e => e.2.2.2.1))
        · congr 1
          funext x; exact key _ _ _ x ((h x).imp id (Or.imp id fun e => e.2.2.2.2))
