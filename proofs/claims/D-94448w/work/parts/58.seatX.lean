set_option linter.unusedVariables false
set_option linter.unusedSimpArgs false
set_option maxRecDepth 100000
/-! ===== the seats of a moment in HouseClaps ===== -/
def wthUp (w : Nat → Int64) (s lv : Nat) : Nat → Int64 := if lv = 0 then w else if lv = 1 then upq w 1 (w 1 ||| bitS s) else upq (upq w 1 (w 1 ||| bitS s)) 2 (w 2 ||| bitS s)
def goY (y : NX) (s lv : Nat) (hv : Int32) : NX := ((y.s_level (upq y.level s (n2 lv))).s_held (upq y.held s hv)).s_wth (wthUp y.wth s lv)
theorem lvOf_put {A : Ac} {s lv sn : Nat} (hs : s < 64) (hl : lv ≤ 2) (h1 : tb A.a1 s = false) (h2 : tb A.a2 s = false) : lvOf (putLv A s lv sn).a1 (putLv A s lv sn).a2 s = lv := by
  unfold lvOf putLv
  simp only [mk_Ac_a1, mk_Ac_a2, tb_or, h1, h2, Bool.false_or]
  rcases (by omega : lv = 0 ∨ lv = 1 ∨ lv = 2) with e | e | e <;> subst e <;> simp [tb_zero, tb_bitS hs]
theorem hdOf_put {A : Ac} {s lv sn : Nat} (hs : s < 64) (hl : sn ≤ 3) (h1 : tb A.l s = false) (h2 : tb A.h s = false) : hdOf (putLv A s lv sn).l (putLv A s lv sn).h s = sn := by
  unfold hdOf putLv
  simp only [mk_Ac_l, mk_Ac_h, tb_or, h1, h2, Bool.false_or]
  rcases (by omega : sn = 0 ∨ sn = 1 ∨ sn = 2 ∨ sn = 3) with e | e | e | e <;> subst e <;> simp [tb_zero, tb_bitS hs]
theorem lvOf_congr {a b c d : Int64} {u : Nat} (h1 : tb a u = tb c u) (h2 : tb b u = tb d u) : lvOf a b u = lvOf c d u := by unfold lvOf; rw [h1, h2]
theorem hdOf_congr {a b c d : Int64} {u : Nat} (h1 : tb a u = tb c u) (h2 : tb b u = tb d u) : hdOf a b u = hdOf c d u := by unfold hdOf; rw [h1, h2]
/-- the seats of a moment, up to seat s -/
abbrev XSt (y : NX) (h c : Nat) (H : HS) (t : Nat) (P : Int64 × Int64 × Bool) (N : NT) (nx s : Nat) (ah : Int64) : Prop := (y.h = some h) ∧ (y.cues = some c) ∧ (y.now = n2 t) ∧ (y.next = n2 nx) ∧ (y.paid = P.1) ∧ (y.hiss = P.2.1) ∧ (y.isStill = b2i P.2.2) ∧ (∀ u, u < H.size → y.was u = n2 (lvOf N.c1 N.c2 u)) ∧ (∀ u, u < H.size → H.kind u ≠ 0 → y.wasHeld u = n2 (hdOf N.lo N.hi u)) ∧ (y.wasWith 1 = N.c1) ∧ (y.wasWith 2 = N.c2) ∧ (y.wth 1 = (seatRun H t P N s).a1) ∧ (y.wth 2 = (seatRun H t P N s).a2) ∧ (∀ u, u < s → y.level u = n2 (lvOf (seatRun H t P N s).a1 (seatRun H t P N s).a2 u)) ∧ (∀ u, u < s → H.kind u ≠ 0 → y.held u = n2 (hdOf (seatRun H t P N s).l (seatRun H t P N s).h u)) ∧ (y.ahead = ah)
theorem XSt.h_ {y : NX} {h c : Nat} {H : HS} {t : Nat} {P : Int64 × Int64 × Bool} {N : NT} {nx s : Nat} {ah : Int64} (self : XSt y h c H t P N nx s ah) : y.h = some h := self.1
theorem XSt.cs {y : NX} {h c : Nat} {H : HS} {t : Nat} {P : Int64 × Int64 × Bool} {N : NT} {nx s : Nat} {ah : Int64} (self : XSt y h c H t P N nx s ah) : y.cues = some c := self.2.1
theorem XSt.now {y : NX} {h c : Nat} {H : HS} {t : Nat} {P : Int64 × Int64 × Bool} {N : NT} {nx s : Nat} {ah : Int64} (self : XSt y h c H t P N nx s ah) : y.now = n2 t := self.2.2.1
theorem XSt.next {y : NX} {h c : Nat} {H : HS} {t : Nat} {P : Int64 × Int64 × Bool} {N : NT} {nx s : Nat} {ah : Int64} (self : XSt y h c H t P N nx s ah) : y.next = n2 nx := self.2.2.2.1
theorem XSt.paid {y : NX} {h c : Nat} {H : HS} {t : Nat} {P : Int64 × Int64 × Bool} {N : NT} {nx s : Nat} {ah : Int64} (self : XSt y h c H t P N nx s ah) : y.paid = P.1 := self.2.2.2.2.1
theorem XSt.hiss {y : NX} {h c : Nat} {H : HS} {t : Nat} {P : Int64 × Int64 × Bool} {N : NT} {nx s : Nat} {ah : Int64} (self : XSt y h c H t P N nx s ah) : y.hiss = P.2.1 := self.2.2.2.2.2.1
theorem XSt.still {y : NX} {h c : Nat} {H : HS} {t : Nat} {P : Int64 × Int64 × Bool} {N : NT} {nx s : Nat} {ah : Int64} (self : XSt y h c H t P N nx s ah) : y.isStill = b2i P.2.2 := self.2.2.2.2.2.2.1
theorem XSt.was {y : NX} {h c : Nat} {H : HS} {t : Nat} {P : Int64 × Int64 × Bool} {N : NT} {nx s : Nat} {ah : Int64} (self : XSt y h c H t P N nx s ah) : ∀ u, u < H.size → y.was u = n2 (lvOf N.c1 N.c2 u) := self.2.2.2.2.2.2.2.1
theorem XSt.wasHeld {y : NX} {h c : Nat} {H : HS} {t : Nat} {P : Int64 × Int64 × Bool} {N : NT} {nx s : Nat} {ah : Int64} (self : XSt y h c H t P N nx s ah) : ∀ u, u < H.size → H.kind u ≠ 0 → y.wasHeld u = n2 (hdOf N.lo N.hi u) := self.2.2.2.2.2.2.2.2.1
theorem XSt.w1 {y : NX} {h c : Nat} {H : HS} {t : Nat} {P : Int64 × Int64 × Bool} {N : NT} {nx s : Nat} {ah : Int64} (self : XSt y h c H t P N nx s ah) : y.wasWith 1 = N.c1 := self.2.2.2.2.2.2.2.2.2.1
theorem XSt.w2 {y : NX} {h c : Nat} {H : HS} {t : Nat} {P : Int64 × Int64 × Bool} {N : NT} {nx s : Nat} {ah : Int64} (self : XSt y h c H t P N nx s ah) : y.wasWith 2 = N.c2 := self.2.2.2.2.2.2.2.2.2.2.1
theorem XSt.a1 {y : NX} {h c : Nat} {H : HS} {t : Nat} {P : Int64 × Int64 × Bool} {N : NT} {nx s : Nat} {ah : Int64} (self : XSt y h c H t P N nx s ah) : y.wth 1 = (seatRun H t P N s).a1 := self.2.2.2.2.2.2.2.2.2.2.2.1
theorem XSt.a2 {y : NX} {h c : Nat} {H : HS} {t : Nat} {P : Int64 × Int64 × Bool} {N : NT} {nx s : Nat} {ah : Int64} (self : XSt y h c H t P N nx s ah) : y.wth 2 = (seatRun H t P N s).a2 := self.2.2.2.2.2.2.2.2.2.2.2.2.1
theorem XSt.level {y : NX} {h c : Nat} {H : HS} {t : Nat} {P : Int64 × Int64 × Bool} {N : NT} {nx s : Nat} {ah : Int64} (self : XSt y h c H t P N nx s ah) : ∀ u, u < s → y.level u = n2 (lvOf (seatRun H t P N s).a1 (seatRun H t P N s).a2 u) := self.2.2.2.2.2.2.2.2.2.2.2.2.2.1
theorem XSt.held {y : NX} {h c : Nat} {H : HS} {t : Nat} {P : Int64 × Int64 × Bool} {N : NT} {nx s : Nat} {ah : Int64} (self : XSt y h c H t P N nx s ah) : ∀ u, u < s → H.kind u ≠ 0 → y.held u = n2 (hdOf (seatRun H t P N s).l (seatRun H t P N s).h u) := self.2.2.2.2.2.2.2.2.2.2.2.2.2.2.1
theorem XSt.ahead {y : NX} {h c : Nat} {H : HS} {t : Nat} {P : Int64 × Int64 × Bool} {N : NT} {nx s : Nat} {ah : Int64} (self : XSt y h c H t P N nx s ah) : y.ahead = ah := self.2.2.2.2.2.2.2.2.2.2.2.2.2.2.2
/-- a night after its moment t -/
abbrev XNt (y : NX) (h c : Nat) (H : HS) (N : NT) (t : Nat) : Prop := (y.h = some h) ∧ (y.cues = some c) ∧ (y.now = n2 t) ∧ (y.next = n2 N.next) ∧ (y.paid = N.paid) ∧ (y.hiss = N.hiss) ∧ (y.wth 1 = N.c1) ∧ (y.wth 2 = N.c2) ∧ (∀ u, u < H.size → y.level u = n2 (lvOf N.c1 N.c2 u)) ∧ (∀ u, u < H.size → H.kind u ≠ 0 → y.held u = n2 (hdOf N.lo N.hi u))
theorem XNt.h_ {y : NX} {h c : Nat} {H : HS} {N : NT} {t : Nat} (self : XNt y h c H N t) : y.h = some h := self.1
theorem XNt.cs {y : NX} {h c : Nat} {H : HS} {N : NT} {t : Nat} (self : XNt y h c H N t) : y.cues = some c := self.2.1
theorem XNt.now {y : NX} {h c : Nat} {H : HS} {N : NT} {t : Nat} (self : XNt y h c H N t) : y.now = n2 t := self.2.2.1
theorem XNt.next {y : NX} {h c : Nat} {H : HS} {N : NT} {t : Nat} (self : XNt y h c H N t) : y.next = n2 N.next := self.2.2.2.1
theorem XNt.paid {y : NX} {h c : Nat} {H : HS} {N : NT} {t : Nat} (self : XNt y h c H N t) : y.paid = N.paid := self.2.2.2.2.1
theorem XNt.hiss {y : NX} {h c : Nat} {H : HS} {N : NT} {t : Nat} (self : XNt y h c H N t) : y.hiss = N.hiss := self.2.2.2.2.2.1
theorem XNt.a1 {y : NX} {h c : Nat} {H : HS} {N : NT} {t : Nat} (self : XNt y h c H N t) : y.wth 1 = N.c1 := self.2.2.2.2.2.2.1
theorem XNt.a2 {y : NX} {h c : Nat} {H : HS} {N : NT} {t : Nat} (self : XNt y h c H N t) : y.wth 2 = N.c2 := self.2.2.2.2.2.2.2.1
theorem XNt.level {y : NX} {h c : Nat} {H : HS} {N : NT} {t : Nat} (self : XNt y h c H N t) : ∀ u, u < H.size → y.level u = n2 (lvOf N.c1 N.c2 u) := self.2.2.2.2.2.2.2.2.1
theorem XNt.held {y : NX} {h c : Nat} {H : HS} {N : NT} {t : Nat} (self : XNt y h c H N t) : ∀ u, u < H.size → H.kind u ≠ 0 → y.held u = n2 (hdOf N.lo N.hi u) := self.2.2.2.2.2.2.2.2.2
section SeatX
variable {b : Mem} {x : XS} {q : Bool} {h c e t s nx own lv : Nat} {H : HS} {C : List Cu} {k : Cu} {Q P : Int64 × Int64 × Bool} {N : NT} {ah : Int64}
theorem X_go65 (hb : 131 ≤ mNx b) (f : Nat) (hs : s < 64) (hl : lv ≤ 2) (hv : (x.n q).level s = n2 lv) :
    bX3_go_65 (f + 3) (some (nid q)) (n2 s) (1 : Int32) (mkX b x) = some ((), mkX b (x.setN q ((x.n q).s_wth (wthUp (x.n q).wth s lv)))) := by
  have e1 : ifx 3 (1 : Int32) ((x.n q).wth (1 : Int32).toNatClampNeg) = some ((x.n q).wth 1) := ifx_k (k := 1) (by decide) (by decide)
  have lvl : ∀ z : XS, (z.n q).level s = n2 lv → aI (mkX b z) (some (nid q + (if (z.n q).sw then 1 else 2))) (n2 s) = some (n2 lv) := fun z hz => by rw [aN_level hb, ifx_k hs (by omega), n2_nat (by omega), hz]
  have one : ∀ (z : XS) (g l : Nat), (z.n q).level s = n2 lv → l < 3 → l ≤ lv → bX3_go_65 (g + 1) (some (nid q)) (n2 s) (n2 l) (mkX b z) = bX3_go_65 g (some (nid q)) (n2 s) (n2 (l + 1)) (mkX b (z.setN q ((z.n q).s_wth (upq (z.n q).wth l ((z.n q).wth l ||| bitS s))))) := by
    intro z g l hz hl3 hle
    show bX3_go_65B (bX3_go_65 g) _ _ _ _ = _
    unfold bX3_go_65B
    rw [gN_49 hb, Option.bind_some, lvl z hz, Option.bind_some, if_neg (by rw [n2_lt (by omega) (by omega)]; omega), gN_53 hb, Option.bind_some, aN_wth hb, ifx_k hl3 (by omega), Option.bind_some, uN_wth hb, ifx_k hl3 (by omega), Option.bind_some, n2_nat (by omega), show n2 l + 1 = n2 (l + 1) from n2_add l 1]
    rfl
  have fin : ∀ (z : XS) (g l : Nat), (z.n q).level s = n2 lv → l = lv + 1 → bX3_go_65 (g + 1) (some (nid q)) (n2 s) (n2 l) (mkX b z) = some ((), mkX b z) := by
    intro z g l hz hle
    show bX3_go_65B (bX3_go_65 g) _ _ _ _ = _
    unfold bX3_go_65B
    rw [gN_49 hb, Option.bind_some, lvl z hz, Option.bind_some, if_pos (by rw [n2_lt (by omega) (by omega)]; omega)]
  rw [show (1 : Int32) = n2 1 from rfl]
  unfold wthUp
  rcases (by omega : lv = 0 ∨ lv = 1 ∨ lv = 2) with r | r | r
  · rw [fin x _ _ hv (by omega), if_pos r]
    show _ = some ((), mkX b (x.setN q (x.n q)))
    rw [setN_self]
  · rw [one x _ _ hv (by omega) (by omega), fin _ _ _ (by rw [setN_n]; exact hv) (by omega), if_neg (by omega), if_pos r]
  · rw [one x _ _ hv (by omega) (by omega), one _ _ _ (by rw [setN_n]; exact hv) (by omega) (by omega), fin _ _ _ (by rw [setN_n, setN_n]; exact hv) (by omega), if_neg (by omega), if_neg (by omega), setN_n, setN_setN]
    rfl
theorem X_go25 (hb : 131 ≤ mNx b) (hs : s < 64) (hl : lv ≤ 2) (ho : own ≤ 2) (hw : (x.n q).was s = n2 own) :
    bX3_go_25 (some (nid q)) (n2 s) (some (nid q + (if (x.n q).sw then 1 else 2))) (n2 s) (n2 lv) (mkX b x) = some ((), mkX b (x.setN q (goY (x.n q) s lv (if lv = own then mminI 3 ((x.n q).wasHeld s + 1) else 0)))) := by
  obtain ⟨f, hf⟩ : ∃ f, hcFuel = f + 3 := ⟨99997, rfl⟩
  unfold bX3_go_25 bX3_go_62
  rw [hf, uN_level hb, ifx_k hs (by omega), Option.bind_some, n2_nat (by omega)]
  generalize hz : x.setN q ((x.n q).s_level (upq (x.n q).level s (n2 lv))) = z
  have zn : z.n q = (x.n q).s_level (upq (x.n q).level s (n2 lv)) := by rw [← hz, setN_n]
  have zl : (z.n q).level s = n2 lv := by rw [zn]; exact upq_self _ _ _
  have zw : (z.n q).was s = n2 own := by rw [zn]; exact hw
  have zh : (z.n q).wasHeld s = (x.n q).wasHeld s := by rw [zn]; rfl
  have key : ∀ hv : Int32, ((uI (mkX b z) (some (nid q + (if (z.n q).sw then 3 else 4))) (n2 s) hv).bind fun st => bX3_go_65 (f + 3) (some (nid q)) (n2 s) (1 : Int32) st) = some ((), mkX b (x.setN q (goY (x.n q) s lv hv))) := by
    intro hv
    rw [uN_held hb, ifx_k hs (by omega), Option.bind_some, n2_nat (by omega), X_go65 hb f hs hl (by rw [setN_n]; exact zl), setN_n, setN_setN, zn, ← hz, setN_setN]
    rfl
  rw [gN_51 hb, Option.bind_some, gN_49 hb, Option.bind_some, aN_level hb, ifx_k hs (by omega), Option.bind_some, n2_nat (by omega), zl, gN_48 hb, Option.bind_some, aN_was hb, ifx_k hs (by omega), Option.bind_some, n2_nat (by omega), zw]
  by_cases e : lv = own
  · rw [if_pos (by rw [e]), if_pos e, gN_50 hb, Option.bind_some, aN_wasHeld hb, ifx_k hs (by omega), Option.bind_some, n2_nat (by omega), zh]
    exact key _
  · rw [if_neg (by rw [n2_eq (by omega) (by omega)]; exact e), if_neg e]
    exact key _
theorem X_go (hb : 131 ≤ mNx b) (X : XHouse b h H) (ok : H.Ok) (hs : s < H.size) (h1 : 1 ≤ t) (ht : t ≤ 600) (I : XSt (x.n q) h c H t P N nx s (rowM H (s / H.cols))) :
    ∃ y, fX3_go (some (nid q)) (n2 s) (mkX b x) = some ((), mkX b (x.setN q y)) ∧ XSt y h c H t P N nx (s + 1) (rowM H (s / H.cols)) := by
  have h64 := ok.size
  have s64 : s < 64 := by omega
  obtain ⟨b1, b2, b3, b4⟩ := seatRun_lt (H := H) (t := t) (P := P) (N := N) s (by omega) s (Nat.le_refl _)
  have keep := fun u (hu : u < s) => seatRun_keep (H := H) (t := t) (P := P) (N := N) s (s + 1) (by omega) (by omega) u hu
  have ho := lvOf_le N.c1 N.c2 s
  have hd := hdOf_le N.lo N.hi s
  have hw := I.was s hs
  have hf := X_forced hb X ok hs I.h_ I.now ht I.paid I.hiss I.still
  -- from the level to the new state
  have fin : ∀ (lv : Nat) (hv : Int32), lv ≤ 2 → lvOf (seatRun H t P N (s + 1)).a1 (seatRun H t P N (s + 1)).a2 s = lv → (H.kind s ≠ 0 → hv = n2 (hdOf (seatRun H t P N (s + 1)).l (seatRun H t P N (s + 1)).h s)) → wthUp (x.n q).wth s lv 1 = (seatRun H t P N (s + 1)).a1 → wthUp (x.n q).wth s lv 2 = (seatRun H t P N (s + 1)).a2 → XSt (goY (x.n q) s lv hv) h c H t P N nx (s + 1) (rowM H (s / H.cols)) := by
    intro lv hv hl e1 e2 e3 e4
    refine ⟨I.h_, I.cs, I.now, I.next, I.paid, I.hiss, I.still, I.was, I.wasHeld, I.w1, I.w2, e3, e4, ?_, ?_, I.ahead⟩
    · intro u hu
      show upq (x.n q).level s (n2 lv) u = _
      by_cases e : u = s
      · rw [e, upq_self, e1]
      · rw [upq_ne _ _ e, I.level u (by omega)]
        have := keep u (by omega)
        rw [lvOf_congr this.1 this.2.1]
    · intro u hu hk
      show upq (x.n q).held s hv u = _
      by_cases e : u = s
      · subst e; rw [upq_self]; exact e2 hk
      · rw [upq_ne _ _ e, I.held u (by omega) hk]
        have := keep u (by omega)
        rw [hdOf_congr this.2.2.1 this.2.2.2]
  have er : seatRun H t P N (s + 1) = seatSt H t P N (vwS (rowM H (s / H.cols)) N.c1 (seatRun H t P N s).a1) (vwS (rowM H (s / H.cols)) N.c2 (seatRun H t P N s).a2) (seatRun H t P N s) s := rfl
  have v1 : vw (x.n q) 1 = vwS (rowM H (s / H.cols)) N.c1 (seatRun H t P N s).a1 := by
    unfold vw vwS notL; rw [I.ahead, I.w1, I.a1]
  have v2 : vw (x.n q) 2 = vwS (rowM H (s / H.cols)) N.c2 (seatRun H t P N s).a2 := by
    unfold vw vwS notL; rw [I.ahead, I.w2, I.a2]
  have w1 : ∀ lv : Nat, lv ≤ 2 → wthUp (x.n q).wth s lv 1 = (seatRun H t P N s).a1 ||| (if 0 < lv then bitS s else 0) := by
    intro lv hl
    unfold wthUp
    rcases (by omega : lv = 0 ∨ lv = 1 ∨ lv = 2) with r | r | r <;> subst r
    · rw [if_pos rfl, if_neg (by decide), I.a1, Int64.or_zero]
    · rw [if_neg (by decide), if_pos rfl, upq_self, if_pos (by decide), I.a1]
    · rw [if_neg (by decide), if_neg (by decide), upq_ne _ _ (by decide), upq_self, if_pos (by decide), I.a1]
  have w2 : ∀ lv : Nat, lv ≤ 2 → wthUp (x.n q).wth s lv 2 = (seatRun H t P N s).a2 ||| (if 1 < lv then bitS s else 0) := by
    intro lv hl
    unfold wthUp
    rcases (by omega : lv = 0 ∨ lv = 1 ∨ lv = 2) with r | r | r <;> subst r
    · rw [if_pos rfl, if_neg (by decide), I.a2, Int64.or_zero]
    · rw [if_neg (by decide), if_pos rfl, upq_ne _ _ (by decide), if_neg (by decide), I.a2, Int64.or_zero]
    · rw [if_neg (by decide), if_neg (by decide), upq_self, if_pos (by decide), I.a2]
  unfold fX3_go
  rw [ivN hb, hf, bd_some, gN_49 hb, Option.bind_some]
  by_cases hk : H.kind s = 0
  · have fz : frc H t P s = 0 := by unfold frc; rw [if_pos (Or.inl hk)]
    rw [fz, if_neg (by decide), show i2 0 = n2 0 from rfl, X_go25 hb s64 (by omega) ho hw]
    have es : seatRun H t P N (s + 1) = seatRun H t P N s := by rw [er]; unfold seatSt; rw [if_pos hk]
    refine ⟨_, rfl, fin 0 _ (by omega) ?_ (fun h => absurd hk h) ?_ ?_⟩
    · rw [es]; unfold lvOf; rw [b1, b2]; rfl
    · rw [w1 0 (by omega), es, if_neg (by decide), Int64.or_zero]
    · rw [w2 0 (by omega), es, if_neg (by decide), Int64.or_zero]
  · have hwh := I.wasHeld s hs hk
    have es : ∀ lv, seatLv H t P (vw (x.n q) 1) (vw (x.n q) 2) (lvOf N.c1 N.c2 s) (hdOf N.lo N.hi s) s = lv → seatRun H t P N (s + 1) = putLv (seatRun H t P N s) s lv (sinceOf t lv (lvOf N.c1 N.c2 s) (hdOf N.lo N.hi s)) := by
      intro lv e
      rw [er, ← v1, ← v2]; unfold seatSt; rw [if_neg hk, e]
    have go : ∀ lv, lv ≤ 2 → seatLv H t P (vw (x.n q) 1) (vw (x.n q) 2) (lvOf N.c1 N.c2 s) (hdOf N.lo N.hi s) s = lv → XSt (goY (x.n q) s lv (if lv = lvOf N.c1 N.c2 s then mminI 3 ((x.n q).wasHeld s + 1) else 0)) h c H t P N nx (s + 1) (rowM H (s / H.cols)) := by
      intro lv hl e
      have e2 := es lv e
      have sn := sinceOf_le t lv (lvOf N.c1 N.c2 s) (hdOf N.lo N.hi s)
      refine fin lv _ hl ?_ (fun _ => ?_) ?_ ?_
      · rw [e2]; exact lvOf_put s64 hl b1 b2
      · rw [e2, hdOf_put s64 sn b3 b4, hwh]
        unfold sinceOf
        by_cases h2 : lv = lvOf N.c1 N.c2 s
        · rw [if_pos h2, if_neg (by omega), show n2 (hdOf N.lo N.hi s) + 1 = n2 (hdOf N.lo N.hi s + 1) from n2_add _ 1, show (3 : Int32) = n2 3 from rfl, mm_min _ _ (by omega) (by omega)]
          congr 1
          split <;> omega
        · rw [if_neg h2, if_pos (Or.inr h2)]; rfl
      · rw [w1 lv hl, e2]; rfl
      · rw [w2 lv hl, e2]; rfl
    have lv := frc_lv (H := H) (t := t) (P := P) (v1 := vw (x.n q) 1) (v2 := vw (x.n q) 2) (own := lvOf N.c1 N.c2 s) (since := hdOf N.lo N.hi s) hk
    rcases frc_or H t P s with r | r | r
    · rw [r, if_pos rfl, if_neg (by omega)] at lv
      rw [r, if_pos (by decide), ivN hb, X_likes hb X ok hs I.h_ hk hw hwh ho, bd_some, X_go25 hb s64 (lawLv_le ho) ho hw]
      exact ⟨_, rfl, go _ (lawLv_le ho) lv⟩
    · rw [r, if_neg (by decide)] at lv
      rw [r, if_neg (by decide), show i2 0 = n2 0 from rfl, X_go25 hb s64 (by omega) ho hw]
      exact ⟨_, rfl, go 0 (by omega) lv⟩
    · rw [r, if_neg (by decide)] at lv
      rw [r, if_neg (by decide), show i2 2 = n2 2 from rfl, X_go25 hb s64 (by omega) ho hw]
      exact ⟨_, rfl, go 2 (by omega) lv⟩
def aheadAt (H : HS) (s : Nat) : Int64 := if s = 0 then 0 else rowM H ((s - 1) / H.cols)
theorem XSt.sA (hb : 131 ≤ mNx b) {y : NX} {a' : Int64} (I : XSt y h c H t P N nx s ah) : XSt (y.s_ahead a') h c H t P N nx s a' :=
  ⟨I.h_, I.cs, I.now, I.next, I.paid, I.hiss, I.still, I.was, I.wasHeld, I.w1, I.w2, I.a1, I.a2, I.level, I.held, rfl⟩
theorem X_step85 (hb : 131 ≤ mNx b) (X : XHouse b h H) (ok : H.Ok) (h1 : 1 ≤ t) (ht : t ≤ 600) : ∀ (k f s : Nat) (x : XS), s + k = H.size → k < f → XSt (x.n q) h c H t P N nx s (aheadAt H s) →
    ∃ y ah, bX3_step_85 f (some (nid q)) (n2 s) (mkX b x) = some ((), mkX b (x.setN q y)) ∧ XSt y h c H t P N nx H.size ah := by
  have h64 := ok.size
  intro k
  induction k with
  | zero =>
    intro f s x hk hf I
    obtain ⟨f, rfl⟩ : ∃ g, f = g + 1 := ⟨f - 1, by omega⟩
    have e : s = H.size := by omega
    subst e
    refine ⟨x.n q, _, ?_, I⟩
    show bX3_step_85B _ _ _ _ = _
    unfold bX3_step_85B
    rw [gN_41 hb, Option.bind_some, I.h_, xh_iv X, xh_size X, bd_some, if_pos (Int32.le_refl _), setN_self]
  | succ k ih =>
    intro f s x hk hf I
    obtain ⟨f, rfl⟩ : ∃ g, f = g + 1 := ⟨f - 1, by omega⟩
    have hs : s < H.size := by omega
    have hcp := (pos_of_size hs).1
    have hc8 := ok.cols
    have nxt : ∀ (z : XS), XSt (z.n q) h c H t P N nx s (rowM H (s / H.cols)) → ∃ y ah, bX3_step_127 (bX3_step_85 f) (some (nid q)) (n2 s) (mkX b z) = some ((), mkX b (z.setN q y)) ∧ XSt y h c H t P N nx H.size ah := by
      intro z J
      obtain ⟨y, e, J2⟩ := X_go hb X ok hs h1 ht J
      have ea : aheadAt H (s + 1) = rowM H (s / H.cols) := by unfold aheadAt; rw [if_neg (by omega), Nat.add_sub_cancel]
      obtain ⟨y2, ah, e2, J3⟩ := ih f (s + 1) (z.setN q y) (by omega) (by omega) (by rw [setN_n, ea]; exact J2)
      refine ⟨y2, ah, ?_, J3⟩
      unfold bX3_step_127
      rw [ivN hb, e, bd_some, show n2 s + 1 = n2 (s + 1) from n2_add s 1, e2, setN_setN]
    show ∃ y ah, bX3_step_85B (bX3_step_85 f) _ _ _ = _ ∧ _
    unfold bX3_step_85B
    rw [gN_41 hb, Option.bind_some, I.h_, xh_iv X, xh_size X, bd_some, if_neg (by rw [n2_le (by omega) (by omega)]; omega), gN_41 hb, Option.bind_some, I.h_, xh_33 X, Option.bind_some]
    simp only [b2i_0]
    cases hby : H.byRows
    · rw [if_pos rfl]
      have e0 : ∀ r, rowM H r = 0 := fun r => by unfold rowM; rw [hby, if_neg (by decide)]
      have ea : aheadAt H s = rowM H (s / H.cols) := by unfold aheadAt; rw [e0, e0, ite_self]
      exact nxt x (ea ▸ I)
    · rw [if_neg (by decide), Option.bind_some, xh_29 X, Option.bind_some, n2_rm (by omega) (by omega) hcp, Option.bind_some]
      by_cases hm : s % H.cols = 0
      · rw [if_neg (by rw [hm]; exact fun h => h rfl), pN_54 hb, Option.bind_some]
        have er : shlL (1 : Int64) (n2 s) - (1 : Int64) = rowM H (s / H.cols) := by
          unfold rowM
          rw [hby, if_pos rfl, Nat.mul_div_cancel' (Nat.dvd_of_mod_eq_zero hm)]; rfl
        rw [er]
        obtain ⟨y, ah, e, J⟩ := nxt (x.setN q ((x.n q).s_ahead (rowM H (s / H.cols)))) (by rw [setN_n]; exact XSt.sA hb I)
        rw [setN_setN] at e
        exact ⟨y, ah, e, J⟩
      · rw [if_pos (by rw [show (0 : Int32) = n2 0 from rfl, n2_eq (by have := Nat.mod_lt s hcp; omega) (by decide)]; exact hm)]
        have ea : aheadAt H s = rowM H (s / H.cols) := by
          unfold aheadAt
          rw [if_neg (by intro h; rw [h] at hm; exact hm (Nat.zero_mod _))]
          congr 1
          refine Nat.div_eq_of_lt_le ?_ ?_
          · have := Nat.div_add_mod s H.cols
            rw [Nat.mul_comm]; omega
          · have := Nat.div_add_mod s H.cols
            have := Nat.mod_lt s hcp
            rw [Nat.succ_mul, Nat.mul_comm]; omega
        exact nxt x (ea ▸ I)
end SeatX
