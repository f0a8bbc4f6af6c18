set_option linter.unusedVariables false
set_option linter.unusedSimpArgs false
set_option maxRecDepth 100000
/-! ===== moments and nights of HouseClapsModel ===== -/
section HeightM
variable {b : Mem} {n s : Nat} {H : HS} {C : List Cu} {t : Nat} {N : NT} {m : MS}
theorem rowM_0 (H : HS) : rowM H 0 = 0 := by
  unfold rowM; split
  · rw [Nat.mul_zero]; decide
  · rfl
theorem M_moment (hH : MHouse m.s H) (ok : H.Ok) (hC : MCues m.s C) (ha : MArea m H) (hN : MNt m N t) (hn : N.next ≤ C.length) (ht : t ≤ 600) :
    ∃ hd, fX4_moment (some 106) (mkM b n s m) = some ((), mkM b n s (m.aft hd (momentS H C t N) t)) := by
  have h30 := hC.len
  have e1 := M_cues (b := b) (n := n) (s := s) ht (C.length - N.next) hcFuel N.next m (N.paid, N.hiss, false) (by omega) (by unfold hcFuel; omega) hC hN.paid hN.hiss hN.next
  have hr8 := ok.rows
  have r0 : (seatRun H t (cuesAt C t N).2 N (H.cols * 0)) = Ac.mk 0 0 0 0 := rfl
  obtain ⟨hd, e2⟩ := M_rows (b := b) (n := n) (s := s) (P := (cuesAt C t N).2) (N := N) ok ht H.rows hcFuel 0 (MS.mk (m.thrown) (m.length) (m.seatsPaid) (m.seatsHiss) (m.lays) (m.arranged) (m.tape) (m.s) (m.area) (m.kept) (m.keptPaid) (m.keptHiss) (m.isKept) (m.r) (m.h) ((MN.mk ((cuesAt C t N).2.1) ((cuesAt C t N).2.2.1) (m.n.clapping) (m.n.standing) (m.n.low) (m.n.high) (m.n.gone) (n2 (N.next + (cuesAt C t N).1)) (m.n.nightHeight) (m.n.nightCarries) (m.n.held) (m.n.claps) (m.n.stand) (m.n.heldLow) (m.n.heldHigh))) (m.c)) N.c1 N.c2 (by omega) (by unfold hcFuel; omega) hH ha rfl rfl hN.c1 hN.c2 hN.lo hN.hi hN.gone (fun _ => by rw [rowM_0, vwS_0, vwS_0]; exact ⟨rfl, rfl⟩)
  refine ⟨hd, ?_⟩
  unfold fX4_moment
  rw [gM_97, Option.bind_some, hN.gone]
  refine Eq.trans e1 (Eq.trans ?_ e2)
  unfold bX4_moment_176
  rw [gM_93, Option.bind_some, gM_94, Option.bind_some, r0]
  generalize hcFuel = fu
  show bX4_moment_202 fu _ _ _ m.n.clapping m.n.standing _ _ _ _ _ _ = _
  rw [hN.c1, hN.c2]
  rfl
/-- what a moment keeps -/
theorem aft_nt (m : MS) (g : Nat → Int32) (N : NT) (t : Nat) : MNt (m.aft g N t) N (t + 1) := ⟨rfl, rfl, rfl, rfl, rfl, rfl, rfl, rfl⟩
theorem cueRun_le (t : Nat) : ∀ (l : List Cu) (p : Int64 × Int64 × Bool), (cueRun t l p).1 ≤ l.length
  | [], _ => Nat.le_refl _
  | c :: cs, p => by
    unfold cueRun; split
    · exact Nat.succ_le_succ (cueRun_le t cs _)
    · exact Nat.zero_le _
theorem momentS_next (H : HS) (C : List Cu) (t : Nat) (N : NT) (h : N.next ≤ C.length) : (momentS H C t N).next ≤ C.length := by
  have := cueRun_le t (C.drop N.next) (N.paid, N.hiss, false)
  rw [List.length_drop] at this
  show N.next + (cueRun t (C.drop N.next) (N.paid, N.hiss, false)).1 ≤ C.length
  omega
end HeightM
