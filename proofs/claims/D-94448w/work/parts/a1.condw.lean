set_option linter.unusedVariables false
set_option linter.unusedSimpArgs false
set_option maxRecDepth 100000
/-! ===== a whole condition, in both ===== -/
section CondW
variable {B b' : Mem} {tp : Nat → Int32} {to most n s A Z : Nat} {m : MS} {c : Cl} {T : List Cl} {z p : Nat} {r : MR} {h : MH}
theorem hcF : hcFuel = 99999 + 1 := rfl
theorem D_cond (C : CSt B m tp to most A Z c T z r h p [] [] 0) (h138 : c.i 138 = n2 0) :
    (∃ e c' T' z' r' h' q R cnd k o, fX6_or (fX6_oneR 30) (some (mNx B)) (ovs B (c :: T) z) = some (.inl (some (mNx B + (1 + e))), ovs B (c' :: T') z') ∧ fX4_cond (some 106) (mkM b' n s (m.sRH r h)) = some (1, mkM b' n s (m.sRH r' h')) ∧ RsR B c' T' (m.sRH r' h') tp to most q ∧ Bg A Z T' z' (nu c' to q) q ∧ c'.t = 5 ∧ c'.i 137 = n2 o ∧ 1 ≤ o ∧ o ≤ 20 ∧ h'.ones = n2 o ∧ h'.codeMany = n2 k.length ∧ CdR h'.code k ∧ Post cnd k ∧ k.length ≤ 40 ∧ CondT (mNx B) T' cnd e ∧ cdep cnd ≤ 40 ∧ clvs cnd ≤ 20 ∧ T' = T ++ R ∧ Kc c c' ∧ Kh h h' ∧ p ≤ q ∧ nu c' to q < nu c to p) ∨
    Bad B m A Z to b' n s (fX6_or (fX6_oneR 30) (some (mNx B)) (ovs B (c :: T) z)) (fX4_cond (some 106) (mkM b' n s (m.sRH r h))) := by
  have toF : ∀ (c' : Cl) (q F : Nat), 99999 ≤ F → nu c' to q < F := fun c' q F hF => by have := C.S.R.to_; unfold nu; split <;> omega
  have M0 : fX4_cond (some 106) (mkM b' n s (m.sRH r h)) = MB b' n s 99999 hcFuel (m.sRH r h) := by
    unfold fX4_cond
    rw [show bX4_cond_0 hcFuel (some 106) (mkM b' n s (m.sRH r h)) = bX4_cond_0 (99999 + 1) (some 106) (mkM b' n s (m.sRH r h)) from by rw [hcF]]
    exact MB_of b' n s 99999 _
  rw [M0]
  have I := or_all (B := B) (m := m) (tp := tp) (to := to) (most := most) (A := A) (Z := Z) (b' := b') (n := n) (s := s) 30 c T z r h p [] [] 0 99999 hcFuel C h138 (by decide) (Or.inl rfl) (by decide) (by decide) (by decide) (toF c p _ (Nat.le_refl _)) (toF c p _ (by unfold hcFuel; omega))
  rcases I with ⟨e3, c3, T3, z3, r3, h3, p3, R3, Q3, l3, o3, cnd, F0', F9', y1, y2, C3, y4, y5, y6, y7, y8, y9, y10, y11, y12, y13, u, k, y14, y15, y16, y17, y18, y19, y20⟩ | I
  · rw [List.append_nil] at y16
    rw [List.nil_append] at y17
    rw [y16, y17] at C3
    obtain ⟨F9', rfl⟩ : ∃ g, F9' = g + 1 := ⟨F9' - 1, by omega⟩
    have o3b := C3.o20
    have plen := Post_len y18
    rw [List.length_append, List.length_map] at plen
    obtain ⟨h4, M4, P4, K4⟩ := M_fin (b' := b') (n := n) (s := s) (F := F9') (m := m) (r := r3) (kk := bX4_cond_0 F0') C3.P (by omega) (by omega) (opL_isO y14) y19 y20
    rw [opL_wdR0 y14, opL_wdP0 y14] at P4
    have cp := cwt_pos cnd
    have cd := cwt_dep cnd
    have cl := cwt_lvs cnd
    refine Or.inl ⟨e3, c3, T3, z3, r3, h4, p3, R3, cnd, k ++ u.map n2, o3, y1, ?_, C3.S.hh h4, C3.g, C3.t5, C3.x7, by omega, o3b, P4.on, P4.cm, P4.cd, y18, by rw [List.length_append, List.length_map]; omega, y5, by omega, by omega, y4, y7, y9.trans K4, y10, y11⟩
    rw [y2]; unfold MCx; exact M4
  · exact Or.inr I
end CondW
