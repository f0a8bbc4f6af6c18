set_option linter.unusedVariables false
set_option linter.unusedSimpArgs false
set_option maxRecDepth 100000
/-! ===== the words' codes, and is / isWord for each (printed) ===== -/
section Codes
variable {B b' : Mem} {c : Cl} {T : List Cl} {tp : Nat → Int32} {to most z n s : Nat} {m : MS}
theorem cd_0 : (24948 : Int64) = pkW (stF 0) (stL 0) := by decide +kernel
/-- at -/
theorem D_w0 (R : RdX B c tp to most) (K : Tk (mNx B) c T m.r tp to) : ∃ v : Bool, fX5_is (some (mNx B)) (some 0) (ovs B (c :: T) z) = some (b2i v, ovs B (c :: T) z) ∧ fX4_isWord (some 106) 24948 (mkM b' n s m) = some (b2i v, mkM b' n s m) ∧ (v = true → c.i 128 = 2 ∧ m.r.token = 1) := D_is R K (i := 0) (by decide) cd_0
theorem cd_1 : (7364985 : Int64) = pkW (stF 1) (stL 1) := by decide +kernel
/-- pay -/
theorem D_w1 (R : RdX B c tp to most) (K : Tk (mNx B) c T m.r tp to) : ∃ v : Bool, fX5_is (some (mNx B)) (some 2) (ovs B (c :: T) z) = some (b2i v, ovs B (c :: T) z) ∧ fX4_isWord (some 106) 7364985 (mkM b' n s m) = some (b2i v, mkM b' n s m) ∧ (v = true → c.i 128 = 2 ∧ m.r.token = 1) := D_is R K (i := 1) (by decide) cd_1
theorem cd_2 : (1751741299 : Int64) = pkW (stF 2) (stL 2) := by decide +kernel
/-- hiss -/
theorem D_w2 (R : RdX B c tp to most) (K : Tk (mNx B) c T m.r tp to) : ∃ v : Bool, fX5_is (some (mNx B)) (some 4) (ovs B (c :: T) z) = some (b2i v, ovs B (c :: T) z) ∧ fX4_isWord (some 106) 1751741299 (mkM b' n s m) = some (b2i v, mkM b' n s m) ∧ (v = true → c.i 128 = 2 ∧ m.r.token = 1) := D_is R K (i := 2) (by decide) cd_2
theorem cd_3 : (1718773093 : Int64) = pkW (stF 3) (stL 3) := by decide +kernel
/-- free -/
theorem D_w3 (R : RdX B c tp to most) (K : Tk (mNx B) c T m.r tp to) : ∃ v : Bool, fX5_is (some (mNx B)) (some 6) (ovs B (c :: T) z) = some (b2i v, ovs B (c :: T) z) ∧ fX4_isWord (some 106) 1718773093 (mkM b' n s m) = some (b2i v, mkM b' n s m) ∧ (v = true → c.i 128 = 2 ∧ m.r.token = 1) := D_is R K (i := 3) (by decide) cd_3
theorem cd_4 : (495874305132 : Int64) = pkW (stF 4) (stL 4) := by decide +kernel
/-- still -/
theorem D_w4 (R : RdX B c tp to most) (K : Tk (mNx B) c T m.r tp to) : ∃ v : Bool, fX5_is (some (mNx B)) (some 8) (ovs B (c :: T) z) = some (b2i v, ovs B (c :: T) z) ∧ fX4_isWord (some 106) 495874305132 (mkM b' n s m) = some (b2i v, mkM b' n s m) ∧ (v = true → c.i 128 = 2 ∧ m.r.token = 1) := D_is R K (i := 4) (by decide) cd_4
theorem cd_5 : (7499639 : Int64) = pkW (stF 5) (stL 5) := by decide +kernel
/-- row -/
theorem D_w5 (R : RdX B c tp to most) (K : Tk (mNx B) c T m.r tp to) : ∃ v : Bool, fX5_is (some (mNx B)) (some 10) (ovs B (c :: T) z) = some (b2i v, ovs B (c :: T) z) ∧ fX4_isWord (some 106) 7499639 (mkM b' n s m) = some (b2i v, mkM b' n s m) ∧ (v = true → c.i 128 = 2 ∧ m.r.token = 1) := D_is R K (i := 5) (by decide) cd_5
theorem cd_6 : (30064 : Int64) = pkW (stF 6) (stL 6) := by decide +kernel
/-- up -/
theorem D_w6 (R : RdX B c tp to most) (K : Tk (mNx B) c T m.r tp to) : ∃ v : Bool, fX5_is (some (mNx B)) (some 12) (ovs B (c :: T) z) = some (b2i v, ovs B (c :: T) z) ∧ fX4_isWord (some 106) 30064 (mkM b' n s m) = some (b2i v, mkM b' n s m) ∧ (v = true → c.i 128 = 2 ∧ m.r.token = 1) := D_is R K (i := 6) (by decide) cd_6
theorem cd_7 : (1685026670 : Int64) = pkW (stF 7) (stL 7) := by decide +kernel
/-- down -/
theorem D_w7 (R : RdX B c tp to most) (K : Tk (mNx B) c T m.r tp to) : ∃ v : Bool, fX5_is (some (mNx B)) (some 14) (ovs B (c :: T) z) = some (b2i v, ovs B (c :: T) z) ∧ fX4_isWord (some 106) 1685026670 (mkM b' n s m) = some (b2i v, mkM b' n s m) ∧ (v = true → c.i 128 = 2 ∧ m.r.token = 1) := D_is R K (i := 7) (by decide) cd_7
theorem cd_8 : (482955846501 : Int64) = pkW (stF 8) (stL 8) := by decide +kernel
/-- price -/
theorem D_w8 (R : RdX B c tp to most) (K : Tk (mNx B) c T m.r tp to) : ∃ v : Bool, fX5_is (some (mNx B)) (some 16) (ovs B (c :: T) z) = some (b2i v, ovs B (c :: T) z) ∧ fX4_isWord (some 106) 482955846501 (mkM b' n s m) = some (b2i v, mkM b' n s m) ∧ (v = true → c.i 128 = 2 ∧ m.r.token = 1) := D_is R K (i := 8) (by decide) cd_8
theorem cd_9 : (119182682645875 : Int64) = pkW (stF 9) (stL 9) := by decide +kernel
/-- leaves -/
theorem D_w9 (R : RdX B c tp to most) (K : Tk (mNx B) c T m.r tp to) : ∃ v : Bool, fX5_is (some (mNx B)) (some 18) (ovs B (c :: T) z) = some (b2i v, ovs B (c :: T) z) ∧ fX4_isWord (some 106) 119182682645875 (mkM b' n s m) = some (b2i v, mkM b' n s m) ∧ (v = true → c.i 128 = 2 ∧ m.r.token = 1) := D_is R K (i := 9) (by decide) cd_9
theorem cd_10 : (426836652665 : Int64) = pkW (stF 10) (stL 10) := by decide +kernel
/-- carry -/
theorem D_w10 (R : RdX B c tp to most) (K : Tk (mNx B) c T m.r tp to) : ∃ v : Bool, fX5_is (some (mNx B)) (some 20) (ovs B (c :: T) z) = some (b2i v, ovs B (c :: T) z) ∧ fX4_isWord (some 106) 426836652665 (mkM b' n s m) = some (b2i v, mkM b' n s m) ∧ (v = true → c.i 128 = 2 ∧ m.r.token = 1) := D_is R K (i := 10) (by decide) cd_10
theorem cd_11 : (1885432164 : Int64) = pkW (stF 11) (stL 11) := by decide +kernel
/-- paid -/
theorem D_w11 (R : RdX B c tp to most) (K : Tk (mNx B) c T m.r tp to) : ∃ v : Bool, fX5_is (some (mNx B)) (some 22) (ovs B (c :: T) z) = some (b2i v, ovs B (c :: T) z) ∧ fX4_isWord (some 106) 1885432164 (mkM b' n s m) = some (b2i v, mkM b' n s m) ∧ (v = true → c.i 128 = 2 ∧ m.r.token = 1) := D_is R K (i := 11) (by decide) cd_11
theorem cd_12 : (1919907699 : Int64) = pkW (stF 12) (stL 12) := by decide +kernel
/-- rows -/
theorem D_w12 (R : RdX B c tp to most) (K : Tk (mNx B) c T m.r tp to) : ∃ v : Bool, fX5_is (some (mNx B)) (some 24) (ovs B (c :: T) z) = some (b2i v, ovs B (c :: T) z) ∧ fX4_isWord (some 106) 1919907699 (mkM b' n s m) = some (b2i v, mkM b' n s m) ∧ (v = true → c.i 128 = 2 ∧ m.r.token = 1) := D_is R K (i := 12) (by decide) cd_12
theorem cd_13 : (28530 : Int64) = pkW (stF 13) (stL 13) := by decide +kernel
/-- or -/
theorem D_w13 (R : RdX B c tp to most) (K : Tk (mNx B) c T m.r tp to) : ∃ v : Bool, fX5_is (some (mNx B)) (some 26) (ovs B (c :: T) z) = some (b2i v, ovs B (c :: T) z) ∧ fX4_isWord (some 106) 28530 (mkM b' n s m) = some (b2i v, mkM b' n s m) ∧ (v = true → c.i 128 = 2 ∧ m.r.token = 1) := D_is R K (i := 13) (by decide) cd_13
theorem cd_14 : (6385252 : Int64) = pkW (stF 14) (stL 14) := by decide +kernel
/-- and -/
theorem D_w14 (R : RdX B c tp to most) (K : Tk (mNx B) c T m.r tp to) : ∃ v : Bool, fX5_is (some (mNx B)) (some 28) (ovs B (c :: T) z) = some (b2i v, ovs B (c :: T) z) ∧ fX4_isWord (some 106) 6385252 (mkM b' n s m) = some (b2i v, mkM b' n s m) ∧ (v = true → c.i 128 = 2 ∧ m.r.token = 1) := D_is R K (i := 14) (by decide) cd_14
theorem cd_15 : (1852137842 : Int64) = pkW (stF 15) (stL 15) := by decide +kernel
/-- near -/
theorem D_w15 (R : RdX B c tp to most) (K : Tk (mNx B) c T m.r tp to) : ∃ v : Bool, fX5_is (some (mNx B)) (some 30) (ovs B (c :: T) z) = some (b2i v, ovs B (c :: T) z) ∧ fX4_isWord (some 106) 1852137842 (mkM b' n s m) = some (b2i v, mkM b' n s m) ∧ (v = true → c.i 128 = 2 ∧ m.r.token = 1) := D_is R K (i := 15) (by decide) cd_15
theorem cd_16 : (418363302244 : Int64) = pkW (stF 16) (stL 16) := by decide +kernel
/-- ahead -/
theorem D_w16 (R : RdX B c tp to most) (K : Tk (mNx B) c T m.r tp to) : ∃ v : Bool, fX5_is (some (mNx B)) (some 32) (ovs B (c :: T) z) = some (b2i v, ovs B (c :: T) z) ∧ fX4_isWord (some 106) 418363302244 (mkM b' n s m) = some (b2i v, mkM b' n s m) ∧ (v = true → c.i 128 = 2 ∧ m.r.token = 1) := D_is R K (i := 16) (by decide) cd_16
theorem cd_17 : (108187867505765 : Int64) = pkW (stF 17) (stL 17) := by decide +kernel
/-- beside -/
theorem D_w17 (R : RdX B c tp to most) (K : Tk (mNx B) c T m.r tp to) : ∃ v : Bool, fX5_is (some (mNx B)) (some 34) (ovs B (c :: T) z) = some (b2i v, ovs B (c :: T) z) ∧ fX4_isWord (some 106) 108187867505765 (mkM b' n s m) = some (b2i v, mkM b' n s m) ∧ (v = true → c.i 128 = 2 ∧ m.r.token = 1) := D_is R K (i := 17) (by decide) cd_17
theorem cd_18 : (108187682958948 : Int64) = pkW (stF 18) (stL 18) := by decide +kernel
/-- behind -/
theorem D_w18 (R : RdX B c tp to most) (K : Tk (mNx B) c T m.r tp to) : ∃ v : Bool, fX5_is (some (mNx B)) (some 36) (ovs B (c :: T) z) = some (b2i v, ovs B (c :: T) z) ∧ fX4_isWord (some 106) 108187682958948 (mkM b' n s m) = some (b2i v, mkM b' n s m) ∧ (v = true → c.i 128 = 2 ∧ m.r.token = 1) := D_is R K (i := 18) (by decide) cd_18
theorem cd_19 : (1936024942 : Int64) = pkW (stF 19) (stL 19) := by decide +kernel
/-- seen -/
theorem D_w19 (R : RdX B c tp to most) (K : Tk (mNx B) c T m.r tp to) : ∃ v : Bool, fX5_is (some (mNx B)) (some 38) (ovs B (c :: T) z) = some (b2i v, ovs B (c :: T) z) ∧ fX4_isWord (some 106) 1936024942 (mkM b' n s m) = some (b2i v, mkM b' n s m) ∧ (v = true → c.i 128 = 2 ∧ m.r.token = 1) := D_is R K (i := 19) (by decide) cd_19
theorem cd_20 : (448546567013 : Int64) = pkW (stF 20) (stL 20) := by decide +kernel
/-- house -/
theorem D_w20 (R : RdX B c tp to most) (K : Tk (mNx B) c T m.r tp to) : ∃ v : Bool, fX5_is (some (mNx B)) (some 40) (ovs B (c :: T) z) = some (b2i v, ovs B (c :: T) z) ∧ fX4_isWord (some 106) 448546567013 (mkM b' n s m) = some (b2i v, mkM b' n s m) ∧ (v = true → c.i 128 = 2 ∧ m.r.token = 1) := D_is R K (i := 20) (by decide) cd_20
theorem cd_21 : (7237492 : Int64) = pkW (stF 21) (stL 21) := by decide +kernel
/-- not -/
theorem D_w21 (R : RdX B c tp to most) (K : Tk (mNx B) c T m.r tp to) : ∃ v : Bool, fX5_is (some (mNx B)) (some 42) (ovs B (c :: T) z) = some (b2i v, ovs B (c :: T) z) ∧ fX4_isWord (some 106) 7237492 (mkM b' n s m) = some (b2i v, mkM b' n s m) ∧ (v = true → c.i 128 = 2 ∧ m.r.token = 1) := D_is R K (i := 21) (by decide) cd_21
theorem cd_22 : (1936026726 : Int64) = pkW (stF 22) (stL 22) := by decide +kernel
/-- self -/
theorem D_w22 (R : RdX B c tp to most) (K : Tk (mNx B) c T m.r tp to) : ∃ v : Bool, fX5_is (some (mNx B)) (some 44) (ovs B (c :: T) z) = some (b2i v, ovs B (c :: T) z) ∧ fX4_isWord (some 106) 1936026726 (mkM b' n s m) = some (b2i v, mkM b' n s m) ∧ (v = true → c.i 128 = 2 ∧ m.r.token = 1) := D_is R K (i := 22) (by decide) cd_22
theorem cd_23 : (1751477348 : Int64) = pkW (stF 23) (stL 23) := by decide +kernel
/-- held -/
theorem D_w23 (R : RdX B c tp to most) (K : Tk (mNx B) c T m.r tp to) : ∃ v : Bool, fX5_is (some (mNx B)) (some 46) (ovs B (c :: T) z) = some (b2i v, ovs B (c :: T) z) ∧ fX4_isWord (some 106) 1751477348 (mkM b' n s m) = some (b2i v, mkM b' n s m) ∧ (v = true → c.i 128 = 2 ∧ m.r.token = 1) := D_is R K (i := 23) (by decide) cd_23
end Codes
