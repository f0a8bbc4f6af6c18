set_option linter.unusedVariables false
set_option linter.unusedSimpArgs false
set_option maxRecDepth 100000
/-! ===== the law's own walk, printed by gen/lawwalk.py ===== -/
theorem ladx_X1_feed : Ad ⟨"HouseClaps", "feed", "(IIIII)I"⟩ 5 := ⟨⟨by decide, by decide⟩, by decide +kernel⟩
theorem lxd_X1_feed : XDecl ⟨"HouseClaps", "feed", "(IIIII)I"⟩ := Or.inl ⟨_, q399, ⟨rfl, Or.inl ⟨_, _, _, by decide, q401⟩⟩, q129⟩
theorem lvt_X1_feed : ∀ t ∈ [1], 0 < t ∧ t < 22 ∧ (Cond.selects (cnm t) ⟨"HouseClaps", "feed", "(IIIII)I"⟩ ⟨"HouseClaps", "feed", "(IIIII)I"⟩ ∈ lw_all ∨ Cond.selects (cnm t) ⟨"HouseClaps", "feed", "(IIIII)I"⟩ ⟨"HouseClaps", "feed", "(IIIII)I"⟩ ∈ lw_ex) := vt_cons ⟨by decide, by decide, Or.inl q400⟩ (vt_nil)
theorem ladx_X4_feed : Ad ⟨"HouseClapsModel", "feed", "(IIIII)I"⟩ 5 := ⟨⟨by decide, by decide⟩, by decide +kernel⟩
theorem lxd_X4_feed : XDecl ⟨"HouseClapsModel", "feed", "(IIIII)I"⟩ := Or.inl ⟨_, q1677, ⟨rfl, Or.inl ⟨_, _, _, by decide, q1679⟩⟩, q1683⟩
theorem lvt_X4_feed : ∀ t ∈ [4], 0 < t ∧ t < 22 ∧ (Cond.selects (cnm t) ⟨"HouseClapsModel", "feed", "(IIIII)I"⟩ ⟨"HouseClapsModel", "feed", "(IIIII)I"⟩ ∈ lw_all ∨ Cond.selects (cnm t) ⟨"HouseClapsModel", "feed", "(IIIII)I"⟩ ⟨"HouseClapsModel", "feed", "(IIIII)I"⟩ ∈ lw_ex) := vt_cons ⟨by decide, by decide, Or.inl q1678⟩ (vt_nil)
theorem ladx_X1_end : Ad ⟨"HouseClaps", "end", "(I)Z"⟩ 1 := ⟨⟨by decide, by decide⟩, by decide +kernel⟩
theorem lxd_X1_end : XDecl ⟨"HouseClaps", "end", "(I)Z"⟩ := Or.inl ⟨_, q407, ⟨rfl, Or.inl ⟨_, _, _, by decide, q409⟩⟩, q129⟩
theorem lvt_X1_end : ∀ t ∈ [1], 0 < t ∧ t < 22 ∧ (Cond.selects (cnm t) ⟨"HouseClaps", "end", "(I)Z"⟩ ⟨"HouseClaps", "end", "(I)Z"⟩ ∈ lw_all ∨ Cond.selects (cnm t) ⟨"HouseClaps", "end", "(I)Z"⟩ ⟨"HouseClaps", "end", "(I)Z"⟩ ∈ lw_ex) := vt_cons ⟨by decide, by decide, Or.inl q408⟩ (vt_nil)
theorem ladx_X4_end : Ad ⟨"HouseClapsModel", "end", "(I)Z"⟩ 1 := ⟨⟨by decide, by decide⟩, by decide +kernel⟩
theorem lxd_X4_end : XDecl ⟨"HouseClapsModel", "end", "(I)Z"⟩ := Or.inl ⟨_, q1686, ⟨rfl, Or.inl ⟨_, _, _, by decide, q1688⟩⟩, q1683⟩
theorem lvt_X4_end : ∀ t ∈ [4], 0 < t ∧ t < 22 ∧ (Cond.selects (cnm t) ⟨"HouseClapsModel", "end", "(I)Z"⟩ ⟨"HouseClapsModel", "end", "(I)Z"⟩ ∈ lw_all ∨ Cond.selects (cnm t) ⟨"HouseClapsModel", "end", "(I)Z"⟩ ⟨"HouseClapsModel", "end", "(I)Z"⟩ ∈ lw_ex) := vt_cons ⟨by decide, by decide, Or.inl q1687⟩ (vt_nil)
theorem ladx_X1_house : Ad ⟨"HouseClaps", "house", "()I"⟩ 0 := ⟨⟨by decide, by decide⟩, by decide +kernel⟩
theorem lxd_X1_house : XDecl ⟨"HouseClaps", "house", "()I"⟩ := Or.inl ⟨_, q411, ⟨rfl, Or.inr ⟨_, _, _, _, by decide, q413⟩⟩, q129⟩
theorem lvt_X1_house : ∀ t ∈ [1], 0 < t ∧ t < 22 ∧ (Cond.selects (cnm t) ⟨"HouseClaps", "house", "()I"⟩ ⟨"HouseClaps", "house", "()I"⟩ ∈ lw_all ∨ Cond.selects (cnm t) ⟨"HouseClaps", "house", "()I"⟩ ⟨"HouseClaps", "house", "()I"⟩ ∈ lw_ex) := vt_cons ⟨by decide, by decide, Or.inl q412⟩ (vt_nil)
theorem ladx_X4_house : Ad ⟨"HouseClapsModel", "house", "()I"⟩ 0 := ⟨⟨by decide, by decide⟩, by decide +kernel⟩
theorem lxd_X4_house : XDecl ⟨"HouseClapsModel", "house", "()I"⟩ := Or.inl ⟨_, q1907, ⟨rfl, Or.inl ⟨_, _, _, by decide, q1909⟩⟩, q1683⟩
theorem lvt_X4_house : ∀ t ∈ [4], 0 < t ∧ t < 22 ∧ (Cond.selects (cnm t) ⟨"HouseClapsModel", "house", "()I"⟩ ⟨"HouseClapsModel", "house", "()I"⟩ ∈ lw_all ∨ Cond.selects (cnm t) ⟨"HouseClapsModel", "house", "()I"⟩ ⟨"HouseClapsModel", "house", "()I"⟩ ∈ lw_ex) := vt_cons ⟨by decide, by decide, Or.inl q1908⟩ (vt_nil)
theorem ladx_X1_fault : Ad ⟨"HouseClaps", "fault", "()I"⟩ 0 := ⟨⟨by decide, by decide⟩, by decide +kernel⟩
theorem lxd_X1_fault : XDecl ⟨"HouseClaps", "fault", "()I"⟩ := Or.inl ⟨_, q1048, ⟨rfl, Or.inl ⟨_, _, _, by decide, q1050⟩⟩, q129⟩
theorem lvt_X1_fault : ∀ t ∈ [1], 0 < t ∧ t < 22 ∧ (Cond.selects (cnm t) ⟨"HouseClaps", "fault", "()I"⟩ ⟨"HouseClaps", "fault", "()I"⟩ ∈ lw_all ∨ Cond.selects (cnm t) ⟨"HouseClaps", "fault", "()I"⟩ ⟨"HouseClaps", "fault", "()I"⟩ ∈ lw_ex) := vt_cons ⟨by decide, by decide, Or.inl q1049⟩ (vt_nil)
theorem ladx_X4_fault : Ad ⟨"HouseClapsModel", "fault", "()I"⟩ 0 := ⟨⟨by decide, by decide⟩, by decide +kernel⟩
theorem lxd_X4_fault : XDecl ⟨"HouseClapsModel", "fault", "()I"⟩ := Or.inl ⟨_, q2033, ⟨rfl, Or.inl ⟨_, _, _, by decide, q2035⟩⟩, q1683⟩
theorem lvt_X4_fault : ∀ t ∈ [4], 0 < t ∧ t < 22 ∧ (Cond.selects (cnm t) ⟨"HouseClapsModel", "fault", "()I"⟩ ⟨"HouseClapsModel", "fault", "()I"⟩ ∈ lw_all ∨ Cond.selects (cnm t) ⟨"HouseClapsModel", "fault", "()I"⟩ ⟨"HouseClapsModel", "fault", "()I"⟩ ∈ lw_ex) := vt_cons ⟨by decide, by decide, Or.inl q2034⟩ (vt_nil)
theorem ladx_X4_seat : Ad ⟨"HouseClapsModel", "seat", "(II)I"⟩ 2 := ⟨⟨by decide, by decide⟩, by decide +kernel⟩
theorem lxd_X4_seat : XDecl ⟨"HouseClapsModel", "seat", "(II)I"⟩ := Or.inl ⟨_, q2037, ⟨rfl, Or.inl ⟨_, _, _, by decide, q2039⟩⟩, q1683⟩
theorem lvt_X4_seat : ∀ t ∈ [4], 0 < t ∧ t < 22 ∧ (Cond.selects (cnm t) ⟨"HouseClapsModel", "seat", "(II)I"⟩ ⟨"HouseClapsModel", "seat", "(II)I"⟩ ∈ lw_all ∨ Cond.selects (cnm t) ⟨"HouseClapsModel", "seat", "(II)I"⟩ ⟨"HouseClapsModel", "seat", "(II)I"⟩ ∈ lw_ex) := vt_cons ⟨by decide, by decide, Or.inl q2038⟩ (vt_nil)
theorem ladx_X4_thrown : Ad ⟨"HouseClapsModel", "thrown", "()I"⟩ 0 := ⟨⟨by decide, by decide⟩, by decide +kernel⟩
theorem lxd_X4_thrown : XDecl ⟨"HouseClapsModel", "thrown", "()I"⟩ := Or.inl ⟨_, q1673, ⟨rfl, Or.inl ⟨_, _, _, by decide, q1675⟩⟩, q1683⟩
theorem lvt_X4_thrown : ∀ t ∈ [4], 0 < t ∧ t < 22 ∧ (Cond.selects (cnm t) ⟨"HouseClapsModel", "thrown", "()I"⟩ ⟨"HouseClapsModel", "thrown", "()I"⟩ ∈ lw_all ∨ Cond.selects (cnm t) ⟨"HouseClapsModel", "thrown", "()I"⟩ ⟨"HouseClapsModel", "thrown", "()I"⟩ ∈ lw_ex) := vt_cons ⟨by decide, by decide, Or.inl q1674⟩ (vt_nil)
theorem ladx_X1_law : Ad ⟨"HouseClaps", "law", "(II)I"⟩ 2 := ⟨⟨by decide, by decide⟩, by decide +kernel⟩
theorem lxd_X1_law : XDecl ⟨"HouseClaps", "law", "(II)I"⟩ := Or.inl ⟨_, q1052, ⟨rfl, Or.inl ⟨_, _, _, by decide, q1054⟩⟩, q129⟩
theorem lvt_X1_law : ∀ t ∈ [1], 0 < t ∧ t < 22 ∧ (Cond.selects (cnm t) ⟨"HouseClaps", "law", "(II)I"⟩ ⟨"HouseClaps", "law", "(II)I"⟩ ∈ lw_all ∨ Cond.selects (cnm t) ⟨"HouseClaps", "law", "(II)I"⟩ ⟨"HouseClaps", "law", "(II)I"⟩ ∈ lw_ex) := vt_cons ⟨by decide, by decide, Or.inl q1053⟩ (vt_nil)
theorem ladx_X4_law : Ad ⟨"HouseClapsModel", "law", "(II)I"⟩ 2 := ⟨⟨by decide, by decide⟩, by decide +kernel⟩
theorem lxd_X4_law : XDecl ⟨"HouseClapsModel", "law", "(II)I"⟩ := Or.inl ⟨_, q2056, ⟨rfl, Or.inl ⟨_, _, _, by decide, q2058⟩⟩, q1683⟩
theorem lvt_X4_law : ∀ t ∈ [4], 0 < t ∧ t < 22 ∧ (Cond.selects (cnm t) ⟨"HouseClapsModel", "law", "(II)I"⟩ ⟨"HouseClapsModel", "law", "(II)I"⟩ ∈ lw_all ∨ Cond.selects (cnm t) ⟨"HouseClapsModel", "law", "(II)I"⟩ ⟨"HouseClapsModel", "law", "(II)I"⟩ ∈ lw_ex) := vt_cons ⟨by decide, by decide, Or.inl q2057⟩ (vt_nil)
theorem ladx_X1_pay : Ad ⟨"HouseClaps", "pay", "(II)Z"⟩ 2 := ⟨⟨by decide, by decide⟩, by decide +kernel⟩
theorem lxd_X1_pay : XDecl ⟨"HouseClaps", "pay", "(II)Z"⟩ := Or.inl ⟨_, q1057, ⟨rfl, Or.inl ⟨_, _, _, by decide, q1059⟩⟩, q129⟩
theorem lvt_X1_pay : ∀ t ∈ [1], 0 < t ∧ t < 22 ∧ (Cond.selects (cnm t) ⟨"HouseClaps", "pay", "(II)Z"⟩ ⟨"HouseClaps", "pay", "(II)Z"⟩ ∈ lw_all ∨ Cond.selects (cnm t) ⟨"HouseClaps", "pay", "(II)Z"⟩ ⟨"HouseClaps", "pay", "(II)Z"⟩ ∈ lw_ex) := vt_cons ⟨by decide, by decide, Or.inl q1058⟩ (vt_nil)
theorem ladx_X4_pay : Ad ⟨"HouseClapsModel", "pay", "(II)Z"⟩ 2 := ⟨⟨by decide, by decide⟩, by decide +kernel⟩
theorem lxd_X4_pay : XDecl ⟨"HouseClapsModel", "pay", "(II)Z"⟩ := Or.inl ⟨_, q2060, ⟨rfl, Or.inl ⟨_, _, _, by decide, q2062⟩⟩, q1683⟩
theorem lvt_X4_pay : ∀ t ∈ [4], 0 < t ∧ t < 22 ∧ (Cond.selects (cnm t) ⟨"HouseClapsModel", "pay", "(II)Z"⟩ ⟨"HouseClapsModel", "pay", "(II)Z"⟩ ∈ lw_all ∨ Cond.selects (cnm t) ⟨"HouseClapsModel", "pay", "(II)Z"⟩ ⟨"HouseClapsModel", "pay", "(II)Z"⟩ ∈ lw_ex) := vt_cons ⟨by decide, by decide, Or.inl q2061⟩ (vt_nil)
theorem ladx_X1_hiss : Ad ⟨"HouseClaps", "hiss", "(II)Z"⟩ 2 := ⟨⟨by decide, by decide⟩, by decide +kernel⟩
theorem lxd_X1_hiss : XDecl ⟨"HouseClaps", "hiss", "(II)Z"⟩ := Or.inl ⟨_, q1069, ⟨rfl, Or.inl ⟨_, _, _, by decide, q1071⟩⟩, q129⟩
theorem lvt_X1_hiss : ∀ t ∈ [1], 0 < t ∧ t < 22 ∧ (Cond.selects (cnm t) ⟨"HouseClaps", "hiss", "(II)Z"⟩ ⟨"HouseClaps", "hiss", "(II)Z"⟩ ∈ lw_all ∨ Cond.selects (cnm t) ⟨"HouseClaps", "hiss", "(II)Z"⟩ ⟨"HouseClaps", "hiss", "(II)Z"⟩ ∈ lw_ex) := vt_cons ⟨by decide, by decide, Or.inl q1070⟩ (vt_nil)
theorem ladx_X4_hiss : Ad ⟨"HouseClapsModel", "hiss", "(II)Z"⟩ 2 := ⟨⟨by decide, by decide⟩, by decide +kernel⟩
theorem lxd_X4_hiss : XDecl ⟨"HouseClapsModel", "hiss", "(II)Z"⟩ := Or.inl ⟨_, q2065, ⟨rfl, Or.inl ⟨_, _, _, by decide, q2067⟩⟩, q1683⟩
theorem lvt_X4_hiss : ∀ t ∈ [4], 0 < t ∧ t < 22 ∧ (Cond.selects (cnm t) ⟨"HouseClapsModel", "hiss", "(II)Z"⟩ ⟨"HouseClapsModel", "hiss", "(II)Z"⟩ ∈ lw_all ∨ Cond.selects (cnm t) ⟨"HouseClapsModel", "hiss", "(II)Z"⟩ ⟨"HouseClapsModel", "hiss", "(II)Z"⟩ ∈ lw_ex) := vt_cons ⟨by decide, by decide, Or.inl q2066⟩ (vt_nil)
theorem ladx_X1_cues : Ad ⟨"HouseClaps", "cues", "()I"⟩ 0 := ⟨⟨by decide, by decide⟩, by decide +kernel⟩
theorem lxd_X1_cues : XDecl ⟨"HouseClaps", "cues", "()I"⟩ := Or.inl ⟨_, q1073, ⟨rfl, Or.inr ⟨_, _, _, _, by decide, q1075⟩⟩, q129⟩
theorem lvt_X1_cues : ∀ t ∈ [1], 0 < t ∧ t < 22 ∧ (Cond.selects (cnm t) ⟨"HouseClaps", "cues", "()I"⟩ ⟨"HouseClaps", "cues", "()I"⟩ ∈ lw_all ∨ Cond.selects (cnm t) ⟨"HouseClaps", "cues", "()I"⟩ ⟨"HouseClaps", "cues", "()I"⟩ ∈ lw_ex) := vt_cons ⟨by decide, by decide, Or.inl q1074⟩ (vt_nil)
theorem ladx_X4_cues : Ad ⟨"HouseClapsModel", "cues", "()I"⟩ 0 := ⟨⟨by decide, by decide⟩, by decide +kernel⟩
theorem lxd_X4_cues : XDecl ⟨"HouseClapsModel", "cues", "()I"⟩ := Or.inl ⟨_, q2069, ⟨rfl, Or.inl ⟨_, _, _, by decide, q2071⟩⟩, q1683⟩
theorem lvt_X4_cues : ∀ t ∈ [4], 0 < t ∧ t < 22 ∧ (Cond.selects (cnm t) ⟨"HouseClapsModel", "cues", "()I"⟩ ⟨"HouseClapsModel", "cues", "()I"⟩ ∈ lw_all ∨ Cond.selects (cnm t) ⟨"HouseClapsModel", "cues", "()I"⟩ ⟨"HouseClapsModel", "cues", "()I"⟩ ∈ lw_ex) := vt_cons ⟨by decide, by decide, Or.inl q2070⟩ (vt_nil)
theorem ladx_X4_cue : Ad ⟨"HouseClapsModel", "cue", "(II)I"⟩ 2 := ⟨⟨by decide, by decide⟩, by decide +kernel⟩
theorem lxd_X4_cue : XDecl ⟨"HouseClapsModel", "cue", "(II)I"⟩ := Or.inl ⟨_, q2086, ⟨rfl, Or.inl ⟨_, _, _, by decide, q2088⟩⟩, q1683⟩
theorem lvt_X4_cue : ∀ t ∈ [4], 0 < t ∧ t < 22 ∧ (Cond.selects (cnm t) ⟨"HouseClapsModel", "cue", "(II)I"⟩ ⟨"HouseClapsModel", "cue", "(II)I"⟩ ∈ lw_all ∨ Cond.selects (cnm t) ⟨"HouseClapsModel", "cue", "(II)I"⟩ ⟨"HouseClapsModel", "cue", "(II)I"⟩ ∈ lw_ex) := vt_cons ⟨by decide, by decide, Or.inl q2087⟩ (vt_nil)
theorem ladx_X1_sees : Ad ⟨"HouseClaps", "sees", "(IIII)I"⟩ 4 := ⟨⟨by decide, by decide⟩, by decide +kernel⟩
theorem lxd_X1_sees : XDecl ⟨"HouseClaps", "sees", "(IIII)I"⟩ := Or.inl ⟨_, q1235, ⟨rfl, Or.inl ⟨_, _, _, by decide, q1237⟩⟩, q129⟩
theorem lvt_X1_sees : ∀ t ∈ [1], 0 < t ∧ t < 22 ∧ (Cond.selects (cnm t) ⟨"HouseClaps", "sees", "(IIII)I"⟩ ⟨"HouseClaps", "sees", "(IIII)I"⟩ ∈ lw_all ∨ Cond.selects (cnm t) ⟨"HouseClaps", "sees", "(IIII)I"⟩ ⟨"HouseClaps", "sees", "(IIII)I"⟩ ∈ lw_ex) := vt_cons ⟨by decide, by decide, Or.inl q1236⟩ (vt_nil)
theorem ladx_X4_sees : Ad ⟨"HouseClapsModel", "sees", "(IIII)I"⟩ 4 := ⟨⟨by decide, by decide⟩, by decide +kernel⟩
theorem lxd_X4_sees : XDecl ⟨"HouseClapsModel", "sees", "(IIII)I"⟩ := Or.inl ⟨_, q2090, ⟨rfl, Or.inl ⟨_, _, _, by decide, q2092⟩⟩, q1683⟩
theorem lvt_X4_sees : ∀ t ∈ [4], 0 < t ∧ t < 22 ∧ (Cond.selects (cnm t) ⟨"HouseClapsModel", "sees", "(IIII)I"⟩ ⟨"HouseClapsModel", "sees", "(IIII)I"⟩ ∈ lw_all ∨ Cond.selects (cnm t) ⟨"HouseClapsModel", "sees", "(IIII)I"⟩ ⟨"HouseClapsModel", "sees", "(IIII)I"⟩ ∈ lw_ex) := vt_cons ⟨by decide, by decide, Or.inl q2091⟩ (vt_nil)
theorem ladx_X1_at : Ad ⟨"HouseClaps", "at", "(III)I"⟩ 3 := ⟨⟨by decide, by decide⟩, by decide +kernel⟩
theorem lxd_X1_at : XDecl ⟨"HouseClaps", "at", "(III)I"⟩ := Or.inl ⟨_, q1374, ⟨rfl, Or.inl ⟨_, _, _, by decide, q1376⟩⟩, q129⟩
theorem lvt_X1_at : ∀ t ∈ [1], 0 < t ∧ t < 22 ∧ (Cond.selects (cnm t) ⟨"HouseClaps", "at", "(III)I"⟩ ⟨"HouseClaps", "at", "(III)I"⟩ ∈ lw_all ∨ Cond.selects (cnm t) ⟨"HouseClaps", "at", "(III)I"⟩ ⟨"HouseClaps", "at", "(III)I"⟩ ∈ lw_ex) := vt_cons ⟨by decide, by decide, Or.inl q1375⟩ (vt_nil)
theorem ladx_X4_at : Ad ⟨"HouseClapsModel", "at", "(III)I"⟩ 3 := ⟨⟨by decide, by decide⟩, by decide +kernel⟩
theorem lxd_X4_at : XDecl ⟨"HouseClapsModel", "at", "(III)I"⟩ := Or.inl ⟨_, q2140, ⟨rfl, Or.inl ⟨_, _, _, by decide, q2142⟩⟩, q1683⟩
theorem lvt_X4_at : ∀ t ∈ [4], 0 < t ∧ t < 22 ∧ (Cond.selects (cnm t) ⟨"HouseClapsModel", "at", "(III)I"⟩ ⟨"HouseClapsModel", "at", "(III)I"⟩ ∈ lw_all ∨ Cond.selects (cnm t) ⟨"HouseClapsModel", "at", "(III)I"⟩ ⟨"HouseClapsModel", "at", "(III)I"⟩ ∈ lw_ex) := vt_cons ⟨by decide, by decide, Or.inl q2141⟩ (vt_nil)
theorem ladx_X1_many : Ad ⟨"HouseClaps", "many", "(II)I"⟩ 2 := ⟨⟨by decide, by decide⟩, by decide +kernel⟩
theorem lxd_X1_many : XDecl ⟨"HouseClaps", "many", "(II)I"⟩ := Or.inl ⟨_, q1378, ⟨rfl, Or.inl ⟨_, _, _, by decide, q1380⟩⟩, q129⟩
theorem lvt_X1_many : ∀ t ∈ [1], 0 < t ∧ t < 22 ∧ (Cond.selects (cnm t) ⟨"HouseClaps", "many", "(II)I"⟩ ⟨"HouseClaps", "many", "(II)I"⟩ ∈ lw_all ∨ Cond.selects (cnm t) ⟨"HouseClaps", "many", "(II)I"⟩ ⟨"HouseClaps", "many", "(II)I"⟩ ∈ lw_ex) := vt_cons ⟨by decide, by decide, Or.inl q1379⟩ (vt_nil)
theorem ladx_X4_many : Ad ⟨"HouseClapsModel", "many", "(II)I"⟩ 2 := ⟨⟨by decide, by decide⟩, by decide +kernel⟩
theorem lxd_X4_many : XDecl ⟨"HouseClapsModel", "many", "(II)I"⟩ := Or.inl ⟨_, q2144, ⟨rfl, Or.inl ⟨_, _, _, by decide, q2146⟩⟩, q1683⟩
theorem lvt_X4_many : ∀ t ∈ [4], 0 < t ∧ t < 22 ∧ (Cond.selects (cnm t) ⟨"HouseClapsModel", "many", "(II)I"⟩ ⟨"HouseClapsModel", "many", "(II)I"⟩ ∈ lw_all ∨ Cond.selects (cnm t) ⟨"HouseClapsModel", "many", "(II)I"⟩ ⟨"HouseClapsModel", "many", "(II)I"⟩ ∈ lw_ex) := vt_cons ⟨by decide, by decide, Or.inl q2145⟩ (vt_nil)
theorem ladx_X1_would : Ad ⟨"HouseClaps", "would", "(III)I"⟩ 3 := ⟨⟨by decide, by decide⟩, by decide +kernel⟩
theorem lxd_X1_would : XDecl ⟨"HouseClaps", "would", "(III)I"⟩ := Or.inl ⟨_, q1390, ⟨rfl, Or.inl ⟨_, _, _, by decide, q1392⟩⟩, q129⟩
theorem lvt_X1_would : ∀ t ∈ [1], 0 < t ∧ t < 22 ∧ (Cond.selects (cnm t) ⟨"HouseClaps", "would", "(III)I"⟩ ⟨"HouseClaps", "would", "(III)I"⟩ ∈ lw_all ∨ Cond.selects (cnm t) ⟨"HouseClaps", "would", "(III)I"⟩ ⟨"HouseClaps", "would", "(III)I"⟩ ∈ lw_ex) := vt_cons ⟨by decide, by decide, Or.inl q1391⟩ (vt_nil)
theorem ladx_X4_would : Ad ⟨"HouseClapsModel", "would", "(III)I"⟩ 3 := ⟨⟨by decide, by decide⟩, by decide +kernel⟩
theorem lxd_X4_would : XDecl ⟨"HouseClapsModel", "would", "(III)I"⟩ := Or.inl ⟨_, q2148, ⟨rfl, Or.inl ⟨_, _, _, by decide, q2150⟩⟩, q1683⟩
theorem lvt_X4_would : ∀ t ∈ [4], 0 < t ∧ t < 22 ∧ (Cond.selects (cnm t) ⟨"HouseClapsModel", "would", "(III)I"⟩ ⟨"HouseClapsModel", "would", "(III)I"⟩ ∈ lw_all ∨ Cond.selects (cnm t) ⟨"HouseClapsModel", "would", "(III)I"⟩ ⟨"HouseClapsModel", "would", "(III)I"⟩ ∈ lw_ex) := vt_cons ⟨by decide, by decide, Or.inl q2149⟩ (vt_nil)
theorem ladx_X1_stands : Ad ⟨"HouseClaps", "stands", "(I)I"⟩ 1 := ⟨⟨by decide, by decide⟩, by decide +kernel⟩
theorem lxd_X1_stands : XDecl ⟨"HouseClaps", "stands", "(I)I"⟩ := Or.inl ⟨_, q1399, ⟨rfl, Or.inl ⟨_, _, _, by decide, q1401⟩⟩, q129⟩
theorem lvt_X1_stands : ∀ t ∈ [1], 0 < t ∧ t < 22 ∧ (Cond.selects (cnm t) ⟨"HouseClaps", "stands", "(I)I"⟩ ⟨"HouseClaps", "stands", "(I)I"⟩ ∈ lw_all ∨ Cond.selects (cnm t) ⟨"HouseClaps", "stands", "(I)I"⟩ ⟨"HouseClaps", "stands", "(I)I"⟩ ∈ lw_ex) := vt_cons ⟨by decide, by decide, Or.inl q1400⟩ (vt_nil)
theorem ladx_X4_stands : Ad ⟨"HouseClapsModel", "stands", "(I)I"⟩ 1 := ⟨⟨by decide, by decide⟩, by decide +kernel⟩
theorem lxd_X4_stands : XDecl ⟨"HouseClapsModel", "stands", "(I)I"⟩ := Or.inl ⟨_, q2152, ⟨rfl, Or.inl ⟨_, _, _, by decide, q2154⟩⟩, q1683⟩
theorem lvt_X4_stands : ∀ t ∈ [4], 0 < t ∧ t < 22 ∧ (Cond.selects (cnm t) ⟨"HouseClapsModel", "stands", "(I)I"⟩ ⟨"HouseClapsModel", "stands", "(I)I"⟩ ∈ lw_all ∨ Cond.selects (cnm t) ⟨"HouseClapsModel", "stands", "(I)I"⟩ ⟨"HouseClapsModel", "stands", "(I)I"⟩ ∈ lw_ex) := vt_cons ⟨by decide, by decide, Or.inl q2153⟩ (vt_nil)
theorem ladx_X1_anyway : Ad ⟨"HouseClaps", "anyway", "(I)I"⟩ 1 := ⟨⟨by decide, by decide⟩, by decide +kernel⟩
theorem lxd_X1_anyway : XDecl ⟨"HouseClaps", "anyway", "(I)I"⟩ := Or.inl ⟨_, q1404, ⟨rfl, Or.inl ⟨_, _, _, by decide, q1406⟩⟩, q129⟩
theorem lvt_X1_anyway : ∀ t ∈ [1], 0 < t ∧ t < 22 ∧ (Cond.selects (cnm t) ⟨"HouseClaps", "anyway", "(I)I"⟩ ⟨"HouseClaps", "anyway", "(I)I"⟩ ∈ lw_all ∨ Cond.selects (cnm t) ⟨"HouseClaps", "anyway", "(I)I"⟩ ⟨"HouseClaps", "anyway", "(I)I"⟩ ∈ lw_ex) := vt_cons ⟨by decide, by decide, Or.inl q1405⟩ (vt_nil)
theorem ladx_X4_anyway : Ad ⟨"HouseClapsModel", "anyway", "(I)I"⟩ 1 := ⟨⟨by decide, by decide⟩, by decide +kernel⟩
theorem lxd_X4_anyway : XDecl ⟨"HouseClapsModel", "anyway", "(I)I"⟩ := Or.inl ⟨_, q2156, ⟨rfl, Or.inl ⟨_, _, _, by decide, q2158⟩⟩, q1683⟩
theorem lvt_X4_anyway : ∀ t ∈ [4], 0 < t ∧ t < 22 ∧ (Cond.selects (cnm t) ⟨"HouseClapsModel", "anyway", "(I)I"⟩ ⟨"HouseClapsModel", "anyway", "(I)I"⟩ ∈ lw_all ∨ Cond.selects (cnm t) ⟨"HouseClapsModel", "anyway", "(I)I"⟩ ⟨"HouseClapsModel", "anyway", "(I)I"⟩ ∈ lw_ex) := vt_cons ⟨by decide, by decide, Or.inl q2157⟩ (vt_nil)
theorem ladx_X1_up : Ad ⟨"HouseClaps", "up", "()I"⟩ 0 := ⟨⟨by decide, by decide⟩, by decide +kernel⟩
theorem lxd_X1_up : XDecl ⟨"HouseClaps", "up", "()I"⟩ := Or.inl ⟨_, q1408, ⟨rfl, Or.inl ⟨_, _, _, by decide, q1410⟩⟩, q129⟩
theorem lvt_X1_up : ∀ t ∈ [1], 0 < t ∧ t < 22 ∧ (Cond.selects (cnm t) ⟨"HouseClaps", "up", "()I"⟩ ⟨"HouseClaps", "up", "()I"⟩ ∈ lw_all ∨ Cond.selects (cnm t) ⟨"HouseClaps", "up", "()I"⟩ ⟨"HouseClaps", "up", "()I"⟩ ∈ lw_ex) := vt_cons ⟨by decide, by decide, Or.inl q1409⟩ (vt_nil)
theorem ladx_X4_up : Ad ⟨"HouseClapsModel", "up", "()I"⟩ 0 := ⟨⟨by decide, by decide⟩, by decide +kernel⟩
theorem lxd_X4_up : XDecl ⟨"HouseClapsModel", "up", "()I"⟩ := Or.inl ⟨_, q2160, ⟨rfl, Or.inl ⟨_, _, _, by decide, q2162⟩⟩, q1683⟩
theorem lvt_X4_up : ∀ t ∈ [4], 0 < t ∧ t < 22 ∧ (Cond.selects (cnm t) ⟨"HouseClapsModel", "up", "()I"⟩ ⟨"HouseClapsModel", "up", "()I"⟩ ∈ lw_all ∨ Cond.selects (cnm t) ⟨"HouseClapsModel", "up", "()I"⟩ ⟨"HouseClapsModel", "up", "()I"⟩ ∈ lw_ex) := vt_cons ⟨by decide, by decide, Or.inl q2161⟩ (vt_nil)
theorem ladx_X1_calls : Ad ⟨"HouseClaps", "calls", "(I)I"⟩ 1 := ⟨⟨by decide, by decide⟩, by decide +kernel⟩
theorem lxd_X1_calls : XDecl ⟨"HouseClaps", "calls", "(I)I"⟩ := Or.inl ⟨_, q1417, ⟨rfl, Or.inl ⟨_, _, _, by decide, q1419⟩⟩, q129⟩
theorem lvt_X1_calls : ∀ t ∈ [1], 0 < t ∧ t < 22 ∧ (Cond.selects (cnm t) ⟨"HouseClaps", "calls", "(I)I"⟩ ⟨"HouseClaps", "calls", "(I)I"⟩ ∈ lw_all ∨ Cond.selects (cnm t) ⟨"HouseClaps", "calls", "(I)I"⟩ ⟨"HouseClaps", "calls", "(I)I"⟩ ∈ lw_ex) := vt_cons ⟨by decide, by decide, Or.inl q1418⟩ (vt_nil)
theorem ladx_X4_calls : Ad ⟨"HouseClapsModel", "calls", "(I)I"⟩ 1 := ⟨⟨by decide, by decide⟩, by decide +kernel⟩
theorem lxd_X4_calls : XDecl ⟨"HouseClapsModel", "calls", "(I)I"⟩ := Or.inl ⟨_, q2168, ⟨rfl, Or.inl ⟨_, _, _, by decide, q2170⟩⟩, q1683⟩
theorem lvt_X4_calls : ∀ t ∈ [4], 0 < t ∧ t < 22 ∧ (Cond.selects (cnm t) ⟨"HouseClapsModel", "calls", "(I)I"⟩ ⟨"HouseClapsModel", "calls", "(I)I"⟩ ∈ lw_all ∨ Cond.selects (cnm t) ⟨"HouseClapsModel", "calls", "(I)I"⟩ ⟨"HouseClapsModel", "calls", "(I)I"⟩ ∈ lw_ex) := vt_cons ⟨by decide, by decide, Or.inl q2169⟩ (vt_nil)
theorem ladx_X1_again : Ad ⟨"HouseClaps", "again", "(I)I"⟩ 1 := ⟨⟨by decide, by decide⟩, by decide +kernel⟩
theorem lxd_X1_again : XDecl ⟨"HouseClaps", "again", "(I)I"⟩ := Or.inl ⟨_, q1421, ⟨rfl, Or.inl ⟨_, _, _, by decide, q1423⟩⟩, q129⟩
theorem lvt_X1_again : ∀ t ∈ [1], 0 < t ∧ t < 22 ∧ (Cond.selects (cnm t) ⟨"HouseClaps", "again", "(I)I"⟩ ⟨"HouseClaps", "again", "(I)I"⟩ ∈ lw_all ∨ Cond.selects (cnm t) ⟨"HouseClaps", "again", "(I)I"⟩ ⟨"HouseClaps", "again", "(I)I"⟩ ∈ lw_ex) := vt_cons ⟨by decide, by decide, Or.inl q1422⟩ (vt_nil)
theorem ladx_X4_again : Ad ⟨"HouseClapsModel", "again", "(I)I"⟩ 1 := ⟨⟨by decide, by decide⟩, by decide +kernel⟩
theorem lxd_X4_again : XDecl ⟨"HouseClapsModel", "again", "(I)I"⟩ := Or.inl ⟨_, q2172, ⟨rfl, Or.inl ⟨_, _, _, by decide, q2174⟩⟩, q1683⟩
theorem lvt_X4_again : ∀ t ∈ [4], 0 < t ∧ t < 22 ∧ (Cond.selects (cnm t) ⟨"HouseClapsModel", "again", "(I)I"⟩ ⟨"HouseClapsModel", "again", "(I)I"⟩ ∈ lw_all ∨ Cond.selects (cnm t) ⟨"HouseClapsModel", "again", "(I)I"⟩ ⟨"HouseClapsModel", "again", "(I)I"⟩ ∈ lw_ex) := vt_cons ⟨by decide, by decide, Or.inl q2173⟩ (vt_nil)
theorem ladx_X1_carries : Ad ⟨"HouseClaps", "carries", "(I)I"⟩ 1 := ⟨⟨by decide, by decide⟩, by decide +kernel⟩
theorem lxd_X1_carries : XDecl ⟨"HouseClaps", "carries", "(I)I"⟩ := Or.inl ⟨_, q1455, ⟨rfl, Or.inl ⟨_, _, _, by decide, q1457⟩⟩, q129⟩
theorem lvt_X1_carries : ∀ t ∈ [1], 0 < t ∧ t < 22 ∧ (Cond.selects (cnm t) ⟨"HouseClaps", "carries", "(I)I"⟩ ⟨"HouseClaps", "carries", "(I)I"⟩ ∈ lw_all ∨ Cond.selects (cnm t) ⟨"HouseClaps", "carries", "(I)I"⟩ ⟨"HouseClaps", "carries", "(I)I"⟩ ∈ lw_ex) := vt_cons ⟨by decide, by decide, Or.inl q1456⟩ (vt_nil)
theorem ladx_X4_carries : Ad ⟨"HouseClapsModel", "carries", "(I)I"⟩ 1 := ⟨⟨by decide, by decide⟩, by decide +kernel⟩
theorem lxd_X4_carries : XDecl ⟨"HouseClapsModel", "carries", "(I)I"⟩ := Or.inl ⟨_, q2180, ⟨rfl, Or.inl ⟨_, _, _, by decide, q2182⟩⟩, q1683⟩
theorem lvt_X4_carries : ∀ t ∈ [4], 0 < t ∧ t < 22 ∧ (Cond.selects (cnm t) ⟨"HouseClapsModel", "carries", "(I)I"⟩ ⟨"HouseClapsModel", "carries", "(I)I"⟩ ∈ lw_all ∨ Cond.selects (cnm t) ⟨"HouseClapsModel", "carries", "(I)I"⟩ ⟨"HouseClapsModel", "carries", "(I)I"⟩ ∈ lw_ex) := vt_cons ⟨by decide, by decide, Or.inl q2181⟩ (vt_nil)
theorem ladx_X1_cheapest : Ad ⟨"HouseClaps", "cheapest", "()I"⟩ 0 := ⟨⟨by decide, by decide⟩, by decide +kernel⟩
theorem lxd_X1_cheapest : XDecl ⟨"HouseClaps", "cheapest", "()I"⟩ := Or.inl ⟨_, q1467, ⟨rfl, Or.inl ⟨_, _, _, by decide, q1469⟩⟩, q129⟩
theorem lvt_X1_cheapest : ∀ t ∈ [1], 0 < t ∧ t < 22 ∧ (Cond.selects (cnm t) ⟨"HouseClaps", "cheapest", "()I"⟩ ⟨"HouseClaps", "cheapest", "()I"⟩ ∈ lw_all ∨ Cond.selects (cnm t) ⟨"HouseClaps", "cheapest", "()I"⟩ ⟨"HouseClaps", "cheapest", "()I"⟩ ∈ lw_ex) := vt_cons ⟨by decide, by decide, Or.inl q1468⟩ (vt_nil)
theorem ladx_X4_cheapest : Ad ⟨"HouseClapsModel", "cheapest", "()I"⟩ 0 := ⟨⟨by decide, by decide⟩, by decide +kernel⟩
theorem lxd_X4_cheapest : XDecl ⟨"HouseClapsModel", "cheapest", "()I"⟩ := Or.inl ⟨_, q2188, ⟨rfl, Or.inl ⟨_, _, _, by decide, q2190⟩⟩, q1683⟩
theorem lvt_X4_cheapest : ∀ t ∈ [4], 0 < t ∧ t < 22 ∧ (Cond.selects (cnm t) ⟨"HouseClapsModel", "cheapest", "()I"⟩ ⟨"HouseClapsModel", "cheapest", "()I"⟩ ∈ lw_all ∨ Cond.selects (cnm t) ⟨"HouseClapsModel", "cheapest", "()I"⟩ ⟨"HouseClapsModel", "cheapest", "()I"⟩ ∈ lw_ex) := vt_cons ⟨by decide, by decide, Or.inl q2189⟩ (vt_nil)
theorem ladx_X1_bought : Ad ⟨"HouseClaps", "bought", "()I"⟩ 0 := ⟨⟨by decide, by decide⟩, by decide +kernel⟩
theorem lxd_X1_bought : XDecl ⟨"HouseClaps", "bought", "()I"⟩ := Or.inl ⟨_, q1500, ⟨rfl, Or.inl ⟨_, _, _, by decide, q1502⟩⟩, q129⟩
theorem lvt_X1_bought : ∀ t ∈ [1], 0 < t ∧ t < 22 ∧ (Cond.selects (cnm t) ⟨"HouseClaps", "bought", "()I"⟩ ⟨"HouseClaps", "bought", "()I"⟩ ∈ lw_all ∨ Cond.selects (cnm t) ⟨"HouseClaps", "bought", "()I"⟩ ⟨"HouseClaps", "bought", "()I"⟩ ∈ lw_ex) := vt_cons ⟨by decide, by decide, Or.inl q1501⟩ (vt_nil)
theorem ladx_X4_bought : Ad ⟨"HouseClapsModel", "bought", "()I"⟩ 0 := ⟨⟨by decide, by decide⟩, by decide +kernel⟩
theorem lxd_X4_bought : XDecl ⟨"HouseClapsModel", "bought", "()I"⟩ := Or.inl ⟨_, q2205, ⟨rfl, Or.inl ⟨_, _, _, by decide, q2207⟩⟩, q1683⟩
theorem lvt_X4_bought : ∀ t ∈ [4], 0 < t ∧ t < 22 ∧ (Cond.selects (cnm t) ⟨"HouseClapsModel", "bought", "()I"⟩ ⟨"HouseClapsModel", "bought", "()I"⟩ ∈ lw_all ∨ Cond.selects (cnm t) ⟨"HouseClapsModel", "bought", "()I"⟩ ⟨"HouseClapsModel", "bought", "()I"⟩ ∈ lw_ex) := vt_cons ⟨by decide, by decide, Or.inl q2206⟩ (vt_nil)
theorem ladx_X1_hush : Ad ⟨"HouseClaps", "hush", "()I"⟩ 0 := ⟨⟨by decide, by decide⟩, by decide +kernel⟩
theorem lxd_X1_hush : XDecl ⟨"HouseClaps", "hush", "()I"⟩ := Or.inl ⟨_, q1504, ⟨rfl, Or.inl ⟨_, _, _, by decide, q1506⟩⟩, q129⟩
theorem lvt_X1_hush : ∀ t ∈ [1], 0 < t ∧ t < 22 ∧ (Cond.selects (cnm t) ⟨"HouseClaps", "hush", "()I"⟩ ⟨"HouseClaps", "hush", "()I"⟩ ∈ lw_all ∨ Cond.selects (cnm t) ⟨"HouseClaps", "hush", "()I"⟩ ⟨"HouseClaps", "hush", "()I"⟩ ∈ lw_ex) := vt_cons ⟨by decide, by decide, Or.inl q1505⟩ (vt_nil)
theorem ladx_X4_hush : Ad ⟨"HouseClapsModel", "hush", "()I"⟩ 0 := ⟨⟨by decide, by decide⟩, by decide +kernel⟩
theorem lxd_X4_hush : XDecl ⟨"HouseClapsModel", "hush", "()I"⟩ := Or.inl ⟨_, q2209, ⟨rfl, Or.inl ⟨_, _, _, by decide, q2211⟩⟩, q1683⟩
theorem lvt_X4_hush : ∀ t ∈ [4], 0 < t ∧ t < 22 ∧ (Cond.selects (cnm t) ⟨"HouseClapsModel", "hush", "()I"⟩ ⟨"HouseClapsModel", "hush", "()I"⟩ ∈ lw_all ∨ Cond.selects (cnm t) ⟨"HouseClapsModel", "hush", "()I"⟩ ⟨"HouseClapsModel", "hush", "()I"⟩ ∈ lw_ex) := vt_cons ⟨by decide, by decide, Or.inl q2210⟩ (vt_nil)
theorem ladx_X1_coalitions : Ad ⟨"HouseClaps", "coalitions", "(I)I"⟩ 1 := ⟨⟨by decide, by decide⟩, by decide +kernel⟩
theorem lxd_X1_coalitions : XDecl ⟨"HouseClaps", "coalitions", "(I)I"⟩ := Or.inl ⟨_, q1508, ⟨rfl, Or.inl ⟨_, _, _, by decide, q1510⟩⟩, q129⟩
theorem lvt_X1_coalitions : ∀ t ∈ [1], 0 < t ∧ t < 22 ∧ (Cond.selects (cnm t) ⟨"HouseClaps", "coalitions", "(I)I"⟩ ⟨"HouseClaps", "coalitions", "(I)I"⟩ ∈ lw_all ∨ Cond.selects (cnm t) ⟨"HouseClaps", "coalitions", "(I)I"⟩ ⟨"HouseClaps", "coalitions", "(I)I"⟩ ∈ lw_ex) := vt_cons ⟨by decide, by decide, Or.inl q1509⟩ (vt_nil)
theorem ladx_X4_coalitions : Ad ⟨"HouseClapsModel", "coalitions", "(I)I"⟩ 1 := ⟨⟨by decide, by decide⟩, by decide +kernel⟩
theorem lxd_X4_coalitions : XDecl ⟨"HouseClapsModel", "coalitions", "(I)I"⟩ := Or.inl ⟨_, q2213, ⟨rfl, Or.inl ⟨_, _, _, by decide, q2215⟩⟩, q1683⟩
theorem lvt_X4_coalitions : ∀ t ∈ [4], 0 < t ∧ t < 22 ∧ (Cond.selects (cnm t) ⟨"HouseClapsModel", "coalitions", "(I)I"⟩ ⟨"HouseClapsModel", "coalitions", "(I)I"⟩ ∈ lw_all ∨ Cond.selects (cnm t) ⟨"HouseClapsModel", "coalitions", "(I)I"⟩ ⟨"HouseClapsModel", "coalitions", "(I)I"⟩ ∈ lw_ex) := vt_cons ⟨by decide, by decide, Or.inl q2214⟩ (vt_nil)
theorem ladx_X1_worth : Ad ⟨"HouseClaps", "worth", "()I"⟩ 0 := ⟨⟨by decide, by decide⟩, by decide +kernel⟩
theorem lxd_X1_worth : XDecl ⟨"HouseClaps", "worth", "()I"⟩ := Or.inl ⟨_, q1516, ⟨rfl, Or.inl ⟨_, _, _, by decide, q1518⟩⟩, q129⟩
theorem lvt_X1_worth : ∀ t ∈ [1], 0 < t ∧ t < 22 ∧ (Cond.selects (cnm t) ⟨"HouseClaps", "worth", "()I"⟩ ⟨"HouseClaps", "worth", "()I"⟩ ∈ lw_all ∨ Cond.selects (cnm t) ⟨"HouseClaps", "worth", "()I"⟩ ⟨"HouseClaps", "worth", "()I"⟩ ∈ lw_ex) := vt_cons ⟨by decide, by decide, Or.inl q1517⟩ (vt_nil)
theorem ladx_X4_worth : Ad ⟨"HouseClapsModel", "worth", "()I"⟩ 0 := ⟨⟨by decide, by decide⟩, by decide +kernel⟩
theorem lxd_X4_worth : XDecl ⟨"HouseClapsModel", "worth", "()I"⟩ := Or.inl ⟨_, q2217, ⟨rfl, Or.inl ⟨_, _, _, by decide, q2219⟩⟩, q1683⟩
theorem lvt_X4_worth : ∀ t ∈ [4], 0 < t ∧ t < 22 ∧ (Cond.selects (cnm t) ⟨"HouseClapsModel", "worth", "()I"⟩ ⟨"HouseClapsModel", "worth", "()I"⟩ ∈ lw_all ∨ Cond.selects (cnm t) ⟨"HouseClapsModel", "worth", "()I"⟩ ⟨"HouseClapsModel", "worth", "()I"⟩ ∈ lw_ex) := vt_cons ⟨by decide, by decide, Or.inl q2218⟩ (vt_nil)
theorem ladx_X4_worthOf : Ad ⟨"HouseClapsModel", "worthOf", "(II)I"⟩ 2 := ⟨⟨by decide, by decide⟩, by decide +kernel⟩
theorem lxd_X4_worthOf : XDecl ⟨"HouseClapsModel", "worthOf", "(II)I"⟩ := Or.inl ⟨_, q2224, ⟨rfl, Or.inl ⟨_, _, _, by decide, q2226⟩⟩, q1683⟩
theorem lvt_X4_worthOf : ∀ t ∈ [4], 0 < t ∧ t < 22 ∧ (Cond.selects (cnm t) ⟨"HouseClapsModel", "worthOf", "(II)I"⟩ ⟨"HouseClapsModel", "worthOf", "(II)I"⟩ ∈ lw_all ∨ Cond.selects (cnm t) ⟨"HouseClapsModel", "worthOf", "(II)I"⟩ ⟨"HouseClapsModel", "worthOf", "(II)I"⟩ ∈ lw_ex) := vt_cons ⟨by decide, by decide, Or.inl q2225⟩ (vt_nil)
theorem ladx_X1_sides : Ad ⟨"HouseClaps", "sides", "()I"⟩ 0 := ⟨⟨by decide, by decide⟩, by decide +kernel⟩
theorem lxd_X1_sides : XDecl ⟨"HouseClaps", "sides", "()I"⟩ := Or.inl ⟨_, q1523, ⟨rfl, Or.inl ⟨_, _, _, by decide, q1525⟩⟩, q129⟩
theorem lvt_X1_sides : ∀ t ∈ [1], 0 < t ∧ t < 22 ∧ (Cond.selects (cnm t) ⟨"HouseClaps", "sides", "()I"⟩ ⟨"HouseClaps", "sides", "()I"⟩ ∈ lw_all ∨ Cond.selects (cnm t) ⟨"HouseClaps", "sides", "()I"⟩ ⟨"HouseClaps", "sides", "()I"⟩ ∈ lw_ex) := vt_cons ⟨by decide, by decide, Or.inl q1524⟩ (vt_nil)
theorem ladx_X4_sides : Ad ⟨"HouseClapsModel", "sides", "()I"⟩ 0 := ⟨⟨by decide, by decide⟩, by decide +kernel⟩
theorem lxd_X4_sides : XDecl ⟨"HouseClapsModel", "sides", "()I"⟩ := Or.inl ⟨_, q2228, ⟨rfl, Or.inl ⟨_, _, _, by decide, q2230⟩⟩, q1683⟩
theorem lvt_X4_sides : ∀ t ∈ [4], 0 < t ∧ t < 22 ∧ (Cond.selects (cnm t) ⟨"HouseClapsModel", "sides", "()I"⟩ ⟨"HouseClapsModel", "sides", "()I"⟩ ∈ lw_all ∨ Cond.selects (cnm t) ⟨"HouseClapsModel", "sides", "()I"⟩ ⟨"HouseClapsModel", "sides", "()I"⟩ ∈ lw_ex) := vt_cons ⟨by decide, by decide, Or.inl q2229⟩ (vt_nil)
theorem ladx_X1_side : Ad ⟨"HouseClaps", "side", "(I)I"⟩ 1 := ⟨⟨by decide, by decide⟩, by decide +kernel⟩
theorem lxd_X1_side : XDecl ⟨"HouseClaps", "side", "(I)I"⟩ := Or.inl ⟨_, q1528, ⟨rfl, Or.inl ⟨_, _, _, by decide, q1530⟩⟩, q129⟩
theorem lvt_X1_side : ∀ t ∈ [1], 0 < t ∧ t < 22 ∧ (Cond.selects (cnm t) ⟨"HouseClaps", "side", "(I)I"⟩ ⟨"HouseClaps", "side", "(I)I"⟩ ∈ lw_all ∨ Cond.selects (cnm t) ⟨"HouseClaps", "side", "(I)I"⟩ ⟨"HouseClaps", "side", "(I)I"⟩ ∈ lw_ex) := vt_cons ⟨by decide, by decide, Or.inl q1529⟩ (vt_nil)
theorem ladx_X4_side : Ad ⟨"HouseClapsModel", "side", "(I)I"⟩ 1 := ⟨⟨by decide, by decide⟩, by decide +kernel⟩
theorem lxd_X4_side : XDecl ⟨"HouseClapsModel", "side", "(I)I"⟩ := Or.inl ⟨_, q2232, ⟨rfl, Or.inl ⟨_, _, _, by decide, q2234⟩⟩, q1683⟩
theorem lvt_X4_side : ∀ t ∈ [4], 0 < t ∧ t < 22 ∧ (Cond.selects (cnm t) ⟨"HouseClapsModel", "side", "(I)I"⟩ ⟨"HouseClapsModel", "side", "(I)I"⟩ ∈ lw_all ∨ Cond.selects (cnm t) ⟨"HouseClapsModel", "side", "(I)I"⟩ ⟨"HouseClapsModel", "side", "(I)I"⟩ ∈ lw_ex) := vt_cons ⟨by decide, by decide, Or.inl q2233⟩ (vt_nil)
theorem ladx_X1_began : Ad ⟨"HouseClaps", "began", "(I)I"⟩ 1 := ⟨⟨by decide, by decide⟩, by decide +kernel⟩
theorem lxd_X1_began : XDecl ⟨"HouseClaps", "began", "(I)I"⟩ := Or.inl ⟨_, q1532, ⟨rfl, Or.inl ⟨_, _, _, by decide, q1534⟩⟩, q129⟩
theorem lvt_X1_began : ∀ t ∈ [1], 0 < t ∧ t < 22 ∧ (Cond.selects (cnm t) ⟨"HouseClaps", "began", "(I)I"⟩ ⟨"HouseClaps", "began", "(I)I"⟩ ∈ lw_all ∨ Cond.selects (cnm t) ⟨"HouseClaps", "began", "(I)I"⟩ ⟨"HouseClaps", "began", "(I)I"⟩ ∈ lw_ex) := vt_cons ⟨by decide, by decide, Or.inl q1533⟩ (vt_nil)
theorem ladx_X4_began : Ad ⟨"HouseClapsModel", "began", "(I)I"⟩ 1 := ⟨⟨by decide, by decide⟩, by decide +kernel⟩
theorem lxd_X4_began : XDecl ⟨"HouseClapsModel", "began", "(I)I"⟩ := Or.inl ⟨_, q2236, ⟨rfl, Or.inl ⟨_, _, _, by decide, q2238⟩⟩, q1683⟩
theorem lvt_X4_began : ∀ t ∈ [4], 0 < t ∧ t < 22 ∧ (Cond.selects (cnm t) ⟨"HouseClapsModel", "began", "(I)I"⟩ ⟨"HouseClapsModel", "began", "(I)I"⟩ ∈ lw_all ∨ Cond.selects (cnm t) ⟨"HouseClapsModel", "began", "(I)I"⟩ ⟨"HouseClapsModel", "began", "(I)I"⟩ ∈ lw_ex) := vt_cons ⟨by decide, by decide, Or.inl q2237⟩ (vt_nil)
theorem ladx_X1_beganAt : Ad ⟨"HouseClaps", "beganAt", "(I)I"⟩ 1 := ⟨⟨by decide, by decide⟩, by decide +kernel⟩
theorem lxd_X1_beganAt : XDecl ⟨"HouseClaps", "beganAt", "(I)I"⟩ := Or.inl ⟨_, q1542, ⟨rfl, Or.inl ⟨_, _, _, by decide, q1544⟩⟩, q129⟩
theorem lvt_X1_beganAt : ∀ t ∈ [1], 0 < t ∧ t < 22 ∧ (Cond.selects (cnm t) ⟨"HouseClaps", "beganAt", "(I)I"⟩ ⟨"HouseClaps", "beganAt", "(I)I"⟩ ∈ lw_all ∨ Cond.selects (cnm t) ⟨"HouseClaps", "beganAt", "(I)I"⟩ ⟨"HouseClaps", "beganAt", "(I)I"⟩ ∈ lw_ex) := vt_cons ⟨by decide, by decide, Or.inl q1543⟩ (vt_nil)
theorem ladx_X4_beganAt : Ad ⟨"HouseClapsModel", "beganAt", "(I)I"⟩ 1 := ⟨⟨by decide, by decide⟩, by decide +kernel⟩
theorem lxd_X4_beganAt : XDecl ⟨"HouseClapsModel", "beganAt", "(I)I"⟩ := Or.inl ⟨_, q2244, ⟨rfl, Or.inl ⟨_, _, _, by decide, q2246⟩⟩, q1683⟩
theorem lvt_X4_beganAt : ∀ t ∈ [4], 0 < t ∧ t < 22 ∧ (Cond.selects (cnm t) ⟨"HouseClapsModel", "beganAt", "(I)I"⟩ ⟨"HouseClapsModel", "beganAt", "(I)I"⟩ ∈ lw_all ∨ Cond.selects (cnm t) ⟨"HouseClapsModel", "beganAt", "(I)I"⟩ ⟨"HouseClapsModel", "beganAt", "(I)I"⟩ ∈ lw_ex) := vt_cons ⟨by decide, by decide, Or.inl q2245⟩ (vt_nil)
theorem ladx_X1_parts : Ad ⟨"HouseClaps", "parts", "(II)I"⟩ 2 := ⟨⟨by decide, by decide⟩, by decide +kernel⟩
theorem lxd_X1_parts : XDecl ⟨"HouseClaps", "parts", "(II)I"⟩ := Or.inl ⟨_, q1546, ⟨rfl, Or.inl ⟨_, _, _, by decide, q1548⟩⟩, q129⟩
theorem lvt_X1_parts : ∀ t ∈ [1], 0 < t ∧ t < 22 ∧ (Cond.selects (cnm t) ⟨"HouseClaps", "parts", "(II)I"⟩ ⟨"HouseClaps", "parts", "(II)I"⟩ ∈ lw_all ∨ Cond.selects (cnm t) ⟨"HouseClaps", "parts", "(II)I"⟩ ⟨"HouseClaps", "parts", "(II)I"⟩ ∈ lw_ex) := vt_cons ⟨by decide, by decide, Or.inl q1547⟩ (vt_nil)
theorem ladx_X4_parts : Ad ⟨"HouseClapsModel", "parts", "(II)I"⟩ 2 := ⟨⟨by decide, by decide⟩, by decide +kernel⟩
theorem lxd_X4_parts : XDecl ⟨"HouseClapsModel", "parts", "(II)I"⟩ := Or.inl ⟨_, q2248, ⟨rfl, Or.inl ⟨_, _, _, by decide, q2250⟩⟩, q1683⟩
theorem lvt_X4_parts : ∀ t ∈ [4], 0 < t ∧ t < 22 ∧ (Cond.selects (cnm t) ⟨"HouseClapsModel", "parts", "(II)I"⟩ ⟨"HouseClapsModel", "parts", "(II)I"⟩ ∈ lw_all ∨ Cond.selects (cnm t) ⟨"HouseClapsModel", "parts", "(II)I"⟩ ⟨"HouseClapsModel", "parts", "(II)I"⟩ ∈ lw_ex) := vt_cons ⟨by decide, by decide, Or.inl q2249⟩ (vt_nil)
theorem ladx_X1_exchanged : Ad ⟨"HouseClaps", "exchanged", "()I"⟩ 0 := ⟨⟨by decide, by decide⟩, by decide +kernel⟩
theorem lxd_X1_exchanged : XDecl ⟨"HouseClaps", "exchanged", "()I"⟩ := Or.inl ⟨_, q1550, ⟨rfl, Or.inl ⟨_, _, _, by decide, q1552⟩⟩, q129⟩
theorem lvt_X1_exchanged : ∀ t ∈ [1], 0 < t ∧ t < 22 ∧ (Cond.selects (cnm t) ⟨"HouseClaps", "exchanged", "()I"⟩ ⟨"HouseClaps", "exchanged", "()I"⟩ ∈ lw_all ∨ Cond.selects (cnm t) ⟨"HouseClaps", "exchanged", "()I"⟩ ⟨"HouseClaps", "exchanged", "()I"⟩ ∈ lw_ex) := vt_cons ⟨by decide, by decide, Or.inl q1551⟩ (vt_nil)
theorem ladx_X4_exchanged : Ad ⟨"HouseClapsModel", "exchanged", "()I"⟩ 0 := ⟨⟨by decide, by decide⟩, by decide +kernel⟩
theorem lxd_X4_exchanged : XDecl ⟨"HouseClapsModel", "exchanged", "()I"⟩ := Or.inl ⟨_, q2252, ⟨rfl, Or.inl ⟨_, _, _, by decide, q2254⟩⟩, q1683⟩
theorem lvt_X4_exchanged : ∀ t ∈ [4], 0 < t ∧ t < 22 ∧ (Cond.selects (cnm t) ⟨"HouseClapsModel", "exchanged", "()I"⟩ ⟨"HouseClapsModel", "exchanged", "()I"⟩ ∈ lw_all ∨ Cond.selects (cnm t) ⟨"HouseClapsModel", "exchanged", "()I"⟩ ⟨"HouseClapsModel", "exchanged", "()I"⟩ ∈ lw_ex) := vt_cons ⟨by decide, by decide, Or.inl q2253⟩ (vt_nil)
theorem ladx_X1_exchange : Ad ⟨"HouseClaps", "exchange", "(II)Z"⟩ 2 := ⟨⟨by decide, by decide⟩, by decide +kernel⟩
theorem lxd_X1_exchange : XDecl ⟨"HouseClaps", "exchange", "(II)Z"⟩ := Or.inl ⟨_, q1566, ⟨rfl, Or.inl ⟨_, _, _, by decide, q1568⟩⟩, q129⟩
theorem lvt_X1_exchange : ∀ t ∈ [1], 0 < t ∧ t < 22 ∧ (Cond.selects (cnm t) ⟨"HouseClaps", "exchange", "(II)Z"⟩ ⟨"HouseClaps", "exchange", "(II)Z"⟩ ∈ lw_all ∨ Cond.selects (cnm t) ⟨"HouseClaps", "exchange", "(II)Z"⟩ ⟨"HouseClaps", "exchange", "(II)Z"⟩ ∈ lw_ex) := vt_cons ⟨by decide, by decide, Or.inl q1567⟩ (vt_nil)
theorem ladx_X4_exchange : Ad ⟨"HouseClapsModel", "exchange", "(II)Z"⟩ 2 := ⟨⟨by decide, by decide⟩, by decide +kernel⟩
theorem lxd_X4_exchange : XDecl ⟨"HouseClapsModel", "exchange", "(II)Z"⟩ := Or.inl ⟨_, q2264, ⟨rfl, Or.inl ⟨_, _, _, by decide, q2266⟩⟩, q1683⟩
theorem lvt_X4_exchange : ∀ t ∈ [4], 0 < t ∧ t < 22 ∧ (Cond.selects (cnm t) ⟨"HouseClapsModel", "exchange", "(II)Z"⟩ ⟨"HouseClapsModel", "exchange", "(II)Z"⟩ ∈ lw_all ∨ Cond.selects (cnm t) ⟨"HouseClapsModel", "exchange", "(II)Z"⟩ ⟨"HouseClapsModel", "exchange", "(II)Z"⟩ ∈ lw_ex) := vt_cons ⟨by decide, by decide, Or.inl q2265⟩ (vt_nil)
theorem ladx_X1_starts : Ad ⟨"HouseClaps", "starts", "(I)I"⟩ 1 := ⟨⟨by decide, by decide⟩, by decide +kernel⟩
theorem lxd_X1_starts : XDecl ⟨"HouseClaps", "starts", "(I)I"⟩ := Or.inl ⟨_, q1570, ⟨rfl, Or.inl ⟨_, _, _, by decide, q1572⟩⟩, q129⟩
theorem lvt_X1_starts : ∀ t ∈ [1], 0 < t ∧ t < 22 ∧ (Cond.selects (cnm t) ⟨"HouseClaps", "starts", "(I)I"⟩ ⟨"HouseClaps", "starts", "(I)I"⟩ ∈ lw_all ∨ Cond.selects (cnm t) ⟨"HouseClaps", "starts", "(I)I"⟩ ⟨"HouseClaps", "starts", "(I)I"⟩ ∈ lw_ex) := vt_cons ⟨by decide, by decide, Or.inl q1571⟩ (vt_nil)
theorem ladx_X4_starts : Ad ⟨"HouseClapsModel", "starts", "(I)I"⟩ 1 := ⟨⟨by decide, by decide⟩, by decide +kernel⟩
theorem lxd_X4_starts : XDecl ⟨"HouseClapsModel", "starts", "(I)I"⟩ := Or.inl ⟨_, q2280, ⟨rfl, Or.inl ⟨_, _, _, by decide, q2282⟩⟩, q1683⟩
theorem lvt_X4_starts : ∀ t ∈ [4], 0 < t ∧ t < 22 ∧ (Cond.selects (cnm t) ⟨"HouseClapsModel", "starts", "(I)I"⟩ ⟨"HouseClapsModel", "starts", "(I)I"⟩ ∈ lw_all ∨ Cond.selects (cnm t) ⟨"HouseClapsModel", "starts", "(I)I"⟩ ⟨"HouseClapsModel", "starts", "(I)I"⟩ ∈ lw_ex) := vt_cons ⟨by decide, by decide, Or.inl q2281⟩ (vt_nil)
theorem ladx_X1_leader : Ad ⟨"HouseClaps", "leader", "(I)I"⟩ 1 := ⟨⟨by decide, by decide⟩, by decide +kernel⟩
theorem lxd_X1_leader : XDecl ⟨"HouseClaps", "leader", "(I)I"⟩ := Or.inl ⟨_, q1574, ⟨rfl, Or.inl ⟨_, _, _, by decide, q1576⟩⟩, q129⟩
theorem lvt_X1_leader : ∀ t ∈ [1], 0 < t ∧ t < 22 ∧ (Cond.selects (cnm t) ⟨"HouseClaps", "leader", "(I)I"⟩ ⟨"HouseClaps", "leader", "(I)I"⟩ ∈ lw_all ∨ Cond.selects (cnm t) ⟨"HouseClaps", "leader", "(I)I"⟩ ⟨"HouseClaps", "leader", "(I)I"⟩ ∈ lw_ex) := vt_cons ⟨by decide, by decide, Or.inl q1575⟩ (vt_nil)
theorem ladx_X4_leader : Ad ⟨"HouseClapsModel", "leader", "(I)I"⟩ 1 := ⟨⟨by decide, by decide⟩, by decide +kernel⟩
theorem lxd_X4_leader : XDecl ⟨"HouseClapsModel", "leader", "(I)I"⟩ := Or.inl ⟨_, q2284, ⟨rfl, Or.inl ⟨_, _, _, by decide, q2286⟩⟩, q1683⟩
theorem lvt_X4_leader : ∀ t ∈ [4], 0 < t ∧ t < 22 ∧ (Cond.selects (cnm t) ⟨"HouseClapsModel", "leader", "(I)I"⟩ ⟨"HouseClapsModel", "leader", "(I)I"⟩ ∈ lw_all ∨ Cond.selects (cnm t) ⟨"HouseClapsModel", "leader", "(I)I"⟩ ⟨"HouseClapsModel", "leader", "(I)I"⟩ ∈ lw_ex) := vt_cons ⟨by decide, by decide, Or.inl q2285⟩ (vt_nil)
theorem ladx_X1_drawn : Ad ⟨"HouseClaps", "drawn", "(II)Z"⟩ 2 := ⟨⟨by decide, by decide⟩, by decide +kernel⟩
theorem lxd_X1_drawn : XDecl ⟨"HouseClaps", "drawn", "(II)Z"⟩ := Or.inl ⟨_, q1579, ⟨rfl, Or.inl ⟨_, _, _, by decide, q1581⟩⟩, q129⟩
theorem lvt_X1_drawn : ∀ t ∈ [1], 0 < t ∧ t < 22 ∧ (Cond.selects (cnm t) ⟨"HouseClaps", "drawn", "(II)Z"⟩ ⟨"HouseClaps", "drawn", "(II)Z"⟩ ∈ lw_all ∨ Cond.selects (cnm t) ⟨"HouseClaps", "drawn", "(II)Z"⟩ ⟨"HouseClaps", "drawn", "(II)Z"⟩ ∈ lw_ex) := vt_cons ⟨by decide, by decide, Or.inl q1580⟩ (vt_nil)
theorem ladx_X4_drawn : Ad ⟨"HouseClapsModel", "drawn", "(II)Z"⟩ 2 := ⟨⟨by decide, by decide⟩, by decide +kernel⟩
theorem lxd_X4_drawn : XDecl ⟨"HouseClapsModel", "drawn", "(II)Z"⟩ := Or.inl ⟨_, q2288, ⟨rfl, Or.inl ⟨_, _, _, by decide, q2290⟩⟩, q1683⟩
theorem lvt_X4_drawn : ∀ t ∈ [4], 0 < t ∧ t < 22 ∧ (Cond.selects (cnm t) ⟨"HouseClapsModel", "drawn", "(II)Z"⟩ ⟨"HouseClapsModel", "drawn", "(II)Z"⟩ ∈ lw_all ∨ Cond.selects (cnm t) ⟨"HouseClapsModel", "drawn", "(II)Z"⟩ ⟨"HouseClapsModel", "drawn", "(II)Z"⟩ ∈ lw_ex) := vt_cons ⟨by decide, by decide, Or.inl q2289⟩ (vt_nil)
theorem ladx_X1_arrange : Ad ⟨"HouseClaps", "arrange", "()I"⟩ 0 := ⟨⟨by decide, by decide⟩, by decide +kernel⟩
theorem lxd_X1_arrange : XDecl ⟨"HouseClaps", "arrange", "()I"⟩ := Or.inl ⟨_, q1588, ⟨rfl, Or.inl ⟨_, _, _, by decide, q1590⟩⟩, q129⟩
theorem lvt_X1_arrange : ∀ t ∈ [1], 0 < t ∧ t < 22 ∧ (Cond.selects (cnm t) ⟨"HouseClaps", "arrange", "()I"⟩ ⟨"HouseClaps", "arrange", "()I"⟩ ∈ lw_all ∨ Cond.selects (cnm t) ⟨"HouseClaps", "arrange", "()I"⟩ ⟨"HouseClaps", "arrange", "()I"⟩ ∈ lw_ex) := vt_cons ⟨by decide, by decide, Or.inl q1589⟩ (vt_nil)
theorem ladx_X4_arrange : Ad ⟨"HouseClapsModel", "arrange", "()I"⟩ 0 := ⟨⟨by decide, by decide⟩, by decide +kernel⟩
theorem lxd_X4_arrange : XDecl ⟨"HouseClapsModel", "arrange", "()I"⟩ := Or.inl ⟨_, q2268, ⟨rfl, Or.inl ⟨_, _, _, by decide, q2270⟩⟩, q1683⟩
theorem lvt_X4_arrange : ∀ t ∈ [4], 0 < t ∧ t < 22 ∧ (Cond.selects (cnm t) ⟨"HouseClapsModel", "arrange", "()I"⟩ ⟨"HouseClapsModel", "arrange", "()I"⟩ ∈ lw_all ∨ Cond.selects (cnm t) ⟨"HouseClapsModel", "arrange", "()I"⟩ ⟨"HouseClapsModel", "arrange", "()I"⟩ ∈ lw_ex) := vt_cons ⟨by decide, by decide, Or.inl q2269⟩ (vt_nil)
theorem ladx_X1_arranged : Ad ⟨"HouseClaps", "arranged", "()I"⟩ 0 := ⟨⟨by decide, by decide⟩, by decide +kernel⟩
theorem lxd_X1_arranged : XDecl ⟨"HouseClaps", "arranged", "()I"⟩ := Or.inl ⟨_, q1596, ⟨rfl, Or.inl ⟨_, _, _, by decide, q1598⟩⟩, q129⟩
theorem lvt_X1_arranged : ∀ t ∈ [1], 0 < t ∧ t < 22 ∧ (Cond.selects (cnm t) ⟨"HouseClaps", "arranged", "()I"⟩ ⟨"HouseClaps", "arranged", "()I"⟩ ∈ lw_all ∨ Cond.selects (cnm t) ⟨"HouseClaps", "arranged", "()I"⟩ ⟨"HouseClaps", "arranged", "()I"⟩ ∈ lw_ex) := vt_cons ⟨by decide, by decide, Or.inl q1597⟩ (vt_nil)
theorem ladx_X4_arranged : Ad ⟨"HouseClapsModel", "arranged", "()I"⟩ 0 := ⟨⟨by decide, by decide⟩, by decide +kernel⟩
theorem lxd_X4_arranged : XDecl ⟨"HouseClapsModel", "arranged", "()I"⟩ := Or.inl ⟨_, q2276, ⟨rfl, Or.inl ⟨_, _, _, by decide, q2278⟩⟩, q1683⟩
theorem lvt_X4_arranged : ∀ t ∈ [4], 0 < t ∧ t < 22 ∧ (Cond.selects (cnm t) ⟨"HouseClapsModel", "arranged", "()I"⟩ ⟨"HouseClapsModel", "arranged", "()I"⟩ ∈ lw_all ∨ Cond.selects (cnm t) ⟨"HouseClapsModel", "arranged", "()I"⟩ ⟨"HouseClapsModel", "arranged", "()I"⟩ ∈ lw_ex) := vt_cons ⟨by decide, by decide, Or.inl q2277⟩ (vt_nil)
theorem ladx_X1_image : Ad ⟨"HouseClaps", "image", "(I)Z"⟩ 1 := ⟨⟨by decide, by decide⟩, by decide +kernel⟩
theorem lxd_X1_image : XDecl ⟨"HouseClaps", "image", "(I)Z"⟩ := Or.inl ⟨_, q1600, ⟨rfl, Or.inl ⟨_, _, _, by decide, q1602⟩⟩, q129⟩
theorem lvt_X1_image : ∀ t ∈ [1], 0 < t ∧ t < 22 ∧ (Cond.selects (cnm t) ⟨"HouseClaps", "image", "(I)Z"⟩ ⟨"HouseClaps", "image", "(I)Z"⟩ ∈ lw_all ∨ Cond.selects (cnm t) ⟨"HouseClaps", "image", "(I)Z"⟩ ⟨"HouseClaps", "image", "(I)Z"⟩ ∈ lw_ex) := vt_cons ⟨by decide, by decide, Or.inl q1601⟩ (vt_nil)
theorem ladx_X4_image : Ad ⟨"HouseClapsModel", "image", "(I)Z"⟩ 1 := ⟨⟨by decide, by decide⟩, by decide +kernel⟩
theorem lxd_X4_image : XDecl ⟨"HouseClapsModel", "image", "(I)Z"⟩ := Or.inl ⟨_, q2297, ⟨rfl, Or.inl ⟨_, _, _, by decide, q2299⟩⟩, q1683⟩
theorem lvt_X4_image : ∀ t ∈ [4], 0 < t ∧ t < 22 ∧ (Cond.selects (cnm t) ⟨"HouseClapsModel", "image", "(I)Z"⟩ ⟨"HouseClapsModel", "image", "(I)Z"⟩ ∈ lw_all ∨ Cond.selects (cnm t) ⟨"HouseClapsModel", "image", "(I)Z"⟩ ⟨"HouseClapsModel", "image", "(I)Z"⟩ ∈ lw_ex) := vt_cons ⟨by decide, by decide, Or.inl q2298⟩ (vt_nil)
theorem ladx_X1_restore : Ad ⟨"HouseClaps", "restore", "(I)Z"⟩ 1 := ⟨⟨by decide, by decide⟩, by decide +kernel⟩
theorem lxd_X1_restore : XDecl ⟨"HouseClaps", "restore", "(I)Z"⟩ := Or.inl ⟨_, q1609, ⟨rfl, Or.inl ⟨_, _, _, by decide, q1611⟩⟩, q129⟩
theorem lvt_X1_restore : ∀ t ∈ [1], 0 < t ∧ t < 22 ∧ (Cond.selects (cnm t) ⟨"HouseClaps", "restore", "(I)Z"⟩ ⟨"HouseClaps", "restore", "(I)Z"⟩ ∈ lw_all ∨ Cond.selects (cnm t) ⟨"HouseClaps", "restore", "(I)Z"⟩ ⟨"HouseClaps", "restore", "(I)Z"⟩ ∈ lw_ex) := vt_cons ⟨by decide, by decide, Or.inl q1610⟩ (vt_nil)
theorem ladx_X4_restore : Ad ⟨"HouseClapsModel", "restore", "(I)Z"⟩ 1 := ⟨⟨by decide, by decide⟩, by decide +kernel⟩
theorem lxd_X4_restore : XDecl ⟨"HouseClapsModel", "restore", "(I)Z"⟩ := Or.inl ⟨_, q2301, ⟨rfl, Or.inl ⟨_, _, _, by decide, q2303⟩⟩, q1683⟩
theorem lvt_X4_restore : ∀ t ∈ [4], 0 < t ∧ t < 22 ∧ (Cond.selects (cnm t) ⟨"HouseClapsModel", "restore", "(I)Z"⟩ ⟨"HouseClapsModel", "restore", "(I)Z"⟩ ∈ lw_all ∨ Cond.selects (cnm t) ⟨"HouseClapsModel", "restore", "(I)Z"⟩ ⟨"HouseClapsModel", "restore", "(I)Z"⟩ ∈ lw_ex) := vt_cons ⟨by decide, by decide, Or.inl q2302⟩ (vt_nil)
theorem ladx_X1_count : Ad ⟨"HouseClaps", "count", "(I)I"⟩ 1 := ⟨⟨by decide, by decide⟩, by decide +kernel⟩
theorem lxd_X1_count : XDecl ⟨"HouseClaps", "count", "(I)I"⟩ := Or.inl ⟨_, q1613, ⟨rfl, Or.inl ⟨_, _, _, by decide, q1615⟩⟩, q129⟩
theorem lvt_X1_count : ∀ t ∈ [1], 0 < t ∧ t < 22 ∧ (Cond.selects (cnm t) ⟨"HouseClaps", "count", "(I)I"⟩ ⟨"HouseClaps", "count", "(I)I"⟩ ∈ lw_all ∨ Cond.selects (cnm t) ⟨"HouseClaps", "count", "(I)I"⟩ ⟨"HouseClaps", "count", "(I)I"⟩ ∈ lw_ex) := vt_cons ⟨by decide, by decide, Or.inl q1614⟩ (vt_nil)
theorem ladx_X4_count : Ad ⟨"HouseClapsModel", "count", "(I)I"⟩ 1 := ⟨⟨by decide, by decide⟩, by decide +kernel⟩
theorem lxd_X4_count : XDecl ⟨"HouseClapsModel", "count", "(I)I"⟩ := Or.inl ⟨_, q2305, ⟨rfl, Or.inl ⟨_, _, _, by decide, q2307⟩⟩, q1683⟩
theorem lvt_X4_count : ∀ t ∈ [4], 0 < t ∧ t < 22 ∧ (Cond.selects (cnm t) ⟨"HouseClapsModel", "count", "(I)I"⟩ ⟨"HouseClapsModel", "count", "(I)I"⟩ ∈ lw_all ∨ Cond.selects (cnm t) ⟨"HouseClapsModel", "count", "(I)I"⟩ ⟨"HouseClapsModel", "count", "(I)I"⟩ ∈ lw_ex) := vt_cons ⟨by decide, by decide, Or.inl q2306⟩ (vt_nil)
section LawWalk
variable {b' b : Mem} {x : XS} {m : MS} {i : Nat}
theorem lw_thrown {n s : Nat} : fX4_thrown (some 106) (mkM b' n s m) = some (m.thrown, mkM b' n s m) := by
  unfold fX4_thrown; rw [gM_55]; rfl
theorem lw_k0 (hB : SB b') (I : LI b' b x m) (hi : i + 5 < mLen b' 54) : ∃ b2 x2 m2, LI b' b2 x2 m2 ∧ Ans b b2 ∧ ∀ (st0 : Mem) (fin : Int32 × Mem), G lwD st0 trI fin 1446 (lwE i) [] (UU b' b2 x2 m2) → G lwD st0 trI fin 220 (lwE i) [] (UU b' b x m) := by
  obtain ⟨⟨H, C, h, c, K0, R⟩, hN⟩ := I
  have hb := R.hb
  obtain ⟨r, t, b2, x2, m2, e1, e2, rfl, D, An⟩ := two_at (b' := b') (A := fX1_feed (some 64) (mI b' 54 (i + 1)) (mI b' 54 (i + 2)) (mI b' 54 (i + 3)) (mI b' 54 (i + 4)) (mI b' 54 (i + 5)) (mkX b x)) (B := fun n s => fX4_feed (some 106) (mI b' 54 (i + 1)) (mI b' 54 (i + 2)) (mI b' 54 (i + 3)) (mI b' 54 (i + 4)) (mI b' 54 (i + 5)) (mkM b' n s m)) (P := fun r t b2 x2 m2 => r = t ∧ (∃ H C h c K, Duo b2 x2 m2 H C h c K) ∧ Ans b b2) (fun n s => by
    obtain ⟨r, x', m', e1, e2, D⟩ := C_feed (b' := b') (n := n) (s := s) R (mI b' 54 (i + 1)) (mI b' 54 (i + 2)) (mI b' 54 (i + 3)) (mI b' 54 (i + 4)) (mI b' 54 (i + 5))
    exact ⟨r, r, b, x', m', e1, e2, rfl, ⟨_, _, _, _, _, D⟩, Ans.refl b⟩)
  have c1 := sX1_feed e1
  have c2 := sX4_feed e2
  have hb2 : 131 ≤ mNx b2 := Nat.le_trans hb An.1
  have hN2 : NoM b2 := NoM.next (x := x) (x2 := x2) hN hb c1.1
  refine ⟨b2, x2, m2, ⟨D, hN2⟩, An, fun st0 fin K => ?_⟩
  refine r_aload_n (pc := 220) dL_law_220 3 rfl rfl ?_
  refine lwArg (pc := 221) 1 (p4 := 0) (p0 := 4) rfl rfl hB hN hb dL_law_221 dL_law_222 dL_law_224 dL_law_225 dL_law_226 (by decide) (by omega) ?_
  refine lwArg (pc := 227) 2 (p4 := 0) (p0 := 4) rfl rfl hB hN hb dL_law_227 dL_law_228 dL_law_230 dL_law_231 dL_law_232 (by decide) (by omega) ?_
  refine lwArg (pc := 233) 3 (p4 := 0) (p0 := 4) rfl rfl hB hN hb dL_law_233 dL_law_234 dL_law_236 dL_law_237 dL_law_238 (by decide) (by omega) ?_
  refine lwArg (pc := 239) 4 (p4 := 0) (p0 := 4) rfl rfl hB hN hb dL_law_239 dL_law_240 dL_law_242 dL_law_243 dL_law_244 (by decide) (by omega) ?_
  refine lwArg (pc := 245) 5 (p4 := 0) (p0 := 4) rfl rfl hB hN hb dL_law_245 dL_law_246 dL_law_248 dL_law_249 dL_law_250 (by decide) (by omega) ?_
  refine lwX (pc := 251) (as := [vi (mI b' 54 (i + 1)), vi (mI b' 54 (i + 2)), vi (mI b' 54 (i + 3)), vi (mI b' 54 (i + 4)), vi (mI b' 54 (i + 5))]) (rest := []) hB hb c1 dL_law_251 q398 lxd_X1_feed lvt_X1_feed q399 ladx_X1_feed (by decide) (Nat.le_of_ble_eq_true rfl) rfl ?_
  refine r_aload_n (pc := 254) dL_law_254 2 rfl rfl ?_
  refine lwArg (pc := 255) 1 (p4 := 0) (p0 := 4) rfl rfl hB hN2 hb2 dL_law_255 dL_law_256 dL_law_258 dL_law_259 dL_law_260 (by decide) (by omega) ?_
  refine lwArg (pc := 261) 2 (p4 := 0) (p0 := 4) rfl rfl hB hN2 hb2 dL_law_261 dL_law_262 dL_law_264 dL_law_265 dL_law_266 (by decide) (by omega) ?_
  refine lwArg (pc := 267) 3 (p4 := 0) (p0 := 4) rfl rfl hB hN2 hb2 dL_law_267 dL_law_268 dL_law_270 dL_law_271 dL_law_272 (by decide) (by omega) ?_
  refine lwArg (pc := 273) 4 (p4 := 0) (p0 := 4) rfl rfl hB hN2 hb2 dL_law_273 dL_law_274 dL_law_276 dL_law_277 dL_law_278 (by decide) (by omega) ?_
  refine lwArg (pc := 279) 5 (p4 := 0) (p0 := 4) rfl rfl hB hN2 hb2 dL_law_279 dL_law_280 dL_law_282 dL_law_283 dL_law_284 (by decide) (by omega) ?_
  refine lwM (pc := 285) (as := [vi (mI b' 54 (i + 1)), vi (mI b' 54 (i + 2)), vi (mI b' 54 (i + 3)), vi (mI b' 54 (i + 4)), vi (mI b' 54 (i + 5))]) (rest := [vi r]) hB hN2 hb2 c2 dL_law_285 q1676 lxd_X4_feed lvt_X4_feed q1677 ladx_X4_feed (by decide) (Nat.le_of_ble_eq_true rfl) rfl ?_
  exact lwEq (pc := 288) (tgt := 1446) dL_law_288 (by decide) K
theorem lw_k1 (hB : SB b') (I : LI b' b x m) (hi : i + 5 < mLen b' 54) : ∃ b2 x2 m2, LI b' b2 x2 m2 ∧ Ans b b2 ∧ ∀ (st0 : Mem) (fin : Int32 × Mem), G lwD st0 trI fin 1446 (lwE i) [] (UU b' b2 x2 m2) → G lwD st0 trI fin 293 (lwE i) [] (UU b' b x m) := by
  obtain ⟨⟨H, C, h, c, K0, R⟩, hN⟩ := I
  have hb := R.hb
  obtain ⟨r, t, b2, x2, m2, e1, e2, rfl, D, An⟩ := two_at (b' := b') (A := fX1_end (some 64) (mI b' 54 (i + 1)) (mkX b x)) (B := fun n s => fX4_end (some 106) (mI b' 54 (i + 1)) (mkM b' n s m)) (P := fun r t b2 x2 m2 => r = t ∧ (∃ H C h c K, Duo b2 x2 m2 H C h c K) ∧ Ans b b2) (fun n s => by
    obtain ⟨r, x', m', e1, e2, D⟩ := C_end (b' := b') (n := n) (s := s) R (mI b' 54 (i + 1))
    exact ⟨r, r, b, x', m', e1, e2, rfl, ⟨_, _, _, _, _, D⟩, Ans.refl b⟩)
  have c1 := sX1_end e1
  have c2 := sX4_end e2
  have hb2 : 131 ≤ mNx b2 := Nat.le_trans hb An.1
  have hN2 : NoM b2 := NoM.next (x := x) (x2 := x2) hN hb c1.1
  refine ⟨b2, x2, m2, ⟨D, hN2⟩, An, fun st0 fin K => ?_⟩
  refine r_aload_n (pc := 293) dL_law_293 3 rfl rfl ?_
  refine lwArg (pc := 294) 1 (p4 := 0) (p0 := 4) rfl rfl hB hN hb dL_law_294 dL_law_295 dL_law_297 dL_law_298 dL_law_299 (by decide) (by omega) ?_
  refine lwX (pc := 300) (as := [vi (mI b' 54 (i + 1))]) (rest := []) hB hb c1 dL_law_300 q406 lxd_X1_end lvt_X1_end q407 ladx_X1_end (by decide) (Nat.le_of_ble_eq_true rfl) rfl ?_
  refine r_aload_n (pc := 303) dL_law_303 2 rfl rfl ?_
  refine lwArg (pc := 304) 1 (p4 := 0) (p0 := 4) rfl rfl hB hN2 hb2 dL_law_304 dL_law_305 dL_law_307 dL_law_308 dL_law_309 (by decide) (by omega) ?_
  refine lwM (pc := 310) (as := [vi (mI b' 54 (i + 1))]) (rest := [vi r]) hB hN2 hb2 c2 dL_law_310 q1685 lxd_X4_end lvt_X4_end q1686 ladx_X4_end (by decide) (Nat.le_of_ble_eq_true rfl) rfl ?_
  exact lwEq (pc := 313) (tgt := 1446) dL_law_313 (by decide) K
theorem lw_k2 (hB : SB b') (I : LI b' b x m) (hi : i + 5 < mLen b' 54) : ∃ b2 x2 m2, LI b' b2 x2 m2 ∧ Ans b b2 ∧ ∀ (st0 : Mem) (fin : Int32 × Mem), G lwD st0 trI fin 1446 (lwE i) [] (UU b' b2 x2 m2) → G lwD st0 trI fin 318 (lwE i) [] (UU b' b x m) := by
  obtain ⟨⟨H, C, h, c, K0, R⟩, hN⟩ := I
  have hb := R.hb
  obtain ⟨r, t, b2, x2, m2, e1, e2, rfl, D, An⟩ := two_at (b' := b') (A := fX1_house (some 64) (mkX b x)) (B := fun n s => fX4_house (some 106) (mkM b' n s m)) (P := fun r t b2 x2 m2 => r = t ∧ (∃ H C h c K, Duo b2 x2 m2 H C h c K) ∧ Ans b b2) (fun n s => by
    obtain ⟨r, b2, x', m', H', C', h', c', e1, e2, D, An⟩ := C_house (b' := b') (n := n) (s := s) R
    exact ⟨r, r, b2, x', m', e1, e2, rfl, ⟨_, _, _, _, _, D⟩, An⟩)
  have c1 := sX1_house e1
  have c2 := sX4_house e2
  have hb2 : 131 ≤ mNx b2 := Nat.le_trans hb An.1
  have hN2 : NoM b2 := NoM.next (x := x) (x2 := x2) hN hb c1.1
  refine ⟨b2, x2, m2, ⟨D, hN2⟩, An, fun st0 fin K => ?_⟩
  refine r_aload_n (pc := 318) dL_law_318 3 rfl rfl ?_
  refine lwX (pc := 319) (as := []) (rest := []) hB hb c1 dL_law_319 q410 lxd_X1_house lvt_X1_house q411 ladx_X1_house (by decide) (Nat.le_of_ble_eq_true rfl) rfl ?_
  refine r_aload_n (pc := 322) dL_law_322 2 rfl rfl ?_
  refine lwM (pc := 323) (as := []) (rest := [vi r]) hB hN2 hb2 c2 dL_law_323 q1906 lxd_X4_house lvt_X4_house q1907 ladx_X4_house (by decide) (Nat.le_of_ble_eq_true rfl) rfl ?_
  exact lwEq (pc := 326) (tgt := 1446) dL_law_326 (by decide) K
theorem lw_k3 (hB : SB b') (I : LI b' b x m) (hi : i + 5 < mLen b' 54) : ∃ b2 x2 m2, LI b' b2 x2 m2 ∧ Ans b b2 ∧ ∀ (st0 : Mem) (fin : Int32 × Mem), G lwD st0 trI fin 1446 (lwE i) [] (UU b' b2 x2 m2) → G lwD st0 trI fin 331 (lwE i) [] (UU b' b x m) := by
  obtain ⟨⟨H, C, h, c, K0, R⟩, hN⟩ := I
  have hb := R.hb
  obtain ⟨r, t, b2, x2, m2, e1, e2, rfl, D, An⟩ := two_at (b' := b') (A := fX1_fault (some 64) (mkX b x)) (B := fun n s => fX4_fault (some 106) (mkM b' n s m)) (P := fun r t b2 x2 m2 => r = t ∧ (∃ H C h c K, Duo b2 x2 m2 H C h c K) ∧ Ans b b2) (fun n s => by
    obtain ⟨r, e1, e2⟩ := C_fault (b' := b') (n := n) (s := s) R
    exact ⟨r, r, b, x, m.th 0, e1, e2, rfl, ⟨_, _, _, _, _, R.th⟩, Ans.refl b⟩)
  have c1 := sX1_fault e1
  have c2 := sX4_fault e2
  have hb2 : 131 ≤ mNx b2 := Nat.le_trans hb An.1
  have hN2 : NoM b2 := NoM.next (x := x) (x2 := x2) hN hb c1.1
  refine ⟨b2, x2, m2, ⟨D, hN2⟩, An, fun st0 fin K => ?_⟩
  refine r_aload_n (pc := 331) dL_law_331 3 rfl rfl ?_
  refine lwX (pc := 332) (as := []) (rest := []) hB hb c1 dL_law_332 q1047 lxd_X1_fault lvt_X1_fault q1048 ladx_X1_fault (by decide) (Nat.le_of_ble_eq_true rfl) rfl ?_
  refine r_aload_n (pc := 335) dL_law_335 2 rfl rfl ?_
  refine lwM (pc := 336) (as := []) (rest := [vi r]) hB hN2 hb2 c2 dL_law_336 q2032 lxd_X4_fault lvt_X4_fault q2033 ladx_X4_fault (by decide) (Nat.le_of_ble_eq_true rfl) rfl ?_
  exact lwEq (pc := 339) (tgt := 1446) dL_law_339 (by decide) K
theorem lw_k4 (hB : SB b') (I : LI b' b x m) (hi : i + 5 < mLen b' 54) : ∃ b2 x2 m2, LI b' b2 x2 m2 ∧ Ans b b2 ∧ ∀ (st0 : Mem) (fin : Int32 × Mem), G lwD st0 trI fin 1446 (lwE i) [] (UU b' b2 x2 m2) → G lwD st0 trI fin 344 (lwE i) [] (UU b' b x m) := by
  obtain ⟨⟨H, C, h, c, K0, R⟩, hN⟩ := I
  have hb := R.hb
  obtain ⟨k, t, b2, x2, m2, e1, e2, hk, ho, D, An⟩ := two_at (b' := b') (A := fX0_seat (some 64) (mI b' 54 (i + 1)) (mI b' 54 (i + 2)) (some 130) (mkX b x)) (B := fun n s => fX4_seat (some 106) (mI b' 54 (i + 1)) (mI b' 54 (i + 2)) (mkM b' n s m)) (P := fun k t b2 x2 m2 => m2.thrown = k ∧ (k = 0 → x2.out 0 = t.toInt64) ∧ (∃ H C h c K, Duo b2 x2 m2 H C h c K) ∧ Ans b b2) (fun n s => by
    obtain ⟨k, r, b2, x', m', e1, e2, h1, h2, D, An⟩ := C_seat (b' := b') (n := n) (s := s) R (mI b' 54 (i + 1)) (mI b' 54 (i + 2))
    exact ⟨k, r, b2, x', m', e1, e2, h1, h2, ⟨_, _, _, _, _, D⟩, An⟩)
  have c1 := sX0_seat e1
  have c2 := sX4_seat e2
  have c3 := sX4_thrown (lw_thrown (b' := b') (n := mNx b2 - 130) (s := mNs b2) (m := m2))
  rw [hk] at c3
  have hb2 : 131 ≤ mNx b2 := Nat.le_trans hb An.1
  have hN2 : NoM b2 := NoM.next (x := x) (x2 := x2) hN hb c1.1
  refine ⟨b2, x2, m2, ⟨D, hN2⟩, An, fun st0 fin K => ?_⟩
  refine r_aload_n (pc := 344) dL_law_344 3 rfl rfl ?_
  refine lwArg (pc := 345) 1 (p4 := 0) (p0 := 4) rfl rfl hB hN hb dL_law_345 dL_law_346 dL_law_348 dL_law_349 dL_law_350 (by decide) (by omega) ?_
  refine lwArg (pc := 351) 2 (p4 := 0) (p0 := 4) rfl rfl hB hN hb dL_law_351 dL_law_352 dL_law_354 dL_law_355 dL_law_356 (by decide) (by omega) ?_
  refine r_aload_n (pc := 357) dL_law_357 1 rfl rfl ?_
  refine lwS (pc := 358) (as := [vr (some 64), vi (mI b' 54 (i + 1)), vi (mI b' 54 (i + 2)), vr (some 130)]) (rest := []) hB hb c1 dL_law_358 q1616 q1617 q84 ad_X0_seat (by decide) (Nat.le_of_ble_eq_true rfl) rfl ?_
  refine r_istore (pc := 361) (env' := (5, vi k) :: lwE i) dL_law_361 (by decide) rfl ?_
  refine r_aload_n (pc := 363) dL_law_363 3 rfl rfl ?_
  refine lwArg (pc := 364) 1 (p4 := 1) (p0 := 5) rfl rfl hB hN2 hb2 dL_law_364 dL_law_365 dL_law_367 dL_law_368 dL_law_369 (by decide) (by omega) ?_
  refine lwArg (pc := 370) 2 (p4 := 1) (p0 := 5) rfl rfl hB hN2 hb2 dL_law_370 dL_law_371 dL_law_373 dL_law_374 dL_law_375 (by decide) (by omega) ?_
  refine lwM (pc := 376) (as := [vi (mI b' 54 (i + 1)), vi (mI b' 54 (i + 2))]) (rest := []) hB hN2 hb2 c2 dL_law_376 q2036 lxd_X4_seat lvt_X4_seat q2037 ladx_X4_seat (by decide) (Nat.le_of_ble_eq_true rfl) rfl ?_
  refine r_istore (pc := 379) (env' := (6, vi t) :: (5, vi k) :: lwE i) dL_law_379 (by decide) rfl ?_
  refine r_aload_n (pc := 381) dL_law_381 4 rfl rfl ?_
  refine lwM (pc := 382) (as := []) (rest := []) hB hN2 hb2 c3 dL_law_382 q1672 lxd_X4_thrown lvt_X4_thrown q1673 ladx_X4_thrown (by decide) (Nat.le_of_ble_eq_true rfl) rfl ?_
  refine r_iload (pc := 385) dL_law_385 1 rfl ?_
  refine lwEq (pc := 387) (tgt := 392) dL_law_387 (by decide) ?_
  have K9 : G lwD st0 trI fin 409 ((6, vi t) :: (5, vi k) :: lwE i) [] (UU b' b2 x2 m2) := r_goto (pc := 409) (tgt := 1446) dL_law_409 (by decide) (r_sub (env' := lwE i) [2, 3, 4, 5, 6] rfl K)
  refine r_iload (pc := 392) dL_law_392 1 rfl ?_
  refine r_if_ne (pc := 394) (tgt := 409) (A := some fin) (B := some fin) dL_law_394 (by decide) (ite_self _) (fun _ _ => K9) (fun hk0 _ => ?_)
  refine r_aload_n (pc := 397) dL_law_397 3 rfl rfl ?_
  refine r_iconst (pc := 398) (v := 0) dL_law_398 (by decide) ?_
  refine r_laload (pc := 399) (F := fun _ => some fin) dL_law_399 (by rw [outA hb2]; rfl) (fun z hz _ => ?_)
  cases (outA hb2).symm.trans hz
  refine r_iload (pc := 400) dL_law_400 0 rfl ?_
  refine r_i2l (pc := 402) dL_law_402 ?_
  exact r_lcmp_eq (pc := 403) (tgt := 409) (A := some fin) (B := none) dL_law_403 dL_law_404 (by decide) (if_pos (ho (Decidable.of_not_not hk0))) (fun _ _ => K9) (fun hne _ => absurd (ho (Decidable.of_not_not hk0)) hne)
theorem lw_k5 (hB : SB b') (I : LI b' b x m) (hi : i + 5 < mLen b' 54) : ∃ b2 x2 m2, LI b' b2 x2 m2 ∧ Ans b b2 ∧ ∀ (st0 : Mem) (fin : Int32 × Mem), G lwD st0 trI fin 1446 (lwE i) [] (UU b' b2 x2 m2) → G lwD st0 trI fin 412 (lwE i) [] (UU b' b x m) := by
  obtain ⟨⟨H, C, h, c, K0, R⟩, hN⟩ := I
  have hb := R.hb
  obtain ⟨r, t, b2, x2, m2, e1, e2, rfl, D, An⟩ := two_at (b' := b') (A := fX1_law (some 64) (mI b' 54 (i + 1)) (mI b' 54 (i + 2)) (mkX b x)) (B := fun n s => fX4_law (some 106) (mI b' 54 (i + 1)) (mI b' 54 (i + 2)) (mkM b' n s m)) (P := fun r t b2 x2 m2 => r = t ∧ (∃ H C h c K, Duo b2 x2 m2 H C h c K) ∧ Ans b b2) (fun n s => by
    obtain ⟨r, e1, e2⟩ := C_law (b' := b') (n := n) (s := s) R (mI b' 54 (i + 1)) (mI b' 54 (i + 2))
    exact ⟨r, r, b, x, m.th 0, e1, e2, rfl, ⟨_, _, _, _, _, R.th⟩, Ans.refl b⟩)
  have c1 := sX1_law e1
  have c2 := sX4_law e2
  have hb2 : 131 ≤ mNx b2 := Nat.le_trans hb An.1
  have hN2 : NoM b2 := NoM.next (x := x) (x2 := x2) hN hb c1.1
  refine ⟨b2, x2, m2, ⟨D, hN2⟩, An, fun st0 fin K => ?_⟩
  refine r_aload_n (pc := 412) dL_law_412 3 rfl rfl ?_
  refine lwArg (pc := 413) 1 (p4 := 0) (p0 := 4) rfl rfl hB hN hb dL_law_413 dL_law_414 dL_law_416 dL_law_417 dL_law_418 (by decide) (by omega) ?_
  refine lwArg (pc := 419) 2 (p4 := 0) (p0 := 4) rfl rfl hB hN hb dL_law_419 dL_law_420 dL_law_422 dL_law_423 dL_law_424 (by decide) (by omega) ?_
  refine lwX (pc := 425) (as := [vi (mI b' 54 (i + 1)), vi (mI b' 54 (i + 2))]) (rest := []) hB hb c1 dL_law_425 q1051 lxd_X1_law lvt_X1_law q1052 ladx_X1_law (by decide) (Nat.le_of_ble_eq_true rfl) rfl ?_
  refine r_aload_n (pc := 428) dL_law_428 2 rfl rfl ?_
  refine lwArg (pc := 429) 1 (p4 := 0) (p0 := 4) rfl rfl hB hN2 hb2 dL_law_429 dL_law_430 dL_law_432 dL_law_433 dL_law_434 (by decide) (by omega) ?_
  refine lwArg (pc := 435) 2 (p4 := 0) (p0 := 4) rfl rfl hB hN2 hb2 dL_law_435 dL_law_436 dL_law_438 dL_law_439 dL_law_440 (by decide) (by omega) ?_
  refine lwM (pc := 441) (as := [vi (mI b' 54 (i + 1)), vi (mI b' 54 (i + 2))]) (rest := [vi r]) hB hN2 hb2 c2 dL_law_441 q2055 lxd_X4_law lvt_X4_law q2056 ladx_X4_law (by decide) (Nat.le_of_ble_eq_true rfl) rfl ?_
  exact lwEq (pc := 444) (tgt := 1446) dL_law_444 (by decide) K
theorem lw_k6 (hB : SB b') (I : LI b' b x m) (hi : i + 5 < mLen b' 54) : ∃ b2 x2 m2, LI b' b2 x2 m2 ∧ Ans b b2 ∧ ∀ (st0 : Mem) (fin : Int32 × Mem), G lwD st0 trI fin 1446 (lwE i) [] (UU b' b2 x2 m2) → G lwD st0 trI fin 449 (lwE i) [] (UU b' b x m) := by
  obtain ⟨⟨H, C, h, c, K0, R⟩, hN⟩ := I
  have hb := R.hb
  obtain ⟨r, t, b2, x2, m2, e1, e2, rfl, D, An⟩ := two_at (b' := b') (A := fX1_pay (some 64) (mI b' 54 (i + 1)) (mI b' 54 (i + 2)) (mkX b x)) (B := fun n s => fX4_pay (some 106) (mI b' 54 (i + 1)) (mI b' 54 (i + 2)) (mkM b' n s m)) (P := fun r t b2 x2 m2 => r = t ∧ (∃ H C h c K, Duo b2 x2 m2 H C h c K) ∧ Ans b b2) (fun n s => by
    obtain ⟨r, x', m', e1, e2, D⟩ := C_pay (b' := b') (n := n) (s := s) R (mI b' 54 (i + 1)) (mI b' 54 (i + 2))
    exact ⟨r, r, b, x', m', e1, e2, rfl, ⟨_, _, _, _, _, D⟩, Ans.refl b⟩)
  have c1 := sX1_pay e1
  have c2 := sX4_pay e2
  have hb2 : 131 ≤ mNx b2 := Nat.le_trans hb An.1
  have hN2 : NoM b2 := NoM.next (x := x) (x2 := x2) hN hb c1.1
  refine ⟨b2, x2, m2, ⟨D, hN2⟩, An, fun st0 fin K => ?_⟩
  refine r_aload_n (pc := 449) dL_law_449 3 rfl rfl ?_
  refine lwArg (pc := 450) 1 (p4 := 0) (p0 := 4) rfl rfl hB hN hb dL_law_450 dL_law_451 dL_law_453 dL_law_454 dL_law_455 (by decide) (by omega) ?_
  refine lwArg (pc := 456) 2 (p4 := 0) (p0 := 4) rfl rfl hB hN hb dL_law_456 dL_law_457 dL_law_459 dL_law_460 dL_law_461 (by decide) (by omega) ?_
  refine lwX (pc := 462) (as := [vi (mI b' 54 (i + 1)), vi (mI b' 54 (i + 2))]) (rest := []) hB hb c1 dL_law_462 q1056 lxd_X1_pay lvt_X1_pay q1057 ladx_X1_pay (by decide) (Nat.le_of_ble_eq_true rfl) rfl ?_
  refine r_aload_n (pc := 465) dL_law_465 2 rfl rfl ?_
  refine lwArg (pc := 466) 1 (p4 := 0) (p0 := 4) rfl rfl hB hN2 hb2 dL_law_466 dL_law_467 dL_law_469 dL_law_470 dL_law_471 (by decide) (by omega) ?_
  refine lwArg (pc := 472) 2 (p4 := 0) (p0 := 4) rfl rfl hB hN2 hb2 dL_law_472 dL_law_473 dL_law_475 dL_law_476 dL_law_477 (by decide) (by omega) ?_
  refine lwM (pc := 478) (as := [vi (mI b' 54 (i + 1)), vi (mI b' 54 (i + 2))]) (rest := [vi r]) hB hN2 hb2 c2 dL_law_478 q2059 lxd_X4_pay lvt_X4_pay q2060 ladx_X4_pay (by decide) (Nat.le_of_ble_eq_true rfl) rfl ?_
  exact lwEq (pc := 481) (tgt := 1446) dL_law_481 (by decide) K
theorem lw_k7 (hB : SB b') (I : LI b' b x m) (hi : i + 5 < mLen b' 54) : ∃ b2 x2 m2, LI b' b2 x2 m2 ∧ Ans b b2 ∧ ∀ (st0 : Mem) (fin : Int32 × Mem), G lwD st0 trI fin 1446 (lwE i) [] (UU b' b2 x2 m2) → G lwD st0 trI fin 486 (lwE i) [] (UU b' b x m) := by
  obtain ⟨⟨H, C, h, c, K0, R⟩, hN⟩ := I
  have hb := R.hb
  obtain ⟨r, t, b2, x2, m2, e1, e2, rfl, D, An⟩ := two_at (b' := b') (A := fX1_hiss (some 64) (mI b' 54 (i + 1)) (mI b' 54 (i + 2)) (mkX b x)) (B := fun n s => fX4_hiss (some 106) (mI b' 54 (i + 1)) (mI b' 54 (i + 2)) (mkM b' n s m)) (P := fun r t b2 x2 m2 => r = t ∧ (∃ H C h c K, Duo b2 x2 m2 H C h c K) ∧ Ans b b2) (fun n s => by
    obtain ⟨r, x', m', e1, e2, D⟩ := C_hiss (b' := b') (n := n) (s := s) R (mI b' 54 (i + 1)) (mI b' 54 (i + 2))
    exact ⟨r, r, b, x', m', e1, e2, rfl, ⟨_, _, _, _, _, D⟩, Ans.refl b⟩)
  have c1 := sX1_hiss e1
  have c2 := sX4_hiss e2
  have hb2 : 131 ≤ mNx b2 := Nat.le_trans hb An.1
  have hN2 : NoM b2 := NoM.next (x := x) (x2 := x2) hN hb c1.1
  refine ⟨b2, x2, m2, ⟨D, hN2⟩, An, fun st0 fin K => ?_⟩
  refine r_aload_n (pc := 486) dL_law_486 3 rfl rfl ?_
  refine lwArg (pc := 487) 1 (p4 := 0) (p0 := 4) rfl rfl hB hN hb dL_law_487 dL_law_488 dL_law_490 dL_law_491 dL_law_492 (by decide) (by omega) ?_
  refine lwArg (pc := 493) 2 (p4 := 0) (p0 := 4) rfl rfl hB hN hb dL_law_493 dL_law_494 dL_law_496 dL_law_497 dL_law_498 (by decide) (by omega) ?_
  refine lwX (pc := 499) (as := [vi (mI b' 54 (i + 1)), vi (mI b' 54 (i + 2))]) (rest := []) hB hb c1 dL_law_499 q1068 lxd_X1_hiss lvt_X1_hiss q1069 ladx_X1_hiss (by decide) (Nat.le_of_ble_eq_true rfl) rfl ?_
  refine r_aload_n (pc := 502) dL_law_502 2 rfl rfl ?_
  refine lwArg (pc := 503) 1 (p4 := 0) (p0 := 4) rfl rfl hB hN2 hb2 dL_law_503 dL_law_504 dL_law_506 dL_law_507 dL_law_508 (by decide) (by omega) ?_
  refine lwArg (pc := 509) 2 (p4 := 0) (p0 := 4) rfl rfl hB hN2 hb2 dL_law_509 dL_law_510 dL_law_512 dL_law_513 dL_law_514 (by decide) (by omega) ?_
  refine lwM (pc := 515) (as := [vi (mI b' 54 (i + 1)), vi (mI b' 54 (i + 2))]) (rest := [vi r]) hB hN2 hb2 c2 dL_law_515 q2064 lxd_X4_hiss lvt_X4_hiss q2065 ladx_X4_hiss (by decide) (Nat.le_of_ble_eq_true rfl) rfl ?_
  exact lwEq (pc := 518) (tgt := 1446) dL_law_518 (by decide) K
theorem lw_k8 (hB : SB b') (I : LI b' b x m) (hi : i + 5 < mLen b' 54) : ∃ b2 x2 m2, LI b' b2 x2 m2 ∧ Ans b b2 ∧ ∀ (st0 : Mem) (fin : Int32 × Mem), G lwD st0 trI fin 1446 (lwE i) [] (UU b' b2 x2 m2) → G lwD st0 trI fin 523 (lwE i) [] (UU b' b x m) := by
  obtain ⟨⟨H, C, h, c, K0, R⟩, hN⟩ := I
  have hb := R.hb
  obtain ⟨r, t, b2, x2, m2, e1, e2, rfl, D, An⟩ := two_at (b' := b') (A := fX1_cues (some 64) (mkX b x)) (B := fun n s => fX4_cues (some 106) (mkM b' n s m)) (P := fun r t b2 x2 m2 => r = t ∧ (∃ H C h c K, Duo b2 x2 m2 H C h c K) ∧ Ans b b2) (fun n s => by
    obtain ⟨r, b2, x', m', C', c', e1, e2, D, An⟩ := C_cues (b' := b') (n := n) (s := s) R
    exact ⟨r, r, b2, x', m', e1, e2, rfl, ⟨_, _, _, _, _, D⟩, An⟩)
  have c1 := sX1_cues e1
  have c2 := sX4_cues e2
  have hb2 : 131 ≤ mNx b2 := Nat.le_trans hb An.1
  have hN2 : NoM b2 := NoM.next (x := x) (x2 := x2) hN hb c1.1
  refine ⟨b2, x2, m2, ⟨D, hN2⟩, An, fun st0 fin K => ?_⟩
  refine r_aload_n (pc := 523) dL_law_523 3 rfl rfl ?_
  refine lwX (pc := 524) (as := []) (rest := []) hB hb c1 dL_law_524 q1072 lxd_X1_cues lvt_X1_cues q1073 ladx_X1_cues (by decide) (Nat.le_of_ble_eq_true rfl) rfl ?_
  refine r_aload_n (pc := 527) dL_law_527 2 rfl rfl ?_
  refine lwM (pc := 528) (as := []) (rest := [vi r]) hB hN2 hb2 c2 dL_law_528 q2068 lxd_X4_cues lvt_X4_cues q2069 ladx_X4_cues (by decide) (Nat.le_of_ble_eq_true rfl) rfl ?_
  exact lwEq (pc := 531) (tgt := 1446) dL_law_531 (by decide) K
theorem lw_k9 (hB : SB b') (I : LI b' b x m) (hi : i + 5 < mLen b' 54) : ∃ b2 x2 m2, LI b' b2 x2 m2 ∧ Ans b b2 ∧ ∀ (st0 : Mem) (fin : Int32 × Mem), G lwD st0 trI fin 1446 (lwE i) [] (UU b' b2 x2 m2) → G lwD st0 trI fin 536 (lwE i) [] (UU b' b x m) := by
  obtain ⟨⟨H, C, h, c, K0, R⟩, hN⟩ := I
  have hb := R.hb
  obtain ⟨k, t, b2, x2, m2, e1, e2, hk, ho, D, An⟩ := two_at (b' := b') (A := fX0_cue (some 64) (mI b' 54 (i + 1)) (mI b' 54 (i + 2)) (some 130) (mkX b x)) (B := fun n s => fX4_cue (some 106) (mI b' 54 (i + 1)) (mI b' 54 (i + 2)) (mkM b' n s m)) (P := fun k t b2 x2 m2 => m2.thrown = k ∧ (k = 0 → x2.out 0 = t.toInt64) ∧ (∃ H C h c K, Duo b2 x2 m2 H C h c K) ∧ Ans b b2) (fun n s => by
    obtain ⟨k, r, b2, x', m', e1, e2, h1, h2, D, An⟩ := C_cue (b' := b') (n := n) (s := s) R (mI b' 54 (i + 1)) (mI b' 54 (i + 2))
    exact ⟨k, r, b2, x', m', e1, e2, h1, h2, ⟨_, _, _, _, _, D⟩, An⟩)
  have c1 := sX0_cue e1
  have c2 := sX4_cue e2
  have c3 := sX4_thrown (lw_thrown (b' := b') (n := mNx b2 - 130) (s := mNs b2) (m := m2))
  rw [hk] at c3
  have hb2 : 131 ≤ mNx b2 := Nat.le_trans hb An.1
  have hN2 : NoM b2 := NoM.next (x := x) (x2 := x2) hN hb c1.1
  refine ⟨b2, x2, m2, ⟨D, hN2⟩, An, fun st0 fin K => ?_⟩
  refine r_aload_n (pc := 536) dL_law_536 3 rfl rfl ?_
  refine lwArg (pc := 537) 1 (p4 := 0) (p0 := 4) rfl rfl hB hN hb dL_law_537 dL_law_538 dL_law_540 dL_law_541 dL_law_542 (by decide) (by omega) ?_
  refine lwArg (pc := 543) 2 (p4 := 0) (p0 := 4) rfl rfl hB hN hb dL_law_543 dL_law_544 dL_law_546 dL_law_547 dL_law_548 (by decide) (by omega) ?_
  refine r_aload_n (pc := 549) dL_law_549 1 rfl rfl ?_
  refine lwS (pc := 550) (as := [vr (some 64), vi (mI b' 54 (i + 1)), vi (mI b' 54 (i + 2)), vr (some 130)]) (rest := []) hB hb c1 dL_law_550 q1647 q1648 q84 ad_X0_cue (by decide) (Nat.le_of_ble_eq_true rfl) rfl ?_
  refine r_istore (pc := 553) (env' := (5, vi k) :: lwE i) dL_law_553 (by decide) rfl ?_
  refine r_aload_n (pc := 555) dL_law_555 3 rfl rfl ?_
  refine lwArg (pc := 556) 1 (p4 := 1) (p0 := 5) rfl rfl hB hN2 hb2 dL_law_556 dL_law_557 dL_law_559 dL_law_560 dL_law_561 (by decide) (by omega) ?_
  refine lwArg (pc := 562) 2 (p4 := 1) (p0 := 5) rfl rfl hB hN2 hb2 dL_law_562 dL_law_563 dL_law_565 dL_law_566 dL_law_567 (by decide) (by omega) ?_
  refine lwM (pc := 568) (as := [vi (mI b' 54 (i + 1)), vi (mI b' 54 (i + 2))]) (rest := []) hB hN2 hb2 c2 dL_law_568 q2085 lxd_X4_cue lvt_X4_cue q2086 ladx_X4_cue (by decide) (Nat.le_of_ble_eq_true rfl) rfl ?_
  refine r_istore (pc := 571) (env' := (6, vi t) :: (5, vi k) :: lwE i) dL_law_571 (by decide) rfl ?_
  refine r_aload_n (pc := 573) dL_law_573 4 rfl rfl ?_
  refine lwM (pc := 574) (as := []) (rest := []) hB hN2 hb2 c3 dL_law_574 q1672 lxd_X4_thrown lvt_X4_thrown q1673 ladx_X4_thrown (by decide) (Nat.le_of_ble_eq_true rfl) rfl ?_
  refine r_iload (pc := 577) dL_law_577 1 rfl ?_
  refine lwEq (pc := 579) (tgt := 584) dL_law_579 (by decide) ?_
  have K9 : G lwD st0 trI fin 601 ((6, vi t) :: (5, vi k) :: lwE i) [] (UU b' b2 x2 m2) := r_goto (pc := 601) (tgt := 1446) dL_law_601 (by decide) (r_sub (env' := lwE i) [2, 3, 4, 5, 6] rfl K)
  refine r_iload (pc := 584) dL_law_584 1 rfl ?_
  refine r_if_ne (pc := 586) (tgt := 601) (A := some fin) (B := some fin) dL_law_586 (by decide) (ite_self _) (fun _ _ => K9) (fun hk0 _ => ?_)
  refine r_aload_n (pc := 589) dL_law_589 3 rfl rfl ?_
  refine r_iconst (pc := 590) (v := 0) dL_law_590 (by decide) ?_
  refine r_laload (pc := 591) (F := fun _ => some fin) dL_law_591 (by rw [outA hb2]; rfl) (fun z hz _ => ?_)
  cases (outA hb2).symm.trans hz
  refine r_iload (pc := 592) dL_law_592 0 rfl ?_
  refine r_i2l (pc := 594) dL_law_594 ?_
  exact r_lcmp_eq (pc := 595) (tgt := 601) (A := some fin) (B := none) dL_law_595 dL_law_596 (by decide) (if_pos (ho (Decidable.of_not_not hk0))) (fun _ _ => K9) (fun hne _ => absurd (ho (Decidable.of_not_not hk0)) hne)
theorem lw_k10 (hB : SB b') (I : LI b' b x m) (hi : i + 5 < mLen b' 54) : ∃ b2 x2 m2, LI b' b2 x2 m2 ∧ Ans b b2 ∧ ∀ (st0 : Mem) (fin : Int32 × Mem), G lwD st0 trI fin 1446 (lwE i) [] (UU b' b2 x2 m2) → G lwD st0 trI fin 604 (lwE i) [] (UU b' b x m) := by
  obtain ⟨⟨H, C, h, c, K0, R⟩, hN⟩ := I
  have hb := R.hb
  obtain ⟨r, t, b2, x2, m2, e1, e2, rfl, D, An⟩ := two_at (b' := b') (A := fX1_sees (some 64) (mI b' 54 (i + 1)) (mI b' 54 (i + 2)) (mI b' 54 (i + 3)) (mI b' 54 (i + 4)) (mkX b x)) (B := fun n s => fX4_sees (some 106) (mI b' 54 (i + 1)) (mI b' 54 (i + 2)) (mI b' 54 (i + 3)) (mI b' 54 (i + 4)) (mkM b' n s m)) (P := fun r t b2 x2 m2 => r = t ∧ (∃ H C h c K, Duo b2 x2 m2 H C h c K) ∧ Ans b b2) (fun n s => by
    obtain ⟨r, x', m', e1, e2, D⟩ := C_sees (b' := b') (n := n) (s := s) R (mI b' 54 (i + 1)) (mI b' 54 (i + 2)) (mI b' 54 (i + 3)) (mI b' 54 (i + 4))
    exact ⟨r, r, b, x', m', e1, e2, rfl, ⟨_, _, _, _, _, D⟩, Ans.refl b⟩)
  have c1 := sX1_sees e1
  have c2 := sX4_sees e2
  have hb2 : 131 ≤ mNx b2 := Nat.le_trans hb An.1
  have hN2 : NoM b2 := NoM.next (x := x) (x2 := x2) hN hb c1.1
  refine ⟨b2, x2, m2, ⟨D, hN2⟩, An, fun st0 fin K => ?_⟩
  refine r_aload_n (pc := 604) dL_law_604 3 rfl rfl ?_
  refine lwArg (pc := 605) 1 (p4 := 0) (p0 := 4) rfl rfl hB hN hb dL_law_605 dL_law_606 dL_law_608 dL_law_609 dL_law_610 (by decide) (by omega) ?_
  refine lwArg (pc := 611) 2 (p4 := 0) (p0 := 4) rfl rfl hB hN hb dL_law_611 dL_law_612 dL_law_614 dL_law_615 dL_law_616 (by decide) (by omega) ?_
  refine lwArg (pc := 617) 3 (p4 := 0) (p0 := 4) rfl rfl hB hN hb dL_law_617 dL_law_618 dL_law_620 dL_law_621 dL_law_622 (by decide) (by omega) ?_
  refine lwArg (pc := 623) 4 (p4 := 0) (p0 := 4) rfl rfl hB hN hb dL_law_623 dL_law_624 dL_law_626 dL_law_627 dL_law_628 (by decide) (by omega) ?_
  refine lwX (pc := 629) (as := [vi (mI b' 54 (i + 1)), vi (mI b' 54 (i + 2)), vi (mI b' 54 (i + 3)), vi (mI b' 54 (i + 4))]) (rest := []) hB hb c1 dL_law_629 q1234 lxd_X1_sees lvt_X1_sees q1235 ladx_X1_sees (by decide) (Nat.le_of_ble_eq_true rfl) rfl ?_
  refine r_aload_n (pc := 632) dL_law_632 2 rfl rfl ?_
  refine lwArg (pc := 633) 1 (p4 := 0) (p0 := 4) rfl rfl hB hN2 hb2 dL_law_633 dL_law_634 dL_law_636 dL_law_637 dL_law_638 (by decide) (by omega) ?_
  refine lwArg (pc := 639) 2 (p4 := 0) (p0 := 4) rfl rfl hB hN2 hb2 dL_law_639 dL_law_640 dL_law_642 dL_law_643 dL_law_644 (by decide) (by omega) ?_
  refine lwArg (pc := 645) 3 (p4 := 0) (p0 := 4) rfl rfl hB hN2 hb2 dL_law_645 dL_law_646 dL_law_648 dL_law_649 dL_law_650 (by decide) (by omega) ?_
  refine lwArg (pc := 651) 4 (p4 := 0) (p0 := 4) rfl rfl hB hN2 hb2 dL_law_651 dL_law_652 dL_law_654 dL_law_655 dL_law_656 (by decide) (by omega) ?_
  refine lwM (pc := 657) (as := [vi (mI b' 54 (i + 1)), vi (mI b' 54 (i + 2)), vi (mI b' 54 (i + 3)), vi (mI b' 54 (i + 4))]) (rest := [vi r]) hB hN2 hb2 c2 dL_law_657 q2089 lxd_X4_sees lvt_X4_sees q2090 ladx_X4_sees (by decide) (Nat.le_of_ble_eq_true rfl) rfl ?_
  exact lwEq (pc := 660) (tgt := 1446) dL_law_660 (by decide) K
theorem lw_k11 (hB : SB b') (I : LI b' b x m) (hi : i + 5 < mLen b' 54) : ∃ b2 x2 m2, LI b' b2 x2 m2 ∧ Ans b b2 ∧ ∀ (st0 : Mem) (fin : Int32 × Mem), G lwD st0 trI fin 1446 (lwE i) [] (UU b' b2 x2 m2) → G lwD st0 trI fin 665 (lwE i) [] (UU b' b x m) := by
  obtain ⟨⟨H, C, h, c, K0, R⟩, hN⟩ := I
  have hb := R.hb
  obtain ⟨r, t, b2, x2, m2, e1, e2, rfl, D, An⟩ := two_at (b' := b') (A := fX1_at (some 64) (mI b' 54 (i + 1)) (mI b' 54 (i + 2)) (mI b' 54 (i + 3)) (mkX b x)) (B := fun n s => fX4_at (some 106) (mI b' 54 (i + 1)) (mI b' 54 (i + 2)) (mI b' 54 (i + 3)) (mkM b' n s m)) (P := fun r t b2 x2 m2 => r = t ∧ (∃ H C h c K, Duo b2 x2 m2 H C h c K) ∧ Ans b b2) (fun n s => by
    obtain ⟨r, x', m', e1, e2, D⟩ := C_at (b' := b') (n := n) (s := s) R (mI b' 54 (i + 1)) (mI b' 54 (i + 2)) (mI b' 54 (i + 3))
    exact ⟨r, r, b, x', m', e1, e2, rfl, ⟨_, _, _, _, _, D⟩, Ans.refl b⟩)
  have c1 := sX1_at e1
  have c2 := sX4_at e2
  have hb2 : 131 ≤ mNx b2 := Nat.le_trans hb An.1
  have hN2 : NoM b2 := NoM.next (x := x) (x2 := x2) hN hb c1.1
  refine ⟨b2, x2, m2, ⟨D, hN2⟩, An, fun st0 fin K => ?_⟩
  refine r_aload_n (pc := 665) dL_law_665 3 rfl rfl ?_
  refine lwArg (pc := 666) 1 (p4 := 0) (p0 := 4) rfl rfl hB hN hb dL_law_666 dL_law_667 dL_law_669 dL_law_670 dL_law_671 (by decide) (by omega) ?_
  refine lwArg (pc := 672) 2 (p4 := 0) (p0 := 4) rfl rfl hB hN hb dL_law_672 dL_law_673 dL_law_675 dL_law_676 dL_law_677 (by decide) (by omega) ?_
  refine lwArg (pc := 678) 3 (p4 := 0) (p0 := 4) rfl rfl hB hN hb dL_law_678 dL_law_679 dL_law_681 dL_law_682 dL_law_683 (by decide) (by omega) ?_
  refine lwX (pc := 684) (as := [vi (mI b' 54 (i + 1)), vi (mI b' 54 (i + 2)), vi (mI b' 54 (i + 3))]) (rest := []) hB hb c1 dL_law_684 q1373 lxd_X1_at lvt_X1_at q1374 ladx_X1_at (by decide) (Nat.le_of_ble_eq_true rfl) rfl ?_
  refine r_aload_n (pc := 687) dL_law_687 2 rfl rfl ?_
  refine lwArg (pc := 688) 1 (p4 := 0) (p0 := 4) rfl rfl hB hN2 hb2 dL_law_688 dL_law_689 dL_law_691 dL_law_692 dL_law_693 (by decide) (by omega) ?_
  refine lwArg (pc := 694) 2 (p4 := 0) (p0 := 4) rfl rfl hB hN2 hb2 dL_law_694 dL_law_695 dL_law_697 dL_law_698 dL_law_699 (by decide) (by omega) ?_
  refine lwArg (pc := 700) 3 (p4 := 0) (p0 := 4) rfl rfl hB hN2 hb2 dL_law_700 dL_law_701 dL_law_703 dL_law_704 dL_law_705 (by decide) (by omega) ?_
  refine lwM (pc := 706) (as := [vi (mI b' 54 (i + 1)), vi (mI b' 54 (i + 2)), vi (mI b' 54 (i + 3))]) (rest := [vi r]) hB hN2 hb2 c2 dL_law_706 q2139 lxd_X4_at lvt_X4_at q2140 ladx_X4_at (by decide) (Nat.le_of_ble_eq_true rfl) rfl ?_
  exact lwEq (pc := 709) (tgt := 1446) dL_law_709 (by decide) K
theorem lw_k12 (hB : SB b') (I : LI b' b x m) (hi : i + 5 < mLen b' 54) : ∃ b2 x2 m2, LI b' b2 x2 m2 ∧ Ans b b2 ∧ ∀ (st0 : Mem) (fin : Int32 × Mem), G lwD st0 trI fin 1446 (lwE i) [] (UU b' b2 x2 m2) → G lwD st0 trI fin 714 (lwE i) [] (UU b' b x m) := by
  obtain ⟨⟨H, C, h, c, K0, R⟩, hN⟩ := I
  have hb := R.hb
  obtain ⟨r, t, b2, x2, m2, e1, e2, rfl, D, An⟩ := two_at (b' := b') (A := fX1_many (some 64) (mI b' 54 (i + 1)) (mI b' 54 (i + 2)) (mkX b x)) (B := fun n s => fX4_many (some 106) (mI b' 54 (i + 1)) (mI b' 54 (i + 2)) (mkM b' n s m)) (P := fun r t b2 x2 m2 => r = t ∧ (∃ H C h c K, Duo b2 x2 m2 H C h c K) ∧ Ans b b2) (fun n s => by
    obtain ⟨r, x', m', e1, e2, D⟩ := C_many (b' := b') (n := n) (s := s) R (mI b' 54 (i + 1)) (mI b' 54 (i + 2))
    exact ⟨r, r, b, x', m', e1, e2, rfl, ⟨_, _, _, _, _, D⟩, Ans.refl b⟩)
  have c1 := sX1_many e1
  have c2 := sX4_many e2
  have hb2 : 131 ≤ mNx b2 := Nat.le_trans hb An.1
  have hN2 : NoM b2 := NoM.next (x := x) (x2 := x2) hN hb c1.1
  refine ⟨b2, x2, m2, ⟨D, hN2⟩, An, fun st0 fin K => ?_⟩
  refine r_aload_n (pc := 714) dL_law_714 3 rfl rfl ?_
  refine lwArg (pc := 715) 1 (p4 := 0) (p0 := 4) rfl rfl hB hN hb dL_law_715 dL_law_716 dL_law_718 dL_law_719 dL_law_720 (by decide) (by omega) ?_
  refine lwArg (pc := 721) 2 (p4 := 0) (p0 := 4) rfl rfl hB hN hb dL_law_721 dL_law_722 dL_law_724 dL_law_725 dL_law_726 (by decide) (by omega) ?_
  refine lwX (pc := 727) (as := [vi (mI b' 54 (i + 1)), vi (mI b' 54 (i + 2))]) (rest := []) hB hb c1 dL_law_727 q1377 lxd_X1_many lvt_X1_many q1378 ladx_X1_many (by decide) (Nat.le_of_ble_eq_true rfl) rfl ?_
  refine r_aload_n (pc := 730) dL_law_730 2 rfl rfl ?_
  refine lwArg (pc := 731) 1 (p4 := 0) (p0 := 4) rfl rfl hB hN2 hb2 dL_law_731 dL_law_732 dL_law_734 dL_law_735 dL_law_736 (by decide) (by omega) ?_
  refine lwArg (pc := 737) 2 (p4 := 0) (p0 := 4) rfl rfl hB hN2 hb2 dL_law_737 dL_law_738 dL_law_740 dL_law_741 dL_law_742 (by decide) (by omega) ?_
  refine lwM (pc := 743) (as := [vi (mI b' 54 (i + 1)), vi (mI b' 54 (i + 2))]) (rest := [vi r]) hB hN2 hb2 c2 dL_law_743 q2143 lxd_X4_many lvt_X4_many q2144 ladx_X4_many (by decide) (Nat.le_of_ble_eq_true rfl) rfl ?_
  exact lwEq (pc := 746) (tgt := 1446) dL_law_746 (by decide) K
theorem lw_k13 (hB : SB b') (I : LI b' b x m) (hi : i + 5 < mLen b' 54) : ∃ b2 x2 m2, LI b' b2 x2 m2 ∧ Ans b b2 ∧ ∀ (st0 : Mem) (fin : Int32 × Mem), G lwD st0 trI fin 1446 (lwE i) [] (UU b' b2 x2 m2) → G lwD st0 trI fin 751 (lwE i) [] (UU b' b x m) := by
  obtain ⟨⟨H, C, h, c, K0, R⟩, hN⟩ := I
  have hb := R.hb
  obtain ⟨r, t, b2, x2, m2, e1, e2, rfl, D, An⟩ := two_at (b' := b') (A := fX1_would (some 64) (mI b' 54 (i + 1)) (mI b' 54 (i + 2)) (mI b' 54 (i + 3)) (mkX b x)) (B := fun n s => fX4_would (some 106) (mI b' 54 (i + 1)) (mI b' 54 (i + 2)) (mI b' 54 (i + 3)) (mkM b' n s m)) (P := fun r t b2 x2 m2 => r = t ∧ (∃ H C h c K, Duo b2 x2 m2 H C h c K) ∧ Ans b b2) (fun n s => by
    obtain ⟨r, x', m', e1, e2, D⟩ := C_would (b' := b') (n := n) (s := s) R (mI b' 54 (i + 1)) (mI b' 54 (i + 2)) (mI b' 54 (i + 3))
    exact ⟨r, r, b, x', m', e1, e2, rfl, ⟨_, _, _, _, _, D⟩, Ans.refl b⟩)
  have c1 := sX1_would e1
  have c2 := sX4_would e2
  have hb2 : 131 ≤ mNx b2 := Nat.le_trans hb An.1
  have hN2 : NoM b2 := NoM.next (x := x) (x2 := x2) hN hb c1.1
  refine ⟨b2, x2, m2, ⟨D, hN2⟩, An, fun st0 fin K => ?_⟩
  refine r_aload_n (pc := 751) dL_law_751 3 rfl rfl ?_
  refine lwArg (pc := 752) 1 (p4 := 0) (p0 := 4) rfl rfl hB hN hb dL_law_752 dL_law_753 dL_law_755 dL_law_756 dL_law_757 (by decide) (by omega) ?_
  refine lwArg (pc := 758) 2 (p4 := 0) (p0 := 4) rfl rfl hB hN hb dL_law_758 dL_law_759 dL_law_761 dL_law_762 dL_law_763 (by decide) (by omega) ?_
  refine lwArg (pc := 764) 3 (p4 := 0) (p0 := 4) rfl rfl hB hN hb dL_law_764 dL_law_765 dL_law_767 dL_law_768 dL_law_769 (by decide) (by omega) ?_
  refine lwX (pc := 770) (as := [vi (mI b' 54 (i + 1)), vi (mI b' 54 (i + 2)), vi (mI b' 54 (i + 3))]) (rest := []) hB hb c1 dL_law_770 q1389 lxd_X1_would lvt_X1_would q1390 ladx_X1_would (by decide) (Nat.le_of_ble_eq_true rfl) rfl ?_
  refine r_aload_n (pc := 773) dL_law_773 2 rfl rfl ?_
  refine lwArg (pc := 774) 1 (p4 := 0) (p0 := 4) rfl rfl hB hN2 hb2 dL_law_774 dL_law_775 dL_law_777 dL_law_778 dL_law_779 (by decide) (by omega) ?_
  refine lwArg (pc := 780) 2 (p4 := 0) (p0 := 4) rfl rfl hB hN2 hb2 dL_law_780 dL_law_781 dL_law_783 dL_law_784 dL_law_785 (by decide) (by omega) ?_
  refine lwArg (pc := 786) 3 (p4 := 0) (p0 := 4) rfl rfl hB hN2 hb2 dL_law_786 dL_law_787 dL_law_789 dL_law_790 dL_law_791 (by decide) (by omega) ?_
  refine lwM (pc := 792) (as := [vi (mI b' 54 (i + 1)), vi (mI b' 54 (i + 2)), vi (mI b' 54 (i + 3))]) (rest := [vi r]) hB hN2 hb2 c2 dL_law_792 q2147 lxd_X4_would lvt_X4_would q2148 ladx_X4_would (by decide) (Nat.le_of_ble_eq_true rfl) rfl ?_
  exact lwEq (pc := 795) (tgt := 1446) dL_law_795 (by decide) K
theorem lw_k14 (hB : SB b') (I : LI b' b x m) (hi : i + 5 < mLen b' 54) : ∃ b2 x2 m2, LI b' b2 x2 m2 ∧ Ans b b2 ∧ ∀ (st0 : Mem) (fin : Int32 × Mem), G lwD st0 trI fin 1446 (lwE i) [] (UU b' b2 x2 m2) → G lwD st0 trI fin 800 (lwE i) [] (UU b' b x m) := by
  obtain ⟨⟨H, C, h, c, K0, R⟩, hN⟩ := I
  have hb := R.hb
  obtain ⟨r, t, b2, x2, m2, e1, e2, rfl, D, An⟩ := two_at (b' := b') (A := fX1_stands (some 64) (mI b' 54 (i + 1)) (mkX b x)) (B := fun n s => fX4_stands (some 106) (mI b' 54 (i + 1)) (mkM b' n s m)) (P := fun r t b2 x2 m2 => r = t ∧ (∃ H C h c K, Duo b2 x2 m2 H C h c K) ∧ Ans b b2) (fun n s => by
    obtain ⟨r, x', m', e1, e2, D⟩ := C_stands (b' := b') (n := n) (s := s) R (mI b' 54 (i + 1))
    exact ⟨r, r, b, x', m', e1, e2, rfl, ⟨_, _, _, _, _, D⟩, Ans.refl b⟩)
  have c1 := sX1_stands e1
  have c2 := sX4_stands e2
  have hb2 : 131 ≤ mNx b2 := Nat.le_trans hb An.1
  have hN2 : NoM b2 := NoM.next (x := x) (x2 := x2) hN hb c1.1
  refine ⟨b2, x2, m2, ⟨D, hN2⟩, An, fun st0 fin K => ?_⟩
  refine r_aload_n (pc := 800) dL_law_800 3 rfl rfl ?_
  refine lwArg (pc := 801) 1 (p4 := 0) (p0 := 4) rfl rfl hB hN hb dL_law_801 dL_law_802 dL_law_804 dL_law_805 dL_law_806 (by decide) (by omega) ?_
  refine lwX (pc := 807) (as := [vi (mI b' 54 (i + 1))]) (rest := []) hB hb c1 dL_law_807 q1398 lxd_X1_stands lvt_X1_stands q1399 ladx_X1_stands (by decide) (Nat.le_of_ble_eq_true rfl) rfl ?_
  refine r_aload_n (pc := 810) dL_law_810 2 rfl rfl ?_
  refine lwArg (pc := 811) 1 (p4 := 0) (p0 := 4) rfl rfl hB hN2 hb2 dL_law_811 dL_law_812 dL_law_814 dL_law_815 dL_law_816 (by decide) (by omega) ?_
  refine lwM (pc := 817) (as := [vi (mI b' 54 (i + 1))]) (rest := [vi r]) hB hN2 hb2 c2 dL_law_817 q2151 lxd_X4_stands lvt_X4_stands q2152 ladx_X4_stands (by decide) (Nat.le_of_ble_eq_true rfl) rfl ?_
  exact lwEq (pc := 820) (tgt := 1446) dL_law_820 (by decide) K
theorem lw_k15 (hB : SB b') (I : LI b' b x m) (hi : i + 5 < mLen b' 54) : ∃ b2 x2 m2, LI b' b2 x2 m2 ∧ Ans b b2 ∧ ∀ (st0 : Mem) (fin : Int32 × Mem), G lwD st0 trI fin 1446 (lwE i) [] (UU b' b2 x2 m2) → G lwD st0 trI fin 825 (lwE i) [] (UU b' b x m) := by
  obtain ⟨⟨H, C, h, c, K0, R⟩, hN⟩ := I
  have hb := R.hb
  obtain ⟨r, t, b2, x2, m2, e1, e2, rfl, D, An⟩ := two_at (b' := b') (A := fX1_anyway (some 64) (mI b' 54 (i + 1)) (mkX b x)) (B := fun n s => fX4_anyway (some 106) (mI b' 54 (i + 1)) (mkM b' n s m)) (P := fun r t b2 x2 m2 => r = t ∧ (∃ H C h c K, Duo b2 x2 m2 H C h c K) ∧ Ans b b2) (fun n s => by
    obtain ⟨r, x', m', e1, e2, D⟩ := C_anyway (b' := b') (n := n) (s := s) R (mI b' 54 (i + 1))
    exact ⟨r, r, b, x', m', e1, e2, rfl, ⟨_, _, _, _, _, D⟩, Ans.refl b⟩)
  have c1 := sX1_anyway e1
  have c2 := sX4_anyway e2
  have hb2 : 131 ≤ mNx b2 := Nat.le_trans hb An.1
  have hN2 : NoM b2 := NoM.next (x := x) (x2 := x2) hN hb c1.1
  refine ⟨b2, x2, m2, ⟨D, hN2⟩, An, fun st0 fin K => ?_⟩
  refine r_aload_n (pc := 825) dL_law_825 3 rfl rfl ?_
  refine lwArg (pc := 826) 1 (p4 := 0) (p0 := 4) rfl rfl hB hN hb dL_law_826 dL_law_827 dL_law_829 dL_law_830 dL_law_831 (by decide) (by omega) ?_
  refine lwX (pc := 832) (as := [vi (mI b' 54 (i + 1))]) (rest := []) hB hb c1 dL_law_832 q1403 lxd_X1_anyway lvt_X1_anyway q1404 ladx_X1_anyway (by decide) (Nat.le_of_ble_eq_true rfl) rfl ?_
  refine r_aload_n (pc := 835) dL_law_835 2 rfl rfl ?_
  refine lwArg (pc := 836) 1 (p4 := 0) (p0 := 4) rfl rfl hB hN2 hb2 dL_law_836 dL_law_837 dL_law_839 dL_law_840 dL_law_841 (by decide) (by omega) ?_
  refine lwM (pc := 842) (as := [vi (mI b' 54 (i + 1))]) (rest := [vi r]) hB hN2 hb2 c2 dL_law_842 q2155 lxd_X4_anyway lvt_X4_anyway q2156 ladx_X4_anyway (by decide) (Nat.le_of_ble_eq_true rfl) rfl ?_
  exact lwEq (pc := 845) (tgt := 1446) dL_law_845 (by decide) K
theorem lw_k16 (hB : SB b') (I : LI b' b x m) (hi : i + 5 < mLen b' 54) : ∃ b2 x2 m2, LI b' b2 x2 m2 ∧ Ans b b2 ∧ ∀ (st0 : Mem) (fin : Int32 × Mem), G lwD st0 trI fin 1446 (lwE i) [] (UU b' b2 x2 m2) → G lwD st0 trI fin 850 (lwE i) [] (UU b' b x m) := by
  obtain ⟨⟨H, C, h, c, K0, R⟩, hN⟩ := I
  have hb := R.hb
  obtain ⟨r, t, b2, x2, m2, e1, e2, rfl, D, An⟩ := two_at (b' := b') (A := fX1_up (some 64) (mkX b x)) (B := fun n s => fX4_up (some 106) (mkM b' n s m)) (P := fun r t b2 x2 m2 => r = t ∧ (∃ H C h c K, Duo b2 x2 m2 H C h c K) ∧ Ans b b2) (fun n s => by
    obtain ⟨r, x', m', e1, e2, D⟩ := C_up (b' := b') (n := n) (s := s) R
    exact ⟨r, r, b, x', m', e1, e2, rfl, ⟨_, _, _, _, _, D⟩, Ans.refl b⟩)
  have c1 := sX1_up e1
  have c2 := sX4_up e2
  have hb2 : 131 ≤ mNx b2 := Nat.le_trans hb An.1
  have hN2 : NoM b2 := NoM.next (x := x) (x2 := x2) hN hb c1.1
  refine ⟨b2, x2, m2, ⟨D, hN2⟩, An, fun st0 fin K => ?_⟩
  refine r_aload_n (pc := 850) dL_law_850 3 rfl rfl ?_
  refine lwX (pc := 851) (as := []) (rest := []) hB hb c1 dL_law_851 q1407 lxd_X1_up lvt_X1_up q1408 ladx_X1_up (by decide) (Nat.le_of_ble_eq_true rfl) rfl ?_
  refine r_aload_n (pc := 854) dL_law_854 2 rfl rfl ?_
  refine lwM (pc := 855) (as := []) (rest := [vi r]) hB hN2 hb2 c2 dL_law_855 q2159 lxd_X4_up lvt_X4_up q2160 ladx_X4_up (by decide) (Nat.le_of_ble_eq_true rfl) rfl ?_
  exact lwEq (pc := 858) (tgt := 1446) dL_law_858 (by decide) K
theorem lw_k17 (hB : SB b') (I : LI b' b x m) (hi : i + 5 < mLen b' 54) : ∃ b2 x2 m2, LI b' b2 x2 m2 ∧ Ans b b2 ∧ ∀ (st0 : Mem) (fin : Int32 × Mem), G lwD st0 trI fin 1446 (lwE i) [] (UU b' b2 x2 m2) → G lwD st0 trI fin 863 (lwE i) [] (UU b' b x m) := by
  obtain ⟨⟨H, C, h, c, K0, R⟩, hN⟩ := I
  have hb := R.hb
  obtain ⟨r, t, b2, x2, m2, e1, e2, rfl, D, An⟩ := two_at (b' := b') (A := fX1_calls (some 64) (mI b' 54 (i + 1)) (mkX b x)) (B := fun n s => fX4_calls (some 106) (mI b' 54 (i + 1)) (mkM b' n s m)) (P := fun r t b2 x2 m2 => r = t ∧ (∃ H C h c K, Duo b2 x2 m2 H C h c K) ∧ Ans b b2) (fun n s => by
    obtain ⟨r, x', m', e1, e2, D⟩ := C_calls (b' := b') (n := n) (s := s) R (mI b' 54 (i + 1))
    exact ⟨r, r, b, x', m', e1, e2, rfl, ⟨_, _, _, _, _, D⟩, Ans.refl b⟩)
  have c1 := sX1_calls e1
  have c2 := sX4_calls e2
  have hb2 : 131 ≤ mNx b2 := Nat.le_trans hb An.1
  have hN2 : NoM b2 := NoM.next (x := x) (x2 := x2) hN hb c1.1
  refine ⟨b2, x2, m2, ⟨D, hN2⟩, An, fun st0 fin K => ?_⟩
  refine r_aload_n (pc := 863) dL_law_863 3 rfl rfl ?_
  refine lwArg (pc := 864) 1 (p4 := 0) (p0 := 4) rfl rfl hB hN hb dL_law_864 dL_law_865 dL_law_867 dL_law_868 dL_law_869 (by decide) (by omega) ?_
  refine lwX (pc := 870) (as := [vi (mI b' 54 (i + 1))]) (rest := []) hB hb c1 dL_law_870 q1416 lxd_X1_calls lvt_X1_calls q1417 ladx_X1_calls (by decide) (Nat.le_of_ble_eq_true rfl) rfl ?_
  refine r_aload_n (pc := 873) dL_law_873 2 rfl rfl ?_
  refine lwArg (pc := 874) 1 (p4 := 0) (p0 := 4) rfl rfl hB hN2 hb2 dL_law_874 dL_law_875 dL_law_877 dL_law_878 dL_law_879 (by decide) (by omega) ?_
  refine lwM (pc := 880) (as := [vi (mI b' 54 (i + 1))]) (rest := [vi r]) hB hN2 hb2 c2 dL_law_880 q2167 lxd_X4_calls lvt_X4_calls q2168 ladx_X4_calls (by decide) (Nat.le_of_ble_eq_true rfl) rfl ?_
  exact lwEq (pc := 883) (tgt := 1446) dL_law_883 (by decide) K
theorem lw_k18 (hB : SB b') (I : LI b' b x m) (hi : i + 5 < mLen b' 54) : ∃ b2 x2 m2, LI b' b2 x2 m2 ∧ Ans b b2 ∧ ∀ (st0 : Mem) (fin : Int32 × Mem), G lwD st0 trI fin 1446 (lwE i) [] (UU b' b2 x2 m2) → G lwD st0 trI fin 888 (lwE i) [] (UU b' b x m) := by
  obtain ⟨⟨H, C, h, c, K0, R⟩, hN⟩ := I
  have hb := R.hb
  obtain ⟨r, t, b2, x2, m2, e1, e2, rfl, D, An⟩ := two_at (b' := b') (A := fX1_again (some 64) (mI b' 54 (i + 1)) (mkX b x)) (B := fun n s => fX4_again (some 106) (mI b' 54 (i + 1)) (mkM b' n s m)) (P := fun r t b2 x2 m2 => r = t ∧ (∃ H C h c K, Duo b2 x2 m2 H C h c K) ∧ Ans b b2) (fun n s => by
    obtain ⟨r, x', m', e1, e2, D⟩ := C_again (b' := b') (n := n) (s := s) R (mI b' 54 (i + 1))
    exact ⟨r, r, b, x', m', e1, e2, rfl, ⟨_, _, _, _, _, D⟩, Ans.refl b⟩)
  have c1 := sX1_again e1
  have c2 := sX4_again e2
  have hb2 : 131 ≤ mNx b2 := Nat.le_trans hb An.1
  have hN2 : NoM b2 := NoM.next (x := x) (x2 := x2) hN hb c1.1
  refine ⟨b2, x2, m2, ⟨D, hN2⟩, An, fun st0 fin K => ?_⟩
  refine r_aload_n (pc := 888) dL_law_888 3 rfl rfl ?_
  refine lwArg (pc := 889) 1 (p4 := 0) (p0 := 4) rfl rfl hB hN hb dL_law_889 dL_law_890 dL_law_892 dL_law_893 dL_law_894 (by decide) (by omega) ?_
  refine lwX (pc := 895) (as := [vi (mI b' 54 (i + 1))]) (rest := []) hB hb c1 dL_law_895 q1420 lxd_X1_again lvt_X1_again q1421 ladx_X1_again (by decide) (Nat.le_of_ble_eq_true rfl) rfl ?_
  refine r_aload_n (pc := 898) dL_law_898 2 rfl rfl ?_
  refine lwArg (pc := 899) 1 (p4 := 0) (p0 := 4) rfl rfl hB hN2 hb2 dL_law_899 dL_law_900 dL_law_902 dL_law_903 dL_law_904 (by decide) (by omega) ?_
  refine lwM (pc := 905) (as := [vi (mI b' 54 (i + 1))]) (rest := [vi r]) hB hN2 hb2 c2 dL_law_905 q2171 lxd_X4_again lvt_X4_again q2172 ladx_X4_again (by decide) (Nat.le_of_ble_eq_true rfl) rfl ?_
  exact lwEq (pc := 908) (tgt := 1446) dL_law_908 (by decide) K
theorem lw_k19 (hB : SB b') (I : LI b' b x m) (hi : i + 5 < mLen b' 54) : ∃ b2 x2 m2, LI b' b2 x2 m2 ∧ Ans b b2 ∧ ∀ (st0 : Mem) (fin : Int32 × Mem), G lwD st0 trI fin 1446 (lwE i) [] (UU b' b2 x2 m2) → G lwD st0 trI fin 913 (lwE i) [] (UU b' b x m) := by
  obtain ⟨⟨H, C, h, c, K0, R⟩, hN⟩ := I
  have hb := R.hb
  obtain ⟨r, t, b2, x2, m2, e1, e2, rfl, D, An⟩ := two_at (b' := b') (A := fX1_carries (some 64) (mI b' 54 (i + 1)) (mkX b x)) (B := fun n s => fX4_carries (some 106) (mI b' 54 (i + 1)) (mkM b' n s m)) (P := fun r t b2 x2 m2 => r = t ∧ (∃ H C h c K, Duo b2 x2 m2 H C h c K) ∧ Ans b b2) (fun n s => by
    obtain ⟨r, x', m', e1, e2, D⟩ := C_carries (b' := b') (n := n) (s := s) R (mI b' 54 (i + 1))
    exact ⟨r, r, b, x', m', e1, e2, rfl, ⟨_, _, _, _, _, D⟩, Ans.refl b⟩)
  have c1 := sX1_carries e1
  have c2 := sX4_carries e2
  have hb2 : 131 ≤ mNx b2 := Nat.le_trans hb An.1
  have hN2 : NoM b2 := NoM.next (x := x) (x2 := x2) hN hb c1.1
  refine ⟨b2, x2, m2, ⟨D, hN2⟩, An, fun st0 fin K => ?_⟩
  refine r_aload_n (pc := 913) dL_law_913 3 rfl rfl ?_
  refine lwArg (pc := 914) 1 (p4 := 0) (p0 := 4) rfl rfl hB hN hb dL_law_914 dL_law_915 dL_law_917 dL_law_918 dL_law_919 (by decide) (by omega) ?_
  refine lwX (pc := 920) (as := [vi (mI b' 54 (i + 1))]) (rest := []) hB hb c1 dL_law_920 q1454 lxd_X1_carries lvt_X1_carries q1455 ladx_X1_carries (by decide) (Nat.le_of_ble_eq_true rfl) rfl ?_
  refine r_aload_n (pc := 923) dL_law_923 2 rfl rfl ?_
  refine lwArg (pc := 924) 1 (p4 := 0) (p0 := 4) rfl rfl hB hN2 hb2 dL_law_924 dL_law_925 dL_law_927 dL_law_928 dL_law_929 (by decide) (by omega) ?_
  refine lwM (pc := 930) (as := [vi (mI b' 54 (i + 1))]) (rest := [vi r]) hB hN2 hb2 c2 dL_law_930 q2179 lxd_X4_carries lvt_X4_carries q2180 ladx_X4_carries (by decide) (Nat.le_of_ble_eq_true rfl) rfl ?_
  exact lwEq (pc := 933) (tgt := 1446) dL_law_933 (by decide) K
theorem lw_k20 (hB : SB b') (I : LI b' b x m) (hi : i + 5 < mLen b' 54) : ∃ b2 x2 m2, LI b' b2 x2 m2 ∧ Ans b b2 ∧ ∀ (st0 : Mem) (fin : Int32 × Mem), G lwD st0 trI fin 1446 (lwE i) [] (UU b' b2 x2 m2) → G lwD st0 trI fin 938 (lwE i) [] (UU b' b x m) := by
  obtain ⟨⟨H, C, h, c, K0, R⟩, hN⟩ := I
  have hb := R.hb
  obtain ⟨r, t, b2, x2, m2, e1, e2, rfl, D, An⟩ := two_at (b' := b') (A := fX1_cheapest (some 64) (mkX b x)) (B := fun n s => fX4_cheapest (some 106) (mkM b' n s m)) (P := fun r t b2 x2 m2 => r = t ∧ (∃ H C h c K, Duo b2 x2 m2 H C h c K) ∧ Ans b b2) (fun n s => by
    obtain ⟨r, x', m', e1, e2, D⟩ := C_cheapest (b' := b') (n := n) (s := s) R
    exact ⟨r, r, b, x', m', e1, e2, rfl, ⟨_, _, _, _, _, D⟩, Ans.refl b⟩)
  have c1 := sX1_cheapest e1
  have c2 := sX4_cheapest e2
  have hb2 : 131 ≤ mNx b2 := Nat.le_trans hb An.1
  have hN2 : NoM b2 := NoM.next (x := x) (x2 := x2) hN hb c1.1
  refine ⟨b2, x2, m2, ⟨D, hN2⟩, An, fun st0 fin K => ?_⟩
  refine r_aload_n (pc := 938) dL_law_938 3 rfl rfl ?_
  refine lwX (pc := 939) (as := []) (rest := []) hB hb c1 dL_law_939 q1466 lxd_X1_cheapest lvt_X1_cheapest q1467 ladx_X1_cheapest (by decide) (Nat.le_of_ble_eq_true rfl) rfl ?_
  refine r_aload_n (pc := 942) dL_law_942 2 rfl rfl ?_
  refine lwM (pc := 943) (as := []) (rest := [vi r]) hB hN2 hb2 c2 dL_law_943 q2187 lxd_X4_cheapest lvt_X4_cheapest q2188 ladx_X4_cheapest (by decide) (Nat.le_of_ble_eq_true rfl) rfl ?_
  exact lwEq (pc := 946) (tgt := 1446) dL_law_946 (by decide) K
theorem lw_k21 (hB : SB b') (I : LI b' b x m) (hi : i + 5 < mLen b' 54) : ∃ b2 x2 m2, LI b' b2 x2 m2 ∧ Ans b b2 ∧ ∀ (st0 : Mem) (fin : Int32 × Mem), G lwD st0 trI fin 1446 (lwE i) [] (UU b' b2 x2 m2) → G lwD st0 trI fin 951 (lwE i) [] (UU b' b x m) := by
  obtain ⟨⟨H, C, h, c, K0, R⟩, hN⟩ := I
  have hb := R.hb
  obtain ⟨r, t, b2, x2, m2, e1, e2, rfl, D, An⟩ := two_at (b' := b') (A := fX1_bought (some 64) (mkX b x)) (B := fun n s => fX4_bought (some 106) (mkM b' n s m)) (P := fun r t b2 x2 m2 => r = t ∧ (∃ H C h c K, Duo b2 x2 m2 H C h c K) ∧ Ans b b2) (fun n s => by
    obtain ⟨r, e1, e2⟩ := C_bought (b' := b') (n := n) (s := s) R
    exact ⟨r, r, b, x, m.th 0, e1, e2, rfl, ⟨_, _, _, _, _, R.th⟩, Ans.refl b⟩)
  have c1 := sX1_bought e1
  have c2 := sX4_bought e2
  have hb2 : 131 ≤ mNx b2 := Nat.le_trans hb An.1
  have hN2 : NoM b2 := NoM.next (x := x) (x2 := x2) hN hb c1.1
  refine ⟨b2, x2, m2, ⟨D, hN2⟩, An, fun st0 fin K => ?_⟩
  refine r_aload_n (pc := 951) dL_law_951 3 rfl rfl ?_
  refine lwX (pc := 952) (as := []) (rest := []) hB hb c1 dL_law_952 q1499 lxd_X1_bought lvt_X1_bought q1500 ladx_X1_bought (by decide) (Nat.le_of_ble_eq_true rfl) rfl ?_
  refine r_aload_n (pc := 955) dL_law_955 2 rfl rfl ?_
  refine lwM (pc := 956) (as := []) (rest := [vi r]) hB hN2 hb2 c2 dL_law_956 q2204 lxd_X4_bought lvt_X4_bought q2205 ladx_X4_bought (by decide) (Nat.le_of_ble_eq_true rfl) rfl ?_
  exact lwEq (pc := 959) (tgt := 1446) dL_law_959 (by decide) K
theorem lw_k22 (hB : SB b') (I : LI b' b x m) (hi : i + 5 < mLen b' 54) : ∃ b2 x2 m2, LI b' b2 x2 m2 ∧ Ans b b2 ∧ ∀ (st0 : Mem) (fin : Int32 × Mem), G lwD st0 trI fin 1446 (lwE i) [] (UU b' b2 x2 m2) → G lwD st0 trI fin 964 (lwE i) [] (UU b' b x m) := by
  obtain ⟨⟨H, C, h, c, K0, R⟩, hN⟩ := I
  have hb := R.hb
  obtain ⟨r, t, b2, x2, m2, e1, e2, rfl, D, An⟩ := two_at (b' := b') (A := fX1_hush (some 64) (mkX b x)) (B := fun n s => fX4_hush (some 106) (mkM b' n s m)) (P := fun r t b2 x2 m2 => r = t ∧ (∃ H C h c K, Duo b2 x2 m2 H C h c K) ∧ Ans b b2) (fun n s => by
    obtain ⟨r, x', m', e1, e2, D⟩ := C_hush (b' := b') (n := n) (s := s) R
    exact ⟨r, r, b, x', m', e1, e2, rfl, ⟨_, _, _, _, _, D⟩, Ans.refl b⟩)
  have c1 := sX1_hush e1
  have c2 := sX4_hush e2
  have hb2 : 131 ≤ mNx b2 := Nat.le_trans hb An.1
  have hN2 : NoM b2 := NoM.next (x := x) (x2 := x2) hN hb c1.1
  refine ⟨b2, x2, m2, ⟨D, hN2⟩, An, fun st0 fin K => ?_⟩
  refine r_aload_n (pc := 964) dL_law_964 3 rfl rfl ?_
  refine lwX (pc := 965) (as := []) (rest := []) hB hb c1 dL_law_965 q1503 lxd_X1_hush lvt_X1_hush q1504 ladx_X1_hush (by decide) (Nat.le_of_ble_eq_true rfl) rfl ?_
  refine r_aload_n (pc := 968) dL_law_968 2 rfl rfl ?_
  refine lwM (pc := 969) (as := []) (rest := [vi r]) hB hN2 hb2 c2 dL_law_969 q2208 lxd_X4_hush lvt_X4_hush q2209 ladx_X4_hush (by decide) (Nat.le_of_ble_eq_true rfl) rfl ?_
  exact lwEq (pc := 972) (tgt := 1446) dL_law_972 (by decide) K
theorem lw_k23 (hB : SB b') (I : LI b' b x m) (hi : i + 5 < mLen b' 54) : ∃ b2 x2 m2, LI b' b2 x2 m2 ∧ Ans b b2 ∧ ∀ (st0 : Mem) (fin : Int32 × Mem), G lwD st0 trI fin 1446 (lwE i) [] (UU b' b2 x2 m2) → G lwD st0 trI fin 977 (lwE i) [] (UU b' b x m) := by
  obtain ⟨⟨H, C, h, c, K0, R⟩, hN⟩ := I
  have hb := R.hb
  obtain ⟨r, t, b2, x2, m2, e1, e2, rfl, D, An⟩ := two_at (b' := b') (A := fX1_coalitions (some 64) (mI b' 54 (i + 1)) (mkX b x)) (B := fun n s => fX4_coalitions (some 106) (mI b' 54 (i + 1)) (mkM b' n s m)) (P := fun r t b2 x2 m2 => r = t ∧ (∃ H C h c K, Duo b2 x2 m2 H C h c K) ∧ Ans b b2) (fun n s => by
    obtain ⟨r, x', m', e1, e2, D⟩ := C_coalitions (b' := b') (n := n) (s := s) R (mI b' 54 (i + 1))
    exact ⟨r, r, b, x', m', e1, e2, rfl, ⟨_, _, _, _, _, D⟩, Ans.refl b⟩)
  have c1 := sX1_coalitions e1
  have c2 := sX4_coalitions e2
  have hb2 : 131 ≤ mNx b2 := Nat.le_trans hb An.1
  have hN2 : NoM b2 := NoM.next (x := x) (x2 := x2) hN hb c1.1
  refine ⟨b2, x2, m2, ⟨D, hN2⟩, An, fun st0 fin K => ?_⟩
  refine r_aload_n (pc := 977) dL_law_977 3 rfl rfl ?_
  refine lwArg (pc := 978) 1 (p4 := 0) (p0 := 4) rfl rfl hB hN hb dL_law_978 dL_law_979 dL_law_981 dL_law_982 dL_law_983 (by decide) (by omega) ?_
  refine lwX (pc := 984) (as := [vi (mI b' 54 (i + 1))]) (rest := []) hB hb c1 dL_law_984 q1507 lxd_X1_coalitions lvt_X1_coalitions q1508 ladx_X1_coalitions (by decide) (Nat.le_of_ble_eq_true rfl) rfl ?_
  refine r_aload_n (pc := 987) dL_law_987 2 rfl rfl ?_
  refine lwArg (pc := 988) 1 (p4 := 0) (p0 := 4) rfl rfl hB hN2 hb2 dL_law_988 dL_law_989 dL_law_991 dL_law_992 dL_law_993 (by decide) (by omega) ?_
  refine lwM (pc := 994) (as := [vi (mI b' 54 (i + 1))]) (rest := [vi r]) hB hN2 hb2 c2 dL_law_994 q2212 lxd_X4_coalitions lvt_X4_coalitions q2213 ladx_X4_coalitions (by decide) (Nat.le_of_ble_eq_true rfl) rfl ?_
  exact lwEq (pc := 997) (tgt := 1446) dL_law_997 (by decide) K
theorem lw_k24 (hB : SB b') (I : LI b' b x m) (hi : i + 5 < mLen b' 54) : ∃ b2 x2 m2, LI b' b2 x2 m2 ∧ Ans b b2 ∧ ∀ (st0 : Mem) (fin : Int32 × Mem), G lwD st0 trI fin 1446 (lwE i) [] (UU b' b2 x2 m2) → G lwD st0 trI fin 1002 (lwE i) [] (UU b' b x m) := by
  obtain ⟨⟨H, C, h, c, K0, R⟩, hN⟩ := I
  have hb := R.hb
  obtain ⟨r, t, b2, x2, m2, e1, e2, rfl, D, An⟩ := two_at (b' := b') (A := fX1_worth (some 64) (mkX b x)) (B := fun n s => fX4_worth (some 106) (mkM b' n s m)) (P := fun r t b2 x2 m2 => r = t ∧ (∃ H C h c K, Duo b2 x2 m2 H C h c K) ∧ Ans b b2) (fun n s => by
    obtain ⟨r, x', m', e1, e2, D⟩ := C_worth (b' := b') (n := n) (s := s) R
    exact ⟨r, r, b, x', m', e1, e2, rfl, ⟨_, _, _, _, _, D⟩, Ans.refl b⟩)
  have c1 := sX1_worth e1
  have c2 := sX4_worth e2
  have hb2 : 131 ≤ mNx b2 := Nat.le_trans hb An.1
  have hN2 : NoM b2 := NoM.next (x := x) (x2 := x2) hN hb c1.1
  refine ⟨b2, x2, m2, ⟨D, hN2⟩, An, fun st0 fin K => ?_⟩
  refine r_aload_n (pc := 1002) dL_law_1002 3 rfl rfl ?_
  refine lwX (pc := 1003) (as := []) (rest := []) hB hb c1 dL_law_1003 q1515 lxd_X1_worth lvt_X1_worth q1516 ladx_X1_worth (by decide) (Nat.le_of_ble_eq_true rfl) rfl ?_
  refine r_aload_n (pc := 1006) dL_law_1006 2 rfl rfl ?_
  refine lwM (pc := 1007) (as := []) (rest := [vi r]) hB hN2 hb2 c2 dL_law_1007 q2216 lxd_X4_worth lvt_X4_worth q2217 ladx_X4_worth (by decide) (Nat.le_of_ble_eq_true rfl) rfl ?_
  exact lwEq (pc := 1010) (tgt := 1446) dL_law_1010 (by decide) K
theorem lw_k25 (hB : SB b') (I : LI b' b x m) (hi : i + 5 < mLen b' 54) : ∃ b2 x2 m2, LI b' b2 x2 m2 ∧ Ans b b2 ∧ ∀ (st0 : Mem) (fin : Int32 × Mem), G lwD st0 trI fin 1446 (lwE i) [] (UU b' b2 x2 m2) → G lwD st0 trI fin 1015 (lwE i) [] (UU b' b x m) := by
  obtain ⟨⟨H, C, h, c, K0, R⟩, hN⟩ := I
  have hb := R.hb
  obtain ⟨k, t, b2, x2, m2, e1, e2, hk, ho, D, An⟩ := two_at (b' := b') (A := fX0_worthOf (some 64) (mI b' 54 (i + 1)) (mI b' 54 (i + 2)) (some 130) (mkX b x)) (B := fun n s => fX4_worthOf (some 106) (mI b' 54 (i + 1)) (mI b' 54 (i + 2)) (mkM b' n s m)) (P := fun k t b2 x2 m2 => m2.thrown = k ∧ (k = 0 → x2.out 0 = t.toInt64) ∧ (∃ H C h c K, Duo b2 x2 m2 H C h c K) ∧ Ans b b2) (fun n s => by
    obtain ⟨k, r, b2, x', m', e1, e2, h1, h2, D, An⟩ := C_worthOf (b' := b') (n := n) (s := s) R (mI b' 54 (i + 1)) (mI b' 54 (i + 2))
    exact ⟨k, r, b2, x', m', e1, e2, h1, h2, ⟨_, _, _, _, _, D⟩, An⟩)
  have c1 := sX0_worthOf e1
  have c2 := sX4_worthOf e2
  have c3 := sX4_thrown (lw_thrown (b' := b') (n := mNx b2 - 130) (s := mNs b2) (m := m2))
  rw [hk] at c3
  have hb2 : 131 ≤ mNx b2 := Nat.le_trans hb An.1
  have hN2 : NoM b2 := NoM.next (x := x) (x2 := x2) hN hb c1.1
  refine ⟨b2, x2, m2, ⟨D, hN2⟩, An, fun st0 fin K => ?_⟩
  refine r_aload_n (pc := 1015) dL_law_1015 3 rfl rfl ?_
  refine lwArg (pc := 1016) 1 (p4 := 0) (p0 := 4) rfl rfl hB hN hb dL_law_1016 dL_law_1017 dL_law_1019 dL_law_1020 dL_law_1021 (by decide) (by omega) ?_
  refine lwArg (pc := 1022) 2 (p4 := 0) (p0 := 4) rfl rfl hB hN hb dL_law_1022 dL_law_1023 dL_law_1025 dL_law_1026 dL_law_1027 (by decide) (by omega) ?_
  refine r_aload_n (pc := 1028) dL_law_1028 1 rfl rfl ?_
  refine lwS (pc := 1029) (as := [vr (some 64), vi (mI b' 54 (i + 1)), vi (mI b' 54 (i + 2)), vr (some 130)]) (rest := []) hB hb c1 dL_law_1029 q1662 q1663 q84 ad_X0_worthOf (by decide) (Nat.le_of_ble_eq_true rfl) rfl ?_
  refine r_istore (pc := 1032) (env' := (5, vi k) :: lwE i) dL_law_1032 (by decide) rfl ?_
  refine r_aload_n (pc := 1034) dL_law_1034 3 rfl rfl ?_
  refine lwArg (pc := 1035) 1 (p4 := 1) (p0 := 5) rfl rfl hB hN2 hb2 dL_law_1035 dL_law_1036 dL_law_1038 dL_law_1039 dL_law_1040 (by decide) (by omega) ?_
  refine lwArg (pc := 1041) 2 (p4 := 1) (p0 := 5) rfl rfl hB hN2 hb2 dL_law_1041 dL_law_1042 dL_law_1044 dL_law_1045 dL_law_1046 (by decide) (by omega) ?_
  refine lwM (pc := 1047) (as := [vi (mI b' 54 (i + 1)), vi (mI b' 54 (i + 2))]) (rest := []) hB hN2 hb2 c2 dL_law_1047 q2223 lxd_X4_worthOf lvt_X4_worthOf q2224 ladx_X4_worthOf (by decide) (Nat.le_of_ble_eq_true rfl) rfl ?_
  refine r_istore (pc := 1050) (env' := (6, vi t) :: (5, vi k) :: lwE i) dL_law_1050 (by decide) rfl ?_
  refine r_aload_n (pc := 1052) dL_law_1052 4 rfl rfl ?_
  refine lwM (pc := 1053) (as := []) (rest := []) hB hN2 hb2 c3 dL_law_1053 q1672 lxd_X4_thrown lvt_X4_thrown q1673 ladx_X4_thrown (by decide) (Nat.le_of_ble_eq_true rfl) rfl ?_
  refine r_iload (pc := 1056) dL_law_1056 1 rfl ?_
  refine lwEq (pc := 1058) (tgt := 1063) dL_law_1058 (by decide) ?_
  have K9 : G lwD st0 trI fin 1080 ((6, vi t) :: (5, vi k) :: lwE i) [] (UU b' b2 x2 m2) := r_goto (pc := 1080) (tgt := 1446) dL_law_1080 (by decide) (r_sub (env' := lwE i) [2, 3, 4, 5, 6] rfl K)
  refine r_iload (pc := 1063) dL_law_1063 1 rfl ?_
  refine r_if_ne (pc := 1065) (tgt := 1080) (A := some fin) (B := some fin) dL_law_1065 (by decide) (ite_self _) (fun _ _ => K9) (fun hk0 _ => ?_)
  refine r_aload_n (pc := 1068) dL_law_1068 3 rfl rfl ?_
  refine r_iconst (pc := 1069) (v := 0) dL_law_1069 (by decide) ?_
  refine r_laload (pc := 1070) (F := fun _ => some fin) dL_law_1070 (by rw [outA hb2]; rfl) (fun z hz _ => ?_)
  cases (outA hb2).symm.trans hz
  refine r_iload (pc := 1071) dL_law_1071 0 rfl ?_
  refine r_i2l (pc := 1073) dL_law_1073 ?_
  exact r_lcmp_eq (pc := 1074) (tgt := 1080) (A := some fin) (B := none) dL_law_1074 dL_law_1075 (by decide) (if_pos (ho (Decidable.of_not_not hk0))) (fun _ _ => K9) (fun hne _ => absurd (ho (Decidable.of_not_not hk0)) hne)
theorem lw_k26 (hB : SB b') (I : LI b' b x m) (hi : i + 5 < mLen b' 54) : ∃ b2 x2 m2, LI b' b2 x2 m2 ∧ Ans b b2 ∧ ∀ (st0 : Mem) (fin : Int32 × Mem), G lwD st0 trI fin 1446 (lwE i) [] (UU b' b2 x2 m2) → G lwD st0 trI fin 1083 (lwE i) [] (UU b' b x m) := by
  obtain ⟨⟨H, C, h, c, K0, R⟩, hN⟩ := I
  have hb := R.hb
  obtain ⟨r, t, b2, x2, m2, e1, e2, rfl, D, An⟩ := two_at (b' := b') (A := fX1_sides (some 64) (mkX b x)) (B := fun n s => fX4_sides (some 106) (mkM b' n s m)) (P := fun r t b2 x2 m2 => r = t ∧ (∃ H C h c K, Duo b2 x2 m2 H C h c K) ∧ Ans b b2) (fun n s => by
    obtain ⟨r, x', m', e1, e2, D⟩ := C_sides (b' := b') (n := n) (s := s) R
    exact ⟨r, r, b, x', m', e1, e2, rfl, ⟨_, _, _, _, _, D⟩, Ans.refl b⟩)
  have c1 := sX1_sides e1
  have c2 := sX4_sides e2
  have hb2 : 131 ≤ mNx b2 := Nat.le_trans hb An.1
  have hN2 : NoM b2 := NoM.next (x := x) (x2 := x2) hN hb c1.1
  refine ⟨b2, x2, m2, ⟨D, hN2⟩, An, fun st0 fin K => ?_⟩
  refine r_aload_n (pc := 1083) dL_law_1083 3 rfl rfl ?_
  refine lwX (pc := 1084) (as := []) (rest := []) hB hb c1 dL_law_1084 q1522 lxd_X1_sides lvt_X1_sides q1523 ladx_X1_sides (by decide) (Nat.le_of_ble_eq_true rfl) rfl ?_
  refine r_aload_n (pc := 1087) dL_law_1087 2 rfl rfl ?_
  refine lwM (pc := 1088) (as := []) (rest := [vi r]) hB hN2 hb2 c2 dL_law_1088 q2227 lxd_X4_sides lvt_X4_sides q2228 ladx_X4_sides (by decide) (Nat.le_of_ble_eq_true rfl) rfl ?_
  exact lwEq (pc := 1091) (tgt := 1446) dL_law_1091 (by decide) K
theorem lw_k27 (hB : SB b') (I : LI b' b x m) (hi : i + 5 < mLen b' 54) : ∃ b2 x2 m2, LI b' b2 x2 m2 ∧ Ans b b2 ∧ ∀ (st0 : Mem) (fin : Int32 × Mem), G lwD st0 trI fin 1446 (lwE i) [] (UU b' b2 x2 m2) → G lwD st0 trI fin 1096 (lwE i) [] (UU b' b x m) := by
  obtain ⟨⟨H, C, h, c, K0, R⟩, hN⟩ := I
  have hb := R.hb
  obtain ⟨r, t, b2, x2, m2, e1, e2, rfl, D, An⟩ := two_at (b' := b') (A := fX1_side (some 64) (mI b' 54 (i + 1)) (mkX b x)) (B := fun n s => fX4_side (some 106) (mI b' 54 (i + 1)) (mkM b' n s m)) (P := fun r t b2 x2 m2 => r = t ∧ (∃ H C h c K, Duo b2 x2 m2 H C h c K) ∧ Ans b b2) (fun n s => by
    obtain ⟨r, e1, e2⟩ := C_side (b' := b') (n := n) (s := s) R (mI b' 54 (i + 1))
    exact ⟨r, r, b, x, m.th 0, e1, e2, rfl, ⟨_, _, _, _, _, R.th⟩, Ans.refl b⟩)
  have c1 := sX1_side e1
  have c2 := sX4_side e2
  have hb2 : 131 ≤ mNx b2 := Nat.le_trans hb An.1
  have hN2 : NoM b2 := NoM.next (x := x) (x2 := x2) hN hb c1.1
  refine ⟨b2, x2, m2, ⟨D, hN2⟩, An, fun st0 fin K => ?_⟩
  refine r_aload_n (pc := 1096) dL_law_1096 3 rfl rfl ?_
  refine lwArg (pc := 1097) 1 (p4 := 0) (p0 := 4) rfl rfl hB hN hb dL_law_1097 dL_law_1098 dL_law_1100 dL_law_1101 dL_law_1102 (by decide) (by omega) ?_
  refine lwX (pc := 1103) (as := [vi (mI b' 54 (i + 1))]) (rest := []) hB hb c1 dL_law_1103 q1527 lxd_X1_side lvt_X1_side q1528 ladx_X1_side (by decide) (Nat.le_of_ble_eq_true rfl) rfl ?_
  refine r_aload_n (pc := 1106) dL_law_1106 2 rfl rfl ?_
  refine lwArg (pc := 1107) 1 (p4 := 0) (p0 := 4) rfl rfl hB hN2 hb2 dL_law_1107 dL_law_1108 dL_law_1110 dL_law_1111 dL_law_1112 (by decide) (by omega) ?_
  refine lwM (pc := 1113) (as := [vi (mI b' 54 (i + 1))]) (rest := [vi r]) hB hN2 hb2 c2 dL_law_1113 q2231 lxd_X4_side lvt_X4_side q2232 ladx_X4_side (by decide) (Nat.le_of_ble_eq_true rfl) rfl ?_
  exact lwEq (pc := 1116) (tgt := 1446) dL_law_1116 (by decide) K
theorem lw_k28 (hB : SB b') (I : LI b' b x m) (hi : i + 5 < mLen b' 54) : ∃ b2 x2 m2, LI b' b2 x2 m2 ∧ Ans b b2 ∧ ∀ (st0 : Mem) (fin : Int32 × Mem), G lwD st0 trI fin 1446 (lwE i) [] (UU b' b2 x2 m2) → G lwD st0 trI fin 1121 (lwE i) [] (UU b' b x m) := by
  obtain ⟨⟨H, C, h, c, K0, R⟩, hN⟩ := I
  have hb := R.hb
  obtain ⟨r, t, b2, x2, m2, e1, e2, rfl, D, An⟩ := two_at (b' := b') (A := fX1_began (some 64) (mI b' 54 (i + 1)) (mkX b x)) (B := fun n s => fX4_began (some 106) (mI b' 54 (i + 1)) (mkM b' n s m)) (P := fun r t b2 x2 m2 => r = t ∧ (∃ H C h c K, Duo b2 x2 m2 H C h c K) ∧ Ans b b2) (fun n s => by
    obtain ⟨r, x', m', e1, e2, D⟩ := C_began (b' := b') (n := n) (s := s) R (mI b' 54 (i + 1))
    exact ⟨r, r, b, x', m', e1, e2, rfl, ⟨_, _, _, _, _, D⟩, Ans.refl b⟩)
  have c1 := sX1_began e1
  have c2 := sX4_began e2
  have hb2 : 131 ≤ mNx b2 := Nat.le_trans hb An.1
  have hN2 : NoM b2 := NoM.next (x := x) (x2 := x2) hN hb c1.1
  refine ⟨b2, x2, m2, ⟨D, hN2⟩, An, fun st0 fin K => ?_⟩
  refine r_aload_n (pc := 1121) dL_law_1121 3 rfl rfl ?_
  refine lwArg (pc := 1122) 1 (p4 := 0) (p0 := 4) rfl rfl hB hN hb dL_law_1122 dL_law_1123 dL_law_1125 dL_law_1126 dL_law_1127 (by decide) (by omega) ?_
  refine lwX (pc := 1128) (as := [vi (mI b' 54 (i + 1))]) (rest := []) hB hb c1 dL_law_1128 q1531 lxd_X1_began lvt_X1_began q1532 ladx_X1_began (by decide) (Nat.le_of_ble_eq_true rfl) rfl ?_
  refine r_aload_n (pc := 1131) dL_law_1131 2 rfl rfl ?_
  refine lwArg (pc := 1132) 1 (p4 := 0) (p0 := 4) rfl rfl hB hN2 hb2 dL_law_1132 dL_law_1133 dL_law_1135 dL_law_1136 dL_law_1137 (by decide) (by omega) ?_
  refine lwM (pc := 1138) (as := [vi (mI b' 54 (i + 1))]) (rest := [vi r]) hB hN2 hb2 c2 dL_law_1138 q2235 lxd_X4_began lvt_X4_began q2236 ladx_X4_began (by decide) (Nat.le_of_ble_eq_true rfl) rfl ?_
  exact lwEq (pc := 1141) (tgt := 1446) dL_law_1141 (by decide) K
theorem lw_k29 (hB : SB b') (I : LI b' b x m) (hi : i + 5 < mLen b' 54) : ∃ b2 x2 m2, LI b' b2 x2 m2 ∧ Ans b b2 ∧ ∀ (st0 : Mem) (fin : Int32 × Mem), G lwD st0 trI fin 1446 (lwE i) [] (UU b' b2 x2 m2) → G lwD st0 trI fin 1146 (lwE i) [] (UU b' b x m) := by
  obtain ⟨⟨H, C, h, c, K0, R⟩, hN⟩ := I
  have hb := R.hb
  obtain ⟨r, t, b2, x2, m2, e1, e2, rfl, D, An⟩ := two_at (b' := b') (A := fX1_beganAt (some 64) (mI b' 54 (i + 1)) (mkX b x)) (B := fun n s => fX4_beganAt (some 106) (mI b' 54 (i + 1)) (mkM b' n s m)) (P := fun r t b2 x2 m2 => r = t ∧ (∃ H C h c K, Duo b2 x2 m2 H C h c K) ∧ Ans b b2) (fun n s => by
    obtain ⟨r, e1, e2⟩ := C_beganAt (b' := b') (n := n) (s := s) R (mI b' 54 (i + 1))
    exact ⟨r, r, b, x, m.th 0, e1, e2, rfl, ⟨_, _, _, _, _, R.th⟩, Ans.refl b⟩)
  have c1 := sX1_beganAt e1
  have c2 := sX4_beganAt e2
  have hb2 : 131 ≤ mNx b2 := Nat.le_trans hb An.1
  have hN2 : NoM b2 := NoM.next (x := x) (x2 := x2) hN hb c1.1
  refine ⟨b2, x2, m2, ⟨D, hN2⟩, An, fun st0 fin K => ?_⟩
  refine r_aload_n (pc := 1146) dL_law_1146 3 rfl rfl ?_
  refine lwArg (pc := 1147) 1 (p4 := 0) (p0 := 4) rfl rfl hB hN hb dL_law_1147 dL_law_1148 dL_law_1150 dL_law_1151 dL_law_1152 (by decide) (by omega) ?_
  refine lwX (pc := 1153) (as := [vi (mI b' 54 (i + 1))]) (rest := []) hB hb c1 dL_law_1153 q1541 lxd_X1_beganAt lvt_X1_beganAt q1542 ladx_X1_beganAt (by decide) (Nat.le_of_ble_eq_true rfl) rfl ?_
  refine r_aload_n (pc := 1156) dL_law_1156 2 rfl rfl ?_
  refine lwArg (pc := 1157) 1 (p4 := 0) (p0 := 4) rfl rfl hB hN2 hb2 dL_law_1157 dL_law_1158 dL_law_1160 dL_law_1161 dL_law_1162 (by decide) (by omega) ?_
  refine lwM (pc := 1163) (as := [vi (mI b' 54 (i + 1))]) (rest := [vi r]) hB hN2 hb2 c2 dL_law_1163 q2243 lxd_X4_beganAt lvt_X4_beganAt q2244 ladx_X4_beganAt (by decide) (Nat.le_of_ble_eq_true rfl) rfl ?_
  exact lwEq (pc := 1166) (tgt := 1446) dL_law_1166 (by decide) K
theorem lw_k30 (hB : SB b') (I : LI b' b x m) (hi : i + 5 < mLen b' 54) : ∃ b2 x2 m2, LI b' b2 x2 m2 ∧ Ans b b2 ∧ ∀ (st0 : Mem) (fin : Int32 × Mem), G lwD st0 trI fin 1446 (lwE i) [] (UU b' b2 x2 m2) → G lwD st0 trI fin 1171 (lwE i) [] (UU b' b x m) := by
  obtain ⟨⟨H, C, h, c, K0, R⟩, hN⟩ := I
  have hb := R.hb
  obtain ⟨r, t, b2, x2, m2, e1, e2, rfl, D, An⟩ := two_at (b' := b') (A := fX1_parts (some 64) (mI b' 54 (i + 1)) (mI b' 54 (i + 2)) (mkX b x)) (B := fun n s => fX4_parts (some 106) (mI b' 54 (i + 1)) (mI b' 54 (i + 2)) (mkM b' n s m)) (P := fun r t b2 x2 m2 => r = t ∧ (∃ H C h c K, Duo b2 x2 m2 H C h c K) ∧ Ans b b2) (fun n s => by
    obtain ⟨r, x', m', e1, e2, D⟩ := C_parts (b' := b') (n := n) (s := s) R (mI b' 54 (i + 1)) (mI b' 54 (i + 2))
    exact ⟨r, r, b, x', m', e1, e2, rfl, ⟨_, _, _, _, _, D⟩, Ans.refl b⟩)
  have c1 := sX1_parts e1
  have c2 := sX4_parts e2
  have hb2 : 131 ≤ mNx b2 := Nat.le_trans hb An.1
  have hN2 : NoM b2 := NoM.next (x := x) (x2 := x2) hN hb c1.1
  refine ⟨b2, x2, m2, ⟨D, hN2⟩, An, fun st0 fin K => ?_⟩
  refine r_aload_n (pc := 1171) dL_law_1171 3 rfl rfl ?_
  refine lwArg (pc := 1172) 1 (p4 := 0) (p0 := 4) rfl rfl hB hN hb dL_law_1172 dL_law_1173 dL_law_1175 dL_law_1176 dL_law_1177 (by decide) (by omega) ?_
  refine lwArg (pc := 1178) 2 (p4 := 0) (p0 := 4) rfl rfl hB hN hb dL_law_1178 dL_law_1179 dL_law_1181 dL_law_1182 dL_law_1183 (by decide) (by omega) ?_
  refine lwX (pc := 1184) (as := [vi (mI b' 54 (i + 1)), vi (mI b' 54 (i + 2))]) (rest := []) hB hb c1 dL_law_1184 q1545 lxd_X1_parts lvt_X1_parts q1546 ladx_X1_parts (by decide) (Nat.le_of_ble_eq_true rfl) rfl ?_
  refine r_aload_n (pc := 1187) dL_law_1187 2 rfl rfl ?_
  refine lwArg (pc := 1188) 1 (p4 := 0) (p0 := 4) rfl rfl hB hN2 hb2 dL_law_1188 dL_law_1189 dL_law_1191 dL_law_1192 dL_law_1193 (by decide) (by omega) ?_
  refine lwArg (pc := 1194) 2 (p4 := 0) (p0 := 4) rfl rfl hB hN2 hb2 dL_law_1194 dL_law_1195 dL_law_1197 dL_law_1198 dL_law_1199 (by decide) (by omega) ?_
  refine lwM (pc := 1200) (as := [vi (mI b' 54 (i + 1)), vi (mI b' 54 (i + 2))]) (rest := [vi r]) hB hN2 hb2 c2 dL_law_1200 q2247 lxd_X4_parts lvt_X4_parts q2248 ladx_X4_parts (by decide) (Nat.le_of_ble_eq_true rfl) rfl ?_
  exact lwEq (pc := 1203) (tgt := 1446) dL_law_1203 (by decide) K
theorem lw_k31 (hB : SB b') (I : LI b' b x m) (hi : i + 5 < mLen b' 54) : ∃ b2 x2 m2, LI b' b2 x2 m2 ∧ Ans b b2 ∧ ∀ (st0 : Mem) (fin : Int32 × Mem), G lwD st0 trI fin 1446 (lwE i) [] (UU b' b2 x2 m2) → G lwD st0 trI fin 1208 (lwE i) [] (UU b' b x m) := by
  obtain ⟨⟨H, C, h, c, K0, R⟩, hN⟩ := I
  have hb := R.hb
  obtain ⟨r, t, b2, x2, m2, e1, e2, rfl, D, An⟩ := two_at (b' := b') (A := fX1_exchanged (some 64) (mkX b x)) (B := fun n s => fX4_exchanged (some 106) (mkM b' n s m)) (P := fun r t b2 x2 m2 => r = t ∧ (∃ H C h c K, Duo b2 x2 m2 H C h c K) ∧ Ans b b2) (fun n s => by
    obtain ⟨r, b2, x', m', e1, e2, D, An⟩ := C_exchanged (b' := b') (n := n) (s := s) R
    exact ⟨r, r, b2, x', m', e1, e2, rfl, ⟨_, _, _, _, _, D⟩, An⟩)
  have c1 := sX1_exchanged e1
  have c2 := sX4_exchanged e2
  have hb2 : 131 ≤ mNx b2 := Nat.le_trans hb An.1
  have hN2 : NoM b2 := NoM.next (x := x) (x2 := x2) hN hb c1.1
  refine ⟨b2, x2, m2, ⟨D, hN2⟩, An, fun st0 fin K => ?_⟩
  refine r_aload_n (pc := 1208) dL_law_1208 3 rfl rfl ?_
  refine lwX (pc := 1209) (as := []) (rest := []) hB hb c1 dL_law_1209 q1549 lxd_X1_exchanged lvt_X1_exchanged q1550 ladx_X1_exchanged (by decide) (Nat.le_of_ble_eq_true rfl) rfl ?_
  refine r_aload_n (pc := 1212) dL_law_1212 2 rfl rfl ?_
  refine lwM (pc := 1213) (as := []) (rest := [vi r]) hB hN2 hb2 c2 dL_law_1213 q2251 lxd_X4_exchanged lvt_X4_exchanged q2252 ladx_X4_exchanged (by decide) (Nat.le_of_ble_eq_true rfl) rfl ?_
  exact lwEq (pc := 1216) (tgt := 1446) dL_law_1216 (by decide) K
theorem lw_k32 (hB : SB b') (I : LI b' b x m) (hi : i + 5 < mLen b' 54) : ∃ b2 x2 m2, LI b' b2 x2 m2 ∧ Ans b b2 ∧ ∀ (st0 : Mem) (fin : Int32 × Mem), G lwD st0 trI fin 1446 (lwE i) [] (UU b' b2 x2 m2) → G lwD st0 trI fin 1221 (lwE i) [] (UU b' b x m) := by
  obtain ⟨⟨H, C, h, c, K0, R⟩, hN⟩ := I
  have hb := R.hb
  obtain ⟨r, t, b2, x2, m2, e1, e2, rfl, D, An⟩ := two_at (b' := b') (A := fX1_exchange (some 64) (mI b' 54 (i + 1)) (mI b' 54 (i + 2)) (mkX b x)) (B := fun n s => fX4_exchange (some 106) (mI b' 54 (i + 1)) (mI b' 54 (i + 2)) (mkM b' n s m)) (P := fun r t b2 x2 m2 => r = t ∧ (∃ H C h c K, Duo b2 x2 m2 H C h c K) ∧ Ans b b2) (fun n s => by
    obtain ⟨r, b2, x', m', H', h', e1, e2, D, An⟩ := C_exchange (b' := b') (n := n) (s := s) R (mI b' 54 (i + 1)) (mI b' 54 (i + 2))
    exact ⟨r, r, b2, x', m', e1, e2, rfl, ⟨_, _, _, _, _, D⟩, An⟩)
  have c1 := sX1_exchange e1
  have c2 := sX4_exchange e2
  have hb2 : 131 ≤ mNx b2 := Nat.le_trans hb An.1
  have hN2 : NoM b2 := NoM.next (x := x) (x2 := x2) hN hb c1.1
  refine ⟨b2, x2, m2, ⟨D, hN2⟩, An, fun st0 fin K => ?_⟩
  refine r_aload_n (pc := 1221) dL_law_1221 3 rfl rfl ?_
  refine lwArg (pc := 1222) 1 (p4 := 0) (p0 := 4) rfl rfl hB hN hb dL_law_1222 dL_law_1223 dL_law_1225 dL_law_1226 dL_law_1227 (by decide) (by omega) ?_
  refine lwArg (pc := 1228) 2 (p4 := 0) (p0 := 4) rfl rfl hB hN hb dL_law_1228 dL_law_1229 dL_law_1231 dL_law_1232 dL_law_1233 (by decide) (by omega) ?_
  refine lwX (pc := 1234) (as := [vi (mI b' 54 (i + 1)), vi (mI b' 54 (i + 2))]) (rest := []) hB hb c1 dL_law_1234 q1565 lxd_X1_exchange lvt_X1_exchange q1566 ladx_X1_exchange (by decide) (Nat.le_of_ble_eq_true rfl) rfl ?_
  refine r_aload_n (pc := 1237) dL_law_1237 2 rfl rfl ?_
  refine lwArg (pc := 1238) 1 (p4 := 0) (p0 := 4) rfl rfl hB hN2 hb2 dL_law_1238 dL_law_1239 dL_law_1241 dL_law_1242 dL_law_1243 (by decide) (by omega) ?_
  refine lwArg (pc := 1244) 2 (p4 := 0) (p0 := 4) rfl rfl hB hN2 hb2 dL_law_1244 dL_law_1245 dL_law_1247 dL_law_1248 dL_law_1249 (by decide) (by omega) ?_
  refine lwM (pc := 1250) (as := [vi (mI b' 54 (i + 1)), vi (mI b' 54 (i + 2))]) (rest := [vi r]) hB hN2 hb2 c2 dL_law_1250 q2263 lxd_X4_exchange lvt_X4_exchange q2264 ladx_X4_exchange (by decide) (Nat.le_of_ble_eq_true rfl) rfl ?_
  exact lwEq (pc := 1253) (tgt := 1446) dL_law_1253 (by decide) K
theorem lw_k33 (hB : SB b') (I : LI b' b x m) (hi : i + 5 < mLen b' 54) : ∃ b2 x2 m2, LI b' b2 x2 m2 ∧ Ans b b2 ∧ ∀ (st0 : Mem) (fin : Int32 × Mem), G lwD st0 trI fin 1446 (lwE i) [] (UU b' b2 x2 m2) → G lwD st0 trI fin 1258 (lwE i) [] (UU b' b x m) := by
  obtain ⟨⟨H, C, h, c, K0, R⟩, hN⟩ := I
  have hb := R.hb
  obtain ⟨r, t, b2, x2, m2, e1, e2, rfl, D, An⟩ := two_at (b' := b') (A := fX1_starts (some 64) (mI b' 54 (i + 1)) (mkX b x)) (B := fun n s => fX4_starts (some 106) (mI b' 54 (i + 1)) (mkM b' n s m)) (P := fun r t b2 x2 m2 => r = t ∧ (∃ H C h c K, Duo b2 x2 m2 H C h c K) ∧ Ans b b2) (fun n s => by
    obtain ⟨r, x', m', e1, e2, D⟩ := C_starts (b' := b') (n := n) (s := s) R (mI b' 54 (i + 1))
    exact ⟨r, r, b, x', m', e1, e2, rfl, ⟨_, _, _, _, _, D⟩, Ans.refl b⟩)
  have c1 := sX1_starts e1
  have c2 := sX4_starts e2
  have hb2 : 131 ≤ mNx b2 := Nat.le_trans hb An.1
  have hN2 : NoM b2 := NoM.next (x := x) (x2 := x2) hN hb c1.1
  refine ⟨b2, x2, m2, ⟨D, hN2⟩, An, fun st0 fin K => ?_⟩
  refine r_aload_n (pc := 1258) dL_law_1258 3 rfl rfl ?_
  refine lwArg (pc := 1259) 1 (p4 := 0) (p0 := 4) rfl rfl hB hN hb dL_law_1259 dL_law_1260 dL_law_1262 dL_law_1263 dL_law_1264 (by decide) (by omega) ?_
  refine lwX (pc := 1265) (as := [vi (mI b' 54 (i + 1))]) (rest := []) hB hb c1 dL_law_1265 q1569 lxd_X1_starts lvt_X1_starts q1570 ladx_X1_starts (by decide) (Nat.le_of_ble_eq_true rfl) rfl ?_
  refine r_aload_n (pc := 1268) dL_law_1268 2 rfl rfl ?_
  refine lwArg (pc := 1269) 1 (p4 := 0) (p0 := 4) rfl rfl hB hN2 hb2 dL_law_1269 dL_law_1270 dL_law_1272 dL_law_1273 dL_law_1274 (by decide) (by omega) ?_
  refine lwM (pc := 1275) (as := [vi (mI b' 54 (i + 1))]) (rest := [vi r]) hB hN2 hb2 c2 dL_law_1275 q2279 lxd_X4_starts lvt_X4_starts q2280 ladx_X4_starts (by decide) (Nat.le_of_ble_eq_true rfl) rfl ?_
  exact lwEq (pc := 1278) (tgt := 1446) dL_law_1278 (by decide) K
theorem lw_k34 (hB : SB b') (I : LI b' b x m) (hi : i + 5 < mLen b' 54) : ∃ b2 x2 m2, LI b' b2 x2 m2 ∧ Ans b b2 ∧ ∀ (st0 : Mem) (fin : Int32 × Mem), G lwD st0 trI fin 1446 (lwE i) [] (UU b' b2 x2 m2) → G lwD st0 trI fin 1283 (lwE i) [] (UU b' b x m) := by
  obtain ⟨⟨H, C, h, c, K0, R⟩, hN⟩ := I
  have hb := R.hb
  obtain ⟨r, t, b2, x2, m2, e1, e2, rfl, D, An⟩ := two_at (b' := b') (A := fX1_leader (some 64) (mI b' 54 (i + 1)) (mkX b x)) (B := fun n s => fX4_leader (some 106) (mI b' 54 (i + 1)) (mkM b' n s m)) (P := fun r t b2 x2 m2 => r = t ∧ (∃ H C h c K, Duo b2 x2 m2 H C h c K) ∧ Ans b b2) (fun n s => by
    obtain ⟨r, x', m', e1, e2, D⟩ := C_leader (b' := b') (n := n) (s := s) R (mI b' 54 (i + 1))
    exact ⟨r, r, b, x', m', e1, e2, rfl, ⟨_, _, _, _, _, D⟩, Ans.refl b⟩)
  have c1 := sX1_leader e1
  have c2 := sX4_leader e2
  have hb2 : 131 ≤ mNx b2 := Nat.le_trans hb An.1
  have hN2 : NoM b2 := NoM.next (x := x) (x2 := x2) hN hb c1.1
  refine ⟨b2, x2, m2, ⟨D, hN2⟩, An, fun st0 fin K => ?_⟩
  refine r_aload_n (pc := 1283) dL_law_1283 3 rfl rfl ?_
  refine lwArg (pc := 1284) 1 (p4 := 0) (p0 := 4) rfl rfl hB hN hb dL_law_1284 dL_law_1285 dL_law_1287 dL_law_1288 dL_law_1289 (by decide) (by omega) ?_
  refine lwX (pc := 1290) (as := [vi (mI b' 54 (i + 1))]) (rest := []) hB hb c1 dL_law_1290 q1573 lxd_X1_leader lvt_X1_leader q1574 ladx_X1_leader (by decide) (Nat.le_of_ble_eq_true rfl) rfl ?_
  refine r_aload_n (pc := 1293) dL_law_1293 2 rfl rfl ?_
  refine lwArg (pc := 1294) 1 (p4 := 0) (p0 := 4) rfl rfl hB hN2 hb2 dL_law_1294 dL_law_1295 dL_law_1297 dL_law_1298 dL_law_1299 (by decide) (by omega) ?_
  refine lwM (pc := 1300) (as := [vi (mI b' 54 (i + 1))]) (rest := [vi r]) hB hN2 hb2 c2 dL_law_1300 q2283 lxd_X4_leader lvt_X4_leader q2284 ladx_X4_leader (by decide) (Nat.le_of_ble_eq_true rfl) rfl ?_
  exact lwEq (pc := 1303) (tgt := 1446) dL_law_1303 (by decide) K
theorem lw_k35 (hB : SB b') (I : LI b' b x m) (hi : i + 5 < mLen b' 54) : ∃ b2 x2 m2, LI b' b2 x2 m2 ∧ Ans b b2 ∧ ∀ (st0 : Mem) (fin : Int32 × Mem), G lwD st0 trI fin 1446 (lwE i) [] (UU b' b2 x2 m2) → G lwD st0 trI fin 1308 (lwE i) [] (UU b' b x m) := by
  obtain ⟨⟨H, C, h, c, K0, R⟩, hN⟩ := I
  have hb := R.hb
  obtain ⟨r, t, b2, x2, m2, e1, e2, rfl, D, An⟩ := two_at (b' := b') (A := fX1_drawn (some 64) (mI b' 54 (i + 1)) (mI b' 54 (i + 2)) (mkX b x)) (B := fun n s => fX4_drawn (some 106) (mI b' 54 (i + 1)) (mI b' 54 (i + 2)) (mkM b' n s m)) (P := fun r t b2 x2 m2 => r = t ∧ (∃ H C h c K, Duo b2 x2 m2 H C h c K) ∧ Ans b b2) (fun n s => by
    obtain ⟨r, x', m', e1, e2, D⟩ := C_drawn (b' := b') (n := n) (s := s) R (mI b' 54 (i + 1)) (mI b' 54 (i + 2))
    exact ⟨r, r, b, x', m', e1, e2, rfl, ⟨_, _, _, _, _, D⟩, Ans.refl b⟩)
  have c1 := sX1_drawn e1
  have c2 := sX4_drawn e2
  have hb2 : 131 ≤ mNx b2 := Nat.le_trans hb An.1
  have hN2 : NoM b2 := NoM.next (x := x) (x2 := x2) hN hb c1.1
  refine ⟨b2, x2, m2, ⟨D, hN2⟩, An, fun st0 fin K => ?_⟩
  refine r_aload_n (pc := 1308) dL_law_1308 3 rfl rfl ?_
  refine lwArg (pc := 1309) 1 (p4 := 0) (p0 := 4) rfl rfl hB hN hb dL_law_1309 dL_law_1310 dL_law_1312 dL_law_1313 dL_law_1314 (by decide) (by omega) ?_
  refine lwArg (pc := 1315) 2 (p4 := 0) (p0 := 4) rfl rfl hB hN hb dL_law_1315 dL_law_1316 dL_law_1318 dL_law_1319 dL_law_1320 (by decide) (by omega) ?_
  refine lwX (pc := 1321) (as := [vi (mI b' 54 (i + 1)), vi (mI b' 54 (i + 2))]) (rest := []) hB hb c1 dL_law_1321 q1578 lxd_X1_drawn lvt_X1_drawn q1579 ladx_X1_drawn (by decide) (Nat.le_of_ble_eq_true rfl) rfl ?_
  refine r_aload_n (pc := 1324) dL_law_1324 2 rfl rfl ?_
  refine lwArg (pc := 1325) 1 (p4 := 0) (p0 := 4) rfl rfl hB hN2 hb2 dL_law_1325 dL_law_1326 dL_law_1328 dL_law_1329 dL_law_1330 (by decide) (by omega) ?_
  refine lwArg (pc := 1331) 2 (p4 := 0) (p0 := 4) rfl rfl hB hN2 hb2 dL_law_1331 dL_law_1332 dL_law_1334 dL_law_1335 dL_law_1336 (by decide) (by omega) ?_
  refine lwM (pc := 1337) (as := [vi (mI b' 54 (i + 1)), vi (mI b' 54 (i + 2))]) (rest := [vi r]) hB hN2 hb2 c2 dL_law_1337 q2287 lxd_X4_drawn lvt_X4_drawn q2288 ladx_X4_drawn (by decide) (Nat.le_of_ble_eq_true rfl) rfl ?_
  exact lwEq (pc := 1340) (tgt := 1446) dL_law_1340 (by decide) K
theorem lw_k36 (hB : SB b') (I : LI b' b x m) (hi : i + 5 < mLen b' 54) : ∃ b2 x2 m2, LI b' b2 x2 m2 ∧ Ans b b2 ∧ ∀ (st0 : Mem) (fin : Int32 × Mem), G lwD st0 trI fin 1446 (lwE i) [] (UU b' b2 x2 m2) → G lwD st0 trI fin 1345 (lwE i) [] (UU b' b x m) := by
  obtain ⟨⟨H, C, h, c, K0, R⟩, hN⟩ := I
  have hb := R.hb
  obtain ⟨r, t, b2, x2, m2, e1, e2, rfl, D, An⟩ := two_at (b' := b') (A := fX1_arrange (some 64) (mkX b x)) (B := fun n s => fX4_arrange (some 106) (mkM b' n s m)) (P := fun r t b2 x2 m2 => r = t ∧ (∃ H C h c K, Duo b2 x2 m2 H C h c K) ∧ Ans b b2) (fun n s => by
    obtain ⟨r, b2, x', m', H', h', e1, e2, D, An⟩ := C_arrange (b' := b') (n := n) (s := s) R
    exact ⟨r, r, b2, x', m', e1, e2, rfl, ⟨_, _, _, _, _, D⟩, An⟩)
  have c1 := sX1_arrange e1
  have c2 := sX4_arrange e2
  have hb2 : 131 ≤ mNx b2 := Nat.le_trans hb An.1
  have hN2 : NoM b2 := NoM.next (x := x) (x2 := x2) hN hb c1.1
  refine ⟨b2, x2, m2, ⟨D, hN2⟩, An, fun st0 fin K => ?_⟩
  refine r_aload_n (pc := 1345) dL_law_1345 3 rfl rfl ?_
  refine lwX (pc := 1346) (as := []) (rest := []) hB hb c1 dL_law_1346 q1587 lxd_X1_arrange lvt_X1_arrange q1588 ladx_X1_arrange (by decide) (Nat.le_of_ble_eq_true rfl) rfl ?_
  refine r_aload_n (pc := 1349) dL_law_1349 2 rfl rfl ?_
  refine lwM (pc := 1350) (as := []) (rest := [vi r]) hB hN2 hb2 c2 dL_law_1350 q2267 lxd_X4_arrange lvt_X4_arrange q2268 ladx_X4_arrange (by decide) (Nat.le_of_ble_eq_true rfl) rfl ?_
  exact lwEq (pc := 1353) (tgt := 1446) dL_law_1353 (by decide) K
theorem lw_k37 (hB : SB b') (I : LI b' b x m) (hi : i + 5 < mLen b' 54) : ∃ b2 x2 m2, LI b' b2 x2 m2 ∧ Ans b b2 ∧ ∀ (st0 : Mem) (fin : Int32 × Mem), G lwD st0 trI fin 1446 (lwE i) [] (UU b' b2 x2 m2) → G lwD st0 trI fin 1358 (lwE i) [] (UU b' b x m) := by
  obtain ⟨⟨H, C, h, c, K0, R⟩, hN⟩ := I
  have hb := R.hb
  obtain ⟨r, t, b2, x2, m2, e1, e2, rfl, D, An⟩ := two_at (b' := b') (A := fX1_arranged (some 64) (mkX b x)) (B := fun n s => fX4_arranged (some 106) (mkM b' n s m)) (P := fun r t b2 x2 m2 => r = t ∧ (∃ H C h c K, Duo b2 x2 m2 H C h c K) ∧ Ans b b2) (fun n s => by
    obtain ⟨r, e1, e2⟩ := C_arranged (b' := b') (n := n) (s := s) R
    exact ⟨r, r, b, x, m.th 0, e1, e2, rfl, ⟨_, _, _, _, _, R.th⟩, Ans.refl b⟩)
  have c1 := sX1_arranged e1
  have c2 := sX4_arranged e2
  have hb2 : 131 ≤ mNx b2 := Nat.le_trans hb An.1
  have hN2 : NoM b2 := NoM.next (x := x) (x2 := x2) hN hb c1.1
  refine ⟨b2, x2, m2, ⟨D, hN2⟩, An, fun st0 fin K => ?_⟩
  refine r_aload_n (pc := 1358) dL_law_1358 3 rfl rfl ?_
  refine lwX (pc := 1359) (as := []) (rest := []) hB hb c1 dL_law_1359 q1595 lxd_X1_arranged lvt_X1_arranged q1596 ladx_X1_arranged (by decide) (Nat.le_of_ble_eq_true rfl) rfl ?_
  refine r_aload_n (pc := 1362) dL_law_1362 2 rfl rfl ?_
  refine lwM (pc := 1363) (as := []) (rest := [vi r]) hB hN2 hb2 c2 dL_law_1363 q2275 lxd_X4_arranged lvt_X4_arranged q2276 ladx_X4_arranged (by decide) (Nat.le_of_ble_eq_true rfl) rfl ?_
  exact lwEq (pc := 1366) (tgt := 1446) dL_law_1366 (by decide) K
theorem lw_k38 (hB : SB b') (I : LI b' b x m) (hi : i + 5 < mLen b' 54) : ∃ b2 x2 m2, LI b' b2 x2 m2 ∧ Ans b b2 ∧ ∀ (st0 : Mem) (fin : Int32 × Mem), G lwD st0 trI fin 1446 (lwE i) [] (UU b' b2 x2 m2) → G lwD st0 trI fin 1371 (lwE i) [] (UU b' b x m) := by
  obtain ⟨⟨H, C, h, c, K0, R⟩, hN⟩ := I
  have hb := R.hb
  obtain ⟨r, t, b2, x2, m2, e1, e2, rfl, D, An⟩ := two_at (b' := b') (A := fX1_image (some 64) (mI b' 54 (i + 1)) (mkX b x)) (B := fun n s => fX4_image (some 106) (mI b' 54 (i + 1)) (mkM b' n s m)) (P := fun r t b2 x2 m2 => r = t ∧ (∃ H C h c K, Duo b2 x2 m2 H C h c K) ∧ Ans b b2) (fun n s => by
    obtain ⟨r, b2, x', m', K', e1, e2, D, An⟩ := C_image (b' := b') (n := n) (s := s) R (mI b' 54 (i + 1))
    exact ⟨r, r, b2, x', m', e1, e2, rfl, ⟨_, _, _, _, _, D⟩, An⟩)
  have c1 := sX1_image e1
  have c2 := sX4_image e2
  have hb2 : 131 ≤ mNx b2 := Nat.le_trans hb An.1
  have hN2 : NoM b2 := NoM.next (x := x) (x2 := x2) hN hb c1.1
  refine ⟨b2, x2, m2, ⟨D, hN2⟩, An, fun st0 fin K => ?_⟩
  refine r_aload_n (pc := 1371) dL_law_1371 3 rfl rfl ?_
  refine lwArg (pc := 1372) 1 (p4 := 0) (p0 := 4) rfl rfl hB hN hb dL_law_1372 dL_law_1373 dL_law_1375 dL_law_1376 dL_law_1377 (by decide) (by omega) ?_
  refine lwX (pc := 1378) (as := [vi (mI b' 54 (i + 1))]) (rest := []) hB hb c1 dL_law_1378 q1599 lxd_X1_image lvt_X1_image q1600 ladx_X1_image (by decide) (Nat.le_of_ble_eq_true rfl) rfl ?_
  refine r_aload_n (pc := 1381) dL_law_1381 2 rfl rfl ?_
  refine lwArg (pc := 1382) 1 (p4 := 0) (p0 := 4) rfl rfl hB hN2 hb2 dL_law_1382 dL_law_1383 dL_law_1385 dL_law_1386 dL_law_1387 (by decide) (by omega) ?_
  refine lwM (pc := 1388) (as := [vi (mI b' 54 (i + 1))]) (rest := [vi r]) hB hN2 hb2 c2 dL_law_1388 q2296 lxd_X4_image lvt_X4_image q2297 ladx_X4_image (by decide) (Nat.le_of_ble_eq_true rfl) rfl ?_
  exact lwEq (pc := 1391) (tgt := 1446) dL_law_1391 (by decide) K
theorem lw_k39 (hB : SB b') (I : LI b' b x m) (hi : i + 5 < mLen b' 54) : ∃ b2 x2 m2, LI b' b2 x2 m2 ∧ Ans b b2 ∧ ∀ (st0 : Mem) (fin : Int32 × Mem), G lwD st0 trI fin 1446 (lwE i) [] (UU b' b2 x2 m2) → G lwD st0 trI fin 1396 (lwE i) [] (UU b' b x m) := by
  obtain ⟨⟨H, C, h, c, K0, R⟩, hN⟩ := I
  have hb := R.hb
  obtain ⟨r, t, b2, x2, m2, e1, e2, rfl, D, An⟩ := two_at (b' := b') (A := fX1_restore (some 64) (mI b' 54 (i + 1)) (mkX b x)) (B := fun n s => fX4_restore (some 106) (mI b' 54 (i + 1)) (mkM b' n s m)) (P := fun r t b2 x2 m2 => r = t ∧ (∃ H C h c K, Duo b2 x2 m2 H C h c K) ∧ Ans b b2) (fun n s => by
    obtain ⟨r, x', m', H', C', h', c', e1, e2, D⟩ := C_restore (b' := b') (n := n) (s := s) R (mI b' 54 (i + 1))
    exact ⟨r, r, b, x', m', e1, e2, rfl, ⟨_, _, _, _, _, D⟩, Ans.refl b⟩)
  have c1 := sX1_restore e1
  have c2 := sX4_restore e2
  have hb2 : 131 ≤ mNx b2 := Nat.le_trans hb An.1
  have hN2 : NoM b2 := NoM.next (x := x) (x2 := x2) hN hb c1.1
  refine ⟨b2, x2, m2, ⟨D, hN2⟩, An, fun st0 fin K => ?_⟩
  refine r_aload_n (pc := 1396) dL_law_1396 3 rfl rfl ?_
  refine lwArg (pc := 1397) 1 (p4 := 0) (p0 := 4) rfl rfl hB hN hb dL_law_1397 dL_law_1398 dL_law_1400 dL_law_1401 dL_law_1402 (by decide) (by omega) ?_
  refine lwX (pc := 1403) (as := [vi (mI b' 54 (i + 1))]) (rest := []) hB hb c1 dL_law_1403 q1608 lxd_X1_restore lvt_X1_restore q1609 ladx_X1_restore (by decide) (Nat.le_of_ble_eq_true rfl) rfl ?_
  refine r_aload_n (pc := 1406) dL_law_1406 2 rfl rfl ?_
  refine lwArg (pc := 1407) 1 (p4 := 0) (p0 := 4) rfl rfl hB hN2 hb2 dL_law_1407 dL_law_1408 dL_law_1410 dL_law_1411 dL_law_1412 (by decide) (by omega) ?_
  refine lwM (pc := 1413) (as := [vi (mI b' 54 (i + 1))]) (rest := [vi r]) hB hN2 hb2 c2 dL_law_1413 q2300 lxd_X4_restore lvt_X4_restore q2301 ladx_X4_restore (by decide) (Nat.le_of_ble_eq_true rfl) rfl ?_
  exact lwEq (pc := 1416) (tgt := 1446) dL_law_1416 (by decide) K
theorem lw_k40 (hB : SB b') (I : LI b' b x m) (hi : i + 5 < mLen b' 54) : ∃ b2 x2 m2, LI b' b2 x2 m2 ∧ Ans b b2 ∧ ∀ (st0 : Mem) (fin : Int32 × Mem), G lwD st0 trI fin 1446 (lwE i) [] (UU b' b2 x2 m2) → G lwD st0 trI fin 1421 (lwE i) [] (UU b' b x m) := by
  obtain ⟨⟨H, C, h, c, K0, R⟩, hN⟩ := I
  have hb := R.hb
  obtain ⟨r, t, b2, x2, m2, e1, e2, rfl, D, An⟩ := two_at (b' := b') (A := fX1_count (some 64) (mI b' 54 (i + 1)) (mkX b x)) (B := fun n s => fX4_count (some 106) (mI b' 54 (i + 1)) (mkM b' n s m)) (P := fun r t b2 x2 m2 => r = t ∧ (∃ H C h c K, Duo b2 x2 m2 H C h c K) ∧ Ans b b2) (fun n s => by
    obtain ⟨r, e1, e2⟩ := C_count (b' := b') (n := n) (s := s) R (mI b' 54 (i + 1))
    exact ⟨r, r, b, x, m.th 0, e1, e2, rfl, ⟨_, _, _, _, _, R.th⟩, Ans.refl b⟩)
  have c1 := sX1_count e1
  have c2 := sX4_count e2
  have hb2 : 131 ≤ mNx b2 := Nat.le_trans hb An.1
  have hN2 : NoM b2 := NoM.next (x := x) (x2 := x2) hN hb c1.1
  refine ⟨b2, x2, m2, ⟨D, hN2⟩, An, fun st0 fin K => ?_⟩
  refine r_aload_n (pc := 1421) dL_law_1421 3 rfl rfl ?_
  refine lwArg (pc := 1422) 1 (p4 := 0) (p0 := 4) rfl rfl hB hN hb dL_law_1422 dL_law_1423 dL_law_1425 dL_law_1426 dL_law_1427 (by decide) (by omega) ?_
  refine lwX (pc := 1428) (as := [vi (mI b' 54 (i + 1))]) (rest := []) hB hb c1 dL_law_1428 q1612 lxd_X1_count lvt_X1_count q1613 ladx_X1_count (by decide) (Nat.le_of_ble_eq_true rfl) rfl ?_
  refine r_aload_n (pc := 1431) dL_law_1431 2 rfl rfl ?_
  refine lwArg (pc := 1432) 1 (p4 := 0) (p0 := 4) rfl rfl hB hN2 hb2 dL_law_1432 dL_law_1433 dL_law_1435 dL_law_1436 dL_law_1437 (by decide) (by omega) ?_
  refine lwM (pc := 1438) (as := [vi (mI b' 54 (i + 1))]) (rest := [vi r]) hB hN2 hb2 c2 dL_law_1438 q2304 lxd_X4_count lvt_X4_count q2305 ladx_X4_count (by decide) (Nat.le_of_ble_eq_true rfl) rfl ?_
  exact lwEq (pc := 1441) (tgt := 1446) dL_law_1441 (by decide) K
theorem lw_step (hB : SB b') (I : LI b' b x m) (hi : i + 5 < mLen b' 54) : ∃ b2 x2 m2, LI b' b2 x2 m2 ∧ Ans b b2 ∧ ∀ (st0 : Mem) (fin : Int32 × Mem), G lwD st0 trI fin 1446 (lwE i) [] (UU b' b2 x2 m2) → G lwD st0 trI fin 33 (lwE i) [] (UU b' b x m) := by
  have hN := I.2
  have hb : 131 ≤ mNx b := by
    obtain ⟨⟨_, _, _, _, _, R⟩, -⟩ := I
    exact R.hb
  have e := scrA (x := x) (m := m) hB hN hb (k := i) (by omega)
  have pre : ∀ (st0 : Mem) (fin : Int32 × Mem), G lwD st0 trI fin 40 (lwE i) [vi (mI b' 54 i &&& 63)] (UU b' b x m) → G lwD st0 trI fin 33 (lwE i) [] (UU b' b x m) := fun st0 fin K => by
    refine r_aload_n (pc := 33) dL_law_33 4 rfl rfl ?_
    refine r_iload (pc := 34) dL_law_34 0 rfl ?_
    refine r_iaload (pc := 36) (F := fun _ => some fin) dL_law_36 (by rw [e]; rfl) (fun z hz _ => ?_)
    cases e.symm.trans hz
    refine r_bipush (pc := 37) (v := 63) dL_law_37 (by decide) ?_
    exact r_iand (pc := 39) dL_law_39 K
  generalize mI b' 54 i &&& 63 = z at pre
  by_cases c0 : z = 0
  · obtain ⟨b2, x2, m2, I2, An, F⟩ := lw_k0 hB I hi
    exact ⟨b2, x2, m2, I2, An, fun st0 fin K => pre st0 fin (r_swIn (pc := 40) (tgt := 220) dL_law_40 c0 (by decide) (by decide) rfl (by decide) (F st0 fin K))⟩
  by_cases c1 : z = 1
  · obtain ⟨b2, x2, m2, I2, An, F⟩ := lw_k1 hB I hi
    exact ⟨b2, x2, m2, I2, An, fun st0 fin K => pre st0 fin (r_swIn (pc := 40) (tgt := 293) dL_law_40 c1 (by decide) (by decide) rfl (by decide) (F st0 fin K))⟩
  by_cases c2 : z = 2
  · obtain ⟨b2, x2, m2, I2, An, F⟩ := lw_k2 hB I hi
    exact ⟨b2, x2, m2, I2, An, fun st0 fin K => pre st0 fin (r_swIn (pc := 40) (tgt := 318) dL_law_40 c2 (by decide) (by decide) rfl (by decide) (F st0 fin K))⟩
  by_cases c3 : z = 3
  · obtain ⟨b2, x2, m2, I2, An, F⟩ := lw_k3 hB I hi
    exact ⟨b2, x2, m2, I2, An, fun st0 fin K => pre st0 fin (r_swIn (pc := 40) (tgt := 331) dL_law_40 c3 (by decide) (by decide) rfl (by decide) (F st0 fin K))⟩
  by_cases c4 : z = 4
  · obtain ⟨b2, x2, m2, I2, An, F⟩ := lw_k4 hB I hi
    exact ⟨b2, x2, m2, I2, An, fun st0 fin K => pre st0 fin (r_swIn (pc := 40) (tgt := 344) dL_law_40 c4 (by decide) (by decide) rfl (by decide) (F st0 fin K))⟩
  by_cases c5 : z = 5
  · obtain ⟨b2, x2, m2, I2, An, F⟩ := lw_k5 hB I hi
    exact ⟨b2, x2, m2, I2, An, fun st0 fin K => pre st0 fin (r_swIn (pc := 40) (tgt := 412) dL_law_40 c5 (by decide) (by decide) rfl (by decide) (F st0 fin K))⟩
  by_cases c6 : z = 6
  · obtain ⟨b2, x2, m2, I2, An, F⟩ := lw_k6 hB I hi
    exact ⟨b2, x2, m2, I2, An, fun st0 fin K => pre st0 fin (r_swIn (pc := 40) (tgt := 449) dL_law_40 c6 (by decide) (by decide) rfl (by decide) (F st0 fin K))⟩
  by_cases c7 : z = 7
  · obtain ⟨b2, x2, m2, I2, An, F⟩ := lw_k7 hB I hi
    exact ⟨b2, x2, m2, I2, An, fun st0 fin K => pre st0 fin (r_swIn (pc := 40) (tgt := 486) dL_law_40 c7 (by decide) (by decide) rfl (by decide) (F st0 fin K))⟩
  by_cases c8 : z = 8
  · obtain ⟨b2, x2, m2, I2, An, F⟩ := lw_k8 hB I hi
    exact ⟨b2, x2, m2, I2, An, fun st0 fin K => pre st0 fin (r_swIn (pc := 40) (tgt := 523) dL_law_40 c8 (by decide) (by decide) rfl (by decide) (F st0 fin K))⟩
  by_cases c9 : z = 9
  · obtain ⟨b2, x2, m2, I2, An, F⟩ := lw_k9 hB I hi
    exact ⟨b2, x2, m2, I2, An, fun st0 fin K => pre st0 fin (r_swIn (pc := 40) (tgt := 536) dL_law_40 c9 (by decide) (by decide) rfl (by decide) (F st0 fin K))⟩
  by_cases c10 : z = 10
  · obtain ⟨b2, x2, m2, I2, An, F⟩ := lw_k10 hB I hi
    exact ⟨b2, x2, m2, I2, An, fun st0 fin K => pre st0 fin (r_swIn (pc := 40) (tgt := 604) dL_law_40 c10 (by decide) (by decide) rfl (by decide) (F st0 fin K))⟩
  by_cases c11 : z = 11
  · obtain ⟨b2, x2, m2, I2, An, F⟩ := lw_k11 hB I hi
    exact ⟨b2, x2, m2, I2, An, fun st0 fin K => pre st0 fin (r_swIn (pc := 40) (tgt := 665) dL_law_40 c11 (by decide) (by decide) rfl (by decide) (F st0 fin K))⟩
  by_cases c12 : z = 12
  · obtain ⟨b2, x2, m2, I2, An, F⟩ := lw_k12 hB I hi
    exact ⟨b2, x2, m2, I2, An, fun st0 fin K => pre st0 fin (r_swIn (pc := 40) (tgt := 714) dL_law_40 c12 (by decide) (by decide) rfl (by decide) (F st0 fin K))⟩
  by_cases c13 : z = 13
  · obtain ⟨b2, x2, m2, I2, An, F⟩ := lw_k13 hB I hi
    exact ⟨b2, x2, m2, I2, An, fun st0 fin K => pre st0 fin (r_swIn (pc := 40) (tgt := 751) dL_law_40 c13 (by decide) (by decide) rfl (by decide) (F st0 fin K))⟩
  by_cases c14 : z = 14
  · obtain ⟨b2, x2, m2, I2, An, F⟩ := lw_k14 hB I hi
    exact ⟨b2, x2, m2, I2, An, fun st0 fin K => pre st0 fin (r_swIn (pc := 40) (tgt := 800) dL_law_40 c14 (by decide) (by decide) rfl (by decide) (F st0 fin K))⟩
  by_cases c15 : z = 15
  · obtain ⟨b2, x2, m2, I2, An, F⟩ := lw_k15 hB I hi
    exact ⟨b2, x2, m2, I2, An, fun st0 fin K => pre st0 fin (r_swIn (pc := 40) (tgt := 825) dL_law_40 c15 (by decide) (by decide) rfl (by decide) (F st0 fin K))⟩
  by_cases c16 : z = 16
  · obtain ⟨b2, x2, m2, I2, An, F⟩ := lw_k16 hB I hi
    exact ⟨b2, x2, m2, I2, An, fun st0 fin K => pre st0 fin (r_swIn (pc := 40) (tgt := 850) dL_law_40 c16 (by decide) (by decide) rfl (by decide) (F st0 fin K))⟩
  by_cases c17 : z = 17
  · obtain ⟨b2, x2, m2, I2, An, F⟩ := lw_k17 hB I hi
    exact ⟨b2, x2, m2, I2, An, fun st0 fin K => pre st0 fin (r_swIn (pc := 40) (tgt := 863) dL_law_40 c17 (by decide) (by decide) rfl (by decide) (F st0 fin K))⟩
  by_cases c18 : z = 18
  · obtain ⟨b2, x2, m2, I2, An, F⟩ := lw_k18 hB I hi
    exact ⟨b2, x2, m2, I2, An, fun st0 fin K => pre st0 fin (r_swIn (pc := 40) (tgt := 888) dL_law_40 c18 (by decide) (by decide) rfl (by decide) (F st0 fin K))⟩
  by_cases c19 : z = 19
  · obtain ⟨b2, x2, m2, I2, An, F⟩ := lw_k19 hB I hi
    exact ⟨b2, x2, m2, I2, An, fun st0 fin K => pre st0 fin (r_swIn (pc := 40) (tgt := 913) dL_law_40 c19 (by decide) (by decide) rfl (by decide) (F st0 fin K))⟩
  by_cases c20 : z = 20
  · obtain ⟨b2, x2, m2, I2, An, F⟩ := lw_k20 hB I hi
    exact ⟨b2, x2, m2, I2, An, fun st0 fin K => pre st0 fin (r_swIn (pc := 40) (tgt := 938) dL_law_40 c20 (by decide) (by decide) rfl (by decide) (F st0 fin K))⟩
  by_cases c21 : z = 21
  · obtain ⟨b2, x2, m2, I2, An, F⟩ := lw_k21 hB I hi
    exact ⟨b2, x2, m2, I2, An, fun st0 fin K => pre st0 fin (r_swIn (pc := 40) (tgt := 951) dL_law_40 c21 (by decide) (by decide) rfl (by decide) (F st0 fin K))⟩
  by_cases c22 : z = 22
  · obtain ⟨b2, x2, m2, I2, An, F⟩ := lw_k22 hB I hi
    exact ⟨b2, x2, m2, I2, An, fun st0 fin K => pre st0 fin (r_swIn (pc := 40) (tgt := 964) dL_law_40 c22 (by decide) (by decide) rfl (by decide) (F st0 fin K))⟩
  by_cases c23 : z = 23
  · obtain ⟨b2, x2, m2, I2, An, F⟩ := lw_k23 hB I hi
    exact ⟨b2, x2, m2, I2, An, fun st0 fin K => pre st0 fin (r_swIn (pc := 40) (tgt := 977) dL_law_40 c23 (by decide) (by decide) rfl (by decide) (F st0 fin K))⟩
  by_cases c24 : z = 24
  · obtain ⟨b2, x2, m2, I2, An, F⟩ := lw_k24 hB I hi
    exact ⟨b2, x2, m2, I2, An, fun st0 fin K => pre st0 fin (r_swIn (pc := 40) (tgt := 1002) dL_law_40 c24 (by decide) (by decide) rfl (by decide) (F st0 fin K))⟩
  by_cases c25 : z = 25
  · obtain ⟨b2, x2, m2, I2, An, F⟩ := lw_k25 hB I hi
    exact ⟨b2, x2, m2, I2, An, fun st0 fin K => pre st0 fin (r_swIn (pc := 40) (tgt := 1015) dL_law_40 c25 (by decide) (by decide) rfl (by decide) (F st0 fin K))⟩
  by_cases c26 : z = 26
  · obtain ⟨b2, x2, m2, I2, An, F⟩ := lw_k26 hB I hi
    exact ⟨b2, x2, m2, I2, An, fun st0 fin K => pre st0 fin (r_swIn (pc := 40) (tgt := 1083) dL_law_40 c26 (by decide) (by decide) rfl (by decide) (F st0 fin K))⟩
  by_cases c27 : z = 27
  · obtain ⟨b2, x2, m2, I2, An, F⟩ := lw_k27 hB I hi
    exact ⟨b2, x2, m2, I2, An, fun st0 fin K => pre st0 fin (r_swIn (pc := 40) (tgt := 1096) dL_law_40 c27 (by decide) (by decide) rfl (by decide) (F st0 fin K))⟩
  by_cases c28 : z = 28
  · obtain ⟨b2, x2, m2, I2, An, F⟩ := lw_k28 hB I hi
    exact ⟨b2, x2, m2, I2, An, fun st0 fin K => pre st0 fin (r_swIn (pc := 40) (tgt := 1121) dL_law_40 c28 (by decide) (by decide) rfl (by decide) (F st0 fin K))⟩
  by_cases c29 : z = 29
  · obtain ⟨b2, x2, m2, I2, An, F⟩ := lw_k29 hB I hi
    exact ⟨b2, x2, m2, I2, An, fun st0 fin K => pre st0 fin (r_swIn (pc := 40) (tgt := 1146) dL_law_40 c29 (by decide) (by decide) rfl (by decide) (F st0 fin K))⟩
  by_cases c30 : z = 30
  · obtain ⟨b2, x2, m2, I2, An, F⟩ := lw_k30 hB I hi
    exact ⟨b2, x2, m2, I2, An, fun st0 fin K => pre st0 fin (r_swIn (pc := 40) (tgt := 1171) dL_law_40 c30 (by decide) (by decide) rfl (by decide) (F st0 fin K))⟩
  by_cases c31 : z = 31
  · obtain ⟨b2, x2, m2, I2, An, F⟩ := lw_k31 hB I hi
    exact ⟨b2, x2, m2, I2, An, fun st0 fin K => pre st0 fin (r_swIn (pc := 40) (tgt := 1208) dL_law_40 c31 (by decide) (by decide) rfl (by decide) (F st0 fin K))⟩
  by_cases c32 : z = 32
  · obtain ⟨b2, x2, m2, I2, An, F⟩ := lw_k32 hB I hi
    exact ⟨b2, x2, m2, I2, An, fun st0 fin K => pre st0 fin (r_swIn (pc := 40) (tgt := 1221) dL_law_40 c32 (by decide) (by decide) rfl (by decide) (F st0 fin K))⟩
  by_cases c33 : z = 33
  · obtain ⟨b2, x2, m2, I2, An, F⟩ := lw_k33 hB I hi
    exact ⟨b2, x2, m2, I2, An, fun st0 fin K => pre st0 fin (r_swIn (pc := 40) (tgt := 1258) dL_law_40 c33 (by decide) (by decide) rfl (by decide) (F st0 fin K))⟩
  by_cases c34 : z = 34
  · obtain ⟨b2, x2, m2, I2, An, F⟩ := lw_k34 hB I hi
    exact ⟨b2, x2, m2, I2, An, fun st0 fin K => pre st0 fin (r_swIn (pc := 40) (tgt := 1283) dL_law_40 c34 (by decide) (by decide) rfl (by decide) (F st0 fin K))⟩
  by_cases c35 : z = 35
  · obtain ⟨b2, x2, m2, I2, An, F⟩ := lw_k35 hB I hi
    exact ⟨b2, x2, m2, I2, An, fun st0 fin K => pre st0 fin (r_swIn (pc := 40) (tgt := 1308) dL_law_40 c35 (by decide) (by decide) rfl (by decide) (F st0 fin K))⟩
  by_cases c36 : z = 36
  · obtain ⟨b2, x2, m2, I2, An, F⟩ := lw_k36 hB I hi
    exact ⟨b2, x2, m2, I2, An, fun st0 fin K => pre st0 fin (r_swIn (pc := 40) (tgt := 1345) dL_law_40 c36 (by decide) (by decide) rfl (by decide) (F st0 fin K))⟩
  by_cases c37 : z = 37
  · obtain ⟨b2, x2, m2, I2, An, F⟩ := lw_k37 hB I hi
    exact ⟨b2, x2, m2, I2, An, fun st0 fin K => pre st0 fin (r_swIn (pc := 40) (tgt := 1358) dL_law_40 c37 (by decide) (by decide) rfl (by decide) (F st0 fin K))⟩
  by_cases c38 : z = 38
  · obtain ⟨b2, x2, m2, I2, An, F⟩ := lw_k38 hB I hi
    exact ⟨b2, x2, m2, I2, An, fun st0 fin K => pre st0 fin (r_swIn (pc := 40) (tgt := 1371) dL_law_40 c38 (by decide) (by decide) rfl (by decide) (F st0 fin K))⟩
  by_cases c39 : z = 39
  · obtain ⟨b2, x2, m2, I2, An, F⟩ := lw_k39 hB I hi
    exact ⟨b2, x2, m2, I2, An, fun st0 fin K => pre st0 fin (r_swIn (pc := 40) (tgt := 1396) dL_law_40 c39 (by decide) (by decide) rfl (by decide) (F st0 fin K))⟩
  by_cases c40 : z = 40
  · obtain ⟨b2, x2, m2, I2, An, F⟩ := lw_k40 hB I hi
    exact ⟨b2, x2, m2, I2, An, fun st0 fin K => pre st0 fin (r_swIn (pc := 40) (tgt := 1421) dL_law_40 c40 (by decide) (by decide) rfl (by decide) (F st0 fin K))⟩
  exact ⟨b, x, m, I, Ans.refl b, fun st0 fin K => pre st0 fin (r_swOut (pc := 40) (tgt := 1446) dL_law_40 (sw_cons c0 (sw_cons c1 (sw_cons c2 (sw_cons c3 (sw_cons c4 (sw_cons c5 (sw_cons c6 (sw_cons c7 (sw_cons c8 (sw_cons c9 (sw_cons c10 (sw_cons c11 (sw_cons c12 (sw_cons c13 (sw_cons c14 (sw_cons c15 (sw_cons c16 (sw_cons c17 (sw_cons c18 (sw_cons c19 (sw_cons c20 (sw_cons c21 (sw_cons c22 (sw_cons c23 (sw_cons c24 (sw_cons c25 (sw_cons c26 (sw_cons c27 (sw_cons c28 (sw_cons c29 (sw_cons c30 (sw_cons c31 (sw_cons c32 (sw_cons c33 (sw_cons c34 (sw_cons c35 (sw_cons c36 (sw_cons c37 (sw_cons c38 (sw_cons c39 (sw_cons c40 (sw_nil)))))))))))))))))))))))))))))))))))))))))) (by decide) (by decide) K)⟩
end LawWalk
