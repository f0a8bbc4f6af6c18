set_option linter.unusedVariables false
set_option linter.unusedSimpArgs false
abbrev MR : Type := (Int32) × (Int32) × (Int32) × (Int32) × (Int32) × (Int32) × (Int32) × (Int32) × (Int32) × (Int64) × (Int32)
def MR.mk (size : Int32) (p : Int32) (limit : Int32) (token : Int32) (place : Int32) (span : Int32) (number : Int32) (fault : Int32) (faultAt : Int32) (word : Int64) (got : Int32) : MR := (size, p, limit, token, place, span, number, fault, faultAt, word, got)
def MR.size (z : MR) : Int32 := z.1
def MR.p (z : MR) : Int32 := z.2.1
def MR.limit (z : MR) : Int32 := z.2.2.1
def MR.token (z : MR) : Int32 := z.2.2.2.1
def MR.place (z : MR) : Int32 := z.2.2.2.2.1
def MR.span (z : MR) : Int32 := z.2.2.2.2.2.1
def MR.number (z : MR) : Int32 := z.2.2.2.2.2.2.1
def MR.fault (z : MR) : Int32 := z.2.2.2.2.2.2.2.1
def MR.faultAt (z : MR) : Int32 := z.2.2.2.2.2.2.2.2.1
def MR.word (z : MR) : Int64 := z.2.2.2.2.2.2.2.2.2.1
def MR.got (z : MR) : Int32 := z.2.2.2.2.2.2.2.2.2.2
theorem mk_MR_size {v0 : Int32} {v1 : Int32} {v2 : Int32} {v3 : Int32} {v4 : Int32} {v5 : Int32} {v6 : Int32} {v7 : Int32} {v8 : Int32} {v9 : Int64} {v10 : Int32} : (MR.mk v0 v1 v2 v3 v4 v5 v6 v7 v8 v9 v10).size = v0 := rfl
theorem mk_MR_p {v0 : Int32} {v1 : Int32} {v2 : Int32} {v3 : Int32} {v4 : Int32} {v5 : Int32} {v6 : Int32} {v7 : Int32} {v8 : Int32} {v9 : Int64} {v10 : Int32} : (MR.mk v0 v1 v2 v3 v4 v5 v6 v7 v8 v9 v10).p = v1 := rfl
theorem mk_MR_limit {v0 : Int32} {v1 : Int32} {v2 : Int32} {v3 : Int32} {v4 : Int32} {v5 : Int32} {v6 : Int32} {v7 : Int32} {v8 : Int32} {v9 : Int64} {v10 : Int32} : (MR.mk v0 v1 v2 v3 v4 v5 v6 v7 v8 v9 v10).limit = v2 := rfl
theorem mk_MR_token {v0 : Int32} {v1 : Int32} {v2 : Int32} {v3 : Int32} {v4 : Int32} {v5 : Int32} {v6 : Int32} {v7 : Int32} {v8 : Int32} {v9 : Int64} {v10 : Int32} : (MR.mk v0 v1 v2 v3 v4 v5 v6 v7 v8 v9 v10).token = v3 := rfl
theorem mk_MR_place {v0 : Int32} {v1 : Int32} {v2 : Int32} {v3 : Int32} {v4 : Int32} {v5 : Int32} {v6 : Int32} {v7 : Int32} {v8 : Int32} {v9 : Int64} {v10 : Int32} : (MR.mk v0 v1 v2 v3 v4 v5 v6 v7 v8 v9 v10).place = v4 := rfl
theorem mk_MR_span {v0 : Int32} {v1 : Int32} {v2 : Int32} {v3 : Int32} {v4 : Int32} {v5 : Int32} {v6 : Int32} {v7 : Int32} {v8 : Int32} {v9 : Int64} {v10 : Int32} : (MR.mk v0 v1 v2 v3 v4 v5 v6 v7 v8 v9 v10).span = v5 := rfl
theorem mk_MR_number {v0 : Int32} {v1 : Int32} {v2 : Int32} {v3 : Int32} {v4 : Int32} {v5 : Int32} {v6 : Int32} {v7 : Int32} {v8 : Int32} {v9 : Int64} {v10 : Int32} : (MR.mk v0 v1 v2 v3 v4 v5 v6 v7 v8 v9 v10).number = v6 := rfl
theorem mk_MR_fault {v0 : Int32} {v1 : Int32} {v2 : Int32} {v3 : Int32} {v4 : Int32} {v5 : Int32} {v6 : Int32} {v7 : Int32} {v8 : Int32} {v9 : Int64} {v10 : Int32} : (MR.mk v0 v1 v2 v3 v4 v5 v6 v7 v8 v9 v10).fault = v7 := rfl
theorem mk_MR_faultAt {v0 : Int32} {v1 : Int32} {v2 : Int32} {v3 : Int32} {v4 : Int32} {v5 : Int32} {v6 : Int32} {v7 : Int32} {v8 : Int32} {v9 : Int64} {v10 : Int32} : (MR.mk v0 v1 v2 v3 v4 v5 v6 v7 v8 v9 v10).faultAt = v8 := rfl
theorem mk_MR_word {v0 : Int32} {v1 : Int32} {v2 : Int32} {v3 : Int32} {v4 : Int32} {v5 : Int32} {v6 : Int32} {v7 : Int32} {v8 : Int32} {v9 : Int64} {v10 : Int32} : (MR.mk v0 v1 v2 v3 v4 v5 v6 v7 v8 v9 v10).word = v9 := rfl
theorem mk_MR_got {v0 : Int32} {v1 : Int32} {v2 : Int32} {v3 : Int32} {v4 : Int32} {v5 : Int32} {v6 : Int32} {v7 : Int32} {v8 : Int32} {v9 : Int64} {v10 : Int32} : (MR.mk v0 v1 v2 v3 v4 v5 v6 v7 v8 v9 v10).got = v10 := rfl
abbrev MH : Type := (Int32) × (Int32) × (Int32) × (Int32) × (Int32) × (Int32) × (Int32) × (Int32) × (Nat → Int32) × (Nat → Int32) × (Nat → Int32) × (Nat → Int32)
def MH.mk (lines : Int32) (prices : Int32) (leavings : Int32) (onces : Int32) (codeMany : Int32) (pileMany : Int32) (ones : Int32) (coming : Int32) (hh : Nat → Int32) (newCues : Nat → Int32) (code : Nat → Int32) (pile : Nat → Int32) : MH := (lines, prices, leavings, onces, codeMany, pileMany, ones, coming, hh, newCues, code, pile)
def MH.lines (z : MH) : Int32 := z.1
def MH.prices (z : MH) : Int32 := z.2.1
def MH.leavings (z : MH) : Int32 := z.2.2.1
def MH.onces (z : MH) : Int32 := z.2.2.2.1
def MH.codeMany (z : MH) : Int32 := z.2.2.2.2.1
def MH.pileMany (z : MH) : Int32 := z.2.2.2.2.2.1
def MH.ones (z : MH) : Int32 := z.2.2.2.2.2.2.1
def MH.coming (z : MH) : Int32 := z.2.2.2.2.2.2.2.1
def MH.hh (z : MH) : Nat → Int32 := z.2.2.2.2.2.2.2.2.1
def MH.newCues (z : MH) : Nat → Int32 := z.2.2.2.2.2.2.2.2.2.1
def MH.code (z : MH) : Nat → Int32 := z.2.2.2.2.2.2.2.2.2.2.1
def MH.pile (z : MH) : Nat → Int32 := z.2.2.2.2.2.2.2.2.2.2.2
theorem mk_MH_lines {v0 : Int32} {v1 : Int32} {v2 : Int32} {v3 : Int32} {v4 : Int32} {v5 : Int32} {v6 : Int32} {v7 : Int32} {v8 : Nat → Int32} {v9 : Nat → Int32} {v10 : Nat → Int32} {v11 : Nat → Int32} : (MH.mk v0 v1 v2 v3 v4 v5 v6 v7 v8 v9 v10 v11).lines = v0 := rfl
theorem mk_MH_prices {v0 : Int32} {v1 : Int32} {v2 : Int32} {v3 : Int32} {v4 : Int32} {v5 : Int32} {v6 : Int32} {v7 : Int32} {v8 : Nat → Int32} {v9 : Nat → Int32} {v10 : Nat → Int32} {v11 : Nat → Int32} : (MH.mk v0 v1 v2 v3 v4 v5 v6 v7 v8 v9 v10 v11).prices = v1 := rfl
theorem mk_MH_leavings {v0 : Int32} {v1 : Int32} {v2 : Int32} {v3 : Int32} {v4 : Int32} {v5 : Int32} {v6 : Int32} {v7 : Int32} {v8 : Nat → Int32} {v9 : Nat → Int32} {v10 : Nat → Int32} {v11 : Nat → Int32} : (MH.mk v0 v1 v2 v3 v4 v5 v6 v7 v8 v9 v10 v11).leavings = v2 := rfl
theorem mk_MH_onces {v0 : Int32} {v1 : Int32} {v2 : Int32} {v3 : Int32} {v4 : Int32} {v5 : Int32} {v6 : Int32} {v7 : Int32} {v8 : Nat → Int32} {v9 : Nat → Int32} {v10 : Nat → Int32} {v11 : Nat → Int32} : (MH.mk v0 v1 v2 v3 v4 v5 v6 v7 v8 v9 v10 v11).onces = v3 := rfl
theorem mk_MH_codeMany {v0 : Int32} {v1 : Int32} {v2 : Int32} {v3 : Int32} {v4 : Int32} {v5 : Int32} {v6 : Int32} {v7 : Int32} {v8 : Nat → Int32} {v9 : Nat → Int32} {v10 : Nat → Int32} {v11 : Nat → Int32} : (MH.mk v0 v1 v2 v3 v4 v5 v6 v7 v8 v9 v10 v11).codeMany = v4 := rfl
theorem mk_MH_pileMany {v0 : Int32} {v1 : Int32} {v2 : Int32} {v3 : Int32} {v4 : Int32} {v5 : Int32} {v6 : Int32} {v7 : Int32} {v8 : Nat → Int32} {v9 : Nat → Int32} {v10 : Nat → Int32} {v11 : Nat → Int32} : (MH.mk v0 v1 v2 v3 v4 v5 v6 v7 v8 v9 v10 v11).pileMany = v5 := rfl
theorem mk_MH_ones {v0 : Int32} {v1 : Int32} {v2 : Int32} {v3 : Int32} {v4 : Int32} {v5 : Int32} {v6 : Int32} {v7 : Int32} {v8 : Nat → Int32} {v9 : Nat → Int32} {v10 : Nat → Int32} {v11 : Nat → Int32} : (MH.mk v0 v1 v2 v3 v4 v5 v6 v7 v8 v9 v10 v11).ones = v6 := rfl
theorem mk_MH_coming {v0 : Int32} {v1 : Int32} {v2 : Int32} {v3 : Int32} {v4 : Int32} {v5 : Int32} {v6 : Int32} {v7 : Int32} {v8 : Nat → Int32} {v9 : Nat → Int32} {v10 : Nat → Int32} {v11 : Nat → Int32} : (MH.mk v0 v1 v2 v3 v4 v5 v6 v7 v8 v9 v10 v11).coming = v7 := rfl
theorem mk_MH_hh {v0 : Int32} {v1 : Int32} {v2 : Int32} {v3 : Int32} {v4 : Int32} {v5 : Int32} {v6 : Int32} {v7 : Int32} {v8 : Nat → Int32} {v9 : Nat → Int32} {v10 : Nat → Int32} {v11 : Nat → Int32} : (MH.mk v0 v1 v2 v3 v4 v5 v6 v7 v8 v9 v10 v11).hh = v8 := rfl
theorem mk_MH_newCues {v0 : Int32} {v1 : Int32} {v2 : Int32} {v3 : Int32} {v4 : Int32} {v5 : Int32} {v6 : Int32} {v7 : Int32} {v8 : Nat → Int32} {v9 : Nat → Int32} {v10 : Nat → Int32} {v11 : Nat → Int32} : (MH.mk v0 v1 v2 v3 v4 v5 v6 v7 v8 v9 v10 v11).newCues = v9 := rfl
theorem mk_MH_code {v0 : Int32} {v1 : Int32} {v2 : Int32} {v3 : Int32} {v4 : Int32} {v5 : Int32} {v6 : Int32} {v7 : Int32} {v8 : Nat → Int32} {v9 : Nat → Int32} {v10 : Nat → Int32} {v11 : Nat → Int32} : (MH.mk v0 v1 v2 v3 v4 v5 v6 v7 v8 v9 v10 v11).code = v10 := rfl
theorem mk_MH_pile {v0 : Int32} {v1 : Int32} {v2 : Int32} {v3 : Int32} {v4 : Int32} {v5 : Int32} {v6 : Int32} {v7 : Int32} {v8 : Nat → Int32} {v9 : Nat → Int32} {v10 : Nat → Int32} {v11 : Nat → Int32} : (MH.mk v0 v1 v2 v3 v4 v5 v6 v7 v8 v9 v10 v11).pile = v11 := rfl
abbrev MN : Type := (Int64) × (Int64) × (Int64) × (Int64) × (Int64) × (Int64) × (Int32) × (Int32) × (Int32) × (Int32) × (Nat → Int32) × (Nat → Int64) × (Nat → Int64) × (Nat → Int64) × (Nat → Int64)
def MN.mk (paidNow : Int64) (hissNow : Int64) (clapping : Int64) (standing : Int64) (low : Int64) (high : Int64) (gone : Int32) (cueNext : Int32) (nightHeight : Int32) (nightCarries : Int32) (held : Nat → Int32) (claps : Nat → Int64) (stand : Nat → Int64) (heldLow : Nat → Int64) (heldHigh : Nat → Int64) : MN := (paidNow, hissNow, clapping, standing, low, high, gone, cueNext, nightHeight, nightCarries, held, claps, stand, heldLow, heldHigh)
def MN.paidNow (z : MN) : Int64 := z.1
def MN.hissNow (z : MN) : Int64 := z.2.1
def MN.clapping (z : MN) : Int64 := z.2.2.1
def MN.standing (z : MN) : Int64 := z.2.2.2.1
def MN.low (z : MN) : Int64 := z.2.2.2.2.1
def MN.high (z : MN) : Int64 := z.2.2.2.2.2.1
def MN.gone (z : MN) : Int32 := z.2.2.2.2.2.2.1
def MN.cueNext (z : MN) : Int32 := z.2.2.2.2.2.2.2.1
def MN.nightHeight (z : MN) : Int32 := z.2.2.2.2.2.2.2.2.1
def MN.nightCarries (z : MN) : Int32 := z.2.2.2.2.2.2.2.2.2.1
def MN.held (z : MN) : Nat → Int32 := z.2.2.2.2.2.2.2.2.2.2.1
def MN.claps (z : MN) : Nat → Int64 := z.2.2.2.2.2.2.2.2.2.2.2.1
def MN.stand (z : MN) : Nat → Int64 := z.2.2.2.2.2.2.2.2.2.2.2.2.1
def MN.heldLow (z : MN) : Nat → Int64 := z.2.2.2.2.2.2.2.2.2.2.2.2.2.1
def MN.heldHigh (z : MN) : Nat → Int64 := z.2.2.2.2.2.2.2.2.2.2.2.2.2.2
theorem mk_MN_paidNow {v0 : Int64} {v1 : Int64} {v2 : Int64} {v3 : Int64} {v4 : Int64} {v5 : Int64} {v6 : Int32} {v7 : Int32} {v8 : Int32} {v9 : Int32} {v10 : Nat → Int32} {v11 : Nat → Int64} {v12 : Nat → Int64} {v13 : Nat → Int64} {v14 : Nat → Int64} : (MN.mk v0 v1 v2 v3 v4 v5 v6 v7 v8 v9 v10 v11 v12 v13 v14).paidNow = v0 := rfl
theorem mk_MN_hissNow {v0 : Int64} {v1 : Int64} {v2 : Int64} {v3 : Int64} {v4 : Int64} {v5 : Int64} {v6 : Int32} {v7 : Int32} {v8 : Int32} {v9 : Int32} {v10 : Nat → Int32} {v11 : Nat → Int64} {v12 : Nat → Int64} {v13 : Nat → Int64} {v14 : Nat → Int64} : (MN.mk v0 v1 v2 v3 v4 v5 v6 v7 v8 v9 v10 v11 v12 v13 v14).hissNow = v1 := rfl
theorem mk_MN_clapping {v0 : Int64} {v1 : Int64} {v2 : Int64} {v3 : Int64} {v4 : Int64} {v5 : Int64} {v6 : Int32} {v7 : Int32} {v8 : Int32} {v9 : Int32} {v10 : Nat → Int32} {v11 : Nat → Int64} {v12 : Nat → Int64} {v13 : Nat → Int64} {v14 : Nat → Int64} : (MN.mk v0 v1 v2 v3 v4 v5 v6 v7 v8 v9 v10 v11 v12 v13 v14).clapping = v2 := rfl
theorem mk_MN_standing {v0 : Int64} {v1 : Int64} {v2 : Int64} {v3 : Int64} {v4 : Int64} {v5 : Int64} {v6 : Int32} {v7 : Int32} {v8 : Int32} {v9 : Int32} {v10 : Nat → Int32} {v11 : Nat → Int64} {v12 : Nat → Int64} {v13 : Nat → Int64} {v14 : Nat → Int64} : (MN.mk v0 v1 v2 v3 v4 v5 v6 v7 v8 v9 v10 v11 v12 v13 v14).standing = v3 := rfl
theorem mk_MN_low {v0 : Int64} {v1 : Int64} {v2 : Int64} {v3 : Int64} {v4 : Int64} {v5 : Int64} {v6 : Int32} {v7 : Int32} {v8 : Int32} {v9 : Int32} {v10 : Nat → Int32} {v11 : Nat → Int64} {v12 : Nat → Int64} {v13 : Nat → Int64} {v14 : Nat → Int64} : (MN.mk v0 v1 v2 v3 v4 v5 v6 v7 v8 v9 v10 v11 v12 v13 v14).low = v4 := rfl
theorem mk_MN_high {v0 : Int64} {v1 : Int64} {v2 : Int64} {v3 : Int64} {v4 : Int64} {v5 : Int64} {v6 : Int32} {v7 : Int32} {v8 : Int32} {v9 : Int32} {v10 : Nat → Int32} {v11 : Nat → Int64} {v12 : Nat → Int64} {v13 : Nat → Int64} {v14 : Nat → Int64} : (MN.mk v0 v1 v2 v3 v4 v5 v6 v7 v8 v9 v10 v11 v12 v13 v14).high = v5 := rfl
theorem mk_MN_gone {v0 : Int64} {v1 : Int64} {v2 : Int64} {v3 : Int64} {v4 : Int64} {v5 : Int64} {v6 : Int32} {v7 : Int32} {v8 : Int32} {v9 : Int32} {v10 : Nat → Int32} {v11 : Nat → Int64} {v12 : Nat → Int64} {v13 : Nat → Int64} {v14 : Nat → Int64} : (MN.mk v0 v1 v2 v3 v4 v5 v6 v7 v8 v9 v10 v11 v12 v13 v14).gone = v6 := rfl
theorem mk_MN_cueNext {v0 : Int64} {v1 : Int64} {v2 : Int64} {v3 : Int64} {v4 : Int64} {v5 : Int64} {v6 : Int32} {v7 : Int32} {v8 : Int32} {v9 : Int32} {v10 : Nat → Int32} {v11 : Nat → Int64} {v12 : Nat → Int64} {v13 : Nat → Int64} {v14 : Nat → Int64} : (MN.mk v0 v1 v2 v3 v4 v5 v6 v7 v8 v9 v10 v11 v12 v13 v14).cueNext = v7 := rfl
theorem mk_MN_nightHeight {v0 : Int64} {v1 : Int64} {v2 : Int64} {v3 : Int64} {v4 : Int64} {v5 : Int64} {v6 : Int32} {v7 : Int32} {v8 : Int32} {v9 : Int32} {v10 : Nat → Int32} {v11 : Nat → Int64} {v12 : Nat → Int64} {v13 : Nat → Int64} {v14 : Nat → Int64} : (MN.mk v0 v1 v2 v3 v4 v5 v6 v7 v8 v9 v10 v11 v12 v13 v14).nightHeight = v8 := rfl
theorem mk_MN_nightCarries {v0 : Int64} {v1 : Int64} {v2 : Int64} {v3 : Int64} {v4 : Int64} {v5 : Int64} {v6 : Int32} {v7 : Int32} {v8 : Int32} {v9 : Int32} {v10 : Nat → Int32} {v11 : Nat → Int64} {v12 : Nat → Int64} {v13 : Nat → Int64} {v14 : Nat → Int64} : (MN.mk v0 v1 v2 v3 v4 v5 v6 v7 v8 v9 v10 v11 v12 v13 v14).nightCarries = v9 := rfl
theorem mk_MN_held {v0 : Int64} {v1 : Int64} {v2 : Int64} {v3 : Int64} {v4 : Int64} {v5 : Int64} {v6 : Int32} {v7 : Int32} {v8 : Int32} {v9 : Int32} {v10 : Nat → Int32} {v11 : Nat → Int64} {v12 : Nat → Int64} {v13 : Nat → Int64} {v14 : Nat → Int64} : (MN.mk v0 v1 v2 v3 v4 v5 v6 v7 v8 v9 v10 v11 v12 v13 v14).held = v10 := rfl
theorem mk_MN_claps {v0 : Int64} {v1 : Int64} {v2 : Int64} {v3 : Int64} {v4 : Int64} {v5 : Int64} {v6 : Int32} {v7 : Int32} {v8 : Int32} {v9 : Int32} {v10 : Nat → Int32} {v11 : Nat → Int64} {v12 : Nat → Int64} {v13 : Nat → Int64} {v14 : Nat → Int64} : (MN.mk v0 v1 v2 v3 v4 v5 v6 v7 v8 v9 v10 v11 v12 v13 v14).claps = v11 := rfl
theorem mk_MN_stand {v0 : Int64} {v1 : Int64} {v2 : Int64} {v3 : Int64} {v4 : Int64} {v5 : Int64} {v6 : Int32} {v7 : Int32} {v8 : Int32} {v9 : Int32} {v10 : Nat → Int32} {v11 : Nat → Int64} {v12 : Nat → Int64} {v13 : Nat → Int64} {v14 : Nat → Int64} : (MN.mk v0 v1 v2 v3 v4 v5 v6 v7 v8 v9 v10 v11 v12 v13 v14).stand = v12 := rfl
theorem mk_MN_heldLow {v0 : Int64} {v1 : Int64} {v2 : Int64} {v3 : Int64} {v4 : Int64} {v5 : Int64} {v6 : Int32} {v7 : Int32} {v8 : Int32} {v9 : Int32} {v10 : Nat → Int32} {v11 : Nat → Int64} {v12 : Nat → Int64} {v13 : Nat → Int64} {v14 : Nat → Int64} : (MN.mk v0 v1 v2 v3 v4 v5 v6 v7 v8 v9 v10 v11 v12 v13 v14).heldLow = v13 := rfl
theorem mk_MN_heldHigh {v0 : Int64} {v1 : Int64} {v2 : Int64} {v3 : Int64} {v4 : Int64} {v5 : Int64} {v6 : Int32} {v7 : Int32} {v8 : Int32} {v9 : Int32} {v10 : Nat → Int32} {v11 : Nat → Int64} {v12 : Nat → Int64} {v13 : Nat → Int64} {v14 : Nat → Int64} : (MN.mk v0 v1 v2 v3 v4 v5 v6 v7 v8 v9 v10 v11 v12 v13 v14).heldHigh = v14 := rfl
abbrev MC : Type := (Int32) × (Int32) × (Int32) × (Int64) × (Int32) × (Int64) × (Int64) × (Int64) × (Int32) × (Int32) × (Int32) × (Nat → Int32) × (Nat → Int32) × (Nat → Int32) × (Nat → Int64) × (Nat → Int32) × (Nat → Int64) × (Nat → Int64)
def MC.mk (askedMany : Int32) (bought : Int32) (worthMany : Int32) (allOrders : Int64) (hasSides : Int32) (seenClaps : Int64) (seenStand : Int64) (seenAll : Int64) (beganA : Int32) (beganB : Int32) (seed : Int32) (asked : Nat → Int32) (carried : Nat → Int32) (heights : Nat → Int32) (worths : Nat → Int64) (side : Nat → Int32) (otherClaps : Nat → Int64) (otherStand : Nat → Int64) : MC := (askedMany, bought, worthMany, allOrders, hasSides, seenClaps, seenStand, seenAll, beganA, beganB, seed, asked, carried, heights, worths, side, otherClaps, otherStand)
def MC.askedMany (z : MC) : Int32 := z.1
def MC.bought (z : MC) : Int32 := z.2.1
def MC.worthMany (z : MC) : Int32 := z.2.2.1
def MC.allOrders (z : MC) : Int64 := z.2.2.2.1
def MC.hasSides (z : MC) : Int32 := z.2.2.2.2.1
def MC.seenClaps (z : MC) : Int64 := z.2.2.2.2.2.1
def MC.seenStand (z : MC) : Int64 := z.2.2.2.2.2.2.1
def MC.seenAll (z : MC) : Int64 := z.2.2.2.2.2.2.2.1
def MC.beganA (z : MC) : Int32 := z.2.2.2.2.2.2.2.2.1
def MC.beganB (z : MC) : Int32 := z.2.2.2.2.2.2.2.2.2.1
def MC.seed (z : MC) : Int32 := z.2.2.2.2.2.2.2.2.2.2.1
def MC.asked (z : MC) : Nat → Int32 := z.2.2.2.2.2.2.2.2.2.2.2.1
def MC.carried (z : MC) : Nat → Int32 := z.2.2.2.2.2.2.2.2.2.2.2.2.1
def MC.heights (z : MC) : Nat → Int32 := z.2.2.2.2.2.2.2.2.2.2.2.2.2.1
def MC.worths (z : MC) : Nat → Int64 := z.2.2.2.2.2.2.2.2.2.2.2.2.2.2.1
def MC.side (z : MC) : Nat → Int32 := z.2.2.2.2.2.2.2.2.2.2.2.2.2.2.2.1
def MC.otherClaps (z : MC) : Nat → Int64 := z.2.2.2.2.2.2.2.2.2.2.2.2.2.2.2.2.1
def MC.otherStand (z : MC) : Nat → Int64 := z.2.2.2.2.2.2.2.2.2.2.2.2.2.2.2.2.2
theorem mk_MC_askedMany {v0 : Int32} {v1 : Int32} {v2 : Int32} {v3 : Int64} {v4 : Int32} {v5 : Int64} {v6 : Int64} {v7 : Int64} {v8 : Int32} {v9 : Int32} {v10 : Int32} {v11 : Nat → Int32} {v12 : Nat → Int32} {v13 : Nat → Int32} {v14 : Nat → Int64} {v15 : Nat → Int32} {v16 : Nat → Int64} {v17 : Nat → Int64} : (MC.mk v0 v1 v2 v3 v4 v5 v6 v7 v8 v9 v10 v11 v12 v13 v14 v15 v16 v17).askedMany = v0 := rfl
theorem mk_MC_bought {v0 : Int32} {v1 : Int32} {v2 : Int32} {v3 : Int64} {v4 : Int32} {v5 : Int64} {v6 : Int64} {v7 : Int64} {v8 : Int32} {v9 : Int32} {v10 : Int32} {v11 : Nat → Int32} {v12 : Nat → Int32} {v13 : Nat → Int32} {v14 : Nat → Int64} {v15 : Nat → Int32} {v16 : Nat → Int64} {v17 : Nat → Int64} : (MC.mk v0 v1 v2 v3 v4 v5 v6 v7 v8 v9 v10 v11 v12 v13 v14 v15 v16 v17).bought = v1 := rfl
theorem mk_MC_worthMany {v0 : Int32} {v1 : Int32} {v2 : Int32} {v3 : Int64} {v4 : Int32} {v5 : Int64} {v6 : Int64} {v7 : Int64} {v8 : Int32} {v9 : Int32} {v10 : Int32} {v11 : Nat → Int32} {v12 : Nat → Int32} {v13 : Nat → Int32} {v14 : Nat → Int64} {v15 : Nat → Int32} {v16 : Nat → Int64} {v17 : Nat → Int64} : (MC.mk v0 v1 v2 v3 v4 v5 v6 v7 v8 v9 v10 v11 v12 v13 v14 v15 v16 v17).worthMany = v2 := rfl
theorem mk_MC_allOrders {v0 : Int32} {v1 : Int32} {v2 : Int32} {v3 : Int64} {v4 : Int32} {v5 : Int64} {v6 : Int64} {v7 : Int64} {v8 : Int32} {v9 : Int32} {v10 : Int32} {v11 : Nat → Int32} {v12 : Nat → Int32} {v13 : Nat → Int32} {v14 : Nat → Int64} {v15 : Nat → Int32} {v16 : Nat → Int64} {v17 : Nat → Int64} : (MC.mk v0 v1 v2 v3 v4 v5 v6 v7 v8 v9 v10 v11 v12 v13 v14 v15 v16 v17).allOrders = v3 := rfl
theorem mk_MC_hasSides {v0 : Int32} {v1 : Int32} {v2 : Int32} {v3 : Int64} {v4 : Int32} {v5 : Int64} {v6 : Int64} {v7 : Int64} {v8 : Int32} {v9 : Int32} {v10 : Int32} {v11 : Nat → Int32} {v12 : Nat → Int32} {v13 : Nat → Int32} {v14 : Nat → Int64} {v15 : Nat → Int32} {v16 : Nat → Int64} {v17 : Nat → Int64} : (MC.mk v0 v1 v2 v3 v4 v5 v6 v7 v8 v9 v10 v11 v12 v13 v14 v15 v16 v17).hasSides = v4 := rfl
theorem mk_MC_seenClaps {v0 : Int32} {v1 : Int32} {v2 : Int32} {v3 : Int64} {v4 : Int32} {v5 : Int64} {v6 : Int64} {v7 : Int64} {v8 : Int32} {v9 : Int32} {v10 : Int32} {v11 : Nat → Int32} {v12 : Nat → Int32} {v13 : Nat → Int32} {v14 : Nat → Int64} {v15 : Nat → Int32} {v16 : Nat → Int64} {v17 : Nat → Int64} : (MC.mk v0 v1 v2 v3 v4 v5 v6 v7 v8 v9 v10 v11 v12 v13 v14 v15 v16 v17).seenClaps = v5 := rfl
theorem mk_MC_seenStand {v0 : Int32} {v1 : Int32} {v2 : Int32} {v3 : Int64} {v4 : Int32} {v5 : Int64} {v6 : Int64} {v7 : Int64} {v8 : Int32} {v9 : Int32} {v10 : Int32} {v11 : Nat → Int32} {v12 : Nat → Int32} {v13 : Nat → Int32} {v14 : Nat → Int64} {v15 : Nat → Int32} {v16 : Nat → Int64} {v17 : Nat → Int64} : (MC.mk v0 v1 v2 v3 v4 v5 v6 v7 v8 v9 v10 v11 v12 v13 v14 v15 v16 v17).seenStand = v6 := rfl
theorem mk_MC_seenAll {v0 : Int32} {v1 : Int32} {v2 : Int32} {v3 : Int64} {v4 : Int32} {v5 : Int64} {v6 : Int64} {v7 : Int64} {v8 : Int32} {v9 : Int32} {v10 : Int32} {v11 : Nat → Int32} {v12 : Nat → Int32} {v13 : Nat → Int32} {v14 : Nat → Int64} {v15 : Nat → Int32} {v16 : Nat → Int64} {v17 : Nat → Int64} : (MC.mk v0 v1 v2 v3 v4 v5 v6 v7 v8 v9 v10 v11 v12 v13 v14 v15 v16 v17).seenAll = v7 := rfl
theorem mk_MC_beganA {v0 : Int32} {v1 : Int32} {v2 : Int32} {v3 : Int64} {v4 : Int32} {v5 : Int64} {v6 : Int64} {v7 : Int64} {v8 : Int32} {v9 : Int32} {v10 : Int32} {v11 : Nat → Int32} {v12 : Nat → Int32} {v13 : Nat → Int32} {v14 : Nat → Int64} {v15 : Nat → Int32} {v16 : Nat → Int64} {v17 : Nat → Int64} : (MC.mk v0 v1 v2 v3 v4 v5 v6 v7 v8 v9 v10 v11 v12 v13 v14 v15 v16 v17).beganA = v8 := rfl
theorem mk_MC_beganB {v0 : Int32} {v1 : Int32} {v2 : Int32} {v3 : Int64} {v4 : Int32} {v5 : Int64} {v6 : Int64} {v7 : Int64} {v8 : Int32} {v9 : Int32} {v10 : Int32} {v11 : Nat → Int32} {v12 : Nat → Int32} {v13 : Nat → Int32} {v14 : Nat → Int64} {v15 : Nat → Int32} {v16 : Nat → Int64} {v17 : Nat → Int64} : (MC.mk v0 v1 v2 v3 v4 v5 v6 v7 v8 v9 v10 v11 v12 v13 v14 v15 v16 v17).beganB = v9 := rfl
theorem mk_MC_seed {v0 : Int32} {v1 : Int32} {v2 : Int32} {v3 : Int64} {v4 : Int32} {v5 : Int64} {v6 : Int64} {v7 : Int64} {v8 : Int32} {v9 : Int32} {v10 : Int32} {v11 : Nat → Int32} {v12 : Nat → Int32} {v13 : Nat → Int32} {v14 : Nat → Int64} {v15 : Nat → Int32} {v16 : Nat → Int64} {v17 : Nat → Int64} : (MC.mk v0 v1 v2 v3 v4 v5 v6 v7 v8 v9 v10 v11 v12 v13 v14 v15 v16 v17).seed = v10 := rfl
theorem mk_MC_asked {v0 : Int32} {v1 : Int32} {v2 : Int32} {v3 : Int64} {v4 : Int32} {v5 : Int64} {v6 : Int64} {v7 : Int64} {v8 : Int32} {v9 : Int32} {v10 : Int32} {v11 : Nat → Int32} {v12 : Nat → Int32} {v13 : Nat → Int32} {v14 : Nat → Int64} {v15 : Nat → Int32} {v16 : Nat → Int64} {v17 : Nat → Int64} : (MC.mk v0 v1 v2 v3 v4 v5 v6 v7 v8 v9 v10 v11 v12 v13 v14 v15 v16 v17).asked = v11 := rfl
theorem mk_MC_carried {v0 : Int32} {v1 : Int32} {v2 : Int32} {v3 : Int64} {v4 : Int32} {v5 : Int64} {v6 : Int64} {v7 : Int64} {v8 : Int32} {v9 : Int32} {v10 : Int32} {v11 : Nat → Int32} {v12 : Nat → Int32} {v13 : Nat → Int32} {v14 : Nat → Int64} {v15 : Nat → Int32} {v16 : Nat → Int64} {v17 : Nat → Int64} : (MC.mk v0 v1 v2 v3 v4 v5 v6 v7 v8 v9 v10 v11 v12 v13 v14 v15 v16 v17).carried = v12 := rfl
theorem mk_MC_heights {v0 : Int32} {v1 : Int32} {v2 : Int32} {v3 : Int64} {v4 : Int32} {v5 : Int64} {v6 : Int64} {v7 : Int64} {v8 : Int32} {v9 : Int32} {v10 : Int32} {v11 : Nat → Int32} {v12 : Nat → Int32} {v13 : Nat → Int32} {v14 : Nat → Int64} {v15 : Nat → Int32} {v16 : Nat → Int64} {v17 : Nat → Int64} : (MC.mk v0 v1 v2 v3 v4 v5 v6 v7 v8 v9 v10 v11 v12 v13 v14 v15 v16 v17).heights = v13 := rfl
theorem mk_MC_worths {v0 : Int32} {v1 : Int32} {v2 : Int32} {v3 : Int64} {v4 : Int32} {v5 : Int64} {v6 : Int64} {v7 : Int64} {v8 : Int32} {v9 : Int32} {v10 : Int32} {v11 : Nat → Int32} {v12 : Nat → Int32} {v13 : Nat → Int32} {v14 : Nat → Int64} {v15 : Nat → Int32} {v16 : Nat → Int64} {v17 : Nat → Int64} : (MC.mk v0 v1 v2 v3 v4 v5 v6 v7 v8 v9 v10 v11 v12 v13 v14 v15 v16 v17).worths = v14 := rfl
theorem mk_MC_side {v0 : Int32} {v1 : Int32} {v2 : Int32} {v3 : Int64} {v4 : Int32} {v5 : Int64} {v6 : Int64} {v7 : Int64} {v8 : Int32} {v9 : Int32} {v10 : Int32} {v11 : Nat → Int32} {v12 : Nat → Int32} {v13 : Nat → Int32} {v14 : Nat → Int64} {v15 : Nat → Int32} {v16 : Nat → Int64} {v17 : Nat → Int64} : (MC.mk v0 v1 v2 v3 v4 v5 v6 v7 v8 v9 v10 v11 v12 v13 v14 v15 v16 v17).side = v15 := rfl
theorem mk_MC_otherClaps {v0 : Int32} {v1 : Int32} {v2 : Int32} {v3 : Int64} {v4 : Int32} {v5 : Int64} {v6 : Int64} {v7 : Int64} {v8 : Int32} {v9 : Int32} {v10 : Int32} {v11 : Nat → Int32} {v12 : Nat → Int32} {v13 : Nat → Int32} {v14 : Nat → Int64} {v15 : Nat → Int32} {v16 : Nat → Int64} {v17 : Nat → Int64} : (MC.mk v0 v1 v2 v3 v4 v5 v6 v7 v8 v9 v10 v11 v12 v13 v14 v15 v16 v17).otherClaps = v16 := rfl
theorem mk_MC_otherStand {v0 : Int32} {v1 : Int32} {v2 : Int32} {v3 : Int64} {v4 : Int32} {v5 : Int64} {v6 : Int64} {v7 : Int64} {v8 : Int32} {v9 : Int32} {v10 : Int32} {v11 : Nat → Int32} {v12 : Nat → Int32} {v13 : Nat → Int32} {v14 : Nat → Int64} {v15 : Nat → Int32} {v16 : Nat → Int64} {v17 : Nat → Int64} : (MC.mk v0 v1 v2 v3 v4 v5 v6 v7 v8 v9 v10 v11 v12 v13 v14 v15 v16 v17).otherStand = v17 := rfl
abbrev MS : Type := (Int32) × (Int32) × (Int64) × (Int64) × (Int32) × (Int32) × (Nat → Int32) × (Nat → Int32) × (Nat → Int64) × (Nat → Int32) × (Nat → Int64) × (Nat → Int64) × (Nat → Int32) × (MR) × (MH) × (MN) × (MC)
def MS.mk (thrown : Int32) (length : Int32) (seatsPaid : Int64) (seatsHiss : Int64) (lays : Int32) (arranged : Int32) (tape : Nat → Int32) (s : Nat → Int32) (area : Nat → Int64) (kept : Nat → Int32) (keptPaid : Nat → Int64) (keptHiss : Nat → Int64) (isKept : Nat → Int32) (r : MR) (h : MH) (n : MN) (c : MC) : MS := (thrown, length, seatsPaid, seatsHiss, lays, arranged, tape, s, area, kept, keptPaid, keptHiss, isKept, r, h, n, c)
def MS.thrown (z : MS) : Int32 := z.1
def MS.length (z : MS) : Int32 := z.2.1
def MS.seatsPaid (z : MS) : Int64 := z.2.2.1
def MS.seatsHiss (z : MS) : Int64 := z.2.2.2.1
def MS.lays (z : MS) : Int32 := z.2.2.2.2.1
def MS.arranged (z : MS) : Int32 := z.2.2.2.2.2.1
def MS.tape (z : MS) : Nat → Int32 := z.2.2.2.2.2.2.1
def MS.s (z : MS) : Nat → Int32 := z.2.2.2.2.2.2.2.1
def MS.area (z : MS) : Nat → Int64 := z.2.2.2.2.2.2.2.2.1
def MS.kept (z : MS) : Nat → Int32 := z.2.2.2.2.2.2.2.2.2.1
def MS.keptPaid (z : MS) : Nat → Int64 := z.2.2.2.2.2.2.2.2.2.2.1
def MS.keptHiss (z : MS) : Nat → Int64 := z.2.2.2.2.2.2.2.2.2.2.2.1
def MS.isKept (z : MS) : Nat → Int32 := z.2.2.2.2.2.2.2.2.2.2.2.2.1
def MS.r (z : MS) : MR := z.2.2.2.2.2.2.2.2.2.2.2.2.2.1
def MS.h (z : MS) : MH := z.2.2.2.2.2.2.2.2.2.2.2.2.2.2.1
def MS.n (z : MS) : MN := z.2.2.2.2.2.2.2.2.2.2.2.2.2.2.2.1
def MS.c (z : MS) : MC := z.2.2.2.2.2.2.2.2.2.2.2.2.2.2.2.2
theorem mk_MS_thrown {v0 : Int32} {v1 : Int32} {v2 : Int64} {v3 : Int64} {v4 : Int32} {v5 : Int32} {v6 : Nat → Int32} {v7 : Nat → Int32} {v8 : Nat → Int64} {v9 : Nat → Int32} {v10 : Nat → Int64} {v11 : Nat → Int64} {v12 : Nat → Int32} {v13 : MR} {v14 : MH} {v15 : MN} {v16 : MC} : (MS.mk v0 v1 v2 v3 v4 v5 v6 v7 v8 v9 v10 v11 v12 v13 v14 v15 v16).thrown = v0 := rfl
theorem mk_MS_length {v0 : Int32} {v1 : Int32} {v2 : Int64} {v3 : Int64} {v4 : Int32} {v5 : Int32} {v6 : Nat → Int32} {v7 : Nat → Int32} {v8 : Nat → Int64} {v9 : Nat → Int32} {v10 : Nat → Int64} {v11 : Nat → Int64} {v12 : Nat → Int32} {v13 : MR} {v14 : MH} {v15 : MN} {v16 : MC} : (MS.mk v0 v1 v2 v3 v4 v5 v6 v7 v8 v9 v10 v11 v12 v13 v14 v15 v16).length = v1 := rfl
theorem mk_MS_seatsPaid {v0 : Int32} {v1 : Int32} {v2 : Int64} {v3 : Int64} {v4 : Int32} {v5 : Int32} {v6 : Nat → Int32} {v7 : Nat → Int32} {v8 : Nat → Int64} {v9 : Nat → Int32} {v10 : Nat → Int64} {v11 : Nat → Int64} {v12 : Nat → Int32} {v13 : MR} {v14 : MH} {v15 : MN} {v16 : MC} : (MS.mk v0 v1 v2 v3 v4 v5 v6 v7 v8 v9 v10 v11 v12 v13 v14 v15 v16).seatsPaid = v2 := rfl
theorem mk_MS_seatsHiss {v0 : Int32} {v1 : Int32} {v2 : Int64} {v3 : Int64} {v4 : Int32} {v5 : Int32} {v6 : Nat → Int32} {v7 : Nat → Int32} {v8 : Nat → Int64} {v9 : Nat → Int32} {v10 : Nat → Int64} {v11 : Nat → Int64} {v12 : Nat → Int32} {v13 : MR} {v14 : MH} {v15 : MN} {v16 : MC} : (MS.mk v0 v1 v2 v3 v4 v5 v6 v7 v8 v9 v10 v11 v12 v13 v14 v15 v16).seatsHiss = v3 := rfl
theorem mk_MS_lays {v0 : Int32} {v1 : Int32} {v2 : Int64} {v3 : Int64} {v4 : Int32} {v5 : Int32} {v6 : Nat → Int32} {v7 : Nat → Int32} {v8 : Nat → Int64} {v9 : Nat → Int32} {v10 : Nat → Int64} {v11 : Nat → Int64} {v12 : Nat → Int32} {v13 : MR} {v14 : MH} {v15 : MN} {v16 : MC} : (MS.mk v0 v1 v2 v3 v4 v5 v6 v7 v8 v9 v10 v11 v12 v13 v14 v15 v16).lays = v4 := rfl
theorem mk_MS_arranged {v0 : Int32} {v1 : Int32} {v2 : Int64} {v3 : Int64} {v4 : Int32} {v5 : Int32} {v6 : Nat → Int32} {v7 : Nat → Int32} {v8 : Nat → Int64} {v9 : Nat → Int32} {v10 : Nat → Int64} {v11 : Nat → Int64} {v12 : Nat → Int32} {v13 : MR} {v14 : MH} {v15 : MN} {v16 : MC} : (MS.mk v0 v1 v2 v3 v4 v5 v6 v7 v8 v9 v10 v11 v12 v13 v14 v15 v16).arranged = v5 := rfl
theorem mk_MS_tape {v0 : Int32} {v1 : Int32} {v2 : Int64} {v3 : Int64} {v4 : Int32} {v5 : Int32} {v6 : Nat → Int32} {v7 : Nat → Int32} {v8 : Nat → Int64} {v9 : Nat → Int32} {v10 : Nat → Int64} {v11 : Nat → Int64} {v12 : Nat → Int32} {v13 : MR} {v14 : MH} {v15 : MN} {v16 : MC} : (MS.mk v0 v1 v2 v3 v4 v5 v6 v7 v8 v9 v10 v11 v12 v13 v14 v15 v16).tape = v6 := rfl
theorem mk_MS_s {v0 : Int32} {v1 : Int32} {v2 : Int64} {v3 : Int64} {v4 : Int32} {v5 : Int32} {v6 : Nat → Int32} {v7 : Nat → Int32} {v8 : Nat → Int64} {v9 : Nat → Int32} {v10 : Nat → Int64} {v11 : Nat → Int64} {v12 : Nat → Int32} {v13 : MR} {v14 : MH} {v15 : MN} {v16 : MC} : (MS.mk v0 v1 v2 v3 v4 v5 v6 v7 v8 v9 v10 v11 v12 v13 v14 v15 v16).s = v7 := rfl
theorem mk_MS_area {v0 : Int32} {v1 : Int32} {v2 : Int64} {v3 : Int64} {v4 : Int32} {v5 : Int32} {v6 : Nat → Int32} {v7 : Nat → Int32} {v8 : Nat → Int64} {v9 : Nat → Int32} {v10 : Nat → Int64} {v11 : Nat → Int64} {v12 : Nat → Int32} {v13 : MR} {v14 : MH} {v15 : MN} {v16 : MC} : (MS.mk v0 v1 v2 v3 v4 v5 v6 v7 v8 v9 v10 v11 v12 v13 v14 v15 v16).area = v8 := rfl
theorem mk_MS_kept {v0 : Int32} {v1 : Int32} {v2 : Int64} {v3 : Int64} {v4 : Int32} {v5 : Int32} {v6 : Nat → Int32} {v7 : Nat → Int32} {v8 : Nat → Int64} {v9 : Nat → Int32} {v10 : Nat → Int64} {v11 : Nat → Int64} {v12 : Nat → Int32} {v13 : MR} {v14 : MH} {v15 : MN} {v16 : MC} : (MS.mk v0 v1 v2 v3 v4 v5 v6 v7 v8 v9 v10 v11 v12 v13 v14 v15 v16).kept = v9 := rfl
theorem mk_MS_keptPaid {v0 : Int32} {v1 : Int32} {v2 : Int64} {v3 : Int64} {v4 : Int32} {v5 : Int32} {v6 : Nat → Int32} {v7 : Nat → Int32} {v8 : Nat → Int64} {v9 : Nat → Int32} {v10 : Nat → Int64} {v11 : Nat → Int64} {v12 : Nat → Int32} {v13 : MR} {v14 : MH} {v15 : MN} {v16 : MC} : (MS.mk v0 v1 v2 v3 v4 v5 v6 v7 v8 v9 v10 v11 v12 v13 v14 v15 v16).keptPaid = v10 := rfl
theorem mk_MS_keptHiss {v0 : Int32} {v1 : Int32} {v2 : Int64} {v3 : Int64} {v4 : Int32} {v5 : Int32} {v6 : Nat → Int32} {v7 : Nat → Int32} {v8 : Nat → Int64} {v9 : Nat → Int32} {v10 : Nat → Int64} {v11 : Nat → Int64} {v12 : Nat → Int32} {v13 : MR} {v14 : MH} {v15 : MN} {v16 : MC} : (MS.mk v0 v1 v2 v3 v4 v5 v6 v7 v8 v9 v10 v11 v12 v13 v14 v15 v16).keptHiss = v11 := rfl
theorem mk_MS_isKept {v0 : Int32} {v1 : Int32} {v2 : Int64} {v3 : Int64} {v4 : Int32} {v5 : Int32} {v6 : Nat → Int32} {v7 : Nat → Int32} {v8 : Nat → Int64} {v9 : Nat → Int32} {v10 : Nat → Int64} {v11 : Nat → Int64} {v12 : Nat → Int32} {v13 : MR} {v14 : MH} {v15 : MN} {v16 : MC} : (MS.mk v0 v1 v2 v3 v4 v5 v6 v7 v8 v9 v10 v11 v12 v13 v14 v15 v16).isKept = v12 := rfl
theorem mk_MS_r {v0 : Int32} {v1 : Int32} {v2 : Int64} {v3 : Int64} {v4 : Int32} {v5 : Int32} {v6 : Nat → Int32} {v7 : Nat → Int32} {v8 : Nat → Int64} {v9 : Nat → Int32} {v10 : Nat → Int64} {v11 : Nat → Int64} {v12 : Nat → Int32} {v13 : MR} {v14 : MH} {v15 : MN} {v16 : MC} : (MS.mk v0 v1 v2 v3 v4 v5 v6 v7 v8 v9 v10 v11 v12 v13 v14 v15 v16).r = v13 := rfl
theorem mk_MS_h {v0 : Int32} {v1 : Int32} {v2 : Int64} {v3 : Int64} {v4 : Int32} {v5 : Int32} {v6 : Nat → Int32} {v7 : Nat → Int32} {v8 : Nat → Int64} {v9 : Nat → Int32} {v10 : Nat → Int64} {v11 : Nat → Int64} {v12 : Nat → Int32} {v13 : MR} {v14 : MH} {v15 : MN} {v16 : MC} : (MS.mk v0 v1 v2 v3 v4 v5 v6 v7 v8 v9 v10 v11 v12 v13 v14 v15 v16).h = v14 := rfl
theorem mk_MS_n {v0 : Int32} {v1 : Int32} {v2 : Int64} {v3 : Int64} {v4 : Int32} {v5 : Int32} {v6 : Nat → Int32} {v7 : Nat → Int32} {v8 : Nat → Int64} {v9 : Nat → Int32} {v10 : Nat → Int64} {v11 : Nat → Int64} {v12 : Nat → Int32} {v13 : MR} {v14 : MH} {v15 : MN} {v16 : MC} : (MS.mk v0 v1 v2 v3 v4 v5 v6 v7 v8 v9 v10 v11 v12 v13 v14 v15 v16).n = v15 := rfl
theorem mk_MS_c {v0 : Int32} {v1 : Int32} {v2 : Int64} {v3 : Int64} {v4 : Int32} {v5 : Int32} {v6 : Nat → Int32} {v7 : Nat → Int32} {v8 : Nat → Int64} {v9 : Nat → Int32} {v10 : Nat → Int64} {v11 : Nat → Int64} {v12 : Nat → Int32} {v13 : MR} {v14 : MH} {v15 : MN} {v16 : MC} : (MS.mk v0 v1 v2 v3 v4 v5 v6 v7 v8 v9 v10 v11 v12 v13 v14 v15 v16).c = v16 := rfl
def mRI (b : Mem) (m : MS) : Nat → Int32 := fun k => if k = 55 then m.thrown else if k = 57 then m.length else if k = 58 then m.r.size else if k = 59 then m.r.p else if k = 60 then m.r.limit else if k = 64 then m.r.token else if k = 65 then m.r.place else if k = 66 then m.r.span else if k = 67 then m.r.number else if k = 68 then m.r.fault else if k = 69 then m.r.faultAt else if k = 73 then m.r.got else if k = 74 then m.h.lines else if k = 75 then m.h.prices else if k = 76 then m.h.leavings else if k = 77 then m.h.onces else if k = 81 then m.h.codeMany else if k = 82 then m.h.pileMany else if k = 83 then m.h.ones else if k = 85 then m.lays else if k = 86 then m.h.coming else if k = 97 then m.n.gone else if k = 98 then m.n.cueNext else if k = 99 then m.n.nightHeight else if k = 100 then m.n.nightCarries else if k = 102 then m.c.askedMany else if k = 103 then m.c.bought else if k = 107 then m.c.worthMany else if k = 110 then m.c.hasSides else if k = 114 then m.c.beganA else if k = 115 then m.c.beganB else if k = 118 then m.arranged else if k = 119 then m.c.seed else mI b 106 k
def mRJ (b : Mem) (m : MS) : Nat → Int64 := fun k => if k = 70 then m.r.word else if k = 71 then m.seatsPaid else if k = 72 then m.seatsHiss else if k = 91 then m.n.paidNow else if k = 92 then m.n.hissNow else if k = 93 then m.n.clapping else if k = 94 then m.n.standing else if k = 95 then m.n.low else if k = 96 then m.n.high else if k = 108 then m.c.allOrders else if k = 111 then m.c.seenClaps else if k = 112 then m.c.seenStand else if k = 113 then m.c.seenAll else mJ b 106 k
def mRA (b : Mem) : Nat → Rf := fun k => if k = 56 then some 107 else if k = 61 then some 108 else if k = 62 then some 109 else if k = 63 then some 110 else if k = 78 then some 111 else if k = 79 then some 112 else if k = 80 then some 113 else if k = 84 then some 114 else if k = 87 then some 115 else if k = 88 then some 116 else if k = 89 then some 117 else if k = 90 then some 118 else if k = 101 then some 119 else if k = 104 then some 120 else if k = 105 then some 121 else if k = 106 then some 122 else if k = 109 then some 123 else if k = 116 then some 124 else if k = 117 then some 125 else if k = 120 then some 126 else if k = 121 then some 127 else if k = 122 then some 128 else if k = 123 then some 129 else mA b 106 k
def mkM (b : Mem) (n s : Nat) (m : MS) : Mem := ((up1 (up1 (up1 (up1 (up1 (up1 (up1 (up1 (up1 (up1 (up1 (up1 (up1 (up1 (up1 (up1 (up1 (up1 (up1 (up1 (up1 (up1 (up1 (up1 (mTag b) 107 100) 108 102) 109 102) 110 102) 111 102) 112 102) 113 101) 114 103) 115 103) 116 103) 117 103) 118 103) 119 102) 120 101) 121 102) 122 103) 123 102) 124 103) 125 103) 126 102) 127 103) 128 103) 129 101) 106 4), (up1 (up1 (up1 (up1 (up1 (up1 (up1 (up1 (up1 (up1 (up1 (up1 (up1 (up1 (up1 (up1 (up1 (up1 (up1 (up1 (up1 (up1 (up1 (mLen b) 107 940) 108 681) 109 590) 110 90) 111 64) 112 30) 113 64) 114 384) 115 601) 116 601) 117 601) 118 601) 119 14) 120 256) 121 256) 122 8) 123 3) 124 61) 125 61) 126 1362) 127 2) 128 2) 129 2), (up1 (up1 (up1 (up1 (up1 (up1 (up1 (up1 (up1 (up1 (up1 (up1 (up1 (up1 (mI b) 107 m.tape) 108 m.s) 109 m.h.hh) 110 m.h.newCues) 111 m.h.code) 112 m.h.pile) 113 m.n.held) 119 m.c.asked) 120 m.c.carried) 121 m.c.heights) 123 m.c.side) 126 m.kept) 129 m.isKept) 106 (mRI b m)), (up1 (up1 (up1 (up1 (up1 (up1 (up1 (up1 (up1 (up1 (up1 (mJ b) 114 m.area) 115 m.n.claps) 116 m.n.stand) 117 m.n.heldLow) 118 m.n.heldHigh) 122 m.c.worths) 124 m.c.otherClaps) 125 m.c.otherStand) 127 m.keptPaid) 128 m.keptHiss) 106 (mRJ b m)), up1 (mA b) 106 (mRA b), n + 130, s)
section MkM
variable {b : Mem} {n s : Nat} {m : MS}
theorem mkM_nx : mNx (mkM b n s m) = n + 130 := rfl
theorem mkM_ns : mNs (mkM b n s m) = s := rfl
theorem mkM_lt {a : Nat} (h : a < 130) : a < mNx (mkM b n s m) := Nat.lt_of_lt_of_le h (Nat.le_add_left 130 n)
theorem gM_55 : gI (mkM b n s m) (some 106) 55 = some m.thrown := gI_of (t := 4) (mkM_lt (by decide)) rfl (by decide)
theorem pM_55 {v : Int32} : pI (mkM b n s m) (some 106) 55 v = some (mkM b n s (MS.mk (v) (m.length) (m.seatsPaid) (m.seatsHiss) (m.lays) (m.arranged) (m.tape) (m.s) (m.area) (m.kept) (m.keptPaid) (m.keptHiss) (m.isKept) (m.r) (m.h) (m.n) (m.c))) := by
  rw [pI_of (t := 4) (by decide) (mkM_lt (by decide)) rfl (by decide) (Or.inl (by decide))]
  refine congrArg some (mSI_eq rfl rfl ?_ rfl)
  refine (up2_row _ _ _ _ _).trans (congrArg (up1 _ 106) ?_)
  funext k; by_cases h : k = 55
  · subst h; rfl
  · simp only [upq, h, if_false, mRI] <;> rfl
theorem gM_57 : gI (mkM b n s m) (some 106) 57 = some m.length := gI_of (t := 4) (mkM_lt (by decide)) rfl (by decide)
theorem pM_57 {v : Int32} : pI (mkM b n s m) (some 106) 57 v = some (mkM b n s (MS.mk (m.thrown) (v) (m.seatsPaid) (m.seatsHiss) (m.lays) (m.arranged) (m.tape) (m.s) (m.area) (m.kept) (m.keptPaid) (m.keptHiss) (m.isKept) (m.r) (m.h) (m.n) (m.c))) := by
  rw [pI_of (t := 4) (by decide) (mkM_lt (by decide)) rfl (by decide) (Or.inl (by decide))]
  refine congrArg some (mSI_eq rfl rfl ?_ rfl)
  refine (up2_row _ _ _ _ _).trans (congrArg (up1 _ 106) ?_)
  funext k; by_cases h : k = 57
  · subst h; rfl
  · simp only [upq, h, if_false, mRI] <;> rfl
theorem gM_58 : gI (mkM b n s m) (some 106) 58 = some m.r.size := gI_of (t := 4) (mkM_lt (by decide)) rfl (by decide)
theorem pM_58 {v : Int32} : pI (mkM b n s m) (some 106) 58 v = some (mkM b n s (MS.mk (m.thrown) (m.length) (m.seatsPaid) (m.seatsHiss) (m.lays) (m.arranged) (m.tape) (m.s) (m.area) (m.kept) (m.keptPaid) (m.keptHiss) (m.isKept) ((MR.mk (v) (m.r.p) (m.r.limit) (m.r.token) (m.r.place) (m.r.span) (m.r.number) (m.r.fault) (m.r.faultAt) (m.r.word) (m.r.got))) (m.h) (m.n) (m.c))) := by
  rw [pI_of (t := 4) (by decide) (mkM_lt (by decide)) rfl (by decide) (Or.inl (by decide))]
  refine congrArg some (mSI_eq rfl rfl ?_ rfl)
  refine (up2_row _ _ _ _ _).trans (congrArg (up1 _ 106) ?_)
  funext k; by_cases h : k = 58
  · subst h; rfl
  · simp only [upq, h, if_false, mRI] <;> rfl
theorem gM_59 : gI (mkM b n s m) (some 106) 59 = some m.r.p := gI_of (t := 4) (mkM_lt (by decide)) rfl (by decide)
theorem pM_59 {v : Int32} : pI (mkM b n s m) (some 106) 59 v = some (mkM b n s (MS.mk (m.thrown) (m.length) (m.seatsPaid) (m.seatsHiss) (m.lays) (m.arranged) (m.tape) (m.s) (m.area) (m.kept) (m.keptPaid) (m.keptHiss) (m.isKept) ((MR.mk (m.r.size) (v) (m.r.limit) (m.r.token) (m.r.place) (m.r.span) (m.r.number) (m.r.fault) (m.r.faultAt) (m.r.word) (m.r.got))) (m.h) (m.n) (m.c))) := by
  rw [pI_of (t := 4) (by decide) (mkM_lt (by decide)) rfl (by decide) (Or.inl (by decide))]
  refine congrArg some (mSI_eq rfl rfl ?_ rfl)
  refine (up2_row _ _ _ _ _).trans (congrArg (up1 _ 106) ?_)
  funext k; by_cases h : k = 59
  · subst h; rfl
  · simp only [upq, h, if_false, mRI] <;> rfl
theorem gM_60 : gI (mkM b n s m) (some 106) 60 = some m.r.limit := gI_of (t := 4) (mkM_lt (by decide)) rfl (by decide)
theorem pM_60 {v : Int32} : pI (mkM b n s m) (some 106) 60 v = some (mkM b n s (MS.mk (m.thrown) (m.length) (m.seatsPaid) (m.seatsHiss) (m.lays) (m.arranged) (m.tape) (m.s) (m.area) (m.kept) (m.keptPaid) (m.keptHiss) (m.isKept) ((MR.mk (m.r.size) (m.r.p) (v) (m.r.token) (m.r.place) (m.r.span) (m.r.number) (m.r.fault) (m.r.faultAt) (m.r.word) (m.r.got))) (m.h) (m.n) (m.c))) := by
  rw [pI_of (t := 4) (by decide) (mkM_lt (by decide)) rfl (by decide) (Or.inl (by decide))]
  refine congrArg some (mSI_eq rfl rfl ?_ rfl)
  refine (up2_row _ _ _ _ _).trans (congrArg (up1 _ 106) ?_)
  funext k; by_cases h : k = 60
  · subst h; rfl
  · simp only [upq, h, if_false, mRI] <;> rfl
theorem gM_64 : gI (mkM b n s m) (some 106) 64 = some m.r.token := gI_of (t := 4) (mkM_lt (by decide)) rfl (by decide)
theorem pM_64 {v : Int32} : pI (mkM b n s m) (some 106) 64 v = some (mkM b n s (MS.mk (m.thrown) (m.length) (m.seatsPaid) (m.seatsHiss) (m.lays) (m.arranged) (m.tape) (m.s) (m.area) (m.kept) (m.keptPaid) (m.keptHiss) (m.isKept) ((MR.mk (m.r.size) (m.r.p) (m.r.limit) (v) (m.r.place) (m.r.span) (m.r.number) (m.r.fault) (m.r.faultAt) (m.r.word) (m.r.got))) (m.h) (m.n) (m.c))) := by
  rw [pI_of (t := 4) (by decide) (mkM_lt (by decide)) rfl (by decide) (Or.inl (by decide))]
  refine congrArg some (mSI_eq rfl rfl ?_ rfl)
  refine (up2_row _ _ _ _ _).trans (congrArg (up1 _ 106) ?_)
  funext k; by_cases h : k = 64
  · subst h; rfl
  · simp only [upq, h, if_false, mRI] <;> rfl
theorem gM_65 : gI (mkM b n s m) (some 106) 65 = some m.r.place := gI_of (t := 4) (mkM_lt (by decide)) rfl (by decide)
theorem pM_65 {v : Int32} : pI (mkM b n s m) (some 106) 65 v = some (mkM b n s (MS.mk (m.thrown) (m.length) (m.seatsPaid) (m.seatsHiss) (m.lays) (m.arranged) (m.tape) (m.s) (m.area) (m.kept) (m.keptPaid) (m.keptHiss) (m.isKept) ((MR.mk (m.r.size) (m.r.p) (m.r.limit) (m.r.token) (v) (m.r.span) (m.r.number) (m.r.fault) (m.r.faultAt) (m.r.word) (m.r.got))) (m.h) (m.n) (m.c))) := by
  rw [pI_of (t := 4) (by decide) (mkM_lt (by decide)) rfl (by decide) (Or.inl (by decide))]
  refine congrArg some (mSI_eq rfl rfl ?_ rfl)
  refine (up2_row _ _ _ _ _).trans (congrArg (up1 _ 106) ?_)
  funext k; by_cases h : k = 65
  · subst h; rfl
  · simp only [upq, h, if_false, mRI] <;> rfl
theorem gM_66 : gI (mkM b n s m) (some 106) 66 = some m.r.span := gI_of (t := 4) (mkM_lt (by decide)) rfl (by decide)
theorem pM_66 {v : Int32} : pI (mkM b n s m) (some 106) 66 v = some (mkM b n s (MS.mk (m.thrown) (m.length) (m.seatsPaid) (m.seatsHiss) (m.lays) (m.arranged) (m.tape) (m.s) (m.area) (m.kept) (m.keptPaid) (m.keptHiss) (m.isKept) ((MR.mk (m.r.size) (m.r.p) (m.r.limit) (m.r.token) (m.r.place) (v) (m.r.number) (m.r.fault) (m.r.faultAt) (m.r.word) (m.r.got))) (m.h) (m.n) (m.c))) := by
  rw [pI_of (t := 4) (by decide) (mkM_lt (by decide)) rfl (by decide) (Or.inl (by decide))]
  refine congrArg some (mSI_eq rfl rfl ?_ rfl)
  refine (up2_row _ _ _ _ _).trans (congrArg (up1 _ 106) ?_)
  funext k; by_cases h : k = 66
  · subst h; rfl
  · simp only [upq, h, if_false, mRI] <;> rfl
theorem gM_67 : gI (mkM b n s m) (some 106) 67 = some m.r.number := gI_of (t := 4) (mkM_lt (by decide)) rfl (by decide)
theorem pM_67 {v : Int32} : pI (mkM b n s m) (some 106) 67 v = some (mkM b n s (MS.mk (m.thrown) (m.length) (m.seatsPaid) (m.seatsHiss) (m.lays) (m.arranged) (m.tape) (m.s) (m.area) (m.kept) (m.keptPaid) (m.keptHiss) (m.isKept) ((MR.mk (m.r.size) (m.r.p) (m.r.limit) (m.r.token) (m.r.place) (m.r.span) (v) (m.r.fault) (m.r.faultAt) (m.r.word) (m.r.got))) (m.h) (m.n) (m.c))) := by
  rw [pI_of (t := 4) (by decide) (mkM_lt (by decide)) rfl (by decide) (Or.inl (by decide))]
  refine congrArg some (mSI_eq rfl rfl ?_ rfl)
  refine (up2_row _ _ _ _ _).trans (congrArg (up1 _ 106) ?_)
  funext k; by_cases h : k = 67
  · subst h; rfl
  · simp only [upq, h, if_false, mRI] <;> rfl
theorem gM_68 : gI (mkM b n s m) (some 106) 68 = some m.r.fault := gI_of (t := 4) (mkM_lt (by decide)) rfl (by decide)
theorem pM_68 {v : Int32} : pI (mkM b n s m) (some 106) 68 v = some (mkM b n s (MS.mk (m.thrown) (m.length) (m.seatsPaid) (m.seatsHiss) (m.lays) (m.arranged) (m.tape) (m.s) (m.area) (m.kept) (m.keptPaid) (m.keptHiss) (m.isKept) ((MR.mk (m.r.size) (m.r.p) (m.r.limit) (m.r.token) (m.r.place) (m.r.span) (m.r.number) (v) (m.r.faultAt) (m.r.word) (m.r.got))) (m.h) (m.n) (m.c))) := by
  rw [pI_of (t := 4) (by decide) (mkM_lt (by decide)) rfl (by decide) (Or.inl (by decide))]
  refine congrArg some (mSI_eq rfl rfl ?_ rfl)
  refine (up2_row _ _ _ _ _).trans (congrArg (up1 _ 106) ?_)
  funext k; by_cases h : k = 68
  · subst h; rfl
  · simp only [upq, h, if_false, mRI] <;> rfl
theorem gM_69 : gI (mkM b n s m) (some 106) 69 = some m.r.faultAt := gI_of (t := 4) (mkM_lt (by decide)) rfl (by decide)
theorem pM_69 {v : Int32} : pI (mkM b n s m) (some 106) 69 v = some (mkM b n s (MS.mk (m.thrown) (m.length) (m.seatsPaid) (m.seatsHiss) (m.lays) (m.arranged) (m.tape) (m.s) (m.area) (m.kept) (m.keptPaid) (m.keptHiss) (m.isKept) ((MR.mk (m.r.size) (m.r.p) (m.r.limit) (m.r.token) (m.r.place) (m.r.span) (m.r.number) (m.r.fault) (v) (m.r.word) (m.r.got))) (m.h) (m.n) (m.c))) := by
  rw [pI_of (t := 4) (by decide) (mkM_lt (by decide)) rfl (by decide) (Or.inl (by decide))]
  refine congrArg some (mSI_eq rfl rfl ?_ rfl)
  refine (up2_row _ _ _ _ _).trans (congrArg (up1 _ 106) ?_)
  funext k; by_cases h : k = 69
  · subst h; rfl
  · simp only [upq, h, if_false, mRI] <;> rfl
theorem gM_70 : gJ (mkM b n s m) (some 106) 70 = some m.r.word := gJ_of (t := 4) (mkM_lt (by decide)) rfl (by decide)
theorem pM_70 {v : Int64} : pJ (mkM b n s m) (some 106) 70 v = some (mkM b n s (MS.mk (m.thrown) (m.length) (m.seatsPaid) (m.seatsHiss) (m.lays) (m.arranged) (m.tape) (m.s) (m.area) (m.kept) (m.keptPaid) (m.keptHiss) (m.isKept) ((MR.mk (m.r.size) (m.r.p) (m.r.limit) (m.r.token) (m.r.place) (m.r.span) (m.r.number) (m.r.fault) (m.r.faultAt) (v) (m.r.got))) (m.h) (m.n) (m.c))) := by
  rw [pJ_of (t := 4) (by decide) (mkM_lt (by decide)) rfl (by decide)]
  refine congrArg some (mSJ_eq rfl rfl rfl ?_ rfl)
  refine (up2_row _ _ _ _ _).trans (congrArg (up1 _ 106) ?_)
  funext k; by_cases h : k = 70
  · subst h; rfl
  · simp only [upq, h, if_false, mRJ] <;> rfl
theorem gM_71 : gJ (mkM b n s m) (some 106) 71 = some m.seatsPaid := gJ_of (t := 4) (mkM_lt (by decide)) rfl (by decide)
theorem pM_71 {v : Int64} : pJ (mkM b n s m) (some 106) 71 v = some (mkM b n s (MS.mk (m.thrown) (m.length) (v) (m.seatsHiss) (m.lays) (m.arranged) (m.tape) (m.s) (m.area) (m.kept) (m.keptPaid) (m.keptHiss) (m.isKept) (m.r) (m.h) (m.n) (m.c))) := by
  rw [pJ_of (t := 4) (by decide) (mkM_lt (by decide)) rfl (by decide)]
  refine congrArg some (mSJ_eq rfl rfl rfl ?_ rfl)
  refine (up2_row _ _ _ _ _).trans (congrArg (up1 _ 106) ?_)
  funext k; by_cases h : k = 71
  · subst h; rfl
  · simp only [upq, h, if_false, mRJ] <;> rfl
theorem gM_72 : gJ (mkM b n s m) (some 106) 72 = some m.seatsHiss := gJ_of (t := 4) (mkM_lt (by decide)) rfl (by decide)
theorem pM_72 {v : Int64} : pJ (mkM b n s m) (some 106) 72 v = some (mkM b n s (MS.mk (m.thrown) (m.length) (m.seatsPaid) (v) (m.lays) (m.arranged) (m.tape) (m.s) (m.area) (m.kept) (m.keptPaid) (m.keptHiss) (m.isKept) (m.r) (m.h) (m.n) (m.c))) := by
  rw [pJ_of (t := 4) (by decide) (mkM_lt (by decide)) rfl (by decide)]
  refine congrArg some (mSJ_eq rfl rfl rfl ?_ rfl)
  refine (up2_row _ _ _ _ _).trans (congrArg (up1 _ 106) ?_)
  funext k; by_cases h : k = 72
  · subst h; rfl
  · simp only [upq, h, if_false, mRJ] <;> rfl
theorem gM_73 : gI (mkM b n s m) (some 106) 73 = some m.r.got := gI_of (t := 4) (mkM_lt (by decide)) rfl (by decide)
theorem pM_73 {v : Int32} : pI (mkM b n s m) (some 106) 73 v = some (mkM b n s (MS.mk (m.thrown) (m.length) (m.seatsPaid) (m.seatsHiss) (m.lays) (m.arranged) (m.tape) (m.s) (m.area) (m.kept) (m.keptPaid) (m.keptHiss) (m.isKept) ((MR.mk (m.r.size) (m.r.p) (m.r.limit) (m.r.token) (m.r.place) (m.r.span) (m.r.number) (m.r.fault) (m.r.faultAt) (m.r.word) (v))) (m.h) (m.n) (m.c))) := by
  rw [pI_of (t := 4) (by decide) (mkM_lt (by decide)) rfl (by decide) (Or.inl (by decide))]
  refine congrArg some (mSI_eq rfl rfl ?_ rfl)
  refine (up2_row _ _ _ _ _).trans (congrArg (up1 _ 106) ?_)
  funext k; by_cases h : k = 73
  · subst h; rfl
  · simp only [upq, h, if_false, mRI] <;> rfl
theorem gM_74 : gI (mkM b n s m) (some 106) 74 = some m.h.lines := gI_of (t := 4) (mkM_lt (by decide)) rfl (by decide)
theorem pM_74 {v : Int32} : pI (mkM b n s m) (some 106) 74 v = some (mkM b n s (MS.mk (m.thrown) (m.length) (m.seatsPaid) (m.seatsHiss) (m.lays) (m.arranged) (m.tape) (m.s) (m.area) (m.kept) (m.keptPaid) (m.keptHiss) (m.isKept) (m.r) ((MH.mk (v) (m.h.prices) (m.h.leavings) (m.h.onces) (m.h.codeMany) (m.h.pileMany) (m.h.ones) (m.h.coming) (m.h.hh) (m.h.newCues) (m.h.code) (m.h.pile))) (m.n) (m.c))) := by
  rw [pI_of (t := 4) (by decide) (mkM_lt (by decide)) rfl (by decide) (Or.inl (by decide))]
  refine congrArg some (mSI_eq rfl rfl ?_ rfl)
  refine (up2_row _ _ _ _ _).trans (congrArg (up1 _ 106) ?_)
  funext k; by_cases h : k = 74
  · subst h; rfl
  · simp only [upq, h, if_false, mRI] <;> rfl
theorem gM_75 : gI (mkM b n s m) (some 106) 75 = some m.h.prices := gI_of (t := 4) (mkM_lt (by decide)) rfl (by decide)
theorem pM_75 {v : Int32} : pI (mkM b n s m) (some 106) 75 v = some (mkM b n s (MS.mk (m.thrown) (m.length) (m.seatsPaid) (m.seatsHiss) (m.lays) (m.arranged) (m.tape) (m.s) (m.area) (m.kept) (m.keptPaid) (m.keptHiss) (m.isKept) (m.r) ((MH.mk (m.h.lines) (v) (m.h.leavings) (m.h.onces) (m.h.codeMany) (m.h.pileMany) (m.h.ones) (m.h.coming) (m.h.hh) (m.h.newCues) (m.h.code) (m.h.pile))) (m.n) (m.c))) := by
  rw [pI_of (t := 4) (by decide) (mkM_lt (by decide)) rfl (by decide) (Or.inl (by decide))]
  refine congrArg some (mSI_eq rfl rfl ?_ rfl)
  refine (up2_row _ _ _ _ _).trans (congrArg (up1 _ 106) ?_)
  funext k; by_cases h : k = 75
  · subst h; rfl
  · simp only [upq, h, if_false, mRI] <;> rfl
theorem gM_76 : gI (mkM b n s m) (some 106) 76 = some m.h.leavings := gI_of (t := 4) (mkM_lt (by decide)) rfl (by decide)
theorem pM_76 {v : Int32} : pI (mkM b n s m) (some 106) 76 v = some (mkM b n s (MS.mk (m.thrown) (m.length) (m.seatsPaid) (m.seatsHiss) (m.lays) (m.arranged) (m.tape) (m.s) (m.area) (m.kept) (m.keptPaid) (m.keptHiss) (m.isKept) (m.r) ((MH.mk (m.h.lines) (m.h.prices) (v) (m.h.onces) (m.h.codeMany) (m.h.pileMany) (m.h.ones) (m.h.coming) (m.h.hh) (m.h.newCues) (m.h.code) (m.h.pile))) (m.n) (m.c))) := by
  rw [pI_of (t := 4) (by decide) (mkM_lt (by decide)) rfl (by decide) (Or.inl (by decide))]
  refine congrArg some (mSI_eq rfl rfl ?_ rfl)
  refine (up2_row _ _ _ _ _).trans (congrArg (up1 _ 106) ?_)
  funext k; by_cases h : k = 76
  · subst h; rfl
  · simp only [upq, h, if_false, mRI] <;> rfl
theorem gM_77 : gI (mkM b n s m) (some 106) 77 = some m.h.onces := gI_of (t := 4) (mkM_lt (by decide)) rfl (by decide)
theorem pM_77 {v : Int32} : pI (mkM b n s m) (some 106) 77 v = some (mkM b n s (MS.mk (m.thrown) (m.length) (m.seatsPaid) (m.seatsHiss) (m.lays) (m.arranged) (m.tape) (m.s) (m.area) (m.kept) (m.keptPaid) (m.keptHiss) (m.isKept) (m.r) ((MH.mk (m.h.lines) (m.h.prices) (m.h.leavings) (v) (m.h.codeMany) (m.h.pileMany) (m.h.ones) (m.h.coming) (m.h.hh) (m.h.newCues) (m.h.code) (m.h.pile))) (m.n) (m.c))) := by
  rw [pI_of (t := 4) (by decide) (mkM_lt (by decide)) rfl (by decide) (Or.inl (by decide))]
  refine congrArg some (mSI_eq rfl rfl ?_ rfl)
  refine (up2_row _ _ _ _ _).trans (congrArg (up1 _ 106) ?_)
  funext k; by_cases h : k = 77
  · subst h; rfl
  · simp only [upq, h, if_false, mRI] <;> rfl
theorem gM_81 : gI (mkM b n s m) (some 106) 81 = some m.h.codeMany := gI_of (t := 4) (mkM_lt (by decide)) rfl (by decide)
theorem pM_81 {v : Int32} : pI (mkM b n s m) (some 106) 81 v = some (mkM b n s (MS.mk (m.thrown) (m.length) (m.seatsPaid) (m.seatsHiss) (m.lays) (m.arranged) (m.tape) (m.s) (m.area) (m.kept) (m.keptPaid) (m.keptHiss) (m.isKept) (m.r) ((MH.mk (m.h.lines) (m.h.prices) (m.h.leavings) (m.h.onces) (v) (m.h.pileMany) (m.h.ones) (m.h.coming) (m.h.hh) (m.h.newCues) (m.h.code) (m.h.pile))) (m.n) (m.c))) := by
  rw [pI_of (t := 4) (by decide) (mkM_lt (by decide)) rfl (by decide) (Or.inl (by decide))]
  refine congrArg some (mSI_eq rfl rfl ?_ rfl)
  refine (up2_row _ _ _ _ _).trans (congrArg (up1 _ 106) ?_)
  funext k; by_cases h : k = 81
  · subst h; rfl
  · simp only [upq, h, if_false, mRI] <;> rfl
theorem gM_82 : gI (mkM b n s m) (some 106) 82 = some m.h.pileMany := gI_of (t := 4) (mkM_lt (by decide)) rfl (by decide)
theorem pM_82 {v : Int32} : pI (mkM b n s m) (some 106) 82 v = some (mkM b n s (MS.mk (m.thrown) (m.length) (m.seatsPaid) (m.seatsHiss) (m.lays) (m.arranged) (m.tape) (m.s) (m.area) (m.kept) (m.keptPaid) (m.keptHiss) (m.isKept) (m.r) ((MH.mk (m.h.lines) (m.h.prices) (m.h.leavings) (m.h.onces) (m.h.codeMany) (v) (m.h.ones) (m.h.coming) (m.h.hh) (m.h.newCues) (m.h.code) (m.h.pile))) (m.n) (m.c))) := by
  rw [pI_of (t := 4) (by decide) (mkM_lt (by decide)) rfl (by decide) (Or.inl (by decide))]
  refine congrArg some (mSI_eq rfl rfl ?_ rfl)
  refine (up2_row _ _ _ _ _).trans (congrArg (up1 _ 106) ?_)
  funext k; by_cases h : k = 82
  · subst h; rfl
  · simp only [upq, h, if_false, mRI] <;> rfl
theorem gM_83 : gI (mkM b n s m) (some 106) 83 = some m.h.ones := gI_of (t := 4) (mkM_lt (by decide)) rfl (by decide)
theorem pM_83 {v : Int32} : pI (mkM b n s m) (some 106) 83 v = some (mkM b n s (MS.mk (m.thrown) (m.length) (m.seatsPaid) (m.seatsHiss) (m.lays) (m.arranged) (m.tape) (m.s) (m.area) (m.kept) (m.keptPaid) (m.keptHiss) (m.isKept) (m.r) ((MH.mk (m.h.lines) (m.h.prices) (m.h.leavings) (m.h.onces) (m.h.codeMany) (m.h.pileMany) (v) (m.h.coming) (m.h.hh) (m.h.newCues) (m.h.code) (m.h.pile))) (m.n) (m.c))) := by
  rw [pI_of (t := 4) (by decide) (mkM_lt (by decide)) rfl (by decide) (Or.inl (by decide))]
  refine congrArg some (mSI_eq rfl rfl ?_ rfl)
  refine (up2_row _ _ _ _ _).trans (congrArg (up1 _ 106) ?_)
  funext k; by_cases h : k = 83
  · subst h; rfl
  · simp only [upq, h, if_false, mRI] <;> rfl
theorem gM_85 : gI (mkM b n s m) (some 106) 85 = some m.lays := gI_of (t := 4) (mkM_lt (by decide)) rfl (by decide)
theorem pM_85 {v : Int32} (h : v = 0 ∨ v = 1) : pI (mkM b n s m) (some 106) 85 v = some (mkM b n s (MS.mk (m.thrown) (m.length) (m.seatsPaid) (m.seatsHiss) (v) (m.arranged) (m.tape) (m.s) (m.area) (m.kept) (m.keptPaid) (m.keptHiss) (m.isKept) (m.r) (m.h) (m.n) (m.c))) := by
  rw [pI_of (t := 4) (by decide) (mkM_lt (by decide)) rfl (by decide) (Or.inr (Or.inl ⟨by decide, h⟩))]
  refine congrArg some (mSI_eq rfl rfl ?_ rfl)
  refine (up2_row _ _ _ _ _).trans (congrArg (up1 _ 106) ?_)
  funext k; by_cases h : k = 85
  · subst h; rfl
  · simp only [upq, h, if_false, mRI] <;> rfl
theorem gM_86 : gI (mkM b n s m) (some 106) 86 = some m.h.coming := gI_of (t := 4) (mkM_lt (by decide)) rfl (by decide)
theorem pM_86 {v : Int32} : pI (mkM b n s m) (some 106) 86 v = some (mkM b n s (MS.mk (m.thrown) (m.length) (m.seatsPaid) (m.seatsHiss) (m.lays) (m.arranged) (m.tape) (m.s) (m.area) (m.kept) (m.keptPaid) (m.keptHiss) (m.isKept) (m.r) ((MH.mk (m.h.lines) (m.h.prices) (m.h.leavings) (m.h.onces) (m.h.codeMany) (m.h.pileMany) (m.h.ones) (v) (m.h.hh) (m.h.newCues) (m.h.code) (m.h.pile))) (m.n) (m.c))) := by
  rw [pI_of (t := 4) (by decide) (mkM_lt (by decide)) rfl (by decide) (Or.inl (by decide))]
  refine congrArg some (mSI_eq rfl rfl ?_ rfl)
  refine (up2_row _ _ _ _ _).trans (congrArg (up1 _ 106) ?_)
  funext k; by_cases h : k = 86
  · subst h; rfl
  · simp only [upq, h, if_false, mRI] <;> rfl
theorem gM_91 : gJ (mkM b n s m) (some 106) 91 = some m.n.paidNow := gJ_of (t := 4) (mkM_lt (by decide)) rfl (by decide)
theorem pM_91 {v : Int64} : pJ (mkM b n s m) (some 106) 91 v = some (mkM b n s (MS.mk (m.thrown) (m.length) (m.seatsPaid) (m.seatsHiss) (m.lays) (m.arranged) (m.tape) (m.s) (m.area) (m.kept) (m.keptPaid) (m.keptHiss) (m.isKept) (m.r) (m.h) ((MN.mk (v) (m.n.hissNow) (m.n.clapping) (m.n.standing) (m.n.low) (m.n.high) (m.n.gone) (m.n.cueNext) (m.n.nightHeight) (m.n.nightCarries) (m.n.held) (m.n.claps) (m.n.stand) (m.n.heldLow) (m.n.heldHigh))) (m.c))) := by
  rw [pJ_of (t := 4) (by decide) (mkM_lt (by decide)) rfl (by decide)]
  refine congrArg some (mSJ_eq rfl rfl rfl ?_ rfl)
  refine (up2_row _ _ _ _ _).trans (congrArg (up1 _ 106) ?_)
  funext k; by_cases h : k = 91
  · subst h; rfl
  · simp only [upq, h, if_false, mRJ] <;> rfl
theorem gM_92 : gJ (mkM b n s m) (some 106) 92 = some m.n.hissNow := gJ_of (t := 4) (mkM_lt (by decide)) rfl (by decide)
theorem pM_92 {v : Int64} : pJ (mkM b n s m) (some 106) 92 v = some (mkM b n s (MS.mk (m.thrown) (m.length) (m.seatsPaid) (m.seatsHiss) (m.lays) (m.arranged) (m.tape) (m.s) (m.area) (m.kept) (m.keptPaid) (m.keptHiss) (m.isKept) (m.r) (m.h) ((MN.mk (m.n.paidNow) (v) (m.n.clapping) (m.n.standing) (m.n.low) (m.n.high) (m.n.gone) (m.n.cueNext) (m.n.nightHeight) (m.n.nightCarries) (m.n.held) (m.n.claps) (m.n.stand) (m.n.heldLow) (m.n.heldHigh))) (m.c))) := by
  rw [pJ_of (t := 4) (by decide) (mkM_lt (by decide)) rfl (by decide)]
  refine congrArg some (mSJ_eq rfl rfl rfl ?_ rfl)
  refine (up2_row _ _ _ _ _).trans (congrArg (up1 _ 106) ?_)
  funext k; by_cases h : k = 92
  · subst h; rfl
  · simp only [upq, h, if_false, mRJ] <;> rfl
theorem gM_93 : gJ (mkM b n s m) (some 106) 93 = some m.n.clapping := gJ_of (t := 4) (mkM_lt (by decide)) rfl (by decide)
theorem pM_93 {v : Int64} : pJ (mkM b n s m) (some 106) 93 v = some (mkM b n s (MS.mk (m.thrown) (m.length) (m.seatsPaid) (m.seatsHiss) (m.lays) (m.arranged) (m.tape) (m.s) (m.area) (m.kept) (m.keptPaid) (m.keptHiss) (m.isKept) (m.r) (m.h) ((MN.mk (m.n.paidNow) (m.n.hissNow) (v) (m.n.standing) (m.n.low) (m.n.high) (m.n.gone) (m.n.cueNext) (m.n.nightHeight) (m.n.nightCarries) (m.n.held) (m.n.claps) (m.n.stand) (m.n.heldLow) (m.n.heldHigh))) (m.c))) := by
  rw [pJ_of (t := 4) (by decide) (mkM_lt (by decide)) rfl (by decide)]
  refine congrArg some (mSJ_eq rfl rfl rfl ?_ rfl)
  refine (up2_row _ _ _ _ _).trans (congrArg (up1 _ 106) ?_)
  funext k; by_cases h : k = 93
  · subst h; rfl
  · simp only [upq, h, if_false, mRJ] <;> rfl
theorem gM_94 : gJ (mkM b n s m) (some 106) 94 = some m.n.standing := gJ_of (t := 4) (mkM_lt (by decide)) rfl (by decide)
theorem pM_94 {v : Int64} : pJ (mkM b n s m) (some 106) 94 v = some (mkM b n s (MS.mk (m.thrown) (m.length) (m.seatsPaid) (m.seatsHiss) (m.lays) (m.arranged) (m.tape) (m.s) (m.area) (m.kept) (m.keptPaid) (m.keptHiss) (m.isKept) (m.r) (m.h) ((MN.mk (m.n.paidNow) (m.n.hissNow) (m.n.clapping) (v) (m.n.low) (m.n.high) (m.n.gone) (m.n.cueNext) (m.n.nightHeight) (m.n.nightCarries) (m.n.held) (m.n.claps) (m.n.stand) (m.n.heldLow) (m.n.heldHigh))) (m.c))) := by
  rw [pJ_of (t := 4) (by decide) (mkM_lt (by decide)) rfl (by decide)]
  refine congrArg some (mSJ_eq rfl rfl rfl ?_ rfl)
  refine (up2_row _ _ _ _ _).trans (congrArg (up1 _ 106) ?_)
  funext k; by_cases h : k = 94
  · subst h; rfl
  · simp only [upq, h, if_false, mRJ] <;> rfl
theorem gM_95 : gJ (mkM b n s m) (some 106) 95 = some m.n.low := gJ_of (t := 4) (mkM_lt (by decide)) rfl (by decide)
theorem pM_95 {v : Int64} : pJ (mkM b n s m) (some 106) 95 v = some (mkM b n s (MS.mk (m.thrown) (m.length) (m.seatsPaid) (m.seatsHiss) (m.lays) (m.arranged) (m.tape) (m.s) (m.area) (m.kept) (m.keptPaid) (m.keptHiss) (m.isKept) (m.r) (m.h) ((MN.mk (m.n.paidNow) (m.n.hissNow) (m.n.clapping) (m.n.standing) (v) (m.n.high) (m.n.gone) (m.n.cueNext) (m.n.nightHeight) (m.n.nightCarries) (m.n.held) (m.n.claps) (m.n.stand) (m.n.heldLow) (m.n.heldHigh))) (m.c))) := by
  rw [pJ_of (t := 4) (by decide) (mkM_lt (by decide)) rfl (by decide)]
  refine congrArg some (mSJ_eq rfl rfl rfl ?_ rfl)
  refine (up2_row _ _ _ _ _).trans (congrArg (up1 _ 106) ?_)
  funext k; by_cases h : k = 95
  · subst h; rfl
  · simp only [upq, h, if_false, mRJ] <;> rfl
theorem gM_96 : gJ (mkM b n s m) (some 106) 96 = some m.n.high := gJ_of (t := 4) (mkM_lt (by decide)) rfl (by decide)
theorem pM_96 {v : Int64} : pJ (mkM b n s m) (some 106) 96 v = some (mkM b n s (MS.mk (m.thrown) (m.length) (m.seatsPaid) (m.seatsHiss) (m.lays) (m.arranged) (m.tape) (m.s) (m.area) (m.kept) (m.keptPaid) (m.keptHiss) (m.isKept) (m.r) (m.h) ((MN.mk (m.n.paidNow) (m.n.hissNow) (m.n.clapping) (m.n.standing) (m.n.low) (v) (m.n.gone) (m.n.cueNext) (m.n.nightHeight) (m.n.nightCarries) (m.n.held) (m.n.claps) (m.n.stand) (m.n.heldLow) (m.n.heldHigh))) (m.c))) := by
  rw [pJ_of (t := 4) (by decide) (mkM_lt (by decide)) rfl (by decide)]
  refine congrArg some (mSJ_eq rfl rfl rfl ?_ rfl)
  refine (up2_row _ _ _ _ _).trans (congrArg (up1 _ 106) ?_)
  funext k; by_cases h : k = 96
  · subst h; rfl
  · simp only [upq, h, if_false, mRJ] <;> rfl
theorem gM_97 : gI (mkM b n s m) (some 106) 97 = some m.n.gone := gI_of (t := 4) (mkM_lt (by decide)) rfl (by decide)
theorem pM_97 {v : Int32} : pI (mkM b n s m) (some 106) 97 v = some (mkM b n s (MS.mk (m.thrown) (m.length) (m.seatsPaid) (m.seatsHiss) (m.lays) (m.arranged) (m.tape) (m.s) (m.area) (m.kept) (m.keptPaid) (m.keptHiss) (m.isKept) (m.r) (m.h) ((MN.mk (m.n.paidNow) (m.n.hissNow) (m.n.clapping) (m.n.standing) (m.n.low) (m.n.high) (v) (m.n.cueNext) (m.n.nightHeight) (m.n.nightCarries) (m.n.held) (m.n.claps) (m.n.stand) (m.n.heldLow) (m.n.heldHigh))) (m.c))) := by
  rw [pI_of (t := 4) (by decide) (mkM_lt (by decide)) rfl (by decide) (Or.inl (by decide))]
  refine congrArg some (mSI_eq rfl rfl ?_ rfl)
  refine (up2_row _ _ _ _ _).trans (congrArg (up1 _ 106) ?_)
  funext k; by_cases h : k = 97
  · subst h; rfl
  · simp only [upq, h, if_false, mRI] <;> rfl
theorem gM_98 : gI (mkM b n s m) (some 106) 98 = some m.n.cueNext := gI_of (t := 4) (mkM_lt (by decide)) rfl (by decide)
theorem pM_98 {v : Int32} : pI (mkM b n s m) (some 106) 98 v = some (mkM b n s (MS.mk (m.thrown) (m.length) (m.seatsPaid) (m.seatsHiss) (m.lays) (m.arranged) (m.tape) (m.s) (m.area) (m.kept) (m.keptPaid) (m.keptHiss) (m.isKept) (m.r) (m.h) ((MN.mk (m.n.paidNow) (m.n.hissNow) (m.n.clapping) (m.n.standing) (m.n.low) (m.n.high) (m.n.gone) (v) (m.n.nightHeight) (m.n.nightCarries) (m.n.held) (m.n.claps) (m.n.stand) (m.n.heldLow) (m.n.heldHigh))) (m.c))) := by
  rw [pI_of (t := 4) (by decide) (mkM_lt (by decide)) rfl (by decide) (Or.inl (by decide))]
  refine congrArg some (mSI_eq rfl rfl ?_ rfl)
  refine (up2_row _ _ _ _ _).trans (congrArg (up1 _ 106) ?_)
  funext k; by_cases h : k = 98
  · subst h; rfl
  · simp only [upq, h, if_false, mRI] <;> rfl
theorem gM_99 : gI (mkM b n s m) (some 106) 99 = some m.n.nightHeight := gI_of (t := 4) (mkM_lt (by decide)) rfl (by decide)
theorem pM_99 {v : Int32} : pI (mkM b n s m) (some 106) 99 v = some (mkM b n s (MS.mk (m.thrown) (m.length) (m.seatsPaid) (m.seatsHiss) (m.lays) (m.arranged) (m.tape) (m.s) (m.area) (m.kept) (m.keptPaid) (m.keptHiss) (m.isKept) (m.r) (m.h) ((MN.mk (m.n.paidNow) (m.n.hissNow) (m.n.clapping) (m.n.standing) (m.n.low) (m.n.high) (m.n.gone) (m.n.cueNext) (v) (m.n.nightCarries) (m.n.held) (m.n.claps) (m.n.stand) (m.n.heldLow) (m.n.heldHigh))) (m.c))) := by
  rw [pI_of (t := 4) (by decide) (mkM_lt (by decide)) rfl (by decide) (Or.inl (by decide))]
  refine congrArg some (mSI_eq rfl rfl ?_ rfl)
  refine (up2_row _ _ _ _ _).trans (congrArg (up1 _ 106) ?_)
  funext k; by_cases h : k = 99
  · subst h; rfl
  · simp only [upq, h, if_false, mRI] <;> rfl
theorem gM_100 : gI (mkM b n s m) (some 106) 100 = some m.n.nightCarries := gI_of (t := 4) (mkM_lt (by decide)) rfl (by decide)
theorem pM_100 {v : Int32} (h : v = 0 ∨ v = 1) : pI (mkM b n s m) (some 106) 100 v = some (mkM b n s (MS.mk (m.thrown) (m.length) (m.seatsPaid) (m.seatsHiss) (m.lays) (m.arranged) (m.tape) (m.s) (m.area) (m.kept) (m.keptPaid) (m.keptHiss) (m.isKept) (m.r) (m.h) ((MN.mk (m.n.paidNow) (m.n.hissNow) (m.n.clapping) (m.n.standing) (m.n.low) (m.n.high) (m.n.gone) (m.n.cueNext) (m.n.nightHeight) (v) (m.n.held) (m.n.claps) (m.n.stand) (m.n.heldLow) (m.n.heldHigh))) (m.c))) := by
  rw [pI_of (t := 4) (by decide) (mkM_lt (by decide)) rfl (by decide) (Or.inr (Or.inl ⟨by decide, h⟩))]
  refine congrArg some (mSI_eq rfl rfl ?_ rfl)
  refine (up2_row _ _ _ _ _).trans (congrArg (up1 _ 106) ?_)
  funext k; by_cases h : k = 100
  · subst h; rfl
  · simp only [upq, h, if_false, mRI] <;> rfl
theorem gM_102 : gI (mkM b n s m) (some 106) 102 = some m.c.askedMany := gI_of (t := 4) (mkM_lt (by decide)) rfl (by decide)
theorem pM_102 {v : Int32} : pI (mkM b n s m) (some 106) 102 v = some (mkM b n s (MS.mk (m.thrown) (m.length) (m.seatsPaid) (m.seatsHiss) (m.lays) (m.arranged) (m.tape) (m.s) (m.area) (m.kept) (m.keptPaid) (m.keptHiss) (m.isKept) (m.r) (m.h) (m.n) ((MC.mk (v) (m.c.bought) (m.c.worthMany) (m.c.allOrders) (m.c.hasSides) (m.c.seenClaps) (m.c.seenStand) (m.c.seenAll) (m.c.beganA) (m.c.beganB) (m.c.seed) (m.c.asked) (m.c.carried) (m.c.heights) (m.c.worths) (m.c.side) (m.c.otherClaps) (m.c.otherStand))))) := by
  rw [pI_of (t := 4) (by decide) (mkM_lt (by decide)) rfl (by decide) (Or.inl (by decide))]
  refine congrArg some (mSI_eq rfl rfl ?_ rfl)
  refine (up2_row _ _ _ _ _).trans (congrArg (up1 _ 106) ?_)
  funext k; by_cases h : k = 102
  · subst h; rfl
  · simp only [upq, h, if_false, mRI] <;> rfl
theorem gM_103 : gI (mkM b n s m) (some 106) 103 = some m.c.bought := gI_of (t := 4) (mkM_lt (by decide)) rfl (by decide)
theorem pM_103 {v : Int32} : pI (mkM b n s m) (some 106) 103 v = some (mkM b n s (MS.mk (m.thrown) (m.length) (m.seatsPaid) (m.seatsHiss) (m.lays) (m.arranged) (m.tape) (m.s) (m.area) (m.kept) (m.keptPaid) (m.keptHiss) (m.isKept) (m.r) (m.h) (m.n) ((MC.mk (m.c.askedMany) (v) (m.c.worthMany) (m.c.allOrders) (m.c.hasSides) (m.c.seenClaps) (m.c.seenStand) (m.c.seenAll) (m.c.beganA) (m.c.beganB) (m.c.seed) (m.c.asked) (m.c.carried) (m.c.heights) (m.c.worths) (m.c.side) (m.c.otherClaps) (m.c.otherStand))))) := by
  rw [pI_of (t := 4) (by decide) (mkM_lt (by decide)) rfl (by decide) (Or.inl (by decide))]
  refine congrArg some (mSI_eq rfl rfl ?_ rfl)
  refine (up2_row _ _ _ _ _).trans (congrArg (up1 _ 106) ?_)
  funext k; by_cases h : k = 103
  · subst h; rfl
  · simp only [upq, h, if_false, mRI] <;> rfl
theorem gM_107 : gI (mkM b n s m) (some 106) 107 = some m.c.worthMany := gI_of (t := 4) (mkM_lt (by decide)) rfl (by decide)
theorem pM_107 {v : Int32} : pI (mkM b n s m) (some 106) 107 v = some (mkM b n s (MS.mk (m.thrown) (m.length) (m.seatsPaid) (m.seatsHiss) (m.lays) (m.arranged) (m.tape) (m.s) (m.area) (m.kept) (m.keptPaid) (m.keptHiss) (m.isKept) (m.r) (m.h) (m.n) ((MC.mk (m.c.askedMany) (m.c.bought) (v) (m.c.allOrders) (m.c.hasSides) (m.c.seenClaps) (m.c.seenStand) (m.c.seenAll) (m.c.beganA) (m.c.beganB) (m.c.seed) (m.c.asked) (m.c.carried) (m.c.heights) (m.c.worths) (m.c.side) (m.c.otherClaps) (m.c.otherStand))))) := by
  rw [pI_of (t := 4) (by decide) (mkM_lt (by decide)) rfl (by decide) (Or.inl (by decide))]
  refine congrArg some (mSI_eq rfl rfl ?_ rfl)
  refine (up2_row _ _ _ _ _).trans (congrArg (up1 _ 106) ?_)
  funext k; by_cases h : k = 107
  · subst h; rfl
  · simp only [upq, h, if_false, mRI] <;> rfl
theorem gM_108 : gJ (mkM b n s m) (some 106) 108 = some m.c.allOrders := gJ_of (t := 4) (mkM_lt (by decide)) rfl (by decide)
theorem pM_108 {v : Int64} : pJ (mkM b n s m) (some 106) 108 v = some (mkM b n s (MS.mk (m.thrown) (m.length) (m.seatsPaid) (m.seatsHiss) (m.lays) (m.arranged) (m.tape) (m.s) (m.area) (m.kept) (m.keptPaid) (m.keptHiss) (m.isKept) (m.r) (m.h) (m.n) ((MC.mk (m.c.askedMany) (m.c.bought) (m.c.worthMany) (v) (m.c.hasSides) (m.c.seenClaps) (m.c.seenStand) (m.c.seenAll) (m.c.beganA) (m.c.beganB) (m.c.seed) (m.c.asked) (m.c.carried) (m.c.heights) (m.c.worths) (m.c.side) (m.c.otherClaps) (m.c.otherStand))))) := by
  rw [pJ_of (t := 4) (by decide) (mkM_lt (by decide)) rfl (by decide)]
  refine congrArg some (mSJ_eq rfl rfl rfl ?_ rfl)
  refine (up2_row _ _ _ _ _).trans (congrArg (up1 _ 106) ?_)
  funext k; by_cases h : k = 108
  · subst h; rfl
  · simp only [upq, h, if_false, mRJ] <;> rfl
theorem gM_110 : gI (mkM b n s m) (some 106) 110 = some m.c.hasSides := gI_of (t := 4) (mkM_lt (by decide)) rfl (by decide)
theorem pM_110 {v : Int32} (h : v = 0 ∨ v = 1) : pI (mkM b n s m) (some 106) 110 v = some (mkM b n s (MS.mk (m.thrown) (m.length) (m.seatsPaid) (m.seatsHiss) (m.lays) (m.arranged) (m.tape) (m.s) (m.area) (m.kept) (m.keptPaid) (m.keptHiss) (m.isKept) (m.r) (m.h) (m.n) ((MC.mk (m.c.askedMany) (m.c.bought) (m.c.worthMany) (m.c.allOrders) (v) (m.c.seenClaps) (m.c.seenStand) (m.c.seenAll) (m.c.beganA) (m.c.beganB) (m.c.seed) (m.c.asked) (m.c.carried) (m.c.heights) (m.c.worths) (m.c.side) (m.c.otherClaps) (m.c.otherStand))))) := by
  rw [pI_of (t := 4) (by decide) (mkM_lt (by decide)) rfl (by decide) (Or.inr (Or.inl ⟨by decide, h⟩))]
  refine congrArg some (mSI_eq rfl rfl ?_ rfl)
  refine (up2_row _ _ _ _ _).trans (congrArg (up1 _ 106) ?_)
  funext k; by_cases h : k = 110
  · subst h; rfl
  · simp only [upq, h, if_false, mRI] <;> rfl
theorem gM_111 : gJ (mkM b n s m) (some 106) 111 = some m.c.seenClaps := gJ_of (t := 4) (mkM_lt (by decide)) rfl (by decide)
theorem pM_111 {v : Int64} : pJ (mkM b n s m) (some 106) 111 v = some (mkM b n s (MS.mk (m.thrown) (m.length) (m.seatsPaid) (m.seatsHiss) (m.lays) (m.arranged) (m.tape) (m.s) (m.area) (m.kept) (m.keptPaid) (m.keptHiss) (m.isKept) (m.r) (m.h) (m.n) ((MC.mk (m.c.askedMany) (m.c.bought) (m.c.worthMany) (m.c.allOrders) (m.c.hasSides) (v) (m.c.seenStand) (m.c.seenAll) (m.c.beganA) (m.c.beganB) (m.c.seed) (m.c.asked) (m.c.carried) (m.c.heights) (m.c.worths) (m.c.side) (m.c.otherClaps) (m.c.otherStand))))) := by
  rw [pJ_of (t := 4) (by decide) (mkM_lt (by decide)) rfl (by decide)]
  refine congrArg some (mSJ_eq rfl rfl rfl ?_ rfl)
  refine (up2_row _ _ _ _ _).trans (congrArg (up1 _ 106) ?_)
  funext k; by_cases h : k = 111
  · subst h; rfl
  · simp only [upq, h, if_false, mRJ] <;> rfl
theorem gM_112 : gJ (mkM b n s m) (some 106) 112 = some m.c.seenStand := gJ_of (t := 4) (mkM_lt (by decide)) rfl (by decide)
theorem pM_112 {v : Int64} : pJ (mkM b n s m) (some 106) 112 v = some (mkM b n s (MS.mk (m.thrown) (m.length) (m.seatsPaid) (m.seatsHiss) (m.lays) (m.arranged) (m.tape) (m.s) (m.area) (m.kept) (m.keptPaid) (m.keptHiss) (m.isKept) (m.r) (m.h) (m.n) ((MC.mk (m.c.askedMany) (m.c.bought) (m.c.worthMany) (m.c.allOrders) (m.c.hasSides) (m.c.seenClaps) (v) (m.c.seenAll) (m.c.beganA) (m.c.beganB) (m.c.seed) (m.c.asked) (m.c.carried) (m.c.heights) (m.c.worths) (m.c.side) (m.c.otherClaps) (m.c.otherStand))))) := by
  rw [pJ_of (t := 4) (by decide) (mkM_lt (by decide)) rfl (by decide)]
  refine congrArg some (mSJ_eq rfl rfl rfl ?_ rfl)
  refine (up2_row _ _ _ _ _).trans (congrArg (up1 _ 106) ?_)
  funext k; by_cases h : k = 112
  · subst h; rfl
  · simp only [upq, h, if_false, mRJ] <;> rfl
theorem gM_113 : gJ (mkM b n s m) (some 106) 113 = some m.c.seenAll := gJ_of (t := 4) (mkM_lt (by decide)) rfl (by decide)
theorem pM_113 {v : Int64} : pJ (mkM b n s m) (some 106) 113 v = some (mkM b n s (MS.mk (m.thrown) (m.length) (m.seatsPaid) (m.seatsHiss) (m.lays) (m.arranged) (m.tape) (m.s) (m.area) (m.kept) (m.keptPaid) (m.keptHiss) (m.isKept) (m.r) (m.h) (m.n) ((MC.mk (m.c.askedMany) (m.c.bought) (m.c.worthMany) (m.c.allOrders) (m.c.hasSides) (m.c.seenClaps) (m.c.seenStand) (v) (m.c.beganA) (m.c.beganB) (m.c.seed) (m.c.asked) (m.c.carried) (m.c.heights) (m.c.worths) (m.c.side) (m.c.otherClaps) (m.c.otherStand))))) := by
  rw [pJ_of (t := 4) (by decide) (mkM_lt (by decide)) rfl (by decide)]
  refine congrArg some (mSJ_eq rfl rfl rfl ?_ rfl)
  refine (up2_row _ _ _ _ _).trans (congrArg (up1 _ 106) ?_)
  funext k; by_cases h : k = 113
  · subst h; rfl
  · simp only [upq, h, if_false, mRJ] <;> rfl
theorem gM_114 : gI (mkM b n s m) (some 106) 114 = some m.c.beganA := gI_of (t := 4) (mkM_lt (by decide)) rfl (by decide)
theorem pM_114 {v : Int32} : pI (mkM b n s m) (some 106) 114 v = some (mkM b n s (MS.mk (m.thrown) (m.length) (m.seatsPaid) (m.seatsHiss) (m.lays) (m.arranged) (m.tape) (m.s) (m.area) (m.kept) (m.keptPaid) (m.keptHiss) (m.isKept) (m.r) (m.h) (m.n) ((MC.mk (m.c.askedMany) (m.c.bought) (m.c.worthMany) (m.c.allOrders) (m.c.hasSides) (m.c.seenClaps) (m.c.seenStand) (m.c.seenAll) (v) (m.c.beganB) (m.c.seed) (m.c.asked) (m.c.carried) (m.c.heights) (m.c.worths) (m.c.side) (m.c.otherClaps) (m.c.otherStand))))) := by
  rw [pI_of (t := 4) (by decide) (mkM_lt (by decide)) rfl (by decide) (Or.inl (by decide))]
  refine congrArg some (mSI_eq rfl rfl ?_ rfl)
  refine (up2_row _ _ _ _ _).trans (congrArg (up1 _ 106) ?_)
  funext k; by_cases h : k = 114
  · subst h; rfl
  · simp only [upq, h, if_false, mRI] <;> rfl
theorem gM_115 : gI (mkM b n s m) (some 106) 115 = some m.c.beganB := gI_of (t := 4) (mkM_lt (by decide)) rfl (by decide)
theorem pM_115 {v : Int32} : pI (mkM b n s m) (some 106) 115 v = some (mkM b n s (MS.mk (m.thrown) (m.length) (m.seatsPaid) (m.seatsHiss) (m.lays) (m.arranged) (m.tape) (m.s) (m.area) (m.kept) (m.keptPaid) (m.keptHiss) (m.isKept) (m.r) (m.h) (m.n) ((MC.mk (m.c.askedMany) (m.c.bought) (m.c.worthMany) (m.c.allOrders) (m.c.hasSides) (m.c.seenClaps) (m.c.seenStand) (m.c.seenAll) (m.c.beganA) (v) (m.c.seed) (m.c.asked) (m.c.carried) (m.c.heights) (m.c.worths) (m.c.side) (m.c.otherClaps) (m.c.otherStand))))) := by
  rw [pI_of (t := 4) (by decide) (mkM_lt (by decide)) rfl (by decide) (Or.inl (by decide))]
  refine congrArg some (mSI_eq rfl rfl ?_ rfl)
  refine (up2_row _ _ _ _ _).trans (congrArg (up1 _ 106) ?_)
  funext k; by_cases h : k = 115
  · subst h; rfl
  · simp only [upq, h, if_false, mRI] <;> rfl
theorem gM_118 : gI (mkM b n s m) (some 106) 118 = some m.arranged := gI_of (t := 4) (mkM_lt (by decide)) rfl (by decide)
theorem pM_118 {v : Int32} : pI (mkM b n s m) (some 106) 118 v = some (mkM b n s (MS.mk (m.thrown) (m.length) (m.seatsPaid) (m.seatsHiss) (m.lays) (v) (m.tape) (m.s) (m.area) (m.kept) (m.keptPaid) (m.keptHiss) (m.isKept) (m.r) (m.h) (m.n) (m.c))) := by
  rw [pI_of (t := 4) (by decide) (mkM_lt (by decide)) rfl (by decide) (Or.inl (by decide))]
  refine congrArg some (mSI_eq rfl rfl ?_ rfl)
  refine (up2_row _ _ _ _ _).trans (congrArg (up1 _ 106) ?_)
  funext k; by_cases h : k = 118
  · subst h; rfl
  · simp only [upq, h, if_false, mRI] <;> rfl
theorem gM_119 : gI (mkM b n s m) (some 106) 119 = some m.c.seed := gI_of (t := 4) (mkM_lt (by decide)) rfl (by decide)
theorem pM_119 {v : Int32} : pI (mkM b n s m) (some 106) 119 v = some (mkM b n s (MS.mk (m.thrown) (m.length) (m.seatsPaid) (m.seatsHiss) (m.lays) (m.arranged) (m.tape) (m.s) (m.area) (m.kept) (m.keptPaid) (m.keptHiss) (m.isKept) (m.r) (m.h) (m.n) ((MC.mk (m.c.askedMany) (m.c.bought) (m.c.worthMany) (m.c.allOrders) (m.c.hasSides) (m.c.seenClaps) (m.c.seenStand) (m.c.seenAll) (m.c.beganA) (m.c.beganB) (v) (m.c.asked) (m.c.carried) (m.c.heights) (m.c.worths) (m.c.side) (m.c.otherClaps) (m.c.otherStand))))) := by
  rw [pI_of (t := 4) (by decide) (mkM_lt (by decide)) rfl (by decide) (Or.inl (by decide))]
  refine congrArg some (mSI_eq rfl rfl ?_ rfl)
  refine (up2_row _ _ _ _ _).trans (congrArg (up1 _ 106) ?_)
  funext k; by_cases h : k = 119
  · subst h; rfl
  · simp only [upq, h, if_false, mRI] <;> rfl
theorem gM_56 : gA (mkM b n s m) (some 106) 56 = some (some 107) := gA_of (t := 4) (mkM_lt (by decide)) rfl (by decide)
theorem aM_107 {i : Int32} : aB (mkM b n s m) (some 107) i = ifx 940 i (m.tape i.toNatClampNeg) := aB_of (mkM_lt (by decide)) (Or.inl rfl) rfl
theorem nM_107 : aN (mkM b n s m) (some 107) = some 940 := aN_of (mkM_lt (by decide)) (t := 100) rfl rfl (by decide)
theorem uM_107 {i : Int32} {v : Int32} : uB (mkM b n s m) (some 107) i v = ifx 940 i (mkM b n s (MS.mk (m.thrown) (m.length) (m.seatsPaid) (m.seatsHiss) (m.lays) (m.arranged) (upq m.tape i.toNatClampNeg v.toInt8.toInt32) (m.s) (m.area) (m.kept) (m.keptPaid) (m.keptHiss) (m.isKept) (m.r) (m.h) (m.n) (m.c))) := by
  rw [uB_of (by decide) (mkM_lt (by decide)) (Or.inl rfl) rfl]
  refine congrArg (ifx _ _) (mSI_eq rfl rfl ?_ rfl)
  exact (up2_nq _ _ _ _ (by decide)).trans (congrArg (fun x => up1 x _ _) ((up2_nq _ _ _ _ (by decide)).trans (congrArg (fun x => up1 x _ _) ((up2_nq _ _ _ _ (by decide)).trans (congrArg (fun x => up1 x _ _) ((up2_nq _ _ _ _ (by decide)).trans (congrArg (fun x => up1 x _ _) ((up2_nq _ _ _ _ (by decide)).trans (congrArg (fun x => up1 x _ _) ((up2_nq _ _ _ _ (by decide)).trans (congrArg (fun x => up1 x _ _) ((up2_nq _ _ _ _ (by decide)).trans (congrArg (fun x => up1 x _ _) ((up2_nq _ _ _ _ (by decide)).trans (congrArg (fun x => up1 x _ _) ((up2_nq _ _ _ _ (by decide)).trans (congrArg (fun x => up1 x _ _) ((up2_nq _ _ _ _ (by decide)).trans (congrArg (fun x => up1 x _ _) ((up2_nq _ _ _ _ (by decide)).trans (congrArg (fun x => up1 x _ _) ((up2_nq _ _ _ _ (by decide)).trans (congrArg (fun x => up1 x _ _) ((up2_nq _ _ _ _ (by decide)).trans (congrArg (fun x => up1 x _ _) (up2_row _ _ _ _ _))))))))))))))))))))))))))
theorem gM_61 : gA (mkM b n s m) (some 106) 61 = some (some 108) := gA_of (t := 4) (mkM_lt (by decide)) rfl (by decide)
theorem aM_108 {i : Int32} : aI (mkM b n s m) (some 108) i = ifx 681 i (m.s i.toNatClampNeg) := aI_of (mkM_lt (by decide)) rfl rfl
theorem nM_108 : aN (mkM b n s m) (some 108) = some 681 := aN_of (mkM_lt (by decide)) (t := 102) rfl rfl (by decide)
theorem uM_108 {i : Int32} {v : Int32} : uI (mkM b n s m) (some 108) i v = ifx 681 i (mkM b n s (MS.mk (m.thrown) (m.length) (m.seatsPaid) (m.seatsHiss) (m.lays) (m.arranged) (m.tape) (upq m.s i.toNatClampNeg v) (m.area) (m.kept) (m.keptPaid) (m.keptHiss) (m.isKept) (m.r) (m.h) (m.n) (m.c))) := by
  rw [uI_of (by decide) (mkM_lt (by decide)) rfl rfl]
  refine congrArg (ifx _ _) (mSI_eq rfl rfl ?_ rfl)
  exact (up2_nq _ _ _ _ (by decide)).trans (congrArg (fun x => up1 x _ _) ((up2_nq _ _ _ _ (by decide)).trans (congrArg (fun x => up1 x _ _) ((up2_nq _ _ _ _ (by decide)).trans (congrArg (fun x => up1 x _ _) ((up2_nq _ _ _ _ (by decide)).trans (congrArg (fun x => up1 x _ _) ((up2_nq _ _ _ _ (by decide)).trans (congrArg (fun x => up1 x _ _) ((up2_nq _ _ _ _ (by decide)).trans (congrArg (fun x => up1 x _ _) ((up2_nq _ _ _ _ (by decide)).trans (congrArg (fun x => up1 x _ _) ((up2_nq _ _ _ _ (by decide)).trans (congrArg (fun x => up1 x _ _) ((up2_nq _ _ _ _ (by decide)).trans (congrArg (fun x => up1 x _ _) ((up2_nq _ _ _ _ (by decide)).trans (congrArg (fun x => up1 x _ _) ((up2_nq _ _ _ _ (by decide)).trans (congrArg (fun x => up1 x _ _) ((up2_nq _ _ _ _ (by decide)).trans (congrArg (fun x => up1 x _ _) (up2_row _ _ _ _ _))))))))))))))))))))))))
theorem gM_62 : gA (mkM b n s m) (some 106) 62 = some (some 109) := gA_of (t := 4) (mkM_lt (by decide)) rfl (by decide)
theorem aM_109 {i : Int32} : aI (mkM b n s m) (some 109) i = ifx 590 i (m.h.hh i.toNatClampNeg) := aI_of (mkM_lt (by decide)) rfl rfl
theorem nM_109 : aN (mkM b n s m) (some 109) = some 590 := aN_of (mkM_lt (by decide)) (t := 102) rfl rfl (by decide)
theorem uM_109 {i : Int32} {v : Int32} : uI (mkM b n s m) (some 109) i v = ifx 590 i (mkM b n s (MS.mk (m.thrown) (m.length) (m.seatsPaid) (m.seatsHiss) (m.lays) (m.arranged) (m.tape) (m.s) (m.area) (m.kept) (m.keptPaid) (m.keptHiss) (m.isKept) (m.r) ((MH.mk (m.h.lines) (m.h.prices) (m.h.leavings) (m.h.onces) (m.h.codeMany) (m.h.pileMany) (m.h.ones) (m.h.coming) (upq m.h.hh i.toNatClampNeg v) (m.h.newCues) (m.h.code) (m.h.pile))) (m.n) (m.c))) := by
  rw [uI_of (by decide) (mkM_lt (by decide)) rfl rfl]
  refine congrArg (ifx _ _) (mSI_eq rfl rfl ?_ rfl)
  exact (up2_nq _ _ _ _ (by decide)).trans (congrArg (fun x => up1 x _ _) ((up2_nq _ _ _ _ (by decide)).trans (congrArg (fun x => up1 x _ _) ((up2_nq _ _ _ _ (by decide)).trans (congrArg (fun x => up1 x _ _) ((up2_nq _ _ _ _ (by decide)).trans (congrArg (fun x => up1 x _ _) ((up2_nq _ _ _ _ (by decide)).trans (congrArg (fun x => up1 x _ _) ((up2_nq _ _ _ _ (by decide)).trans (congrArg (fun x => up1 x _ _) ((up2_nq _ _ _ _ (by decide)).trans (congrArg (fun x => up1 x _ _) ((up2_nq _ _ _ _ (by decide)).trans (congrArg (fun x => up1 x _ _) ((up2_nq _ _ _ _ (by decide)).trans (congrArg (fun x => up1 x _ _) ((up2_nq _ _ _ _ (by decide)).trans (congrArg (fun x => up1 x _ _) ((up2_nq _ _ _ _ (by decide)).trans (congrArg (fun x => up1 x _ _) (up2_row _ _ _ _ _))))))))))))))))))))))
theorem gM_63 : gA (mkM b n s m) (some 106) 63 = some (some 110) := gA_of (t := 4) (mkM_lt (by decide)) rfl (by decide)
theorem aM_110 {i : Int32} : aI (mkM b n s m) (some 110) i = ifx 90 i (m.h.newCues i.toNatClampNeg) := aI_of (mkM_lt (by decide)) rfl rfl
theorem nM_110 : aN (mkM b n s m) (some 110) = some 90 := aN_of (mkM_lt (by decide)) (t := 102) rfl rfl (by decide)
theorem uM_110 {i : Int32} {v : Int32} : uI (mkM b n s m) (some 110) i v = ifx 90 i (mkM b n s (MS.mk (m.thrown) (m.length) (m.seatsPaid) (m.seatsHiss) (m.lays) (m.arranged) (m.tape) (m.s) (m.area) (m.kept) (m.keptPaid) (m.keptHiss) (m.isKept) (m.r) ((MH.mk (m.h.lines) (m.h.prices) (m.h.leavings) (m.h.onces) (m.h.codeMany) (m.h.pileMany) (m.h.ones) (m.h.coming) (m.h.hh) (upq m.h.newCues i.toNatClampNeg v) (m.h.code) (m.h.pile))) (m.n) (m.c))) := by
  rw [uI_of (by decide) (mkM_lt (by decide)) rfl rfl]
  refine congrArg (ifx _ _) (mSI_eq rfl rfl ?_ rfl)
  exact (up2_nq _ _ _ _ (by decide)).trans (congrArg (fun x => up1 x _ _) ((up2_nq _ _ _ _ (by decide)).trans (congrArg (fun x => up1 x _ _) ((up2_nq _ _ _ _ (by decide)).trans (congrArg (fun x => up1 x _ _) ((up2_nq _ _ _ _ (by decide)).trans (congrArg (fun x => up1 x _ _) ((up2_nq _ _ _ _ (by decide)).trans (congrArg (fun x => up1 x _ _) ((up2_nq _ _ _ _ (by decide)).trans (congrArg (fun x => up1 x _ _) ((up2_nq _ _ _ _ (by decide)).trans (congrArg (fun x => up1 x _ _) ((up2_nq _ _ _ _ (by decide)).trans (congrArg (fun x => up1 x _ _) ((up2_nq _ _ _ _ (by decide)).trans (congrArg (fun x => up1 x _ _) ((up2_nq _ _ _ _ (by decide)).trans (congrArg (fun x => up1 x _ _) (up2_row _ _ _ _ _))))))))))))))))))))
theorem gM_78 : gA (mkM b n s m) (some 106) 78 = some (some 111) := gA_of (t := 4) (mkM_lt (by decide)) rfl (by decide)
theorem aM_111 {i : Int32} : aI (mkM b n s m) (some 111) i = ifx 64 i (m.h.code i.toNatClampNeg) := aI_of (mkM_lt (by decide)) rfl rfl
theorem nM_111 : aN (mkM b n s m) (some 111) = some 64 := aN_of (mkM_lt (by decide)) (t := 102) rfl rfl (by decide)
theorem uM_111 {i : Int32} {v : Int32} : uI (mkM b n s m) (some 111) i v = ifx 64 i (mkM b n s (MS.mk (m.thrown) (m.length) (m.seatsPaid) (m.seatsHiss) (m.lays) (m.arranged) (m.tape) (m.s) (m.area) (m.kept) (m.keptPaid) (m.keptHiss) (m.isKept) (m.r) ((MH.mk (m.h.lines) (m.h.prices) (m.h.leavings) (m.h.onces) (m.h.codeMany) (m.h.pileMany) (m.h.ones) (m.h.coming) (m.h.hh) (m.h.newCues) (upq m.h.code i.toNatClampNeg v) (m.h.pile))) (m.n) (m.c))) := by
  rw [uI_of (by decide) (mkM_lt (by decide)) rfl rfl]
  refine congrArg (ifx _ _) (mSI_eq rfl rfl ?_ rfl)
  exact (up2_nq _ _ _ _ (by decide)).trans (congrArg (fun x => up1 x _ _) ((up2_nq _ _ _ _ (by decide)).trans (congrArg (fun x => up1 x _ _) ((up2_nq _ _ _ _ (by decide)).trans (congrArg (fun x => up1 x _ _) ((up2_nq _ _ _ _ (by decide)).trans (congrArg (fun x => up1 x _ _) ((up2_nq _ _ _ _ (by decide)).trans (congrArg (fun x => up1 x _ _) ((up2_nq _ _ _ _ (by decide)).trans (congrArg (fun x => up1 x _ _) ((up2_nq _ _ _ _ (by decide)).trans (congrArg (fun x => up1 x _ _) ((up2_nq _ _ _ _ (by decide)).trans (congrArg (fun x => up1 x _ _) ((up2_nq _ _ _ _ (by decide)).trans (congrArg (fun x => up1 x _ _) (up2_row _ _ _ _ _))))))))))))))))))
theorem gM_79 : gA (mkM b n s m) (some 106) 79 = some (some 112) := gA_of (t := 4) (mkM_lt (by decide)) rfl (by decide)
theorem aM_112 {i : Int32} : aI (mkM b n s m) (some 112) i = ifx 30 i (m.h.pile i.toNatClampNeg) := aI_of (mkM_lt (by decide)) rfl rfl
theorem nM_112 : aN (mkM b n s m) (some 112) = some 30 := aN_of (mkM_lt (by decide)) (t := 102) rfl rfl (by decide)
theorem uM_112 {i : Int32} {v : Int32} : uI (mkM b n s m) (some 112) i v = ifx 30 i (mkM b n s (MS.mk (m.thrown) (m.length) (m.seatsPaid) (m.seatsHiss) (m.lays) (m.arranged) (m.tape) (m.s) (m.area) (m.kept) (m.keptPaid) (m.keptHiss) (m.isKept) (m.r) ((MH.mk (m.h.lines) (m.h.prices) (m.h.leavings) (m.h.onces) (m.h.codeMany) (m.h.pileMany) (m.h.ones) (m.h.coming) (m.h.hh) (m.h.newCues) (m.h.code) (upq m.h.pile i.toNatClampNeg v))) (m.n) (m.c))) := by
  rw [uI_of (by decide) (mkM_lt (by decide)) rfl rfl]
  refine congrArg (ifx _ _) (mSI_eq rfl rfl ?_ rfl)
  exact (up2_nq _ _ _ _ (by decide)).trans (congrArg (fun x => up1 x _ _) ((up2_nq _ _ _ _ (by decide)).trans (congrArg (fun x => up1 x _ _) ((up2_nq _ _ _ _ (by decide)).trans (congrArg (fun x => up1 x _ _) ((up2_nq _ _ _ _ (by decide)).trans (congrArg (fun x => up1 x _ _) ((up2_nq _ _ _ _ (by decide)).trans (congrArg (fun x => up1 x _ _) ((up2_nq _ _ _ _ (by decide)).trans (congrArg (fun x => up1 x _ _) ((up2_nq _ _ _ _ (by decide)).trans (congrArg (fun x => up1 x _ _) ((up2_nq _ _ _ _ (by decide)).trans (congrArg (fun x => up1 x _ _) (up2_row _ _ _ _ _))))))))))))))))
theorem gM_80 : gA (mkM b n s m) (some 106) 80 = some (some 113) := gA_of (t := 4) (mkM_lt (by decide)) rfl (by decide)
theorem aM_113 {i : Int32} : aB (mkM b n s m) (some 113) i = ifx 64 i (m.n.held i.toNatClampNeg) := aB_of (mkM_lt (by decide)) (Or.inr rfl) rfl
theorem nM_113 : aN (mkM b n s m) (some 113) = some 64 := aN_of (mkM_lt (by decide)) (t := 101) rfl rfl (by decide)
theorem uM_113 {i : Int32} {v : Int32} : uB (mkM b n s m) (some 113) i v = ifx 64 i (mkM b n s (MS.mk (m.thrown) (m.length) (m.seatsPaid) (m.seatsHiss) (m.lays) (m.arranged) (m.tape) (m.s) (m.area) (m.kept) (m.keptPaid) (m.keptHiss) (m.isKept) (m.r) (m.h) ((MN.mk (m.n.paidNow) (m.n.hissNow) (m.n.clapping) (m.n.standing) (m.n.low) (m.n.high) (m.n.gone) (m.n.cueNext) (m.n.nightHeight) (m.n.nightCarries) (upq m.n.held i.toNatClampNeg (nz v)) (m.n.claps) (m.n.stand) (m.n.heldLow) (m.n.heldHigh))) (m.c))) := by
  rw [uB_of (by decide) (mkM_lt (by decide)) (Or.inr rfl) rfl]
  refine congrArg (ifx _ _) (mSI_eq rfl rfl ?_ rfl)
  exact (up2_nq _ _ _ _ (by decide)).trans (congrArg (fun x => up1 x _ _) ((up2_nq _ _ _ _ (by decide)).trans (congrArg (fun x => up1 x _ _) ((up2_nq _ _ _ _ (by decide)).trans (congrArg (fun x => up1 x _ _) ((up2_nq _ _ _ _ (by decide)).trans (congrArg (fun x => up1 x _ _) ((up2_nq _ _ _ _ (by decide)).trans (congrArg (fun x => up1 x _ _) ((up2_nq _ _ _ _ (by decide)).trans (congrArg (fun x => up1 x _ _) ((up2_nq _ _ _ _ (by decide)).trans (congrArg (fun x => up1 x _ _) (up2_row _ _ _ _ _))))))))))))))
theorem gM_84 : gA (mkM b n s m) (some 106) 84 = some (some 114) := gA_of (t := 4) (mkM_lt (by decide)) rfl (by decide)
theorem aM_114 {i : Int32} : aJ (mkM b n s m) (some 114) i = ifx 384 i (m.area i.toNatClampNeg) := aJ_of (mkM_lt (by decide)) rfl rfl
theorem nM_114 : aN (mkM b n s m) (some 114) = some 384 := aN_of (mkM_lt (by decide)) (t := 103) rfl rfl (by decide)
theorem uM_114 {i : Int32} {v : Int64} : uJ (mkM b n s m) (some 114) i v = ifx 384 i (mkM b n s (MS.mk (m.thrown) (m.length) (m.seatsPaid) (m.seatsHiss) (m.lays) (m.arranged) (m.tape) (m.s) (upq m.area i.toNatClampNeg v) (m.kept) (m.keptPaid) (m.keptHiss) (m.isKept) (m.r) (m.h) (m.n) (m.c))) := by
  rw [uJ_of (by decide) (mkM_lt (by decide)) rfl rfl]
  refine congrArg (ifx _ _) (mSJ_eq rfl rfl rfl ?_ rfl)
  exact (up2_nq _ _ _ _ (by decide)).trans (congrArg (fun x => up1 x _ _) ((up2_nq _ _ _ _ (by decide)).trans (congrArg (fun x => up1 x _ _) ((up2_nq _ _ _ _ (by decide)).trans (congrArg (fun x => up1 x _ _) ((up2_nq _ _ _ _ (by decide)).trans (congrArg (fun x => up1 x _ _) ((up2_nq _ _ _ _ (by decide)).trans (congrArg (fun x => up1 x _ _) ((up2_nq _ _ _ _ (by decide)).trans (congrArg (fun x => up1 x _ _) ((up2_nq _ _ _ _ (by decide)).trans (congrArg (fun x => up1 x _ _) ((up2_nq _ _ _ _ (by decide)).trans (congrArg (fun x => up1 x _ _) ((up2_nq _ _ _ _ (by decide)).trans (congrArg (fun x => up1 x _ _) ((up2_nq _ _ _ _ (by decide)).trans (congrArg (fun x => up1 x _ _) (up2_row _ _ _ _ _))))))))))))))))))))
theorem gM_87 : gA (mkM b n s m) (some 106) 87 = some (some 115) := gA_of (t := 4) (mkM_lt (by decide)) rfl (by decide)
theorem aM_115 {i : Int32} : aJ (mkM b n s m) (some 115) i = ifx 601 i (m.n.claps i.toNatClampNeg) := aJ_of (mkM_lt (by decide)) rfl rfl
theorem nM_115 : aN (mkM b n s m) (some 115) = some 601 := aN_of (mkM_lt (by decide)) (t := 103) rfl rfl (by decide)
theorem uM_115 {i : Int32} {v : Int64} : uJ (mkM b n s m) (some 115) i v = ifx 601 i (mkM b n s (MS.mk (m.thrown) (m.length) (m.seatsPaid) (m.seatsHiss) (m.lays) (m.arranged) (m.tape) (m.s) (m.area) (m.kept) (m.keptPaid) (m.keptHiss) (m.isKept) (m.r) (m.h) ((MN.mk (m.n.paidNow) (m.n.hissNow) (m.n.clapping) (m.n.standing) (m.n.low) (m.n.high) (m.n.gone) (m.n.cueNext) (m.n.nightHeight) (m.n.nightCarries) (m.n.held) (upq m.n.claps i.toNatClampNeg v) (m.n.stand) (m.n.heldLow) (m.n.heldHigh))) (m.c))) := by
  rw [uJ_of (by decide) (mkM_lt (by decide)) rfl rfl]
  refine congrArg (ifx _ _) (mSJ_eq rfl rfl rfl ?_ rfl)
  exact (up2_nq _ _ _ _ (by decide)).trans (congrArg (fun x => up1 x _ _) ((up2_nq _ _ _ _ (by decide)).trans (congrArg (fun x => up1 x _ _) ((up2_nq _ _ _ _ (by decide)).trans (congrArg (fun x => up1 x _ _) ((up2_nq _ _ _ _ (by decide)).trans (congrArg (fun x => up1 x _ _) ((up2_nq _ _ _ _ (by decide)).trans (congrArg (fun x => up1 x _ _) ((up2_nq _ _ _ _ (by decide)).trans (congrArg (fun x => up1 x _ _) ((up2_nq _ _ _ _ (by decide)).trans (congrArg (fun x => up1 x _ _) ((up2_nq _ _ _ _ (by decide)).trans (congrArg (fun x => up1 x _ _) ((up2_nq _ _ _ _ (by decide)).trans (congrArg (fun x => up1 x _ _) (up2_row _ _ _ _ _))))))))))))))))))
theorem gM_88 : gA (mkM b n s m) (some 106) 88 = some (some 116) := gA_of (t := 4) (mkM_lt (by decide)) rfl (by decide)
theorem aM_116 {i : Int32} : aJ (mkM b n s m) (some 116) i = ifx 601 i (m.n.stand i.toNatClampNeg) := aJ_of (mkM_lt (by decide)) rfl rfl
theorem nM_116 : aN (mkM b n s m) (some 116) = some 601 := aN_of (mkM_lt (by decide)) (t := 103) rfl rfl (by decide)
theorem uM_116 {i : Int32} {v : Int64} : uJ (mkM b n s m) (some 116) i v = ifx 601 i (mkM b n s (MS.mk (m.thrown) (m.length) (m.seatsPaid) (m.seatsHiss) (m.lays) (m.arranged) (m.tape) (m.s) (m.area) (m.kept) (m.keptPaid) (m.keptHiss) (m.isKept) (m.r) (m.h) ((MN.mk (m.n.paidNow) (m.n.hissNow) (m.n.clapping) (m.n.standing) (m.n.low) (m.n.high) (m.n.gone) (m.n.cueNext) (m.n.nightHeight) (m.n.nightCarries) (m.n.held) (m.n.claps) (upq m.n.stand i.toNatClampNeg v) (m.n.heldLow) (m.n.heldHigh))) (m.c))) := by
  rw [uJ_of (by decide) (mkM_lt (by decide)) rfl rfl]
  refine congrArg (ifx _ _) (mSJ_eq rfl rfl rfl ?_ rfl)
  exact (up2_nq _ _ _ _ (by decide)).trans (congrArg (fun x => up1 x _ _) ((up2_nq _ _ _ _ (by decide)).trans (congrArg (fun x => up1 x _ _) ((up2_nq _ _ _ _ (by decide)).trans (congrArg (fun x => up1 x _ _) ((up2_nq _ _ _ _ (by decide)).trans (congrArg (fun x => up1 x _ _) ((up2_nq _ _ _ _ (by decide)).trans (congrArg (fun x => up1 x _ _) ((up2_nq _ _ _ _ (by decide)).trans (congrArg (fun x => up1 x _ _) ((up2_nq _ _ _ _ (by decide)).trans (congrArg (fun x => up1 x _ _) ((up2_nq _ _ _ _ (by decide)).trans (congrArg (fun x => up1 x _ _) (up2_row _ _ _ _ _))))))))))))))))
theorem gM_89 : gA (mkM b n s m) (some 106) 89 = some (some 117) := gA_of (t := 4) (mkM_lt (by decide)) rfl (by decide)
theorem aM_117 {i : Int32} : aJ (mkM b n s m) (some 117) i = ifx 601 i (m.n.heldLow i.toNatClampNeg) := aJ_of (mkM_lt (by decide)) rfl rfl
theorem nM_117 : aN (mkM b n s m) (some 117) = some 601 := aN_of (mkM_lt (by decide)) (t := 103) rfl rfl (by decide)
theorem uM_117 {i : Int32} {v : Int64} : uJ (mkM b n s m) (some 117) i v = ifx 601 i (mkM b n s (MS.mk (m.thrown) (m.length) (m.seatsPaid) (m.seatsHiss) (m.lays) (m.arranged) (m.tape) (m.s) (m.area) (m.kept) (m.keptPaid) (m.keptHiss) (m.isKept) (m.r) (m.h) ((MN.mk (m.n.paidNow) (m.n.hissNow) (m.n.clapping) (m.n.standing) (m.n.low) (m.n.high) (m.n.gone) (m.n.cueNext) (m.n.nightHeight) (m.n.nightCarries) (m.n.held) (m.n.claps) (m.n.stand) (upq m.n.heldLow i.toNatClampNeg v) (m.n.heldHigh))) (m.c))) := by
  rw [uJ_of (by decide) (mkM_lt (by decide)) rfl rfl]
  refine congrArg (ifx _ _) (mSJ_eq rfl rfl rfl ?_ rfl)
  exact (up2_nq _ _ _ _ (by decide)).trans (congrArg (fun x => up1 x _ _) ((up2_nq _ _ _ _ (by decide)).trans (congrArg (fun x => up1 x _ _) ((up2_nq _ _ _ _ (by decide)).trans (congrArg (fun x => up1 x _ _) ((up2_nq _ _ _ _ (by decide)).trans (congrArg (fun x => up1 x _ _) ((up2_nq _ _ _ _ (by decide)).trans (congrArg (fun x => up1 x _ _) ((up2_nq _ _ _ _ (by decide)).trans (congrArg (fun x => up1 x _ _) ((up2_nq _ _ _ _ (by decide)).trans (congrArg (fun x => up1 x _ _) (up2_row _ _ _ _ _))))))))))))))
theorem gM_90 : gA (mkM b n s m) (some 106) 90 = some (some 118) := gA_of (t := 4) (mkM_lt (by decide)) rfl (by decide)
theorem aM_118 {i : Int32} : aJ (mkM b n s m) (some 118) i = ifx 601 i (m.n.heldHigh i.toNatClampNeg) := aJ_of (mkM_lt (by decide)) rfl rfl
theorem nM_118 : aN (mkM b n s m) (some 118) = some 601 := aN_of (mkM_lt (by decide)) (t := 103) rfl rfl (by decide)
theorem uM_118 {i : Int32} {v : Int64} : uJ (mkM b n s m) (some 118) i v = ifx 601 i (mkM b n s (MS.mk (m.thrown) (m.length) (m.seatsPaid) (m.seatsHiss) (m.lays) (m.arranged) (m.tape) (m.s) (m.area) (m.kept) (m.keptPaid) (m.keptHiss) (m.isKept) (m.r) (m.h) ((MN.mk (m.n.paidNow) (m.n.hissNow) (m.n.clapping) (m.n.standing) (m.n.low) (m.n.high) (m.n.gone) (m.n.cueNext) (m.n.nightHeight) (m.n.nightCarries) (m.n.held) (m.n.claps) (m.n.stand) (m.n.heldLow) (upq m.n.heldHigh i.toNatClampNeg v))) (m.c))) := by
  rw [uJ_of (by decide) (mkM_lt (by decide)) rfl rfl]
  refine congrArg (ifx _ _) (mSJ_eq rfl rfl rfl ?_ rfl)
  exact (up2_nq _ _ _ _ (by decide)).trans (congrArg (fun x => up1 x _ _) ((up2_nq _ _ _ _ (by decide)).trans (congrArg (fun x => up1 x _ _) ((up2_nq _ _ _ _ (by decide)).trans (congrArg (fun x => up1 x _ _) ((up2_nq _ _ _ _ (by decide)).trans (congrArg (fun x => up1 x _ _) ((up2_nq _ _ _ _ (by decide)).trans (congrArg (fun x => up1 x _ _) ((up2_nq _ _ _ _ (by decide)).trans (congrArg (fun x => up1 x _ _) (up2_row _ _ _ _ _))))))))))))
theorem gM_101 : gA (mkM b n s m) (some 106) 101 = some (some 119) := gA_of (t := 4) (mkM_lt (by decide)) rfl (by decide)
theorem aM_119 {i : Int32} : aI (mkM b n s m) (some 119) i = ifx 14 i (m.c.asked i.toNatClampNeg) := aI_of (mkM_lt (by decide)) rfl rfl
theorem nM_119 : aN (mkM b n s m) (some 119) = some 14 := aN_of (mkM_lt (by decide)) (t := 102) rfl rfl (by decide)
theorem uM_119 {i : Int32} {v : Int32} : uI (mkM b n s m) (some 119) i v = ifx 14 i (mkM b n s (MS.mk (m.thrown) (m.length) (m.seatsPaid) (m.seatsHiss) (m.lays) (m.arranged) (m.tape) (m.s) (m.area) (m.kept) (m.keptPaid) (m.keptHiss) (m.isKept) (m.r) (m.h) (m.n) ((MC.mk (m.c.askedMany) (m.c.bought) (m.c.worthMany) (m.c.allOrders) (m.c.hasSides) (m.c.seenClaps) (m.c.seenStand) (m.c.seenAll) (m.c.beganA) (m.c.beganB) (m.c.seed) (upq m.c.asked i.toNatClampNeg v) (m.c.carried) (m.c.heights) (m.c.worths) (m.c.side) (m.c.otherClaps) (m.c.otherStand))))) := by
  rw [uI_of (by decide) (mkM_lt (by decide)) rfl rfl]
  refine congrArg (ifx _ _) (mSI_eq rfl rfl ?_ rfl)
  exact (up2_nq _ _ _ _ (by decide)).trans (congrArg (fun x => up1 x _ _) ((up2_nq _ _ _ _ (by decide)).trans (congrArg (fun x => up1 x _ _) ((up2_nq _ _ _ _ (by decide)).trans (congrArg (fun x => up1 x _ _) ((up2_nq _ _ _ _ (by decide)).trans (congrArg (fun x => up1 x _ _) ((up2_nq _ _ _ _ (by decide)).trans (congrArg (fun x => up1 x _ _) ((up2_nq _ _ _ _ (by decide)).trans (congrArg (fun x => up1 x _ _) (up2_row _ _ _ _ _))))))))))))
theorem gM_104 : gA (mkM b n s m) (some 106) 104 = some (some 120) := gA_of (t := 4) (mkM_lt (by decide)) rfl (by decide)
theorem aM_120 {i : Int32} : aB (mkM b n s m) (some 120) i = ifx 256 i (m.c.carried i.toNatClampNeg) := aB_of (mkM_lt (by decide)) (Or.inr rfl) rfl
theorem nM_120 : aN (mkM b n s m) (some 120) = some 256 := aN_of (mkM_lt (by decide)) (t := 101) rfl rfl (by decide)
theorem uM_120 {i : Int32} {v : Int32} : uB (mkM b n s m) (some 120) i v = ifx 256 i (mkM b n s (MS.mk (m.thrown) (m.length) (m.seatsPaid) (m.seatsHiss) (m.lays) (m.arranged) (m.tape) (m.s) (m.area) (m.kept) (m.keptPaid) (m.keptHiss) (m.isKept) (m.r) (m.h) (m.n) ((MC.mk (m.c.askedMany) (m.c.bought) (m.c.worthMany) (m.c.allOrders) (m.c.hasSides) (m.c.seenClaps) (m.c.seenStand) (m.c.seenAll) (m.c.beganA) (m.c.beganB) (m.c.seed) (m.c.asked) (upq m.c.carried i.toNatClampNeg (nz v)) (m.c.heights) (m.c.worths) (m.c.side) (m.c.otherClaps) (m.c.otherStand))))) := by
  rw [uB_of (by decide) (mkM_lt (by decide)) (Or.inr rfl) rfl]
  refine congrArg (ifx _ _) (mSI_eq rfl rfl ?_ rfl)
  exact (up2_nq _ _ _ _ (by decide)).trans (congrArg (fun x => up1 x _ _) ((up2_nq _ _ _ _ (by decide)).trans (congrArg (fun x => up1 x _ _) ((up2_nq _ _ _ _ (by decide)).trans (congrArg (fun x => up1 x _ _) ((up2_nq _ _ _ _ (by decide)).trans (congrArg (fun x => up1 x _ _) ((up2_nq _ _ _ _ (by decide)).trans (congrArg (fun x => up1 x _ _) (up2_row _ _ _ _ _))))))))))
theorem gM_105 : gA (mkM b n s m) (some 106) 105 = some (some 121) := gA_of (t := 4) (mkM_lt (by decide)) rfl (by decide)
theorem aM_121 {i : Int32} : aI (mkM b n s m) (some 121) i = ifx 256 i (m.c.heights i.toNatClampNeg) := aI_of (mkM_lt (by decide)) rfl rfl
theorem nM_121 : aN (mkM b n s m) (some 121) = some 256 := aN_of (mkM_lt (by decide)) (t := 102) rfl rfl (by decide)
theorem uM_121 {i : Int32} {v : Int32} : uI (mkM b n s m) (some 121) i v = ifx 256 i (mkM b n s (MS.mk (m.thrown) (m.length) (m.seatsPaid) (m.seatsHiss) (m.lays) (m.arranged) (m.tape) (m.s) (m.area) (m.kept) (m.keptPaid) (m.keptHiss) (m.isKept) (m.r) (m.h) (m.n) ((MC.mk (m.c.askedMany) (m.c.bought) (m.c.worthMany) (m.c.allOrders) (m.c.hasSides) (m.c.seenClaps) (m.c.seenStand) (m.c.seenAll) (m.c.beganA) (m.c.beganB) (m.c.seed) (m.c.asked) (m.c.carried) (upq m.c.heights i.toNatClampNeg v) (m.c.worths) (m.c.side) (m.c.otherClaps) (m.c.otherStand))))) := by
  rw [uI_of (by decide) (mkM_lt (by decide)) rfl rfl]
  refine congrArg (ifx _ _) (mSI_eq rfl rfl ?_ rfl)
  exact (up2_nq _ _ _ _ (by decide)).trans (congrArg (fun x => up1 x _ _) ((up2_nq _ _ _ _ (by decide)).trans (congrArg (fun x => up1 x _ _) ((up2_nq _ _ _ _ (by decide)).trans (congrArg (fun x => up1 x _ _) ((up2_nq _ _ _ _ (by decide)).trans (congrArg (fun x => up1 x _ _) (up2_row _ _ _ _ _))))))))
theorem gM_106 : gA (mkM b n s m) (some 106) 106 = some (some 122) := gA_of (t := 4) (mkM_lt (by decide)) rfl (by decide)
theorem aM_122 {i : Int32} : aJ (mkM b n s m) (some 122) i = ifx 8 i (m.c.worths i.toNatClampNeg) := aJ_of (mkM_lt (by decide)) rfl rfl
theorem nM_122 : aN (mkM b n s m) (some 122) = some 8 := aN_of (mkM_lt (by decide)) (t := 103) rfl rfl (by decide)
theorem uM_122 {i : Int32} {v : Int64} : uJ (mkM b n s m) (some 122) i v = ifx 8 i (mkM b n s (MS.mk (m.thrown) (m.length) (m.seatsPaid) (m.seatsHiss) (m.lays) (m.arranged) (m.tape) (m.s) (m.area) (m.kept) (m.keptPaid) (m.keptHiss) (m.isKept) (m.r) (m.h) (m.n) ((MC.mk (m.c.askedMany) (m.c.bought) (m.c.worthMany) (m.c.allOrders) (m.c.hasSides) (m.c.seenClaps) (m.c.seenStand) (m.c.seenAll) (m.c.beganA) (m.c.beganB) (m.c.seed) (m.c.asked) (m.c.carried) (m.c.heights) (upq m.c.worths i.toNatClampNeg v) (m.c.side) (m.c.otherClaps) (m.c.otherStand))))) := by
  rw [uJ_of (by decide) (mkM_lt (by decide)) rfl rfl]
  refine congrArg (ifx _ _) (mSJ_eq rfl rfl rfl ?_ rfl)
  exact (up2_nq _ _ _ _ (by decide)).trans (congrArg (fun x => up1 x _ _) ((up2_nq _ _ _ _ (by decide)).trans (congrArg (fun x => up1 x _ _) ((up2_nq _ _ _ _ (by decide)).trans (congrArg (fun x => up1 x _ _) ((up2_nq _ _ _ _ (by decide)).trans (congrArg (fun x => up1 x _ _) ((up2_nq _ _ _ _ (by decide)).trans (congrArg (fun x => up1 x _ _) (up2_row _ _ _ _ _))))))))))
theorem gM_109 : gA (mkM b n s m) (some 106) 109 = some (some 123) := gA_of (t := 4) (mkM_lt (by decide)) rfl (by decide)
theorem aM_123 {i : Int32} : aI (mkM b n s m) (some 123) i = ifx 3 i (m.c.side i.toNatClampNeg) := aI_of (mkM_lt (by decide)) rfl rfl
theorem nM_123 : aN (mkM b n s m) (some 123) = some 3 := aN_of (mkM_lt (by decide)) (t := 102) rfl rfl (by decide)
theorem uM_123 {i : Int32} {v : Int32} : uI (mkM b n s m) (some 123) i v = ifx 3 i (mkM b n s (MS.mk (m.thrown) (m.length) (m.seatsPaid) (m.seatsHiss) (m.lays) (m.arranged) (m.tape) (m.s) (m.area) (m.kept) (m.keptPaid) (m.keptHiss) (m.isKept) (m.r) (m.h) (m.n) ((MC.mk (m.c.askedMany) (m.c.bought) (m.c.worthMany) (m.c.allOrders) (m.c.hasSides) (m.c.seenClaps) (m.c.seenStand) (m.c.seenAll) (m.c.beganA) (m.c.beganB) (m.c.seed) (m.c.asked) (m.c.carried) (m.c.heights) (m.c.worths) (upq m.c.side i.toNatClampNeg v) (m.c.otherClaps) (m.c.otherStand))))) := by
  rw [uI_of (by decide) (mkM_lt (by decide)) rfl rfl]
  refine congrArg (ifx _ _) (mSI_eq rfl rfl ?_ rfl)
  exact (up2_nq _ _ _ _ (by decide)).trans (congrArg (fun x => up1 x _ _) ((up2_nq _ _ _ _ (by decide)).trans (congrArg (fun x => up1 x _ _) ((up2_nq _ _ _ _ (by decide)).trans (congrArg (fun x => up1 x _ _) (up2_row _ _ _ _ _))))))
theorem gM_116 : gA (mkM b n s m) (some 106) 116 = some (some 124) := gA_of (t := 4) (mkM_lt (by decide)) rfl (by decide)
theorem aM_124 {i : Int32} : aJ (mkM b n s m) (some 124) i = ifx 61 i (m.c.otherClaps i.toNatClampNeg) := aJ_of (mkM_lt (by decide)) rfl rfl
theorem nM_124 : aN (mkM b n s m) (some 124) = some 61 := aN_of (mkM_lt (by decide)) (t := 103) rfl rfl (by decide)
theorem uM_124 {i : Int32} {v : Int64} : uJ (mkM b n s m) (some 124) i v = ifx 61 i (mkM b n s (MS.mk (m.thrown) (m.length) (m.seatsPaid) (m.seatsHiss) (m.lays) (m.arranged) (m.tape) (m.s) (m.area) (m.kept) (m.keptPaid) (m.keptHiss) (m.isKept) (m.r) (m.h) (m.n) ((MC.mk (m.c.askedMany) (m.c.bought) (m.c.worthMany) (m.c.allOrders) (m.c.hasSides) (m.c.seenClaps) (m.c.seenStand) (m.c.seenAll) (m.c.beganA) (m.c.beganB) (m.c.seed) (m.c.asked) (m.c.carried) (m.c.heights) (m.c.worths) (m.c.side) (upq m.c.otherClaps i.toNatClampNeg v) (m.c.otherStand))))) := by
  rw [uJ_of (by decide) (mkM_lt (by decide)) rfl rfl]
  refine congrArg (ifx _ _) (mSJ_eq rfl rfl rfl ?_ rfl)
  exact (up2_nq _ _ _ _ (by decide)).trans (congrArg (fun x => up1 x _ _) ((up2_nq _ _ _ _ (by decide)).trans (congrArg (fun x => up1 x _ _) ((up2_nq _ _ _ _ (by decide)).trans (congrArg (fun x => up1 x _ _) ((up2_nq _ _ _ _ (by decide)).trans (congrArg (fun x => up1 x _ _) (up2_row _ _ _ _ _))))))))
theorem gM_117 : gA (mkM b n s m) (some 106) 117 = some (some 125) := gA_of (t := 4) (mkM_lt (by decide)) rfl (by decide)
theorem aM_125 {i : Int32} : aJ (mkM b n s m) (some 125) i = ifx 61 i (m.c.otherStand i.toNatClampNeg) := aJ_of (mkM_lt (by decide)) rfl rfl
theorem nM_125 : aN (mkM b n s m) (some 125) = some 61 := aN_of (mkM_lt (by decide)) (t := 103) rfl rfl (by decide)
theorem uM_125 {i : Int32} {v : Int64} : uJ (mkM b n s m) (some 125) i v = ifx 61 i (mkM b n s (MS.mk (m.thrown) (m.length) (m.seatsPaid) (m.seatsHiss) (m.lays) (m.arranged) (m.tape) (m.s) (m.area) (m.kept) (m.keptPaid) (m.keptHiss) (m.isKept) (m.r) (m.h) (m.n) ((MC.mk (m.c.askedMany) (m.c.bought) (m.c.worthMany) (m.c.allOrders) (m.c.hasSides) (m.c.seenClaps) (m.c.seenStand) (m.c.seenAll) (m.c.beganA) (m.c.beganB) (m.c.seed) (m.c.asked) (m.c.carried) (m.c.heights) (m.c.worths) (m.c.side) (m.c.otherClaps) (upq m.c.otherStand i.toNatClampNeg v))))) := by
  rw [uJ_of (by decide) (mkM_lt (by decide)) rfl rfl]
  refine congrArg (ifx _ _) (mSJ_eq rfl rfl rfl ?_ rfl)
  exact (up2_nq _ _ _ _ (by decide)).trans (congrArg (fun x => up1 x _ _) ((up2_nq _ _ _ _ (by decide)).trans (congrArg (fun x => up1 x _ _) ((up2_nq _ _ _ _ (by decide)).trans (congrArg (fun x => up1 x _ _) (up2_row _ _ _ _ _))))))
theorem gM_120 : gA (mkM b n s m) (some 106) 120 = some (some 126) := gA_of (t := 4) (mkM_lt (by decide)) rfl (by decide)
theorem aM_126 {i : Int32} : aI (mkM b n s m) (some 126) i = ifx 1362 i (m.kept i.toNatClampNeg) := aI_of (mkM_lt (by decide)) rfl rfl
theorem nM_126 : aN (mkM b n s m) (some 126) = some 1362 := aN_of (mkM_lt (by decide)) (t := 102) rfl rfl (by decide)
theorem uM_126 {i : Int32} {v : Int32} : uI (mkM b n s m) (some 126) i v = ifx 1362 i (mkM b n s (MS.mk (m.thrown) (m.length) (m.seatsPaid) (m.seatsHiss) (m.lays) (m.arranged) (m.tape) (m.s) (m.area) (upq m.kept i.toNatClampNeg v) (m.keptPaid) (m.keptHiss) (m.isKept) (m.r) (m.h) (m.n) (m.c))) := by
  rw [uI_of (by decide) (mkM_lt (by decide)) rfl rfl]
  refine congrArg (ifx _ _) (mSI_eq rfl rfl ?_ rfl)
  exact (up2_nq _ _ _ _ (by decide)).trans (congrArg (fun x => up1 x _ _) ((up2_nq _ _ _ _ (by decide)).trans (congrArg (fun x => up1 x _ _) (up2_row _ _ _ _ _))))
theorem gM_121 : gA (mkM b n s m) (some 106) 121 = some (some 127) := gA_of (t := 4) (mkM_lt (by decide)) rfl (by decide)
theorem aM_127 {i : Int32} : aJ (mkM b n s m) (some 127) i = ifx 2 i (m.keptPaid i.toNatClampNeg) := aJ_of (mkM_lt (by decide)) rfl rfl
theorem nM_127 : aN (mkM b n s m) (some 127) = some 2 := aN_of (mkM_lt (by decide)) (t := 103) rfl rfl (by decide)
theorem uM_127 {i : Int32} {v : Int64} : uJ (mkM b n s m) (some 127) i v = ifx 2 i (mkM b n s (MS.mk (m.thrown) (m.length) (m.seatsPaid) (m.seatsHiss) (m.lays) (m.arranged) (m.tape) (m.s) (m.area) (m.kept) (upq m.keptPaid i.toNatClampNeg v) (m.keptHiss) (m.isKept) (m.r) (m.h) (m.n) (m.c))) := by
  rw [uJ_of (by decide) (mkM_lt (by decide)) rfl rfl]
  refine congrArg (ifx _ _) (mSJ_eq rfl rfl rfl ?_ rfl)
  exact (up2_nq _ _ _ _ (by decide)).trans (congrArg (fun x => up1 x _ _) ((up2_nq _ _ _ _ (by decide)).trans (congrArg (fun x => up1 x _ _) (up2_row _ _ _ _ _))))
theorem gM_122 : gA (mkM b n s m) (some 106) 122 = some (some 128) := gA_of (t := 4) (mkM_lt (by decide)) rfl (by decide)
theorem aM_128 {i : Int32} : aJ (mkM b n s m) (some 128) i = ifx 2 i (m.keptHiss i.toNatClampNeg) := aJ_of (mkM_lt (by decide)) rfl rfl
theorem nM_128 : aN (mkM b n s m) (some 128) = some 2 := aN_of (mkM_lt (by decide)) (t := 103) rfl rfl (by decide)
theorem uM_128 {i : Int32} {v : Int64} : uJ (mkM b n s m) (some 128) i v = ifx 2 i (mkM b n s (MS.mk (m.thrown) (m.length) (m.seatsPaid) (m.seatsHiss) (m.lays) (m.arranged) (m.tape) (m.s) (m.area) (m.kept) (m.keptPaid) (upq m.keptHiss i.toNatClampNeg v) (m.isKept) (m.r) (m.h) (m.n) (m.c))) := by
  rw [uJ_of (by decide) (mkM_lt (by decide)) rfl rfl]
  refine congrArg (ifx _ _) (mSJ_eq rfl rfl rfl ?_ rfl)
  exact (up2_nq _ _ _ _ (by decide)).trans (congrArg (fun x => up1 x _ _) (up2_row _ _ _ _ _))
theorem gM_123 : gA (mkM b n s m) (some 106) 123 = some (some 129) := gA_of (t := 4) (mkM_lt (by decide)) rfl (by decide)
theorem aM_129 {i : Int32} : aB (mkM b n s m) (some 129) i = ifx 2 i (m.isKept i.toNatClampNeg) := aB_of (mkM_lt (by decide)) (Or.inr rfl) rfl
theorem nM_129 : aN (mkM b n s m) (some 129) = some 2 := aN_of (mkM_lt (by decide)) (t := 101) rfl rfl (by decide)
theorem uM_129 {i : Int32} {v : Int32} : uB (mkM b n s m) (some 129) i v = ifx 2 i (mkM b n s (MS.mk (m.thrown) (m.length) (m.seatsPaid) (m.seatsHiss) (m.lays) (m.arranged) (m.tape) (m.s) (m.area) (m.kept) (m.keptPaid) (m.keptHiss) (upq m.isKept i.toNatClampNeg (nz v)) (m.r) (m.h) (m.n) (m.c))) := by
  rw [uB_of (by decide) (mkM_lt (by decide)) (Or.inr rfl) rfl]
  refine congrArg (ifx _ _) (mSI_eq rfl rfl ?_ rfl)
  exact (up2_nq _ _ _ _ (by decide)).trans (congrArg (fun x => up1 x _ _) (up2_row _ _ _ _ _))
theorem ivM {α : Type} {x : Option α} : iv (mkM b n s m) (some 106) [4] x = x := by
  show (if 106 < n + 130 ∧ [4].contains 4 = true then x else none) = x
  exact if_pos ⟨by omega, rfl⟩
end MkM
