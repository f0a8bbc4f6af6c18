set_option linter.unusedVariables false
set_option linter.unusedSimpArgs false
abbrev NX : Type := (Int32) × (Int32) × (Int32) × (Int64) × (Int64) × (Int64) × (Rf) × (Rf) × (Bool) × (Nat → Int32) × (Nat → Int32) × (Nat → Int32) × (Nat → Int32) × (Nat → Int64) × (Nat → Int64)
def NX.mk (now : Int32) (next : Int32) (isStill : Int32) (paid : Int64) (hiss : Int64) (ahead : Int64) (h : Rf) (cues : Rf) (sw : Bool) (was : Nat → Int32) (level : Nat → Int32) (wasHeld : Nat → Int32) (held : Nat → Int32) (wasWith : Nat → Int64) (wth : Nat → Int64) : NX := (now, next, isStill, paid, hiss, ahead, h, cues, sw, was, level, wasHeld, held, wasWith, wth)
def NX.now (z : NX) : Int32 := z.1
def NX.next (z : NX) : Int32 := z.2.1
def NX.isStill (z : NX) : Int32 := z.2.2.1
def NX.paid (z : NX) : Int64 := z.2.2.2.1
def NX.hiss (z : NX) : Int64 := z.2.2.2.2.1
def NX.ahead (z : NX) : Int64 := z.2.2.2.2.2.1
def NX.h (z : NX) : Rf := z.2.2.2.2.2.2.1
def NX.cues (z : NX) : Rf := z.2.2.2.2.2.2.2.1
def NX.sw (z : NX) : Bool := z.2.2.2.2.2.2.2.2.1
def NX.was (z : NX) : Nat → Int32 := z.2.2.2.2.2.2.2.2.2.1
def NX.level (z : NX) : Nat → Int32 := z.2.2.2.2.2.2.2.2.2.2.1
def NX.wasHeld (z : NX) : Nat → Int32 := z.2.2.2.2.2.2.2.2.2.2.2.1
def NX.held (z : NX) : Nat → Int32 := z.2.2.2.2.2.2.2.2.2.2.2.2.1
def NX.wasWith (z : NX) : Nat → Int64 := z.2.2.2.2.2.2.2.2.2.2.2.2.2.1
def NX.wth (z : NX) : Nat → Int64 := z.2.2.2.2.2.2.2.2.2.2.2.2.2.2
theorem mk_NX_now {v0 : Int32} {v1 : Int32} {v2 : Int32} {v3 : Int64} {v4 : Int64} {v5 : Int64} {v6 : Rf} {v7 : Rf} {v8 : Bool} {v9 : Nat → Int32} {v10 : Nat → Int32} {v11 : Nat → Int32} {v12 : Nat → Int32} {v13 : Nat → Int64} {v14 : Nat → Int64} : (NX.mk v0 v1 v2 v3 v4 v5 v6 v7 v8 v9 v10 v11 v12 v13 v14).now = v0 := rfl
theorem mk_NX_next {v0 : Int32} {v1 : Int32} {v2 : Int32} {v3 : Int64} {v4 : Int64} {v5 : Int64} {v6 : Rf} {v7 : Rf} {v8 : Bool} {v9 : Nat → Int32} {v10 : Nat → Int32} {v11 : Nat → Int32} {v12 : Nat → Int32} {v13 : Nat → Int64} {v14 : Nat → Int64} : (NX.mk v0 v1 v2 v3 v4 v5 v6 v7 v8 v9 v10 v11 v12 v13 v14).next = v1 := rfl
theorem mk_NX_isStill {v0 : Int32} {v1 : Int32} {v2 : Int32} {v3 : Int64} {v4 : Int64} {v5 : Int64} {v6 : Rf} {v7 : Rf} {v8 : Bool} {v9 : Nat → Int32} {v10 : Nat → Int32} {v11 : Nat → Int32} {v12 : Nat → Int32} {v13 : Nat → Int64} {v14 : Nat → Int64} : (NX.mk v0 v1 v2 v3 v4 v5 v6 v7 v8 v9 v10 v11 v12 v13 v14).isStill = v2 := rfl
theorem mk_NX_paid {v0 : Int32} {v1 : Int32} {v2 : Int32} {v3 : Int64} {v4 : Int64} {v5 : Int64} {v6 : Rf} {v7 : Rf} {v8 : Bool} {v9 : Nat → Int32} {v10 : Nat → Int32} {v11 : Nat → Int32} {v12 : Nat → Int32} {v13 : Nat → Int64} {v14 : Nat → Int64} : (NX.mk v0 v1 v2 v3 v4 v5 v6 v7 v8 v9 v10 v11 v12 v13 v14).paid = v3 := rfl
theorem mk_NX_hiss {v0 : Int32} {v1 : Int32} {v2 : Int32} {v3 : Int64} {v4 : Int64} {v5 : Int64} {v6 : Rf} {v7 : Rf} {v8 : Bool} {v9 : Nat → Int32} {v10 : Nat → Int32} {v11 : Nat → Int32} {v12 : Nat → Int32} {v13 : Nat → Int64} {v14 : Nat → Int64} : (NX.mk v0 v1 v2 v3 v4 v5 v6 v7 v8 v9 v10 v11 v12 v13 v14).hiss = v4 := rfl
theorem mk_NX_ahead {v0 : Int32} {v1 : Int32} {v2 : Int32} {v3 : Int64} {v4 : Int64} {v5 : Int64} {v6 : Rf} {v7 : Rf} {v8 : Bool} {v9 : Nat → Int32} {v10 : Nat → Int32} {v11 : Nat → Int32} {v12 : Nat → Int32} {v13 : Nat → Int64} {v14 : Nat → Int64} : (NX.mk v0 v1 v2 v3 v4 v5 v6 v7 v8 v9 v10 v11 v12 v13 v14).ahead = v5 := rfl
theorem mk_NX_h {v0 : Int32} {v1 : Int32} {v2 : Int32} {v3 : Int64} {v4 : Int64} {v5 : Int64} {v6 : Rf} {v7 : Rf} {v8 : Bool} {v9 : Nat → Int32} {v10 : Nat → Int32} {v11 : Nat → Int32} {v12 : Nat → Int32} {v13 : Nat → Int64} {v14 : Nat → Int64} : (NX.mk v0 v1 v2 v3 v4 v5 v6 v7 v8 v9 v10 v11 v12 v13 v14).h = v6 := rfl
theorem mk_NX_cues {v0 : Int32} {v1 : Int32} {v2 : Int32} {v3 : Int64} {v4 : Int64} {v5 : Int64} {v6 : Rf} {v7 : Rf} {v8 : Bool} {v9 : Nat → Int32} {v10 : Nat → Int32} {v11 : Nat → Int32} {v12 : Nat → Int32} {v13 : Nat → Int64} {v14 : Nat → Int64} : (NX.mk v0 v1 v2 v3 v4 v5 v6 v7 v8 v9 v10 v11 v12 v13 v14).cues = v7 := rfl
theorem mk_NX_sw {v0 : Int32} {v1 : Int32} {v2 : Int32} {v3 : Int64} {v4 : Int64} {v5 : Int64} {v6 : Rf} {v7 : Rf} {v8 : Bool} {v9 : Nat → Int32} {v10 : Nat → Int32} {v11 : Nat → Int32} {v12 : Nat → Int32} {v13 : Nat → Int64} {v14 : Nat → Int64} : (NX.mk v0 v1 v2 v3 v4 v5 v6 v7 v8 v9 v10 v11 v12 v13 v14).sw = v8 := rfl
theorem mk_NX_was {v0 : Int32} {v1 : Int32} {v2 : Int32} {v3 : Int64} {v4 : Int64} {v5 : Int64} {v6 : Rf} {v7 : Rf} {v8 : Bool} {v9 : Nat → Int32} {v10 : Nat → Int32} {v11 : Nat → Int32} {v12 : Nat → Int32} {v13 : Nat → Int64} {v14 : Nat → Int64} : (NX.mk v0 v1 v2 v3 v4 v5 v6 v7 v8 v9 v10 v11 v12 v13 v14).was = v9 := rfl
theorem mk_NX_level {v0 : Int32} {v1 : Int32} {v2 : Int32} {v3 : Int64} {v4 : Int64} {v5 : Int64} {v6 : Rf} {v7 : Rf} {v8 : Bool} {v9 : Nat → Int32} {v10 : Nat → Int32} {v11 : Nat → Int32} {v12 : Nat → Int32} {v13 : Nat → Int64} {v14 : Nat → Int64} : (NX.mk v0 v1 v2 v3 v4 v5 v6 v7 v8 v9 v10 v11 v12 v13 v14).level = v10 := rfl
theorem mk_NX_wasHeld {v0 : Int32} {v1 : Int32} {v2 : Int32} {v3 : Int64} {v4 : Int64} {v5 : Int64} {v6 : Rf} {v7 : Rf} {v8 : Bool} {v9 : Nat → Int32} {v10 : Nat → Int32} {v11 : Nat → Int32} {v12 : Nat → Int32} {v13 : Nat → Int64} {v14 : Nat → Int64} : (NX.mk v0 v1 v2 v3 v4 v5 v6 v7 v8 v9 v10 v11 v12 v13 v14).wasHeld = v11 := rfl
theorem mk_NX_held {v0 : Int32} {v1 : Int32} {v2 : Int32} {v3 : Int64} {v4 : Int64} {v5 : Int64} {v6 : Rf} {v7 : Rf} {v8 : Bool} {v9 : Nat → Int32} {v10 : Nat → Int32} {v11 : Nat → Int32} {v12 : Nat → Int32} {v13 : Nat → Int64} {v14 : Nat → Int64} : (NX.mk v0 v1 v2 v3 v4 v5 v6 v7 v8 v9 v10 v11 v12 v13 v14).held = v12 := rfl
theorem mk_NX_wasWith {v0 : Int32} {v1 : Int32} {v2 : Int32} {v3 : Int64} {v4 : Int64} {v5 : Int64} {v6 : Rf} {v7 : Rf} {v8 : Bool} {v9 : Nat → Int32} {v10 : Nat → Int32} {v11 : Nat → Int32} {v12 : Nat → Int32} {v13 : Nat → Int64} {v14 : Nat → Int64} : (NX.mk v0 v1 v2 v3 v4 v5 v6 v7 v8 v9 v10 v11 v12 v13 v14).wasWith = v13 := rfl
theorem mk_NX_wth {v0 : Int32} {v1 : Int32} {v2 : Int32} {v3 : Int64} {v4 : Int64} {v5 : Int64} {v6 : Rf} {v7 : Rf} {v8 : Bool} {v9 : Nat → Int32} {v10 : Nat → Int32} {v11 : Nat → Int32} {v12 : Nat → Int32} {v13 : Nat → Int64} {v14 : Nat → Int64} : (NX.mk v0 v1 v2 v3 v4 v5 v6 v7 v8 v9 v10 v11 v12 v13 v14).wth = v14 := rfl
def NX.s_now (y : NX) (v : Int32) : NX := (NX.mk (v) (y.next) (y.isStill) (y.paid) (y.hiss) (y.ahead) (y.h) (y.cues) (y.sw) (y.was) (y.level) (y.wasHeld) (y.held) (y.wasWith) (y.wth))
def NX.s_next (y : NX) (v : Int32) : NX := (NX.mk (y.now) (v) (y.isStill) (y.paid) (y.hiss) (y.ahead) (y.h) (y.cues) (y.sw) (y.was) (y.level) (y.wasHeld) (y.held) (y.wasWith) (y.wth))
def NX.s_isStill (y : NX) (v : Int32) : NX := (NX.mk (y.now) (y.next) (v) (y.paid) (y.hiss) (y.ahead) (y.h) (y.cues) (y.sw) (y.was) (y.level) (y.wasHeld) (y.held) (y.wasWith) (y.wth))
def NX.s_paid (y : NX) (v : Int64) : NX := (NX.mk (y.now) (y.next) (y.isStill) (v) (y.hiss) (y.ahead) (y.h) (y.cues) (y.sw) (y.was) (y.level) (y.wasHeld) (y.held) (y.wasWith) (y.wth))
def NX.s_hiss (y : NX) (v : Int64) : NX := (NX.mk (y.now) (y.next) (y.isStill) (y.paid) (v) (y.ahead) (y.h) (y.cues) (y.sw) (y.was) (y.level) (y.wasHeld) (y.held) (y.wasWith) (y.wth))
def NX.s_ahead (y : NX) (v : Int64) : NX := (NX.mk (y.now) (y.next) (y.isStill) (y.paid) (y.hiss) (v) (y.h) (y.cues) (y.sw) (y.was) (y.level) (y.wasHeld) (y.held) (y.wasWith) (y.wth))
def NX.s_h (y : NX) (v : Rf) : NX := (NX.mk (y.now) (y.next) (y.isStill) (y.paid) (y.hiss) (y.ahead) (v) (y.cues) (y.sw) (y.was) (y.level) (y.wasHeld) (y.held) (y.wasWith) (y.wth))
def NX.s_cues (y : NX) (v : Rf) : NX := (NX.mk (y.now) (y.next) (y.isStill) (y.paid) (y.hiss) (y.ahead) (y.h) (v) (y.sw) (y.was) (y.level) (y.wasHeld) (y.held) (y.wasWith) (y.wth))
def NX.s_sw (y : NX) (v : Bool) : NX := (NX.mk (y.now) (y.next) (y.isStill) (y.paid) (y.hiss) (y.ahead) (y.h) (y.cues) (v) (y.was) (y.level) (y.wasHeld) (y.held) (y.wasWith) (y.wth))
def NX.s_was (y : NX) (v : Nat → Int32) : NX := (NX.mk (y.now) (y.next) (y.isStill) (y.paid) (y.hiss) (y.ahead) (y.h) (y.cues) (y.sw) (v) (y.level) (y.wasHeld) (y.held) (y.wasWith) (y.wth))
def NX.s_level (y : NX) (v : Nat → Int32) : NX := (NX.mk (y.now) (y.next) (y.isStill) (y.paid) (y.hiss) (y.ahead) (y.h) (y.cues) (y.sw) (y.was) (v) (y.wasHeld) (y.held) (y.wasWith) (y.wth))
def NX.s_wasHeld (y : NX) (v : Nat → Int32) : NX := (NX.mk (y.now) (y.next) (y.isStill) (y.paid) (y.hiss) (y.ahead) (y.h) (y.cues) (y.sw) (y.was) (y.level) (v) (y.held) (y.wasWith) (y.wth))
def NX.s_held (y : NX) (v : Nat → Int32) : NX := (NX.mk (y.now) (y.next) (y.isStill) (y.paid) (y.hiss) (y.ahead) (y.h) (y.cues) (y.sw) (y.was) (y.level) (y.wasHeld) (v) (y.wasWith) (y.wth))
def NX.s_wasWith (y : NX) (v : Nat → Int64) : NX := (NX.mk (y.now) (y.next) (y.isStill) (y.paid) (y.hiss) (y.ahead) (y.h) (y.cues) (y.sw) (y.was) (y.level) (y.wasHeld) (y.held) (v) (y.wth))
def NX.s_wth (y : NX) (v : Nat → Int64) : NX := (NX.mk (y.now) (y.next) (y.isStill) (y.paid) (y.hiss) (y.ahead) (y.h) (y.cues) (y.sw) (y.was) (y.level) (y.wasHeld) (y.held) (y.wasWith) (v))
abbrev XS : Type := (Int32) × (Int32) × (Int32) × (Int32) × (Int32) × (Int32) × (Int32) × (Int32) × (Int64) × (Int64) × (Int64) × (Rf) × (Rf) × (Nat → Int32) × (Nat → Int64) × (Nat → Int32) × (Nat → Int32) × (Nat → Int32) × (Nat → Int64) × (Nat → Int32) × (Nat → Int32) × (Nat → Rf) × (Nat → Int64) × (Nat → Int64) × (Int32) × (Rf) × (Int32) × (Nat → Int64) × (NX) × (NX)
def XS.mk (taped : Int32) (fault : Int32) (bought : Int32) (worthMany : Int32) (beganFirst : Int32) (beganSecond : Int32) (seed : Int32) (arranged : Int32) (paid : Int64) (hiss : Int64) (orders : Int64) (house : Rf) (cues : Rf) (tape : Nat → Int32) (states : Nat → Int64) (asked : Nat → Int32) (carriesSet : Nat → Int32) (heights : Nat → Int32) (worth : Nat → Int64) (mouths : Nat → Int32) (sided : Nat → Int32) (keptHouse : Nat → Rf) (keptPaid : Nat → Int64) (keptHiss : Nat → Int64) (kMod : Int32) (kData : Rf) (kSize : Int32) (out : Nat → Int64) (n0 : NX) (n1 : NX) : XS := (taped, fault, bought, worthMany, beganFirst, beganSecond, seed, arranged, paid, hiss, orders, house, cues, tape, states, asked, carriesSet, heights, worth, mouths, sided, keptHouse, keptPaid, keptHiss, kMod, kData, kSize, out, n0, n1)
def XS.taped (z : XS) : Int32 := z.1
def XS.fault (z : XS) : Int32 := z.2.1
def XS.bought (z : XS) : Int32 := z.2.2.1
def XS.worthMany (z : XS) : Int32 := z.2.2.2.1
def XS.beganFirst (z : XS) : Int32 := z.2.2.2.2.1
def XS.beganSecond (z : XS) : Int32 := z.2.2.2.2.2.1
def XS.seed (z : XS) : Int32 := z.2.2.2.2.2.2.1
def XS.arranged (z : XS) : Int32 := z.2.2.2.2.2.2.2.1
def XS.paid (z : XS) : Int64 := z.2.2.2.2.2.2.2.2.1
def XS.hiss (z : XS) : Int64 := z.2.2.2.2.2.2.2.2.2.1
def XS.orders (z : XS) : Int64 := z.2.2.2.2.2.2.2.2.2.2.1
def XS.house (z : XS) : Rf := z.2.2.2.2.2.2.2.2.2.2.2.1
def XS.cues (z : XS) : Rf := z.2.2.2.2.2.2.2.2.2.2.2.2.1
def XS.tape (z : XS) : Nat → Int32 := z.2.2.2.2.2.2.2.2.2.2.2.2.2.1
def XS.states (z : XS) : Nat → Int64 := z.2.2.2.2.2.2.2.2.2.2.2.2.2.2.1
def XS.asked (z : XS) : Nat → Int32 := z.2.2.2.2.2.2.2.2.2.2.2.2.2.2.2.1
def XS.carriesSet (z : XS) : Nat → Int32 := z.2.2.2.2.2.2.2.2.2.2.2.2.2.2.2.2.1
def XS.heights (z : XS) : Nat → Int32 := z.2.2.2.2.2.2.2.2.2.2.2.2.2.2.2.2.2.1
def XS.worth (z : XS) : Nat → Int64 := z.2.2.2.2.2.2.2.2.2.2.2.2.2.2.2.2.2.2.1
def XS.mouths (z : XS) : Nat → Int32 := z.2.2.2.2.2.2.2.2.2.2.2.2.2.2.2.2.2.2.2.1
def XS.sided (z : XS) : Nat → Int32 := z.2.2.2.2.2.2.2.2.2.2.2.2.2.2.2.2.2.2.2.2.1
def XS.keptHouse (z : XS) : Nat → Rf := z.2.2.2.2.2.2.2.2.2.2.2.2.2.2.2.2.2.2.2.2.2.1
def XS.keptPaid (z : XS) : Nat → Int64 := z.2.2.2.2.2.2.2.2.2.2.2.2.2.2.2.2.2.2.2.2.2.2.1
def XS.keptHiss (z : XS) : Nat → Int64 := z.2.2.2.2.2.2.2.2.2.2.2.2.2.2.2.2.2.2.2.2.2.2.2.1
def XS.kMod (z : XS) : Int32 := z.2.2.2.2.2.2.2.2.2.2.2.2.2.2.2.2.2.2.2.2.2.2.2.2.1
def XS.kData (z : XS) : Rf := z.2.2.2.2.2.2.2.2.2.2.2.2.2.2.2.2.2.2.2.2.2.2.2.2.2.1
def XS.kSize (z : XS) : Int32 := z.2.2.2.2.2.2.2.2.2.2.2.2.2.2.2.2.2.2.2.2.2.2.2.2.2.2.1
def XS.out (z : XS) : Nat → Int64 := z.2.2.2.2.2.2.2.2.2.2.2.2.2.2.2.2.2.2.2.2.2.2.2.2.2.2.2.1
def XS.n0 (z : XS) : NX := z.2.2.2.2.2.2.2.2.2.2.2.2.2.2.2.2.2.2.2.2.2.2.2.2.2.2.2.2.1
def XS.n1 (z : XS) : NX := z.2.2.2.2.2.2.2.2.2.2.2.2.2.2.2.2.2.2.2.2.2.2.2.2.2.2.2.2.2
theorem mk_XS_taped {v0 : Int32} {v1 : Int32} {v2 : Int32} {v3 : Int32} {v4 : Int32} {v5 : Int32} {v6 : Int32} {v7 : Int32} {v8 : Int64} {v9 : Int64} {v10 : Int64} {v11 : Rf} {v12 : Rf} {v13 : Nat → Int32} {v14 : Nat → Int64} {v15 : Nat → Int32} {v16 : Nat → Int32} {v17 : Nat → Int32} {v18 : Nat → Int64} {v19 : Nat → Int32} {v20 : Nat → Int32} {v21 : Nat → Rf} {v22 : Nat → Int64} {v23 : Nat → Int64} {v24 : Int32} {v25 : Rf} {v26 : Int32} {v27 : Nat → Int64} {v28 : NX} {v29 : NX} : (XS.mk v0 v1 v2 v3 v4 v5 v6 v7 v8 v9 v10 v11 v12 v13 v14 v15 v16 v17 v18 v19 v20 v21 v22 v23 v24 v25 v26 v27 v28 v29).taped = v0 := rfl
theorem mk_XS_fault {v0 : Int32} {v1 : Int32} {v2 : Int32} {v3 : Int32} {v4 : Int32} {v5 : Int32} {v6 : Int32} {v7 : Int32} {v8 : Int64} {v9 : Int64} {v10 : Int64} {v11 : Rf} {v12 : Rf} {v13 : Nat → Int32} {v14 : Nat → Int64} {v15 : Nat → Int32} {v16 : Nat → Int32} {v17 : Nat → Int32} {v18 : Nat → Int64} {v19 : Nat → Int32} {v20 : Nat → Int32} {v21 : Nat → Rf} {v22 : Nat → Int64} {v23 : Nat → Int64} {v24 : Int32} {v25 : Rf} {v26 : Int32} {v27 : Nat → Int64} {v28 : NX} {v29 : NX} : (XS.mk v0 v1 v2 v3 v4 v5 v6 v7 v8 v9 v10 v11 v12 v13 v14 v15 v16 v17 v18 v19 v20 v21 v22 v23 v24 v25 v26 v27 v28 v29).fault = v1 := rfl
theorem mk_XS_bought {v0 : Int32} {v1 : Int32} {v2 : Int32} {v3 : Int32} {v4 : Int32} {v5 : Int32} {v6 : Int32} {v7 : Int32} {v8 : Int64} {v9 : Int64} {v10 : Int64} {v11 : Rf} {v12 : Rf} {v13 : Nat → Int32} {v14 : Nat → Int64} {v15 : Nat → Int32} {v16 : Nat → Int32} {v17 : Nat → Int32} {v18 : Nat → Int64} {v19 : Nat → Int32} {v20 : Nat → Int32} {v21 : Nat → Rf} {v22 : Nat → Int64} {v23 : Nat → Int64} {v24 : Int32} {v25 : Rf} {v26 : Int32} {v27 : Nat → Int64} {v28 : NX} {v29 : NX} : (XS.mk v0 v1 v2 v3 v4 v5 v6 v7 v8 v9 v10 v11 v12 v13 v14 v15 v16 v17 v18 v19 v20 v21 v22 v23 v24 v25 v26 v27 v28 v29).bought = v2 := rfl
theorem mk_XS_worthMany {v0 : Int32} {v1 : Int32} {v2 : Int32} {v3 : Int32} {v4 : Int32} {v5 : Int32} {v6 : Int32} {v7 : Int32} {v8 : Int64} {v9 : Int64} {v10 : Int64} {v11 : Rf} {v12 : Rf} {v13 : Nat → Int32} {v14 : Nat → Int64} {v15 : Nat → Int32} {v16 : Nat → Int32} {v17 : Nat → Int32} {v18 : Nat → Int64} {v19 : Nat → Int32} {v20 : Nat → Int32} {v21 : Nat → Rf} {v22 : Nat → Int64} {v23 : Nat → Int64} {v24 : Int32} {v25 : Rf} {v26 : Int32} {v27 : Nat → Int64} {v28 : NX} {v29 : NX} : (XS.mk v0 v1 v2 v3 v4 v5 v6 v7 v8 v9 v10 v11 v12 v13 v14 v15 v16 v17 v18 v19 v20 v21 v22 v23 v24 v25 v26 v27 v28 v29).worthMany = v3 := rfl
theorem mk_XS_beganFirst {v0 : Int32} {v1 : Int32} {v2 : Int32} {v3 : Int32} {v4 : Int32} {v5 : Int32} {v6 : Int32} {v7 : Int32} {v8 : Int64} {v9 : Int64} {v10 : Int64} {v11 : Rf} {v12 : Rf} {v13 : Nat → Int32} {v14 : Nat → Int64} {v15 : Nat → Int32} {v16 : Nat → Int32} {v17 : Nat → Int32} {v18 : Nat → Int64} {v19 : Nat → Int32} {v20 : Nat → Int32} {v21 : Nat → Rf} {v22 : Nat → Int64} {v23 : Nat → Int64} {v24 : Int32} {v25 : Rf} {v26 : Int32} {v27 : Nat → Int64} {v28 : NX} {v29 : NX} : (XS.mk v0 v1 v2 v3 v4 v5 v6 v7 v8 v9 v10 v11 v12 v13 v14 v15 v16 v17 v18 v19 v20 v21 v22 v23 v24 v25 v26 v27 v28 v29).beganFirst = v4 := rfl
theorem mk_XS_beganSecond {v0 : Int32} {v1 : Int32} {v2 : Int32} {v3 : Int32} {v4 : Int32} {v5 : Int32} {v6 : Int32} {v7 : Int32} {v8 : Int64} {v9 : Int64} {v10 : Int64} {v11 : Rf} {v12 : Rf} {v13 : Nat → Int32} {v14 : Nat → Int64} {v15 : Nat → Int32} {v16 : Nat → Int32} {v17 : Nat → Int32} {v18 : Nat → Int64} {v19 : Nat → Int32} {v20 : Nat → Int32} {v21 : Nat → Rf} {v22 : Nat → Int64} {v23 : Nat → Int64} {v24 : Int32} {v25 : Rf} {v26 : Int32} {v27 : Nat → Int64} {v28 : NX} {v29 : NX} : (XS.mk v0 v1 v2 v3 v4 v5 v6 v7 v8 v9 v10 v11 v12 v13 v14 v15 v16 v17 v18 v19 v20 v21 v22 v23 v24 v25 v26 v27 v28 v29).beganSecond = v5 := rfl
theorem mk_XS_seed {v0 : Int32} {v1 : Int32} {v2 : Int32} {v3 : Int32} {v4 : Int32} {v5 : Int32} {v6 : Int32} {v7 : Int32} {v8 : Int64} {v9 : Int64} {v10 : Int64} {v11 : Rf} {v12 : Rf} {v13 : Nat → Int32} {v14 : Nat → Int64} {v15 : Nat → Int32} {v16 : Nat → Int32} {v17 : Nat → Int32} {v18 : Nat → Int64} {v19 : Nat → Int32} {v20 : Nat → Int32} {v21 : Nat → Rf} {v22 : Nat → Int64} {v23 : Nat → Int64} {v24 : Int32} {v25 : Rf} {v26 : Int32} {v27 : Nat → Int64} {v28 : NX} {v29 : NX} : (XS.mk v0 v1 v2 v3 v4 v5 v6 v7 v8 v9 v10 v11 v12 v13 v14 v15 v16 v17 v18 v19 v20 v21 v22 v23 v24 v25 v26 v27 v28 v29).seed = v6 := rfl
theorem mk_XS_arranged {v0 : Int32} {v1 : Int32} {v2 : Int32} {v3 : Int32} {v4 : Int32} {v5 : Int32} {v6 : Int32} {v7 : Int32} {v8 : Int64} {v9 : Int64} {v10 : Int64} {v11 : Rf} {v12 : Rf} {v13 : Nat → Int32} {v14 : Nat → Int64} {v15 : Nat → Int32} {v16 : Nat → Int32} {v17 : Nat → Int32} {v18 : Nat → Int64} {v19 : Nat → Int32} {v20 : Nat → Int32} {v21 : Nat → Rf} {v22 : Nat → Int64} {v23 : Nat → Int64} {v24 : Int32} {v25 : Rf} {v26 : Int32} {v27 : Nat → Int64} {v28 : NX} {v29 : NX} : (XS.mk v0 v1 v2 v3 v4 v5 v6 v7 v8 v9 v10 v11 v12 v13 v14 v15 v16 v17 v18 v19 v20 v21 v22 v23 v24 v25 v26 v27 v28 v29).arranged = v7 := rfl
theorem mk_XS_paid {v0 : Int32} {v1 : Int32} {v2 : Int32} {v3 : Int32} {v4 : Int32} {v5 : Int32} {v6 : Int32} {v7 : Int32} {v8 : Int64} {v9 : Int64} {v10 : Int64} {v11 : Rf} {v12 : Rf} {v13 : Nat → Int32} {v14 : Nat → Int64} {v15 : Nat → Int32} {v16 : Nat → Int32} {v17 : Nat → Int32} {v18 : Nat → Int64} {v19 : Nat → Int32} {v20 : Nat → Int32} {v21 : Nat → Rf} {v22 : Nat → Int64} {v23 : Nat → Int64} {v24 : Int32} {v25 : Rf} {v26 : Int32} {v27 : Nat → Int64} {v28 : NX} {v29 : NX} : (XS.mk v0 v1 v2 v3 v4 v5 v6 v7 v8 v9 v10 v11 v12 v13 v14 v15 v16 v17 v18 v19 v20 v21 v22 v23 v24 v25 v26 v27 v28 v29).paid = v8 := rfl
theorem mk_XS_hiss {v0 : Int32} {v1 : Int32} {v2 : Int32} {v3 : Int32} {v4 : Int32} {v5 : Int32} {v6 : Int32} {v7 : Int32} {v8 : Int64} {v9 : Int64} {v10 : Int64} {v11 : Rf} {v12 : Rf} {v13 : Nat → Int32} {v14 : Nat → Int64} {v15 : Nat → Int32} {v16 : Nat → Int32} {v17 : Nat → Int32} {v18 : Nat → Int64} {v19 : Nat → Int32} {v20 : Nat → Int32} {v21 : Nat → Rf} {v22 : Nat → Int64} {v23 : Nat → Int64} {v24 : Int32} {v25 : Rf} {v26 : Int32} {v27 : Nat → Int64} {v28 : NX} {v29 : NX} : (XS.mk v0 v1 v2 v3 v4 v5 v6 v7 v8 v9 v10 v11 v12 v13 v14 v15 v16 v17 v18 v19 v20 v21 v22 v23 v24 v25 v26 v27 v28 v29).hiss = v9 := rfl
theorem mk_XS_orders {v0 : Int32} {v1 : Int32} {v2 : Int32} {v3 : Int32} {v4 : Int32} {v5 : Int32} {v6 : Int32} {v7 : Int32} {v8 : Int64} {v9 : Int64} {v10 : Int64} {v11 : Rf} {v12 : Rf} {v13 : Nat → Int32} {v14 : Nat → Int64} {v15 : Nat → Int32} {v16 : Nat → Int32} {v17 : Nat → Int32} {v18 : Nat → Int64} {v19 : Nat → Int32} {v20 : Nat → Int32} {v21 : Nat → Rf} {v22 : Nat → Int64} {v23 : Nat → Int64} {v24 : Int32} {v25 : Rf} {v26 : Int32} {v27 : Nat → Int64} {v28 : NX} {v29 : NX} : (XS.mk v0 v1 v2 v3 v4 v5 v6 v7 v8 v9 v10 v11 v12 v13 v14 v15 v16 v17 v18 v19 v20 v21 v22 v23 v24 v25 v26 v27 v28 v29).orders = v10 := rfl
theorem mk_XS_house {v0 : Int32} {v1 : Int32} {v2 : Int32} {v3 : Int32} {v4 : Int32} {v5 : Int32} {v6 : Int32} {v7 : Int32} {v8 : Int64} {v9 : Int64} {v10 : Int64} {v11 : Rf} {v12 : Rf} {v13 : Nat → Int32} {v14 : Nat → Int64} {v15 : Nat → Int32} {v16 : Nat → Int32} {v17 : Nat → Int32} {v18 : Nat → Int64} {v19 : Nat → Int32} {v20 : Nat → Int32} {v21 : Nat → Rf} {v22 : Nat → Int64} {v23 : Nat → Int64} {v24 : Int32} {v25 : Rf} {v26 : Int32} {v27 : Nat → Int64} {v28 : NX} {v29 : NX} : (XS.mk v0 v1 v2 v3 v4 v5 v6 v7 v8 v9 v10 v11 v12 v13 v14 v15 v16 v17 v18 v19 v20 v21 v22 v23 v24 v25 v26 v27 v28 v29).house = v11 := rfl
theorem mk_XS_cues {v0 : Int32} {v1 : Int32} {v2 : Int32} {v3 : Int32} {v4 : Int32} {v5 : Int32} {v6 : Int32} {v7 : Int32} {v8 : Int64} {v9 : Int64} {v10 : Int64} {v11 : Rf} {v12 : Rf} {v13 : Nat → Int32} {v14 : Nat → Int64} {v15 : Nat → Int32} {v16 : Nat → Int32} {v17 : Nat → Int32} {v18 : Nat → Int64} {v19 : Nat → Int32} {v20 : Nat → Int32} {v21 : Nat → Rf} {v22 : Nat → Int64} {v23 : Nat → Int64} {v24 : Int32} {v25 : Rf} {v26 : Int32} {v27 : Nat → Int64} {v28 : NX} {v29 : NX} : (XS.mk v0 v1 v2 v3 v4 v5 v6 v7 v8 v9 v10 v11 v12 v13 v14 v15 v16 v17 v18 v19 v20 v21 v22 v23 v24 v25 v26 v27 v28 v29).cues = v12 := rfl
theorem mk_XS_tape {v0 : Int32} {v1 : Int32} {v2 : Int32} {v3 : Int32} {v4 : Int32} {v5 : Int32} {v6 : Int32} {v7 : Int32} {v8 : Int64} {v9 : Int64} {v10 : Int64} {v11 : Rf} {v12 : Rf} {v13 : Nat → Int32} {v14 : Nat → Int64} {v15 : Nat → Int32} {v16 : Nat → Int32} {v17 : Nat → Int32} {v18 : Nat → Int64} {v19 : Nat → Int32} {v20 : Nat → Int32} {v21 : Nat → Rf} {v22 : Nat → Int64} {v23 : Nat → Int64} {v24 : Int32} {v25 : Rf} {v26 : Int32} {v27 : Nat → Int64} {v28 : NX} {v29 : NX} : (XS.mk v0 v1 v2 v3 v4 v5 v6 v7 v8 v9 v10 v11 v12 v13 v14 v15 v16 v17 v18 v19 v20 v21 v22 v23 v24 v25 v26 v27 v28 v29).tape = v13 := rfl
theorem mk_XS_states {v0 : Int32} {v1 : Int32} {v2 : Int32} {v3 : Int32} {v4 : Int32} {v5 : Int32} {v6 : Int32} {v7 : Int32} {v8 : Int64} {v9 : Int64} {v10 : Int64} {v11 : Rf} {v12 : Rf} {v13 : Nat → Int32} {v14 : Nat → Int64} {v15 : Nat → Int32} {v16 : Nat → Int32} {v17 : Nat → Int32} {v18 : Nat → Int64} {v19 : Nat → Int32} {v20 : Nat → Int32} {v21 : Nat → Rf} {v22 : Nat → Int64} {v23 : Nat → Int64} {v24 : Int32} {v25 : Rf} {v26 : Int32} {v27 : Nat → Int64} {v28 : NX} {v29 : NX} : (XS.mk v0 v1 v2 v3 v4 v5 v6 v7 v8 v9 v10 v11 v12 v13 v14 v15 v16 v17 v18 v19 v20 v21 v22 v23 v24 v25 v26 v27 v28 v29).states = v14 := rfl
theorem mk_XS_asked {v0 : Int32} {v1 : Int32} {v2 : Int32} {v3 : Int32} {v4 : Int32} {v5 : Int32} {v6 : Int32} {v7 : Int32} {v8 : Int64} {v9 : Int64} {v10 : Int64} {v11 : Rf} {v12 : Rf} {v13 : Nat → Int32} {v14 : Nat → Int64} {v15 : Nat → Int32} {v16 : Nat → Int32} {v17 : Nat → Int32} {v18 : Nat → Int64} {v19 : Nat → Int32} {v20 : Nat → Int32} {v21 : Nat → Rf} {v22 : Nat → Int64} {v23 : Nat → Int64} {v24 : Int32} {v25 : Rf} {v26 : Int32} {v27 : Nat → Int64} {v28 : NX} {v29 : NX} : (XS.mk v0 v1 v2 v3 v4 v5 v6 v7 v8 v9 v10 v11 v12 v13 v14 v15 v16 v17 v18 v19 v20 v21 v22 v23 v24 v25 v26 v27 v28 v29).asked = v15 := rfl
theorem mk_XS_carriesSet {v0 : Int32} {v1 : Int32} {v2 : Int32} {v3 : Int32} {v4 : Int32} {v5 : Int32} {v6 : Int32} {v7 : Int32} {v8 : Int64} {v9 : Int64} {v10 : Int64} {v11 : Rf} {v12 : Rf} {v13 : Nat → Int32} {v14 : Nat → Int64} {v15 : Nat → Int32} {v16 : Nat → Int32} {v17 : Nat → Int32} {v18 : Nat → Int64} {v19 : Nat → Int32} {v20 : Nat → Int32} {v21 : Nat → Rf} {v22 : Nat → Int64} {v23 : Nat → Int64} {v24 : Int32} {v25 : Rf} {v26 : Int32} {v27 : Nat → Int64} {v28 : NX} {v29 : NX} : (XS.mk v0 v1 v2 v3 v4 v5 v6 v7 v8 v9 v10 v11 v12 v13 v14 v15 v16 v17 v18 v19 v20 v21 v22 v23 v24 v25 v26 v27 v28 v29).carriesSet = v16 := rfl
theorem mk_XS_heights {v0 : Int32} {v1 : Int32} {v2 : Int32} {v3 : Int32} {v4 : Int32} {v5 : Int32} {v6 : Int32} {v7 : Int32} {v8 : Int64} {v9 : Int64} {v10 : Int64} {v11 : Rf} {v12 : Rf} {v13 : Nat → Int32} {v14 : Nat → Int64} {v15 : Nat → Int32} {v16 : Nat → Int32} {v17 : Nat → Int32} {v18 : Nat → Int64} {v19 : Nat → Int32} {v20 : Nat → Int32} {v21 : Nat → Rf} {v22 : Nat → Int64} {v23 : Nat → Int64} {v24 : Int32} {v25 : Rf} {v26 : Int32} {v27 : Nat → Int64} {v28 : NX} {v29 : NX} : (XS.mk v0 v1 v2 v3 v4 v5 v6 v7 v8 v9 v10 v11 v12 v13 v14 v15 v16 v17 v18 v19 v20 v21 v22 v23 v24 v25 v26 v27 v28 v29).heights = v17 := rfl
theorem mk_XS_worth {v0 : Int32} {v1 : Int32} {v2 : Int32} {v3 : Int32} {v4 : Int32} {v5 : Int32} {v6 : Int32} {v7 : Int32} {v8 : Int64} {v9 : Int64} {v10 : Int64} {v11 : Rf} {v12 : Rf} {v13 : Nat → Int32} {v14 : Nat → Int64} {v15 : Nat → Int32} {v16 : Nat → Int32} {v17 : Nat → Int32} {v18 : Nat → Int64} {v19 : Nat → Int32} {v20 : Nat → Int32} {v21 : Nat → Rf} {v22 : Nat → Int64} {v23 : Nat → Int64} {v24 : Int32} {v25 : Rf} {v26 : Int32} {v27 : Nat → Int64} {v28 : NX} {v29 : NX} : (XS.mk v0 v1 v2 v3 v4 v5 v6 v7 v8 v9 v10 v11 v12 v13 v14 v15 v16 v17 v18 v19 v20 v21 v22 v23 v24 v25 v26 v27 v28 v29).worth = v18 := rfl
theorem mk_XS_mouths {v0 : Int32} {v1 : Int32} {v2 : Int32} {v3 : Int32} {v4 : Int32} {v5 : Int32} {v6 : Int32} {v7 : Int32} {v8 : Int64} {v9 : Int64} {v10 : Int64} {v11 : Rf} {v12 : Rf} {v13 : Nat → Int32} {v14 : Nat → Int64} {v15 : Nat → Int32} {v16 : Nat → Int32} {v17 : Nat → Int32} {v18 : Nat → Int64} {v19 : Nat → Int32} {v20 : Nat → Int32} {v21 : Nat → Rf} {v22 : Nat → Int64} {v23 : Nat → Int64} {v24 : Int32} {v25 : Rf} {v26 : Int32} {v27 : Nat → Int64} {v28 : NX} {v29 : NX} : (XS.mk v0 v1 v2 v3 v4 v5 v6 v7 v8 v9 v10 v11 v12 v13 v14 v15 v16 v17 v18 v19 v20 v21 v22 v23 v24 v25 v26 v27 v28 v29).mouths = v19 := rfl
theorem mk_XS_sided {v0 : Int32} {v1 : Int32} {v2 : Int32} {v3 : Int32} {v4 : Int32} {v5 : Int32} {v6 : Int32} {v7 : Int32} {v8 : Int64} {v9 : Int64} {v10 : Int64} {v11 : Rf} {v12 : Rf} {v13 : Nat → Int32} {v14 : Nat → Int64} {v15 : Nat → Int32} {v16 : Nat → Int32} {v17 : Nat → Int32} {v18 : Nat → Int64} {v19 : Nat → Int32} {v20 : Nat → Int32} {v21 : Nat → Rf} {v22 : Nat → Int64} {v23 : Nat → Int64} {v24 : Int32} {v25 : Rf} {v26 : Int32} {v27 : Nat → Int64} {v28 : NX} {v29 : NX} : (XS.mk v0 v1 v2 v3 v4 v5 v6 v7 v8 v9 v10 v11 v12 v13 v14 v15 v16 v17 v18 v19 v20 v21 v22 v23 v24 v25 v26 v27 v28 v29).sided = v20 := rfl
theorem mk_XS_keptHouse {v0 : Int32} {v1 : Int32} {v2 : Int32} {v3 : Int32} {v4 : Int32} {v5 : Int32} {v6 : Int32} {v7 : Int32} {v8 : Int64} {v9 : Int64} {v10 : Int64} {v11 : Rf} {v12 : Rf} {v13 : Nat → Int32} {v14 : Nat → Int64} {v15 : Nat → Int32} {v16 : Nat → Int32} {v17 : Nat → Int32} {v18 : Nat → Int64} {v19 : Nat → Int32} {v20 : Nat → Int32} {v21 : Nat → Rf} {v22 : Nat → Int64} {v23 : Nat → Int64} {v24 : Int32} {v25 : Rf} {v26 : Int32} {v27 : Nat → Int64} {v28 : NX} {v29 : NX} : (XS.mk v0 v1 v2 v3 v4 v5 v6 v7 v8 v9 v10 v11 v12 v13 v14 v15 v16 v17 v18 v19 v20 v21 v22 v23 v24 v25 v26 v27 v28 v29).keptHouse = v21 := rfl
theorem mk_XS_keptPaid {v0 : Int32} {v1 : Int32} {v2 : Int32} {v3 : Int32} {v4 : Int32} {v5 : Int32} {v6 : Int32} {v7 : Int32} {v8 : Int64} {v9 : Int64} {v10 : Int64} {v11 : Rf} {v12 : Rf} {v13 : Nat → Int32} {v14 : Nat → Int64} {v15 : Nat → Int32} {v16 : Nat → Int32} {v17 : Nat → Int32} {v18 : Nat → Int64} {v19 : Nat → Int32} {v20 : Nat → Int32} {v21 : Nat → Rf} {v22 : Nat → Int64} {v23 : Nat → Int64} {v24 : Int32} {v25 : Rf} {v26 : Int32} {v27 : Nat → Int64} {v28 : NX} {v29 : NX} : (XS.mk v0 v1 v2 v3 v4 v5 v6 v7 v8 v9 v10 v11 v12 v13 v14 v15 v16 v17 v18 v19 v20 v21 v22 v23 v24 v25 v26 v27 v28 v29).keptPaid = v22 := rfl
theorem mk_XS_keptHiss {v0 : Int32} {v1 : Int32} {v2 : Int32} {v3 : Int32} {v4 : Int32} {v5 : Int32} {v6 : Int32} {v7 : Int32} {v8 : Int64} {v9 : Int64} {v10 : Int64} {v11 : Rf} {v12 : Rf} {v13 : Nat → Int32} {v14 : Nat → Int64} {v15 : Nat → Int32} {v16 : Nat → Int32} {v17 : Nat → Int32} {v18 : Nat → Int64} {v19 : Nat → Int32} {v20 : Nat → Int32} {v21 : Nat → Rf} {v22 : Nat → Int64} {v23 : Nat → Int64} {v24 : Int32} {v25 : Rf} {v26 : Int32} {v27 : Nat → Int64} {v28 : NX} {v29 : NX} : (XS.mk v0 v1 v2 v3 v4 v5 v6 v7 v8 v9 v10 v11 v12 v13 v14 v15 v16 v17 v18 v19 v20 v21 v22 v23 v24 v25 v26 v27 v28 v29).keptHiss = v23 := rfl
theorem mk_XS_kMod {v0 : Int32} {v1 : Int32} {v2 : Int32} {v3 : Int32} {v4 : Int32} {v5 : Int32} {v6 : Int32} {v7 : Int32} {v8 : Int64} {v9 : Int64} {v10 : Int64} {v11 : Rf} {v12 : Rf} {v13 : Nat → Int32} {v14 : Nat → Int64} {v15 : Nat → Int32} {v16 : Nat → Int32} {v17 : Nat → Int32} {v18 : Nat → Int64} {v19 : Nat → Int32} {v20 : Nat → Int32} {v21 : Nat → Rf} {v22 : Nat → Int64} {v23 : Nat → Int64} {v24 : Int32} {v25 : Rf} {v26 : Int32} {v27 : Nat → Int64} {v28 : NX} {v29 : NX} : (XS.mk v0 v1 v2 v3 v4 v5 v6 v7 v8 v9 v10 v11 v12 v13 v14 v15 v16 v17 v18 v19 v20 v21 v22 v23 v24 v25 v26 v27 v28 v29).kMod = v24 := rfl
theorem mk_XS_kData {v0 : Int32} {v1 : Int32} {v2 : Int32} {v3 : Int32} {v4 : Int32} {v5 : Int32} {v6 : Int32} {v7 : Int32} {v8 : Int64} {v9 : Int64} {v10 : Int64} {v11 : Rf} {v12 : Rf} {v13 : Nat → Int32} {v14 : Nat → Int64} {v15 : Nat → Int32} {v16 : Nat → Int32} {v17 : Nat → Int32} {v18 : Nat → Int64} {v19 : Nat → Int32} {v20 : Nat → Int32} {v21 : Nat → Rf} {v22 : Nat → Int64} {v23 : Nat → Int64} {v24 : Int32} {v25 : Rf} {v26 : Int32} {v27 : Nat → Int64} {v28 : NX} {v29 : NX} : (XS.mk v0 v1 v2 v3 v4 v5 v6 v7 v8 v9 v10 v11 v12 v13 v14 v15 v16 v17 v18 v19 v20 v21 v22 v23 v24 v25 v26 v27 v28 v29).kData = v25 := rfl
theorem mk_XS_kSize {v0 : Int32} {v1 : Int32} {v2 : Int32} {v3 : Int32} {v4 : Int32} {v5 : Int32} {v6 : Int32} {v7 : Int32} {v8 : Int64} {v9 : Int64} {v10 : Int64} {v11 : Rf} {v12 : Rf} {v13 : Nat → Int32} {v14 : Nat → Int64} {v15 : Nat → Int32} {v16 : Nat → Int32} {v17 : Nat → Int32} {v18 : Nat → Int64} {v19 : Nat → Int32} {v20 : Nat → Int32} {v21 : Nat → Rf} {v22 : Nat → Int64} {v23 : Nat → Int64} {v24 : Int32} {v25 : Rf} {v26 : Int32} {v27 : Nat → Int64} {v28 : NX} {v29 : NX} : (XS.mk v0 v1 v2 v3 v4 v5 v6 v7 v8 v9 v10 v11 v12 v13 v14 v15 v16 v17 v18 v19 v20 v21 v22 v23 v24 v25 v26 v27 v28 v29).kSize = v26 := rfl
theorem mk_XS_out {v0 : Int32} {v1 : Int32} {v2 : Int32} {v3 : Int32} {v4 : Int32} {v5 : Int32} {v6 : Int32} {v7 : Int32} {v8 : Int64} {v9 : Int64} {v10 : Int64} {v11 : Rf} {v12 : Rf} {v13 : Nat → Int32} {v14 : Nat → Int64} {v15 : Nat → Int32} {v16 : Nat → Int32} {v17 : Nat → Int32} {v18 : Nat → Int64} {v19 : Nat → Int32} {v20 : Nat → Int32} {v21 : Nat → Rf} {v22 : Nat → Int64} {v23 : Nat → Int64} {v24 : Int32} {v25 : Rf} {v26 : Int32} {v27 : Nat → Int64} {v28 : NX} {v29 : NX} : (XS.mk v0 v1 v2 v3 v4 v5 v6 v7 v8 v9 v10 v11 v12 v13 v14 v15 v16 v17 v18 v19 v20 v21 v22 v23 v24 v25 v26 v27 v28 v29).out = v27 := rfl
theorem mk_XS_n0 {v0 : Int32} {v1 : Int32} {v2 : Int32} {v3 : Int32} {v4 : Int32} {v5 : Int32} {v6 : Int32} {v7 : Int32} {v8 : Int64} {v9 : Int64} {v10 : Int64} {v11 : Rf} {v12 : Rf} {v13 : Nat → Int32} {v14 : Nat → Int64} {v15 : Nat → Int32} {v16 : Nat → Int32} {v17 : Nat → Int32} {v18 : Nat → Int64} {v19 : Nat → Int32} {v20 : Nat → Int32} {v21 : Nat → Rf} {v22 : Nat → Int64} {v23 : Nat → Int64} {v24 : Int32} {v25 : Rf} {v26 : Int32} {v27 : Nat → Int64} {v28 : NX} {v29 : NX} : (XS.mk v0 v1 v2 v3 v4 v5 v6 v7 v8 v9 v10 v11 v12 v13 v14 v15 v16 v17 v18 v19 v20 v21 v22 v23 v24 v25 v26 v27 v28 v29).n0 = v28 := rfl
theorem mk_XS_n1 {v0 : Int32} {v1 : Int32} {v2 : Int32} {v3 : Int32} {v4 : Int32} {v5 : Int32} {v6 : Int32} {v7 : Int32} {v8 : Int64} {v9 : Int64} {v10 : Int64} {v11 : Rf} {v12 : Rf} {v13 : Nat → Int32} {v14 : Nat → Int64} {v15 : Nat → Int32} {v16 : Nat → Int32} {v17 : Nat → Int32} {v18 : Nat → Int64} {v19 : Nat → Int32} {v20 : Nat → Int32} {v21 : Nat → Rf} {v22 : Nat → Int64} {v23 : Nat → Int64} {v24 : Int32} {v25 : Rf} {v26 : Int32} {v27 : Nat → Int64} {v28 : NX} {v29 : NX} : (XS.mk v0 v1 v2 v3 v4 v5 v6 v7 v8 v9 v10 v11 v12 v13 v14 v15 v16 v17 v18 v19 v20 v21 v22 v23 v24 v25 v26 v27 v28 v29).n1 = v29 := rfl
def XS.n (x : XS) (q : Bool) : NX := match q with
  | false => x.n0
  | true => x.n1
def XS.setN (x : XS) (q : Bool) (y : NX) : XS := match q with
  | false => (XS.mk (x.taped) (x.fault) (x.bought) (x.worthMany) (x.beganFirst) (x.beganSecond) (x.seed) (x.arranged) (x.paid) (x.hiss) (x.orders) (x.house) (x.cues) (x.tape) (x.states) (x.asked) (x.carriesSet) (x.heights) (x.worth) (x.mouths) (x.sided) (x.keptHouse) (x.keptPaid) (x.keptHiss) (x.kMod) (x.kData) (x.kSize) (x.out) (y) (x.n1))
  | true => (XS.mk (x.taped) (x.fault) (x.bought) (x.worthMany) (x.beganFirst) (x.beganSecond) (x.seed) (x.arranged) (x.paid) (x.hiss) (x.orders) (x.house) (x.cues) (x.tape) (x.states) (x.asked) (x.carriesSet) (x.heights) (x.worth) (x.mouths) (x.sided) (x.keptHouse) (x.keptPaid) (x.keptHiss) (x.kMod) (x.kData) (x.kSize) (x.out) (x.n0) (y))
theorem setN_n (x : XS) (q : Bool) (y : NX) : (x.setN q y).n q = y := by cases q <;> rfl
theorem setN_n' (x : XS) (q : Bool) (y : NX) : (x.setN q y).n (!q) = x.n (!q) := by cases q <;> rfl
theorem setN_setN (x : XS) (q : Bool) (y z : NX) : (x.setN q y).setN q z = x.setN q z := by cases q <;> rfl
theorem setN_self (x : XS) (q : Bool) : x.setN q (x.n q) = x := by cases q <;> rfl
theorem setN_taped (x : XS) (q : Bool) (y : NX) : (x.setN q y).taped = x.taped := by cases q <;> rfl
theorem setN_fault (x : XS) (q : Bool) (y : NX) : (x.setN q y).fault = x.fault := by cases q <;> rfl
theorem setN_bought (x : XS) (q : Bool) (y : NX) : (x.setN q y).bought = x.bought := by cases q <;> rfl
theorem setN_worthMany (x : XS) (q : Bool) (y : NX) : (x.setN q y).worthMany = x.worthMany := by cases q <;> rfl
theorem setN_beganFirst (x : XS) (q : Bool) (y : NX) : (x.setN q y).beganFirst = x.beganFirst := by cases q <;> rfl
theorem setN_beganSecond (x : XS) (q : Bool) (y : NX) : (x.setN q y).beganSecond = x.beganSecond := by cases q <;> rfl
theorem setN_seed (x : XS) (q : Bool) (y : NX) : (x.setN q y).seed = x.seed := by cases q <;> rfl
theorem setN_arranged (x : XS) (q : Bool) (y : NX) : (x.setN q y).arranged = x.arranged := by cases q <;> rfl
theorem setN_paid (x : XS) (q : Bool) (y : NX) : (x.setN q y).paid = x.paid := by cases q <;> rfl
theorem setN_hiss (x : XS) (q : Bool) (y : NX) : (x.setN q y).hiss = x.hiss := by cases q <;> rfl
theorem setN_orders (x : XS) (q : Bool) (y : NX) : (x.setN q y).orders = x.orders := by cases q <;> rfl
theorem setN_house (x : XS) (q : Bool) (y : NX) : (x.setN q y).house = x.house := by cases q <;> rfl
theorem setN_cues (x : XS) (q : Bool) (y : NX) : (x.setN q y).cues = x.cues := by cases q <;> rfl
theorem setN_tape (x : XS) (q : Bool) (y : NX) : (x.setN q y).tape = x.tape := by cases q <;> rfl
theorem setN_states (x : XS) (q : Bool) (y : NX) : (x.setN q y).states = x.states := by cases q <;> rfl
theorem setN_asked (x : XS) (q : Bool) (y : NX) : (x.setN q y).asked = x.asked := by cases q <;> rfl
theorem setN_carriesSet (x : XS) (q : Bool) (y : NX) : (x.setN q y).carriesSet = x.carriesSet := by cases q <;> rfl
theorem setN_heights (x : XS) (q : Bool) (y : NX) : (x.setN q y).heights = x.heights := by cases q <;> rfl
theorem setN_worth (x : XS) (q : Bool) (y : NX) : (x.setN q y).worth = x.worth := by cases q <;> rfl
theorem setN_mouths (x : XS) (q : Bool) (y : NX) : (x.setN q y).mouths = x.mouths := by cases q <;> rfl
theorem setN_sided (x : XS) (q : Bool) (y : NX) : (x.setN q y).sided = x.sided := by cases q <;> rfl
theorem setN_keptHouse (x : XS) (q : Bool) (y : NX) : (x.setN q y).keptHouse = x.keptHouse := by cases q <;> rfl
theorem setN_keptPaid (x : XS) (q : Bool) (y : NX) : (x.setN q y).keptPaid = x.keptPaid := by cases q <;> rfl
theorem setN_keptHiss (x : XS) (q : Bool) (y : NX) : (x.setN q y).keptHiss = x.keptHiss := by cases q <;> rfl
theorem setN_kMod (x : XS) (q : Bool) (y : NX) : (x.setN q y).kMod = x.kMod := by cases q <;> rfl
theorem setN_kData (x : XS) (q : Bool) (y : NX) : (x.setN q y).kData = x.kData := by cases q <;> rfl
theorem setN_kSize (x : XS) (q : Bool) (y : NX) : (x.setN q y).kSize = x.kSize := by cases q <;> rfl
theorem setN_out (x : XS) (q : Bool) (y : NX) : (x.setN q y).out = x.out := by cases q <;> rfl
def xRI (b : Mem) (x : XS) : Nat → Int32 := fun k => if k = 2 then x.taped else if k = 3 then x.fault else if k = 12 then x.bought else if k = 16 then x.worthMany else if k = 20 then x.beganFirst else if k = 21 then x.beganSecond else if k = 22 then x.seed else if k = 23 then x.arranged else mI b 64 k
def xRJ (b : Mem) (x : XS) : Nat → Int64 := fun k => if k = 5 then x.paid else if k = 6 then x.hiss else if k = 17 then x.orders else mJ b 64 k
def xRA (b : Mem) (x : XS) : Nat → Rf := fun k => if k = 4 then x.house else if k = 7 then x.cues else if k = 1 then some 65 else if k = 10 then some 95 else if k = 11 then some 96 else if k = 13 then some 97 else if k = 14 then some 98 else if k = 15 then some 99 else if k = 18 then some 100 else if k = 19 then some 101 else if k = 24 then some 102 else if k = 25 then some 103 else if k = 26 then some 104 else if k = 8 then some 81 else if k = 9 then some 88 else if k = 27 then some 105 else mA b 64 k
def kRI (b : Mem) (x : XS) : Nat → Int32 := fun k => if k = 152 then x.kMod else if k = 154 then x.kSize else mI b 105 k
def kRA (b : Mem) (x : XS) : Nat → Rf := fun k => if k = 153 then x.kData else mA b 105 k
def nRI (b : Mem) (i : Nat) (y : NX) : Nat → Int32 := fun k => if k = 44 then y.now else if k = 45 then y.next else if k = 46 then y.isStill else mI b i k
def nRJ (b : Mem) (i : Nat) (y : NX) : Nat → Int64 := fun k => if k = 42 then y.paid else if k = 43 then y.hiss else if k = 54 then y.ahead else mJ b i k
def nRA (b : Mem) (i : Nat) (y : NX) : Nat → Rf := fun k => if k = 41 then y.h else if k = 47 then y.cues else if k = 48 then some (i + (if y.sw then 2 else 1)) else if k = 49 then some (i + (if y.sw then 1 else 2)) else if k = 50 then some (i + (if y.sw then 4 else 3)) else if k = 51 then some (i + (if y.sw then 3 else 4)) else if k = 52 then some (i + 5) else if k = 53 then some (i + 6) else mA b i k
def mkY (b : Mem) (x : XS) (y0 y1 : NX) : Mem := ((up1 (up1 (up1 (up1 (up1 (up1 (up1 (up1 (up1 (up1 (up1 (up1 (up1 (up1 (up1 (up1 (up1 (up1 (up1 (up1 (up1 (up1 (up1 (up1 (up1 (up1 (up1 (up1 (mTag b) 65 100) 95 103) 96 102) 97 101) 98 102) 99 103) 100 102) 101 102) 102 106) 103 103) 104 103) 130 103) 105 18) 82 102) 83 102) 84 102) 85 102) 89 102) 90 102) 91 102) 92 102) 86 103) 87 103) 93 103) 94 103) 88 3) 81 3) 64 1), (up1 (up1 (up1 (up1 (up1 (up1 (up1 (up1 (up1 (up1 (up1 (up1 (up1 (up1 (up1 (up1 (up1 (up1 (up1 (up1 (up1 (up1 (up1 (up1 (mLen b) 65 940) 95 2404) 96 8) 97 256) 98 256) 99 8) 100 8) 101 3) 102 2) 103 2) 104 2) 130 1) 82 64) 83 64) 84 64) 85 64) 89 64) 90 64) 91 64) 92 64) 86 3) 87 3) 93 3) 94 3), (up1 (up1 (up1 (up1 (up1 (up1 (up1 (up1 (up1 (up1 (up1 (up1 (up1 (up1 (up1 (up1 (up1 (up1 (mI b) 65 x.tape) 96 x.asked) 97 x.carriesSet) 98 x.heights) 100 x.mouths) 101 x.sided) 82 (if y0.sw then y0.level else y0.was)) 83 (if y0.sw then y0.was else y0.level)) 84 (if y0.sw then y0.held else y0.wasHeld)) 85 (if y0.sw then y0.wasHeld else y0.held)) 89 (if y1.sw then y1.level else y1.was)) 90 (if y1.sw then y1.was else y1.level)) 91 (if y1.sw then y1.held else y1.wasHeld)) 92 (if y1.sw then y1.wasHeld else y1.held)) 105 (kRI b x)) 88 (nRI b 88 y1)) 81 (nRI b 81 y0)) 64 (xRI b x)), (up1 (up1 (up1 (up1 (up1 (up1 (up1 (up1 (up1 (up1 (up1 (up1 (mJ b) 95 x.states) 99 x.worth) 103 x.keptPaid) 104 x.keptHiss) 130 x.out) 86 y0.wasWith) 87 y0.wth) 93 y1.wasWith) 94 y1.wth) 88 (nRJ b 88 y1)) 81 (nRJ b 81 y0)) 64 (xRJ b x)), (up1 (up1 (up1 (up1 (up1 (mA b) 102 x.keptHouse) 105 (kRA b x)) 88 (nRA b 88 y1)) 81 (nRA b 81 y0)) 64 (xRA b x)), mNx b, mNs b)
def mkX (b : Mem) (x : XS) : Mem := mkY b x x.n0 x.n1
theorem mkX_0 (b : Mem) (x : XS) (y : NX) : mkX b (x.setN false y) = mkY b x y x.n1 := rfl
theorem mkX_1 (b : Mem) (x : XS) (y : NX) : mkX b (x.setN true y) = mkY b x x.n0 y := rfl
def nid (q : Bool) : Nat := match q with
  | false => 81
  | true => 88
section MkX
variable {b : Mem} {x : XS} {q : Bool}
theorem mkX_lt (hb : 131 ≤ mNx b) {a : Nat} (h : a < 131) : a < mNx (mkX b x) := Nat.lt_of_lt_of_le h hb
theorem gX_2 (hb : 131 ≤ mNx b) : gI (mkX b x) (some 64) 2 = some x.taped := gI_of (t := 1) (mkX_lt hb (by decide)) rfl (by decide)
theorem pX_2 (hb : 131 ≤ mNx b) {v : Int32} : pI (mkX b x) (some 64) 2 v = some (mkX b (XS.mk (v) (x.fault) (x.bought) (x.worthMany) (x.beganFirst) (x.beganSecond) (x.seed) (x.arranged) (x.paid) (x.hiss) (x.orders) (x.house) (x.cues) (x.tape) (x.states) (x.asked) (x.carriesSet) (x.heights) (x.worth) (x.mouths) (x.sided) (x.keptHouse) (x.keptPaid) (x.keptHiss) (x.kMod) (x.kData) (x.kSize) (x.out) (x.n0) (x.n1))) := by
  rw [pI_of (t := 1) (by decide) (mkX_lt hb (by decide)) rfl (by decide) (Or.inl (by decide))]
  refine congrArg some (mSI_eq rfl rfl ((up2_row _ _ _ _ _).trans (congrArg (up1 _ 64) ?_)) rfl)
  funext k; by_cases hk : k = 2
  · subst hk; rfl
  · simp only [upq, hk, if_false, xRI, XS.setN, XS.n] <;> rfl
theorem gX_3 (hb : 131 ≤ mNx b) : gI (mkX b x) (some 64) 3 = some x.fault := gI_of (t := 1) (mkX_lt hb (by decide)) rfl (by decide)
theorem pX_3 (hb : 131 ≤ mNx b) {v : Int32} : pI (mkX b x) (some 64) 3 v = some (mkX b (XS.mk (x.taped) (v) (x.bought) (x.worthMany) (x.beganFirst) (x.beganSecond) (x.seed) (x.arranged) (x.paid) (x.hiss) (x.orders) (x.house) (x.cues) (x.tape) (x.states) (x.asked) (x.carriesSet) (x.heights) (x.worth) (x.mouths) (x.sided) (x.keptHouse) (x.keptPaid) (x.keptHiss) (x.kMod) (x.kData) (x.kSize) (x.out) (x.n0) (x.n1))) := by
  rw [pI_of (t := 1) (by decide) (mkX_lt hb (by decide)) rfl (by decide) (Or.inl (by decide))]
  refine congrArg some (mSI_eq rfl rfl ((up2_row _ _ _ _ _).trans (congrArg (up1 _ 64) ?_)) rfl)
  funext k; by_cases hk : k = 3
  · subst hk; rfl
  · simp only [upq, hk, if_false, xRI, XS.setN, XS.n] <;> rfl
theorem gX_12 (hb : 131 ≤ mNx b) : gI (mkX b x) (some 64) 12 = some x.bought := gI_of (t := 1) (mkX_lt hb (by decide)) rfl (by decide)
theorem pX_12 (hb : 131 ≤ mNx b) {v : Int32} : pI (mkX b x) (some 64) 12 v = some (mkX b (XS.mk (x.taped) (x.fault) (v) (x.worthMany) (x.beganFirst) (x.beganSecond) (x.seed) (x.arranged) (x.paid) (x.hiss) (x.orders) (x.house) (x.cues) (x.tape) (x.states) (x.asked) (x.carriesSet) (x.heights) (x.worth) (x.mouths) (x.sided) (x.keptHouse) (x.keptPaid) (x.keptHiss) (x.kMod) (x.kData) (x.kSize) (x.out) (x.n0) (x.n1))) := by
  rw [pI_of (t := 1) (by decide) (mkX_lt hb (by decide)) rfl (by decide) (Or.inl (by decide))]
  refine congrArg some (mSI_eq rfl rfl ((up2_row _ _ _ _ _).trans (congrArg (up1 _ 64) ?_)) rfl)
  funext k; by_cases hk : k = 12
  · subst hk; rfl
  · simp only [upq, hk, if_false, xRI, XS.setN, XS.n] <;> rfl
theorem gX_16 (hb : 131 ≤ mNx b) : gI (mkX b x) (some 64) 16 = some x.worthMany := gI_of (t := 1) (mkX_lt hb (by decide)) rfl (by decide)
theorem pX_16 (hb : 131 ≤ mNx b) {v : Int32} : pI (mkX b x) (some 64) 16 v = some (mkX b (XS.mk (x.taped) (x.fault) (x.bought) (v) (x.beganFirst) (x.beganSecond) (x.seed) (x.arranged) (x.paid) (x.hiss) (x.orders) (x.house) (x.cues) (x.tape) (x.states) (x.asked) (x.carriesSet) (x.heights) (x.worth) (x.mouths) (x.sided) (x.keptHouse) (x.keptPaid) (x.keptHiss) (x.kMod) (x.kData) (x.kSize) (x.out) (x.n0) (x.n1))) := by
  rw [pI_of (t := 1) (by decide) (mkX_lt hb (by decide)) rfl (by decide) (Or.inl (by decide))]
  refine congrArg some (mSI_eq rfl rfl ((up2_row _ _ _ _ _).trans (congrArg (up1 _ 64) ?_)) rfl)
  funext k; by_cases hk : k = 16
  · subst hk; rfl
  · simp only [upq, hk, if_false, xRI, XS.setN, XS.n] <;> rfl
theorem gX_20 (hb : 131 ≤ mNx b) : gI (mkX b x) (some 64) 20 = some x.beganFirst := gI_of (t := 1) (mkX_lt hb (by decide)) rfl (by decide)
theorem pX_20 (hb : 131 ≤ mNx b) {v : Int32} : pI (mkX b x) (some 64) 20 v = some (mkX b (XS.mk (x.taped) (x.fault) (x.bought) (x.worthMany) (v) (x.beganSecond) (x.seed) (x.arranged) (x.paid) (x.hiss) (x.orders) (x.house) (x.cues) (x.tape) (x.states) (x.asked) (x.carriesSet) (x.heights) (x.worth) (x.mouths) (x.sided) (x.keptHouse) (x.keptPaid) (x.keptHiss) (x.kMod) (x.kData) (x.kSize) (x.out) (x.n0) (x.n1))) := by
  rw [pI_of (t := 1) (by decide) (mkX_lt hb (by decide)) rfl (by decide) (Or.inl (by decide))]
  refine congrArg some (mSI_eq rfl rfl ((up2_row _ _ _ _ _).trans (congrArg (up1 _ 64) ?_)) rfl)
  funext k; by_cases hk : k = 20
  · subst hk; rfl
  · simp only [upq, hk, if_false, xRI, XS.setN, XS.n] <;> rfl
theorem gX_21 (hb : 131 ≤ mNx b) : gI (mkX b x) (some 64) 21 = some x.beganSecond := gI_of (t := 1) (mkX_lt hb (by decide)) rfl (by decide)
theorem pX_21 (hb : 131 ≤ mNx b) {v : Int32} : pI (mkX b x) (some 64) 21 v = some (mkX b (XS.mk (x.taped) (x.fault) (x.bought) (x.worthMany) (x.beganFirst) (v) (x.seed) (x.arranged) (x.paid) (x.hiss) (x.orders) (x.house) (x.cues) (x.tape) (x.states) (x.asked) (x.carriesSet) (x.heights) (x.worth) (x.mouths) (x.sided) (x.keptHouse) (x.keptPaid) (x.keptHiss) (x.kMod) (x.kData) (x.kSize) (x.out) (x.n0) (x.n1))) := by
  rw [pI_of (t := 1) (by decide) (mkX_lt hb (by decide)) rfl (by decide) (Or.inl (by decide))]
  refine congrArg some (mSI_eq rfl rfl ((up2_row _ _ _ _ _).trans (congrArg (up1 _ 64) ?_)) rfl)
  funext k; by_cases hk : k = 21
  · subst hk; rfl
  · simp only [upq, hk, if_false, xRI, XS.setN, XS.n] <;> rfl
theorem gX_22 (hb : 131 ≤ mNx b) : gI (mkX b x) (some 64) 22 = some x.seed := gI_of (t := 1) (mkX_lt hb (by decide)) rfl (by decide)
theorem pX_22 (hb : 131 ≤ mNx b) {v : Int32} : pI (mkX b x) (some 64) 22 v = some (mkX b (XS.mk (x.taped) (x.fault) (x.bought) (x.worthMany) (x.beganFirst) (x.beganSecond) (v) (x.arranged) (x.paid) (x.hiss) (x.orders) (x.house) (x.cues) (x.tape) (x.states) (x.asked) (x.carriesSet) (x.heights) (x.worth) (x.mouths) (x.sided) (x.keptHouse) (x.keptPaid) (x.keptHiss) (x.kMod) (x.kData) (x.kSize) (x.out) (x.n0) (x.n1))) := by
  rw [pI_of (t := 1) (by decide) (mkX_lt hb (by decide)) rfl (by decide) (Or.inl (by decide))]
  refine congrArg some (mSI_eq rfl rfl ((up2_row _ _ _ _ _).trans (congrArg (up1 _ 64) ?_)) rfl)
  funext k; by_cases hk : k = 22
  · subst hk; rfl
  · simp only [upq, hk, if_false, xRI, XS.setN, XS.n] <;> rfl
theorem gX_23 (hb : 131 ≤ mNx b) : gI (mkX b x) (some 64) 23 = some x.arranged := gI_of (t := 1) (mkX_lt hb (by decide)) rfl (by decide)
theorem pX_23 (hb : 131 ≤ mNx b) {v : Int32} : pI (mkX b x) (some 64) 23 v = some (mkX b (XS.mk (x.taped) (x.fault) (x.bought) (x.worthMany) (x.beganFirst) (x.beganSecond) (x.seed) (v) (x.paid) (x.hiss) (x.orders) (x.house) (x.cues) (x.tape) (x.states) (x.asked) (x.carriesSet) (x.heights) (x.worth) (x.mouths) (x.sided) (x.keptHouse) (x.keptPaid) (x.keptHiss) (x.kMod) (x.kData) (x.kSize) (x.out) (x.n0) (x.n1))) := by
  rw [pI_of (t := 1) (by decide) (mkX_lt hb (by decide)) rfl (by decide) (Or.inl (by decide))]
  refine congrArg some (mSI_eq rfl rfl ((up2_row _ _ _ _ _).trans (congrArg (up1 _ 64) ?_)) rfl)
  funext k; by_cases hk : k = 23
  · subst hk; rfl
  · simp only [upq, hk, if_false, xRI, XS.setN, XS.n] <;> rfl
theorem gX_5 (hb : 131 ≤ mNx b) : gJ (mkX b x) (some 64) 5 = some x.paid := gJ_of (t := 1) (mkX_lt hb (by decide)) rfl (by decide)
theorem pX_5 (hb : 131 ≤ mNx b) {v : Int64} : pJ (mkX b x) (some 64) 5 v = some (mkX b (XS.mk (x.taped) (x.fault) (x.bought) (x.worthMany) (x.beganFirst) (x.beganSecond) (x.seed) (x.arranged) (v) (x.hiss) (x.orders) (x.house) (x.cues) (x.tape) (x.states) (x.asked) (x.carriesSet) (x.heights) (x.worth) (x.mouths) (x.sided) (x.keptHouse) (x.keptPaid) (x.keptHiss) (x.kMod) (x.kData) (x.kSize) (x.out) (x.n0) (x.n1))) := by
  rw [pJ_of (t := 1) (by decide) (mkX_lt hb (by decide)) rfl (by decide)]
  refine congrArg some (mSJ_eq rfl rfl rfl ((up2_row _ _ _ _ _).trans (congrArg (up1 _ 64) ?_)) rfl)
  funext k; by_cases hk : k = 5
  · subst hk; rfl
  · simp only [upq, hk, if_false, xRJ, XS.setN, XS.n] <;> rfl
theorem gX_6 (hb : 131 ≤ mNx b) : gJ (mkX b x) (some 64) 6 = some x.hiss := gJ_of (t := 1) (mkX_lt hb (by decide)) rfl (by decide)
theorem pX_6 (hb : 131 ≤ mNx b) {v : Int64} : pJ (mkX b x) (some 64) 6 v = some (mkX b (XS.mk (x.taped) (x.fault) (x.bought) (x.worthMany) (x.beganFirst) (x.beganSecond) (x.seed) (x.arranged) (x.paid) (v) (x.orders) (x.house) (x.cues) (x.tape) (x.states) (x.asked) (x.carriesSet) (x.heights) (x.worth) (x.mouths) (x.sided) (x.keptHouse) (x.keptPaid) (x.keptHiss) (x.kMod) (x.kData) (x.kSize) (x.out) (x.n0) (x.n1))) := by
  rw [pJ_of (t := 1) (by decide) (mkX_lt hb (by decide)) rfl (by decide)]
  refine congrArg some (mSJ_eq rfl rfl rfl ((up2_row _ _ _ _ _).trans (congrArg (up1 _ 64) ?_)) rfl)
  funext k; by_cases hk : k = 6
  · subst hk; rfl
  · simp only [upq, hk, if_false, xRJ, XS.setN, XS.n] <;> rfl
theorem gX_17 (hb : 131 ≤ mNx b) : gJ (mkX b x) (some 64) 17 = some x.orders := gJ_of (t := 1) (mkX_lt hb (by decide)) rfl (by decide)
theorem pX_17 (hb : 131 ≤ mNx b) {v : Int64} : pJ (mkX b x) (some 64) 17 v = some (mkX b (XS.mk (x.taped) (x.fault) (x.bought) (x.worthMany) (x.beganFirst) (x.beganSecond) (x.seed) (x.arranged) (x.paid) (x.hiss) (v) (x.house) (x.cues) (x.tape) (x.states) (x.asked) (x.carriesSet) (x.heights) (x.worth) (x.mouths) (x.sided) (x.keptHouse) (x.keptPaid) (x.keptHiss) (x.kMod) (x.kData) (x.kSize) (x.out) (x.n0) (x.n1))) := by
  rw [pJ_of (t := 1) (by decide) (mkX_lt hb (by decide)) rfl (by decide)]
  refine congrArg some (mSJ_eq rfl rfl rfl ((up2_row _ _ _ _ _).trans (congrArg (up1 _ 64) ?_)) rfl)
  funext k; by_cases hk : k = 17
  · subst hk; rfl
  · simp only [upq, hk, if_false, xRJ, XS.setN, XS.n] <;> rfl
theorem gX_4 (hb : 131 ≤ mNx b) : gA (mkX b x) (some 64) 4 = some x.house := gA_of (t := 1) (mkX_lt hb (by decide)) rfl (by decide)
theorem pX_4 (hb : 131 ≤ mNx b) {v : Rf} : pA (mkX b x) (some 64) 4 v = some (mkX b (XS.mk (x.taped) (x.fault) (x.bought) (x.worthMany) (x.beganFirst) (x.beganSecond) (x.seed) (x.arranged) (x.paid) (x.hiss) (x.orders) (v) (x.cues) (x.tape) (x.states) (x.asked) (x.carriesSet) (x.heights) (x.worth) (x.mouths) (x.sided) (x.keptHouse) (x.keptPaid) (x.keptHiss) (x.kMod) (x.kData) (x.kSize) (x.out) (x.n0) (x.n1))) := by
  rw [pA_of (t := 1) (by decide) (mkX_lt hb (by decide)) rfl (by decide)]
  refine congrArg some (mSA_eq rfl rfl rfl rfl ((up2_row _ _ _ _ _).trans (congrArg (up1 _ 64) ?_)) rfl)
  funext k; by_cases hk : k = 4
  · subst hk; rfl
  · simp only [upq, hk, if_false, xRA, XS.setN, XS.n] <;> rfl
theorem gX_7 (hb : 131 ≤ mNx b) : gA (mkX b x) (some 64) 7 = some x.cues := gA_of (t := 1) (mkX_lt hb (by decide)) rfl (by decide)
theorem pX_7 (hb : 131 ≤ mNx b) {v : Rf} : pA (mkX b x) (some 64) 7 v = some (mkX b (XS.mk (x.taped) (x.fault) (x.bought) (x.worthMany) (x.beganFirst) (x.beganSecond) (x.seed) (x.arranged) (x.paid) (x.hiss) (x.orders) (x.house) (v) (x.tape) (x.states) (x.asked) (x.carriesSet) (x.heights) (x.worth) (x.mouths) (x.sided) (x.keptHouse) (x.keptPaid) (x.keptHiss) (x.kMod) (x.kData) (x.kSize) (x.out) (x.n0) (x.n1))) := by
  rw [pA_of (t := 1) (by decide) (mkX_lt hb (by decide)) rfl (by decide)]
  refine congrArg some (mSA_eq rfl rfl rfl rfl ((up2_row _ _ _ _ _).trans (congrArg (up1 _ 64) ?_)) rfl)
  funext k; by_cases hk : k = 7
  · subst hk; rfl
  · simp only [upq, hk, if_false, xRA, XS.setN, XS.n] <;> rfl
theorem gK_152 (hb : 131 ≤ mNx b) : gI (mkX b x) (some 105) 152 = some x.kMod := gI_of (t := 18) (mkX_lt hb (by decide)) rfl (by decide)
theorem pK_152 (hb : 131 ≤ mNx b) {v : Int32} : pI (mkX b x) (some 105) 152 v = some (mkX b (XS.mk (x.taped) (x.fault) (x.bought) (x.worthMany) (x.beganFirst) (x.beganSecond) (x.seed) (x.arranged) (x.paid) (x.hiss) (x.orders) (x.house) (x.cues) (x.tape) (x.states) (x.asked) (x.carriesSet) (x.heights) (x.worth) (x.mouths) (x.sided) (x.keptHouse) (x.keptPaid) (x.keptHiss) (v) (x.kData) (x.kSize) (x.out) (x.n0) (x.n1))) := by
  rw [pI_of (t := 18) (by decide) (mkX_lt hb (by decide)) rfl (by decide) (Or.inl (by decide))]
  refine congrArg some (mSI_eq rfl rfl ((up2_nq _ _ _ _ (by decide)).trans (congrArg (fun z => up1 z _ _) ((up2_nq _ _ _ _ (by decide)).trans (congrArg (fun z => up1 z _ _) ((up2_nq _ _ _ _ (by decide)).trans (congrArg (fun z => up1 z _ _) ((up2_row _ _ _ _ _).trans (congrArg (up1 _ 105) ?_)))))))) rfl)
  funext k; by_cases hk : k = 152
  · subst hk; rfl
  · simp only [upq, hk, if_false, kRI, XS.setN, XS.n] <;> rfl
theorem gK_153 (hb : 131 ≤ mNx b) : gA (mkX b x) (some 105) 153 = some x.kData := gA_of (t := 18) (mkX_lt hb (by decide)) rfl (by decide)
theorem pK_153 (hb : 131 ≤ mNx b) {v : Rf} : pA (mkX b x) (some 105) 153 v = some (mkX b (XS.mk (x.taped) (x.fault) (x.bought) (x.worthMany) (x.beganFirst) (x.beganSecond) (x.seed) (x.arranged) (x.paid) (x.hiss) (x.orders) (x.house) (x.cues) (x.tape) (x.states) (x.asked) (x.carriesSet) (x.heights) (x.worth) (x.mouths) (x.sided) (x.keptHouse) (x.keptPaid) (x.keptHiss) (x.kMod) (v) (x.kSize) (x.out) (x.n0) (x.n1))) := by
  rw [pA_of (t := 18) (by decide) (mkX_lt hb (by decide)) rfl (by decide)]
  refine congrArg some (mSA_eq rfl rfl rfl rfl ((up2_nq _ _ _ _ (by decide)).trans (congrArg (fun z => up1 z _ _) ((up2_nq _ _ _ _ (by decide)).trans (congrArg (fun z => up1 z _ _) ((up2_nq _ _ _ _ (by decide)).trans (congrArg (fun z => up1 z _ _) ((up2_row _ _ _ _ _).trans (congrArg (up1 _ 105) ?_)))))))) rfl)
  funext k; by_cases hk : k = 153
  · subst hk; rfl
  · simp only [upq, hk, if_false, kRA, XS.setN, XS.n] <;> rfl
theorem gK_154 (hb : 131 ≤ mNx b) : gI (mkX b x) (some 105) 154 = some x.kSize := gI_of (t := 18) (mkX_lt hb (by decide)) rfl (by decide)
theorem pK_154 (hb : 131 ≤ mNx b) {v : Int32} : pI (mkX b x) (some 105) 154 v = some (mkX b (XS.mk (x.taped) (x.fault) (x.bought) (x.worthMany) (x.beganFirst) (x.beganSecond) (x.seed) (x.arranged) (x.paid) (x.hiss) (x.orders) (x.house) (x.cues) (x.tape) (x.states) (x.asked) (x.carriesSet) (x.heights) (x.worth) (x.mouths) (x.sided) (x.keptHouse) (x.keptPaid) (x.keptHiss) (x.kMod) (x.kData) (v) (x.out) (x.n0) (x.n1))) := by
  rw [pI_of (t := 18) (by decide) (mkX_lt hb (by decide)) rfl (by decide) (Or.inl (by decide))]
  refine congrArg some (mSI_eq rfl rfl ((up2_nq _ _ _ _ (by decide)).trans (congrArg (fun z => up1 z _ _) ((up2_nq _ _ _ _ (by decide)).trans (congrArg (fun z => up1 z _ _) ((up2_nq _ _ _ _ (by decide)).trans (congrArg (fun z => up1 z _ _) ((up2_row _ _ _ _ _).trans (congrArg (up1 _ 105) ?_)))))))) rfl)
  funext k; by_cases hk : k = 154
  · subst hk; rfl
  · simp only [upq, hk, if_false, kRI, XS.setN, XS.n] <;> rfl
theorem gN_44 (hb : 131 ≤ mNx b) : gI (mkX b x) (some (nid q)) 44 = some (x.n q).now := by cases q <;> exact gI_of (t := 3) (mkX_lt hb (by decide)) rfl (by decide)
theorem pN_44 (hb : 131 ≤ mNx b) {v : Int32} : pI (mkX b x) (some (nid q)) 44 v = some (mkX b (x.setN q ((x.n q).s_now v))) := by
  cases q
  · show pI (mkX b x) (some 81) 44 v = _
    rw [mkX_0]
    rw [pI_of (t := 3) (by decide) (mkX_lt hb (by decide)) rfl (by decide) (Or.inl (by decide))]
    refine congrArg some (mSI_eq rfl rfl ((up2_nq _ _ _ _ (by decide)).trans (congrArg (fun z => up1 z _ _) ((up2_row _ _ _ _ _).trans (congrArg (up1 _ 81) ?_)))) rfl)
    funext k; by_cases hk : k = 44
    · subst hk; rfl
    · simp only [upq, hk, if_false, nRI, XS.setN, XS.n, NX.s_now] <;> rfl
  · show pI (mkX b x) (some 88) 44 v = _
    rw [mkX_1]
    rw [pI_of (t := 3) (by decide) (mkX_lt hb (by decide)) rfl (by decide) (Or.inl (by decide))]
    refine congrArg some (mSI_eq rfl rfl ((up2_nq _ _ _ _ (by decide)).trans (congrArg (fun z => up1 z _ _) ((up2_nq _ _ _ _ (by decide)).trans (congrArg (fun z => up1 z _ _) ((up2_row _ _ _ _ _).trans (congrArg (up1 _ 88) ?_)))))) rfl)
    funext k; by_cases hk : k = 44
    · subst hk; rfl
    · simp only [upq, hk, if_false, nRI, XS.setN, XS.n, NX.s_now] <;> rfl
theorem gN_45 (hb : 131 ≤ mNx b) : gI (mkX b x) (some (nid q)) 45 = some (x.n q).next := by cases q <;> exact gI_of (t := 3) (mkX_lt hb (by decide)) rfl (by decide)
theorem pN_45 (hb : 131 ≤ mNx b) {v : Int32} : pI (mkX b x) (some (nid q)) 45 v = some (mkX b (x.setN q ((x.n q).s_next v))) := by
  cases q
  · show pI (mkX b x) (some 81) 45 v = _
    rw [mkX_0]
    rw [pI_of (t := 3) (by decide) (mkX_lt hb (by decide)) rfl (by decide) (Or.inl (by decide))]
    refine congrArg some (mSI_eq rfl rfl ((up2_nq _ _ _ _ (by decide)).trans (congrArg (fun z => up1 z _ _) ((up2_row _ _ _ _ _).trans (congrArg (up1 _ 81) ?_)))) rfl)
    funext k; by_cases hk : k = 45
    · subst hk; rfl
    · simp only [upq, hk, if_false, nRI, XS.setN, XS.n, NX.s_next] <;> rfl
  · show pI (mkX b x) (some 88) 45 v = _
    rw [mkX_1]
    rw [pI_of (t := 3) (by decide) (mkX_lt hb (by decide)) rfl (by decide) (Or.inl (by decide))]
    refine congrArg some (mSI_eq rfl rfl ((up2_nq _ _ _ _ (by decide)).trans (congrArg (fun z => up1 z _ _) ((up2_nq _ _ _ _ (by decide)).trans (congrArg (fun z => up1 z _ _) ((up2_row _ _ _ _ _).trans (congrArg (up1 _ 88) ?_)))))) rfl)
    funext k; by_cases hk : k = 45
    · subst hk; rfl
    · simp only [upq, hk, if_false, nRI, XS.setN, XS.n, NX.s_next] <;> rfl
theorem gN_46 (hb : 131 ≤ mNx b) : gI (mkX b x) (some (nid q)) 46 = some (x.n q).isStill := by cases q <;> exact gI_of (t := 3) (mkX_lt hb (by decide)) rfl (by decide)
theorem pN_46 (hb : 131 ≤ mNx b) {v : Int32} (h : v = 0 ∨ v = 1) : pI (mkX b x) (some (nid q)) 46 v = some (mkX b (x.setN q ((x.n q).s_isStill v))) := by
  cases q
  · show pI (mkX b x) (some 81) 46 v = _
    rw [mkX_0]
    rw [pI_of (t := 3) (by decide) (mkX_lt hb (by decide)) rfl (by decide) (Or.inr (Or.inl ⟨by decide, h⟩))]
    refine congrArg some (mSI_eq rfl rfl ((up2_nq _ _ _ _ (by decide)).trans (congrArg (fun z => up1 z _ _) ((up2_row _ _ _ _ _).trans (congrArg (up1 _ 81) ?_)))) rfl)
    funext k; by_cases hk : k = 46
    · subst hk; rfl
    · simp only [upq, hk, if_false, nRI, XS.setN, XS.n, NX.s_isStill] <;> rfl
  · show pI (mkX b x) (some 88) 46 v = _
    rw [mkX_1]
    rw [pI_of (t := 3) (by decide) (mkX_lt hb (by decide)) rfl (by decide) (Or.inr (Or.inl ⟨by decide, h⟩))]
    refine congrArg some (mSI_eq rfl rfl ((up2_nq _ _ _ _ (by decide)).trans (congrArg (fun z => up1 z _ _) ((up2_nq _ _ _ _ (by decide)).trans (congrArg (fun z => up1 z _ _) ((up2_row _ _ _ _ _).trans (congrArg (up1 _ 88) ?_)))))) rfl)
    funext k; by_cases hk : k = 46
    · subst hk; rfl
    · simp only [upq, hk, if_false, nRI, XS.setN, XS.n, NX.s_isStill] <;> rfl
theorem gN_42 (hb : 131 ≤ mNx b) : gJ (mkX b x) (some (nid q)) 42 = some (x.n q).paid := by cases q <;> exact gJ_of (t := 3) (mkX_lt hb (by decide)) rfl (by decide)
theorem pN_42 (hb : 131 ≤ mNx b) {v : Int64} : pJ (mkX b x) (some (nid q)) 42 v = some (mkX b (x.setN q ((x.n q).s_paid v))) := by
  cases q
  · show pJ (mkX b x) (some 81) 42 v = _
    rw [mkX_0]
    rw [pJ_of (t := 3) (by decide) (mkX_lt hb (by decide)) rfl (by decide)]
    refine congrArg some (mSJ_eq rfl rfl rfl ((up2_nq _ _ _ _ (by decide)).trans (congrArg (fun z => up1 z _ _) ((up2_row _ _ _ _ _).trans (congrArg (up1 _ 81) ?_)))) rfl)
    funext k; by_cases hk : k = 42
    · subst hk; rfl
    · simp only [upq, hk, if_false, nRJ, XS.setN, XS.n, NX.s_paid] <;> rfl
  · show pJ (mkX b x) (some 88) 42 v = _
    rw [mkX_1]
    rw [pJ_of (t := 3) (by decide) (mkX_lt hb (by decide)) rfl (by decide)]
    refine congrArg some (mSJ_eq rfl rfl rfl ((up2_nq _ _ _ _ (by decide)).trans (congrArg (fun z => up1 z _ _) ((up2_nq _ _ _ _ (by decide)).trans (congrArg (fun z => up1 z _ _) ((up2_row _ _ _ _ _).trans (congrArg (up1 _ 88) ?_)))))) rfl)
    funext k; by_cases hk : k = 42
    · subst hk; rfl
    · simp only [upq, hk, if_false, nRJ, XS.setN, XS.n, NX.s_paid] <;> rfl
theorem gN_43 (hb : 131 ≤ mNx b) : gJ (mkX b x) (some (nid q)) 43 = some (x.n q).hiss := by cases q <;> exact gJ_of (t := 3) (mkX_lt hb (by decide)) rfl (by decide)
theorem pN_43 (hb : 131 ≤ mNx b) {v : Int64} : pJ (mkX b x) (some (nid q)) 43 v = some (mkX b (x.setN q ((x.n q).s_hiss v))) := by
  cases q
  · show pJ (mkX b x) (some 81) 43 v = _
    rw [mkX_0]
    rw [pJ_of (t := 3) (by decide) (mkX_lt hb (by decide)) rfl (by decide)]
    refine congrArg some (mSJ_eq rfl rfl rfl ((up2_nq _ _ _ _ (by decide)).trans (congrArg (fun z => up1 z _ _) ((up2_row _ _ _ _ _).trans (congrArg (up1 _ 81) ?_)))) rfl)
    funext k; by_cases hk : k = 43
    · subst hk; rfl
    · simp only [upq, hk, if_false, nRJ, XS.setN, XS.n, NX.s_hiss] <;> rfl
  · show pJ (mkX b x) (some 88) 43 v = _
    rw [mkX_1]
    rw [pJ_of (t := 3) (by decide) (mkX_lt hb (by decide)) rfl (by decide)]
    refine congrArg some (mSJ_eq rfl rfl rfl ((up2_nq _ _ _ _ (by decide)).trans (congrArg (fun z => up1 z _ _) ((up2_nq _ _ _ _ (by decide)).trans (congrArg (fun z => up1 z _ _) ((up2_row _ _ _ _ _).trans (congrArg (up1 _ 88) ?_)))))) rfl)
    funext k; by_cases hk : k = 43
    · subst hk; rfl
    · simp only [upq, hk, if_false, nRJ, XS.setN, XS.n, NX.s_hiss] <;> rfl
theorem gN_54 (hb : 131 ≤ mNx b) : gJ (mkX b x) (some (nid q)) 54 = some (x.n q).ahead := by cases q <;> exact gJ_of (t := 3) (mkX_lt hb (by decide)) rfl (by decide)
theorem pN_54 (hb : 131 ≤ mNx b) {v : Int64} : pJ (mkX b x) (some (nid q)) 54 v = some (mkX b (x.setN q ((x.n q).s_ahead v))) := by
  cases q
  · show pJ (mkX b x) (some 81) 54 v = _
    rw [mkX_0]
    rw [pJ_of (t := 3) (by decide) (mkX_lt hb (by decide)) rfl (by decide)]
    refine congrArg some (mSJ_eq rfl rfl rfl ((up2_nq _ _ _ _ (by decide)).trans (congrArg (fun z => up1 z _ _) ((up2_row _ _ _ _ _).trans (congrArg (up1 _ 81) ?_)))) rfl)
    funext k; by_cases hk : k = 54
    · subst hk; rfl
    · simp only [upq, hk, if_false, nRJ, XS.setN, XS.n, NX.s_ahead] <;> rfl
  · show pJ (mkX b x) (some 88) 54 v = _
    rw [mkX_1]
    rw [pJ_of (t := 3) (by decide) (mkX_lt hb (by decide)) rfl (by decide)]
    refine congrArg some (mSJ_eq rfl rfl rfl ((up2_nq _ _ _ _ (by decide)).trans (congrArg (fun z => up1 z _ _) ((up2_nq _ _ _ _ (by decide)).trans (congrArg (fun z => up1 z _ _) ((up2_row _ _ _ _ _).trans (congrArg (up1 _ 88) ?_)))))) rfl)
    funext k; by_cases hk : k = 54
    · subst hk; rfl
    · simp only [upq, hk, if_false, nRJ, XS.setN, XS.n, NX.s_ahead] <;> rfl
theorem gN_41 (hb : 131 ≤ mNx b) : gA (mkX b x) (some (nid q)) 41 = some (x.n q).h := by cases q <;> exact gA_of (t := 3) (mkX_lt hb (by decide)) rfl (by decide)
theorem pN_41 (hb : 131 ≤ mNx b) {v : Rf} : pA (mkX b x) (some (nid q)) 41 v = some (mkX b (x.setN q ((x.n q).s_h v))) := by
  cases q
  · show pA (mkX b x) (some 81) 41 v = _
    rw [mkX_0]
    rw [pA_of (t := 3) (by decide) (mkX_lt hb (by decide)) rfl (by decide)]
    refine congrArg some (mSA_eq rfl rfl rfl rfl ((up2_nq _ _ _ _ (by decide)).trans (congrArg (fun z => up1 z _ _) ((up2_row _ _ _ _ _).trans (congrArg (up1 _ 81) ?_)))) rfl)
    funext k; by_cases hk : k = 41
    · subst hk; rfl
    · simp only [upq, hk, if_false, nRA, XS.setN, XS.n, NX.s_h] <;> rfl
  · show pA (mkX b x) (some 88) 41 v = _
    rw [mkX_1]
    rw [pA_of (t := 3) (by decide) (mkX_lt hb (by decide)) rfl (by decide)]
    refine congrArg some (mSA_eq rfl rfl rfl rfl ((up2_nq _ _ _ _ (by decide)).trans (congrArg (fun z => up1 z _ _) ((up2_nq _ _ _ _ (by decide)).trans (congrArg (fun z => up1 z _ _) ((up2_row _ _ _ _ _).trans (congrArg (up1 _ 88) ?_)))))) rfl)
    funext k; by_cases hk : k = 41
    · subst hk; rfl
    · simp only [upq, hk, if_false, nRA, XS.setN, XS.n, NX.s_h] <;> rfl
theorem gN_47 (hb : 131 ≤ mNx b) : gA (mkX b x) (some (nid q)) 47 = some (x.n q).cues := by cases q <;> exact gA_of (t := 3) (mkX_lt hb (by decide)) rfl (by decide)
theorem pN_47 (hb : 131 ≤ mNx b) {v : Rf} : pA (mkX b x) (some (nid q)) 47 v = some (mkX b (x.setN q ((x.n q).s_cues v))) := by
  cases q
  · show pA (mkX b x) (some 81) 47 v = _
    rw [mkX_0]
    rw [pA_of (t := 3) (by decide) (mkX_lt hb (by decide)) rfl (by decide)]
    refine congrArg some (mSA_eq rfl rfl rfl rfl ((up2_nq _ _ _ _ (by decide)).trans (congrArg (fun z => up1 z _ _) ((up2_row _ _ _ _ _).trans (congrArg (up1 _ 81) ?_)))) rfl)
    funext k; by_cases hk : k = 47
    · subst hk; rfl
    · simp only [upq, hk, if_false, nRA, XS.setN, XS.n, NX.s_cues] <;> rfl
  · show pA (mkX b x) (some 88) 47 v = _
    rw [mkX_1]
    rw [pA_of (t := 3) (by decide) (mkX_lt hb (by decide)) rfl (by decide)]
    refine congrArg some (mSA_eq rfl rfl rfl rfl ((up2_nq _ _ _ _ (by decide)).trans (congrArg (fun z => up1 z _ _) ((up2_nq _ _ _ _ (by decide)).trans (congrArg (fun z => up1 z _ _) ((up2_row _ _ _ _ _).trans (congrArg (up1 _ 88) ?_)))))) rfl)
    funext k; by_cases hk : k = 47
    · subst hk; rfl
    · simp only [upq, hk, if_false, nRA, XS.setN, XS.n, NX.s_cues] <;> rfl
theorem gX_8 (hb : 131 ≤ mNx b) : gA (mkX b x) (some 64) 8 = some (some (nid false)) := gA_of (t := 1) (mkX_lt hb (by decide)) rfl (by decide)
theorem gX_9 (hb : 131 ≤ mNx b) : gA (mkX b x) (some 64) 9 = some (some (nid true)) := gA_of (t := 1) (mkX_lt hb (by decide)) rfl (by decide)
theorem gX_27 (hb : 131 ≤ mNx b) : gA (mkX b x) (some 64) 27 = some (some 105) := gA_of (t := 1) (mkX_lt hb (by decide)) rfl (by decide)
theorem gX_1 (hb : 131 ≤ mNx b) : gA (mkX b x) (some 64) 1 = some (some 65) := gA_of (t := 1) (mkX_lt hb (by decide)) rfl (by decide)
theorem gX_10 (hb : 131 ≤ mNx b) : gA (mkX b x) (some 64) 10 = some (some 95) := gA_of (t := 1) (mkX_lt hb (by decide)) rfl (by decide)
theorem gX_11 (hb : 131 ≤ mNx b) : gA (mkX b x) (some 64) 11 = some (some 96) := gA_of (t := 1) (mkX_lt hb (by decide)) rfl (by decide)
theorem gX_13 (hb : 131 ≤ mNx b) : gA (mkX b x) (some 64) 13 = some (some 97) := gA_of (t := 1) (mkX_lt hb (by decide)) rfl (by decide)
theorem gX_14 (hb : 131 ≤ mNx b) : gA (mkX b x) (some 64) 14 = some (some 98) := gA_of (t := 1) (mkX_lt hb (by decide)) rfl (by decide)
theorem gX_15 (hb : 131 ≤ mNx b) : gA (mkX b x) (some 64) 15 = some (some 99) := gA_of (t := 1) (mkX_lt hb (by decide)) rfl (by decide)
theorem gX_18 (hb : 131 ≤ mNx b) : gA (mkX b x) (some 64) 18 = some (some 100) := gA_of (t := 1) (mkX_lt hb (by decide)) rfl (by decide)
theorem gX_19 (hb : 131 ≤ mNx b) : gA (mkX b x) (some 64) 19 = some (some 101) := gA_of (t := 1) (mkX_lt hb (by decide)) rfl (by decide)
theorem gX_24 (hb : 131 ≤ mNx b) : gA (mkX b x) (some 64) 24 = some (some 102) := gA_of (t := 1) (mkX_lt hb (by decide)) rfl (by decide)
theorem gX_25 (hb : 131 ≤ mNx b) : gA (mkX b x) (some 64) 25 = some (some 103) := gA_of (t := 1) (mkX_lt hb (by decide)) rfl (by decide)
theorem gX_26 (hb : 131 ≤ mNx b) : gA (mkX b x) (some 64) 26 = some (some 104) := gA_of (t := 1) (mkX_lt hb (by decide)) rfl (by decide)
theorem gN_48 (hb : 131 ≤ mNx b) : gA (mkX b x) (some (nid q)) 48 = some (some (nid q + (if (x.n q).sw then 2 else 1))) := by cases q <;> exact gA_of (t := 3) (mkX_lt hb (by decide)) rfl (by decide)
theorem gN_49 (hb : 131 ≤ mNx b) : gA (mkX b x) (some (nid q)) 49 = some (some (nid q + (if (x.n q).sw then 1 else 2))) := by cases q <;> exact gA_of (t := 3) (mkX_lt hb (by decide)) rfl (by decide)
theorem gN_50 (hb : 131 ≤ mNx b) : gA (mkX b x) (some (nid q)) 50 = some (some (nid q + (if (x.n q).sw then 4 else 3))) := by cases q <;> exact gA_of (t := 3) (mkX_lt hb (by decide)) rfl (by decide)
theorem gN_51 (hb : 131 ≤ mNx b) : gA (mkX b x) (some (nid q)) 51 = some (some (nid q + (if (x.n q).sw then 3 else 4))) := by cases q <;> exact gA_of (t := 3) (mkX_lt hb (by decide)) rfl (by decide)
theorem gN_52 (hb : 131 ≤ mNx b) : gA (mkX b x) (some (nid q)) 52 = some (some (nid q + 5)) := by cases q <;> exact gA_of (t := 3) (mkX_lt hb (by decide)) rfl (by decide)
theorem gN_53 (hb : 131 ≤ mNx b) : gA (mkX b x) (some (nid q)) 53 = some (some (nid q + 6)) := by cases q <;> exact gA_of (t := 3) (mkX_lt hb (by decide)) rfl (by decide)
theorem aX_65 (hb : 131 ≤ mNx b) {i : Int32} : aB (mkX b x) (some 65) i = ifx 940 i (x.tape i.toNatClampNeg) := aB_of (mkX_lt hb (by decide)) (Or.inl rfl) rfl
theorem nX_65 (hb : 131 ≤ mNx b) : aN (mkX b x) (some 65) = some 940 := aN_of (mkX_lt hb (by decide)) (t := 100) rfl rfl (by decide)
theorem uX_65 (hb : 131 ≤ mNx b) {i : Int32} {v : Int32} : uB (mkX b x) (some 65) i v = ifx 940 i (mkX b (XS.mk (x.taped) (x.fault) (x.bought) (x.worthMany) (x.beganFirst) (x.beganSecond) (x.seed) (x.arranged) (x.paid) (x.hiss) (x.orders) (x.house) (x.cues) (upq x.tape i.toNatClampNeg v.toInt8.toInt32) (x.states) (x.asked) (x.carriesSet) (x.heights) (x.worth) (x.mouths) (x.sided) (x.keptHouse) (x.keptPaid) (x.keptHiss) (x.kMod) (x.kData) (x.kSize) (x.out) (x.n0) (x.n1))) := by
  rw [uB_of (by decide) (mkX_lt hb (by decide)) (Or.inl rfl) rfl]
  exact congrArg (ifx _ _) (mSI_eq rfl rfl ((up2_nq _ _ _ _ (by decide)).trans (congrArg (fun z => up1 z _ _) ((up2_nq _ _ _ _ (by decide)).trans (congrArg (fun z => up1 z _ _) ((up2_nq _ _ _ _ (by decide)).trans (congrArg (fun z => up1 z _ _) ((up2_nq _ _ _ _ (by decide)).trans (congrArg (fun z => up1 z _ _) ((up2_nq _ _ _ _ (by decide)).trans (congrArg (fun z => up1 z _ _) ((up2_nq _ _ _ _ (by decide)).trans (congrArg (fun z => up1 z _ _) ((up2_nq _ _ _ _ (by decide)).trans (congrArg (fun z => up1 z _ _) ((up2_nq _ _ _ _ (by decide)).trans (congrArg (fun z => up1 z _ _) ((up2_nq _ _ _ _ (by decide)).trans (congrArg (fun z => up1 z _ _) ((up2_nq _ _ _ _ (by decide)).trans (congrArg (fun z => up1 z _ _) ((up2_nq _ _ _ _ (by decide)).trans (congrArg (fun z => up1 z _ _) ((up2_nq _ _ _ _ (by decide)).trans (congrArg (fun z => up1 z _ _) ((up2_nq _ _ _ _ (by decide)).trans (congrArg (fun z => up1 z _ _) ((up2_nq _ _ _ _ (by decide)).trans (congrArg (fun z => up1 z _ _) ((up2_nq _ _ _ _ (by decide)).trans (congrArg (fun z => up1 z _ _) ((up2_nq _ _ _ _ (by decide)).trans (congrArg (fun z => up1 z _ _) ((up2_nq _ _ _ _ (by decide)).trans (congrArg (fun z => up1 z _ _) (up2_row _ _ _ _ _))))))))))))))))))))))))))))))))))) rfl)
theorem aX_95 (hb : 131 ≤ mNx b) {i : Int32} : aJ (mkX b x) (some 95) i = ifx 2404 i (x.states i.toNatClampNeg) := aJ_of (mkX_lt hb (by decide)) rfl rfl
theorem nX_95 (hb : 131 ≤ mNx b) : aN (mkX b x) (some 95) = some 2404 := aN_of (mkX_lt hb (by decide)) (t := 103) rfl rfl (by decide)
theorem uX_95 (hb : 131 ≤ mNx b) {i : Int32} {v : Int64} : uJ (mkX b x) (some 95) i v = ifx 2404 i (mkX b (XS.mk (x.taped) (x.fault) (x.bought) (x.worthMany) (x.beganFirst) (x.beganSecond) (x.seed) (x.arranged) (x.paid) (x.hiss) (x.orders) (x.house) (x.cues) (x.tape) (upq x.states i.toNatClampNeg v) (x.asked) (x.carriesSet) (x.heights) (x.worth) (x.mouths) (x.sided) (x.keptHouse) (x.keptPaid) (x.keptHiss) (x.kMod) (x.kData) (x.kSize) (x.out) (x.n0) (x.n1))) := by
  rw [uJ_of (by decide) (mkX_lt hb (by decide)) rfl rfl]
  exact congrArg (ifx _ _) (mSJ_eq rfl rfl rfl ((up2_nq _ _ _ _ (by decide)).trans (congrArg (fun z => up1 z _ _) ((up2_nq _ _ _ _ (by decide)).trans (congrArg (fun z => up1 z _ _) ((up2_nq _ _ _ _ (by decide)).trans (congrArg (fun z => up1 z _ _) ((up2_nq _ _ _ _ (by decide)).trans (congrArg (fun z => up1 z _ _) ((up2_nq _ _ _ _ (by decide)).trans (congrArg (fun z => up1 z _ _) ((up2_nq _ _ _ _ (by decide)).trans (congrArg (fun z => up1 z _ _) ((up2_nq _ _ _ _ (by decide)).trans (congrArg (fun z => up1 z _ _) ((up2_nq _ _ _ _ (by decide)).trans (congrArg (fun z => up1 z _ _) ((up2_nq _ _ _ _ (by decide)).trans (congrArg (fun z => up1 z _ _) ((up2_nq _ _ _ _ (by decide)).trans (congrArg (fun z => up1 z _ _) ((up2_nq _ _ _ _ (by decide)).trans (congrArg (fun z => up1 z _ _) (up2_row _ _ _ _ _))))))))))))))))))))))) rfl)
theorem aX_96 (hb : 131 ≤ mNx b) {i : Int32} : aI (mkX b x) (some 96) i = ifx 8 i (x.asked i.toNatClampNeg) := aI_of (mkX_lt hb (by decide)) rfl rfl
theorem nX_96 (hb : 131 ≤ mNx b) : aN (mkX b x) (some 96) = some 8 := aN_of (mkX_lt hb (by decide)) (t := 102) rfl rfl (by decide)
theorem uX_96 (hb : 131 ≤ mNx b) {i : Int32} {v : Int32} : uI (mkX b x) (some 96) i v = ifx 8 i (mkX b (XS.mk (x.taped) (x.fault) (x.bought) (x.worthMany) (x.beganFirst) (x.beganSecond) (x.seed) (x.arranged) (x.paid) (x.hiss) (x.orders) (x.house) (x.cues) (x.tape) (x.states) (upq x.asked i.toNatClampNeg v) (x.carriesSet) (x.heights) (x.worth) (x.mouths) (x.sided) (x.keptHouse) (x.keptPaid) (x.keptHiss) (x.kMod) (x.kData) (x.kSize) (x.out) (x.n0) (x.n1))) := by
  rw [uI_of (by decide) (mkX_lt hb (by decide)) rfl rfl]
  exact congrArg (ifx _ _) (mSI_eq rfl rfl ((up2_nq _ _ _ _ (by decide)).trans (congrArg (fun z => up1 z _ _) ((up2_nq _ _ _ _ (by decide)).trans (congrArg (fun z => up1 z _ _) ((up2_nq _ _ _ _ (by decide)).trans (congrArg (fun z => up1 z _ _) ((up2_nq _ _ _ _ (by decide)).trans (congrArg (fun z => up1 z _ _) ((up2_nq _ _ _ _ (by decide)).trans (congrArg (fun z => up1 z _ _) ((up2_nq _ _ _ _ (by decide)).trans (congrArg (fun z => up1 z _ _) ((up2_nq _ _ _ _ (by decide)).trans (congrArg (fun z => up1 z _ _) ((up2_nq _ _ _ _ (by decide)).trans (congrArg (fun z => up1 z _ _) ((up2_nq _ _ _ _ (by decide)).trans (congrArg (fun z => up1 z _ _) ((up2_nq _ _ _ _ (by decide)).trans (congrArg (fun z => up1 z _ _) ((up2_nq _ _ _ _ (by decide)).trans (congrArg (fun z => up1 z _ _) ((up2_nq _ _ _ _ (by decide)).trans (congrArg (fun z => up1 z _ _) ((up2_nq _ _ _ _ (by decide)).trans (congrArg (fun z => up1 z _ _) ((up2_nq _ _ _ _ (by decide)).trans (congrArg (fun z => up1 z _ _) ((up2_nq _ _ _ _ (by decide)).trans (congrArg (fun z => up1 z _ _) ((up2_nq _ _ _ _ (by decide)).trans (congrArg (fun z => up1 z _ _) (up2_row _ _ _ _ _))))))))))))))))))))))))))))))))) rfl)
theorem aX_97 (hb : 131 ≤ mNx b) {i : Int32} : aB (mkX b x) (some 97) i = ifx 256 i (x.carriesSet i.toNatClampNeg) := aB_of (mkX_lt hb (by decide)) (Or.inr rfl) rfl
theorem nX_97 (hb : 131 ≤ mNx b) : aN (mkX b x) (some 97) = some 256 := aN_of (mkX_lt hb (by decide)) (t := 101) rfl rfl (by decide)
theorem uX_97 (hb : 131 ≤ mNx b) {i : Int32} {v : Int32} : uB (mkX b x) (some 97) i v = ifx 256 i (mkX b (XS.mk (x.taped) (x.fault) (x.bought) (x.worthMany) (x.beganFirst) (x.beganSecond) (x.seed) (x.arranged) (x.paid) (x.hiss) (x.orders) (x.house) (x.cues) (x.tape) (x.states) (x.asked) (upq x.carriesSet i.toNatClampNeg (nz v)) (x.heights) (x.worth) (x.mouths) (x.sided) (x.keptHouse) (x.keptPaid) (x.keptHiss) (x.kMod) (x.kData) (x.kSize) (x.out) (x.n0) (x.n1))) := by
  rw [uB_of (by decide) (mkX_lt hb (by decide)) (Or.inr rfl) rfl]
  exact congrArg (ifx _ _) (mSI_eq rfl rfl ((up2_nq _ _ _ _ (by decide)).trans (congrArg (fun z => up1 z _ _) ((up2_nq _ _ _ _ (by decide)).trans (congrArg (fun z => up1 z _ _) ((up2_nq _ _ _ _ (by decide)).trans (congrArg (fun z => up1 z _ _) ((up2_nq _ _ _ _ (by decide)).trans (congrArg (fun z => up1 z _ _) ((up2_nq _ _ _ _ (by decide)).trans (congrArg (fun z => up1 z _ _) ((up2_nq _ _ _ _ (by decide)).trans (congrArg (fun z => up1 z _ _) ((up2_nq _ _ _ _ (by decide)).trans (congrArg (fun z => up1 z _ _) ((up2_nq _ _ _ _ (by decide)).trans (congrArg (fun z => up1 z _ _) ((up2_nq _ _ _ _ (by decide)).trans (congrArg (fun z => up1 z _ _) ((up2_nq _ _ _ _ (by decide)).trans (congrArg (fun z => up1 z _ _) ((up2_nq _ _ _ _ (by decide)).trans (congrArg (fun z => up1 z _ _) ((up2_nq _ _ _ _ (by decide)).trans (congrArg (fun z => up1 z _ _) ((up2_nq _ _ _ _ (by decide)).trans (congrArg (fun z => up1 z _ _) ((up2_nq _ _ _ _ (by decide)).trans (congrArg (fun z => up1 z _ _) ((up2_nq _ _ _ _ (by decide)).trans (congrArg (fun z => up1 z _ _) (up2_row _ _ _ _ _))))))))))))))))))))))))))))))) rfl)
theorem aX_98 (hb : 131 ≤ mNx b) {i : Int32} : aI (mkX b x) (some 98) i = ifx 256 i (x.heights i.toNatClampNeg) := aI_of (mkX_lt hb (by decide)) rfl rfl
theorem nX_98 (hb : 131 ≤ mNx b) : aN (mkX b x) (some 98) = some 256 := aN_of (mkX_lt hb (by decide)) (t := 102) rfl rfl (by decide)
theorem uX_98 (hb : 131 ≤ mNx b) {i : Int32} {v : Int32} : uI (mkX b x) (some 98) i v = ifx 256 i (mkX b (XS.mk (x.taped) (x.fault) (x.bought) (x.worthMany) (x.beganFirst) (x.beganSecond) (x.seed) (x.arranged) (x.paid) (x.hiss) (x.orders) (x.house) (x.cues) (x.tape) (x.states) (x.asked) (x.carriesSet) (upq x.heights i.toNatClampNeg v) (x.worth) (x.mouths) (x.sided) (x.keptHouse) (x.keptPaid) (x.keptHiss) (x.kMod) (x.kData) (x.kSize) (x.out) (x.n0) (x.n1))) := by
  rw [uI_of (by decide) (mkX_lt hb (by decide)) rfl rfl]
  exact congrArg (ifx _ _) (mSI_eq rfl rfl ((up2_nq _ _ _ _ (by decide)).trans (congrArg (fun z => up1 z _ _) ((up2_nq _ _ _ _ (by decide)).trans (congrArg (fun z => up1 z _ _) ((up2_nq _ _ _ _ (by decide)).trans (congrArg (fun z => up1 z _ _) ((up2_nq _ _ _ _ (by decide)).trans (congrArg (fun z => up1 z _ _) ((up2_nq _ _ _ _ (by decide)).trans (congrArg (fun z => up1 z _ _) ((up2_nq _ _ _ _ (by decide)).trans (congrArg (fun z => up1 z _ _) ((up2_nq _ _ _ _ (by decide)).trans (congrArg (fun z => up1 z _ _) ((up2_nq _ _ _ _ (by decide)).trans (congrArg (fun z => up1 z _ _) ((up2_nq _ _ _ _ (by decide)).trans (congrArg (fun z => up1 z _ _) ((up2_nq _ _ _ _ (by decide)).trans (congrArg (fun z => up1 z _ _) ((up2_nq _ _ _ _ (by decide)).trans (congrArg (fun z => up1 z _ _) ((up2_nq _ _ _ _ (by decide)).trans (congrArg (fun z => up1 z _ _) ((up2_nq _ _ _ _ (by decide)).trans (congrArg (fun z => up1 z _ _) ((up2_nq _ _ _ _ (by decide)).trans (congrArg (fun z => up1 z _ _) (up2_row _ _ _ _ _))))))))))))))))))))))))))))) rfl)
theorem aX_99 (hb : 131 ≤ mNx b) {i : Int32} : aJ (mkX b x) (some 99) i = ifx 8 i (x.worth i.toNatClampNeg) := aJ_of (mkX_lt hb (by decide)) rfl rfl
theorem nX_99 (hb : 131 ≤ mNx b) : aN (mkX b x) (some 99) = some 8 := aN_of (mkX_lt hb (by decide)) (t := 103) rfl rfl (by decide)
theorem uX_99 (hb : 131 ≤ mNx b) {i : Int32} {v : Int64} : uJ (mkX b x) (some 99) i v = ifx 8 i (mkX b (XS.mk (x.taped) (x.fault) (x.bought) (x.worthMany) (x.beganFirst) (x.beganSecond) (x.seed) (x.arranged) (x.paid) (x.hiss) (x.orders) (x.house) (x.cues) (x.tape) (x.states) (x.asked) (x.carriesSet) (x.heights) (upq x.worth i.toNatClampNeg v) (x.mouths) (x.sided) (x.keptHouse) (x.keptPaid) (x.keptHiss) (x.kMod) (x.kData) (x.kSize) (x.out) (x.n0) (x.n1))) := by
  rw [uJ_of (by decide) (mkX_lt hb (by decide)) rfl rfl]
  exact congrArg (ifx _ _) (mSJ_eq rfl rfl rfl ((up2_nq _ _ _ _ (by decide)).trans (congrArg (fun z => up1 z _ _) ((up2_nq _ _ _ _ (by decide)).trans (congrArg (fun z => up1 z _ _) ((up2_nq _ _ _ _ (by decide)).trans (congrArg (fun z => up1 z _ _) ((up2_nq _ _ _ _ (by decide)).trans (congrArg (fun z => up1 z _ _) ((up2_nq _ _ _ _ (by decide)).trans (congrArg (fun z => up1 z _ _) ((up2_nq _ _ _ _ (by decide)).trans (congrArg (fun z => up1 z _ _) ((up2_nq _ _ _ _ (by decide)).trans (congrArg (fun z => up1 z _ _) ((up2_nq _ _ _ _ (by decide)).trans (congrArg (fun z => up1 z _ _) ((up2_nq _ _ _ _ (by decide)).trans (congrArg (fun z => up1 z _ _) ((up2_nq _ _ _ _ (by decide)).trans (congrArg (fun z => up1 z _ _) (up2_row _ _ _ _ _))))))))))))))))))))) rfl)
theorem aX_100 (hb : 131 ≤ mNx b) {i : Int32} : aI (mkX b x) (some 100) i = ifx 8 i (x.mouths i.toNatClampNeg) := aI_of (mkX_lt hb (by decide)) rfl rfl
theorem nX_100 (hb : 131 ≤ mNx b) : aN (mkX b x) (some 100) = some 8 := aN_of (mkX_lt hb (by decide)) (t := 102) rfl rfl (by decide)
theorem uX_100 (hb : 131 ≤ mNx b) {i : Int32} {v : Int32} : uI (mkX b x) (some 100) i v = ifx 8 i (mkX b (XS.mk (x.taped) (x.fault) (x.bought) (x.worthMany) (x.beganFirst) (x.beganSecond) (x.seed) (x.arranged) (x.paid) (x.hiss) (x.orders) (x.house) (x.cues) (x.tape) (x.states) (x.asked) (x.carriesSet) (x.heights) (x.worth) (upq x.mouths i.toNatClampNeg v) (x.sided) (x.keptHouse) (x.keptPaid) (x.keptHiss) (x.kMod) (x.kData) (x.kSize) (x.out) (x.n0) (x.n1))) := by
  rw [uI_of (by decide) (mkX_lt hb (by decide)) rfl rfl]
  exact congrArg (ifx _ _) (mSI_eq rfl rfl ((up2_nq _ _ _ _ (by decide)).trans (congrArg (fun z => up1 z _ _) ((up2_nq _ _ _ _ (by decide)).trans (congrArg (fun z => up1 z _ _) ((up2_nq _ _ _ _ (by decide)).trans (congrArg (fun z => up1 z _ _) ((up2_nq _ _ _ _ (by decide)).trans (congrArg (fun z => up1 z _ _) ((up2_nq _ _ _ _ (by decide)).trans (congrArg (fun z => up1 z _ _) ((up2_nq _ _ _ _ (by decide)).trans (congrArg (fun z => up1 z _ _) ((up2_nq _ _ _ _ (by decide)).trans (congrArg (fun z => up1 z _ _) ((up2_nq _ _ _ _ (by decide)).trans (congrArg (fun z => up1 z _ _) ((up2_nq _ _ _ _ (by decide)).trans (congrArg (fun z => up1 z _ _) ((up2_nq _ _ _ _ (by decide)).trans (congrArg (fun z => up1 z _ _) ((up2_nq _ _ _ _ (by decide)).trans (congrArg (fun z => up1 z _ _) ((up2_nq _ _ _ _ (by decide)).trans (congrArg (fun z => up1 z _ _) ((up2_nq _ _ _ _ (by decide)).trans (congrArg (fun z => up1 z _ _) (up2_row _ _ _ _ _))))))))))))))))))))))))))) rfl)
theorem aX_101 (hb : 131 ≤ mNx b) {i : Int32} : aI (mkX b x) (some 101) i = ifx 3 i (x.sided i.toNatClampNeg) := aI_of (mkX_lt hb (by decide)) rfl rfl
theorem nX_101 (hb : 131 ≤ mNx b) : aN (mkX b x) (some 101) = some 3 := aN_of (mkX_lt hb (by decide)) (t := 102) rfl rfl (by decide)
theorem uX_101 (hb : 131 ≤ mNx b) {i : Int32} {v : Int32} : uI (mkX b x) (some 101) i v = ifx 3 i (mkX b (XS.mk (x.taped) (x.fault) (x.bought) (x.worthMany) (x.beganFirst) (x.beganSecond) (x.seed) (x.arranged) (x.paid) (x.hiss) (x.orders) (x.house) (x.cues) (x.tape) (x.states) (x.asked) (x.carriesSet) (x.heights) (x.worth) (x.mouths) (upq x.sided i.toNatClampNeg v) (x.keptHouse) (x.keptPaid) (x.keptHiss) (x.kMod) (x.kData) (x.kSize) (x.out) (x.n0) (x.n1))) := by
  rw [uI_of (by decide) (mkX_lt hb (by decide)) rfl rfl]
  exact congrArg (ifx _ _) (mSI_eq rfl rfl ((up2_nq _ _ _ _ (by decide)).trans (congrArg (fun z => up1 z _ _) ((up2_nq _ _ _ _ (by decide)).trans (congrArg (fun z => up1 z _ _) ((up2_nq _ _ _ _ (by decide)).trans (congrArg (fun z => up1 z _ _) ((up2_nq _ _ _ _ (by decide)).trans (congrArg (fun z => up1 z _ _) ((up2_nq _ _ _ _ (by decide)).trans (congrArg (fun z => up1 z _ _) ((up2_nq _ _ _ _ (by decide)).trans (congrArg (fun z => up1 z _ _) ((up2_nq _ _ _ _ (by decide)).trans (congrArg (fun z => up1 z _ _) ((up2_nq _ _ _ _ (by decide)).trans (congrArg (fun z => up1 z _ _) ((up2_nq _ _ _ _ (by decide)).trans (congrArg (fun z => up1 z _ _) ((up2_nq _ _ _ _ (by decide)).trans (congrArg (fun z => up1 z _ _) ((up2_nq _ _ _ _ (by decide)).trans (congrArg (fun z => up1 z _ _) ((up2_nq _ _ _ _ (by decide)).trans (congrArg (fun z => up1 z _ _) (up2_row _ _ _ _ _))))))))))))))))))))))))) rfl)
theorem aX_102 (hb : 131 ≤ mNx b) {i : Int32} : aA (mkX b x) (some 102) i = ifx 2 i (x.keptHouse i.toNatClampNeg) := aA_of (mkX_lt hb (by decide)) (by show 104 ≤ 106 ∧ 106 < 108; decide) rfl
theorem nX_102 (hb : 131 ≤ mNx b) : aN (mkX b x) (some 102) = some 2 := aN_of (mkX_lt hb (by decide)) (t := 106) rfl rfl (by decide)
theorem uX_102 (hb : 131 ≤ mNx b) {i : Int32} {h : Nat} (h1 : h < mNx b) (h2 : mTag (mkX b x) h = 2) : uA (mkX b x) (some 102) i (some h) = ifx 2 i (mkX b (XS.mk (x.taped) (x.fault) (x.bought) (x.worthMany) (x.beganFirst) (x.beganSecond) (x.seed) (x.arranged) (x.paid) (x.hiss) (x.orders) (x.house) (x.cues) (x.tape) (x.states) (x.asked) (x.carriesSet) (x.heights) (x.worth) (x.mouths) (x.sided) (upq x.keptHouse i.toNatClampNeg (some h)) (x.keptPaid) (x.keptHiss) (x.kMod) (x.kData) (x.kSize) (x.out) (x.n0) (x.n1))) := by
  refine (ifx_of (n := 2) ⟨fun c => ⟨c.2.2.1, c.2.2.2.1⟩, fun c => ⟨by decide, mkX_lt hb (by decide), c.1, c.2, h1, by rw [h2]; rfl⟩⟩).trans (congrArg (ifx _ _) (mSA_eq rfl rfl rfl rfl ((up2_nq _ _ _ _ (by decide)).trans (congrArg (fun z => up1 z _ _) ((up2_nq _ _ _ _ (by decide)).trans (congrArg (fun z => up1 z _ _) ((up2_nq _ _ _ _ (by decide)).trans (congrArg (fun z => up1 z _ _) ((up2_nq _ _ _ _ (by decide)).trans (congrArg (fun z => up1 z _ _) (up2_row _ _ _ _ _))))))))) rfl))
theorem aX_103 (hb : 131 ≤ mNx b) {i : Int32} : aJ (mkX b x) (some 103) i = ifx 2 i (x.keptPaid i.toNatClampNeg) := aJ_of (mkX_lt hb (by decide)) rfl rfl
theorem nX_103 (hb : 131 ≤ mNx b) : aN (mkX b x) (some 103) = some 2 := aN_of (mkX_lt hb (by decide)) (t := 103) rfl rfl (by decide)
theorem uX_103 (hb : 131 ≤ mNx b) {i : Int32} {v : Int64} : uJ (mkX b x) (some 103) i v = ifx 2 i (mkX b (XS.mk (x.taped) (x.fault) (x.bought) (x.worthMany) (x.beganFirst) (x.beganSecond) (x.seed) (x.arranged) (x.paid) (x.hiss) (x.orders) (x.house) (x.cues) (x.tape) (x.states) (x.asked) (x.carriesSet) (x.heights) (x.worth) (x.mouths) (x.sided) (x.keptHouse) (upq x.keptPaid i.toNatClampNeg v) (x.keptHiss) (x.kMod) (x.kData) (x.kSize) (x.out) (x.n0) (x.n1))) := by
  rw [uJ_of (by decide) (mkX_lt hb (by decide)) rfl rfl]
  exact congrArg (ifx _ _) (mSJ_eq rfl rfl rfl ((up2_nq _ _ _ _ (by decide)).trans (congrArg (fun z => up1 z _ _) ((up2_nq _ _ _ _ (by decide)).trans (congrArg (fun z => up1 z _ _) ((up2_nq _ _ _ _ (by decide)).trans (congrArg (fun z => up1 z _ _) ((up2_nq _ _ _ _ (by decide)).trans (congrArg (fun z => up1 z _ _) ((up2_nq _ _ _ _ (by decide)).trans (congrArg (fun z => up1 z _ _) ((up2_nq _ _ _ _ (by decide)).trans (congrArg (fun z => up1 z _ _) ((up2_nq _ _ _ _ (by decide)).trans (congrArg (fun z => up1 z _ _) ((up2_nq _ _ _ _ (by decide)).trans (congrArg (fun z => up1 z _ _) ((up2_nq _ _ _ _ (by decide)).trans (congrArg (fun z => up1 z _ _) (up2_row _ _ _ _ _))))))))))))))))))) rfl)
theorem aX_104 (hb : 131 ≤ mNx b) {i : Int32} : aJ (mkX b x) (some 104) i = ifx 2 i (x.keptHiss i.toNatClampNeg) := aJ_of (mkX_lt hb (by decide)) rfl rfl
theorem nX_104 (hb : 131 ≤ mNx b) : aN (mkX b x) (some 104) = some 2 := aN_of (mkX_lt hb (by decide)) (t := 103) rfl rfl (by decide)
theorem uX_104 (hb : 131 ≤ mNx b) {i : Int32} {v : Int64} : uJ (mkX b x) (some 104) i v = ifx 2 i (mkX b (XS.mk (x.taped) (x.fault) (x.bought) (x.worthMany) (x.beganFirst) (x.beganSecond) (x.seed) (x.arranged) (x.paid) (x.hiss) (x.orders) (x.house) (x.cues) (x.tape) (x.states) (x.asked) (x.carriesSet) (x.heights) (x.worth) (x.mouths) (x.sided) (x.keptHouse) (x.keptPaid) (upq x.keptHiss i.toNatClampNeg v) (x.kMod) (x.kData) (x.kSize) (x.out) (x.n0) (x.n1))) := by
  rw [uJ_of (by decide) (mkX_lt hb (by decide)) rfl rfl]
  exact congrArg (ifx _ _) (mSJ_eq rfl rfl rfl ((up2_nq _ _ _ _ (by decide)).trans (congrArg (fun z => up1 z _ _) ((up2_nq _ _ _ _ (by decide)).trans (congrArg (fun z => up1 z _ _) ((up2_nq _ _ _ _ (by decide)).trans (congrArg (fun z => up1 z _ _) ((up2_nq _ _ _ _ (by decide)).trans (congrArg (fun z => up1 z _ _) ((up2_nq _ _ _ _ (by decide)).trans (congrArg (fun z => up1 z _ _) ((up2_nq _ _ _ _ (by decide)).trans (congrArg (fun z => up1 z _ _) ((up2_nq _ _ _ _ (by decide)).trans (congrArg (fun z => up1 z _ _) ((up2_nq _ _ _ _ (by decide)).trans (congrArg (fun z => up1 z _ _) (up2_row _ _ _ _ _))))))))))))))))) rfl)
theorem aX_130 (hb : 131 ≤ mNx b) {i : Int32} : aJ (mkX b x) (some 130) i = ifx 1 i (x.out i.toNatClampNeg) := aJ_of (mkX_lt hb (by decide)) rfl rfl
theorem nX_130 (hb : 131 ≤ mNx b) : aN (mkX b x) (some 130) = some 1 := aN_of (mkX_lt hb (by decide)) (t := 103) rfl rfl (by decide)
theorem uX_130 (hb : 131 ≤ mNx b) {i : Int32} {v : Int64} : uJ (mkX b x) (some 130) i v = ifx 1 i (mkX b (XS.mk (x.taped) (x.fault) (x.bought) (x.worthMany) (x.beganFirst) (x.beganSecond) (x.seed) (x.arranged) (x.paid) (x.hiss) (x.orders) (x.house) (x.cues) (x.tape) (x.states) (x.asked) (x.carriesSet) (x.heights) (x.worth) (x.mouths) (x.sided) (x.keptHouse) (x.keptPaid) (x.keptHiss) (x.kMod) (x.kData) (x.kSize) (upq x.out i.toNatClampNeg v) (x.n0) (x.n1))) := by
  rw [uJ_of (by decide) (mkX_lt hb (by decide)) rfl rfl]
  exact congrArg (ifx _ _) (mSJ_eq rfl rfl rfl ((up2_nq _ _ _ _ (by decide)).trans (congrArg (fun z => up1 z _ _) ((up2_nq _ _ _ _ (by decide)).trans (congrArg (fun z => up1 z _ _) ((up2_nq _ _ _ _ (by decide)).trans (congrArg (fun z => up1 z _ _) ((up2_nq _ _ _ _ (by decide)).trans (congrArg (fun z => up1 z _ _) ((up2_nq _ _ _ _ (by decide)).trans (congrArg (fun z => up1 z _ _) ((up2_nq _ _ _ _ (by decide)).trans (congrArg (fun z => up1 z _ _) ((up2_nq _ _ _ _ (by decide)).trans (congrArg (fun z => up1 z _ _) (up2_row _ _ _ _ _))))))))))))))) rfl)
theorem aN_was (hb : 131 ≤ mNx b) {i : Int32} : aI (mkX b x) (some (nid q + (if (x.n q).sw then 2 else 1))) i = ifx 64 i ((x.n q).was i.toNatClampNeg) := by
  cases q
  · show aI (mkX b x) (some (81 + (if x.n0.sw then _ else _))) i = _
    cases h : x.n0.sw
    · refine (aI_of (a := 82) (mkX_lt hb (by decide)) rfl rfl).trans (congrArg (ifx _ _) ?_)
      show (if x.n0.sw then _ else _ : Nat → Int32) _ = _
      rw [h]; rfl
    · refine (aI_of (a := 83) (mkX_lt hb (by decide)) rfl rfl).trans (congrArg (ifx _ _) ?_)
      show (if x.n0.sw then _ else _ : Nat → Int32) _ = _
      rw [h]; rfl
  · show aI (mkX b x) (some (88 + (if x.n1.sw then _ else _))) i = _
    cases h : x.n1.sw
    · refine (aI_of (a := 89) (mkX_lt hb (by decide)) rfl rfl).trans (congrArg (ifx _ _) ?_)
      show (if x.n1.sw then _ else _ : Nat → Int32) _ = _
      rw [h]; rfl
    · refine (aI_of (a := 90) (mkX_lt hb (by decide)) rfl rfl).trans (congrArg (ifx _ _) ?_)
      show (if x.n1.sw then _ else _ : Nat → Int32) _ = _
      rw [h]; rfl
theorem uN_was (hb : 131 ≤ mNx b) {i v : Int32} : uI (mkX b x) (some (nid q + (if (x.n q).sw then 2 else 1))) i v = ifx 64 i (mkX b (x.setN q ((x.n q).s_was (upq (x.n q).was i.toNatClampNeg v)))) := by
  cases q
  · show uI (mkX b x) (some (81 + (if x.n0.sw then _ else _))) i v = _
    cases h : x.n0.sw
    · refine (uI_of (a := 82) (by decide) (mkX_lt hb (by decide)) rfl rfl).trans (congrArg (ifx _ _) ?_)
      rw [mkX_0]
      refine mSI_eq rfl rfl ?_ rfl
      simp only [mkX, mkY, XS.n, NX.s_was, mk_NX_now, mk_NX_next, mk_NX_isStill, mk_NX_paid, mk_NX_hiss, mk_NX_ahead, mk_NX_h, mk_NX_cues, mk_NX_sw, mk_NX_was, mk_NX_level, mk_NX_wasHeld, mk_NX_held, mk_NX_wasWith, mk_NX_wth, h, if_true, if_false, Bool.false_eq_true]
      exact (up2_nq _ _ _ _ (by decide)).trans (congrArg (fun z => up1 z _ _) ((up2_nq _ _ _ _ (by decide)).trans (congrArg (fun z => up1 z _ _) ((up2_nq _ _ _ _ (by decide)).trans (congrArg (fun z => up1 z _ _) ((up2_nq _ _ _ _ (by decide)).trans (congrArg (fun z => up1 z _ _) ((up2_nq _ _ _ _ (by decide)).trans (congrArg (fun z => up1 z _ _) ((up2_nq _ _ _ _ (by decide)).trans (congrArg (fun z => up1 z _ _) ((up2_nq _ _ _ _ (by decide)).trans (congrArg (fun z => up1 z _ _) ((up2_nq _ _ _ _ (by decide)).trans (congrArg (fun z => up1 z _ _) ((up2_nq _ _ _ _ (by decide)).trans (congrArg (fun z => up1 z _ _) ((up2_nq _ _ _ _ (by decide)).trans (congrArg (fun z => up1 z _ _) ((up2_nq _ _ _ _ (by decide)).trans (congrArg (fun z => up1 z _ _) (up2_row _ _ _ _ _))))))))))))))))))))))
    · refine (uI_of (a := 83) (by decide) (mkX_lt hb (by decide)) rfl rfl).trans (congrArg (ifx _ _) ?_)
      rw [mkX_0]
      refine mSI_eq rfl rfl ?_ rfl
      simp only [mkX, mkY, XS.n, NX.s_was, mk_NX_now, mk_NX_next, mk_NX_isStill, mk_NX_paid, mk_NX_hiss, mk_NX_ahead, mk_NX_h, mk_NX_cues, mk_NX_sw, mk_NX_was, mk_NX_level, mk_NX_wasHeld, mk_NX_held, mk_NX_wasWith, mk_NX_wth, h, if_true, if_false, Bool.false_eq_true]
      exact (up2_nq _ _ _ _ (by decide)).trans (congrArg (fun z => up1 z _ _) ((up2_nq _ _ _ _ (by decide)).trans (congrArg (fun z => up1 z _ _) ((up2_nq _ _ _ _ (by decide)).trans (congrArg (fun z => up1 z _ _) ((up2_nq _ _ _ _ (by decide)).trans (congrArg (fun z => up1 z _ _) ((up2_nq _ _ _ _ (by decide)).trans (congrArg (fun z => up1 z _ _) ((up2_nq _ _ _ _ (by decide)).trans (congrArg (fun z => up1 z _ _) ((up2_nq _ _ _ _ (by decide)).trans (congrArg (fun z => up1 z _ _) ((up2_nq _ _ _ _ (by decide)).trans (congrArg (fun z => up1 z _ _) ((up2_nq _ _ _ _ (by decide)).trans (congrArg (fun z => up1 z _ _) ((up2_nq _ _ _ _ (by decide)).trans (congrArg (fun z => up1 z _ _) (up2_row _ _ _ _ _))))))))))))))))))))
  · show uI (mkX b x) (some (88 + (if x.n1.sw then _ else _))) i v = _
    cases h : x.n1.sw
    · refine (uI_of (a := 89) (by decide) (mkX_lt hb (by decide)) rfl rfl).trans (congrArg (ifx _ _) ?_)
      rw [mkX_1]
      refine mSI_eq rfl rfl ?_ rfl
      simp only [mkX, mkY, XS.n, NX.s_was, mk_NX_now, mk_NX_next, mk_NX_isStill, mk_NX_paid, mk_NX_hiss, mk_NX_ahead, mk_NX_h, mk_NX_cues, mk_NX_sw, mk_NX_was, mk_NX_level, mk_NX_wasHeld, mk_NX_held, mk_NX_wasWith, mk_NX_wth, h, if_true, if_false, Bool.false_eq_true]
      exact (up2_nq _ _ _ _ (by decide)).trans (congrArg (fun z => up1 z _ _) ((up2_nq _ _ _ _ (by decide)).trans (congrArg (fun z => up1 z _ _) ((up2_nq _ _ _ _ (by decide)).trans (congrArg (fun z => up1 z _ _) ((up2_nq _ _ _ _ (by decide)).trans (congrArg (fun z => up1 z _ _) ((up2_nq _ _ _ _ (by decide)).trans (congrArg (fun z => up1 z _ _) ((up2_nq _ _ _ _ (by decide)).trans (congrArg (fun z => up1 z _ _) ((up2_nq _ _ _ _ (by decide)).trans (congrArg (fun z => up1 z _ _) (up2_row _ _ _ _ _))))))))))))))
    · refine (uI_of (a := 90) (by decide) (mkX_lt hb (by decide)) rfl rfl).trans (congrArg (ifx _ _) ?_)
      rw [mkX_1]
      refine mSI_eq rfl rfl ?_ rfl
      simp only [mkX, mkY, XS.n, NX.s_was, mk_NX_now, mk_NX_next, mk_NX_isStill, mk_NX_paid, mk_NX_hiss, mk_NX_ahead, mk_NX_h, mk_NX_cues, mk_NX_sw, mk_NX_was, mk_NX_level, mk_NX_wasHeld, mk_NX_held, mk_NX_wasWith, mk_NX_wth, h, if_true, if_false, Bool.false_eq_true]
      exact (up2_nq _ _ _ _ (by decide)).trans (congrArg (fun z => up1 z _ _) ((up2_nq _ _ _ _ (by decide)).trans (congrArg (fun z => up1 z _ _) ((up2_nq _ _ _ _ (by decide)).trans (congrArg (fun z => up1 z _ _) ((up2_nq _ _ _ _ (by decide)).trans (congrArg (fun z => up1 z _ _) ((up2_nq _ _ _ _ (by decide)).trans (congrArg (fun z => up1 z _ _) ((up2_nq _ _ _ _ (by decide)).trans (congrArg (fun z => up1 z _ _) (up2_row _ _ _ _ _))))))))))))
theorem aN_level (hb : 131 ≤ mNx b) {i : Int32} : aI (mkX b x) (some (nid q + (if (x.n q).sw then 1 else 2))) i = ifx 64 i ((x.n q).level i.toNatClampNeg) := by
  cases q
  · show aI (mkX b x) (some (81 + (if x.n0.sw then _ else _))) i = _
    cases h : x.n0.sw
    · refine (aI_of (a := 83) (mkX_lt hb (by decide)) rfl rfl).trans (congrArg (ifx _ _) ?_)
      show (if x.n0.sw then _ else _ : Nat → Int32) _ = _
      rw [h]; rfl
    · refine (aI_of (a := 82) (mkX_lt hb (by decide)) rfl rfl).trans (congrArg (ifx _ _) ?_)
      show (if x.n0.sw then _ else _ : Nat → Int32) _ = _
      rw [h]; rfl
  · show aI (mkX b x) (some (88 + (if x.n1.sw then _ else _))) i = _
    cases h : x.n1.sw
    · refine (aI_of (a := 90) (mkX_lt hb (by decide)) rfl rfl).trans (congrArg (ifx _ _) ?_)
      show (if x.n1.sw then _ else _ : Nat → Int32) _ = _
      rw [h]; rfl
    · refine (aI_of (a := 89) (mkX_lt hb (by decide)) rfl rfl).trans (congrArg (ifx _ _) ?_)
      show (if x.n1.sw then _ else _ : Nat → Int32) _ = _
      rw [h]; rfl
theorem uN_level (hb : 131 ≤ mNx b) {i v : Int32} : uI (mkX b x) (some (nid q + (if (x.n q).sw then 1 else 2))) i v = ifx 64 i (mkX b (x.setN q ((x.n q).s_level (upq (x.n q).level i.toNatClampNeg v)))) := by
  cases q
  · show uI (mkX b x) (some (81 + (if x.n0.sw then _ else _))) i v = _
    cases h : x.n0.sw
    · refine (uI_of (a := 83) (by decide) (mkX_lt hb (by decide)) rfl rfl).trans (congrArg (ifx _ _) ?_)
      rw [mkX_0]
      refine mSI_eq rfl rfl ?_ rfl
      simp only [mkX, mkY, XS.n, NX.s_level, mk_NX_now, mk_NX_next, mk_NX_isStill, mk_NX_paid, mk_NX_hiss, mk_NX_ahead, mk_NX_h, mk_NX_cues, mk_NX_sw, mk_NX_was, mk_NX_level, mk_NX_wasHeld, mk_NX_held, mk_NX_wasWith, mk_NX_wth, h, if_true, if_false, Bool.false_eq_true]
      exact (up2_nq _ _ _ _ (by decide)).trans (congrArg (fun z => up1 z _ _) ((up2_nq _ _ _ _ (by decide)).trans (congrArg (fun z => up1 z _ _) ((up2_nq _ _ _ _ (by decide)).trans (congrArg (fun z => up1 z _ _) ((up2_nq _ _ _ _ (by decide)).trans (congrArg (fun z => up1 z _ _) ((up2_nq _ _ _ _ (by decide)).trans (congrArg (fun z => up1 z _ _) ((up2_nq _ _ _ _ (by decide)).trans (congrArg (fun z => up1 z _ _) ((up2_nq _ _ _ _ (by decide)).trans (congrArg (fun z => up1 z _ _) ((up2_nq _ _ _ _ (by decide)).trans (congrArg (fun z => up1 z _ _) ((up2_nq _ _ _ _ (by decide)).trans (congrArg (fun z => up1 z _ _) ((up2_nq _ _ _ _ (by decide)).trans (congrArg (fun z => up1 z _ _) (up2_row _ _ _ _ _))))))))))))))))))))
    · refine (uI_of (a := 82) (by decide) (mkX_lt hb (by decide)) rfl rfl).trans (congrArg (ifx _ _) ?_)
      rw [mkX_0]
      refine mSI_eq rfl rfl ?_ rfl
      simp only [mkX, mkY, XS.n, NX.s_level, mk_NX_now, mk_NX_next, mk_NX_isStill, mk_NX_paid, mk_NX_hiss, mk_NX_ahead, mk_NX_h, mk_NX_cues, mk_NX_sw, mk_NX_was, mk_NX_level, mk_NX_wasHeld, mk_NX_held, mk_NX_wasWith, mk_NX_wth, h, if_true, if_false, Bool.false_eq_true]
      exact (up2_nq _ _ _ _ (by decide)).trans (congrArg (fun z => up1 z _ _) ((up2_nq _ _ _ _ (by decide)).trans (congrArg (fun z => up1 z _ _) ((up2_nq _ _ _ _ (by decide)).trans (congrArg (fun z => up1 z _ _) ((up2_nq _ _ _ _ (by decide)).trans (congrArg (fun z => up1 z _ _) ((up2_nq _ _ _ _ (by decide)).trans (congrArg (fun z => up1 z _ _) ((up2_nq _ _ _ _ (by decide)).trans (congrArg (fun z => up1 z _ _) ((up2_nq _ _ _ _ (by decide)).trans (congrArg (fun z => up1 z _ _) ((up2_nq _ _ _ _ (by decide)).trans (congrArg (fun z => up1 z _ _) ((up2_nq _ _ _ _ (by decide)).trans (congrArg (fun z => up1 z _ _) ((up2_nq _ _ _ _ (by decide)).trans (congrArg (fun z => up1 z _ _) ((up2_nq _ _ _ _ (by decide)).trans (congrArg (fun z => up1 z _ _) (up2_row _ _ _ _ _))))))))))))))))))))))
  · show uI (mkX b x) (some (88 + (if x.n1.sw then _ else _))) i v = _
    cases h : x.n1.sw
    · refine (uI_of (a := 90) (by decide) (mkX_lt hb (by decide)) rfl rfl).trans (congrArg (ifx _ _) ?_)
      rw [mkX_1]
      refine mSI_eq rfl rfl ?_ rfl
      simp only [mkX, mkY, XS.n, NX.s_level, mk_NX_now, mk_NX_next, mk_NX_isStill, mk_NX_paid, mk_NX_hiss, mk_NX_ahead, mk_NX_h, mk_NX_cues, mk_NX_sw, mk_NX_was, mk_NX_level, mk_NX_wasHeld, mk_NX_held, mk_NX_wasWith, mk_NX_wth, h, if_true, if_false, Bool.false_eq_true]
      exact (up2_nq _ _ _ _ (by decide)).trans (congrArg (fun z => up1 z _ _) ((up2_nq _ _ _ _ (by decide)).trans (congrArg (fun z => up1 z _ _) ((up2_nq _ _ _ _ (by decide)).trans (congrArg (fun z => up1 z _ _) ((up2_nq _ _ _ _ (by decide)).trans (congrArg (fun z => up1 z _ _) ((up2_nq _ _ _ _ (by decide)).trans (congrArg (fun z => up1 z _ _) ((up2_nq _ _ _ _ (by decide)).trans (congrArg (fun z => up1 z _ _) (up2_row _ _ _ _ _))))))))))))
    · refine (uI_of (a := 89) (by decide) (mkX_lt hb (by decide)) rfl rfl).trans (congrArg (ifx _ _) ?_)
      rw [mkX_1]
      refine mSI_eq rfl rfl ?_ rfl
      simp only [mkX, mkY, XS.n, NX.s_level, mk_NX_now, mk_NX_next, mk_NX_isStill, mk_NX_paid, mk_NX_hiss, mk_NX_ahead, mk_NX_h, mk_NX_cues, mk_NX_sw, mk_NX_was, mk_NX_level, mk_NX_wasHeld, mk_NX_held, mk_NX_wasWith, mk_NX_wth, h, if_true, if_false, Bool.false_eq_true]
      exact (up2_nq _ _ _ _ (by decide)).trans (congrArg (fun z => up1 z _ _) ((up2_nq _ _ _ _ (by decide)).trans (congrArg (fun z => up1 z _ _) ((up2_nq _ _ _ _ (by decide)).trans (congrArg (fun z => up1 z _ _) ((up2_nq _ _ _ _ (by decide)).trans (congrArg (fun z => up1 z _ _) ((up2_nq _ _ _ _ (by decide)).trans (congrArg (fun z => up1 z _ _) ((up2_nq _ _ _ _ (by decide)).trans (congrArg (fun z => up1 z _ _) ((up2_nq _ _ _ _ (by decide)).trans (congrArg (fun z => up1 z _ _) (up2_row _ _ _ _ _))))))))))))))
theorem aN_wasHeld (hb : 131 ≤ mNx b) {i : Int32} : aI (mkX b x) (some (nid q + (if (x.n q).sw then 4 else 3))) i = ifx 64 i ((x.n q).wasHeld i.toNatClampNeg) := by
  cases q
  · show aI (mkX b x) (some (81 + (if x.n0.sw then _ else _))) i = _
    cases h : x.n0.sw
    · refine (aI_of (a := 84) (mkX_lt hb (by decide)) rfl rfl).trans (congrArg (ifx _ _) ?_)
      show (if x.n0.sw then _ else _ : Nat → Int32) _ = _
      rw [h]; rfl
    · refine (aI_of (a := 85) (mkX_lt hb (by decide)) rfl rfl).trans (congrArg (ifx _ _) ?_)
      show (if x.n0.sw then _ else _ : Nat → Int32) _ = _
      rw [h]; rfl
  · show aI (mkX b x) (some (88 + (if x.n1.sw then _ else _))) i = _
    cases h : x.n1.sw
    · refine (aI_of (a := 91) (mkX_lt hb (by decide)) rfl rfl).trans (congrArg (ifx _ _) ?_)
      show (if x.n1.sw then _ else _ : Nat → Int32) _ = _
      rw [h]; rfl
    · refine (aI_of (a := 92) (mkX_lt hb (by decide)) rfl rfl).trans (congrArg (ifx _ _) ?_)
      show (if x.n1.sw then _ else _ : Nat → Int32) _ = _
      rw [h]; rfl
theorem uN_wasHeld (hb : 131 ≤ mNx b) {i v : Int32} : uI (mkX b x) (some (nid q + (if (x.n q).sw then 4 else 3))) i v = ifx 64 i (mkX b (x.setN q ((x.n q).s_wasHeld (upq (x.n q).wasHeld i.toNatClampNeg v)))) := by
  cases q
  · show uI (mkX b x) (some (81 + (if x.n0.sw then _ else _))) i v = _
    cases h : x.n0.sw
    · refine (uI_of (a := 84) (by decide) (mkX_lt hb (by decide)) rfl rfl).trans (congrArg (ifx _ _) ?_)
      rw [mkX_0]
      refine mSI_eq rfl rfl ?_ rfl
      simp only [mkX, mkY, XS.n, NX.s_wasHeld, mk_NX_now, mk_NX_next, mk_NX_isStill, mk_NX_paid, mk_NX_hiss, mk_NX_ahead, mk_NX_h, mk_NX_cues, mk_NX_sw, mk_NX_was, mk_NX_level, mk_NX_wasHeld, mk_NX_held, mk_NX_wasWith, mk_NX_wth, h, if_true, if_false, Bool.false_eq_true]
      exact (up2_nq _ _ _ _ (by decide)).trans (congrArg (fun z => up1 z _ _) ((up2_nq _ _ _ _ (by decide)).trans (congrArg (fun z => up1 z _ _) ((up2_nq _ _ _ _ (by decide)).trans (congrArg (fun z => up1 z _ _) ((up2_nq _ _ _ _ (by decide)).trans (congrArg (fun z => up1 z _ _) ((up2_nq _ _ _ _ (by decide)).trans (congrArg (fun z => up1 z _ _) ((up2_nq _ _ _ _ (by decide)).trans (congrArg (fun z => up1 z _ _) ((up2_nq _ _ _ _ (by decide)).trans (congrArg (fun z => up1 z _ _) ((up2_nq _ _ _ _ (by decide)).trans (congrArg (fun z => up1 z _ _) ((up2_nq _ _ _ _ (by decide)).trans (congrArg (fun z => up1 z _ _) (up2_row _ _ _ _ _))))))))))))))))))
    · refine (uI_of (a := 85) (by decide) (mkX_lt hb (by decide)) rfl rfl).trans (congrArg (ifx _ _) ?_)
      rw [mkX_0]
      refine mSI_eq rfl rfl ?_ rfl
      simp only [mkX, mkY, XS.n, NX.s_wasHeld, mk_NX_now, mk_NX_next, mk_NX_isStill, mk_NX_paid, mk_NX_hiss, mk_NX_ahead, mk_NX_h, mk_NX_cues, mk_NX_sw, mk_NX_was, mk_NX_level, mk_NX_wasHeld, mk_NX_held, mk_NX_wasWith, mk_NX_wth, h, if_true, if_false, Bool.false_eq_true]
      exact (up2_nq _ _ _ _ (by decide)).trans (congrArg (fun z => up1 z _ _) ((up2_nq _ _ _ _ (by decide)).trans (congrArg (fun z => up1 z _ _) ((up2_nq _ _ _ _ (by decide)).trans (congrArg (fun z => up1 z _ _) ((up2_nq _ _ _ _ (by decide)).trans (congrArg (fun z => up1 z _ _) ((up2_nq _ _ _ _ (by decide)).trans (congrArg (fun z => up1 z _ _) ((up2_nq _ _ _ _ (by decide)).trans (congrArg (fun z => up1 z _ _) ((up2_nq _ _ _ _ (by decide)).trans (congrArg (fun z => up1 z _ _) ((up2_nq _ _ _ _ (by decide)).trans (congrArg (fun z => up1 z _ _) (up2_row _ _ _ _ _))))))))))))))))
  · show uI (mkX b x) (some (88 + (if x.n1.sw then _ else _))) i v = _
    cases h : x.n1.sw
    · refine (uI_of (a := 91) (by decide) (mkX_lt hb (by decide)) rfl rfl).trans (congrArg (ifx _ _) ?_)
      rw [mkX_1]
      refine mSI_eq rfl rfl ?_ rfl
      simp only [mkX, mkY, XS.n, NX.s_wasHeld, mk_NX_now, mk_NX_next, mk_NX_isStill, mk_NX_paid, mk_NX_hiss, mk_NX_ahead, mk_NX_h, mk_NX_cues, mk_NX_sw, mk_NX_was, mk_NX_level, mk_NX_wasHeld, mk_NX_held, mk_NX_wasWith, mk_NX_wth, h, if_true, if_false, Bool.false_eq_true]
      exact (up2_nq _ _ _ _ (by decide)).trans (congrArg (fun z => up1 z _ _) ((up2_nq _ _ _ _ (by decide)).trans (congrArg (fun z => up1 z _ _) ((up2_nq _ _ _ _ (by decide)).trans (congrArg (fun z => up1 z _ _) ((up2_nq _ _ _ _ (by decide)).trans (congrArg (fun z => up1 z _ _) ((up2_nq _ _ _ _ (by decide)).trans (congrArg (fun z => up1 z _ _) (up2_row _ _ _ _ _))))))))))
    · refine (uI_of (a := 92) (by decide) (mkX_lt hb (by decide)) rfl rfl).trans (congrArg (ifx _ _) ?_)
      rw [mkX_1]
      refine mSI_eq rfl rfl ?_ rfl
      simp only [mkX, mkY, XS.n, NX.s_wasHeld, mk_NX_now, mk_NX_next, mk_NX_isStill, mk_NX_paid, mk_NX_hiss, mk_NX_ahead, mk_NX_h, mk_NX_cues, mk_NX_sw, mk_NX_was, mk_NX_level, mk_NX_wasHeld, mk_NX_held, mk_NX_wasWith, mk_NX_wth, h, if_true, if_false, Bool.false_eq_true]
      exact (up2_nq _ _ _ _ (by decide)).trans (congrArg (fun z => up1 z _ _) ((up2_nq _ _ _ _ (by decide)).trans (congrArg (fun z => up1 z _ _) ((up2_nq _ _ _ _ (by decide)).trans (congrArg (fun z => up1 z _ _) ((up2_nq _ _ _ _ (by decide)).trans (congrArg (fun z => up1 z _ _) (up2_row _ _ _ _ _))))))))
theorem aN_held (hb : 131 ≤ mNx b) {i : Int32} : aI (mkX b x) (some (nid q + (if (x.n q).sw then 3 else 4))) i = ifx 64 i ((x.n q).held i.toNatClampNeg) := by
  cases q
  · show aI (mkX b x) (some (81 + (if x.n0.sw then _ else _))) i = _
    cases h : x.n0.sw
    · refine (aI_of (a := 85) (mkX_lt hb (by decide)) rfl rfl).trans (congrArg (ifx _ _) ?_)
      show (if x.n0.sw then _ else _ : Nat → Int32) _ = _
      rw [h]; rfl
    · refine (aI_of (a := 84) (mkX_lt hb (by decide)) rfl rfl).trans (congrArg (ifx _ _) ?_)
      show (if x.n0.sw then _ else _ : Nat → Int32) _ = _
      rw [h]; rfl
  · show aI (mkX b x) (some (88 + (if x.n1.sw then _ else _))) i = _
    cases h : x.n1.sw
    · refine (aI_of (a := 92) (mkX_lt hb (by decide)) rfl rfl).trans (congrArg (ifx _ _) ?_)
      show (if x.n1.sw then _ else _ : Nat → Int32) _ = _
      rw [h]; rfl
    · refine (aI_of (a := 91) (mkX_lt hb (by decide)) rfl rfl).trans (congrArg (ifx _ _) ?_)
      show (if x.n1.sw then _ else _ : Nat → Int32) _ = _
      rw [h]; rfl
theorem uN_held (hb : 131 ≤ mNx b) {i v : Int32} : uI (mkX b x) (some (nid q + (if (x.n q).sw then 3 else 4))) i v = ifx 64 i (mkX b (x.setN q ((x.n q).s_held (upq (x.n q).held i.toNatClampNeg v)))) := by
  cases q
  · show uI (mkX b x) (some (81 + (if x.n0.sw then _ else _))) i v = _
    cases h : x.n0.sw
    · refine (uI_of (a := 85) (by decide) (mkX_lt hb (by decide)) rfl rfl).trans (congrArg (ifx _ _) ?_)
      rw [mkX_0]
      refine mSI_eq rfl rfl ?_ rfl
      simp only [mkX, mkY, XS.n, NX.s_held, mk_NX_now, mk_NX_next, mk_NX_isStill, mk_NX_paid, mk_NX_hiss, mk_NX_ahead, mk_NX_h, mk_NX_cues, mk_NX_sw, mk_NX_was, mk_NX_level, mk_NX_wasHeld, mk_NX_held, mk_NX_wasWith, mk_NX_wth, h, if_true, if_false, Bool.false_eq_true]
      exact (up2_nq _ _ _ _ (by decide)).trans (congrArg (fun z => up1 z _ _) ((up2_nq _ _ _ _ (by decide)).trans (congrArg (fun z => up1 z _ _) ((up2_nq _ _ _ _ (by decide)).trans (congrArg (fun z => up1 z _ _) ((up2_nq _ _ _ _ (by decide)).trans (congrArg (fun z => up1 z _ _) ((up2_nq _ _ _ _ (by decide)).trans (congrArg (fun z => up1 z _ _) ((up2_nq _ _ _ _ (by decide)).trans (congrArg (fun z => up1 z _ _) ((up2_nq _ _ _ _ (by decide)).trans (congrArg (fun z => up1 z _ _) ((up2_nq _ _ _ _ (by decide)).trans (congrArg (fun z => up1 z _ _) (up2_row _ _ _ _ _))))))))))))))))
    · refine (uI_of (a := 84) (by decide) (mkX_lt hb (by decide)) rfl rfl).trans (congrArg (ifx _ _) ?_)
      rw [mkX_0]
      refine mSI_eq rfl rfl ?_ rfl
      simp only [mkX, mkY, XS.n, NX.s_held, mk_NX_now, mk_NX_next, mk_NX_isStill, mk_NX_paid, mk_NX_hiss, mk_NX_ahead, mk_NX_h, mk_NX_cues, mk_NX_sw, mk_NX_was, mk_NX_level, mk_NX_wasHeld, mk_NX_held, mk_NX_wasWith, mk_NX_wth, h, if_true, if_false, Bool.false_eq_true]
      exact (up2_nq _ _ _ _ (by decide)).trans (congrArg (fun z => up1 z _ _) ((up2_nq _ _ _ _ (by decide)).trans (congrArg (fun z => up1 z _ _) ((up2_nq _ _ _ _ (by decide)).trans (congrArg (fun z => up1 z _ _) ((up2_nq _ _ _ _ (by decide)).trans (congrArg (fun z => up1 z _ _) ((up2_nq _ _ _ _ (by decide)).trans (congrArg (fun z => up1 z _ _) ((up2_nq _ _ _ _ (by decide)).trans (congrArg (fun z => up1 z _ _) ((up2_nq _ _ _ _ (by decide)).trans (congrArg (fun z => up1 z _ _) ((up2_nq _ _ _ _ (by decide)).trans (congrArg (fun z => up1 z _ _) ((up2_nq _ _ _ _ (by decide)).trans (congrArg (fun z => up1 z _ _) (up2_row _ _ _ _ _))))))))))))))))))
  · show uI (mkX b x) (some (88 + (if x.n1.sw then _ else _))) i v = _
    cases h : x.n1.sw
    · refine (uI_of (a := 92) (by decide) (mkX_lt hb (by decide)) rfl rfl).trans (congrArg (ifx _ _) ?_)
      rw [mkX_1]
      refine mSI_eq rfl rfl ?_ rfl
      simp only [mkX, mkY, XS.n, NX.s_held, mk_NX_now, mk_NX_next, mk_NX_isStill, mk_NX_paid, mk_NX_hiss, mk_NX_ahead, mk_NX_h, mk_NX_cues, mk_NX_sw, mk_NX_was, mk_NX_level, mk_NX_wasHeld, mk_NX_held, mk_NX_wasWith, mk_NX_wth, h, if_true, if_false, Bool.false_eq_true]
      exact (up2_nq _ _ _ _ (by decide)).trans (congrArg (fun z => up1 z _ _) ((up2_nq _ _ _ _ (by decide)).trans (congrArg (fun z => up1 z _ _) ((up2_nq _ _ _ _ (by decide)).trans (congrArg (fun z => up1 z _ _) ((up2_nq _ _ _ _ (by decide)).trans (congrArg (fun z => up1 z _ _) (up2_row _ _ _ _ _))))))))
    · refine (uI_of (a := 91) (by decide) (mkX_lt hb (by decide)) rfl rfl).trans (congrArg (ifx _ _) ?_)
      rw [mkX_1]
      refine mSI_eq rfl rfl ?_ rfl
      simp only [mkX, mkY, XS.n, NX.s_held, mk_NX_now, mk_NX_next, mk_NX_isStill, mk_NX_paid, mk_NX_hiss, mk_NX_ahead, mk_NX_h, mk_NX_cues, mk_NX_sw, mk_NX_was, mk_NX_level, mk_NX_wasHeld, mk_NX_held, mk_NX_wasWith, mk_NX_wth, h, if_true, if_false, Bool.false_eq_true]
      exact (up2_nq _ _ _ _ (by decide)).trans (congrArg (fun z => up1 z _ _) ((up2_nq _ _ _ _ (by decide)).trans (congrArg (fun z => up1 z _ _) ((up2_nq _ _ _ _ (by decide)).trans (congrArg (fun z => up1 z _ _) ((up2_nq _ _ _ _ (by decide)).trans (congrArg (fun z => up1 z _ _) ((up2_nq _ _ _ _ (by decide)).trans (congrArg (fun z => up1 z _ _) (up2_row _ _ _ _ _))))))))))
theorem aN_wasWith (hb : 131 ≤ mNx b) {i : Int32} : aJ (mkX b x) (some (nid q + 5)) i = ifx 3 i ((x.n q).wasWith i.toNatClampNeg) := by cases q <;> exact aJ_of (mkX_lt hb (by decide)) rfl rfl
theorem uN_wasWith (hb : 131 ≤ mNx b) {i : Int32} {v : Int64} : uJ (mkX b x) (some (nid q + 5)) i v = ifx 3 i (mkX b (x.setN q ((x.n q).s_wasWith (upq (x.n q).wasWith i.toNatClampNeg v)))) := by
  cases q
  · rw [mkX_0]
    refine (uJ_of (a := 86) (by decide) (mkX_lt hb (by decide)) rfl rfl).trans (congrArg (ifx _ _) (mSJ_eq rfl rfl rfl ((up2_nq _ _ _ _ (by decide)).trans (congrArg (fun z => up1 z _ _) ((up2_nq _ _ _ _ (by decide)).trans (congrArg (fun z => up1 z _ _) ((up2_nq _ _ _ _ (by decide)).trans (congrArg (fun z => up1 z _ _) ((up2_nq _ _ _ _ (by decide)).trans (congrArg (fun z => up1 z _ _) ((up2_nq _ _ _ _ (by decide)).trans (congrArg (fun z => up1 z _ _) ((up2_nq _ _ _ _ (by decide)).trans (congrArg (fun z => up1 z _ _) (up2_row _ _ _ _ _))))))))))))) rfl))
  · rw [mkX_1]
    refine (uJ_of (a := 93) (by decide) (mkX_lt hb (by decide)) rfl rfl).trans (congrArg (ifx _ _) (mSJ_eq rfl rfl rfl ((up2_nq _ _ _ _ (by decide)).trans (congrArg (fun z => up1 z _ _) ((up2_nq _ _ _ _ (by decide)).trans (congrArg (fun z => up1 z _ _) ((up2_nq _ _ _ _ (by decide)).trans (congrArg (fun z => up1 z _ _) ((up2_nq _ _ _ _ (by decide)).trans (congrArg (fun z => up1 z _ _) (up2_row _ _ _ _ _))))))))) rfl))
theorem aN_wth (hb : 131 ≤ mNx b) {i : Int32} : aJ (mkX b x) (some (nid q + 6)) i = ifx 3 i ((x.n q).wth i.toNatClampNeg) := by cases q <;> exact aJ_of (mkX_lt hb (by decide)) rfl rfl
theorem uN_wth (hb : 131 ≤ mNx b) {i : Int32} {v : Int64} : uJ (mkX b x) (some (nid q + 6)) i v = ifx 3 i (mkX b (x.setN q ((x.n q).s_wth (upq (x.n q).wth i.toNatClampNeg v)))) := by
  cases q
  · rw [mkX_0]
    refine (uJ_of (a := 87) (by decide) (mkX_lt hb (by decide)) rfl rfl).trans (congrArg (ifx _ _) (mSJ_eq rfl rfl rfl ((up2_nq _ _ _ _ (by decide)).trans (congrArg (fun z => up1 z _ _) ((up2_nq _ _ _ _ (by decide)).trans (congrArg (fun z => up1 z _ _) ((up2_nq _ _ _ _ (by decide)).trans (congrArg (fun z => up1 z _ _) ((up2_nq _ _ _ _ (by decide)).trans (congrArg (fun z => up1 z _ _) ((up2_nq _ _ _ _ (by decide)).trans (congrArg (fun z => up1 z _ _) (up2_row _ _ _ _ _))))))))))) rfl))
  · rw [mkX_1]
    refine (uJ_of (a := 94) (by decide) (mkX_lt hb (by decide)) rfl rfl).trans (congrArg (ifx _ _) (mSJ_eq rfl rfl rfl ((up2_nq _ _ _ _ (by decide)).trans (congrArg (fun z => up1 z _ _) ((up2_nq _ _ _ _ (by decide)).trans (congrArg (fun z => up1 z _ _) ((up2_nq _ _ _ _ (by decide)).trans (congrArg (fun z => up1 z _ _) (up2_row _ _ _ _ _))))))) rfl))
theorem ivX (hb : 131 ≤ mNx b) {α : Type} {z : Option α} : iv (mkX b x) (some 64) [1] z = z := if_pos ⟨mkX_lt hb (by decide), rfl⟩
theorem ivN (hb : 131 ≤ mNx b) {α : Type} {z : Option α} : iv (mkX b x) (some (nid q)) [3] z = z := by cases q <;> exact if_pos ⟨mkX_lt hb (by decide), rfl⟩
theorem ivK (hb : 131 ≤ mNx b) {α : Type} {z : Option α} : iv (mkX b x) (some 105) [18] z = z := if_pos ⟨mkX_lt hb (by decide), rfl⟩
end MkX
