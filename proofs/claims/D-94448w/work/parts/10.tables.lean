/-! classes by tag, fields by number: printed by gen/tables.py -/
def hcl : List vw_C := [(RX1, TX1, 27), (RX1, TX1, 27), (RX2, TX2, 13), (RX3, TX3, 14), (RX4, TX4, 69), (RX6, TX6, 15), (RX7, TX7, 8), (RX9, TX9, 1), (RX11, TX11, 4), (RX12, TX12, 2), (RX13, TX13, 2), (RX15, TX15, 2), (RX16, TX16, 2), (RX17, TX17, 11), (RX19, TX19, 1), (RX20, TX20, 2), (RX21, TX21, 2), (RX22, TX22, 2), (RJ3, TJ3, 3), (RJ4, TJ4, 4), (RJ11, TJ11, 4), (RJ16, TJ16, 6)]
def flL : List (List Nat) := [[], [1, 2, 3, 4, 5, 6, 7, 8, 9, 10, 11, 12, 13, 14, 15, 16, 17, 18, 19, 20, 21, 22, 23, 24, 25, 26, 27], [28, 29, 30, 31, 32, 33, 34, 35, 36, 37, 38, 39, 40], [41, 42, 43, 44, 45, 46, 47, 48, 49, 50, 51, 52, 53, 54], [55, 56, 57, 58, 59, 60, 61, 62, 63, 64, 65, 66, 67, 68, 69, 70, 71, 72, 73, 74, 75, 76, 77, 78, 79, 80, 81, 82, 83, 84, 85, 86, 87, 88, 89, 90, 91, 92, 93, 94, 95, 96, 97, 98, 99, 100, 101, 102, 103, 104, 105, 106, 107, 108, 109, 110, 111, 112, 113, 114, 115, 116, 117, 118, 119, 120, 121, 122, 123], [124, 125, 126, 127, 128, 129, 130, 131, 132, 133, 134, 135, 136, 137, 138], [0, 0, 0, 0, 163, 0, 139, 140], [141], [142, 143, 144, 145], [142, 143], [142, 143], [146, 147], [146, 147], [124, 125, 126, 127, 128, 129, 130, 131, 132, 148, 149], [150], [150, 151], [150, 151], [150, 151], [152, 153, 154], [155, 156, 0, 0], [159, 160, 161, 162], [0, 0, 0, 0, 163, 0]]
def fl (t : Nat) : List Nat := flL.getD t []
def fdL : List (String × String × String) := [("", "", ""), ("HouseClaps", "tape", "[B"), ("HouseClaps", "taped", "I"), ("HouseClaps", "fault", "I"), ("HouseClaps", "house", "LHouseClaps$House;"), ("HouseClaps", "paid", "J"), ("HouseClaps", "hiss", "J"), ("HouseClaps", "cues", "Ljava/util/ArrayList;"), ("HouseClaps", "night", "LHouseClaps$Night;"), ("HouseClaps", "other", "LHouseClaps$Night;"), ("HouseClaps", "states", "[J"), ("HouseClaps", "asked", "[I"), ("HouseClaps", "bought", "I"), ("HouseClaps", "carriesSet", "[Z"), ("HouseClaps", "heights", "[I"), ("HouseClaps", "worth", "[J"), ("HouseClaps", "worthMany", "I"), ("HouseClaps", "orders", "J"), ("HouseClaps", "mouths", "[I"), ("HouseClaps", "sided", "[I"), ("HouseClaps", "beganFirst", "I"), ("HouseClaps", "beganSecond", "I"), ("HouseClaps", "seed", "I"), ("HouseClaps", "arranged", "I"), ("HouseClaps", "keptHouse", "[LHouseClaps$House;"), ("HouseClaps", "keptPaid", "[J"), ("HouseClaps", "keptHiss", "[J"), ("HouseClaps", "keptCues", "Ljava/util/ArrayList;"), ("HouseClaps$House", "rows", "I"), ("HouseClaps$House", "columns", "I"), ("HouseClaps$House", "carry", "I"), ("HouseClaps$House", "paid", "I"), ("HouseClaps$House", "lines", "I"), ("HouseClaps$House", "isByRows", "Z"), ("HouseClaps$House", "kind", "[I"), ("HouseClaps$House", "price", "[I"), ("HouseClaps$House", "leaves", "[I"), ("HouseClaps$House", "up", "[LHouseClaps$Cond;"), ("HouseClaps$House", "down", "[LHouseClaps$Cond;"), ("HouseClaps$House", "ones", "[I"), ("HouseClaps$House", "area", "[[J"), ("HouseClaps$Night", "h", "LHouseClaps$House;"), ("HouseClaps$Night", "paid", "J"), ("HouseClaps$Night", "hiss", "J"), ("HouseClaps$Night", "now", "I"), ("HouseClaps$Night", "next", "I"), ("HouseClaps$Night", "isStill", "Z"), ("HouseClaps$Night", "cues", "Ljava/util/ArrayList;"), ("HouseClaps$Night", "was", "[I"), ("HouseClaps$Night", "level", "[I"), ("HouseClaps$Night", "wasHeld", "[I"), ("HouseClaps$Night", "held", "[I"), ("HouseClaps$Night", "wasWith", "[J"), ("HouseClaps$Night", "with", "[J"), ("HouseClaps$Night", "ahead", "J"), ("HouseClapsModel", "thrown", "I"), ("HouseClapsModel", "tape", "[B"), ("HouseClapsModel", "length", "I"), ("HouseClapsModel", "size", "I"), ("HouseClapsModel", "p", "I"), ("HouseClapsModel", "limit", "I"), ("HouseClapsModel", "s", "[I"), ("HouseClapsModel", "h", "[I"), ("HouseClapsModel", "newCues", "[I"), ("HouseClapsModel", "token", "I"), ("HouseClapsModel", "at", "I"), ("HouseClapsModel", "span", "I"), ("HouseClapsModel", "number", "I"), ("HouseClapsModel", "fault", "I"), ("HouseClapsModel", "faultAt", "I"), ("HouseClapsModel", "word", "J"), ("HouseClapsModel", "seatsPaid", "J"), ("HouseClapsModel", "seatsHiss", "J"), ("HouseClapsModel", "got", "I"), ("HouseClapsModel", "lines", "I"), ("HouseClapsModel", "prices", "I"), ("HouseClapsModel", "leavings", "I"), ("HouseClapsModel", "onces", "I"), ("HouseClapsModel", "code", "[I"), ("HouseClapsModel", "pile", "[I"), ("HouseClapsModel", "held", "[Z"), ("HouseClapsModel", "codeMany", "I"), ("HouseClapsModel", "pileMany", "I"), ("HouseClapsModel", "ones", "I"), ("HouseClapsModel", "area", "[J"), ("HouseClapsModel", "lays", "Z"), ("HouseClapsModel", "coming", "I"), ("HouseClapsModel", "claps", "[J"), ("HouseClapsModel", "stand", "[J"), ("HouseClapsModel", "heldLow", "[J"), ("HouseClapsModel", "heldHigh", "[J"), ("HouseClapsModel", "paidNow", "J"), ("HouseClapsModel", "hissNow", "J"), ("HouseClapsModel", "clapping", "J"), ("HouseClapsModel", "standing", "J"), ("HouseClapsModel", "low", "J"), ("HouseClapsModel", "high", "J"), ("HouseClapsModel", "gone", "I"), ("HouseClapsModel", "cueNext", "I"), ("HouseClapsModel", "nightHeight", "I"), ("HouseClapsModel", "nightCarries", "Z"), ("HouseClapsModel", "asked", "[I"), ("HouseClapsModel", "askedMany", "I"), ("HouseClapsModel", "bought", "I"), ("HouseClapsModel", "carried", "[Z"), ("HouseClapsModel", "heights", "[I"), ("HouseClapsModel", "worths", "[J"), ("HouseClapsModel", "worthMany", "I"), ("HouseClapsModel", "allOrders", "J"), ("HouseClapsModel", "side", "[I"), ("HouseClapsModel", "hasSides", "Z"), ("HouseClapsModel", "seenClaps", "J"), ("HouseClapsModel", "seenStand", "J"), ("HouseClapsModel", "seenAll", "J"), ("HouseClapsModel", "beganA", "I"), ("HouseClapsModel", "beganB", "I"), ("HouseClapsModel", "otherClaps", "[J"), ("HouseClapsModel", "otherStand", "[J"), ("HouseClapsModel", "arranged", "I"), ("HouseClapsModel", "seed", "I"), ("HouseClapsModel", "kept", "[I"), ("HouseClapsModel", "keptPaid", "[J"), ("HouseClapsModel", "keptHiss", "[J"), ("HouseClapsModel", "isKept", "[Z"), ("HouseClaps$Reader", "tape", "[B"), ("HouseClaps$Reader", "size", "I"), ("HouseClaps$Reader", "limit", "I"), ("HouseClaps$Reader", "to", "I"), ("HouseClaps$Reader", "kind", "I"), ("HouseClaps$Reader", "from", "I"), ("HouseClaps$Reader", "number", "I"), ("HouseClaps$Reader", "sign", "I"), ("HouseClaps$Reader", "word", "Ljava/lang/String;"), ("HouseClaps$HouseReader", "h", "LHouseClaps$House;"), ("HouseClaps$HouseReader", "had", "I"), ("HouseClaps$HouseReader", "priced", "I"), ("HouseClaps$HouseReader", "left", "I"), ("HouseClaps$HouseReader", "ones", "I"), ("HouseClaps$HouseReader", "within", "I"), ("HouseClaps$Fault", "kind", "I"), ("HouseClaps$Fault", "place", "I"), ("HouseClaps$Not", "a", "LHouseClaps$Cond;"), ("HouseClaps$Compare", "sign", "I"), ("HouseClaps$Compare", "number", "I"), ("HouseClaps$Sees", "area", "I"), ("HouseClaps$Sees", "level", "I"), ("HouseClaps$Two", "a", "LHouseClaps$Cond;"), ("HouseClaps$Two", "b", "LHouseClaps$Cond;"), ("HouseClaps$CueReader", "h", "LHouseClaps$House;"), ("HouseClaps$CueReader", "cues", "Ljava/util/ArrayList;"), ("HouseClaps$Cue", "moment", "I"), ("HouseClaps$Free", "seat", "I"), ("java/util/AbstractList", "modCount", "I"), ("java/util/ArrayList", "elementData", "[Ljava/lang/Object;"), ("java/util/ArrayList", "size", "I"), ("java/lang/String", "value", "[B"), ("java/lang/String", "coder", "B"), ("java/lang/String", "hash", "I"), ("java/lang/String", "hashIsZero", "Z"), ("java/lang/AbstractStringBuilder", "value", "[B"), ("java/lang/AbstractStringBuilder", "coder", "B"), ("java/lang/AbstractStringBuilder", "maybeLatin1", "Z"), ("java/lang/AbstractStringBuilder", "count", "I"), ("java/lang/Throwable", "backtrace", "Ljava/lang/Object;")]
def fdecl (f : Nat) : String × String × String := fdL.getD f ("", "", "")
def ftL : List Nat := [9, 2, 0, 0, 2, 1, 1, 2, 2, 2, 2, 2, 0, 2, 2, 2, 0, 1, 2, 2, 0, 0, 0, 0, 2, 2, 2, 2, 0, 0, 0, 0, 0, 3, 2, 2, 2, 2, 2, 2, 2, 2, 1, 1, 0, 0, 3, 2, 2, 2, 2, 2, 2, 2, 1, 0, 2, 0, 0, 0, 0, 2, 2, 2, 0, 0, 0, 0, 0, 0, 1, 1, 1, 0, 0, 0, 0, 0, 2, 2, 2, 0, 0, 0, 2, 3, 0, 2, 2, 2, 2, 1, 1, 1, 1, 1, 1, 0, 0, 0, 3, 2, 0, 0, 2, 2, 2, 0, 1, 2, 3, 1, 1, 1, 0, 0, 2, 2, 0, 0, 2, 2, 2, 2, 2, 0, 0, 0, 0, 0, 0, 0, 2, 2, 0, 0, 0, 0, 0, 0, 0, 2, 0, 0, 0, 0, 2, 2, 2, 2, 0, 0, 0, 2, 0, 2, 4, 0, 3, 2, 4, 3, 0, 2]
def fty (f : Nat) : Nat := ftL.getD f 9
def ffL : List Bool := [false, true, false, false, false, false, false, false, true, true, true, true, false, true, true, true, false, false, true, true, false, false, false, false, true, true, true, true, false, false, false, false, false, false, true, true, true, true, true, true, true, false, false, false, false, false, false, false, false, false, false, false, true, true, false, false, true, false, false, false, false, true, true, true, false, false, false, false, false, false, false, false, false, false, false, false, false, false, true, true, true, false, false, false, true, false, false, true, true, true, true, false, false, false, false, false, false, false, false, false, false, true, false, false, true, true, true, false, false, true, false, false, false, false, false, false, true, true, false, false, true, true, true, true, true, true, true, false, false, false, false, false, false, true, false, false, false, false, false, true, true, true, true, true, true, true, true, true, true, true, true, true, false, false, false, true, true, false, false, false, false, false, false, false]
def ffin (f : Nat) : Bool := ffL.getD f false
theorem fd_1 : fdecl 1 = ("HouseClaps", "tape", "[B") := rfl
theorem fd_2 : fdecl 2 = ("HouseClaps", "taped", "I") := rfl
theorem fd_3 : fdecl 3 = ("HouseClaps", "fault", "I") := rfl
theorem fd_4 : fdecl 4 = ("HouseClaps", "house", "LHouseClaps$House;") := rfl
theorem fd_5 : fdecl 5 = ("HouseClaps", "paid", "J") := rfl
theorem fd_6 : fdecl 6 = ("HouseClaps", "hiss", "J") := rfl
theorem fd_7 : fdecl 7 = ("HouseClaps", "cues", "Ljava/util/ArrayList;") := rfl
theorem fd_8 : fdecl 8 = ("HouseClaps", "night", "LHouseClaps$Night;") := rfl
theorem fd_9 : fdecl 9 = ("HouseClaps", "other", "LHouseClaps$Night;") := rfl
theorem fd_10 : fdecl 10 = ("HouseClaps", "states", "[J") := rfl
theorem fd_11 : fdecl 11 = ("HouseClaps", "asked", "[I") := rfl
theorem fd_12 : fdecl 12 = ("HouseClaps", "bought", "I") := rfl
theorem fd_13 : fdecl 13 = ("HouseClaps", "carriesSet", "[Z") := rfl
theorem fd_14 : fdecl 14 = ("HouseClaps", "heights", "[I") := rfl
theorem fd_15 : fdecl 15 = ("HouseClaps", "worth", "[J") := rfl
theorem fd_16 : fdecl 16 = ("HouseClaps", "worthMany", "I") := rfl
theorem fd_17 : fdecl 17 = ("HouseClaps", "orders", "J") := rfl
theorem fd_18 : fdecl 18 = ("HouseClaps", "mouths", "[I") := rfl
theorem fd_19 : fdecl 19 = ("HouseClaps", "sided", "[I") := rfl
theorem fd_20 : fdecl 20 = ("HouseClaps", "beganFirst", "I") := rfl
theorem fd_21 : fdecl 21 = ("HouseClaps", "beganSecond", "I") := rfl
theorem fd_22 : fdecl 22 = ("HouseClaps", "seed", "I") := rfl
theorem fd_23 : fdecl 23 = ("HouseClaps", "arranged", "I") := rfl
theorem fd_24 : fdecl 24 = ("HouseClaps", "keptHouse", "[LHouseClaps$House;") := rfl
theorem fd_25 : fdecl 25 = ("HouseClaps", "keptPaid", "[J") := rfl
theorem fd_26 : fdecl 26 = ("HouseClaps", "keptHiss", "[J") := rfl
theorem fd_27 : fdecl 27 = ("HouseClaps", "keptCues", "Ljava/util/ArrayList;") := rfl
theorem fd_28 : fdecl 28 = ("HouseClaps$House", "rows", "I") := rfl
theorem fd_29 : fdecl 29 = ("HouseClaps$House", "columns", "I") := rfl
theorem fd_30 : fdecl 30 = ("HouseClaps$House", "carry", "I") := rfl
theorem fd_31 : fdecl 31 = ("HouseClaps$House", "paid", "I") := rfl
theorem fd_32 : fdecl 32 = ("HouseClaps$House", "lines", "I") := rfl
theorem fd_33 : fdecl 33 = ("HouseClaps$House", "isByRows", "Z") := rfl
theorem fd_34 : fdecl 34 = ("HouseClaps$House", "kind", "[I") := rfl
theorem fd_35 : fdecl 35 = ("HouseClaps$House", "price", "[I") := rfl
theorem fd_36 : fdecl 36 = ("HouseClaps$House", "leaves", "[I") := rfl
theorem fd_37 : fdecl 37 = ("HouseClaps$House", "up", "[LHouseClaps$Cond;") := rfl
theorem fd_38 : fdecl 38 = ("HouseClaps$House", "down", "[LHouseClaps$Cond;") := rfl
theorem fd_39 : fdecl 39 = ("HouseClaps$House", "ones", "[I") := rfl
theorem fd_40 : fdecl 40 = ("HouseClaps$House", "area", "[[J") := rfl
theorem fd_41 : fdecl 41 = ("HouseClaps$Night", "h", "LHouseClaps$House;") := rfl
theorem fd_42 : fdecl 42 = ("HouseClaps$Night", "paid", "J") := rfl
theorem fd_43 : fdecl 43 = ("HouseClaps$Night", "hiss", "J") := rfl
theorem fd_44 : fdecl 44 = ("HouseClaps$Night", "now", "I") := rfl
theorem fd_45 : fdecl 45 = ("HouseClaps$Night", "next", "I") := rfl
theorem fd_46 : fdecl 46 = ("HouseClaps$Night", "isStill", "Z") := rfl
theorem fd_47 : fdecl 47 = ("HouseClaps$Night", "cues", "Ljava/util/ArrayList;") := rfl
theorem fd_48 : fdecl 48 = ("HouseClaps$Night", "was", "[I") := rfl
theorem fd_49 : fdecl 49 = ("HouseClaps$Night", "level", "[I") := rfl
theorem fd_50 : fdecl 50 = ("HouseClaps$Night", "wasHeld", "[I") := rfl
theorem fd_51 : fdecl 51 = ("HouseClaps$Night", "held", "[I") := rfl
theorem fd_52 : fdecl 52 = ("HouseClaps$Night", "wasWith", "[J") := rfl
theorem fd_53 : fdecl 53 = ("HouseClaps$Night", "with", "[J") := rfl
theorem fd_54 : fdecl 54 = ("HouseClaps$Night", "ahead", "J") := rfl
theorem fd_55 : fdecl 55 = ("HouseClapsModel", "thrown", "I") := rfl
theorem fd_56 : fdecl 56 = ("HouseClapsModel", "tape", "[B") := rfl
theorem fd_57 : fdecl 57 = ("HouseClapsModel", "length", "I") := rfl
theorem fd_58 : fdecl 58 = ("HouseClapsModel", "size", "I") := rfl
theorem fd_59 : fdecl 59 = ("HouseClapsModel", "p", "I") := rfl
theorem fd_60 : fdecl 60 = ("HouseClapsModel", "limit", "I") := rfl
theorem fd_61 : fdecl 61 = ("HouseClapsModel", "s", "[I") := rfl
theorem fd_62 : fdecl 62 = ("HouseClapsModel", "h", "[I") := rfl
theorem fd_63 : fdecl 63 = ("HouseClapsModel", "newCues", "[I") := rfl
theorem fd_64 : fdecl 64 = ("HouseClapsModel", "token", "I") := rfl
theorem fd_65 : fdecl 65 = ("HouseClapsModel", "at", "I") := rfl
theorem fd_66 : fdecl 66 = ("HouseClapsModel", "span", "I") := rfl
theorem fd_67 : fdecl 67 = ("HouseClapsModel", "number", "I") := rfl
theorem fd_68 : fdecl 68 = ("HouseClapsModel", "fault", "I") := rfl
theorem fd_69 : fdecl 69 = ("HouseClapsModel", "faultAt", "I") := rfl
theorem fd_70 : fdecl 70 = ("HouseClapsModel", "word", "J") := rfl
theorem fd_71 : fdecl 71 = ("HouseClapsModel", "seatsPaid", "J") := rfl
theorem fd_72 : fdecl 72 = ("HouseClapsModel", "seatsHiss", "J") := rfl
theorem fd_73 : fdecl 73 = ("HouseClapsModel", "got", "I") := rfl
theorem fd_74 : fdecl 74 = ("HouseClapsModel", "lines", "I") := rfl
theorem fd_75 : fdecl 75 = ("HouseClapsModel", "prices", "I") := rfl
theorem fd_76 : fdecl 76 = ("HouseClapsModel", "leavings", "I") := rfl
theorem fd_77 : fdecl 77 = ("HouseClapsModel", "onces", "I") := rfl
theorem fd_78 : fdecl 78 = ("HouseClapsModel", "code", "[I") := rfl
theorem fd_79 : fdecl 79 = ("HouseClapsModel", "pile", "[I") := rfl
theorem fd_80 : fdecl 80 = ("HouseClapsModel", "held", "[Z") := rfl
theorem fd_81 : fdecl 81 = ("HouseClapsModel", "codeMany", "I") := rfl
theorem fd_82 : fdecl 82 = ("HouseClapsModel", "pileMany", "I") := rfl
theorem fd_83 : fdecl 83 = ("HouseClapsModel", "ones", "I") := rfl
theorem fd_84 : fdecl 84 = ("HouseClapsModel", "area", "[J") := rfl
theorem fd_85 : fdecl 85 = ("HouseClapsModel", "lays", "Z") := rfl
theorem fd_86 : fdecl 86 = ("HouseClapsModel", "coming", "I") := rfl
theorem fd_87 : fdecl 87 = ("HouseClapsModel", "claps", "[J") := rfl
theorem fd_88 : fdecl 88 = ("HouseClapsModel", "stand", "[J") := rfl
theorem fd_89 : fdecl 89 = ("HouseClapsModel", "heldLow", "[J") := rfl
theorem fd_90 : fdecl 90 = ("HouseClapsModel", "heldHigh", "[J") := rfl
theorem fd_91 : fdecl 91 = ("HouseClapsModel", "paidNow", "J") := rfl
theorem fd_92 : fdecl 92 = ("HouseClapsModel", "hissNow", "J") := rfl
theorem fd_93 : fdecl 93 = ("HouseClapsModel", "clapping", "J") := rfl
theorem fd_94 : fdecl 94 = ("HouseClapsModel", "standing", "J") := rfl
theorem fd_95 : fdecl 95 = ("HouseClapsModel", "low", "J") := rfl
theorem fd_96 : fdecl 96 = ("HouseClapsModel", "high", "J") := rfl
theorem fd_97 : fdecl 97 = ("HouseClapsModel", "gone", "I") := rfl
theorem fd_98 : fdecl 98 = ("HouseClapsModel", "cueNext", "I") := rfl
theorem fd_99 : fdecl 99 = ("HouseClapsModel", "nightHeight", "I") := rfl
theorem fd_100 : fdecl 100 = ("HouseClapsModel", "nightCarries", "Z") := rfl
theorem fd_101 : fdecl 101 = ("HouseClapsModel", "asked", "[I") := rfl
theorem fd_102 : fdecl 102 = ("HouseClapsModel", "askedMany", "I") := rfl
theorem fd_103 : fdecl 103 = ("HouseClapsModel", "bought", "I") := rfl
theorem fd_104 : fdecl 104 = ("HouseClapsModel", "carried", "[Z") := rfl
theorem fd_105 : fdecl 105 = ("HouseClapsModel", "heights", "[I") := rfl
theorem fd_106 : fdecl 106 = ("HouseClapsModel", "worths", "[J") := rfl
theorem fd_107 : fdecl 107 = ("HouseClapsModel", "worthMany", "I") := rfl
theorem fd_108 : fdecl 108 = ("HouseClapsModel", "allOrders", "J") := rfl
theorem fd_109 : fdecl 109 = ("HouseClapsModel", "side", "[I") := rfl
theorem fd_110 : fdecl 110 = ("HouseClapsModel", "hasSides", "Z") := rfl
theorem fd_111 : fdecl 111 = ("HouseClapsModel", "seenClaps", "J") := rfl
theorem fd_112 : fdecl 112 = ("HouseClapsModel", "seenStand", "J") := rfl
theorem fd_113 : fdecl 113 = ("HouseClapsModel", "seenAll", "J") := rfl
theorem fd_114 : fdecl 114 = ("HouseClapsModel", "beganA", "I") := rfl
theorem fd_115 : fdecl 115 = ("HouseClapsModel", "beganB", "I") := rfl
theorem fd_116 : fdecl 116 = ("HouseClapsModel", "otherClaps", "[J") := rfl
theorem fd_117 : fdecl 117 = ("HouseClapsModel", "otherStand", "[J") := rfl
theorem fd_118 : fdecl 118 = ("HouseClapsModel", "arranged", "I") := rfl
theorem fd_119 : fdecl 119 = ("HouseClapsModel", "seed", "I") := rfl
theorem fd_120 : fdecl 120 = ("HouseClapsModel", "kept", "[I") := rfl
theorem fd_121 : fdecl 121 = ("HouseClapsModel", "keptPaid", "[J") := rfl
theorem fd_122 : fdecl 122 = ("HouseClapsModel", "keptHiss", "[J") := rfl
theorem fd_123 : fdecl 123 = ("HouseClapsModel", "isKept", "[Z") := rfl
theorem fd_124 : fdecl 124 = ("HouseClaps$Reader", "tape", "[B") := rfl
theorem fd_125 : fdecl 125 = ("HouseClaps$Reader", "size", "I") := rfl
theorem fd_126 : fdecl 126 = ("HouseClaps$Reader", "limit", "I") := rfl
theorem fd_127 : fdecl 127 = ("HouseClaps$Reader", "to", "I") := rfl
theorem fd_128 : fdecl 128 = ("HouseClaps$Reader", "kind", "I") := rfl
theorem fd_129 : fdecl 129 = ("HouseClaps$Reader", "from", "I") := rfl
theorem fd_130 : fdecl 130 = ("HouseClaps$Reader", "number", "I") := rfl
theorem fd_131 : fdecl 131 = ("HouseClaps$Reader", "sign", "I") := rfl
theorem fd_132 : fdecl 132 = ("HouseClaps$Reader", "word", "Ljava/lang/String;") := rfl
theorem fd_133 : fdecl 133 = ("HouseClaps$HouseReader", "h", "LHouseClaps$House;") := rfl
theorem fd_134 : fdecl 134 = ("HouseClaps$HouseReader", "had", "I") := rfl
theorem fd_135 : fdecl 135 = ("HouseClaps$HouseReader", "priced", "I") := rfl
theorem fd_136 : fdecl 136 = ("HouseClaps$HouseReader", "left", "I") := rfl
theorem fd_137 : fdecl 137 = ("HouseClaps$HouseReader", "ones", "I") := rfl
theorem fd_138 : fdecl 138 = ("HouseClaps$HouseReader", "within", "I") := rfl
theorem fd_139 : fdecl 139 = ("HouseClaps$Fault", "kind", "I") := rfl
theorem fd_140 : fdecl 140 = ("HouseClaps$Fault", "place", "I") := rfl
theorem fd_141 : fdecl 141 = ("HouseClaps$Not", "a", "LHouseClaps$Cond;") := rfl
theorem fd_142 : fdecl 142 = ("HouseClaps$Compare", "sign", "I") := rfl
theorem fd_143 : fdecl 143 = ("HouseClaps$Compare", "number", "I") := rfl
theorem fd_144 : fdecl 144 = ("HouseClaps$Sees", "area", "I") := rfl
theorem fd_145 : fdecl 145 = ("HouseClaps$Sees", "level", "I") := rfl
theorem fd_146 : fdecl 146 = ("HouseClaps$Two", "a", "LHouseClaps$Cond;") := rfl
theorem fd_147 : fdecl 147 = ("HouseClaps$Two", "b", "LHouseClaps$Cond;") := rfl
theorem fd_148 : fdecl 148 = ("HouseClaps$CueReader", "h", "LHouseClaps$House;") := rfl
theorem fd_149 : fdecl 149 = ("HouseClaps$CueReader", "cues", "Ljava/util/ArrayList;") := rfl
theorem fd_150 : fdecl 150 = ("HouseClaps$Cue", "moment", "I") := rfl
theorem fd_151 : fdecl 151 = ("HouseClaps$Free", "seat", "I") := rfl
theorem fd_152 : fdecl 152 = ("java/util/AbstractList", "modCount", "I") := rfl
theorem fd_153 : fdecl 153 = ("java/util/ArrayList", "elementData", "[Ljava/lang/Object;") := rfl
theorem fd_154 : fdecl 154 = ("java/util/ArrayList", "size", "I") := rfl
theorem fd_155 : fdecl 155 = ("java/lang/String", "value", "[B") := rfl
theorem fd_156 : fdecl 156 = ("java/lang/String", "coder", "B") := rfl
theorem fd_157 : fdecl 157 = ("java/lang/String", "hash", "I") := rfl
theorem fd_158 : fdecl 158 = ("java/lang/String", "hashIsZero", "Z") := rfl
theorem fd_159 : fdecl 159 = ("java/lang/AbstractStringBuilder", "value", "[B") := rfl
theorem fd_160 : fdecl 160 = ("java/lang/AbstractStringBuilder", "coder", "B") := rfl
theorem fd_161 : fdecl 161 = ("java/lang/AbstractStringBuilder", "maybeLatin1", "Z") := rfl
theorem fd_162 : fdecl 162 = ("java/lang/AbstractStringBuilder", "count", "I") := rfl
theorem fd_163 : fdecl 163 = ("java/lang/Throwable", "backtrace", "Ljava/lang/Object;") := rfl
def nsL : List Nat := [0, 27, 13, 14, 69, 15, 8, 1, 4, 2, 2, 2, 2, 11, 1, 2, 2, 2, 3, 4, 4, 6]
def nsl (t : Nat) : Nat := nsL.getD t 0
def cnL : List String := ["", "HouseClaps", "HouseClaps$House", "HouseClaps$Night", "HouseClapsModel", "HouseClaps$HouseReader", "HouseClaps$Fault", "HouseClaps$Not", "HouseClaps$Sees", "HouseClaps$Self", "HouseClaps$Held", "HouseClaps$And", "HouseClaps$Or", "HouseClaps$CueReader", "HouseClaps$Still", "HouseClaps$Free", "HouseClaps$Pay", "HouseClaps$Hiss", "java/util/ArrayList", "java/lang/String", "java/lang/StringBuilder", "java/util/NoSuchElementException"]
def cnm (t : Nat) : String := cnL.getD t ""
def strL : List (String × Nat × String) := [("HouseClaps$CueReader", 31, "at"), ("HouseClaps$CueReader", 60, "pay"), ("HouseClaps$CueReader", 62, "hiss"), ("HouseClaps$CueReader", 64, "free"), ("HouseClaps$CueReader", 66, "still"), ("HouseClaps$HouseReader", 27, "row"), ("HouseClaps$HouseReader", 35, "up"), ("HouseClaps$HouseReader", 44, "down"), ("HouseClaps$HouseReader", 48, "price"), ("HouseClaps$HouseReader", 61, "leaves"), ("HouseClaps$HouseReader", 129, "carry"), ("HouseClaps$HouseReader", 131, "paid"), ("HouseClaps$HouseReader", 133, "rows"), ("HouseClaps$HouseReader", 148, "or"), ("HouseClaps$HouseReader", 157, "and"), ("HouseClaps$HouseReader", 161, "near"), ("HouseClaps$HouseReader", 163, "ahead"), ("HouseClaps$HouseReader", 165, "beside"), ("HouseClaps$HouseReader", 167, "behind"), ("HouseClaps$HouseReader", 169, "seen"), ("HouseClaps$HouseReader", 171, "house"), ("HouseClaps$HouseReader", 177, "not"), ("HouseClaps$HouseReader", 179, "self"), ("HouseClaps$HouseReader", 184, "held"), ("HouseClaps$Reader", 7, ""), ("HouseClaps$Reader", 46, ";<=>()")]
theorem hcl_in : ∀ (t : Nat) (q : vw_C), hcl[t]? = some q → ∀ w ∈ u_ws q.1 q.2.1 q.2.2, w ∈ lw_all := by
  intro t q h
  match t, h with
  | 0, h => cases h; exact in_X1
  | 1, h => cases h; exact in_X1
  | 2, h => cases h; exact in_X2
  | 3, h => cases h; exact in_X3
  | 4, h => cases h; exact in_X4
  | 5, h => cases h; exact in_X6
  | 6, h => cases h; exact in_X7
  | 7, h => cases h; exact in_X9
  | 8, h => cases h; exact in_X11
  | 9, h => cases h; exact in_X12
  | 10, h => cases h; exact in_X13
  | 11, h => cases h; exact in_X15
  | 12, h => cases h; exact in_X16
  | 13, h => cases h; exact in_X17
  | 14, h => cases h; exact in_X19
  | 15, h => cases h; exact in_X20
  | 16, h => cases h; exact in_X21
  | 17, h => cases h; exact in_X22
  | 18, h => cases h; exact in_J3
  | 19, h => cases h; exact in_J4
  | 20, h => cases h; exact in_J11
  | 21, h => cases h; exact in_J16
  | t + 22, h => exact absurd h (by simp [hcl])
theorem hcl_nm : ∀ (t : Nat) (q : vw_C), hcl[t]? = some q → ∀ a, a < q.2.2 → ∀ b, b < q.2.2 → a ≠ b → (q.2.1 a).2.1 ≠ (q.2.1 b).2.1 := by
  intro t q h
  match t, h with
  | 0, h => cases h; exact nmX1
  | 1, h => cases h; exact nmX1
  | 2, h => cases h; exact nmX2
  | 3, h => cases h; exact nmX3
  | 4, h => cases h; exact nmX4
  | 5, h => cases h; exact nmX6
  | 6, h => cases h; exact nmX7
  | 7, h => cases h; exact nmX9
  | 8, h => cases h; exact nmX11
  | 9, h => cases h; exact nmX12
  | 10, h => cases h; exact nmX13
  | 11, h => cases h; exact nmX15
  | 12, h => cases h; exact nmX16
  | 13, h => cases h; exact nmX17
  | 14, h => cases h; exact nmX19
  | 15, h => cases h; exact nmX20
  | 16, h => cases h; exact nmX21
  | 17, h => cases h; exact nmX22
  | 18, h => cases h; exact nmJ3
  | 19, h => cases h; exact nmJ4
  | 20, h => cases h; exact nmJ11
  | 21, h => cases h; exact nmJ16
  | t + 22, h => exact absurd h (by simp [hcl])
theorem hcl_ty : ∀ (t : Nat) (q : vw_C), hcl[t]? = some q → ∃ ty : Nat → FieldType, ∀ k, k < q.2.2 → parseFieldDescriptor (q.2.1 k).2.2.1 = some (ty k) := by
  intro t q h
  match t, h with
  | 0, h => cases h; exact ⟨tyX1, tyX1_ok⟩
  | 1, h => cases h; exact ⟨tyX1, tyX1_ok⟩
  | 2, h => cases h; exact ⟨tyX2, tyX2_ok⟩
  | 3, h => cases h; exact ⟨tyX3, tyX3_ok⟩
  | 4, h => cases h; exact ⟨tyX4, tyX4_ok⟩
  | 5, h => cases h; exact ⟨tyX6, tyX6_ok⟩
  | 6, h => cases h; exact ⟨tyX7, tyX7_ok⟩
  | 7, h => cases h; exact ⟨tyX9, tyX9_ok⟩
  | 8, h => cases h; exact ⟨tyX11, tyX11_ok⟩
  | 9, h => cases h; exact ⟨tyX12, tyX12_ok⟩
  | 10, h => cases h; exact ⟨tyX13, tyX13_ok⟩
  | 11, h => cases h; exact ⟨tyX15, tyX15_ok⟩
  | 12, h => cases h; exact ⟨tyX16, tyX16_ok⟩
  | 13, h => cases h; exact ⟨tyX17, tyX17_ok⟩
  | 14, h => cases h; exact ⟨tyX19, tyX19_ok⟩
  | 15, h => cases h; exact ⟨tyX20, tyX20_ok⟩
  | 16, h => cases h; exact ⟨tyX21, tyX21_ok⟩
  | 17, h => cases h; exact ⟨tyX22, tyX22_ok⟩
  | 18, h => cases h; exact ⟨tyJ3, tyJ3_ok⟩
  | 19, h => cases h; exact ⟨tyJ4, tyJ4_ok⟩
  | 20, h => cases h; exact ⟨tyJ11, tyJ11_ok⟩
  | 21, h => cases h; exact ⟨tyJ16, tyJ16_ok⟩
  | t + 22, h => exact absurd h (by simp [hcl])
theorem tag_inst : ∀ t : Nat, 0 < t → t < 22 → Cond.instantiable (cnm t) (nsl t) ∈ lw_all ∧ Cond.initialized (cnm t) ∈ lw_all := by
  intro t h0 h
  match t, h0, h with
  | 1, _, _ => exact ⟨q129, q85⟩
  | 2, _, _ => exact ⟨q137, q86⟩
  | 3, _, _ => exact ⟨q255, q91⟩
  | 4, _, _ => exact ⟨q1683, q92⟩
  | 5, _, _ => exact ⟨q420, q94⟩
  | 6, _, _ => exact ⟨q785, q107⟩
  | 7, _, _ => exact ⟨q898, q109⟩
  | 8, _, _ => exact ⟨q932, q111⟩
  | 9, _, _ => exact ⟨q954, q112⟩
  | 10, _, _ => exact ⟨q963, q113⟩
  | 11, _, _ => exact ⟨q973, q115⟩
  | 12, _, _ => exact ⟨q998, q116⟩
  | 13, _, _ => exact ⟨q1077, q119⟩
  | 14, _, _ => exact ⟨q1130, q121⟩
  | 15, _, _ => exact ⟨q1172, q122⟩
  | 16, _, _ => exact ⟨q1149, q123⟩
  | 17, _, _ => exact ⟨q1163, q124⟩
  | 18, _, _ => exact ⟨q229, q90⟩
  | 19, _, _ => exact ⟨q707, q95⟩
  | 20, _, _ => exact ⟨q593, q102⟩
  | 21, _, _ => exact ⟨q1628, q118⟩
  | t + 22, _, h => exact absurd h (by omega)

