/-! THE TABLES of the abstract machine, printed by gen03.py out of claim/WORDS.tsv and claim/names -/
def clsN : List String := ["ToyPitch", "ToyPitch$Reader", "ToyPitch$Fault", "ToyPitch$Finding", "ToyPitch$Overrun", "ToyPitch$Match", "ToyPitch$Team", "ToyPitch$Ticker", "ToyPitch$Run", "ToyPitch$Program", "ToyPitch$State", "ToyPitch$Rule", "ToyPitch$Test", "ToyPitch$Sum", "ToyPitch$Term", "ToyPitch$Own", "ToyPitch$Sensor", "ToyPitch$Other", "ToyPitch$Act", "ToyPitch$Go", "ToyPitch$Set", "ToyPitch$Move", "ToyPitch$To", "ToyPitch$Kick", "ToyPitchModel", "java/util/ArrayList", "java/lang/String", "ToyPitchLaw", "java/lang/StringLatin1", "jdk/internal/util/Preconditions", "java/util/Arrays", "jdk/internal/util/ArraysSupport", "java/util/Objects", "java/lang/Integer", "java/util/AbstractList", "java/util/AbstractCollection", "ToyPitch$Knows"]
def cN (c : Nat) : String := clsN.getD c ""
/-- the fields that are kept of an object of class c: (declaring class, name, descriptor, final) -/
def fdT : List (List (String × String × String × Bool)) := [[("ToyPitch", "findings", "[LToyPitch$Finding;", true), ("ToyPitch", "found", "[I", true), ("ToyPitch", "tape", "[B", true), ("ToyPitch", "taped", "I", false), ("ToyPitch", "fault", "I", false), ("ToyPitch", "reader", "LToyPitch$Reader;", true), ("ToyPitch", "programs", "[LToyPitch$Program;", true), ("ToyPitch", "programMany", "I", false), ("ToyPitch", "teams", "[LToyPitch$Team;", true), ("ToyPitch", "match", "LToyPitch$Match;", true), ("ToyPitch", "aside", "LToyPitch$Match;", true), ("ToyPitch", "kept", "[LToyPitch$Match;", true), ("ToyPitch", "isKept", "[Z", true), ("ToyPitch", "isOn", "Z", false), ("ToyPitch", "ticker", "LToyPitch$Ticker;", true), ("ToyPitch", "league", "I", false), ("ToyPitch", "points", "[I", true), ("ToyPitch", "shot", "[I", true), ("ToyPitch", "against", "[I", true), ("ToyPitch", "wait", "[I", true), ("ToyPitch", "waiting", "I", false)],
  [("ToyPitch$Reader", "fault", "LToyPitch$Fault;", true), ("ToyPitch$Reader", "keys", "[Ljava/lang/String;", true), ("ToyPitch$Reader", "row", "[B", false), ("ToyPitch$Reader", "length", "I", false), ("ToyPitch$Reader", "at", "I", false), ("ToyPitch$Reader", "from", "I", false), ("ToyPitch$Reader", "is", "I", false), ("ToyPitch$Reader", "value", "I", false), ("ToyPitch$Reader", "names", "[[B", true), ("ToyPitch$Reader", "nameMany", "I", false), ("ToyPitch$Reader", "gone", "[LToyPitch$Go;", true), ("ToyPitch$Reader", "goMany", "I", false)],
  [("java/lang/Throwable", "backtrace", "Ljava/lang/Object;", false), ("ToyPitch$Fault", "place", "I", false)],
  [("java/lang/Throwable", "backtrace", "Ljava/lang/Object;", false), ("ToyPitch$Finding", "code", "I", true)],
  [("java/lang/Throwable", "backtrace", "Ljava/lang/Object;", false)],
  [("ToyPitch$Match", "home", "I", false), ("ToyPitch$Match", "away", "I", false), ("ToyPitch$Match", "teams", "[LToyPitch$Team;", true), ("ToyPitch$Match", "xs", "[I", true), ("ToyPitch$Match", "ys", "[I", true), ("ToyPitch$Match", "states", "[I", true), ("ToyPitch$Match", "stopped", "[Z", true), ("ToyPitch$Match", "owns", "[[I", true), ("ToyPitch$Match", "viewX", "[I", true), ("ToyPitch$Match", "viewY", "[I", true), ("ToyPitch$Match", "commands", "[I", true), ("ToyPitch$Match", "ballX", "I", false), ("ToyPitch$Match", "ballY", "I", false), ("ToyPitch$Match", "holder", "I", false), ("ToyPitch$Match", "got", "I", false), ("ToyPitch$Match", "wayX", "I", false), ("ToyPitch$Match", "wayY", "I", false), ("ToyPitch$Match", "power", "I", false), ("ToyPitch$Match", "wasX", "[I", true), ("ToyPitch$Match", "wasY", "[I", true), ("ToyPitch$Match", "since", "I", false), ("ToyPitch$Match", "tick", "I", false), ("ToyPitch$Match", "goals", "[I", true), ("ToyPitch$Match", "laws", "[I", true), ("ToyPitch$Match", "tackles", "I", false), ("ToyPitch$Match", "overruns", "I", false), ("ToyPitch$Match", "fell", "[I", true), ("ToyPitch$Match", "fallen", "I", false), ("ToyPitch$Match", "lain", "I", false), ("ToyPitch$Match", "lainX", "I", false), ("ToyPitch$Match", "lainY", "I", false)],
  [("ToyPitch$Team", "programs", "[LToyPitch$Program;", true), ("ToyPitch$Team", "xs", "[I", true), ("ToyPitch$Team", "ys", "[I", true), ("ToyPitch$Team", "late", "I", false), ("ToyPitch$Team", "lost", "I", false)],
  [("ToyPitch$Ticker", "run", "LToyPitch$Run;", true), ("ToyPitch$Ticker", "xs", "[I", true), ("ToyPitch$Ticker", "ys", "[I", true), ("ToyPitch$Ticker", "powers", "[I", true), ("ToyPitch$Ticker", "m", "LToyPitch$Match;", false), ("ToyPitch$Ticker", "\u0072", "I", false), ("ToyPitch$Ticker", "told", "[LToyPitch$Team;", false)],
  [("ToyPitch$Run", "overrun", "LToyPitch$Overrun;", true), ("ToyPitch$Run", "knows", "LToyPitch$Knows;", false), ("ToyPitch$Run", "own", "[I", false), ("ToyPitch$Run", "steps", "I", false), ("ToyPitch$Run", "next", "I", false), ("ToyPitch$Run", "command", "I", false), ("ToyPitch$Run", "x", "I", false), ("ToyPitch$Run", "y", "I", false), ("ToyPitch$Run", "power", "I", false)],
  [("ToyPitch$Program", "states", "[LToyPitch$State;", true), ("ToyPitch$Program", "many", "I", false)],
  [("ToyPitch$State", "name", "I", false), ("ToyPitch$State", "place", "I", false), ("ToyPitch$State", "rules", "[LToyPitch$Rule;", true), ("ToyPitch$State", "many", "I", false)],
  [("ToyPitch$Rule", "tests", "Ljava/util/ArrayList;", true), ("ToyPitch$Rule", "acts", "[LToyPitch$Act;", true), ("ToyPitch$Rule", "many", "I", false)],
  [("ToyPitch$Test", "left", "LToyPitch$Sum;", false), ("ToyPitch$Test", "right", "LToyPitch$Sum;", false), ("ToyPitch$Test", "sign", "I", false)],
  [("ToyPitch$Sum", "terms", "[LToyPitch$Term;", true), ("ToyPitch$Sum", "signs", "[B", true), ("ToyPitch$Sum", "many", "I", false)],
  [("ToyPitch$Term", "number", "I", true), ("ToyPitch$Term", "minus", "Z", true)],
  [("ToyPitch$Term", "number", "I", true), ("ToyPitch$Term", "minus", "Z", true)],
  [("ToyPitch$Term", "number", "I", true), ("ToyPitch$Term", "minus", "Z", true)],
  [("ToyPitch$Term", "number", "I", true), ("ToyPitch$Term", "minus", "Z", true), ("ToyPitch$Other", "k", "I", true)],
  [("ToyPitch$Act", "sums", "[LToyPitch$Sum;", true)],
  [("ToyPitch$Act", "sums", "[LToyPitch$Sum;", true), ("ToyPitch$Go", "place", "I", true), ("ToyPitch$Go", "state", "I", false)],
  [("ToyPitch$Act", "sums", "[LToyPitch$Sum;", true), ("ToyPitch$Set", "own", "I", true)],
  [("ToyPitch$Act", "sums", "[LToyPitch$Sum;", true)],
  [("ToyPitch$Act", "sums", "[LToyPitch$Sum;", true)],
  [("ToyPitch$Act", "sums", "[LToyPitch$Sum;", true)],
  [("ToyPitchModel", "tape", "[I", true), ("ToyPitchModel", "taped", "I", false), ("ToyPitchModel", "faultAt", "I", false), ("ToyPitchModel", "from", "I", false), ("ToyPitchModel", "next", "I", false), ("ToyPitchModel", "kind", "I", false), ("ToyPitchModel", "value", "I", false), ("ToyPitchModel", "code", "J", false), ("ToyPitchModel", "programs", "I", false), ("ToyPitchModel", "words", "[I", true), ("ToyPitchModel", "values", "[I", true), ("ToyPitchModel", "many", "I", false), ("ToyPitchModel", "states", "[I", true), ("ToyPitchModel", "begins", "[I", true), ("ToyPitchModel", "stateName", "[J", true), ("ToyPitchModel", "names", "I", false), ("ToyPitchModel", "nameCode", "[J", true), ("ToyPitchModel", "nameFrom", "[I", true), ("ToyPitchModel", "nameWord", "[I", true), ("ToyPitchModel", "nameIsState", "[Z", true), ("ToyPitchModel", "terms", "I", false), ("ToyPitchModel", "findings", "[I", true), ("ToyPitchModel", "programOf", "[I", true), ("ToyPitchModel", "startX", "[I", true), ("ToyPitchModel", "startY", "[I", true), ("ToyPitchModel", "lateOf", "[I", true), ("ToyPitchModel", "lostOf", "[I", true), ("ToyPitchModel", "m", "[I", false), ("ToyPitchModel", "other", "[I", false), ("ToyPitchModel", "kept", "[I", true), ("ToyPitchModel", "placed", "I", false), ("ToyPitchModel", "putX", "I", false), ("ToyPitchModel", "putY", "I", false), ("ToyPitchModel", "runs", "I", false), ("ToyPitchModel", "base", "I", false), ("ToyPitchModel", "here", "I", false), ("ToyPitchModel", "steps", "I", false), ("ToyPitchModel", "over", "Z", false), ("ToyPitchModel", "commandX", "[I", true), ("ToyPitchModel", "commandY", "[I", true), ("ToyPitchModel", "commandPower", "[I", true), ("ToyPitchModel", "gone", "I", false), ("ToyPitchModel", "played", "I", false), ("ToyPitchModel", "points", "[I", true), ("ToyPitchModel", "shot", "[I", true), ("ToyPitchModel", "against", "[I", true), ("ToyPitchModel", "tells", "I", false), ("ToyPitchModel", "told", "[I", true)],
  [("java/util/AbstractList", "modCount", "I", false), ("java/util/ArrayList", "elementData", "[Ljava/lang/Object;", false), ("java/util/ArrayList", "size", "I", false)],
  [("java/lang/String", "value", "[B", true), ("java/lang/String", "coder", "B", true)]]
def tF (c k : Nat) : String × String × String × Bool := (fdT.getD c []).getD k ("", "", "", false)
def tNum (c : Nat) : Nat := (fdT.getD c []).length
/-- kinds of the fields: 0 int, 1 boolean, 2 byte, 3 long, 4 reference -/
def fcT : List (List Nat) := [[4, 4, 4, 0, 0, 4, 4, 0, 4, 4, 4, 4, 4, 1, 4, 0, 4, 4, 4, 4, 0], [4, 4, 4, 0, 0, 0, 0, 0, 4, 0, 4, 0], [4, 0], [4, 0], [4], [0, 0, 4, 4, 4, 4, 4, 4, 4, 4, 4, 0, 0, 0, 0, 0, 0, 0, 4, 4, 0, 0, 4, 4, 0, 0, 4, 0, 0, 0, 0], [4, 4, 4, 0, 0], [4, 4, 4, 4, 4, 0, 4], [4, 4, 4, 0, 0, 0, 0, 0, 0], [4, 0], [0, 0, 4, 0], [4, 4, 0], [4, 4, 0], [4, 4, 0], [0, 1], [0, 1], [0, 1], [0, 1, 0], [4], [4, 0, 0], [4, 0], [4], [4], [4], [4, 0, 0, 0, 0, 0, 0, 3, 0, 4, 4, 0, 4, 4, 4, 0, 4, 4, 4, 4, 0, 4, 4, 4, 4, 4, 4, 4, 4, 4, 0, 0, 0, 0, 0, 0, 0, 1, 4, 4, 4, 0, 0, 4, 4, 4, 0, 4], [0, 4, 0], [4, 2]]
def fC (c k : Nat) : Nat := (fcT.getD c []).getD k 9
/-- slots of a new object -/
def slT : List Nat := [21, 12, 7, 7, 6, 31, 5, 7, 9, 2, 4, 3, 3, 3, 2, 2, 2, 3, 1, 3, 2, 1, 1, 1, 48, 3, 0]
def tSl (c : Nat) : Nat := slT.getD c 0
def subT : List Nat := [0, 65, 130, 195, 260, 325, 390, 455, 520, 585, 650, 715, 780, 845, 910, 974, 975, 1038, 1040, 1102, 1104, 1105, 1170, 1234, 1235, 1298, 1300, 1362, 1365, 1426, 1429, 1430, 1490, 1493, 1495, 1560, 1625, 1690]
def sub (c d : Nat) : Bool := subT.contains (c * 64 + d)
def lk {α : Type} : List (Nat × α) → Nat → Option α
  | [], _ => none
  | (k, v) :: r, q => match k == q with
    | true => some v
    | false => lk r q
/-- field links: class * 4096 + entry: (class, place) -/
def flT : List (Nat × Nat × Nat) := [(576, 0, 0), (960, 0, 1), (1216, 0, 2), (1472, 0, 4), (1920, 0, 5), (2304, 0, 6), (2688, 0, 8), (3136, 0, 9), (3392, 0, 10), (3584, 0, 11), (3840, 0, 12), (4288, 0, 14), (4544, 0, 16), (4736, 0, 17), (4928, 0, 18), (5120, 0, 19), (5824, 3, 1), (6528, 0, 3), (6976, 0, 7), (7552, 2, 1), (8000, 6, 0), (8064, 6, 1), (8256, 6, 2), (8448, 6, 3), (8640, 6, 4), (8832, 5, 0), (9024, 5, 1), (9216, 5, 21), (9408, 5, 22), (9600, 5, 23), (9792, 5, 10), (9984, 5, 24), (10176, 5, 25), (10368, 5, 27), (11072, 0, 13), (11712, 5, 13), (11904, 5, 17), (12096, 5, 11), (12288, 5, 12), (12480, 5, 15), (12672, 5, 16), (12864, 5, 3), (12928, 5, 4), (12992, 5, 5), (13184, 5, 6), (13376, 5, 8), (13568, 5, 9), (13760, 5, 7), (14592, 5, 26), (16128, 0, 15), (16832, 0, 20), (17024, 9, 1), (769, 1, 0), (3969, 1, 1), (4353, 1, 8), (4737, 1, 10), (4993, 1, 4), (5249, 1, 3), (5441, 1, 2), (5825, 1, 5), (6529, 1, 6), (7425, 1, 7), (9409, 1, 9), (9857, 1, 11), (10241, 9, 1), (10433, 9, 0), (11265, 10, 1), (11649, 10, 0), (12033, 10, 3), (12097, 10, 2), (12801, 11, 0), (13697, 11, 2), (13761, 11, 1), (14721, 12, 0), (14977, 12, 2), (15105, 12, 1), (15745, 13, 2), (17025, 13, 0), (17281, 13, 1), (17601, 19, 2), (18241, 18, 0), (19329, 19, 1), (450, 2, 1), (451, 3, 1), (773, 5, 2), (1157, 5, 3), (1413, 5, 4), (1605, 5, 5), (1797, 5, 6), (2181, 5, 7), (2373, 5, 8), (2565, 5, 9), (2757, 5, 10), (2949, 5, 18), (3141, 5, 19), (3333, 5, 22), (3525, 5, 23), (3717, 5, 26), (3909, 5, 0), (4165, 5, 1), (4997, 5, 11), (5189, 5, 12), (5381, 5, 13), (5573, 5, 14), (5765, 5, 15), (5957, 5, 16), (6149, 5, 17), (6341, 5, 20), (6533, 5, 21), (6725, 5, 24), (6917, 5, 25), (7109, 5, 27), (7301, 5, 28), (7493, 5, 29), (7685, 5, 30), (7877, 6, 0), (9477, 6, 1), (9541, 6, 2), (710, 6, 0), (1094, 6, 1), (1350, 6, 2), (1926, 6, 3), (2182, 6, 4), (775, 7, 0), (1159, 7, 1), (1415, 7, 2), (1607, 7, 3), (1799, 7, 5), (2055, 7, 4), (2311, 5, 8), (2887, 5, 9), (3271, 5, 3), (3335, 5, 4), (3399, 5, 13), (3591, 5, 21), (4231, 7, 6), (4487, 5, 18), (4679, 5, 19), (4871, 5, 11), (5063, 5, 12), (6343, 5, 23), (6727, 5, 2), (6919, 6, 4), (7239, 6, 3), (7431, 5, 20), (8263, 5, 10), (8455, 5, 6), (8711, 5, 7), (8967, 5, 5), (9863, 5, 25), (10055, 8, 4), (10247, 8, 5), (10439, 8, 6), (10631, 8, 7), (10823, 8, 8), (11015, 5, 15), (11207, 5, 16), (11399, 5, 17), (11975, 5, 14), (12167, 5, 24), (12551, 5, 22), (12743, 5, 27), (12935, 5, 26), (13127, 5, 28), (13319, 5, 29), (13511, 5, 30), (776, 8, 0), (1160, 8, 1), (1416, 8, 2), (1672, 8, 3), (1928, 8, 4), (2120, 8, 5), (2312, 8, 6), (2504, 8, 7), (2696, 8, 8), (713, 9, 0), (1097, 10, 3), (1353, 10, 2), (714, 10, 2), (779, 11, 0), (1291, 11, 1), (2443, 11, 2), (780, 12, 0), (1548, 12, 1), (1740, 12, 2), (717, 13, 0), (1101, 13, 1), (1357, 13, 2), (462, 14, 0), (846, 14, 1), (463, 8, 2), (464, 8, 1), (465, 17, 2), (849, 8, 1), (1233, 14, 0), (594, 18, 0), (1554, 8, 5), (467, 19, 1), (851, 19, 2), (1043, 8, 4), (468, 20, 1), (1108, 8, 2), (1428, 18, 0), (725, 18, 0), (1493, 8, 5), (2261, 8, 6), (2453, 8, 7), (470, 18, 0), (1238, 8, 5), (1622, 8, 1), (2582, 8, 6), (2774, 8, 7), (983, 18, 0), (1751, 8, 5), (2711, 8, 8), (88, 24, 1), (472, 24, 0), (728, 24, 4), (1176, 24, 3), (1368, 24, 6), (1560, 24, 7), (1816, 24, 5), (6360, 24, 2), (6552, 24, 9), (6744, 24, 8), (6936, 24, 11), (7128, 24, 10), (7960, 24, 16), (8216, 24, 15), (8408, 24, 17), (8600, 24, 18), (8792, 24, 19), (9048, 24, 20), (10648, 24, 12), (10840, 24, 14), (11032, 24, 13), (12120, 24, 21), (12632, 24, 22), (12824, 24, 23), (13016, 24, 24), (13208, 24, 25), (13400, 24, 26), (13592, 24, 27), (13784, 24, 28), (13976, 24, 29), (14168, 24, 30), (14360, 24, 38), (14552, 24, 39), (14744, 24, 40), (14936, 24, 43), (15128, 24, 44), (15320, 24, 45), (15512, 24, 47), (16920, 24, 31), (17112, 24, 32), (19352, 24, 36), (19544, 24, 37), (19800, 24, 34), (19992, 24, 35), (20184, 24, 33), (22296, 24, 41), (26136, 24, 42), (26968, 24, 46), (601, 25, 1), (3097, 25, 2), (4057, 25, 0), (602, 26, 0), (986, 26, 1), (482, 25, 0)]
/-- class links -/
def clT : List (Nat × Nat) := [(448, 3), (1728, 1), (2176, 9), (2560, 6), (2944, 5), (4096, 7), (7424, 2), (577, 2), (1153, 26), (4225, 41), (4609, 19), (10049, 9), (11073, 10), (12609, 11), (14273, 12), (15297, 13), (16001, 14), (16321, 15), (16513, 16), (16705, 17), (18049, 18), (18497, 20), (18689, 21), (18881, 22), (19073, 23), (581, 6), (2053, 43), (582, 9), (583, 8), (9735, 4), (584, 4), (585, 10), (586, 11), (587, 25), (1163, 18), (2059, 12), (589, 14), (466, 13), (473, 40), (475, 0), (667, 24), (158, 40), (7070, 44)]
/-- constants -/
def csT : List (Nat × Vl) := [(1281, vR (5 + 0)), (1409, vR (5 + 1)), (1537, vR (5 + 2)), (1665, vR (5 + 3)), (1793, vR (5 + 4)), (1921, vR (5 + 5)), (2049, vR (5 + 6)), (2177, vR (5 + 7)), (2305, vR (5 + 8)), (2433, vR (5 + 9)), (2561, vR (5 + 10)), (2689, vR (5 + 11)), (2817, vR (5 + 12)), (2945, vR (5 + 13)), (3073, vR (5 + 14)), (3201, vR (5 + 15)), (3329, vR (5 + 16)), (3457, vR (5 + 17)), (3585, vR (5 + 18)), (3713, vR (5 + 19)), (3841, vR (5 + 20)), (3096, vL (27)), (3224, vL (96)), (3544, vL (10492313)), (3672, vL (458690)), (3800, vL (1111)), (3928, vL (204)), (4056, vL (14006)), (4184, vL (267413)), (4312, vL (555)), (4440, vL (223166)), (4568, vL (388609)), (4696, vL (5)), (4824, vL (6943155)), (4952, vL (6943156)), (5080, vL (129192)), (5208, vL (129193)), (5336, vL (1091661)), (5464, vL (1091662)), (5592, vL (10176)), (5720, vL (10177)), (5848, vL (161437)), (5976, vL (400313)), (6104, vL (239872)), (6232, vL (279252)), (11608, vL (255)), (859, vL (4294967295)), (7070, vR 3), (12831, vI (2147483639)), (16993, vI (1431655765)), (17057, vI (858993459)), (17121, vI (252645135))]
/-- statics -/
def sgT : List (Nat × Vl) := [(2521, vR 2), (2458, vI 1), (67418, vR 4)]
/-- method links: (kind, number, parameters) -/
def mlT : List (Nat × Nat × Nat × Nat) := [(64, 5, 0, 0), (1856, 1, 36, 0), (3072, 1, 62, 0), (4224, 1, 77, 0), (5312, 1, 60, 1), (5504, 1, 75, 0), (5568, 3, 2, 1), (6016, 0, 3, 3), (6272, 3, 1, 2), (6720, 3, 3, 1), (7168, 3, 5, 2), (7744, 0, 10, 1), (10560, 3, 41, 1), (10816, 3, 40, 3), (11328, 3, 51, 0), (11520, 3, 52, 2), (14016, 10, 0, 2), (14400, 3, 95, 0), (14784, 0, 23, 1), (14976, 3, 97, 1), (15232, 3, 100, 3), (15488, 0, 26, 2), (15744, 0, 237, 1), (16320, 3, 102, 3), (16576, 3, 105, 2), (193, 5, 0, 0), (705, 1, 58, 0), (5633, 3, 12, 0), (6017, 3, 14, 1), (6273, 3, 11, 1), (6721, 3, 7, 0), (6977, 3, 8, 1), (7233, 3, 10, 0), (7617, 3, 16, 0), (7809, 10, 0, 2), (8193, 3, 9, 1), (8385, 3, 17, 1), (8641, 3, 6, 0), (8833, 3, 21, 1), (9025, 7, 0, 5), (9601, 0, 47, 2), (10177, 1, 94, 0), (10689, 3, 18, 0), (10881, 3, 34, 1), (11201, 1, 96, 0), (11457, 3, 19, 0), (11777, 3, 20, 1), (12353, 3, 22, 0), (12737, 1, 97, 0), (13057, 3, 23, 0), (13313, 3, 27, 1), (14017, 3, 31, 0), (14401, 1, 99, 0), (14465, 3, 24, 0), (15425, 1, 101, 0), (15489, 3, 25, 2), (15809, 3, 26, 0), (16129, 1, 103, 2), (16449, 1, 106, 2), (16641, 1, 108, 2), (16833, 1, 110, 3), (17473, 1, 116, 1), (17729, 3, 32, 1), (17985, 3, 33, 0), (18625, 1, 118, 1), (18817, 1, 121, 0), (19009, 1, 124, 0), (19201, 1, 126, 0), (19265, 1, 112, 0), (66, 6, 0, 0), (67, 6, 0, 0), (68, 6, 0, 0), (197, 5, 0, 0), (709, 1, 75, 0), (4357, 3, 42, 1), (4613, 7, 0, 5), (8133, 11, 0, 1), (8517, 9, 0, 2), (8773, 3, 47, 3), (9029, 0, 69, 4), (9285, 3, 46, 3), (9605, 3, 43, 1), (9797, 3, 44, 1), (9989, 3, 45, 3), (10245, 3, 48, 1), (10501, 3, 49, 0), (198, 5, 0, 0), (1542, 7, 0, 5), (199, 5, 0, 0), (711, 1, 91, 0), (2631, 3, 68, 1), (3079, 3, 69, 1), (3783, 3, 70, 1), (3975, 0, 69, 4), (5255, 3, 53, 0), (5447, 3, 54, 0), (5639, 3, 78, 1), (5895, 3, 82, 0), (6151, 3, 83, 1), (6471, 3, 90, 1), (7623, 10, 0, 2), (8007, 3, 55, 1), (9159, 3, 56, 3), (9415, 3, 57, 2), (11463, 3, 79, 3), (11719, 3, 80, 3), (12359, 3, 81, 1), (13703, 3, 84, 0), (13895, 3, 85, 1), (14087, 3, 86, 1), (14279, 3, 87, 1), (14471, 3, 88, 1), (14663, 3, 89, 3), (200, 5, 0, 0), (712, 1, 61, 0), (201, 5, 0, 0), (1609, 3, 58, 1), (202, 5, 0, 0), (203, 5, 0, 0), (715, 1, 216, 0), (1547, 3, 59, 0), (1803, 3, 60, 1), (2187, 3, 62, 1), (2699, 3, 71, 1), (76, 5, 0, 0), (460, 3, 63, 0), (1164, 3, 64, 1), (205, 5, 0, 0), (1613, 3, 65, 1), (78, 5, 0, 0), (1102, 3, 66, 0), (1422, 3, 67, 1), (79, 1, 103, 2), (847, 2, 105, 1), (80, 1, 103, 2), (848, 2, 105, 1), (1104, 4, 84, 1), (81, 1, 108, 2), (1425, 4, 81, 2), (82, 5, 0, 0), (978, 3, 72, 0), (1298, 3, 73, 1), (83, 1, 112, 0), (84, 1, 112, 0), (852, 2, 113, 0), (1684, 3, 76, 1), (85, 1, 112, 0), (469, 2, 113, 0), (1109, 3, 74, 1), (1877, 0, 236, 1), (86, 1, 121, 0), (854, 3, 77, 1), (1878, 4, 84, 1), (2262, 0, 236, 1), (87, 1, 121, 0), (471, 2, 122, 0), (727, 2, 123, 1), (1367, 3, 75, 1), (2135, 10, 0, 2), (2519, 9, 0, 2), (920, 3, 114, 1), (2008, 0, 134, 1), (2264, 3, 115, 0), (2520, 0, 137, 1), (2712, 3, 117, 0), (2904, 0, 139, 1), (3352, 3, 116, 0), (7320, 3, 113, 0), (7512, 3, 120, 0), (7768, 3, 119, 0), (9240, 3, 127, 0), (9432, 3, 126, 0), (9624, 3, 125, 0), (9816, 3, 121, 1), (10072, 3, 122, 1), (10264, 3, 124, 0), (10456, 3, 128, 0), (11224, 3, 123, 0), (11416, 3, 111, 1), (11736, 3, 118, 0), (11928, 3, 129, 0), (12312, 5, 0, 0), (15704, 0, 156, 3), (15960, 0, 155, 1), (16152, 3, 139, 2), (16408, 11, 0, 1), (16728, 9, 0, 2), (17304, 3, 141, 3), (17560, 0, 167, 4), (17816, 3, 140, 3), (18072, 3, 137, 3), (18264, 3, 143, 0), (18456, 3, 138, 1), (18712, 3, 142, 0), (18904, 3, 136, 1), (19096, 3, 135, 2), (20376, 3, 158, 1), (20568, 3, 159, 1), (20760, 3, 153, 0), (20952, 3, 151, 0), (21144, 3, 157, 1), (21336, 3, 160, 2), (21528, 3, 156, 0), (21720, 3, 155, 0), (21912, 3, 154, 0), (22104, 0, 176, 1), (22488, 3, 149, 4), (22744, 3, 152, 0), (22936, 3, 161, 0), (23128, 3, 148, 1), (23320, 3, 150, 0), (23512, 3, 163, 1), (23704, 3, 166, 1), (23896, 3, 167, 0), (24088, 3, 168, 1), (24280, 3, 169, 1), (24472, 3, 147, 1), (24664, 3, 162, 1), (24856, 3, 164, 0), (25048, 3, 165, 1), (25240, 3, 145, 0), (25432, 3, 146, 0), (25624, 0, 198, 3), (25880, 0, 205, 4), (26328, 3, 178, 3), (26520, 3, 180, 1), (26712, 3, 182, 2), (89, 1, 238, 0), (4249, 0, 231, 2), (4441, 3, 30, 1), (4697, 0, 233, 3), (5081, 9, 0, 2), (7577, 0, 235, 2), (7897, 3, 61, 1), (8281, 3, 29, 0), (8409, 3, 28, 3), (21466, 3, 13, 0), (31514, 3, 15, 0), (31706, 0, 229, 2), (67802, 0, 230, 3), (603, 1, 1, 0), (795, 1, 153, 0), (987, 3, 0, 2), (1243, 3, 110, 2), (1307, 3, 4, 0), (1563, 3, 112, 0), (1627, 3, 35, 0), (1819, 3, 130, 0), (1883, 3, 36, 3), (2139, 3, 131, 3), (2203, 3, 37, 4), (2459, 3, 132, 4), (2523, 3, 38, 3), (2715, 3, 133, 3), (2779, 3, 39, 2), (3035, 3, 134, 2), (3099, 3, 50, 1), (3355, 3, 144, 1), (3419, 3, 91, 1), (3611, 3, 170, 1), (3675, 3, 92, 2), (3867, 3, 171, 2), (3931, 3, 93, 1), (4123, 3, 172, 1), (4187, 3, 94, 1), (4379, 3, 173, 1), (4443, 3, 96, 1), (4635, 3, 174, 1), (4699, 3, 98, 1), (4891, 3, 175, 1), (4955, 3, 99, 1), (5147, 3, 176, 1), (5211, 3, 101, 2), (5403, 3, 177, 2), (5467, 3, 103, 2), (5659, 3, 179, 2), (5723, 3, 104, 1), (5915, 3, 181, 1), (5979, 3, 106, 1), (6171, 3, 183, 1), (6235, 3, 107, 0), (6427, 3, 184, 0), (6491, 3, 108, 1), (6683, 3, 185, 1), (6747, 3, 109, 1), (6939, 3, 186, 1), (604, 0, 228, 2), (5534, 8, 0, 0), (9630, 7, 0, 5), (19230, 0, 232, 3), (19486, 10, 0, 2), (12447, 9, 0, 2), (12895, 0, 234, 2), (6752, 0, 230, 3), (98, 1, 239, 0), (99, 5, 0, 0)]
/-- element classes of arrays that can be made -/
def aoC : List Nat := [3, 5, 6, 9, 10, 11, 13, 14, 18, 19, 26, 40, 41, 42]
/-- which method an object of a class runs -/
def vsT : List (List (Nat × Nat)) := [[(0, 2)], [(0, 4)], [(0, 5)], [(0, 6)], [(0, 7)], [(1, 37)], [(1, 38)], [(1, 39)], [(1, 40)], [(2, 59)], [(1, 41)], [(1, 42)], [(26, 224)], [(26, 225)], [(26, 226)], [(26, 227)], [(1, 43)], [(1, 44)], [(1, 45)], [(1, 46)], [(1, 48)], [(1, 49)], [(1, 50)], [(1, 51)], [(1, 52)], [(1, 53)], [(1, 54)], [(25, 217)], [(25, 218)], [(25, 219)], [(25, 220)], [(1, 55)], [(1, 56)], [(18, 113), (19, 113), (20, 119), (21, 122), (22, 122), (23, 127)], [(1, 57)], [(0, 8)], [(0, 9)], [(0, 11)], [(0, 12)], [(0, 13)], [(0, 14)], [(5, 63)], [(6, 76)], [(5, 64)], [(5, 65)], [(5, 66)], [(5, 67)], [(5, 68)], [(5, 70)], [(5, 71)], [(0, 15)], [(0, 16)], [(7, 78)], [(7, 79)], [(7, 80)], [(5, 70)], [(8, 92)], [(9, 95)], [(11, 98)], [(25, 221)], [(25, 222)], [(25, 223)], [(12, 100)], [(8, 93)], [(13, 102)], [(14, 104), (15, 104), (16, 104), (17, 104)], [(8, 93)], [(14, 105), (15, 107), (16, 109), (17, 111)], [(7, 82)], [(7, 83)], [(5, 72)], [(18, 114), (19, 114), (20, 114), (21, 114), (22, 114), (23, 114)], [(8, 93)], [(18, 115), (19, 117), (20, 120), (21, 123), (22, 125), (23, 128)], [(13, 102)], [(13, 102)], [(13, 102)], [(13, 102)], [(7, 85)], [(7, 86)], [(5, 68)], [(5, 73)], [(7, 87)], [(7, 88)], [(5, 71)], [(7, 89)], [(7, 90)], [(5, 64)], [(5, 65)], [(5, 66)], [(5, 63)], [(0, 17)], [(0, 18)], [(0, 19)], [(0, 20)], [(0, 21)], [(0, 22)], [(5, 74)], [(0, 24)], [(0, 25)], [(5, 68)], [(0, 27)], [(0, 28)], [(0, 29)], [(0, 30)], [(0, 31)], [(0, 32)], [(0, 33)], [(0, 34)], [(0, 35)], [(24, 129)], [(24, 130)], [(24, 131)], [(24, 132)], [(24, 133)], [(24, 135)], [(24, 136)], [(24, 138)], [(24, 140)], [(24, 141)], [(24, 142)], [(24, 143)], [(24, 144)], [(24, 145)], [(24, 146)], [(24, 147)], [(24, 148)], [(24, 149)], [(24, 150)], [(24, 151)], [(24, 152)], [(24, 154)], [(24, 157)], [(24, 158)], [(24, 159)], [(24, 160)], [(24, 161)], [(24, 162)], [(24, 163)], [(24, 164)], [(24, 165)], [(24, 166)], [(24, 168)], [(24, 169)], [(24, 170)], [(24, 171)], [(24, 172)], [(24, 173)], [(24, 174)], [(24, 175)], [(24, 177)], [(24, 178)], [(24, 179)], [(24, 180)], [(24, 181)], [(24, 182)], [(24, 183)], [(24, 184)], [(24, 185)], [(24, 186)], [(24, 187)], [(24, 188)], [(24, 189)], [(24, 190)], [(24, 191)], [(24, 192)], [(24, 193)], [(24, 194)], [(24, 195)], [(24, 196)], [(24, 197)], [(24, 199)], [(24, 200)], [(24, 201)], [(24, 202)], [(24, 203)], [(24, 204)], [(24, 206)], [(24, 207)], [(24, 208)], [(24, 209)], [(24, 210)], [(24, 211)], [(24, 212)], [(24, 213)], [(24, 214)], [(24, 215)]]
/-- methods: name, code, locals, answer, handlers, class, frames, words -/
abbrev Mt : Type := MethodName × ByteArray × Nat × Option FieldType × List (Nat × Nat × Nat × Nat) × Nat × Nat × Nat
def mt0 : Mt := (⟨"ToyPitchLaw", "law", "([I)Z"⟩, code, 4, (some FieldType.boolean), [], 27, 17, 656)
def mt1 : Mt := (⟨"ToyPitch", "<init>", "()V"⟩, prog_1_method_1_code, 2, (none : Option FieldType), [], 0, 10, 161)
def mt2 : Mt := (⟨"ToyPitch", "feed", "(JI)I"⟩, prog_1_method_7_code, 5, (some FieldType.int), [(0, 88, 89, 7)], 0, 2, 43)
def mt3 : Mt := (⟨"ToyPitch", "isIn", "(III)Z"⟩, prog_1_method_5_code, 3, (some FieldType.boolean), [], 0, 0, 0)
def mt4 : Mt := (⟨"ToyPitch", "need", "(ZI)V"⟩, prog_1_method_3_code, 3, (none : Option FieldType), [], 0, 1, 21)
def mt5 : Mt := (⟨"ToyPitch", "finding", "(I)LToyPitch$Finding;"⟩, prog_1_method_2_code, 2, (some (FieldType.object "ToyPitch$Finding")), [], 0, 0, 0)
def mt6 : Mt := (⟨"ToyPitch", "finds", "(LToyPitch$Finding;)I"⟩, prog_1_method_4_code, 2, (some FieldType.int), [], 0, 0, 0)
def mt7 : Mt := (⟨"ToyPitch", "read", "()I"⟩, prog_1_method_8_code, 3, (some FieldType.int), [(36, 57, 60, 116), (0, 93, 94, 7)], 0, 13, 285)
def mt8 : Mt := (⟨"ToyPitch", "fault", "()I"⟩, prog_1_method_9_code, 1, (some FieldType.int), [], 0, 0, 0)
def mt9 : Mt := (⟨"ToyPitch", "program", "(III)I"⟩, prog_1_method_10_code, 5, (some FieldType.int), [(0, 68, 69, 7)], 0, 2, 43)
def mt10 : Mt := (⟨"ToyPitch", "isTeam", "(I)Z"⟩, prog_1_method_6_code, 1, (some FieldType.boolean), [], 0, 1, 22)
def mt11 : Mt := (⟨"ToyPitch", "start", "(IIII)I"⟩, prog_1_method_11_code, 6, (some FieldType.int), [(0, 75, 76, 7)], 0, 2, 43)
def mt12 : Mt := (⟨"ToyPitch", "views", "(III)I"⟩, prog_1_method_12_code, 5, (some FieldType.int), [(0, 63, 64, 7)], 0, 2, 43)
def mt13 : Mt := (⟨"ToyPitch", "begin", "(II)I"⟩, prog_1_method_14_code, 4, (some FieldType.int), [(0, 42, 43, 7)], 0, 6, 141)
def mt14 : Mt := (⟨"ToyPitch", "begin", "(LToyPitch$Match;II)V"⟩, prog_1_method_13_code, 5, (none : Option FieldType), [], 0, 5, 117)
def mt15 : Mt := (⟨"ToyPitch", "tick", "(I)I"⟩, prog_1_method_16_code, 4, (some FieldType.int), [(0, 50, 51, 7)], 0, 13, 291)
def mt16 : Mt := (⟨"ToyPitch", "on", "()V"⟩, prog_1_method_15_code, 1, (none : Option FieldType), [], 0, 2, 43)
def mt17 : Mt := (⟨"ToyPitch", "ball", "(I)I"⟩, prog_1_method_17_code, 3, (some FieldType.int), [(0, 79, 152, 7), (80, 87, 152, 7), (88, 95, 152, 7), (96, 111, 152, 7), (112, 127, 152, 7), (128, 143, 152, 7), (144, 152, 152, 7)], 0, 3, 63)
def mt18 : Mt := (⟨"ToyPitch", "robot", "(II)I"⟩, prog_1_method_18_code, 4, (some FieldType.int), [(0, 105, 188, 7), (106, 115, 188, 7), (116, 125, 188, 7), (126, 143, 188, 7), (144, 153, 188, 7), (154, 163, 188, 7), (164, 173, 188, 7), (174, 187, 188, 7)], 0, 3, 63)
def mt19 : Mt := (⟨"ToyPitch", "score", "(I)I"⟩, prog_1_method_19_code, 3, (some FieldType.int), [(0, 75, 124, 7), (76, 85, 124, 7), (86, 95, 124, 7), (96, 103, 124, 7), (104, 111, 124, 7), (112, 123, 124, 7)], 0, 3, 63)
def mt20 : Mt := (⟨"ToyPitch", "goal", "(I)I"⟩, prog_1_method_21_code, 3, (some FieldType.int), [(0, 31, 32, 7)], 0, 3, 63)
def mt21 : Mt := (⟨"ToyPitch", "fallen", "()I"⟩, prog_1_method_20_code, 1, (some FieldType.int), [], 0, 1, 21)
def mt22 : Mt := (⟨"ToyPitch", "keep", "(I)I"⟩, prog_1_method_23_code, 3, (some FieldType.int), [(0, 36, 37, 7)], 0, 4, 111)
def mt23 : Mt := (⟨"ToyPitch", "isPlace", "(I)Z"⟩, prog_1_method_22_code, 1, (some FieldType.boolean), [], 0, 1, 22)
def mt24 : Mt := (⟨"ToyPitch", "back", "(I)I"⟩, prog_1_method_24_code, 3, (some FieldType.int), [(0, 49, 50, 7)], 0, 4, 111)
def mt25 : Mt := (⟨"ToyPitch", "differ", "(I)I"⟩, prog_1_method_26_code, 4, (some FieldType.int), [(0, 75, 114, 7), (76, 113, 114, 7)], 0, 3, 63)
def mt26 : Mt := (⟨"ToyPitch", "isAlike", "(LToyPitch$Match;LToyPitch$Match;)Z"⟩, prog_1_method_25_code, 6, (some FieldType.boolean), [], 0, 0, 0)
def mt27 : Mt := (⟨"ToyPitch", "league", "(II)I"⟩, prog_1_method_28_code, 8, (some FieldType.int), [(0, 227, 228, 7)], 0, 13, 291)
def mt28 : Mt := (⟨"ToyPitch", "count", "(III)V"⟩, prog_1_method_27_code, 4, (none : Option FieldType), [], 0, 0, 0)
def mt29 : Mt := (⟨"ToyPitch", "table", "(II)I"⟩, prog_1_method_29_code, 4, (some FieldType.int), [(0, 85, 86, 7)], 0, 2, 43)
def mt30 : Mt := (⟨"ToyPitch", "order", "(I)I"⟩, prog_1_method_31_code, 5, (some FieldType.int), [(0, 97, 112, 7), (98, 112, 112, 7)], 0, 2, 43)
def mt31 : Mt := (⟨"ToyPitch", "isAhead", "(II)Z"⟩, prog_1_method_30_code, 5, (some FieldType.boolean), [], 0, 0, 0)
def mt32 : Mt := (⟨"ToyPitch", "tell", "(I)I"⟩, prog_1_method_32_code, 3, (some FieldType.int), [(0, 45, 46, 7)], 0, 2, 43)
def mt33 : Mt := (⟨"ToyPitch", "check", "()I"⟩, prog_1_method_33_code, 3, (some FieldType.int), [(10, 50, 72, 7), (51, 71, 72, 7)], 0, 3, 63)
def mt34 : Mt := (⟨"ToyPitch", "count", "(I)I"⟩, prog_1_method_34_code, 3, (some FieldType.int), [(0, 40, 93, 7), (41, 45, 93, 7), (46, 66, 93, 7), (67, 71, 93, 7), (72, 84, 93, 7), (85, 93, 93, 7)], 0, 1, 21)
def mt35 : Mt := (⟨"ToyPitch", "found", "(I)I"⟩, prog_1_method_35_code, 3, (some FieldType.int), [(0, 36, 37, 7)], 0, 2, 43)
def mt36 : Mt := (⟨"ToyPitch$Reader", "<init>", "()V"⟩, prog_14_method_1_code, 1, (none : Option FieldType), [], 1, 8, 121)
def mt37 : Mt := (⟨"ToyPitch$Reader", "read", "([BI)LToyPitch$Program;"⟩, prog_14_method_14_code, 4, (some (FieldType.object "ToyPitch$Program")), [], 1, 12, 262)
def mt38 : Mt := (⟨"ToyPitch$Reader", "next", "()V"⟩, prog_14_method_6_code, 2, (none : Option FieldType), [], 1, 6, 128)
def mt39 : Mt := (⟨"ToyPitch$Reader", "isLetter", "()Z"⟩, prog_14_method_2_code, 1, (some FieldType.boolean), [], 1, 0, 0)
def mt40 : Mt := (⟨"ToyPitch$Reader", "need", "(Z)V"⟩, prog_14_method_7_code, 2, (none : Option FieldType), [], 1, 1, 21)
def mt41 : Mt := (⟨"ToyPitch$Reader", "key", "()I"⟩, prog_14_method_5_code, 2, (some FieldType.int), [], 1, 5, 107)
def mt42 : Mt := (⟨"ToyPitch$Reader", "reads", "(Ljava/lang/String;)Z"⟩, prog_14_method_4_code, 3, (some FieldType.boolean), [], 1, 4, 85)
def mt43 : Mt := (⟨"ToyPitch$Reader", "isFigure", "()Z"⟩, prog_14_method_3_code, 1, (some FieldType.boolean), [], 1, 0, 0)
def mt44 : Mt := (⟨"ToyPitch$Reader", "isKey", "(I)Z"⟩, prog_14_method_8_code, 2, (some FieldType.boolean), [], 1, 0, 0)
def mt45 : Mt := (⟨"ToyPitch$Reader", "state", "()LToyPitch$State;"⟩, prog_14_method_15_code, 2, (some (FieldType.object "ToyPitch$State")), [], 1, 11, 241)
def mt46 : Mt := (⟨"ToyPitch$Reader", "name", "()I"⟩, prog_14_method_12_code, 3, (some FieldType.int), [], 1, 7, 149)
def mt47 : Mt := (⟨"ToyPitch$Reader", "isSame", "([B[B)Z"⟩, prog_14_method_13_code, 4, (some FieldType.boolean), [], 1, 0, 0)
def mt48 : Mt := (⟨"ToyPitch$Reader", "sign", "(I)V"⟩, prog_14_method_11_code, 2, (none : Option FieldType), [], 1, 7, 149)
def mt49 : Mt := (⟨"ToyPitch$Reader", "isSign", "(I)Z"⟩, prog_14_method_9_code, 2, (some FieldType.boolean), [], 1, 0, 0)
def mt50 : Mt := (⟨"ToyPitch$Reader", "rule", "()LToyPitch$Rule;"⟩, prog_14_method_16_code, 2, (some (FieldType.object "ToyPitch$Rule")), [], 1, 10, 220)
def mt51 : Mt := (⟨"ToyPitch$Reader", "test", "()LToyPitch$Test;"⟩, prog_14_method_17_code, 2, (some (FieldType.object "ToyPitch$Test")), [], 1, 9, 197)
def mt52 : Mt := (⟨"ToyPitch$Reader", "sum", "()LToyPitch$Sum;"⟩, prog_14_method_18_code, 3, (some (FieldType.object "ToyPitch$Sum")), [], 1, 8, 175)
def mt53 : Mt := (⟨"ToyPitch$Reader", "term", "(LToyPitch$Sum;I)V"⟩, prog_14_method_19_code, 7, (none : Option FieldType), [], 1, 7, 149)
def mt54 : Mt := (⟨"ToyPitch$Reader", "begins", "()Z"⟩, prog_14_method_20_code, 1, (some FieldType.boolean), [], 1, 1, 21)
def mt55 : Mt := (⟨"ToyPitch$Reader", "act", "()LToyPitch$Act;"⟩, prog_14_method_21_code, 4, (some (FieldType.object "ToyPitch$Act")), [], 1, 9, 197)
def mt56 : Mt := (⟨"ToyPitch$Reader", "bare", "(I)LToyPitch$Act;"⟩, prog_14_method_22_code, 3, (some (FieldType.object "ToyPitch$Act")), [], 1, 7, 149)
def mt57 : Mt := (⟨"ToyPitch$Reader", "names", "(LToyPitch$Program;)V"⟩, prog_14_method_23_code, 6, (none : Option FieldType), [], 1, 1, 21)
def mt58 : Mt := (⟨"ToyPitch$Fault", "<init>", "()V"⟩, prog_3_method_1_code, 1, (none : Option FieldType), [], 2, 7, 101)
def mt59 : Mt := (⟨"ToyPitch$Fault", "at", "(I)LToyPitch$Fault;"⟩, prog_3_method_2_code, 2, (some (FieldType.object "ToyPitch$Fault")), [], 2, 0, 0)
def mt60 : Mt := (⟨"ToyPitch$Finding", "<init>", "(I)V"⟩, prog_4_method_1_code, 2, (none : Option FieldType), [], 3, 7, 101)
def mt61 : Mt := (⟨"ToyPitch$Overrun", "<init>", "()V"⟩, prog_11_method_1_code, 1, (none : Option FieldType), [], 4, 7, 101)
def mt62 : Mt := (⟨"ToyPitch$Match", "<init>", "()V"⟩, prog_8_method_1_code, 1, (none : Option FieldType), [], 5, 2, 40)
def mt63 : Mt := (⟨"ToyPitch$Match", "kickOff", "([LToyPitch$Team;)V"⟩, prog_8_method_11_code, 4, (none : Option FieldType), [], 5, 4, 94)
def mt64 : Mt := (⟨"ToyPitch$Match", "startX", "(I)I"⟩, prog_8_method_8_code, 3, (some FieldType.int), [], 5, 0, 0)
def mt65 : Mt := (⟨"ToyPitch$Match", "startY", "(I)I"⟩, prog_8_method_9_code, 3, (some FieldType.int), [], 5, 0, 0)
def mt66 : Mt := (⟨"ToyPitch$Match", "put", "(III)V"⟩, prog_8_method_7_code, 5, (none : Option FieldType), [], 5, 3, 70)
def mt67 : Mt := (⟨"ToyPitch$Match", "free", "(III)I"⟩, prog_8_method_6_code, 7, (some FieldType.int), [], 5, 2, 44)
def mt68 : Mt := (⟨"ToyPitch$Match", "at", "(III)I"⟩, prog_8_method_4_code, 5, (some FieldType.int), [], 5, 0, 0)
def mt69 : Mt := (⟨"ToyPitch$Match", "distance", "(IIII)I"⟩, prog_8_method_5_code, 4, (some FieldType.int), [], 5, 1, 21)
def mt70 : Mt := (⟨"ToyPitch$Match", "program", "(I)LToyPitch$Program;"⟩, prog_8_method_3_code, 2, (some (FieldType.object "ToyPitch$Program")), [], 5, 0, 0)
def mt71 : Mt := (⟨"ToyPitch$Match", "putBall", "()V"⟩, prog_8_method_10_code, 2, (none : Option FieldType), [], 5, 3, 70)
def mt72 : Mt := (⟨"ToyPitch$Match", "goalsOf", "(I)I"⟩, prog_8_method_13_code, 2, (some FieldType.int), [], 5, 0, 0)
def mt73 : Mt := (⟨"ToyPitch$Match", "hold", "(I)V"⟩, prog_8_method_12_code, 2, (none : Option FieldType), [], 5, 0, 0)
def mt74 : Mt := (⟨"ToyPitch$Match", "be", "(LToyPitch$Match;)V"⟩, prog_8_method_2_code, 3, (none : Option FieldType), [], 5, 3, 89)
def mt75 : Mt := (⟨"ToyPitch$Team", "<init>", "()V"⟩, prog_21_method_1_code, 1, (none : Option FieldType), [], 6, 1, 20)
def mt76 : Mt := (⟨"ToyPitch$Team", "be", "(LToyPitch$Team;)V"⟩, prog_21_method_2_code, 2, (none : Option FieldType), [], 6, 2, 68)
def mt77 : Mt := (⟨"ToyPitch$Ticker", "<init>", "()V"⟩, prog_24_method_1_code, 1, (none : Option FieldType), [], 7, 9, 141)
def mt78 : Mt := (⟨"ToyPitch$Ticker", "tick", "(LToyPitch$Match;[LToyPitch$Team;)I"⟩, prog_24_method_6_code, 4, (some FieldType.int), [], 7, 12, 268)
def mt79 : Mt := (⟨"ToyPitch$Ticker", "see", "()V"⟩, prog_24_method_7_code, 3, (none : Option FieldType), [], 7, 1, 21)
def mt80 : Mt := (⟨"ToyPitch$Ticker", "think", "()V"⟩, prog_24_method_8_code, 3, (none : Option FieldType), [(97, 117, 120, 152)], 7, 11, 246)
def mt81 : Mt := (⟨"ToyPitch$Ticker", "other", "(II)I"⟩, prog_24_method_5_code, 4, (some FieldType.int), [], 7, 1, 21)
def mt82 : Mt := (⟨"ToyPitch$Ticker", "column", "(I)I"⟩, prog_24_method_2_code, 2, (some FieldType.int), [], 7, 0, 0)
def mt83 : Mt := (⟨"ToyPitch$Ticker", "row", "(I)I"⟩, prog_24_method_3_code, 2, (some FieldType.int), [], 7, 0, 0)
def mt84 : Mt := (⟨"ToyPitch$Ticker", "sensor", "(I)I"⟩, prog_24_method_4_code, 2, (some FieldType.int), [], 7, 2, 44)
def mt85 : Mt := (⟨"ToyPitch$Ticker", "act", "(I)V"⟩, prog_24_method_9_code, 2, (none : Option FieldType), [], 7, 2, 48)
def mt86 : Mt := (⟨"ToyPitch$Ticker", "move", "(III)V"⟩, prog_24_method_10_code, 5, (none : Option FieldType), [], 7, 1, 24)
def mt87 : Mt := (⟨"ToyPitch$Ticker", "rolls", "()I"⟩, prog_24_method_11_code, 7, (some FieldType.int), [], 7, 1, 24)
def mt88 : Mt := (⟨"ToyPitch$Ticker", "laws", "(I)I"⟩, prog_24_method_12_code, 5, (some FieldType.int), [], 7, 4, 94)
def mt89 : Mt := (⟨"ToyPitch$Ticker", "nearest", "(I)I"⟩, prog_24_method_13_code, 4, (some FieldType.int), [], 7, 2, 44)
def mt90 : Mt := (⟨"ToyPitch$Ticker", "crowd", "(I)I"⟩, prog_24_method_14_code, 5, (some FieldType.int), [], 7, 0, 0)
def mt91 : Mt := (⟨"ToyPitch$Run", "<init>", "()V"⟩, prog_16_method_1_code, 1, (none : Option FieldType), [], 8, 8, 121)
def mt92 : Mt := (⟨"ToyPitch$Run", "begin", "(LToyPitch$Knows;[II)V"⟩, prog_16_method_2_code, 4, (none : Option FieldType), [], 8, 0, 0)
def mt93 : Mt := (⟨"ToyPitch$Run", "step", "()V"⟩, prog_16_method_3_code, 1, (none : Option FieldType), [], 8, 0, 0)
def mt94 : Mt := (⟨"ToyPitch$Program", "<init>", "()V"⟩, prog_13_method_1_code, 1, (none : Option FieldType), [], 9, 1, 20)
def mt95 : Mt := (⟨"ToyPitch$Program", "run", "(LToyPitch$Run;I)V"⟩, prog_13_method_2_code, 5, (none : Option FieldType), [], 9, 10, 222)
def mt96 : Mt := (⟨"ToyPitch$State", "<init>", "()V"⟩, prog_19_method_1_code, 1, (none : Option FieldType), [], 10, 1, 20)
def mt97 : Mt := (⟨"ToyPitch$Rule", "<init>", "()V"⟩, prog_15_method_1_code, 1, (none : Option FieldType), [], 11, 4, 80)
def mt98 : Mt := (⟨"ToyPitch$Rule", "run", "(LToyPitch$Run;)Z"⟩, prog_15_method_2_code, 3, (some FieldType.boolean), [], 11, 9, 200)
def mt99 : Mt := (⟨"ToyPitch$Test", "<init>", "()V"⟩, prog_23_method_1_code, 1, (none : Option FieldType), [], 12, 1, 20)
def mt100 : Mt := (⟨"ToyPitch$Test", "holds", "(LToyPitch$Run;)Z"⟩, prog_23_method_2_code, 4, (some FieldType.boolean), [], 12, 6, 133)
def mt101 : Mt := (⟨"ToyPitch$Sum", "<init>", "()V"⟩, prog_20_method_1_code, 1, (none : Option FieldType), [], 13, 1, 20)
def mt102 : Mt := (⟨"ToyPitch$Sum", "work", "(LToyPitch$Run;)I"⟩, prog_20_method_2_code, 6, (some FieldType.int), [], 13, 5, 108)
def mt103 : Mt := (⟨"ToyPitch$Term", "<init>", "(IZ)V"⟩, prog_22_method_1_code, 3, (none : Option FieldType), [], 14, 1, 20)
def mt104 : Mt := (⟨"ToyPitch$Term", "work", "(LToyPitch$Run;)I"⟩, prog_22_method_3_code, 3, (some FieldType.int), [], 14, 4, 86)
def mt105 : Mt := (⟨"ToyPitch$Term", "value", "(LToyPitch$Run;)I"⟩, prog_22_method_2_code, 2, (some FieldType.int), [], 14, 0, 0)
def mt106 : Mt := (⟨"ToyPitch$Own", "<init>", "(IZ)V"⟩, prog_12_method_1_code, 3, (none : Option FieldType), [], 15, 2, 42)
def mt107 : Mt := (⟨"ToyPitch$Own", "value", "(LToyPitch$Run;)I"⟩, prog_12_method_2_code, 2, (some FieldType.int), [], 15, 1, 21)
def mt108 : Mt := (⟨"ToyPitch$Sensor", "<init>", "(IZ)V"⟩, prog_17_method_1_code, 3, (none : Option FieldType), [], 16, 2, 42)
def mt109 : Mt := (⟨"ToyPitch$Sensor", "value", "(LToyPitch$Run;)I"⟩, prog_17_method_2_code, 2, (some FieldType.int), [], 16, 3, 65)
def mt110 : Mt := (⟨"ToyPitch$Other", "<init>", "(IIZ)V"⟩, prog_10_method_1_code, 4, (none : Option FieldType), [], 17, 3, 64)
def mt111 : Mt := (⟨"ToyPitch$Other", "value", "(LToyPitch$Run;)I"⟩, prog_10_method_2_code, 2, (some FieldType.int), [], 17, 2, 44)
def mt112 : Mt := (⟨"ToyPitch$Act", "<init>", "()V"⟩, prog_2_method_1_code, 1, (none : Option FieldType), [], 18, 1, 20)
def mt113 : Mt := (⟨"ToyPitch$Act", "many", "()I"⟩, prog_2_method_4_code, 1, (some FieldType.int), [], 18, 0, 0)
def mt114 : Mt := (⟨"ToyPitch$Act", "run", "(LToyPitch$Run;)Z"⟩, prog_2_method_2_code, 2, (some FieldType.boolean), [], 18, 8, 179)
def mt115 : Mt := (⟨"ToyPitch$Act", "does", "(LToyPitch$Run;)Z"⟩, prog_2_method_3_code, 2, (some FieldType.boolean), [], 18, 0, 0)
def mt116 : Mt := (⟨"ToyPitch$Go", "<init>", "(I)V"⟩, prog_5_method_1_code, 2, (none : Option FieldType), [], 19, 2, 40)
def mt117 : Mt := (⟨"ToyPitch$Go", "does", "(LToyPitch$Run;)Z"⟩, prog_5_method_2_code, 2, (some FieldType.boolean), [], 19, 0, 0)
def mt118 : Mt := (⟨"ToyPitch$Set", "<init>", "(I)V"⟩, prog_18_method_1_code, 2, (none : Option FieldType), [], 20, 2, 40)
def mt119 : Mt := (⟨"ToyPitch$Set", "many", "()I"⟩, prog_18_method_2_code, 1, (some FieldType.int), [], 20, 1, 20)
def mt120 : Mt := (⟨"ToyPitch$Set", "does", "(LToyPitch$Run;)Z"⟩, prog_18_method_3_code, 2, (some FieldType.boolean), [], 20, 6, 133)
def mt121 : Mt := (⟨"ToyPitch$Move", "<init>", "()V"⟩, prog_9_method_1_code, 1, (none : Option FieldType), [], 21, 2, 40)
def mt122 : Mt := (⟨"ToyPitch$Move", "many", "()I"⟩, prog_9_method_2_code, 1, (some FieldType.int), [], 21, 1, 20)
def mt123 : Mt := (⟨"ToyPitch$Move", "does", "(LToyPitch$Run;)Z"⟩, prog_9_method_3_code, 4, (some FieldType.boolean), [], 21, 6, 133)
def mt124 : Mt := (⟨"ToyPitch$To", "<init>", "()V"⟩, prog_25_method_1_code, 1, (none : Option FieldType), [], 22, 3, 60)
def mt125 : Mt := (⟨"ToyPitch$To", "does", "(LToyPitch$Run;)Z"⟩, prog_25_method_2_code, 4, (some FieldType.boolean), [], 22, 6, 133)
def mt126 : Mt := (⟨"ToyPitch$Kick", "<init>", "()V"⟩, prog_6_method_1_code, 1, (none : Option FieldType), [], 23, 3, 60)
def mt127 : Mt := (⟨"ToyPitch$Kick", "many", "()I"⟩, prog_6_method_2_code, 1, (some FieldType.int), [], 23, 2, 40)
def mt128 : Mt := (⟨"ToyPitch$Kick", "does", "(LToyPitch$Run;)Z"⟩, prog_6_method_3_code, 4, (some FieldType.boolean), [], 23, 7, 156)
def mt129 : Mt := (⟨"ToyPitchModel", "feed", "(JI)I"⟩, prog_27_method_21_code, 5, (some FieldType.int), [], 24, 1, 21)
def mt130 : Mt := (⟨"ToyPitchModel", "finding", "(I)I"⟩, prog_27_method_24_code, 2, (some FieldType.int), [], 24, 0, 0)
def mt131 : Mt := (⟨"ToyPitchModel", "read", "()I"⟩, prog_27_method_22_code, 2, (some FieldType.int), [], 24, 10, 212)
def mt132 : Mt := (⟨"ToyPitchModel", "word", "()V"⟩, prog_27_method_5_code, 2, (none : Option FieldType), [], 24, 2, 42)
def mt133 : Mt := (⟨"ToyPitchModel", "at", "(I)I"⟩, prog_27_method_4_code, 2, (some FieldType.int), [], 24, 0, 0)
def mt134 : Mt := (⟨"ToyPitchModel", "isLetter", "(I)Z"⟩, prog_27_method_1_code, 1, (some FieldType.boolean), [], 24, 0, 0)
def mt135 : Mt := (⟨"ToyPitchModel", "letters", "()V"⟩, prog_27_method_6_code, 1, (none : Option FieldType), [], 24, 1, 22)
def mt136 : Mt := (⟨"ToyPitchModel", "findWord", "()V"⟩, prog_27_method_8_code, 3, (none : Option FieldType), [], 24, 0, 0)
def mt137 : Mt := (⟨"ToyPitchModel", "isFigure", "(I)Z"⟩, prog_27_method_2_code, 1, (some FieldType.boolean), [], 24, 0, 0)
def mt138 : Mt := (⟨"ToyPitchModel", "figures", "()V"⟩, prog_27_method_7_code, 1, (none : Option FieldType), [], 24, 1, 21)
def mt139 : Mt := (⟨"ToyPitchModel", "isSign", "(I)Z"⟩, prog_27_method_3_code, 1, (some FieldType.boolean), [], 24, 0, 0)
def mt140 : Mt := (⟨"ToyPitchModel", "state", "()Z"⟩, prog_27_method_19_code, 3, (some FieldType.boolean), [], 24, 9, 190)
def mt141 : Mt := (⟨"ToyPitchModel", "wrong", "()Z"⟩, prog_27_method_9_code, 1, (some FieldType.boolean), [], 24, 0, 0)
def mt142 : Mt := (⟨"ToyPitchModel", "keepWord", "()Z"⟩, prog_27_method_10_code, 1, (some FieldType.boolean), [], 24, 3, 63)
def mt143 : Mt := (⟨"ToyPitchModel", "name", "(Z)Z"⟩, prog_27_method_12_code, 2, (some FieldType.boolean), [], 24, 4, 83)
def mt144 : Mt := (⟨"ToyPitchModel", "is", "(I)Z"⟩, prog_27_method_11_code, 2, (some FieldType.boolean), [], 24, 4, 83)
def mt145 : Mt := (⟨"ToyPitchModel", "rule", "()Z"⟩, prog_27_method_18_code, 3, (some FieldType.boolean), [], 24, 8, 168)
def mt146 : Mt := (⟨"ToyPitchModel", "test", "()Z"⟩, prog_27_method_16_code, 1, (some FieldType.boolean), [], 24, 7, 146)
def mt147 : Mt := (⟨"ToyPitchModel", "sum", "()Z"⟩, prog_27_method_15_code, 2, (some FieldType.boolean), [], 24, 6, 125)
def mt148 : Mt := (⟨"ToyPitchModel", "product", "()Z"⟩, prog_27_method_14_code, 2, (some FieldType.boolean), [], 24, 5, 104)
def mt149 : Mt := (⟨"ToyPitchModel", "term", "()Z"⟩, prog_27_method_13_code, 2, (some FieldType.boolean), [], 24, 4, 83)
def mt150 : Mt := (⟨"ToyPitchModel", "act", "()Z"⟩, prog_27_method_17_code, 3, (some FieldType.boolean), [], 24, 7, 146)
def mt151 : Mt := (⟨"ToyPitchModel", "findNames", "()V"⟩, prog_27_method_20_code, 5, (none : Option FieldType), [], 24, 0, 0)
def mt152 : Mt := (⟨"ToyPitchModel", "fault", "()I"⟩, prog_27_method_23_code, 1, (some FieldType.int), [], 24, 0, 0)
def mt153 : Mt := (⟨"ToyPitchModel", "<init>", "()V"⟩, prog_27_method_26_code, 3, (none : Option FieldType), [], 24, 1, 20)
def mt154 : Mt := (⟨"ToyPitchModel", "program", "(III)I"⟩, prog_27_method_28_code, 4, (some FieldType.int), [], 24, 2, 42)
def mt155 : Mt := (⟨"ToyPitchModel", "isTeam", "(I)Z"⟩, prog_27_method_27_code, 1, (some FieldType.boolean), [], 24, 1, 22)
def mt156 : Mt := (⟨"ToyPitchModel", "in", "(III)Z"⟩, prog_27_method_25_code, 3, (some FieldType.boolean), [], 24, 0, 0)
def mt157 : Mt := (⟨"ToyPitchModel", "start", "(IIII)I"⟩, prog_27_method_29_code, 5, (some FieldType.int), [], 24, 2, 42)
def mt158 : Mt := (⟨"ToyPitchModel", "views", "(III)I"⟩, prog_27_method_30_code, 4, (some FieldType.int), [], 24, 2, 42)
def mt159 : Mt := (⟨"ToyPitchModel", "begin", "(II)I"⟩, prog_27_method_41_code, 3, (some FieldType.int), [], 24, 6, 142)
def mt160 : Mt := (⟨"ToyPitchModel", "beginMatch", "(II)V"⟩, prog_27_method_40_code, 4, (none : Option FieldType), [], 24, 5, 119)
def mt161 : Mt := (⟨"ToyPitchModel", "kickOff", "(I)V"⟩, prog_27_method_39_code, 6, (none : Option FieldType), [], 24, 4, 94)
def mt162 : Mt := (⟨"ToyPitchModel", "set", "(III)V"⟩, prog_27_method_32_code, 4, (none : Option FieldType), [], 24, 0, 0)
def mt163 : Mt := (⟨"ToyPitchModel", "putAtStart", "(I)V"⟩, prog_27_method_36_code, 3, (none : Option FieldType), [], 24, 3, 72)
def mt164 : Mt := (⟨"ToyPitchModel", "of", "(II)I"⟩, prog_27_method_31_code, 3, (some FieldType.int), [], 24, 0, 0)
def mt165 : Mt := (⟨"ToyPitchModel", "findPut", "(III)V"⟩, prog_27_method_35_code, 7, (none : Option FieldType), [], 24, 2, 46)
def mt166 : Mt := (⟨"ToyPitchModel", "robotAt", "(III)I"⟩, prog_27_method_33_code, 5, (some FieldType.int), [], 24, 1, 22)
def mt167 : Mt := (⟨"ToyPitchModel", "distance", "(IIII)I"⟩, prog_27_method_34_code, 4, (some FieldType.int), [], 24, 1, 21)
def mt168 : Mt := (⟨"ToyPitchModel", "lay", "()V"⟩, prog_27_method_37_code, 1, (none : Option FieldType), [], 24, 3, 72)
def mt169 : Mt := (⟨"ToyPitchModel", "stopBall", "()V"⟩, prog_27_method_38_code, 1, (none : Option FieldType), [], 24, 0, 0)
def mt170 : Mt := (⟨"ToyPitchModel", "tick", "(I)I"⟩, prog_27_method_68_code, 4, (some FieldType.int), [], 24, 10, 223)
def mt171 : Mt := (⟨"ToyPitchModel", "isMatch", "()Z"⟩, prog_27_method_67_code, 1, (some FieldType.boolean), [], 24, 0, 0)
def mt172 : Mt := (⟨"ToyPitchModel", "tickOnce", "()I"⟩, prog_27_method_66_code, 3, (some FieldType.int), [], 24, 9, 201)
def mt173 : Mt := (⟨"ToyPitchModel", "run", "(I)V"⟩, prog_27_method_57_code, 2, (none : Option FieldType), [], 24, 8, 180)
def mt174 : Mt := (⟨"ToyPitchModel", "see", "(I)V"⟩, prog_27_method_56_code, 5, (none : Option FieldType), [], 24, 1, 23)
def mt175 : Mt := (⟨"ToyPitchModel", "goes", "(IIII)V"⟩, prog_27_method_53_code, 6, (none : Option FieldType), [], 24, 1, 23)
def mt176 : Mt := (⟨"ToyPitchModel", "sign", "(I)I"⟩, prog_27_method_52_code, 1, (some FieldType.int), [], 24, 0, 0)
def mt177 : Mt := (⟨"ToyPitchModel", "runRules", "()V"⟩, prog_27_method_55_code, 3, (none : Option FieldType), [], 24, 7, 158)
def mt178 : Mt := (⟨"ToyPitchModel", "here", "()I"⟩, prog_27_method_43_code, 1, (some FieldType.int), [], 24, 0, 0)
def mt179 : Mt := (⟨"ToyPitchModel", "testHolds", "()Z"⟩, prog_27_method_51_code, 4, (some FieldType.boolean), [], 24, 6, 134)
def mt180 : Mt := (⟨"ToyPitchModel", "step", "()V"⟩, prog_27_method_42_code, 1, (none : Option FieldType), [], 24, 0, 0)
def mt181 : Mt := (⟨"ToyPitchModel", "sumOf", "()I"⟩, prog_27_method_50_code, 4, (some FieldType.int), [], 24, 5, 111)
def mt182 : Mt := (⟨"ToyPitchModel", "productOf", "()I"⟩, prog_27_method_49_code, 2, (some FieldType.int), [], 24, 4, 90)
def mt183 : Mt := (⟨"ToyPitchModel", "termOf", "()I"⟩, prog_27_method_48_code, 4, (some FieldType.int), [], 24, 3, 67)
def mt184 : Mt := (⟨"ToyPitchModel", "sensor", "(I)I"⟩, prog_27_method_46_code, 4, (some FieldType.int), [], 24, 2, 44)
def mt185 : Mt := (⟨"ToyPitchModel", "seenX", "(I)I"⟩, prog_27_method_44_code, 2, (some FieldType.int), [], 24, 0, 0)
def mt186 : Mt := (⟨"ToyPitchModel", "seenY", "(I)I"⟩, prog_27_method_45_code, 2, (some FieldType.int), [], 24, 0, 0)
def mt187 : Mt := (⟨"ToyPitchModel", "otherRobot", "(II)I"⟩, prog_27_method_47_code, 5, (some FieldType.int), [], 24, 1, 22)
def mt188 : Mt := (⟨"ToyPitchModel", "actEnds", "()Z"⟩, prog_27_method_54_code, 5, (some FieldType.boolean), [], 24, 6, 134)
def mt189 : Mt := (⟨"ToyPitchModel", "doCommand", "(I)V"⟩, prog_27_method_59_code, 8, (none : Option FieldType), [], 24, 2, 46)
def mt190 : Mt := (⟨"ToyPitchModel", "hold", "(I)V"⟩, prog_27_method_58_code, 2, (none : Option FieldType), [], 24, 1, 22)
def mt191 : Mt := (⟨"ToyPitchModel", "roll", "()I"⟩, prog_27_method_60_code, 7, (some FieldType.int), [], 24, 2, 46)
def mt192 : Mt := (⟨"ToyPitchModel", "law", "(I)I"⟩, prog_27_method_65_code, 3, (some FieldType.int), [], 24, 6, 141)
def mt193 : Mt := (⟨"ToyPitchModel", "scored", "(I)V"⟩, prog_27_method_61_code, 3, (none : Option FieldType), [], 24, 5, 119)
def mt194 : Mt := (⟨"ToyPitchModel", "sleeps", "()I"⟩, prog_27_method_62_code, 2, (some FieldType.int), [], 24, 0, 0)
def mt195 : Mt := (⟨"ToyPitchModel", "nearestFoe", "(I)I"⟩, prog_27_method_63_code, 5, (some FieldType.int), [], 24, 2, 44)
def mt196 : Mt := (⟨"ToyPitchModel", "crowded", "(I)I"⟩, prog_27_method_64_code, 6, (some FieldType.int), [], 24, 1, 22)
def mt197 : Mt := (⟨"ToyPitchModel", "ball", "(I)I"⟩, prog_27_method_69_code, 2, (some FieldType.int), [], 24, 1, 23)
def mt198 : Mt := (⟨"ToyPitchModel", "ballOf", "([III)I"⟩, prog_27_method_70_code, 4, (some FieldType.int), [], 24, 0, 0)
def mt199 : Mt := (⟨"ToyPitchModel", "robot", "(II)I"⟩, prog_27_method_71_code, 3, (some FieldType.int), [], 24, 1, 22)
def mt200 : Mt := (⟨"ToyPitchModel", "score", "(I)I"⟩, prog_27_method_72_code, 2, (some FieldType.int), [], 24, 1, 22)
def mt201 : Mt := (⟨"ToyPitchModel", "goal", "(I)I"⟩, prog_27_method_73_code, 2, (some FieldType.int), [], 24, 1, 22)
def mt202 : Mt := (⟨"ToyPitchModel", "keep", "(I)I"⟩, prog_27_method_74_code, 3, (some FieldType.int), [], 24, 1, 22)
def mt203 : Mt := (⟨"ToyPitchModel", "back", "(I)I"⟩, prog_27_method_75_code, 3, (some FieldType.int), [], 24, 1, 22)
def mt204 : Mt := (⟨"ToyPitchModel", "differ", "(I)I"⟩, prog_27_method_77_code, 5, (some FieldType.int), [], 24, 1, 24)
def mt205 : Mt := (⟨"ToyPitchModel", "robotIn", "([IIII)I"⟩, prog_27_method_76_code, 5, (some FieldType.int), [], 24, 0, 0)
def mt206 : Mt := (⟨"ToyPitchModel", "league", "(II)I"⟩, prog_27_method_79_code, 8, (some FieldType.int), [], 24, 11, 248)
def mt207 : Mt := (⟨"ToyPitchModel", "playOne", "(III)V"⟩, prog_27_method_78_code, 6, (none : Option FieldType), [], 24, 10, 223)
def mt208 : Mt := (⟨"ToyPitchModel", "table", "(II)I"⟩, prog_27_method_81_code, 3, (some FieldType.int), [], 24, 2, 42)
def mt209 : Mt := (⟨"ToyPitchModel", "hasPlayed", "(I)Z"⟩, prog_27_method_80_code, 2, (some FieldType.boolean), [], 24, 0, 0)
def mt210 : Mt := (⟨"ToyPitchModel", "order", "(I)I"⟩, prog_27_method_83_code, 5, (some FieldType.int), [], 24, 1, 22)
def mt211 : Mt := (⟨"ToyPitchModel", "isAhead", "(II)Z"⟩, prog_27_method_82_code, 3, (some FieldType.boolean), [], 24, 0, 0)
def mt212 : Mt := (⟨"ToyPitchModel", "tell", "(I)I"⟩, prog_27_method_84_code, 2, (some FieldType.int), [], 24, 1, 21)
def mt213 : Mt := (⟨"ToyPitchModel", "check", "()I"⟩, prog_27_method_85_code, 3, (some FieldType.int), [], 24, 1, 21)
def mt214 : Mt := (⟨"ToyPitchModel", "count", "(I)I"⟩, prog_27_method_86_code, 2, (some FieldType.int), [], 24, 1, 21)
def mt215 : Mt := (⟨"ToyPitchModel", "found", "(I)I"⟩, prog_27_method_87_code, 2, (some FieldType.int), [], 24, 1, 22)
def mt216 : Mt := (⟨"java/util/ArrayList", "<init>", "()V"⟩, prog_42_method_2_code, 1, (none : Option FieldType), [], 25, 3, 60)
def mt217 : Mt := (⟨"java/util/ArrayList", "add", "(Ljava/lang/Object;)Z"⟩, prog_42_method_25_code, 2, (some FieldType.boolean), [], 25, 7, 178)
def mt218 : Mt := (⟨"java/util/ArrayList", "add", "(Ljava/lang/Object;[Ljava/lang/Object;I)V"⟩, prog_42_method_24_code, 4, (none : Option FieldType), [], 25, 6, 155)
def mt219 : Mt := (⟨"java/util/ArrayList", "grow", "()[Ljava/lang/Object;"⟩, prog_42_method_7_code, 1, (some (FieldType.array (FieldType.object "java/lang/Object"))), [], 25, 5, 135)
def mt220 : Mt := (⟨"java/util/ArrayList", "grow", "(I)[Ljava/lang/Object;"⟩, prog_42_method_6_code, 4, (some (FieldType.array (FieldType.object "java/lang/Object"))), [], 25, 4, 112)
def mt221 : Mt := (⟨"java/util/ArrayList", "size", "()I"⟩, prog_42_method_8_code, 1, (some FieldType.int), [], 25, 0, 0)
def mt222 : Mt := (⟨"java/util/ArrayList", "get", "(I)Ljava/lang/Object;"⟩, prog_42_method_20_code, 2, (some (FieldType.object "java/lang/Object")), [], 25, 2, 43)
def mt223 : Mt := (⟨"java/util/ArrayList", "elementData", "(I)Ljava/lang/Object;"⟩, prog_42_method_18_code, 2, (some (FieldType.object "java/lang/Object")), [], 25, 0, 0)
def mt224 : Mt := (⟨"java/lang/String", "length", "()I"⟩, prog_35_method_54_code, 1, (some FieldType.int), [], 26, 1, 20)
def mt225 : Mt := (⟨"java/lang/String", "coder", "()B"⟩, prog_35_method_152_code, 1, (some FieldType.byte), [], 26, 0, 0)
def mt226 : Mt := (⟨"java/lang/String", "charAt", "(I)C"⟩, prog_35_method_56_code, 2, (some FieldType.char), [], 26, 3, 64)
def mt227 : Mt := (⟨"java/lang/String", "isLatin1", "()Z"⟩, prog_35_method_154_code, 1, (some FieldType.boolean), [], 26, 0, 0)
def mt228 : Mt := (⟨"java/lang/String", "checkIndex", "(II)V"⟩, prog_35_method_155_code, 2, (none : Option FieldType), [], 26, 1, 22)
def mt229 : Mt := (⟨"java/lang/StringLatin1", "charAt", "([BI)C"⟩, prog_36_method_2_code, 2, (some FieldType.char), [], 28, 2, 43)
def mt230 : Mt := (⟨"jdk/internal/util/Preconditions", "checkIndex", "(IILjava/util/function/BiFunction;)I"⟩, prog_50_method_11_code, 3, (some FieldType.int), [], 29, 0, 0)
def mt231 : Mt := (⟨"java/util/Arrays", "copyOf", "([Ljava/lang/Object;I)[Ljava/lang/Object;"⟩, prog_43_method_119_code, 2, (some (FieldType.array (FieldType.object "java/lang/Object"))), [], 30, 3, 91)
def mt232 : Mt := (⟨"java/util/Arrays", "copyOf", "([Ljava/lang/Object;ILjava/lang/Class;)[Ljava/lang/Object;"⟩, prog_43_method_120_code, 4, (some (FieldType.array (FieldType.object "java/lang/Object"))), [], 30, 2, 68)
def mt233 : Mt := (⟨"jdk/internal/util/ArraysSupport", "newLength", "(III)I"⟩, prog_49_method_27_code, 4, (some FieldType.int), [], 31, 1, 22)
def mt234 : Mt := (⟨"jdk/internal/util/ArraysSupport", "hugeLength", "(II)I"⟩, prog_49_method_28_code, 3, (some FieldType.int), [], 31, 0, 0)
def mt235 : Mt := (⟨"java/util/Objects", "checkIndex", "(II)I"⟩, prog_46_method_17_code, 2, (some FieldType.int), [], 32, 1, 22)
def mt236 : Mt := (⟨"java/lang/Integer", "signum", "(I)I"⟩, prog_31_method_56_code, 1, (some FieldType.int), [], 33, 0, 0)
def mt237 : Mt := (⟨"java/lang/Integer", "bitCount", "(I)I"⟩, prog_31_method_49_code, 1, (some FieldType.int), [], 33, 0, 0)
def mt238 : Mt := (⟨"java/util/AbstractList", "<init>", "()V"⟩, prog_41_method_1_code, 1, (none : Option FieldType), [], 34, 2, 40)
def mt239 : Mt := (⟨"java/util/AbstractCollection", "<init>", "()V"⟩, prog_40_method_1_code, 1, (none : Option FieldType), [], 35, 1, 20)
def mtT : List Mt := [mt0, mt1, mt2, mt3, mt4, mt5, mt6, mt7, mt8, mt9, mt10, mt11, mt12, mt13, mt14, mt15, mt16, mt17, mt18, mt19, mt20, mt21, mt22, mt23, mt24, mt25, mt26, mt27, mt28, mt29, mt30, mt31, mt32, mt33, mt34, mt35, mt36, mt37, mt38, mt39, mt40, mt41, mt42, mt43, mt44, mt45, mt46, mt47, mt48, mt49, mt50, mt51, mt52, mt53, mt54, mt55, mt56, mt57, mt58, mt59, mt60, mt61, mt62, mt63, mt64, mt65, mt66, mt67, mt68, mt69, mt70, mt71, mt72, mt73, mt74, mt75, mt76, mt77, mt78, mt79, mt80, mt81, mt82, mt83, mt84, mt85, mt86, mt87, mt88, mt89, mt90, mt91, mt92, mt93, mt94, mt95, mt96, mt97, mt98, mt99, mt100, mt101, mt102, mt103, mt104, mt105, mt106, mt107, mt108, mt109, mt110, mt111, mt112, mt113, mt114, mt115, mt116, mt117, mt118, mt119, mt120, mt121, mt122, mt123, mt124, mt125, mt126, mt127, mt128, mt129, mt130, mt131, mt132, mt133, mt134, mt135, mt136, mt137, mt138, mt139, mt140, mt141, mt142, mt143, mt144, mt145, mt146, mt147, mt148, mt149, mt150, mt151, mt152, mt153, mt154, mt155, mt156, mt157, mt158, mt159, mt160, mt161, mt162, mt163, mt164, mt165, mt166, mt167, mt168, mt169, mt170, mt171, mt172, mt173, mt174, mt175, mt176, mt177, mt178, mt179, mt180, mt181, mt182, mt183, mt184, mt185, mt186, mt187, mt188, mt189, mt190, mt191, mt192, mt193, mt194, mt195, mt196, mt197, mt198, mt199, mt200, mt201, mt202, mt203, mt204, mt205, mt206, mt207, mt208, mt209, mt210, mt211, mt212, mt213, mt214, mt215, mt216, mt217, mt218, mt219, mt220, mt221, mt222, mt223, mt224, mt225, mt226, mt227, mt228, mt229, mt230, mt231, mt232, mt233, mt234, mt235, mt236, mt237, mt238, mt239]
def mT (y : Nat) : Mt := mtT.getD y mt0
def mN (y : Nat) : MethodName := (mT y).1
def mB (y : Nat) : ByteArray := (mT y).2.1
def mL (y : Nat) : Nat := (mT y).2.2.1
def mRt (y : Nat) : Option FieldType := (mT y).2.2.2.1
def mH (y : Nat) : List (Nat × Nat × Nat × Nat) := (mT y).2.2.2.2.1
def mC (y : Nat) : Nat := (mT y).2.2.2.2.2.1
def mFr (y : Nat) : Nat := (mT y).2.2.2.2.2.2.1
def mWd (y : Nat) : Nat := (mT y).2.2.2.2.2.2.2
