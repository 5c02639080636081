set_option maxRecDepth 100000
def RX1 : String := "FlyingDoctors"
def TX1 : u_T := fun k => match k with
  | 0 => ("FlyingDoctors", "drumsThen", "[I", true)
  | 1 => ("FlyingDoctors", "overThen", "[I", true)
  | 2 => ("FlyingDoctors", "placeThen", "[LFlyingDoctors$Place;", true)
  | 3 => ("FlyingDoctors", "boardNow", "I", false)
  | 4 => ("FlyingDoctors", "places", "Ljava/util/List;", true)
  | 5 => ("FlyingDoctors", "planes", "Ljava/util/List;", true)
  | 6 => ("FlyingDoctors", "people", "Ljava/util/List;", true)
  | 7 => ("FlyingDoctors", "texts", "Ljava/util/List;", true)
  | 8 => ("FlyingDoctors", "words", "Ljava/util/List;", true)
  | 9 => ("FlyingDoctors", "rains", "Ljava/util/List;", true)
  | 10 => ("FlyingDoctors", "finds", "Ljava/util/List;", true)
  | 11 => ("FlyingDoctors", "calls", "Ljava/util/List;", true)
  | 12 => ("FlyingDoctors", "flights", "Ljava/util/List;", true)
  | 13 => ("FlyingDoctors", "clinics", "Ljava/util/List;", true)
  | 14 => ("FlyingDoctors", "gifts", "Ljava/util/List;", true)
  | 15 => ("FlyingDoctors", "tape", "[B", true)
  | 16 => ("FlyingDoctors", "none", "LFlyingDoctors$Rules;", true)
  | 17 => ("FlyingDoctors", "asked", "LFlyingDoctors$Asked;", true)
  | 18 => ("FlyingDoctors", "weekDay", "[I", true)
  | 19 => ("FlyingDoctors", "open", "[LFlyingDoctors$Call;", true)
  | 20 => ("FlyingDoctors", "now", "I", false)
  | 21 => ("FlyingDoctors", "taped", "I", false)
  | 22 => ("FlyingDoctors", "faultPlace", "I", false)
  | 23 => ("FlyingDoctors", "doctors", "I", false)
  | 24 => ("FlyingDoctors", "failedLeg", "I", false)
  | 25 => ("FlyingDoctors", "weekMany", "I", false)
  | 26 => ("FlyingDoctors", "weekQuarters", "I", false)
  | _ => ("FlyingDoctors", "differences", "I", false)
def tyX1 : Nat → FieldType := fun k => match k with
  | 0 => .array .int
  | 1 => .array .int
  | 2 => .array (.object "FlyingDoctors$Place")
  | 3 => .int
  | 4 => .object "java/util/List"
  | 5 => .object "java/util/List"
  | 6 => .object "java/util/List"
  | 7 => .object "java/util/List"
  | 8 => .object "java/util/List"
  | 9 => .object "java/util/List"
  | 10 => .object "java/util/List"
  | 11 => .object "java/util/List"
  | 12 => .object "java/util/List"
  | 13 => .object "java/util/List"
  | 14 => .object "java/util/List"
  | 15 => .array .byte
  | 16 => .object "FlyingDoctors$Rules"
  | 17 => .object "FlyingDoctors$Asked"
  | 18 => .array .int
  | 19 => .array (.object "FlyingDoctors$Call")
  | 20 => .int
  | 21 => .int
  | 22 => .int
  | 23 => .int
  | 24 => .int
  | 25 => .int
  | 26 => .int
  | _ => .int
abbrev wsX10 : List Cond := u_ws RX1 TX1 28
set_option maxRecDepth 100000 in
theorem nmX1 : ∀ a, a < 28 → ∀ b, b < 28 → a ≠ b → (TX1 a).2.1 ≠ (TX1 b).2.1 := by decide +kernel
set_option maxRecDepth 100000 in
theorem tyX1_ok : ∀ k, k < 28 → parseFieldDescriptor (TX1 k).2.2.1 = some (tyX1 k) := by decide +kernel
theorem in_X1 : ∀ w ∈ wsX10, w ∈ lw_all := lw_in wsX10 [302, 304, 306, 308, 310, 312, 314, 316, 318, 320, 322, 324, 326, 328, 330, 332, 334, 336, 338, 340, 342, 344, 346, 348, 350, 352, 354, 356] (by decide +kernel) (by decide +kernel)
def RX2 : String := "FlyingDoctors$Rules"
def TX2 : u_T := fun k => match k with
  | 0 => ("FlyingDoctors$Rules", "params", "[I", true)
  | 1 => ("FlyingDoctors$Rules", "flies", "Ljava/util/List;", true)
  | 2 => ("FlyingDoctors$Rules", "doses", "Ljava/util/List;", true)
  | 3 => ("FlyingDoctors$Rules", "first", "LFlyingDoctors$Ex;", false)
  | _ => ("FlyingDoctors$Rules", "told", "I", false)
def tyX2 : Nat → FieldType := fun k => match k with
  | 0 => .array .int
  | 1 => .object "java/util/List"
  | 2 => .object "java/util/List"
  | 3 => .object "FlyingDoctors$Ex"
  | _ => .int
abbrev wsX20 : List Cond := u_ws RX2 TX2 5
theorem nmX2 : ∀ a, a < 5 → ∀ b, b < 5 → a ≠ b → (TX2 a).2.1 ≠ (TX2 b).2.1 := by decide +kernel
theorem tyX2_ok : ∀ k, k < 5 → parseFieldDescriptor (TX2 k).2.2.1 = some (tyX2 k) := by decide +kernel
theorem in_X2 : ∀ w ∈ wsX20, w ∈ lw_all := lw_in wsX20 [231, 233, 235, 237, 239] (by decide +kernel) (by decide +kernel)
def RX3 : String := "FlyingDoctors$Asked"
def TX3 : u_T := fun k => match k with
  | 0 => ("FlyingDoctors$Asked", "values", "[I", true)
  | 1 => ("FlyingDoctors$Asked", "params", "[I", true)
  | _ => ("FlyingDoctors$Asked", "words", "I", false)
def tyX3 : Nat → FieldType := fun k => match k with
  | 0 => .array .int
  | 1 => .array .int
  | _ => .int
abbrev wsX30 : List Cond := u_ws RX3 TX3 3
theorem nmX3 : ∀ a, a < 3 → ∀ b, b < 3 → a ≠ b → (TX3 a).2.1 ≠ (TX3 b).2.1 := by decide +kernel
theorem tyX3_ok : ∀ k, k < 3 → parseFieldDescriptor (TX3 k).2.2.1 = some (tyX3 k) := by decide +kernel
theorem in_X3 : ∀ w ∈ wsX30, w ∈ lw_all := lw_in wsX30 [259, 261, 263] (by decide +kernel) (by decide +kernel)
def RX4 : String := "FlyingDoctorsModel"
def TX4 : u_T := fun k => match k with
  | 0 => ("FlyingDoctorsModel", "thrown", "I", false)
  | 1 => ("FlyingDoctorsModel", "now", "I", false)
  | 2 => ("FlyingDoctorsModel", "places", "I", false)
  | 3 => ("FlyingDoctorsModel", "planes", "I", false)
  | 4 => ("FlyingDoctorsModel", "people", "I", false)
  | 5 => ("FlyingDoctorsModel", "x", "[I", true)
  | 6 => ("FlyingDoctorsModel", "y", "[I", true)
  | 7 => ("FlyingDoctorsModel", "strip", "[I", true)
  | 8 => ("FlyingDoctorsModel", "is", "[I", true)
  | 9 => ("FlyingDoctorsModel", "drums", "[I", true)
  | 10 => ("FlyingDoctorsModel", "pace", "[I", true)
  | 11 => ("FlyingDoctorsModel", "tank", "[I", true)
  | 12 => ("FlyingDoctorsModel", "thirst", "[I", true)
  | 13 => ("FlyingDoctorsModel", "needs", "[I", true)
  | 14 => ("FlyingDoctorsModel", "planeAt", "[I", true)
  | 15 => ("FlyingDoctorsModel", "fuel", "[I", true)
  | 16 => ("FlyingDoctorsModel", "planeOver", "[I", true)
  | 17 => ("FlyingDoctorsModel", "kind", "[I", true)
  | 18 => ("FlyingDoctorsModel", "firstAt", "[I", true)
  | 19 => ("FlyingDoctorsModel", "personAt", "[I", true)
  | 20 => ("FlyingDoctorsModel", "personOver", "[I", true)
  | 21 => ("FlyingDoctorsModel", "pilotOver", "[I", true)
  | 22 => ("FlyingDoctorsModel", "tape", "[I", true)
  | 23 => ("FlyingDoctorsModel", "taped", "I", false)
  | 24 => ("FlyingDoctorsModel", "faultKind", "I", false)
  | 25 => ("FlyingDoctorsModel", "faultPlace", "I", false)
  | 26 => ("FlyingDoctorsModel", "size", "I", false)
  | 27 => ("FlyingDoctorsModel", "next", "I", false)
  | 28 => ("FlyingDoctorsModel", "sort", "I", false)
  | 29 => ("FlyingDoctorsModel", "place", "I", false)
  | 30 => ("FlyingDoctorsModel", "long0", "I", false)
  | 31 => ("FlyingDoctorsModel", "value", "I", false)
  | 32 => ("FlyingDoctorsModel", "sign", "I", false)
  | 33 => ("FlyingDoctorsModel", "word", "J", false)
  | 34 => ("FlyingDoctorsModel", "known", "[J", true)
  | 35 => ("FlyingDoctorsModel", "texts", "I", false)
  | 36 => ("FlyingDoctorsModel", "wordsEver", "I", false)
  | 37 => ("FlyingDoctorsModel", "wordsNew", "I", false)
  | 38 => ("FlyingDoctorsModel", "wordsHere", "I", false)
  | 39 => ("FlyingDoctorsModel", "clauses", "I", false)
  | 40 => ("FlyingDoctorsModel", "told", "[I", true)
  | 41 => ("FlyingDoctorsModel", "param", "[I", true)
  | 42 => ("FlyingDoctorsModel", "first", "[I", true)
  | 43 => ("FlyingDoctorsModel", "flies", "[I", true)
  | 44 => ("FlyingDoctorsModel", "fly", "[I", true)
  | 45 => ("FlyingDoctorsModel", "chests", "[I", true)
  | 46 => ("FlyingDoctorsModel", "chestNumber", "[I", true)
  | 47 => ("FlyingDoctorsModel", "chestWho", "[I", true)
  | 48 => ("FlyingDoctorsModel", "chestIf", "[I", true)
  | 49 => ("FlyingDoctorsModel", "spelling", "[J", true)
  | 50 => ("FlyingDoctorsModel", "wordHere", "[I", true)
  | 51 => ("FlyingDoctorsModel", "code", "[I", true)
  | 52 => ("FlyingDoctorsModel", "top", "I", false)
  | 53 => ("FlyingDoctorsModel", "waits", "[I", true)
  | 54 => ("FlyingDoctorsModel", "waiting", "I", false)
  | 55 => ("FlyingDoctorsModel", "depth", "I", false)
  | 56 => ("FlyingDoctorsModel", "tested", "[Z", true)
  | 57 => ("FlyingDoctorsModel", "values", "[I", true)
  | 58 => ("FlyingDoctorsModel", "pile", "[I", true)
  | 59 => ("FlyingDoctorsModel", "saidBits", "I", false)
  | 60 => ("FlyingDoctorsModel", "rains", "I", false)
  | 61 => ("FlyingDoctorsModel", "rainAt", "[I", true)
  | 62 => ("FlyingDoctorsModel", "rainDay", "[I", true)
  | 63 => ("FlyingDoctorsModel", "rainOf", "[I", true)
  | 64 => ("FlyingDoctorsModel", "rainTold", "[I", true)
  | 65 => ("FlyingDoctorsModel", "hours", "[I", true)
  | 66 => ("FlyingDoctorsModel", "range", "[I", true)
  | 67 => ("FlyingDoctorsModel", "has", "[Z", true)
  | 68 => ("FlyingDoctorsModel", "gets", "[Z", true)
  | 69 => ("FlyingDoctorsModel", "calls", "I", false)
  | 70 => ("FlyingDoctorsModel", "callAt", "[I", true)
  | 71 => ("FlyingDoctorsModel", "callWords", "[I", true)
  | 72 => ("FlyingDoctorsModel", "callTold", "[I", true)
  | 73 => ("FlyingDoctorsModel", "callHeard", "[I", true)
  | 74 => ("FlyingDoctorsModel", "ordered", "[I", true)
  | 75 => ("FlyingDoctorsModel", "weight", "[I", true)
  | 76 => ("FlyingDoctorsModel", "finds", "I", false)
  | 77 => ("FlyingDoctorsModel", "findOf", "[I", true)
  | 78 => ("FlyingDoctorsModel", "findTold", "[I", true)
  | 79 => ("FlyingDoctorsModel", "findGrave", "[Z", true)
  | 80 => ("FlyingDoctorsModel", "flights", "I", false)
  | 81 => ("FlyingDoctorsModel", "failedAt", "I", false)
  | 82 => ("FlyingDoctorsModel", "planeOf", "[I", true)
  | 83 => ("FlyingDoctorsModel", "pilotOf", "[I", true)
  | 84 => ("FlyingDoctorsModel", "legs", "[I", true)
  | 85 => ("FlyingDoctorsModel", "startAt", "[I", true)
  | 86 => ("FlyingDoctorsModel", "leftLeg", "[I", true)
  | 87 => ("FlyingDoctorsModel", "leftWho", "[I", true)
  | 88 => ("FlyingDoctorsModel", "takenLeg", "[I", true)
  | 89 => ("FlyingDoctorsModel", "takenWho", "[I", true)
  | 90 => ("FlyingDoctorsModel", "legPlace", "[I", true)
  | 91 => ("FlyingDoctorsModel", "legLeave", "[I", true)
  | 92 => ("FlyingDoctorsModel", "legCome", "[I", true)
  | 93 => ("FlyingDoctorsModel", "legFuel", "[I", true)
  | 94 => ("FlyingDoctorsModel", "legTaken", "[I", true)
  | 95 => ("FlyingDoctorsModel", "legFlown", "[I", true)
  | 96 => ("FlyingDoctorsModel", "legBoard", "[I", true)
  | 97 => ("FlyingDoctorsModel", "drummed", "[I", true)
  | 98 => ("FlyingDoctorsModel", "clinics", "I", false)
  | 99 => ("FlyingDoctorsModel", "weekMany", "I", false)
  | 100 => ("FlyingDoctorsModel", "weekQuarters", "I", false)
  | 101 => ("FlyingDoctorsModel", "clinicAt", "[I", true)
  | 102 => ("FlyingDoctorsModel", "standing", "[I", true)
  | 103 => ("FlyingDoctorsModel", "stays", "[I", true)
  | 104 => ("FlyingDoctorsModel", "weekDay", "[I", true)
  | 105 => ("FlyingDoctorsModel", "rounds", "[I", true)
  | 106 => ("FlyingDoctorsModel", "least", "[I", true)
  | 107 => ("FlyingDoctorsModel", "moved", "[I", true)
  | 108 => ("FlyingDoctorsModel", "spent", "[I", true)
  | 109 => ("FlyingDoctorsModel", "open", "[I", true)
  | 110 => ("FlyingDoctorsModel", "room", "[I", true)
  | 111 => ("FlyingDoctorsModel", "differences", "I", false)
  | 112 => ("FlyingDoctorsModel", "chestLeft", "[I", true)
  | 113 => ("FlyingDoctorsModel", "gifts", "I", false)
  | 114 => ("FlyingDoctorsModel", "giftPence", "[I", true)
  | 115 => ("FlyingDoctorsModel", "purpose", "[I", true)
  | _ => ("FlyingDoctorsModel", "until", "[I", true)
def tyX4 : Nat → FieldType := fun k => match k with
  | 0 => .int
  | 1 => .int
  | 2 => .int
  | 3 => .int
  | 4 => .int
  | 5 => .array .int
  | 6 => .array .int
  | 7 => .array .int
  | 8 => .array .int
  | 9 => .array .int
  | 10 => .array .int
  | 11 => .array .int
  | 12 => .array .int
  | 13 => .array .int
  | 14 => .array .int
  | 15 => .array .int
  | 16 => .array .int
  | 17 => .array .int
  | 18 => .array .int
  | 19 => .array .int
  | 20 => .array .int
  | 21 => .array .int
  | 22 => .array .int
  | 23 => .int
  | 24 => .int
  | 25 => .int
  | 26 => .int
  | 27 => .int
  | 28 => .int
  | 29 => .int
  | 30 => .int
  | 31 => .int
  | 32 => .int
  | 33 => .long
  | 34 => .array .long
  | 35 => .int
  | 36 => .int
  | 37 => .int
  | 38 => .int
  | 39 => .int
  | 40 => .array .int
  | 41 => .array .int
  | 42 => .array .int
  | 43 => .array .int
  | 44 => .array .int
  | 45 => .array .int
  | 46 => .array .int
  | 47 => .array .int
  | 48 => .array .int
  | 49 => .array .long
  | 50 => .array .int
  | 51 => .array .int
  | 52 => .int
  | 53 => .array .int
  | 54 => .int
  | 55 => .int
  | 56 => .array .boolean
  | 57 => .array .int
  | 58 => .array .int
  | 59 => .int
  | 60 => .int
  | 61 => .array .int
  | 62 => .array .int
  | 63 => .array .int
  | 64 => .array .int
  | 65 => .array .int
  | 66 => .array .int
  | 67 => .array .boolean
  | 68 => .array .boolean
  | 69 => .int
  | 70 => .array .int
  | 71 => .array .int
  | 72 => .array .int
  | 73 => .array .int
  | 74 => .array .int
  | 75 => .array .int
  | 76 => .int
  | 77 => .array .int
  | 78 => .array .int
  | 79 => .array .boolean
  | 80 => .int
  | 81 => .int
  | 82 => .array .int
  | 83 => .array .int
  | 84 => .array .int
  | 85 => .array .int
  | 86 => .array .int
  | 87 => .array .int
  | 88 => .array .int
  | 89 => .array .int
  | 90 => .array .int
  | 91 => .array .int
  | 92 => .array .int
  | 93 => .array .int
  | 94 => .array .int
  | 95 => .array .int
  | 96 => .array .int
  | 97 => .array .int
  | 98 => .int
  | 99 => .int
  | 100 => .int
  | 101 => .array .int
  | 102 => .array .int
  | 103 => .array .int
  | 104 => .array .int
  | 105 => .array .int
  | 106 => .array .int
  | 107 => .array .int
  | 108 => .array .int
  | 109 => .array .int
  | 110 => .array .int
  | 111 => .int
  | 112 => .array .int
  | 113 => .int
  | 114 => .array .int
  | 115 => .array .int
  | _ => .array .int
abbrev wsX40 : List Cond := u_ws RX4 TX4 117
set_option maxRecDepth 100000 in
theorem nmX4 : ∀ a, a < 117 → ∀ b, b < 117 → a ≠ b → (TX4 a).2.1 ≠ (TX4 b).2.1 := by decide +kernel
set_option maxRecDepth 100000 in
theorem tyX4_ok : ∀ k, k < 117 → parseFieldDescriptor (TX4 k).2.2.1 = some (tyX4 k) := by decide +kernel
theorem in_X4 : ∀ w ∈ wsX40, w ∈ lw_all := lw_in wsX40 [2291, 2293, 2295, 2297, 2299, 2301, 2303, 2305, 2307, 2309, 2311, 2313, 2315, 2317, 2319, 2321, 2323, 2325, 2327, 2329, 2331, 2333, 2335, 2337, 2339, 2341, 2343, 2345, 2347, 2349, 2351, 2353, 2355, 2357, 2359, 2361, 2363, 2365, 2367, 2369, 2371, 2373, 2375, 2377, 2379, 2381, 2383, 2385, 2387, 2389, 2391, 2393, 2395, 2397, 2399, 2401, 2403, 2405, 2407, 2409, 2411, 2413, 2415, 2417, 2419, 2421, 2423, 2425, 2427, 2429, 2431, 2433, 2435, 2437, 2439, 2441, 2443, 2445, 2447, 2449, 2451, 2453, 2455, 2457, 2459, 2461, 2463, 2465, 2467, 2469, 2471, 2473, 2475, 2477, 2479, 2481, 2483, 2485, 2487, 2489, 2491, 2493, 2495, 2497, 2499, 2501, 2503, 2505, 2507, 2509, 2511, 2513, 2515, 2517, 2519, 2521, 2523] (by decide +kernel) (by decide +kernel)
def RX5 : String := "FlyingDoctors$Place"
def TX5 : u_T := fun k => match k with
  | 0 => ("FlyingDoctors$Place", "number", "I", true)
  | 1 => ("FlyingDoctors$Place", "x", "I", true)
  | 2 => ("FlyingDoctors$Place", "y", "I", true)
  | 3 => ("FlyingDoctors$Place", "strip", "I", true)
  | 4 => ("FlyingDoctors$Place", "lamps", "Z", true)
  | 5 => ("FlyingDoctors$Place", "base", "Z", true)
  | 6 => ("FlyingDoctors$Place", "chest", "[I", true)
  | 7 => ("FlyingDoctors$Place", "drums", "I", false)
  | 8 => ("FlyingDoctors$Place", "hours", "I", false)
  | _ => ("FlyingDoctors$Place", "range", "I", false)
def tyX5 : Nat → FieldType := fun k => match k with
  | 0 => .int
  | 1 => .int
  | 2 => .int
  | 3 => .int
  | 4 => .boolean
  | 5 => .boolean
  | 6 => .array .int
  | 7 => .int
  | 8 => .int
  | _ => .int
abbrev wsX50 : List Cond := u_ws RX5 TX5 10
theorem nmX5 : ∀ a, a < 10 → ∀ b, b < 10 → a ≠ b → (TX5 a).2.1 ≠ (TX5 b).2.1 := by decide +kernel
theorem tyX5_ok : ∀ k, k < 10 → parseFieldDescriptor (TX5 k).2.2.1 = some (tyX5 k) := by decide +kernel
theorem in_X5 : ∀ w ∈ wsX50, w ∈ lw_all := lw_in wsX50 [400, 402, 404, 406, 408, 410, 412, 414, 416, 418] (by decide +kernel) (by decide +kernel)
def RX6 : String := "FlyingDoctors$Plane"
def TX6 : u_T := fun k => match k with
  | 0 => ("FlyingDoctors$Plane", "pace", "I", true)
  | 1 => ("FlyingDoctors$Plane", "tank", "I", true)
  | 2 => ("FlyingDoctors$Plane", "thirst", "I", true)
  | 3 => ("FlyingDoctors$Plane", "needs", "I", true)
  | 4 => ("FlyingDoctors$Plane", "first", "LFlyingDoctors$Place;", true)
  | 5 => ("FlyingDoctors$Plane", "place", "LFlyingDoctors$Place;", false)
  | 6 => ("FlyingDoctors$Plane", "fuel", "I", false)
  | _ => ("FlyingDoctors$Plane", "over", "I", false)
def tyX6 : Nat → FieldType := fun k => match k with
  | 0 => .int
  | 1 => .int
  | 2 => .int
  | 3 => .int
  | 4 => .object "FlyingDoctors$Place"
  | 5 => .object "FlyingDoctors$Place"
  | 6 => .int
  | _ => .int
abbrev wsX60 : List Cond := u_ws RX6 TX6 8
theorem nmX6 : ∀ a, a < 8 → ∀ b, b < 8 → a ≠ b → (TX6 a).2.1 ≠ (TX6 b).2.1 := by decide +kernel
theorem tyX6_ok : ∀ k, k < 8 → parseFieldDescriptor (TX6 k).2.2.1 = some (tyX6 k) := by decide +kernel
theorem in_X6 : ∀ w ∈ wsX60, w ∈ lw_all := lw_in wsX60 [546, 548, 550, 552, 554, 556, 558, 560] (by decide +kernel) (by decide +kernel)
def RX7 : String := "FlyingDoctors$Person"
def TX7 : u_T := fun k => match k with
  | 0 => ("FlyingDoctors$Person", "number", "I", true)
  | 1 => ("FlyingDoctors$Person", "kind", "I", true)
  | 2 => ("FlyingDoctors$Person", "first", "LFlyingDoctors$Place;", true)
  | 3 => ("FlyingDoctors$Person", "place", "LFlyingDoctors$Place;", false)
  | 4 => ("FlyingDoctors$Person", "over", "I", false)
  | _ => ("FlyingDoctors$Person", "flew", "Z", false)
def tyX7 : Nat → FieldType := fun k => match k with
  | 0 => .int
  | 1 => .int
  | 2 => .object "FlyingDoctors$Place"
  | 3 => .object "FlyingDoctors$Place"
  | 4 => .int
  | _ => .boolean
abbrev wsX70 : List Cond := u_ws RX7 TX7 6
theorem nmX7 : ∀ a, a < 6 → ∀ b, b < 6 → a ≠ b → (TX7 a).2.1 ≠ (TX7 b).2.1 := by decide +kernel
theorem tyX7_ok : ∀ k, k < 6 → parseFieldDescriptor (TX7 k).2.2.1 = some (tyX7 k) := by decide +kernel
theorem in_X7 : ∀ w ∈ wsX70, w ∈ lw_all := lw_in wsX70 [583, 585, 587, 589, 591, 593] (by decide +kernel) (by decide +kernel)
def RX8 : String := "FlyingDoctors$Reader"
def TX8 : u_T := fun k => match k with
  | 0 => ("FlyingDoctors$Reader", "size", "I", true)
  | 1 => ("FlyingDoctors$Reader", "fresh", "Ljava/util/List;", true)
  | 2 => ("FlyingDoctors$Reader", "named", "Ljava/util/List;", true)
  | 3 => ("FlyingDoctors$Reader", "at", "I", false)
  | 4 => ("FlyingDoctors$Reader", "token", "I", false)
  | 5 => ("FlyingDoctors$Reader", "begins", "I", false)
  | 6 => ("FlyingDoctors$Reader", "ends", "I", false)
  | 7 => ("FlyingDoctors$Reader", "number", "I", false)
  | 8 => ("FlyingDoctors$Reader", "clauses", "I", false)
  | _ => ("FlyingDoctors$Reader", "this$0", "LFlyingDoctors;", true)
def tyX8 : Nat → FieldType := fun k => match k with
  | 0 => .int
  | 1 => .object "java/util/List"
  | 2 => .object "java/util/List"
  | 3 => .int
  | 4 => .int
  | 5 => .int
  | 6 => .int
  | 7 => .int
  | 8 => .int
  | _ => .object "FlyingDoctors"
abbrev wsX80 : List Cond := u_ws RX8 TX8 10
theorem nmX8 : ∀ a, a < 10 → ∀ b, b < 10 → a ≠ b → (TX8 a).2.1 ≠ (TX8 b).2.1 := by decide +kernel
theorem tyX8_ok : ∀ k, k < 10 → parseFieldDescriptor (TX8 k).2.2.1 = some (tyX8 k) := by decide +kernel
theorem in_X8 : ∀ w ∈ wsX80, w ∈ lw_all := lw_in wsX80 [800, 802, 804, 806, 808, 810, 812, 814, 816, 818] (by decide +kernel) (by decide +kernel)
def RX9 : String := "FlyingDoctors$Wrong"
def TX9 : u_T := fun k => match k with
  | 0 => ("java/lang/Throwable", "cause", "Ljava/lang/Throwable;", false)
  | 1 => ("java/lang/Throwable", "stackTrace", "[Ljava/lang/StackTraceElement;", false)
  | 2 => ("java/lang/Throwable", "suppressedExceptions", "Ljava/util/List;", false)
  | 3 => ("java/lang/Throwable", "detailMessage", "Ljava/lang/String;", false)
  | 4 => ("java/lang/Throwable", "backtrace", "Ljava/lang/Object;", false)
  | 5 => ("java/lang/Throwable", "depth", "I", false)
  | _ => ("FlyingDoctors$Wrong", "kind", "I", true)
def tyX9 : Nat → FieldType := fun k => match k with
  | 0 => .object "java/lang/Throwable"
  | 1 => .array (.object "java/lang/StackTraceElement")
  | 2 => .object "java/util/List"
  | 3 => .object "java/lang/String"
  | 4 => .object "java/lang/Object"
  | 5 => .int
  | _ => .int
abbrev wsX90 : List Cond := u_ws RX9 TX9 7
theorem nmX9 : ∀ a, a < 7 → ∀ b, b < 7 → a ≠ b → (TX9 a).2.1 ≠ (TX9 b).2.1 := by decide +kernel
theorem tyX9_ok : ∀ k, k < 7 → parseFieldDescriptor (TX9 k).2.2.1 = some (tyX9 k) := by decide +kernel
theorem in_X9 : ∀ w ∈ wsX90, w ∈ lw_all := lw_in wsX90 [969, 970, 971, 972, 973, 987, 985] (by decide +kernel) (by decide +kernel)
def RX11 : String := "FlyingDoctors$Chain"
def TX11 : u_T := fun k => match k with
  | 0 => ("FlyingDoctors$Chain", "parts", "Ljava/util/List;", true)
  | _ => ("FlyingDoctors$Chain", "signs", "Ljava/lang/StringBuilder;", true)
def tyX11 : Nat → FieldType := fun k => match k with
  | 0 => .object "java/util/List"
  | _ => .object "java/lang/StringBuilder"
abbrev wsX110 : List Cond := u_ws RX11 TX11 2
theorem nmX11 : ∀ a, a < 2 → ∀ b, b < 2 → a ≠ b → (TX11 a).2.1 ≠ (TX11 b).2.1 := by decide +kernel
theorem tyX11_ok : ∀ k, k < 2 → parseFieldDescriptor (TX11 k).2.2.1 = some (tyX11 k) := by decide +kernel
theorem in_X11 : ∀ w ∈ wsX110, w ∈ lw_all := lw_in wsX110 [1406, 1408] (by decide +kernel) (by decide +kernel)
def RX12 : String := "FlyingDoctors$Number"
def TX12 : u_T := fun k => match k with
  | _ => ("FlyingDoctors$Number", "n", "I", true)
def tyX12 : Nat → FieldType := fun k => match k with
  | _ => .int
abbrev wsX120 : List Cond := u_ws RX12 TX12 1
theorem nmX12 : ∀ a, a < 1 → ∀ b, b < 1 → a ≠ b → (TX12 a).2.1 ≠ (TX12 b).2.1 := by decide +kernel
theorem tyX12_ok : ∀ k, k < 1 → parseFieldDescriptor (TX12 k).2.2.1 = some (tyX12 k) := by decide +kernel
theorem in_X12 : ∀ w ∈ wsX120, w ∈ lw_all := lw_in wsX120 [1339] (by decide +kernel) (by decide +kernel)
def RX13 : String := "FlyingDoctors$Value"
def TX13 : u_T := fun k => match k with
  | _ => ("FlyingDoctors$Value", "which", "I", true)
def tyX13 : Nat → FieldType := fun k => match k with
  | _ => .int
abbrev wsX130 : List Cond := u_ws RX13 TX13 1
theorem nmX13 : ∀ a, a < 1 → ∀ b, b < 1 → a ≠ b → (TX13 a).2.1 ≠ (TX13 b).2.1 := by decide +kernel
theorem tyX13_ok : ∀ k, k < 1 → parseFieldDescriptor (TX13 k).2.2.1 = some (tyX13 k) := by decide +kernel
theorem in_X13 : ∀ w ∈ wsX130, w ∈ lw_all := lw_in wsX130 [1353] (by decide +kernel) (by decide +kernel)
def RX14 : String := "FlyingDoctors$Param"
def TX14 : u_T := fun k => match k with
  | _ => ("FlyingDoctors$Param", "which", "I", true)
def tyX14 : Nat → FieldType := fun k => match k with
  | _ => .int
abbrev wsX140 : List Cond := u_ws RX14 TX14 1
theorem nmX14 : ∀ a, a < 1 → ∀ b, b < 1 → a ≠ b → (TX14 a).2.1 ≠ (TX14 b).2.1 := by decide +kernel
theorem tyX14_ok : ∀ k, k < 1 → parseFieldDescriptor (TX14 k).2.2.1 = some (tyX14 k) := by decide +kernel
theorem in_X14 : ∀ w ∈ wsX140, w ∈ lw_all := lw_in wsX140 [1363] (by decide +kernel) (by decide +kernel)
def RX15 : String := "FlyingDoctors$Said"
def TX15 : u_T := fun k => match k with
  | _ => ("FlyingDoctors$Said", "word", "I", true)
def tyX15 : Nat → FieldType := fun k => match k with
  | _ => .int
abbrev wsX150 : List Cond := u_ws RX15 TX15 1
theorem nmX15 : ∀ a, a < 1 → ∀ b, b < 1 → a ≠ b → (TX15 a).2.1 ≠ (TX15 b).2.1 := by decide +kernel
theorem tyX15_ok : ∀ k, k < 1 → parseFieldDescriptor (TX15 k).2.2.1 = some (tyX15 k) := by decide +kernel
theorem in_X15 : ∀ w ∈ wsX150, w ∈ lw_all := lw_in wsX150 [1391] (by decide +kernel) (by decide +kernel)
def RX16 : String := "FlyingDoctors$Not"
def TX16 : u_T := fun k => match k with
  | _ => ("FlyingDoctors$Not", "e", "LFlyingDoctors$Ex;", true)
def tyX16 : Nat → FieldType := fun k => match k with
  | _ => .object "FlyingDoctors$Ex"
abbrev wsX160 : List Cond := u_ws RX16 TX16 1
theorem nmX16 : ∀ a, a < 1 → ∀ b, b < 1 → a ≠ b → (TX16 a).2.1 ≠ (TX16 b).2.1 := by decide +kernel
theorem tyX16_ok : ∀ k, k < 1 → parseFieldDescriptor (TX16 k).2.2.1 = some (tyX16 k) := by decide +kernel
theorem in_X16 : ∀ w ∈ wsX160, w ∈ lw_all := lw_in wsX160 [1423] (by decide +kernel) (by decide +kernel)
def RX17 : String := "FlyingDoctors$Dose"
def TX17 : u_T := fun k => match k with
  | 0 => ("FlyingDoctors$Dose", "number", "I", true)
  | 1 => ("FlyingDoctors$Dose", "who", "I", true)
  | _ => ("FlyingDoctors$Dose", "when", "LFlyingDoctors$Ex;", false)
def tyX17 : Nat → FieldType := fun k => match k with
  | 0 => .int
  | 1 => .int
  | _ => .object "FlyingDoctors$Ex"
abbrev wsX170 : List Cond := u_ws RX17 TX17 3
theorem nmX17 : ∀ a, a < 3 → ∀ b, b < 3 → a ≠ b → (TX17 a).2.1 ≠ (TX17 b).2.1 := by decide +kernel
theorem tyX17_ok : ∀ k, k < 3 → parseFieldDescriptor (TX17 k).2.2.1 = some (tyX17 k) := by decide +kernel
theorem in_X17 : ∀ w ∈ wsX170, w ∈ lw_all := lw_in wsX170 [1445, 1447, 1449] (by decide +kernel) (by decide +kernel)
def RX18 : String := "FlyingDoctors$Told"
def TX18 : u_T := fun k => match k with
  | 0 => ("FlyingDoctors$Told", "of", "I", true)
  | 1 => ("FlyingDoctors$Told", "day", "I", true)
  | 2 => ("FlyingDoctors$Told", "value", "I", true)
  | _ => ("FlyingDoctors$Told", "told", "I", true)
def tyX18 : Nat → FieldType := fun k => match k with
  | 0 => .int
  | 1 => .int
  | 2 => .int
  | _ => .int
abbrev wsX180 : List Cond := u_ws RX18 TX18 4
theorem nmX18 : ∀ a, a < 4 → ∀ b, b < 4 → a ≠ b → (TX18 a).2.1 ≠ (TX18 b).2.1 := by decide +kernel
theorem tyX18_ok : ∀ k, k < 4 → parseFieldDescriptor (TX18 k).2.2.1 = some (tyX18 k) := by decide +kernel
theorem in_X18 : ∀ w ∈ wsX180, w ∈ lw_all := lw_in wsX180 [1516, 1518, 1520, 1522] (by decide +kernel) (by decide +kernel)
def RX19 : String := "FlyingDoctors$Call"
def TX19 : u_T := fun k => match k with
  | 0 => ("FlyingDoctors$Call", "number", "I", true)
  | 1 => ("FlyingDoctors$Call", "words", "I", true)
  | 2 => ("FlyingDoctors$Call", "told", "I", true)
  | 3 => ("FlyingDoctors$Call", "heard", "I", true)
  | 4 => ("FlyingDoctors$Call", "place", "LFlyingDoctors$Place;", true)
  | 5 => ("FlyingDoctors$Call", "rank", "I", false)
  | _ => ("FlyingDoctors$Call", "this$0", "LFlyingDoctors;", true)
def tyX19 : Nat → FieldType := fun k => match k with
  | 0 => .int
  | 1 => .int
  | 2 => .int
  | 3 => .int
  | 4 => .object "FlyingDoctors$Place"
  | 5 => .int
  | _ => .object "FlyingDoctors"
abbrev wsX190 : List Cond := u_ws RX19 TX19 7
theorem nmX19 : ∀ a, a < 7 → ∀ b, b < 7 → a ≠ b → (TX19 a).2.1 ≠ (TX19 b).2.1 := by decide +kernel
theorem tyX19_ok : ∀ k, k < 7 → parseFieldDescriptor (TX19 k).2.2.1 = some (tyX19 k) := by decide +kernel
theorem in_X19 : ∀ w ∈ wsX190, w ∈ lw_all := lw_in wsX190 [1683, 1685, 1687, 1689, 1691, 1693, 1695] (by decide +kernel) (by decide +kernel)
def RX20 : String := "FlyingDoctors$Flight"
def TX20 : u_T := fun k => match k with
  | 0 => ("FlyingDoctors$Flight", "plane", "LFlyingDoctors$Plane;", true)
  | 1 => ("FlyingDoctors$Flight", "pilot", "LFlyingDoctors$Person;", true)
  | 2 => ("FlyingDoctors$Flight", "legs", "I", true)
  | 3 => ("FlyingDoctors$Flight", "to", "[LFlyingDoctors$Place;", true)
  | 4 => ("FlyingDoctors$Flight", "leaves", "[I", true)
  | 5 => ("FlyingDoctors$Flight", "comes", "[I", true)
  | 6 => ("FlyingDoctors$Flight", "fuel", "[I", true)
  | 7 => ("FlyingDoctors$Flight", "taken", "[I", true)
  | 8 => ("FlyingDoctors$Flight", "flown", "[I", true)
  | 9 => ("FlyingDoctors$Flight", "aboard", "[I", true)
  | 10 => ("FlyingDoctors$Flight", "after", "[I", true)
  | 11 => ("FlyingDoctors$Flight", "from", "LFlyingDoctors$Place;", false)
  | _ => ("FlyingDoctors$Flight", "this$0", "LFlyingDoctors;", true)
def tyX20 : Nat → FieldType := fun k => match k with
  | 0 => .object "FlyingDoctors$Plane"
  | 1 => .object "FlyingDoctors$Person"
  | 2 => .int
  | 3 => .array (.object "FlyingDoctors$Place")
  | 4 => .array .int
  | 5 => .array .int
  | 6 => .array .int
  | 7 => .array .int
  | 8 => .array .int
  | 9 => .array .int
  | 10 => .array .int
  | 11 => .object "FlyingDoctors$Place"
  | _ => .object "FlyingDoctors"
abbrev wsX200 : List Cond := u_ws RX20 TX20 13
set_option maxRecDepth 100000 in
theorem nmX20 : ∀ a, a < 13 → ∀ b, b < 13 → a ≠ b → (TX20 a).2.1 ≠ (TX20 b).2.1 := by decide +kernel
set_option maxRecDepth 100000 in
theorem tyX20_ok : ∀ k, k < 13 → parseFieldDescriptor (TX20 k).2.2.1 = some (tyX20 k) := by decide +kernel
theorem in_X20 : ∀ w ∈ wsX200, w ∈ lw_all := lw_in wsX200 [1852, 1854, 1856, 1858, 1860, 1862, 1864, 1866, 1868, 1870, 1872, 1874, 1876] (by decide +kernel) (by decide +kernel)
def RX21 : String := "FlyingDoctors$Clinic"
def TX21 : u_T := fun k => match k with
  | 0 => ("FlyingDoctors$Clinic", "place", "LFlyingDoctors$Place;", true)
  | 1 => ("FlyingDoctors$Clinic", "day", "I", true)
  | _ => ("FlyingDoctors$Clinic", "quarters", "I", true)
def tyX21 : Nat → FieldType := fun k => match k with
  | 0 => .object "FlyingDoctors$Place"
  | 1 => .int
  | _ => .int
abbrev wsX210 : List Cond := u_ws RX21 TX21 3
theorem nmX21 : ∀ a, a < 3 → ∀ b, b < 3 → a ≠ b → (TX21 a).2.1 ≠ (TX21 b).2.1 := by decide +kernel
theorem tyX21_ok : ∀ k, k < 3 → parseFieldDescriptor (TX21 k).2.2.1 = some (tyX21 k) := by decide +kernel
theorem in_X21 : ∀ w ∈ wsX210, w ∈ lw_all := lw_in wsX210 [629, 631, 633] (by decide +kernel) (by decide +kernel)
def RX22 : String := "FlyingDoctors$Rounds"
def TX22 : u_T := fun k => match k with
  | 0 => ("FlyingDoctors$Rounds", "plane", "LFlyingDoctors$Plane;", true)
  | 1 => ("FlyingDoctors$Rounds", "base", "LFlyingDoctors$Place;", true)
  | 2 => ("FlyingDoctors$Rounds", "n", "I", true)
  | 3 => ("FlyingDoctors$Rounds", "least", "[[I", true)
  | 4 => ("FlyingDoctors$Rounds", "round", "[I", true)
  | 5 => ("FlyingDoctors$Rounds", "price", "[[I", true)
  | 6 => ("FlyingDoctors$Rounds", "cost", "[[I", true)
  | _ => ("FlyingDoctors$Rounds", "this$0", "LFlyingDoctors;", true)
def tyX22 : Nat → FieldType := fun k => match k with
  | 0 => .object "FlyingDoctors$Plane"
  | 1 => .object "FlyingDoctors$Place"
  | 2 => .int
  | 3 => .array (.array .int)
  | 4 => .array .int
  | 5 => .array (.array .int)
  | 6 => .array (.array .int)
  | _ => .object "FlyingDoctors"
abbrev wsX220 : List Cond := u_ws RX22 TX22 8
theorem nmX22 : ∀ a, a < 8 → ∀ b, b < 8 → a ≠ b → (TX22 a).2.1 ≠ (TX22 b).2.1 := by decide +kernel
theorem tyX22_ok : ∀ k, k < 8 → parseFieldDescriptor (TX22 k).2.2.1 = some (tyX22 k) := by decide +kernel
theorem in_X22 : ∀ w ∈ wsX220, w ∈ lw_all := lw_in wsX220 [2022, 2024, 2026, 2028, 2030, 2032, 2034, 2036] (by decide +kernel) (by decide +kernel)
def RX23 : String := "FlyingDoctors$Gift"
def TX23 : u_T := fun k => match k with
  | 0 => ("FlyingDoctors$Gift", "purpose", "I", true)
  | 1 => ("FlyingDoctors$Gift", "until", "I", true)
  | _ => ("FlyingDoctors$Gift", "pence", "I", false)
def tyX23 : Nat → FieldType := fun k => match k with
  | 0 => .int
  | 1 => .int
  | _ => .int
abbrev wsX230 : List Cond := u_ws RX23 TX23 3
theorem nmX23 : ∀ a, a < 3 → ∀ b, b < 3 → a ≠ b → (TX23 a).2.1 ≠ (TX23 b).2.1 := by decide +kernel
theorem tyX23_ok : ∀ k, k < 3 → parseFieldDescriptor (TX23 k).2.2.1 = some (tyX23 k) := by decide +kernel
theorem in_X23 : ∀ w ∈ wsX230, w ∈ lw_all := lw_in wsX230 [653, 655, 657] (by decide +kernel) (by decide +kernel)
def RJ2 : String := "java/util/ArrayList"
def TJ2 : u_T := fun k => match k with
  | 0 => ("java/util/AbstractList", "modCount", "I", false)
  | 1 => ("java/util/ArrayList", "elementData", "[Ljava/lang/Object;", false)
  | _ => ("java/util/ArrayList", "size", "I", false)
def tyJ2 : Nat → FieldType := fun k => match k with
  | 0 => .int
  | 1 => .array (.object "java/lang/Object")
  | _ => .int
abbrev wsJ20 : List Cond := u_ws RJ2 TJ2 3
theorem nmJ2 : ∀ a, a < 3 → ∀ b, b < 3 → a ≠ b → (TJ2 a).2.1 ≠ (TJ2 b).2.1 := by decide +kernel
theorem tyJ2_ok : ∀ k, k < 3 → parseFieldDescriptor (TJ2 k).2.2.1 = some (tyJ2 k) := by decide +kernel
theorem in_J2 : ∀ w ∈ wsJ20, w ∈ lw_all := lw_in wsJ20 [207, 203, 205] (by decide +kernel) (by decide +kernel)
def RJ11 : String := "java/util/NoSuchElementException"
def TJ11 : u_T := fun k => match k with
  | 0 => ("java/lang/Throwable", "cause", "Ljava/lang/Throwable;", false)
  | 1 => ("java/lang/Throwable", "stackTrace", "[Ljava/lang/StackTraceElement;", false)
  | 2 => ("java/lang/Throwable", "suppressedExceptions", "Ljava/util/List;", false)
  | 3 => ("java/lang/Throwable", "detailMessage", "Ljava/lang/String;", false)
  | 4 => ("java/lang/Throwable", "backtrace", "Ljava/lang/Object;", false)
  | _ => ("java/lang/Throwable", "depth", "I", false)
def tyJ11 : Nat → FieldType := fun k => match k with
  | 0 => .object "java/lang/Throwable"
  | 1 => .array (.object "java/lang/StackTraceElement")
  | 2 => .object "java/util/List"
  | 3 => .object "java/lang/String"
  | 4 => .object "java/lang/Object"
  | _ => .int
abbrev wsJ110 : List Cond := u_ws RJ11 TJ11 6
theorem nmJ11 : ∀ a, a < 6 → ∀ b, b < 6 → a ≠ b → (TJ11 a).2.1 ≠ (TJ11 b).2.1 := by decide +kernel
theorem tyJ11_ok : ∀ k, k < 6 → parseFieldDescriptor (TJ11 k).2.2.1 = some (tyJ11 k) := by decide +kernel
theorem in_J11 : ∀ w ∈ wsJ110, w ∈ lw_all := lw_in wsJ110 [700, 702, 704, 706, 708, 750] (by decide +kernel) (by decide +kernel)
def RJ12 : String := "java/lang/IllegalArgumentException"
def TJ12 : u_T := fun k => match k with
  | 0 => ("java/lang/Throwable", "cause", "Ljava/lang/Throwable;", false)
  | 1 => ("java/lang/Throwable", "stackTrace", "[Ljava/lang/StackTraceElement;", false)
  | 2 => ("java/lang/Throwable", "suppressedExceptions", "Ljava/util/List;", false)
  | 3 => ("java/lang/Throwable", "detailMessage", "Ljava/lang/String;", false)
  | 4 => ("java/lang/Throwable", "backtrace", "Ljava/lang/Object;", false)
  | _ => ("java/lang/Throwable", "depth", "I", false)
def tyJ12 : Nat → FieldType := fun k => match k with
  | 0 => .object "java/lang/Throwable"
  | 1 => .array (.object "java/lang/StackTraceElement")
  | 2 => .object "java/util/List"
  | 3 => .object "java/lang/String"
  | 4 => .object "java/lang/Object"
  | _ => .int
abbrev wsJ120 : List Cond := u_ws RJ12 TJ12 6
theorem nmJ12 : ∀ a, a < 6 → ∀ b, b < 6 → a ≠ b → (TJ12 a).2.1 ≠ (TJ12 b).2.1 := by decide +kernel
theorem tyJ12_ok : ∀ k, k < 6 → parseFieldDescriptor (TJ12 k).2.2.1 = some (tyJ12 k) := by decide +kernel
theorem in_J12 : ∀ w ∈ wsJ120, w ∈ lw_all := lw_in wsJ120 [761, 762, 763, 764, 765, 770] (by decide +kernel) (by decide +kernel)
def RJ13 : String := "java/lang/String"
def TJ13 : u_T := fun k => match k with
  | 0 => ("java/lang/String", "value", "[B", true)
  | 1 => ("java/lang/String", "coder", "B", true)
  | 2 => ("java/lang/String", "hash", "I", false)
  | _ => ("java/lang/String", "hashIsZero", "Z", false)
def tyJ13 : Nat → FieldType := fun k => match k with
  | 0 => .array .byte
  | 1 => .byte
  | 2 => .int
  | _ => .boolean
abbrev wsJ130 : List Cond := u_ws RJ13 TJ13 4
theorem nmJ13 : ∀ a, a < 4 → ∀ b, b < 4 → a ≠ b → (TJ13 a).2.1 ≠ (TJ13 b).2.1 := by decide +kernel
theorem tyJ13_ok : ∀ k, k < 4 → parseFieldDescriptor (TJ13 k).2.2.1 = some (tyJ13 k) := by decide +kernel
theorem in_J13 : ∀ w ∈ wsJ130, w ∈ lw_all := lw_in wsJ130 [1221, 1223, 1225, 1227] (by decide +kernel) (by decide +kernel)
def RJ18 : String := "java/lang/StringBuilder"
def TJ18 : u_T := fun k => match k with
  | 0 => ("java/lang/AbstractStringBuilder", "value", "[B", false)
  | 1 => ("java/lang/AbstractStringBuilder", "coder", "B", false)
  | 2 => ("java/lang/AbstractStringBuilder", "maybeLatin1", "Z", false)
  | _ => ("java/lang/AbstractStringBuilder", "count", "I", false)
def tyJ18 : Nat → FieldType := fun k => match k with
  | 0 => .array .byte
  | 1 => .byte
  | 2 => .boolean
  | _ => .int
abbrev wsJ180 : List Cond := u_ws RJ18 TJ18 4
theorem nmJ18 : ∀ a, a < 4 → ∀ b, b < 4 → a ≠ b → (TJ18 a).2.1 ≠ (TJ18 b).2.1 := by decide +kernel
theorem tyJ18_ok : ∀ k, k < 4 → parseFieldDescriptor (TJ18 k).2.2.1 = some (tyJ18 k) := by decide +kernel
theorem in_J18 : ∀ w ∈ wsJ180, w ∈ lw_all := lw_in wsJ180 [1032, 1034, 1036, 1038] (by decide +kernel) (by decide +kernel)
def RJ20 : String := "java/lang/IllegalStateException"
def TJ20 : u_T := fun k => match k with
  | 0 => ("java/lang/Throwable", "cause", "Ljava/lang/Throwable;", false)
  | 1 => ("java/lang/Throwable", "stackTrace", "[Ljava/lang/StackTraceElement;", false)
  | 2 => ("java/lang/Throwable", "suppressedExceptions", "Ljava/util/List;", false)
  | 3 => ("java/lang/Throwable", "detailMessage", "Ljava/lang/String;", false)
  | 4 => ("java/lang/Throwable", "backtrace", "Ljava/lang/Object;", false)
  | _ => ("java/lang/Throwable", "depth", "I", false)
def tyJ20 : Nat → FieldType := fun k => match k with
  | 0 => .object "java/lang/Throwable"
  | 1 => .array (.object "java/lang/StackTraceElement")
  | 2 => .object "java/util/List"
  | 3 => .object "java/lang/String"
  | 4 => .object "java/lang/Object"
  | _ => .int
abbrev wsJ200 : List Cond := u_ws RJ20 TJ20 6
theorem nmJ20 : ∀ a, a < 6 → ∀ b, b < 6 → a ≠ b → (TJ20 a).2.1 ≠ (TJ20 b).2.1 := by decide +kernel
theorem tyJ20_ok : ∀ k, k < 6 → parseFieldDescriptor (TJ20 k).2.2.1 = some (tyJ20 k) := by decide +kernel
theorem in_J20 : ∀ w ∈ wsJ200, w ∈ lw_all := lw_in wsJ200 [1738, 1739, 1740, 1741, 1742, 1747] (by decide +kernel) (by decide +kernel)
abbrev wsJ13c : List Cond := u_ws RJ13 TJ13 2
theorem nmJ13c : ∀ a, a < 2 → ∀ b, b < 2 → a ≠ b → (TJ13 a).2.1 ≠ (TJ13 b).2.1 := by decide +kernel
theorem tyJ13c_ok : ∀ k, k < 2 → parseFieldDescriptor (TJ13 k).2.2.1 = some (tyJ13 k) := by decide +kernel
theorem in_J13c : ∀ w ∈ wsJ13c, w ∈ lw_all := by
  intro w h
  have h2 : w = u_lay RJ13 TJ13 0 ∨ w = u_lay RJ13 TJ13 1 := by simpa [wsJ13c, u_ws, List.range, List.range.loop] using h
  refine in_J13 w ?_
  rcases h2 with rfl | rfl
  · exact u_in_lay (by decide)
  · exact u_in_lay (by decide)
theorem nmJ11z : ∀ a, a < 0 → ∀ b, b < 0 → a ≠ b → (TJ11 a).2.1 ≠ (TJ11 b).2.1 := fun a h => absurd h (Nat.not_lt_zero a)
theorem tyJ11z_ok : ∀ k, k < 0 → parseFieldDescriptor (TJ11 k).2.2.1 = some (tyJ11 k) := fun a h => absurd h (Nat.not_lt_zero a)
theorem in_J11z : ∀ w ∈ u_ws RJ11 TJ11 0, w ∈ lw_all := by
  intro w h
  simp [u_ws] at h
theorem nmJ12z : ∀ a, a < 0 → ∀ b, b < 0 → a ≠ b → (TJ12 a).2.1 ≠ (TJ12 b).2.1 := fun a h => absurd h (Nat.not_lt_zero a)
theorem tyJ12z_ok : ∀ k, k < 0 → parseFieldDescriptor (TJ12 k).2.2.1 = some (tyJ12 k) := fun a h => absurd h (Nat.not_lt_zero a)
theorem in_J12z : ∀ w ∈ u_ws RJ12 TJ12 0, w ∈ lw_all := by
  intro w h
  simp [u_ws] at h
theorem nmJ20z : ∀ a, a < 0 → ∀ b, b < 0 → a ≠ b → (TJ20 a).2.1 ≠ (TJ20 b).2.1 := fun a h => absurd h (Nat.not_lt_zero a)
theorem tyJ20z_ok : ∀ k, k < 0 → parseFieldDescriptor (TJ20 k).2.2.1 = some (tyJ20 k) := fun a h => absurd h (Nat.not_lt_zero a)
theorem in_J20z : ∀ w ∈ u_ws RJ20 TJ20 0, w ∈ lw_all := by
  intro w h
  simp [u_ws] at h
/-- the name of a numbered class -/
def cNm (k : Nat) : String := match k with
  | 1 => RX1
  | 2 => RX2
  | 3 => RX3
  | 4 => RX4
  | 5 => RX5
  | 6 => RX6
  | 7 => RX7
  | 8 => RX8
  | 9 => RX9
  | 11 => RX11
  | 12 => RX12
  | 13 => RX13
  | 14 => RX14
  | 15 => RX15
  | 16 => RX16
  | 17 => RX17
  | 18 => RX18
  | 19 => RX19
  | 20 => RX20
  | 21 => RX21
  | 22 => RX22
  | 23 => RX23
  | 32 => RJ2
  | 41 => RJ11
  | 42 => RJ12
  | 43 => RJ13
  | 48 => RJ18
  | 50 => RJ20
  | _ => ""
def cTb (k : Nat) : u_T := match k with
  | 1 => TX1
  | 2 => TX2
  | 3 => TX3
  | 4 => TX4
  | 5 => TX5
  | 6 => TX6
  | 7 => TX7
  | 8 => TX8
  | 9 => TX9
  | 11 => TX11
  | 12 => TX12
  | 13 => TX13
  | 14 => TX14
  | 15 => TX15
  | 16 => TX16
  | 17 => TX17
  | 18 => TX18
  | 19 => TX19
  | 20 => TX20
  | 21 => TX21
  | 22 => TX22
  | 23 => TX23
  | 32 => TJ2
  | 41 => TJ11
  | 42 => TJ12
  | 43 => TJ13
  | 48 => TJ18
  | 50 => TJ20
  | _ => TX5
def cNf (k : Nat) : Nat := match k with
  | 1 => 28
  | 2 => 5
  | 3 => 3
  | 4 => 117
  | 5 => 10
  | 6 => 8
  | 7 => 6
  | 8 => 10
  | 9 => 7
  | 11 => 2
  | 12 => 1
  | 13 => 1
  | 14 => 1
  | 15 => 1
  | 16 => 1
  | 17 => 3
  | 18 => 4
  | 19 => 7
  | 20 => 13
  | 21 => 3
  | 22 => 8
  | 23 => 3
  | 32 => 3
  | 41 => 0
  | 42 => 0
  | 43 => 2
  | 48 => 4
  | 50 => 0
  | _ => 0
def cTy (k : Nat) : Nat → FieldType := match k with
  | 1 => tyX1
  | 2 => tyX2
  | 3 => tyX3
  | 4 => tyX4
  | 5 => tyX5
  | 6 => tyX6
  | 7 => tyX7
  | 8 => tyX8
  | 9 => tyX9
  | 11 => tyX11
  | 12 => tyX12
  | 13 => tyX13
  | 14 => tyX14
  | 15 => tyX15
  | 16 => tyX16
  | 17 => tyX17
  | 18 => tyX18
  | 19 => tyX19
  | 20 => tyX20
  | 21 => tyX21
  | 22 => tyX22
  | 23 => tyX23
  | 32 => tyJ2
  | 41 => tyJ11
  | 42 => tyJ12
  | 43 => tyJ13
  | 48 => tyJ18
  | 50 => tyJ20
  | _ => tyX5
def cLs : List Nat := [1, 2, 3, 4, 5, 6, 7, 8, 9, 11, 12, 13, 14, 15, 16, 17, 18, 19, 20, 21, 22, 23, 32, 41, 42, 43, 48, 50]
theorem cIn : ∀ k ∈ cLs, ∀ w ∈ u_ws (cNm k) (cTb k) (cNf k), w ∈ lw_all := by
  intro k hk
  simp only [cLs, List.mem_cons, List.not_mem_nil, or_false] at hk
  rcases hk with rfl | rfl | rfl | rfl | rfl | rfl | rfl | rfl | rfl | rfl | rfl | rfl | rfl | rfl | rfl | rfl | rfl | rfl | rfl | rfl | rfl | rfl | rfl | rfl | rfl | rfl | rfl | rfl
  · exact in_X1
  · exact in_X2
  · exact in_X3
  · exact in_X4
  · exact in_X5
  · exact in_X6
  · exact in_X7
  · exact in_X8
  · exact in_X9
  · exact in_X11
  · exact in_X12
  · exact in_X13
  · exact in_X14
  · exact in_X15
  · exact in_X16
  · exact in_X17
  · exact in_X18
  · exact in_X19
  · exact in_X20
  · exact in_X21
  · exact in_X22
  · exact in_X23
  · exact in_J2
  · exact in_J11z
  · exact in_J12z
  · exact in_J13c
  · exact in_J18
  · exact in_J20z
theorem cNn : ∀ k ∈ cLs, ∀ a, a < cNf k → ∀ b, b < cNf k → a ≠ b → (cTb k a).2.1 ≠ (cTb k b).2.1 := by
  intro k hk
  simp only [cLs, List.mem_cons, List.not_mem_nil, or_false] at hk
  rcases hk with rfl | rfl | rfl | rfl | rfl | rfl | rfl | rfl | rfl | rfl | rfl | rfl | rfl | rfl | rfl | rfl | rfl | rfl | rfl | rfl | rfl | rfl | rfl | rfl | rfl | rfl | rfl | rfl
  · exact nmX1
  · exact nmX2
  · exact nmX3
  · exact nmX4
  · exact nmX5
  · exact nmX6
  · exact nmX7
  · exact nmX8
  · exact nmX9
  · exact nmX11
  · exact nmX12
  · exact nmX13
  · exact nmX14
  · exact nmX15
  · exact nmX16
  · exact nmX17
  · exact nmX18
  · exact nmX19
  · exact nmX20
  · exact nmX21
  · exact nmX22
  · exact nmX23
  · exact nmJ2
  · exact nmJ11z
  · exact nmJ12z
  · exact nmJ13c
  · exact nmJ18
  · exact nmJ20z
theorem cTo : ∀ k ∈ cLs, ∀ j, j < cNf k → parseFieldDescriptor (cTb k j).2.2.1 = some (cTy k j) := by
  intro k hk
  simp only [cLs, List.mem_cons, List.not_mem_nil, or_false] at hk
  rcases hk with rfl | rfl | rfl | rfl | rfl | rfl | rfl | rfl | rfl | rfl | rfl | rfl | rfl | rfl | rfl | rfl | rfl | rfl | rfl | rfl | rfl | rfl | rfl | rfl | rfl | rfl | rfl | rfl
  · exact tyX1_ok
  · exact tyX2_ok
  · exact tyX3_ok
  · exact tyX4_ok
  · exact tyX5_ok
  · exact tyX6_ok
  · exact tyX7_ok
  · exact tyX8_ok
  · exact tyX9_ok
  · exact tyX11_ok
  · exact tyX12_ok
  · exact tyX13_ok
  · exact tyX14_ok
  · exact tyX15_ok
  · exact tyX16_ok
  · exact tyX17_ok
  · exact tyX18_ok
  · exact tyX19_ok
  · exact tyX20_ok
  · exact tyX21_ok
  · exact tyX22_ok
  · exact tyX23_ok
  · exact tyJ2_ok
  · exact tyJ11z_ok
  · exact tyJ12z_ok
  · exact tyJ13c_ok
  · exact tyJ18_ok
  · exact tyJ20z_ok
/-- final fields of the two objects and of the asked one, once they are made: address, field, what it holds -/
def kFld : List (Nat × Nat × Nat) := [(50, 0, 51), (50, 1, 52), (50, 2, 53), (50, 4, 54), (50, 5, 55), (50, 6, 56), (50, 7, 57), (50, 8, 58), (50, 9, 59), (50, 10, 60), (50, 11, 61), (50, 12, 62), (50, 13, 63), (50, 14, 64), (50, 15, 65), (50, 16, 66), (70, 0, 71), (70, 1, 72), (50, 17, 70), (50, 18, 73), (50, 19, 74), (75, 5, 76), (75, 6, 77), (75, 7, 78), (75, 8, 79), (75, 9, 80), (75, 10, 81), (75, 11, 82), (75, 12, 83), (75, 13, 84), (75, 14, 85), (75, 15, 86), (75, 16, 87), (75, 17, 88), (75, 18, 89), (75, 19, 90), (75, 20, 91), (75, 21, 92), (75, 22, 93), (75, 34, 94), (75, 40, 95), (75, 41, 96), (75, 42, 97), (75, 43, 98), (75, 44, 99), (75, 45, 100), (75, 46, 101), (75, 47, 102), (75, 48, 103), (75, 49, 104), (75, 50, 105), (75, 51, 106), (75, 53, 107), (75, 56, 108), (75, 57, 109), (75, 58, 110), (75, 61, 111), (75, 62, 112), (75, 63, 113), (75, 64, 114), (75, 65, 115), (75, 66, 116), (75, 67, 117), (75, 68, 118), (75, 70, 119), (75, 71, 120), (75, 72, 121), (75, 73, 122), (75, 74, 123), (75, 75, 124), (75, 77, 125), (75, 78, 126), (75, 79, 127), (75, 82, 128), (75, 83, 129), (75, 84, 130), (75, 85, 131), (75, 86, 132), (75, 87, 133), (75, 88, 134), (75, 89, 135), (75, 90, 136), (75, 91, 137), (75, 92, 138), (75, 93, 139), (75, 94, 140), (75, 95, 141), (75, 96, 142), (75, 97, 143), (75, 101, 144), (75, 102, 145), (75, 103, 146), (75, 104, 147), (75, 105, 148), (75, 106, 149), (75, 107, 150), (75, 108, 151), (75, 109, 152), (75, 110, 153), (75, 112, 154), (75, 114, 155), (75, 115, 156), (75, 116, 157)]
/-- address, tag, length of all that the two constructors make, and of the law's own array -/
def kArr : List (Nat × Nat × Nat) := [(50, 1, 0), (51, 70, 12), (52, 70, 12), (53, 75, 12), (54, 32, 0), (55, 32, 0), (56, 32, 0), (57, 32, 0), (58, 32, 0), (59, 32, 0), (60, 32, 0), (61, 32, 0), (62, 32, 0), (63, 32, 0), (64, 32, 0), (65, 71, 800), (66, 2, 0), (67, 70, 5), (68, 32, 0), (69, 32, 0), (70, 3, 0), (71, 70, 10), (72, 70, 5), (73, 70, 8), (74, 76, 60), (75, 4, 0), (76, 70, 12), (77, 70, 12), (78, 70, 12), (79, 70, 12), (80, 70, 12), (81, 70, 6), (82, 70, 6), (83, 70, 6), (84, 70, 6), (85, 70, 6), (86, 70, 6), (87, 70, 6), (88, 70, 12), (89, 70, 12), (90, 70, 12), (91, 70, 12), (92, 70, 12), (93, 70, 800), (94, 73, 27), (95, 70, 12), (96, 70, 60), (97, 70, 12), (98, 70, 12), (99, 70, 360), (100, 70, 12), (101, 70, 360), (102, 70, 360), (103, 70, 360), (104, 73, 32), (105, 70, 12), (106, 70, 22000), (107, 70, 820), (108, 72, 9), (109, 70, 10), (110, 70, 820), (111, 70, 150), (112, 70, 150), (113, 70, 150), (114, 70, 150), (115, 70, 12), (116, 70, 12), (117, 72, 12), (118, 72, 12), (119, 70, 60), (120, 70, 60), (121, 70, 60), (122, 70, 60), (123, 70, 60), (124, 70, 60), (125, 70, 150), (126, 70, 150), (127, 72, 150), (128, 70, 60), (129, 70, 60), (130, 70, 60), (131, 70, 60), (132, 70, 60), (133, 70, 60), (134, 70, 60), (135, 70, 60), (136, 70, 420), (137, 70, 420), (138, 70, 420), (139, 70, 420), (140, 70, 420), (141, 70, 420), (142, 70, 420), (143, 70, 12), (144, 70, 8), (145, 70, 8), (146, 70, 8), (147, 70, 8), (148, 70, 256), (149, 70, 2048), (150, 70, 1792), (151, 70, 1792), (152, 70, 6), (153, 70, 6), (154, 70, 372), (155, 70, 12), (156, 70, 12), (157, 70, 12), (158, 73, 1)]
