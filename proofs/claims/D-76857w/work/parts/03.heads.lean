/-! 03: the heads of the claim's names: classes, fields, types (starting text: claim/names), then the list of classes -/
set_option maxRecDepth 100000
def RX0 : String := "FreightRoads"
def TX0 : u_T := fun k => match k with
  | 0 => ("FreightRoads", "n", "I", false)
  | 1 => ("FreightRoads", "supplies", "[I", true)
  | 2 => ("FreightRoads", "roads", "Ljava/util/LinkedList;", true)
  | 3 => ("FreightRoads", "net", "LFreightRoads$Net;", true)
  | 4 => ("FreightRoads", "thought", "LFreightRoads$Net;", true)
  | 5 => ("FreightRoads", "isSolved", "Z", false)
  | 6 => ("FreightRoads", "isPriced", "Z", false)
  | 7 => ("FreightRoads", "isParted", "Z", false)
  | 8 => ("FreightRoads", "done", "Ljava/util/ArrayDeque;", true)
  | 9 => ("FreightRoads", "tape", "[B", true)
  | 10 => ("FreightRoads", "length", "I", false)
  | 11 => ("FreightRoads", "at", "I", false)
  | 12 => ("FreightRoads", "paper", "Ljava/lang/String;", false)
  | 13 => ("FreightRoads", "read", "Ljava/util/LinkedList;", true)
  | 14 => ("FreightRoads", "readSupplies", "[I", true)
  | 15 => ("FreightRoads", "byPrice", "LFreightRoads$ByPrice;", true)
  | 16 => ("FreightRoads", "sentInAll", "I", false)
  | 17 => ("FreightRoads", "totalThen", "J", false)
  | 18 => ("FreightRoads", "rows", "[[J", true)
  | 19 => ("FreightRoads", "told", "LFreightRoads$Net;", true)
  | 20 => ("FreightRoads", "steps", "[I", true)
  | 21 => ("FreightRoads", "ring", "[I", true)
  | 22 => ("FreightRoads", "ringed", "Ljava/util/BitSet;", true)
  | 23 => ("FreightRoads", "ringTowns", "I", false)
  | 24 => ("FreightRoads", "ringCost", "J", false)
  | 25 => ("FreightRoads", "ways", "Ljava/util/LinkedList;", true)
  | 26 => ("FreightRoads", "amountsLeft", "[I", true)
  | 27 => ("FreightRoads", "suppliesLeft", "[I", true)
  | 28 => ("FreightRoads", "gone", "[I", true)
  | 29 => ("FreightRoads", "townsGone", "[I", true)
  | 30 => ("FreightRoads", "tellers", "Ljava/util/List;", true)
  | _ => ("FreightRoads", "image", "LFreightRoads$Shot;", false)
def tyX0 : Nat → FieldType := fun k => match k with
  | 0 => .int
  | 1 => .array .int
  | 2 => .object "java/util/LinkedList"
  | 3 => .object "FreightRoads$Net"
  | 4 => .object "FreightRoads$Net"
  | 5 => .boolean
  | 6 => .boolean
  | 7 => .boolean
  | 8 => .object "java/util/ArrayDeque"
  | 9 => .array .byte
  | 10 => .int
  | 11 => .int
  | 12 => .object "java/lang/String"
  | 13 => .object "java/util/LinkedList"
  | 14 => .array .int
  | 15 => .object "FreightRoads$ByPrice"
  | 16 => .int
  | 17 => .long
  | 18 => .array (.array .long)
  | 19 => .object "FreightRoads$Net"
  | 20 => .array .int
  | 21 => .array .int
  | 22 => .object "java/util/BitSet"
  | 23 => .int
  | 24 => .long
  | 25 => .object "java/util/LinkedList"
  | 26 => .array .int
  | 27 => .array .int
  | 28 => .array .int
  | 29 => .array .int
  | 30 => .object "java/util/List"
  | _ => .object "FreightRoads$Shot"
abbrev wsX00 : List Cond := u_ws RX0 TX0 32
set_option maxRecDepth 100000 in
theorem nmX0 : ∀ a, a < 32 → ∀ b, b < 32 → a ≠ b → (TX0 a).2.1 ≠ (TX0 b).2.1 := by decide +kernel
set_option maxRecDepth 100000 in
theorem tyX0_ok : ∀ k, k < 32 → parseFieldDescriptor (TX0 k).2.2.1 = some (tyX0 k) := by decide +kernel
set_option maxRecDepth 100000 in
theorem in_X0 : ∀ w ∈ wsX00, w ∈ lw_all := lw_in wsX00 [1257, 1259, 1261, 1263, 1265, 1267, 1269, 1271, 1273, 1275, 1277, 1279, 1281, 1283, 1285, 1287, 1289, 1291, 1293, 1295, 1297, 1299, 1301, 1303, 1305, 1307, 1309, 1311, 1313, 1315, 1317, 1319] (by decide +kernel) (by decide +kernel)
def RX1 : String := "FreightRoads$Net"
def TX1 : u_T := fun k => match k with
  | 0 => ("FreightRoads$Net", "from", "[I", true)
  | 1 => ("FreightRoads$Net", "to", "[I", true)
  | 2 => ("FreightRoads$Net", "low", "[I", true)
  | 3 => ("FreightRoads$Net", "most", "[I", true)
  | 4 => ("FreightRoads$Net", "cost", "[J", true)
  | 5 => ("FreightRoads$Net", "amount", "[I", true)
  | 6 => ("FreightRoads$Net", "supply", "[I", true)
  | 7 => ("FreightRoads$Net", "left", "[I", true)
  | 8 => ("FreightRoads$Net", "costPrices", "[J", true)
  | 9 => ("FreightRoads$Net", "weightPrices", "[J", true)
  | 10 => ("FreightRoads$Net", "places", "[LFreightRoads$Place;", true)
  | 11 => ("FreightRoads$Net", "queue", "Ljava/util/PriorityQueue;", true)
  | 12 => ("FreightRoads$Net", "towns", "I", false)
  | 13 => ("FreightRoads$Net", "roads", "I", false)
  | 14 => ("FreightRoads$Net", "isFlow", "Z", false)
  | 15 => ("FreightRoads$Net", "each", "J", false)
  | 16 => ("FreightRoads$Net", "prices", "[J", true)
  | _ => ("FreightRoads$Net", "priced", "Ljava/util/BitSet;", true)
def tyX1 : Nat → FieldType := fun k => match k with
  | 0 => .array .int
  | 1 => .array .int
  | 2 => .array .int
  | 3 => .array .int
  | 4 => .array .long
  | 5 => .array .int
  | 6 => .array .int
  | 7 => .array .int
  | 8 => .array .long
  | 9 => .array .long
  | 10 => .array (.object "FreightRoads$Place")
  | 11 => .object "java/util/PriorityQueue"
  | 12 => .int
  | 13 => .int
  | 14 => .boolean
  | 15 => .long
  | 16 => .array .long
  | _ => .object "java/util/BitSet"
abbrev wsX10 : List Cond := u_ws RX1 TX1 18
set_option maxRecDepth 100000 in
theorem nmX1 : ∀ a, a < 18 → ∀ b, b < 18 → a ≠ b → (TX1 a).2.1 ≠ (TX1 b).2.1 := by decide +kernel
set_option maxRecDepth 100000 in
theorem tyX1_ok : ∀ k, k < 18 → parseFieldDescriptor (TX1 k).2.2.1 = some (tyX1 k) := by decide +kernel
set_option maxRecDepth 100000 in
theorem in_X1 : ∀ w ∈ wsX10, w ∈ lw_all := lw_in wsX10 [696, 698, 700, 702, 704, 706, 708, 710, 712, 714, 716, 718, 720, 722, 724, 726, 728, 730] (by decide +kernel) (by decide +kernel)
def RX2 : String := "FreightRoads$Place"
def TX2 : u_T := fun k => match k with
  | 0 => ("FreightRoads$Place", "town", "I", true)
  | 1 => ("FreightRoads$Place", "cost", "J", false)
  | 2 => ("FreightRoads$Place", "weight", "J", false)
  | 3 => ("FreightRoads$Place", "isReached", "Z", false)
  | 4 => ("FreightRoads$Place", "isDone", "Z", false)
  | _ => ("FreightRoads$Place", "by", "I", false)
def tyX2 : Nat → FieldType := fun k => match k with
  | 0 => .int
  | 1 => .long
  | 2 => .long
  | 3 => .boolean
  | 4 => .boolean
  | _ => .int
abbrev wsX20 : List Cond := u_ws RX2 TX2 6
theorem nmX2 : ∀ a, a < 6 → ∀ b, b < 6 → a ≠ b → (TX2 a).2.1 ≠ (TX2 b).2.1 := by decide +kernel
theorem tyX2_ok : ∀ k, k < 6 → parseFieldDescriptor (TX2 k).2.2.1 = some (tyX2 k) := by decide +kernel
set_option maxRecDepth 100000 in
theorem in_X2 : ∀ w ∈ wsX20, w ∈ lw_all := lw_in wsX20 [649, 651, 653, 655, 657, 659] (by decide +kernel) (by decide +kernel)
def RX3 : String := "FreightRoads$ByPrice"
def TX3 : u_T := fun k => match k with
  | _ => ("FreightRoads$ByPrice", "this$0", "LFreightRoads;", true)
def tyX3 : Nat → FieldType := fun k => match k with
  | _ => .object "FreightRoads"
abbrev wsX30 : List Cond := u_ws RX3 TX3 1
theorem nmX3 : ∀ a, a < 1 → ∀ b, b < 1 → a ≠ b → (TX3 a).2.1 ≠ (TX3 b).2.1 := by decide +kernel
theorem tyX3_ok : ∀ k, k < 1 → parseFieldDescriptor (TX3 k).2.2.1 = some (tyX3 k) := by decide +kernel
set_option maxRecDepth 100000 in
theorem in_X3 : ∀ w ∈ wsX30, w ∈ lw_all := lw_in wsX30 [761] (by decide +kernel) (by decide +kernel)
def RX4 : String := "FreightRoads$Teller"
def TX4 : u_T := fun k => match k with
  | _ => ("FreightRoads$Teller", "tells", "LFreightRoads$Tells;", true)
def tyX4 : Nat → FieldType := fun k => match k with
  | _ => .object "FreightRoads$Tells"
abbrev wsX40 : List Cond := u_ws RX4 TX4 1
theorem nmX4 : ∀ a, a < 1 → ∀ b, b < 1 → a ≠ b → (TX4 a).2.1 ≠ (TX4 b).2.1 := by decide +kernel
theorem tyX4_ok : ∀ k, k < 1 → parseFieldDescriptor (TX4 k).2.2.1 = some (tyX4 k) := by decide +kernel
set_option maxRecDepth 100000 in
theorem in_X4 : ∀ w ∈ wsX40, w ∈ lw_all := lw_in wsX40 [779] (by decide +kernel) (by decide +kernel)
def RX5 : String := "FreightRoadsModel"
def TX5 : u_T := fun k => match k with
  | 0 => ("FreightRoadsModel", "now", "[I", true)
  | 1 => ("FreightRoadsModel", "cost", "[J", true)
  | 2 => ("FreightRoadsModel", "imaged", "[I", true)
  | 3 => ("FreightRoadsModel", "imagedCost", "[J", true)
  | 4 => ("FreightRoadsModel", "hasImage", "Z", false)
  | 5 => ("FreightRoadsModel", "steps", "I", false)
  | 6 => ("FreightRoadsModel", "past", "[I", true)
  | 7 => ("FreightRoadsModel", "pastCost", "[J", true)
  | 8 => ("FreightRoadsModel", "taped", "I", false)
  | 9 => ("FreightRoadsModel", "tape", "[I", true)
  | 10 => ("FreightRoadsModel", "written", "I", false)
  | 11 => ("FreightRoadsModel", "paper", "[I", true)
  | 12 => ("FreightRoadsModel", "sizes", "[I", true)
  | 13 => ("FreightRoadsModel", "items", "[J", true)
  | 14 => ("FreightRoadsModel", "amount", "[I", true)
  | 15 => ("FreightRoadsModel", "gives", "[I", true)
  | 16 => ("FreightRoadsModel", "far", "[J", true)
  | 17 => ("FreightRoadsModel", "by", "[I", true)
  | 18 => ("FreightRoadsModel", "met", "[Z", true)
  | 19 => ("FreightRoadsModel", "at", "I", false)
  | 20 => ("FreightRoadsModel", "fault", "I", false)
  | 21 => ("FreightRoadsModel", "read", "[I", true)
  | 22 => ("FreightRoadsModel", "readCost", "[J", true)
  | 23 => ("FreightRoadsModel", "price", "[J", true)
  | 24 => ("FreightRoadsModel", "total", "J", false)
  | 25 => ("FreightRoadsModel", "isOver", "Z", false)
  | 26 => ("FreightRoadsModel", "thought", "[I", true)
  | 27 => ("FreightRoadsModel", "thoughtCost", "[J", true)
  | 28 => ("FreightRoadsModel", "was", "J", false)
  | 29 => ("FreightRoadsModel", "stretches", "I", false)
  | 30 => ("FreightRoadsModel", "grows", "[J", true)
  | 31 => ("FreightRoadsModel", "lasts", "[I", true)
  | 32 => ("FreightRoadsModel", "row", "[I", true)
  | 33 => ("FreightRoadsModel", "pair", "[J", true)
  | 34 => ("FreightRoadsModel", "pairStep", "[I", true)
  | 35 => ("FreightRoadsModel", "rung", "I", false)
  | 36 => ("FreightRoadsModel", "gains", "J", false)
  | 37 => ("FreightRoadsModel", "toldAmount", "[I", true)
  | 38 => ("FreightRoadsModel", "parts", "I", false)
  | _ => ("FreightRoadsModel", "part", "[I", true)
def tyX5 : Nat → FieldType := fun k => match k with
  | 0 => .array .int
  | 1 => .array .long
  | 2 => .array .int
  | 3 => .array .long
  | 4 => .boolean
  | 5 => .int
  | 6 => .array .int
  | 7 => .array .long
  | 8 => .int
  | 9 => .array .int
  | 10 => .int
  | 11 => .array .int
  | 12 => .array .int
  | 13 => .array .long
  | 14 => .array .int
  | 15 => .array .int
  | 16 => .array .long
  | 17 => .array .int
  | 18 => .array .boolean
  | 19 => .int
  | 20 => .int
  | 21 => .array .int
  | 22 => .array .long
  | 23 => .array .long
  | 24 => .long
  | 25 => .boolean
  | 26 => .array .int
  | 27 => .array .long
  | 28 => .long
  | 29 => .int
  | 30 => .array .long
  | 31 => .array .int
  | 32 => .array .int
  | 33 => .array .long
  | 34 => .array .int
  | 35 => .int
  | 36 => .long
  | 37 => .array .int
  | 38 => .int
  | _ => .array .int
abbrev wsX50 : List Cond := u_ws RX5 TX5 40
set_option maxRecDepth 100000 in
theorem nmX5 : ∀ a, a < 40 → ∀ b, b < 40 → a ≠ b → (TX5 a).2.1 ≠ (TX5 b).2.1 := by decide +kernel
set_option maxRecDepth 100000 in
theorem tyX5_ok : ∀ k, k < 40 → parseFieldDescriptor (TX5 k).2.2.1 = some (tyX5 k) := by decide +kernel
set_option maxRecDepth 100000 in
theorem in_X5 : ∀ w ∈ wsX50, w ∈ lw_all := lw_in wsX50 [3074, 3076, 3078, 3080, 3082, 3084, 3086, 3088, 3090, 3092, 3094, 3096, 3098, 3100, 3102, 3104, 3106, 3108, 3110, 3112, 3114, 3116, 3118, 3120, 3122, 3124, 3126, 3128, 3130, 3132, 3134, 3136, 3138, 3140, 3142, 3144, 3146, 3148, 3150, 3152] (by decide +kernel) (by decide +kernel)
def RX6 : String := "FreightRoads$Shot"
def TX6 : u_T := fun k => match k with
  | 0 => ("FreightRoads$Shot", "supplies", "[I", true)
  | 1 => ("FreightRoads$Shot", "roads", "[LFreightRoads$Road;", true)
  | 2 => ("FreightRoads$Shot", "towns", "I", false)
  | _ => ("FreightRoads$Shot", "many", "I", false)
def tyX6 : Nat → FieldType := fun k => match k with
  | 0 => .array .int
  | 1 => .array (.object "FreightRoads$Road")
  | 2 => .int
  | _ => .int
abbrev wsX60 : List Cond := u_ws RX6 TX6 4
theorem nmX6 : ∀ a, a < 4 → ∀ b, b < 4 → a ≠ b → (TX6 a).2.1 ≠ (TX6 b).2.1 := by decide +kernel
theorem tyX6_ok : ∀ k, k < 4 → parseFieldDescriptor (TX6 k).2.2.1 = some (tyX6 k) := by decide +kernel
set_option maxRecDepth 100000 in
theorem in_X6 : ∀ w ∈ wsX60, w ∈ lw_all := lw_in wsX60 [1446, 1448, 1450, 1452] (by decide +kernel) (by decide +kernel)
def RX7 : String := "FreightRoads$Road"
def TX7 : u_T := fun k => match k with
  | 0 => ("FreightRoads$Road", "from", "I", true)
  | 1 => ("FreightRoads$Road", "to", "I", true)
  | 2 => ("FreightRoads$Road", "low", "I", false)
  | 3 => ("FreightRoads$Road", "most", "I", false)
  | _ => ("FreightRoads$Road", "cost", "J", false)
def tyX7 : Nat → FieldType := fun k => match k with
  | 0 => .int
  | 1 => .int
  | 2 => .int
  | 3 => .int
  | _ => .long
abbrev wsX70 : List Cond := u_ws RX7 TX7 5
theorem nmX7 : ∀ a, a < 5 → ∀ b, b < 5 → a ≠ b → (TX7 a).2.1 ≠ (TX7 b).2.1 := by decide +kernel
theorem tyX7_ok : ∀ k, k < 5 → parseFieldDescriptor (TX7 k).2.2.1 = some (tyX7 k) := by decide +kernel
set_option maxRecDepth 100000 in
theorem in_X7 : ∀ w ∈ wsX70, w ∈ lw_all := lw_in wsX70 [1368, 1370, 1372, 1374, 1376] (by decide +kernel) (by decide +kernel)
def RX8 : String := "FreightRoads$Fault"
def TX8 : u_T := fun k => match k with
  | 0 => ("java/lang/Throwable", "cause", "Ljava/lang/Throwable;", false)
  | 1 => ("java/lang/Throwable", "stackTrace", "[Ljava/lang/StackTraceElement;", false)
  | 2 => ("java/lang/Throwable", "suppressedExceptions", "Ljava/util/List;", false)
  | 3 => ("java/lang/Throwable", "detailMessage", "Ljava/lang/String;", false)
  | 4 => ("java/lang/Throwable", "backtrace", "Ljava/lang/Object;", false)
  | 5 => ("java/lang/Throwable", "depth", "I", false)
  | _ => ("FreightRoads$Fault", "place", "I", true)
def tyX8 : Nat → FieldType := fun k => match k with
  | 0 => .object "java/lang/Throwable"
  | 1 => .array (.object "java/lang/StackTraceElement")
  | 2 => .object "java/util/List"
  | 3 => .object "java/lang/String"
  | 4 => .object "java/lang/Object"
  | 5 => .int
  | _ => .int
abbrev wsX80 : List Cond := u_ws RX8 TX8 7
theorem nmX8 : ∀ a, a < 7 → ∀ b, b < 7 → a ≠ b → (TX8 a).2.1 ≠ (TX8 b).2.1 := by decide +kernel
theorem tyX8_ok : ∀ k, k < 7 → parseFieldDescriptor (TX8 k).2.2.1 = some (tyX8 k) := by decide +kernel
set_option maxRecDepth 100000 in
theorem in_X8 : ∀ w ∈ wsX80, w ∈ lw_all := lw_in wsX80 [1992, 1993, 1994, 1995, 1996, 2013, 2011] (by decide +kernel) (by decide +kernel)
def RX9 : String := "FreightRoads$Each"
def TX9 : u_T := fun k => match k with
  | _ => ("FreightRoads$Each", "cost", "J", true)
def tyX9 : Nat → FieldType := fun k => match k with
  | _ => .long
abbrev wsX90 : List Cond := u_ws RX9 TX9 1
theorem nmX9 : ∀ a, a < 1 → ∀ b, b < 1 → a ≠ b → (TX9 a).2.1 ≠ (TX9 b).2.1 := by decide +kernel
theorem tyX9_ok : ∀ k, k < 1 → parseFieldDescriptor (TX9 k).2.2.1 = some (tyX9 k) := by decide +kernel
set_option maxRecDepth 100000 in
theorem in_X9 : ∀ w ∈ wsX90, w ∈ lw_all := lw_in wsX90 [2630] (by decide +kernel) (by decide +kernel)
def RX10 : String := "FreightRoads$Stretch"
def TX10 : u_T := fun k => match k with
  | 0 => ("FreightRoads$Stretch", "each", "LFreightRoads$Each;", true)
  | _ => ("FreightRoads$Stretch", "many", "I", false)
def tyX10 : Nat → FieldType := fun k => match k with
  | 0 => .object "FreightRoads$Each"
  | _ => .int
abbrev wsX100 : List Cond := u_ws RX10 TX10 2
theorem nmX10 : ∀ a, a < 2 → ∀ b, b < 2 → a ≠ b → (TX10 a).2.1 ≠ (TX10 b).2.1 := by decide +kernel
theorem tyX10_ok : ∀ k, k < 2 → parseFieldDescriptor (TX10 k).2.2.1 = some (tyX10 k) := by decide +kernel
set_option maxRecDepth 100000 in
theorem in_X10 : ∀ w ∈ wsX100, w ∈ lw_all := lw_in wsX100 [2654, 2656] (by decide +kernel) (by decide +kernel)
def RX11 : String := "FreightRoads$Way"
def TX11 : u_T := fun k => match k with
  | 0 => ("FreightRoads$Way", "roads", "[I", true)
  | 1 => ("FreightRoads$Way", "begin", "I", true)
  | 2 => ("FreightRoads$Way", "length", "I", false)
  | 3 => ("FreightRoads$Way", "many", "I", false)
  | _ => ("FreightRoads$Way", "isRing", "Z", false)
def tyX11 : Nat → FieldType := fun k => match k with
  | 0 => .array .int
  | 1 => .int
  | 2 => .int
  | 3 => .int
  | _ => .boolean
abbrev wsX110 : List Cond := u_ws RX11 TX11 5
theorem nmX11 : ∀ a, a < 5 → ∀ b, b < 5 → a ≠ b → (TX11 a).2.1 ≠ (TX11 b).2.1 := by decide +kernel
theorem tyX11_ok : ∀ k, k < 5 → parseFieldDescriptor (TX11 k).2.2.1 = some (tyX11 k) := by decide +kernel
set_option maxRecDepth 100000 in
theorem in_X11 : ∀ w ∈ wsX110, w ∈ lw_all := lw_in wsX110 [2907, 2909, 2911, 2913, 2915] (by decide +kernel) (by decide +kernel)
def RJ0 : String := "java/util/AbstractCollection"
def RJ1 : String := "java/util/AbstractList"
def RJ2 : String := "java/util/AbstractSequentialList"
def RJ3 : String := "java/util/LinkedList"
def TJ3 : u_T := fun k => match k with
  | 0 => ("java/util/AbstractList", "modCount", "I", false)
  | 1 => ("java/util/LinkedList", "size", "I", false)
  | 2 => ("java/util/LinkedList", "first", "Ljava/util/LinkedList$Node;", false)
  | _ => ("java/util/LinkedList", "last", "Ljava/util/LinkedList$Node;", false)
def tyJ3 : Nat → FieldType := fun k => match k with
  | 0 => .int
  | 1 => .int
  | 2 => .object "java/util/LinkedList$Node"
  | _ => .object "java/util/LinkedList$Node"
abbrev wsJ30 : List Cond := u_ws RJ3 TJ3 4
theorem nmJ3 : ∀ a, a < 4 → ∀ b, b < 4 → a ≠ b → (TJ3 a).2.1 ≠ (TJ3 b).2.1 := by decide +kernel
theorem tyJ3_ok : ∀ k, k < 4 → parseFieldDescriptor (TJ3 k).2.2.1 = some (tyJ3 k) := by decide +kernel
set_option maxRecDepth 100000 in
theorem in_J3 : ∀ w ∈ wsJ30, w ∈ lw_all := lw_in wsJ30 [236, 230, 232, 234] (by decide +kernel) (by decide +kernel)
def RJ4 : String := "java/util/AbstractQueue"
def RJ5 : String := "java/util/PriorityQueue"
def TJ5 : u_T := fun k => match k with
  | 0 => ("java/util/PriorityQueue", "queue", "[Ljava/lang/Object;", false)
  | 1 => ("java/util/PriorityQueue", "size", "I", false)
  | 2 => ("java/util/PriorityQueue", "comparator", "Ljava/util/Comparator;", true)
  | _ => ("java/util/PriorityQueue", "modCount", "I", false)
def tyJ5 : Nat → FieldType := fun k => match k with
  | 0 => .array (.object "java/lang/Object")
  | 1 => .int
  | 2 => .object "java/util/Comparator"
  | _ => .int
abbrev wsJ50 : List Cond := u_ws RJ5 TJ5 4
theorem nmJ5 : ∀ a, a < 4 → ∀ b, b < 4 → a ≠ b → (TJ5 a).2.1 ≠ (TJ5 b).2.1 := by decide +kernel
theorem tyJ5_ok : ∀ k, k < 4 → parseFieldDescriptor (TJ5 k).2.2.1 = some (tyJ5 k) := by decide +kernel
set_option maxRecDepth 100000 in
theorem in_J5 : ∀ w ∈ wsJ50, w ∈ lw_all := lw_in wsJ50 [269, 271, 273, 275] (by decide +kernel) (by decide +kernel)
def RJ6 : String := "java/util/BitSet"
def TJ6 : u_T := fun k => match k with
  | 0 => ("java/util/BitSet", "words", "[J", false)
  | 1 => ("java/util/BitSet", "wordsInUse", "I", false)
  | _ => ("java/util/BitSet", "sizeIsSticky", "Z", false)
def tyJ6 : Nat → FieldType := fun k => match k with
  | 0 => .array .long
  | 1 => .int
  | _ => .boolean
abbrev wsJ60 : List Cond := u_ws RJ6 TJ6 3
theorem nmJ6 : ∀ a, a < 3 → ∀ b, b < 3 → a ≠ b → (TJ6 a).2.1 ≠ (TJ6 b).2.1 := by decide +kernel
theorem tyJ6_ok : ∀ k, k < 3 → parseFieldDescriptor (TJ6 k).2.2.1 = some (tyJ6 k) := by decide +kernel
set_option maxRecDepth 100000 in
theorem in_J6 : ∀ w ∈ wsJ60, w ∈ lw_all := lw_in wsJ60 [628, 630, 632] (by decide +kernel) (by decide +kernel)
def RJ7 : String := "java/lang/Throwable"
def TJ7 : u_T := fun k => match k with
  | 0 => ("java/lang/Throwable", "cause", "Ljava/lang/Throwable;", false)
  | 1 => ("java/lang/Throwable", "stackTrace", "[Ljava/lang/StackTraceElement;", false)
  | 2 => ("java/lang/Throwable", "suppressedExceptions", "Ljava/util/List;", false)
  | 3 => ("java/lang/Throwable", "detailMessage", "Ljava/lang/String;", false)
  | _ => ("java/lang/Throwable", "backtrace", "Ljava/lang/Object;", false)
def tyJ7 : Nat → FieldType := fun k => match k with
  | 0 => .object "java/lang/Throwable"
  | 1 => .array (.object "java/lang/StackTraceElement")
  | 2 => .object "java/util/List"
  | 3 => .object "java/lang/String"
  | _ => .object "java/lang/Object"
abbrev wsJ70 : List Cond := u_ws RJ7 TJ7 5
theorem nmJ7 : ∀ a, a < 5 → ∀ b, b < 5 → a ≠ b → (TJ7 a).2.1 ≠ (TJ7 b).2.1 := by decide +kernel
theorem tyJ7_ok : ∀ k, k < 5 → parseFieldDescriptor (TJ7 k).2.2.1 = some (tyJ7 k) := by decide +kernel
set_option maxRecDepth 100000 in
theorem in_J7 : ∀ w ∈ wsJ70, w ∈ lw_all := lw_in wsJ70 [297, 299, 301, 303, 305] (by decide +kernel) (by decide +kernel)
def RJ8 : String := "java/lang/Exception"
def RJ9 : String := "java/lang/RuntimeException"
def RJ10 : String := "java/lang/NegativeArraySizeException"
def TJ10 : u_T := fun k => match k with
  | 0 => ("java/lang/Throwable", "cause", "Ljava/lang/Throwable;", false)
  | 1 => ("java/lang/Throwable", "stackTrace", "[Ljava/lang/StackTraceElement;", false)
  | 2 => ("java/lang/Throwable", "suppressedExceptions", "Ljava/util/List;", false)
  | 3 => ("java/lang/Throwable", "detailMessage", "Ljava/lang/String;", false)
  | 4 => ("java/lang/Throwable", "backtrace", "Ljava/lang/Object;", false)
  | _ => ("java/lang/Throwable", "depth", "I", false)
def tyJ10 : Nat → FieldType := fun k => match k with
  | 0 => .object "java/lang/Throwable"
  | 1 => .array (.object "java/lang/StackTraceElement")
  | 2 => .object "java/util/List"
  | 3 => .object "java/lang/String"
  | 4 => .object "java/lang/Object"
  | _ => .int
abbrev wsJ100 : List Cond := u_ws RJ10 TJ10 6
theorem nmJ10 : ∀ a, a < 6 → ∀ b, b < 6 → a ≠ b → (TJ10 a).2.1 ≠ (TJ10 b).2.1 := by decide +kernel
theorem tyJ10_ok : ∀ k, k < 6 → parseFieldDescriptor (TJ10 k).2.2.1 = some (tyJ10 k) := by decide +kernel
set_option maxRecDepth 100000 in
theorem in_J10 : ∀ w ∈ wsJ100, w ∈ lw_all := lw_in wsJ100 [296, 298, 300, 302, 304, 381] (by decide +kernel) (by decide +kernel)
def RJ11 : String := "java/lang/AbstractStringBuilder"
def RJ12 : String := "java/lang/StringBuilder"
def TJ12 : u_T := fun k => match k with
  | 0 => ("java/lang/AbstractStringBuilder", "value", "[B", false)
  | 1 => ("java/lang/AbstractStringBuilder", "coder", "B", false)
  | 2 => ("java/lang/AbstractStringBuilder", "maybeLatin1", "Z", false)
  | _ => ("java/lang/AbstractStringBuilder", "count", "I", false)
def tyJ12 : Nat → FieldType := fun k => match k with
  | 0 => .array .byte
  | 1 => .byte
  | 2 => .boolean
  | _ => .int
abbrev wsJ120 : List Cond := u_ws RJ12 TJ12 4
theorem nmJ12 : ∀ a, a < 4 → ∀ b, b < 4 → a ≠ b → (TJ12 a).2.1 ≠ (TJ12 b).2.1 := by decide +kernel
theorem tyJ12_ok : ∀ k, k < 4 → parseFieldDescriptor (TJ12 k).2.2.1 = some (tyJ12 k) := by decide +kernel
set_option maxRecDepth 100000 in
theorem in_J12 : ∀ w ∈ wsJ120, w ∈ lw_all := lw_in wsJ120 [391, 393, 395, 397] (by decide +kernel) (by decide +kernel)
def RJ13 : String := "java/lang/String"
def TJ13 : u_T := fun k => match k with
  | 0 => ("java/lang/String", "value", "[B", true)
  | 1 => ("java/lang/String", "coder", "B", true)
  | 2 => ("java/lang/String", "hash", "I", false)
  | _ => ("java/lang/String", "hashIsZero", "Z", false)
def tyJ13 : Nat → FieldType := fun k => match k with
  | 0 => .array .byte
  | 1 => .byte
  | 2 => .int
  | _ => .boolean
abbrev wsJ130 : List Cond := u_ws RJ13 TJ13 4
theorem nmJ13 : ∀ a, a < 4 → ∀ b, b < 4 → a ≠ b → (TJ13 a).2.1 ≠ (TJ13 b).2.1 := by decide +kernel
theorem tyJ13_ok : ∀ k, k < 4 → parseFieldDescriptor (TJ13 k).2.2.1 = some (tyJ13 k) := by decide +kernel
set_option maxRecDepth 100000 in
theorem in_J13 : ∀ w ∈ wsJ130, w ∈ lw_all := lw_in wsJ130 [597, 599, 601, 603] (by decide +kernel) (by decide +kernel)
def RJ14 : String := "java/lang/StringUTF16"
def RJ15 : String := "jdk/internal/util/ArraysSupport"
def RJ16 : String := "java/lang/Math"
def RJ17 : String := "java/util/Arrays"
def RJ18 : String := "jdk/internal/util/Preconditions"
def RJ19 : String := "java/lang/StringLatin1"
def RJ20 : String := "java/lang/Number"
def RJ21 : String := "java/lang/Integer"
def TJ21 : u_T := fun k => match k with
  | _ => ("java/lang/Integer", "value", "I", true)
def tyJ21 : Nat → FieldType := fun k => match k with
  | _ => .int
abbrev wsJ210 : List Cond := u_ws RJ21 TJ21 1
theorem nmJ21 : ∀ a, a < 1 → ∀ b, b < 1 → a ≠ b → (TJ21 a).2.1 ≠ (TJ21 b).2.1 := by decide +kernel
theorem tyJ21_ok : ∀ k, k < 1 → parseFieldDescriptor (TJ21 k).2.2.1 = some (tyJ21 k) := by decide +kernel
set_option maxRecDepth 100000 in
theorem in_J21 : ∀ w ∈ wsJ210, w ∈ lw_all := lw_in wsJ210 [2389] (by decide +kernel) (by decide +kernel)
def RJ22 : String := "java/util/ArrayDeque"
def TJ22 : u_T := fun k => match k with
  | 0 => ("java/util/ArrayDeque", "elements", "[Ljava/lang/Object;", false)
  | 1 => ("java/util/ArrayDeque", "head", "I", false)
  | _ => ("java/util/ArrayDeque", "tail", "I", false)
def tyJ22 : Nat → FieldType := fun k => match k with
  | 0 => .array (.object "java/lang/Object")
  | 1 => .int
  | _ => .int
abbrev wsJ220 : List Cond := u_ws RJ22 TJ22 3
theorem nmJ22 : ∀ a, a < 3 → ∀ b, b < 3 → a ≠ b → (TJ22 a).2.1 ≠ (TJ22 b).2.1 := by decide +kernel
theorem tyJ22_ok : ∀ k, k < 3 → parseFieldDescriptor (TJ22 k).2.2.1 = some (tyJ22 k) := by decide +kernel
set_option maxRecDepth 100000 in
theorem in_J22 : ∀ w ∈ wsJ220, w ∈ lw_all := lw_in wsJ220 [746, 748, 750] (by decide +kernel) (by decide +kernel)
def RJ23 : String := "java/util/AbstractList$Itr"
def RJ24 : String := "java/util/LinkedList$ListItr"
def TJ24 : u_T := fun k => match k with
  | 0 => ("java/util/LinkedList$ListItr", "lastReturned", "Ljava/util/LinkedList$Node;", false)
  | 1 => ("java/util/LinkedList$ListItr", "next", "Ljava/util/LinkedList$Node;", false)
  | 2 => ("java/util/LinkedList$ListItr", "nextIndex", "I", false)
  | 3 => ("java/util/LinkedList$ListItr", "expectedModCount", "I", false)
  | _ => ("java/util/LinkedList$ListItr", "this$0", "Ljava/util/LinkedList;", true)
def tyJ24 : Nat → FieldType := fun k => match k with
  | 0 => .object "java/util/LinkedList$Node"
  | 1 => .object "java/util/LinkedList$Node"
  | 2 => .int
  | 3 => .int
  | _ => .object "java/util/LinkedList"
abbrev wsJ240 : List Cond := u_ws RJ24 TJ24 5
theorem nmJ24 : ∀ a, a < 5 → ∀ b, b < 5 → a ≠ b → (TJ24 a).2.1 ≠ (TJ24 b).2.1 := by decide +kernel
theorem tyJ24_ok : ∀ k, k < 5 → parseFieldDescriptor (TJ24 k).2.2.1 = some (tyJ24 k) := by decide +kernel
set_option maxRecDepth 100000 in
theorem in_J24 : ∀ w ∈ wsJ240, w ∈ lw_all := lw_in wsJ240 [853, 855, 857, 859, 861] (by decide +kernel) (by decide +kernel)
def RJ25 : String := "java/util/NoSuchElementException"
def TJ25 : u_T := fun k => match k with
  | 0 => ("java/lang/Throwable", "cause", "Ljava/lang/Throwable;", false)
  | 1 => ("java/lang/Throwable", "stackTrace", "[Ljava/lang/StackTraceElement;", false)
  | 2 => ("java/lang/Throwable", "suppressedExceptions", "Ljava/util/List;", false)
  | 3 => ("java/lang/Throwable", "detailMessage", "Ljava/lang/String;", false)
  | 4 => ("java/lang/Throwable", "backtrace", "Ljava/lang/Object;", false)
  | _ => ("java/lang/Throwable", "depth", "I", false)
def tyJ25 : Nat → FieldType := fun k => match k with
  | 0 => .object "java/lang/Throwable"
  | 1 => .array (.object "java/lang/StackTraceElement")
  | 2 => .object "java/util/List"
  | 3 => .object "java/lang/String"
  | 4 => .object "java/lang/Object"
  | _ => .int
abbrev wsJ250 : List Cond := u_ws RJ25 TJ25 6
theorem nmJ25 : ∀ a, a < 6 → ∀ b, b < 6 → a ≠ b → (TJ25 a).2.1 ≠ (TJ25 b).2.1 := by decide +kernel
theorem tyJ25_ok : ∀ k, k < 6 → parseFieldDescriptor (TJ25 k).2.2.1 = some (tyJ25 k) := by decide +kernel
set_option maxRecDepth 100000 in
theorem in_J25 : ∀ w ∈ wsJ250, w ∈ lw_all := lw_in wsJ250 [949, 950, 951, 952, 953, 1058] (by decide +kernel) (by decide +kernel)
def RJ26 : String := "java/util/ImmutableCollections"
def RJ27 : String := "java/util/AbstractMap"
def RJ28 : String := "java/util/TreeMap"
def TJ28 : u_T := fun k => match k with
  | 0 => ("java/util/AbstractMap", "keySet", "Ljava/util/Set;", false)
  | 1 => ("java/util/AbstractMap", "values", "Ljava/util/Collection;", false)
  | 2 => ("java/util/TreeMap", "comparator", "Ljava/util/Comparator;", true)
  | 3 => ("java/util/TreeMap", "root", "Ljava/util/TreeMap$Entry;", false)
  | 4 => ("java/util/TreeMap", "size", "I", false)
  | 5 => ("java/util/TreeMap", "modCount", "I", false)
  | 6 => ("java/util/TreeMap", "entrySet", "Ljava/util/TreeMap$EntrySet;", false)
  | 7 => ("java/util/TreeMap", "navigableKeySet", "Ljava/util/TreeMap$KeySet;", false)
  | _ => ("java/util/TreeMap", "descendingMap", "Ljava/util/NavigableMap;", false)
def tyJ28 : Nat → FieldType := fun k => match k with
  | 0 => .object "java/util/Set"
  | 1 => .object "java/util/Collection"
  | 2 => .object "java/util/Comparator"
  | 3 => .object "java/util/TreeMap$Entry"
  | 4 => .int
  | 5 => .int
  | 6 => .object "java/util/TreeMap$EntrySet"
  | 7 => .object "java/util/TreeMap$KeySet"
  | _ => .object "java/util/NavigableMap"
abbrev wsJ280 : List Cond := u_ws RJ28 TJ28 9
theorem nmJ28 : ∀ a, a < 9 → ∀ b, b < 9 → a ≠ b → (TJ28 a).2.1 ≠ (TJ28 b).2.1 := by decide +kernel
theorem tyJ28_ok : ∀ k, k < 9 → parseFieldDescriptor (TJ28 k).2.2.1 = some (tyJ28 k) := by decide +kernel
set_option maxRecDepth 100000 in
theorem in_J28 : ∀ w ∈ wsJ280, w ∈ lw_all := lw_in wsJ280 [2357, 2359, 2343, 2345, 2347, 2349, 2351, 2353, 2355] (by decide +kernel) (by decide +kernel)
def RJ29 : String := "java/util/List"
def RJ30 : String := "java/util/Objects"
def RJ31 : String := "java/lang/NullPointerException"
def TJ31 : u_T := fun k => match k with
  | 0 => ("java/lang/Throwable", "cause", "Ljava/lang/Throwable;", false)
  | 1 => ("java/lang/Throwable", "stackTrace", "[Ljava/lang/StackTraceElement;", false)
  | 2 => ("java/lang/Throwable", "suppressedExceptions", "Ljava/util/List;", false)
  | 3 => ("java/lang/Throwable", "detailMessage", "Ljava/lang/String;", false)
  | 4 => ("java/lang/Throwable", "backtrace", "Ljava/lang/Object;", false)
  | 5 => ("java/lang/Throwable", "depth", "I", false)
  | 6 => ("java/lang/NullPointerException", "extendedMessageState", "I", false)
  | _ => ("java/lang/NullPointerException", "extendedMessage", "Ljava/lang/String;", false)
def tyJ31 : Nat → FieldType := fun k => match k with
  | 0 => .object "java/lang/Throwable"
  | 1 => .array (.object "java/lang/StackTraceElement")
  | 2 => .object "java/util/List"
  | 3 => .object "java/lang/String"
  | 4 => .object "java/lang/Object"
  | 5 => .int
  | 6 => .int
  | _ => .object "java/lang/String"
abbrev wsJ310 : List Cond := u_ws RJ31 TJ31 8
theorem nmJ31 : ∀ a, a < 8 → ∀ b, b < 8 → a ≠ b → (TJ31 a).2.1 ≠ (TJ31 b).2.1 := by decide +kernel
theorem tyJ31_ok : ∀ k, k < 8 → parseFieldDescriptor (TJ31 k).2.2.1 = some (tyJ31 k) := by decide +kernel
set_option maxRecDepth 100000 in
theorem in_J31 : ∀ w ∈ wsJ310, w ∈ lw_all := lw_in wsJ310 [1170, 1171, 1172, 1173, 1174, 1185, 1181, 1183] (by decide +kernel) (by decide +kernel)
def RJ32 : String := "java/util/ImmutableCollections$AbstractImmutableCollection"
def RJ33 : String := "java/util/ImmutableCollections$AbstractImmutableList"
def RJ34 : String := "java/util/ImmutableCollections$List12"
def TJ34 : u_T := fun k => match k with
  | 0 => ("java/util/ImmutableCollections$List12", "e0", "Ljava/lang/Object;", true)
  | _ => ("java/util/ImmutableCollections$List12", "e1", "Ljava/lang/Object;", true)
def tyJ34 : Nat → FieldType := fun k => match k with
  | 0 => .object "java/lang/Object"
  | _ => .object "java/lang/Object"
abbrev wsJ340 : List Cond := u_ws RJ34 TJ34 2
theorem nmJ34 : ∀ a, a < 2 → ∀ b, b < 2 → a ≠ b → (TJ34 a).2.1 ≠ (TJ34 b).2.1 := by decide +kernel
theorem tyJ34_ok : ∀ k, k < 2 → parseFieldDescriptor (TJ34 k).2.2.1 = some (tyJ34 k) := by decide +kernel
set_option maxRecDepth 100000 in
theorem in_J34 : ∀ w ∈ wsJ340, w ∈ lw_all := lw_in wsJ340 [1203, 1205] (by decide +kernel) (by decide +kernel)
def RJ35 : String := "java/util/ImmutableCollections$ListN"
def TJ35 : u_T := fun k => match k with
  | 0 => ("java/util/ImmutableCollections$ListN", "elements", "[Ljava/lang/Object;", true)
  | _ => ("java/util/ImmutableCollections$ListN", "allowNulls", "Z", true)
def tyJ35 : Nat → FieldType := fun k => match k with
  | 0 => .array (.object "java/lang/Object")
  | _ => .boolean
abbrev wsJ350 : List Cond := u_ws RJ35 TJ35 2
theorem nmJ35 : ∀ a, a < 2 → ∀ b, b < 2 → a ≠ b → (TJ35 a).2.1 ≠ (TJ35 b).2.1 := by decide +kernel
theorem tyJ35_ok : ∀ k, k < 2 → parseFieldDescriptor (TJ35 k).2.2.1 = some (tyJ35 k) := by decide +kernel
set_option maxRecDepth 100000 in
theorem in_J35 : ∀ w ∈ wsJ350, w ∈ lw_all := lw_in wsJ350 [1219, 1221] (by decide +kernel) (by decide +kernel)
def RJ36 : String := "java/util/LinkedList$Node"
def TJ36 : u_T := fun k => match k with
  | 0 => ("java/util/LinkedList$Node", "item", "Ljava/lang/Object;", false)
  | 1 => ("java/util/LinkedList$Node", "next", "Ljava/util/LinkedList$Node;", false)
  | _ => ("java/util/LinkedList$Node", "prev", "Ljava/util/LinkedList$Node;", false)
def tyJ36 : Nat → FieldType := fun k => match k with
  | 0 => .object "java/lang/Object"
  | 1 => .object "java/util/LinkedList$Node"
  | _ => .object "java/util/LinkedList$Node"
abbrev wsJ360 : List Cond := u_ws RJ36 TJ36 3
theorem nmJ36 : ∀ a, a < 3 → ∀ b, b < 3 → a ≠ b → (TJ36 a).2.1 ≠ (TJ36 b).2.1 := by decide +kernel
theorem tyJ36_ok : ∀ k, k < 3 → parseFieldDescriptor (TJ36 k).2.2.1 = some (tyJ36 k) := by decide +kernel
set_option maxRecDepth 100000 in
theorem in_J36 : ∀ w ∈ wsJ360, w ∈ lw_all := lw_in wsJ360 [1405, 1407, 1409] (by decide +kernel) (by decide +kernel)
def RJ37 : String := "java/lang/IllegalStateException"
def TJ37 : u_T := fun k => match k with
  | 0 => ("java/lang/Throwable", "cause", "Ljava/lang/Throwable;", false)
  | 1 => ("java/lang/Throwable", "stackTrace", "[Ljava/lang/StackTraceElement;", false)
  | 2 => ("java/lang/Throwable", "suppressedExceptions", "Ljava/util/List;", false)
  | 3 => ("java/lang/Throwable", "detailMessage", "Ljava/lang/String;", false)
  | 4 => ("java/lang/Throwable", "backtrace", "Ljava/lang/Object;", false)
  | _ => ("java/lang/Throwable", "depth", "I", false)
def tyJ37 : Nat → FieldType := fun k => match k with
  | 0 => .object "java/lang/Throwable"
  | 1 => .array (.object "java/lang/StackTraceElement")
  | 2 => .object "java/util/List"
  | 3 => .object "java/lang/String"
  | 4 => .object "java/lang/Object"
  | _ => .int
abbrev wsJ370 : List Cond := u_ws RJ37 TJ37 6
theorem nmJ37 : ∀ a, a < 6 → ∀ b, b < 6 → a ≠ b → (TJ37 a).2.1 ≠ (TJ37 b).2.1 := by decide +kernel
theorem tyJ37_ok : ∀ k, k < 6 → parseFieldDescriptor (TJ37 k).2.2.1 = some (tyJ37 k) := by decide +kernel
set_option maxRecDepth 100000 in
theorem in_J37 : ∀ w ∈ wsJ370, w ∈ lw_all := lw_in wsJ370 [1537, 1538, 1539, 1540, 1541, 1546] (by decide +kernel) (by decide +kernel)
def RJ38 : String := "java/util/ConcurrentModificationException"
def TJ38 : u_T := fun k => match k with
  | 0 => ("java/lang/Throwable", "cause", "Ljava/lang/Throwable;", false)
  | 1 => ("java/lang/Throwable", "stackTrace", "[Ljava/lang/StackTraceElement;", false)
  | 2 => ("java/lang/Throwable", "suppressedExceptions", "Ljava/util/List;", false)
  | 3 => ("java/lang/Throwable", "detailMessage", "Ljava/lang/String;", false)
  | 4 => ("java/lang/Throwable", "backtrace", "Ljava/lang/Object;", false)
  | _ => ("java/lang/Throwable", "depth", "I", false)
def tyJ38 : Nat → FieldType := fun k => match k with
  | 0 => .object "java/lang/Throwable"
  | 1 => .array (.object "java/lang/StackTraceElement")
  | 2 => .object "java/util/List"
  | 3 => .object "java/lang/String"
  | 4 => .object "java/lang/Object"
  | _ => .int
abbrev wsJ380 : List Cond := u_ws RJ38 TJ38 6
theorem nmJ38 : ∀ a, a < 6 → ∀ b, b < 6 → a ≠ b → (TJ38 a).2.1 ≠ (TJ38 b).2.1 := by decide +kernel
theorem tyJ38_ok : ∀ k, k < 6 → parseFieldDescriptor (TJ38 k).2.2.1 = some (tyJ38 k) := by decide +kernel
set_option maxRecDepth 100000 in
theorem in_J38 : ∀ w ∈ wsJ380, w ∈ lw_all := lw_in wsJ380 [1563, 1564, 1565, 1566, 1567, 1572] (by decide +kernel) (by decide +kernel)
def RJ39 : String := "java/lang/Long"
def RJ40 : String := "jdk/internal/misc/Unsafe"
def RJ41 : String := "java/lang/ArithmeticException"
def TJ41 : u_T := fun k => match k with
  | 0 => ("java/lang/Throwable", "backtrace", "Ljava/lang/Object;", false)
  | 1 => ("java/lang/Throwable", "detailMessage", "Ljava/lang/String;", false)
  | 2 => ("java/lang/Throwable", "cause", "Ljava/lang/Throwable;", false)
  | 3 => ("java/lang/Throwable", "stackTrace", "[Ljava/lang/StackTraceElement;", false)
  | 4 => ("java/lang/Throwable", "depth", "I", false)
  | _ => ("java/lang/Throwable", "suppressedExceptions", "Ljava/util/List;", false)
def tyJ41 : Nat → FieldType := fun k => match k with
  | 0 => .object "java/lang/Object"
  | 1 => .object "java/lang/String"
  | 2 => .object "java/lang/Throwable"
  | 3 => .array (.object "java/lang/StackTraceElement")
  | 4 => .int
  | _ => .object "java/util/List"
abbrev wsJ410 : List Cond := u_ws RJ41 TJ41 6
theorem nmJ41 : ∀ a, a < 6 → ∀ b, b < 6 → a ≠ b → (TJ41 a).2.1 ≠ (TJ41 b).2.1 := by decide +kernel
theorem tyJ41_ok : ∀ k, k < 6 → parseFieldDescriptor (TJ41 k).2.2.1 = some (tyJ41 k) := by decide +kernel
set_option maxRecDepth 100000 in
theorem in_J41 : ∀ w ∈ wsJ410, w ∈ lw_all := lw_in wsJ410 [2058, 2059, 2060, 2061, 2062, 2063] (by decide +kernel) (by decide +kernel)
def RJ42 : String := "java/util/AbstractSet"
def RJ43 : String := "java/util/TreeSet"
def TJ43 : u_T := fun k => match k with
  | _ => ("java/util/TreeSet", "m", "Ljava/util/NavigableMap;", false)
def tyJ43 : Nat → FieldType := fun k => match k with
  | _ => .object "java/util/NavigableMap"
abbrev wsJ430 : List Cond := u_ws RJ43 TJ43 1
theorem nmJ43 : ∀ a, a < 1 → ∀ b, b < 1 → a ≠ b → (TJ43 a).2.1 ≠ (TJ43 b).2.1 := by decide +kernel
theorem tyJ43_ok : ∀ k, k < 1 → parseFieldDescriptor (TJ43 k).2.2.1 = some (tyJ43 k) := by decide +kernel
set_option maxRecDepth 100000 in
theorem in_J43 : ∀ w ∈ wsJ430, w ∈ lw_all := lw_in wsJ430 [2370] (by decide +kernel) (by decide +kernel)
def RJ44 : String := "java/util/TreeMap$Entry"
def TJ44 : u_T := fun k => match k with
  | 0 => ("java/util/TreeMap$Entry", "key", "Ljava/lang/Object;", false)
  | 1 => ("java/util/TreeMap$Entry", "value", "Ljava/lang/Object;", false)
  | 2 => ("java/util/TreeMap$Entry", "left", "Ljava/util/TreeMap$Entry;", false)
  | 3 => ("java/util/TreeMap$Entry", "right", "Ljava/util/TreeMap$Entry;", false)
  | 4 => ("java/util/TreeMap$Entry", "parent", "Ljava/util/TreeMap$Entry;", false)
  | _ => ("java/util/TreeMap$Entry", "color", "Z", false)
def tyJ44 : Nat → FieldType := fun k => match k with
  | 0 => .object "java/lang/Object"
  | 1 => .object "java/lang/Object"
  | 2 => .object "java/util/TreeMap$Entry"
  | 3 => .object "java/util/TreeMap$Entry"
  | 4 => .object "java/util/TreeMap$Entry"
  | _ => .boolean
abbrev wsJ440 : List Cond := u_ws RJ44 TJ44 6
theorem nmJ44 : ∀ a, a < 6 → ∀ b, b < 6 → a ≠ b → (TJ44 a).2.1 ≠ (TJ44 b).2.1 := by decide +kernel
theorem tyJ44_ok : ∀ k, k < 6 → parseFieldDescriptor (TJ44 k).2.2.1 = some (tyJ44 k) := by decide +kernel
set_option maxRecDepth 100000 in
theorem in_J44 : ∀ w ∈ wsJ440, w ∈ lw_all := lw_in wsJ440 [2443, 2445, 2447, 2449, 2451, 2453] (by decide +kernel) (by decide +kernel)
def RJ45 : String := "java/util/TreeMap$KeySet"
def TJ45 : u_T := fun k => match k with
  | _ => ("java/util/TreeMap$KeySet", "m", "Ljava/util/NavigableMap;", true)
def tyJ45 : Nat → FieldType := fun k => match k with
  | _ => .object "java/util/NavigableMap"
abbrev wsJ450 : List Cond := u_ws RJ45 TJ45 1
theorem nmJ45 : ∀ a, a < 1 → ∀ b, b < 1 → a ≠ b → (TJ45 a).2.1 ≠ (TJ45 b).2.1 := by decide +kernel
theorem tyJ45_ok : ∀ k, k < 1 → parseFieldDescriptor (TJ45 k).2.2.1 = some (tyJ45 k) := by decide +kernel
set_option maxRecDepth 100000 in
theorem in_J45 : ∀ w ∈ wsJ450, w ∈ lw_all := lw_in wsJ450 [2485] (by decide +kernel) (by decide +kernel)
def RJ46 : String := "java/util/TreeMap$PrivateEntryIterator"
def RJ47 : String := "java/util/TreeMap$KeyIterator"
def TJ47 : u_T := fun k => match k with
  | 0 => ("java/util/TreeMap$PrivateEntryIterator", "next", "Ljava/util/TreeMap$Entry;", false)
  | 1 => ("java/util/TreeMap$PrivateEntryIterator", "lastReturned", "Ljava/util/TreeMap$Entry;", false)
  | 2 => ("java/util/TreeMap$PrivateEntryIterator", "expectedModCount", "I", false)
  | _ => ("java/util/TreeMap$PrivateEntryIterator", "this$0", "Ljava/util/TreeMap;", true)
def tyJ47 : Nat → FieldType := fun k => match k with
  | 0 => .object "java/util/TreeMap$Entry"
  | 1 => .object "java/util/TreeMap$Entry"
  | 2 => .int
  | _ => .object "java/util/TreeMap"
abbrev wsJ470 : List Cond := u_ws RJ47 TJ47 4
theorem nmJ47 : ∀ a, a < 4 → ∀ b, b < 4 → a ≠ b → (TJ47 a).2.1 ≠ (TJ47 b).2.1 := by decide +kernel
theorem tyJ47_ok : ∀ k, k < 4 → parseFieldDescriptor (TJ47 k).2.2.1 = some (tyJ47 k) := by decide +kernel
set_option maxRecDepth 100000 in
theorem in_J47 : ∀ w ∈ wsJ470, w ∈ lw_all := lw_in wsJ470 [2520, 2522, 2524, 2526] (by decide +kernel) (by decide +kernel)
def RJ48 : String := "java/util/TreeMap$Values"
def TJ48 : u_T := fun k => match k with
  | _ => ("java/util/TreeMap$Values", "this$0", "Ljava/util/TreeMap;", true)
def tyJ48 : Nat → FieldType := fun k => match k with
  | _ => .object "java/util/TreeMap"
abbrev wsJ480 : List Cond := u_ws RJ48 TJ48 1
theorem nmJ48 : ∀ a, a < 1 → ∀ b, b < 1 → a ≠ b → (TJ48 a).2.1 ≠ (TJ48 b).2.1 := by decide +kernel
theorem tyJ48_ok : ∀ k, k < 1 → parseFieldDescriptor (TJ48 k).2.2.1 = some (tyJ48 k) := by decide +kernel
set_option maxRecDepth 100000 in
theorem in_J48 : ∀ w ∈ wsJ480, w ∈ lw_all := lw_in wsJ480 [2675] (by decide +kernel) (by decide +kernel)
def RJ49 : String := "java/util/ArrayDeque$DeqIterator"
def TJ49 : u_T := fun k => match k with
  | 0 => ("java/util/ArrayDeque$DeqIterator", "cursor", "I", false)
  | 1 => ("java/util/ArrayDeque$DeqIterator", "remaining", "I", false)
  | 2 => ("java/util/ArrayDeque$DeqIterator", "lastRet", "I", false)
  | _ => ("java/util/ArrayDeque$DeqIterator", "this$0", "Ljava/util/ArrayDeque;", true)
def tyJ49 : Nat → FieldType := fun k => match k with
  | 0 => .int
  | 1 => .int
  | 2 => .int
  | _ => .object "java/util/ArrayDeque"
abbrev wsJ490 : List Cond := u_ws RJ49 TJ49 4
theorem nmJ49 : ∀ a, a < 4 → ∀ b, b < 4 → a ≠ b → (TJ49 a).2.1 ≠ (TJ49 b).2.1 := by decide +kernel
theorem tyJ49_ok : ∀ k, k < 4 → parseFieldDescriptor (TJ49 k).2.2.1 = some (tyJ49 k) := by decide +kernel
set_option maxRecDepth 100000 in
theorem in_J49 : ∀ w ∈ wsJ490, w ∈ lw_all := lw_in wsJ490 [2699, 2701, 2703, 2705] (by decide +kernel) (by decide +kernel)
def RJ50 : String := "java/util/ImmutableCollections$ListItr"
def TJ50 : u_T := fun k => match k with
  | 0 => ("java/util/ImmutableCollections$ListItr", "list", "Ljava/util/List;", true)
  | 1 => ("java/util/ImmutableCollections$ListItr", "size", "I", true)
  | 2 => ("java/util/ImmutableCollections$ListItr", "isListIterator", "Z", true)
  | _ => ("java/util/ImmutableCollections$ListItr", "cursor", "I", false)
def tyJ50 : Nat → FieldType := fun k => match k with
  | 0 => .object "java/util/List"
  | 1 => .int
  | 2 => .boolean
  | _ => .int
abbrev wsJ500 : List Cond := u_ws RJ50 TJ50 4
theorem nmJ50 : ∀ a, a < 4 → ∀ b, b < 4 → a ≠ b → (TJ50 a).2.1 ≠ (TJ50 b).2.1 := by decide +kernel
theorem tyJ50_ok : ∀ k, k < 4 → parseFieldDescriptor (TJ50 k).2.2.1 = some (tyJ50 k) := by decide +kernel
set_option maxRecDepth 100000 in
theorem in_J50 : ∀ w ∈ wsJ500, w ∈ lw_all := lw_in wsJ500 [2728, 2730, 2732, 2734] (by decide +kernel) (by decide +kernel)
def RJ51 : String := "java/util/PriorityQueue$Itr"
def TJ51 : u_T := fun k => match k with
  | 0 => ("java/util/PriorityQueue$Itr", "cursor", "I", false)
  | 1 => ("java/util/PriorityQueue$Itr", "lastRet", "I", false)
  | 2 => ("java/util/PriorityQueue$Itr", "forgetMeNot", "Ljava/util/ArrayDeque;", false)
  | 3 => ("java/util/PriorityQueue$Itr", "lastRetElt", "Ljava/lang/Object;", false)
  | 4 => ("java/util/PriorityQueue$Itr", "expectedModCount", "I", false)
  | _ => ("java/util/PriorityQueue$Itr", "this$0", "Ljava/util/PriorityQueue;", true)
def tyJ51 : Nat → FieldType := fun k => match k with
  | 0 => .int
  | 1 => .int
  | 2 => .object "java/util/ArrayDeque"
  | 3 => .object "java/lang/Object"
  | 4 => .int
  | _ => .object "java/util/PriorityQueue"
abbrev wsJ510 : List Cond := u_ws RJ51 TJ51 6
theorem nmJ51 : ∀ a, a < 6 → ∀ b, b < 6 → a ≠ b → (TJ51 a).2.1 ≠ (TJ51 b).2.1 := by decide +kernel
theorem tyJ51_ok : ∀ k, k < 6 → parseFieldDescriptor (TJ51 k).2.2.1 = some (tyJ51 k) := by decide +kernel
set_option maxRecDepth 100000 in
theorem in_J51 : ∀ w ∈ wsJ510, w ∈ lw_all := lw_in wsJ510 [2762, 2764, 2766, 2768, 2770, 2772] (by decide +kernel) (by decide +kernel)
def RJ52 : String := "java/util/TreeMap$ValueIterator"
def TJ52 : u_T := fun k => match k with
  | 0 => ("java/util/TreeMap$PrivateEntryIterator", "next", "Ljava/util/TreeMap$Entry;", false)
  | 1 => ("java/util/TreeMap$PrivateEntryIterator", "lastReturned", "Ljava/util/TreeMap$Entry;", false)
  | 2 => ("java/util/TreeMap$PrivateEntryIterator", "expectedModCount", "I", false)
  | _ => ("java/util/TreeMap$PrivateEntryIterator", "this$0", "Ljava/util/TreeMap;", true)
def tyJ52 : Nat → FieldType := fun k => match k with
  | 0 => .object "java/util/TreeMap$Entry"
  | 1 => .object "java/util/TreeMap$Entry"
  | 2 => .int
  | _ => .object "java/util/TreeMap"
abbrev wsJ520 : List Cond := u_ws RJ52 TJ52 4
theorem nmJ52 : ∀ a, a < 4 → ∀ b, b < 4 → a ≠ b → (TJ52 a).2.1 ≠ (TJ52 b).2.1 := by decide +kernel
theorem tyJ52_ok : ∀ k, k < 4 → parseFieldDescriptor (TJ52 k).2.2.1 = some (tyJ52 k) := by decide +kernel
set_option maxRecDepth 100000 in
theorem in_J52 : ∀ w ∈ wsJ520, w ∈ lw_all := lw_in wsJ520 [2790, 2791, 2792, 2793] (by decide +kernel) (by decide +kernel)
def RJ53 : String := "java/lang/IndexOutOfBoundsException"
def RJ54 : String := "java/lang/ArrayIndexOutOfBoundsException"
def TJ54 : u_T := fun k => match k with
  | 0 => ("java/lang/Throwable", "backtrace", "Ljava/lang/Object;", false)
  | 1 => ("java/lang/Throwable", "detailMessage", "Ljava/lang/String;", false)
  | 2 => ("java/lang/Throwable", "cause", "Ljava/lang/Throwable;", false)
  | 3 => ("java/lang/Throwable", "stackTrace", "[Ljava/lang/StackTraceElement;", false)
  | 4 => ("java/lang/Throwable", "depth", "I", false)
  | _ => ("java/lang/Throwable", "suppressedExceptions", "Ljava/util/List;", false)
def tyJ54 : Nat → FieldType := fun k => match k with
  | 0 => .object "java/lang/Object"
  | 1 => .object "java/lang/String"
  | 2 => .object "java/lang/Throwable"
  | 3 => .array (.object "java/lang/StackTraceElement")
  | 4 => .int
  | _ => .object "java/util/List"
abbrev wsJ540 : List Cond := u_ws RJ54 TJ54 6
theorem nmJ54 : ∀ a, a < 6 → ∀ b, b < 6 → a ≠ b → (TJ54 a).2.1 ≠ (TJ54 b).2.1 := by decide +kernel
theorem tyJ54_ok : ∀ k, k < 6 → parseFieldDescriptor (TJ54 k).2.2.1 = some (tyJ54 k) := by decide +kernel
set_option maxRecDepth 100000 in
theorem in_J54 : ∀ w ∈ wsJ540, w ∈ lw_all := lw_in wsJ540 [2994, 2995, 2996, 2997, 2998, 2999] (by decide +kernel) (by decide +kernel)
def RJ55 : String := "java/lang/Object"
abbrev CLs : List vw_C := [(RX0, TX0, 32), (RX1, TX1, 18), (RX2, TX2, 6), (RX3, TX3, 1), (RX4, TX4, 1), (RX5, TX5, 40), (RX6, TX6, 4), (RX7, TX7, 5), (RX8, TX8, 7), (RX9, TX9, 1), (RX10, TX10, 2), (RX11, TX11, 5), (RJ3, TJ3, 4), (RJ5, TJ5, 4), (RJ6, TJ6, 3), (RJ7, TJ7, 5), (RJ10, TJ10, 6), (RJ12, TJ12, 4), (RJ13, TJ13, 4), (RJ21, TJ21, 1), (RJ22, TJ22, 3), (RJ24, TJ24, 5), (RJ25, TJ25, 6), (RJ28, TJ28, 9), (RJ31, TJ31, 8), (RJ34, TJ34, 2), (RJ35, TJ35, 2), (RJ36, TJ36, 3), (RJ37, TJ37, 6), (RJ38, TJ38, 6), (RJ41, TJ41, 6), (RJ43, TJ43, 1), (RJ44, TJ44, 6), (RJ45, TJ45, 1), (RJ47, TJ47, 4), (RJ48, TJ48, 1), (RJ49, TJ49, 4), (RJ50, TJ50, 4), (RJ51, TJ51, 6), (RJ52, TJ52, 4), (RJ54, TJ54, 6)]
/-- class number i of CLs has this name, these fields; its words are in lw_all -/
def CK (ci : Nat) (C : String) (T : u_T) (N : Nat) (ty : Nat → FieldType) : Prop := CLs[ci]? = some (C, T, N) ∧ (∀ w ∈ u_ws C T N, w ∈ lw_all) ∧ (∀ k, k < N → parseFieldDescriptor (T k).2.2.1 = some (ty k)) ∧ ∀ a, a < N → ∀ b, b < N → a ≠ b → (T a).2.1 ≠ (T b).2.1
theorem ck_X0 : CK 0 RX0 TX0 32 tyX0 := ⟨rfl, in_X0, tyX0_ok, nmX0⟩
theorem ck_X1 : CK 1 RX1 TX1 18 tyX1 := ⟨rfl, in_X1, tyX1_ok, nmX1⟩
theorem ck_X2 : CK 2 RX2 TX2 6 tyX2 := ⟨rfl, in_X2, tyX2_ok, nmX2⟩
theorem ck_X3 : CK 3 RX3 TX3 1 tyX3 := ⟨rfl, in_X3, tyX3_ok, nmX3⟩
theorem ck_X4 : CK 4 RX4 TX4 1 tyX4 := ⟨rfl, in_X4, tyX4_ok, nmX4⟩
theorem ck_X5 : CK 5 RX5 TX5 40 tyX5 := ⟨rfl, in_X5, tyX5_ok, nmX5⟩
theorem ck_X6 : CK 6 RX6 TX6 4 tyX6 := ⟨rfl, in_X6, tyX6_ok, nmX6⟩
theorem ck_X7 : CK 7 RX7 TX7 5 tyX7 := ⟨rfl, in_X7, tyX7_ok, nmX7⟩
theorem ck_X8 : CK 8 RX8 TX8 7 tyX8 := ⟨rfl, in_X8, tyX8_ok, nmX8⟩
theorem ck_X9 : CK 9 RX9 TX9 1 tyX9 := ⟨rfl, in_X9, tyX9_ok, nmX9⟩
theorem ck_X10 : CK 10 RX10 TX10 2 tyX10 := ⟨rfl, in_X10, tyX10_ok, nmX10⟩
theorem ck_X11 : CK 11 RX11 TX11 5 tyX11 := ⟨rfl, in_X11, tyX11_ok, nmX11⟩
theorem ck_J3 : CK 12 RJ3 TJ3 4 tyJ3 := ⟨rfl, in_J3, tyJ3_ok, nmJ3⟩
theorem ck_J5 : CK 13 RJ5 TJ5 4 tyJ5 := ⟨rfl, in_J5, tyJ5_ok, nmJ5⟩
theorem ck_J6 : CK 14 RJ6 TJ6 3 tyJ6 := ⟨rfl, in_J6, tyJ6_ok, nmJ6⟩
theorem ck_J7 : CK 15 RJ7 TJ7 5 tyJ7 := ⟨rfl, in_J7, tyJ7_ok, nmJ7⟩
theorem ck_J10 : CK 16 RJ10 TJ10 6 tyJ10 := ⟨rfl, in_J10, tyJ10_ok, nmJ10⟩
theorem ck_J12 : CK 17 RJ12 TJ12 4 tyJ12 := ⟨rfl, in_J12, tyJ12_ok, nmJ12⟩
theorem ck_J13 : CK 18 RJ13 TJ13 4 tyJ13 := ⟨rfl, in_J13, tyJ13_ok, nmJ13⟩
theorem ck_J21 : CK 19 RJ21 TJ21 1 tyJ21 := ⟨rfl, in_J21, tyJ21_ok, nmJ21⟩
theorem ck_J22 : CK 20 RJ22 TJ22 3 tyJ22 := ⟨rfl, in_J22, tyJ22_ok, nmJ22⟩
theorem ck_J24 : CK 21 RJ24 TJ24 5 tyJ24 := ⟨rfl, in_J24, tyJ24_ok, nmJ24⟩
theorem ck_J25 : CK 22 RJ25 TJ25 6 tyJ25 := ⟨rfl, in_J25, tyJ25_ok, nmJ25⟩
theorem ck_J28 : CK 23 RJ28 TJ28 9 tyJ28 := ⟨rfl, in_J28, tyJ28_ok, nmJ28⟩
theorem ck_J31 : CK 24 RJ31 TJ31 8 tyJ31 := ⟨rfl, in_J31, tyJ31_ok, nmJ31⟩
theorem ck_J34 : CK 25 RJ34 TJ34 2 tyJ34 := ⟨rfl, in_J34, tyJ34_ok, nmJ34⟩
theorem ck_J35 : CK 26 RJ35 TJ35 2 tyJ35 := ⟨rfl, in_J35, tyJ35_ok, nmJ35⟩
theorem ck_J36 : CK 27 RJ36 TJ36 3 tyJ36 := ⟨rfl, in_J36, tyJ36_ok, nmJ36⟩
theorem ck_J37 : CK 28 RJ37 TJ37 6 tyJ37 := ⟨rfl, in_J37, tyJ37_ok, nmJ37⟩
theorem ck_J38 : CK 29 RJ38 TJ38 6 tyJ38 := ⟨rfl, in_J38, tyJ38_ok, nmJ38⟩
theorem ck_J41 : CK 30 RJ41 TJ41 6 tyJ41 := ⟨rfl, in_J41, tyJ41_ok, nmJ41⟩
theorem ck_J43 : CK 31 RJ43 TJ43 1 tyJ43 := ⟨rfl, in_J43, tyJ43_ok, nmJ43⟩
theorem ck_J44 : CK 32 RJ44 TJ44 6 tyJ44 := ⟨rfl, in_J44, tyJ44_ok, nmJ44⟩
theorem ck_J45 : CK 33 RJ45 TJ45 1 tyJ45 := ⟨rfl, in_J45, tyJ45_ok, nmJ45⟩
theorem ck_J47 : CK 34 RJ47 TJ47 4 tyJ47 := ⟨rfl, in_J47, tyJ47_ok, nmJ47⟩
theorem ck_J48 : CK 35 RJ48 TJ48 1 tyJ48 := ⟨rfl, in_J48, tyJ48_ok, nmJ48⟩
theorem ck_J49 : CK 36 RJ49 TJ49 4 tyJ49 := ⟨rfl, in_J49, tyJ49_ok, nmJ49⟩
theorem ck_J50 : CK 37 RJ50 TJ50 4 tyJ50 := ⟨rfl, in_J50, tyJ50_ok, nmJ50⟩
theorem ck_J51 : CK 38 RJ51 TJ51 6 tyJ51 := ⟨rfl, in_J51, tyJ51_ok, nmJ51⟩
theorem ck_J52 : CK 39 RJ52 TJ52 4 tyJ52 := ⟨rfl, in_J52, tyJ52_ok, nmJ52⟩
theorem ck_J54 : CK 40 RJ54 TJ54 6 tyJ54 := ⟨rfl, in_J54, tyJ54_ok, nmJ54⟩
