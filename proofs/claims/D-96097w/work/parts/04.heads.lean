/-! THE CLASSES: names, field tables, field words (out of claim/names) -/
set_option maxRecDepth 100000
def RX0 : String := "BakedBefore"
def TX0 : u_T := fun k => match k with
  | 0 => ("BakedBefore", "loaves", "[LBakedBefore$Loaf;", true)
  | 1 => ("BakedBefore", "gives", "[I", true)
  | 2 => ("BakedBefore", "bears", "[I", true)
  | 3 => ("BakedBefore", "many", "I", false)
  | 4 => ("BakedBefore", "now", "LBakedBefore$Time;", true)
  | 5 => ("BakedBefore", "tried", "LBakedBefore$Time;", true)
  | 6 => ("BakedBefore", "text", "[B", true)
  | 7 => ("BakedBefore", "texted", "I", false)
  | 8 => ("BakedBefore", "kilnMany", "I", false)
  | 9 => ("BakedBefore", "kiln", "LBakedBefore$Kiln;", false)
  | 10 => ("BakedBefore", "look", "LBakedBefore$Look;", true)
  | 11 => ("BakedBefore", "trace", "LBakedBefore$Trace;", true)
  | 12 => ("BakedBefore", "book", "[B", true)
  | 13 => ("BakedBefore", "bookSpoiled", "[Z", true)
  | 14 => ("BakedBefore", "bookMany", "I", false)
  | 15 => ("BakedBefore", "tapes", "[LBakedBefore$Tape;", true)
  | 16 => ("BakedBefore", "took", "[I", true)
  | 17 => ("BakedBefore", "left", "[I", true)
  | 18 => ("BakedBefore", "stages", "[LBakedBefore$Time;", true)
  | 19 => ("BakedBefore", "row", "[I", true)
  | 20 => ("BakedBefore", "bestRow", "[I", true)
  | 21 => ("BakedBefore", "fewest", "I", false)
  | 22 => ("BakedBefore", "imageNow", "LBakedBefore$Time;", true)
  | 23 => ("BakedBefore", "imageLoaves", "[LBakedBefore$Loaf;", true)
  | 24 => ("BakedBefore", "imageGives", "[I", true)
  | 25 => ("BakedBefore", "imageBears", "[I", true)
  | 26 => ("BakedBefore", "imageBook", "[B", true)
  | 27 => ("BakedBefore", "imageSpoiled", "[Z", true)
  | 28 => ("BakedBefore", "imageMany", "I", false)
  | 29 => ("BakedBefore", "imageBooked", "I", false)
  | _ => ("BakedBefore", "imageKiln", "LBakedBefore$Kiln;", false)
def tyX0 : Nat → FieldType := fun k => match k with
  | 0 => .array (.object "BakedBefore$Loaf")
  | 1 => .array .int
  | 2 => .array .int
  | 3 => .int
  | 4 => .object "BakedBefore$Time"
  | 5 => .object "BakedBefore$Time"
  | 6 => .array .byte
  | 7 => .int
  | 8 => .int
  | 9 => .object "BakedBefore$Kiln"
  | 10 => .object "BakedBefore$Look"
  | 11 => .object "BakedBefore$Trace"
  | 12 => .array .byte
  | 13 => .array .boolean
  | 14 => .int
  | 15 => .array (.object "BakedBefore$Tape")
  | 16 => .array .int
  | 17 => .array .int
  | 18 => .array (.object "BakedBefore$Time")
  | 19 => .array .int
  | 20 => .array .int
  | 21 => .int
  | 22 => .object "BakedBefore$Time"
  | 23 => .array (.object "BakedBefore$Loaf")
  | 24 => .array .int
  | 25 => .array .int
  | 26 => .array .byte
  | 27 => .array .boolean
  | 28 => .int
  | 29 => .int
  | _ => .object "BakedBefore$Kiln"
abbrev wsX00 : List Cond := u_ws RX0 TX0 31
set_option maxRecDepth 100000 in
theorem nmX0 : ∀ a, a < 31 → ∀ b, b < 31 → a ≠ b → (TX0 a).2.1 ≠ (TX0 b).2.1 := by decide +kernel
set_option maxRecDepth 100000 in
theorem tyX0_ok : ∀ k, k < 31 → parseFieldDescriptor (TX0 k).2.2.1 = some (tyX0 k) := by decide +kernel
theorem in_X0 : ∀ w ∈ wsX00, w ∈ lw_all := lw_in wsX00 [301, 303, 305, 307, 309, 311, 313, 315, 317, 319, 321, 323, 325, 327, 329, 331, 333, 335, 337, 339, 341, 343, 345, 347, 349, 351, 353, 355, 357, 359, 361] (by decide +kernel) (by decide +kernel)
def RX1 : String := "BakedBefore$Time"
def TX1 : u_T := fun k => match k with
  | 0 => ("BakedBefore$Time", "held", "[I", true)
  | _ => ("BakedBefore$Time", "hour", "I", false)
def tyX1 : Nat → FieldType := fun k => match k with
  | 0 => .array .int
  | _ => .int
abbrev wsX10 : List Cond := u_ws RX1 TX1 2
theorem nmX1 : ∀ a, a < 2 → ∀ b, b < 2 → a ≠ b → (TX1 a).2.1 ≠ (TX1 b).2.1 := by decide +kernel
theorem tyX1_ok : ∀ k, k < 2 → parseFieldDescriptor (TX1 k).2.2.1 = some (tyX1 k) := by decide +kernel
theorem in_X1 : ∀ w ∈ wsX10, w ∈ lw_all := lw_in wsX10 [150, 152] (by decide +kernel) (by decide +kernel)
def RX2 : String := "BakedBefore$Kiln"
def TX2 : u_T := fun k => match k with
  | 0 => ("BakedBefore$Kiln", "takes", "Ljava/util/ArrayList;", true)
  | 1 => ("BakedBefore$Kiln", "mores", "Ljava/util/ArrayList;", true)
  | 2 => ("BakedBefore$Kiln", "fees", "Ljava/util/ArrayList;", true)
  | 3 => ("BakedBefore$Kiln", "many", "I", false)
  | _ => ("BakedBefore$Kiln", "cold", "I", false)
def tyX2 : Nat → FieldType := fun k => match k with
  | 0 => .object "java/util/ArrayList"
  | 1 => .object "java/util/ArrayList"
  | 2 => .object "java/util/ArrayList"
  | 3 => .int
  | _ => .int
abbrev wsX20 : List Cond := u_ws RX2 TX2 5
theorem nmX2 : ∀ a, a < 5 → ∀ b, b < 5 → a ≠ b → (TX2 a).2.1 ≠ (TX2 b).2.1 := by decide +kernel
theorem tyX2_ok : ∀ k, k < 5 → parseFieldDescriptor (TX2 k).2.2.1 = some (tyX2 k) := by decide +kernel
theorem in_X2 : ∀ w ∈ wsX20, w ∈ lw_all := lw_in wsX20 [199, 201, 203, 205, 207] (by decide +kernel) (by decide +kernel)
def RJ0 : String := "java/util/AbstractCollection"
def RJ1 : String := "java/util/AbstractList"
def RJ2 : String := "java/util/ArrayList"
def TJ2 : u_T := fun k => match k with
  | 0 => ("java/util/AbstractList", "modCount", "I", false)
  | 1 => ("java/util/ArrayList", "elementData", "[Ljava/lang/Object;", false)
  | _ => ("java/util/ArrayList", "size", "I", false)
def tyJ2 : Nat → FieldType := fun k => match k with
  | 0 => .int
  | 1 => .array (.object "java/lang/Object")
  | _ => .int
abbrev wsJ20 : List Cond := u_ws RJ2 TJ2 3
theorem nmJ2 : ∀ a, a < 3 → ∀ b, b < 3 → a ≠ b → (TJ2 a).2.1 ≠ (TJ2 b).2.1 := by decide +kernel
theorem tyJ2_ok : ∀ k, k < 3 → parseFieldDescriptor (TJ2 k).2.2.1 = some (tyJ2 k) := by decide +kernel
theorem in_J2 : ∀ w ∈ wsJ20, w ∈ lw_all := lw_in wsJ20 [185, 181, 183] (by decide +kernel) (by decide +kernel)
def RX3 : String := "BakedBefore$Look"
def TX3 : u_T := fun k => match k with
  | 0 => ("BakedBefore$Look", "loaf", "I", false)
  | 1 => ("BakedBefore$Look", "kind", "I", false)
  | 2 => ("BakedBefore$Look", "taste", "I", false)
  | 3 => ("BakedBefore$Look", "v", "I", false)
  | 4 => ("BakedBefore$Look", "hour", "I", false)
  | _ => ("BakedBefore$Look", "oven", "I", false)
def tyX3 : Nat → FieldType := fun k => match k with
  | 0 => .int
  | 1 => .int
  | 2 => .int
  | 3 => .int
  | 4 => .int
  | _ => .int
abbrev wsX30 : List Cond := u_ws RX3 TX3 6
theorem nmX3 : ∀ a, a < 6 → ∀ b, b < 6 → a ≠ b → (TX3 a).2.1 ≠ (TX3 b).2.1 := by decide +kernel
theorem tyX3_ok : ∀ k, k < 6 → parseFieldDescriptor (TX3 k).2.2.1 = some (tyX3 k) := by decide +kernel
theorem in_X3 : ∀ w ∈ wsX30, w ∈ lw_all := lw_in wsX30 [228, 230, 232, 234, 236, 238] (by decide +kernel) (by decide +kernel)
def RX4 : String := "BakedBefore$Trace"
def TX4 : u_T := fun k => match k with
  | 0 => ("BakedBefore$Trace", "bodies", "[I", true)
  | _ => ("BakedBefore$Trace", "count", "I", false)
def tyX4 : Nat → FieldType := fun k => match k with
  | 0 => .array .int
  | _ => .int
abbrev wsX40 : List Cond := u_ws RX4 TX4 2
theorem nmX4 : ∀ a, a < 2 → ∀ b, b < 2 → a ≠ b → (TX4 a).2.1 ≠ (TX4 b).2.1 := by decide +kernel
theorem tyX4_ok : ∀ k, k < 2 → parseFieldDescriptor (TX4 k).2.2.1 = some (tyX4 k) := by decide +kernel
theorem in_X4 : ∀ w ∈ wsX40, w ∈ lw_all := lw_in wsX40 [251, 253] (by decide +kernel) (by decide +kernel)
def RX5 : String := "BakedBefore$Tape"
def TX5 : u_T := fun k => match k with
  | _ => ("BakedBefore$Tape", "row", "Ljava/lang/Object;", false)
def tyX5 : Nat → FieldType := fun k => match k with
  | _ => .object "java/lang/Object"
abbrev wsX50 : List Cond := u_ws RX5 TX5 1
theorem nmX5 : ∀ a, a < 1 → ∀ b, b < 1 → a ≠ b → (TX5 a).2.1 ≠ (TX5 b).2.1 := by decide +kernel
theorem tyX5_ok : ∀ k, k < 1 → parseFieldDescriptor (TX5 k).2.2.1 = some (tyX5 k) := by decide +kernel
theorem in_X5 : ∀ w ∈ wsX50, w ∈ lw_all := lw_in wsX50 [266] (by decide +kernel) (by decide +kernel)
def RX6 : String := "BakedBeforeModel"
def TX6 : u_T := fun k => match k with
  | 0 => ("BakedBeforeModel", "s", "[I", true)
  | 1 => ("BakedBeforeModel", "image", "[I", true)
  | 2 => ("BakedBeforeModel", "mind", "[I", true)
  | 3 => ("BakedBeforeModel", "hasImage", "Z", false)
  | 4 => ("BakedBeforeModel", "text", "[I", true)
  | 5 => ("BakedBeforeModel", "kilnText", "[I", true)
  | 6 => ("BakedBeforeModel", "kilnLong", "[I", true)
  | 7 => ("BakedBeforeModel", "texted", "I", false)
  | 8 => ("BakedBeforeModel", "kilns", "I", false)
  | 9 => ("BakedBeforeModel", "base", "I", false)
  | 10 => ("BakedBeforeModel", "end", "I", false)
  | 11 => ("BakedBeforeModel", "at", "I", false)
  | 12 => ("BakedBeforeModel", "loaf", "I", false)
  | 13 => ("BakedBeforeModel", "taste", "I", false)
  | 14 => ("BakedBeforeModel", "wrong", "Z", false)
  | 15 => ("BakedBeforeModel", "isFee", "Z", false)
  | 16 => ("BakedBeforeModel", "part", "I", false)
  | 17 => ("BakedBeforeModel", "parts", "I", false)
  | 18 => ("BakedBeforeModel", "more", "I", false)
  | 19 => ("BakedBeforeModel", "cold", "I", false)
  | 20 => ("BakedBeforeModel", "fee", "I", false)
  | 21 => ("BakedBeforeModel", "held", "[I", true)
  | 22 => ("BakedBeforeModel", "line", "[I", true)
  | 23 => ("BakedBeforeModel", "best", "[I", true)
  | 24 => ("BakedBeforeModel", "fewest", "I", false)
  | 25 => ("BakedBeforeModel", "tapeSort", "[I", true)
  | 26 => ("BakedBeforeModel", "tapeLong", "[I", true)
  | 27 => ("BakedBeforeModel", "item", "[J", true)
  | 28 => ("BakedBeforeModel", "trace", "[I", true)
  | 29 => ("BakedBeforeModel", "ran", "I", false)
  | _ => ("BakedBeforeModel", "own", "I", false)
def tyX6 : Nat → FieldType := fun k => match k with
  | 0 => .array .int
  | 1 => .array .int
  | 2 => .array .int
  | 3 => .boolean
  | 4 => .array .int
  | 5 => .array .int
  | 6 => .array .int
  | 7 => .int
  | 8 => .int
  | 9 => .int
  | 10 => .int
  | 11 => .int
  | 12 => .int
  | 13 => .int
  | 14 => .boolean
  | 15 => .boolean
  | 16 => .int
  | 17 => .int
  | 18 => .int
  | 19 => .int
  | 20 => .int
  | 21 => .array .int
  | 22 => .array .int
  | 23 => .array .int
  | 24 => .int
  | 25 => .array .int
  | 26 => .array .int
  | 27 => .array .long
  | 28 => .array .int
  | 29 => .int
  | _ => .int
abbrev wsX60 : List Cond := u_ws RX6 TX6 31
set_option maxRecDepth 100000 in
theorem nmX6 : ∀ a, a < 31 → ∀ b, b < 31 → a ≠ b → (TX6 a).2.1 ≠ (TX6 b).2.1 := by decide +kernel
set_option maxRecDepth 100000 in
theorem tyX6_ok : ∀ k, k < 31 → parseFieldDescriptor (TX6 k).2.2.1 = some (tyX6 k) := by decide +kernel
theorem in_X6 : ∀ w ∈ wsX60, w ∈ lw_all := lw_in wsX60 [1444, 1446, 1448, 1450, 1452, 1454, 1456, 1458, 1460, 1462, 1464, 1466, 1468, 1470, 1472, 1474, 1476, 1478, 1480, 1482, 1484, 1486, 1488, 1490, 1492, 1494, 1496, 1498, 1500, 1502, 1504] (by decide +kernel) (by decide +kernel)
def RX7 : String := "BakedBefore$Loaf"
def TX7 : u_T := fun k => match k with
  | 0 => ("BakedBefore$Loaf", "trace", "LBakedBefore$Trace;", true)
  | 1 => ("BakedBefore$Loaf", "number", "I", true)
  | _ => ("BakedBefore$Loaf", "v", "I", true)
def tyX7 : Nat → FieldType := fun k => match k with
  | 0 => .object "BakedBefore$Trace"
  | 1 => .int
  | _ => .int
abbrev wsX70 : List Cond := u_ws RX7 TX7 3
theorem nmX7 : ∀ a, a < 3 → ∀ b, b < 3 → a ≠ b → (TX7 a).2.1 ≠ (TX7 b).2.1 := by decide +kernel
theorem tyX7_ok : ∀ k, k < 3 → parseFieldDescriptor (TX7 k).2.2.1 = some (tyX7 k) := by decide +kernel
theorem in_X7 : ∀ w ∈ wsX70, w ∈ lw_all := lw_in wsX70 [467, 468, 469] (by decide +kernel) (by decide +kernel)
def RX8 : String := "BakedBefore$Clean"
def TX8 : u_T := fun k => match k with
  | 0 => ("BakedBefore$Loaf", "trace", "LBakedBefore$Trace;", true)
  | 1 => ("BakedBefore$Loaf", "number", "I", true)
  | _ => ("BakedBefore$Loaf", "v", "I", true)
def tyX8 : Nat → FieldType := fun k => match k with
  | 0 => .object "BakedBefore$Trace"
  | 1 => .int
  | _ => .int
abbrev wsX80 : List Cond := u_ws RX8 TX8 3
theorem nmX8 : ∀ a, a < 3 → ∀ b, b < 3 → a ≠ b → (TX8 a).2.1 ≠ (TX8 b).2.1 := by decide +kernel
theorem tyX8_ok : ∀ k, k < 3 → parseFieldDescriptor (TX8 k).2.2.1 = some (tyX8 k) := by decide +kernel
theorem in_X8 : ∀ w ∈ wsX80, w ∈ lw_all := lw_in wsX80 [408, 410, 412] (by decide +kernel) (by decide +kernel)
def RX9 : String := "BakedBefore$Greedy"
def TX9 : u_T := fun k => match k with
  | 0 => ("BakedBefore$Loaf", "trace", "LBakedBefore$Trace;", true)
  | 1 => ("BakedBefore$Loaf", "number", "I", true)
  | _ => ("BakedBefore$Loaf", "v", "I", true)
def tyX9 : Nat → FieldType := fun k => match k with
  | 0 => .object "BakedBefore$Trace"
  | 1 => .int
  | _ => .int
abbrev wsX90 : List Cond := u_ws RX9 TX9 3
theorem nmX9 : ∀ a, a < 3 → ∀ b, b < 3 → a ≠ b → (TX9 a).2.1 ≠ (TX9 b).2.1 := by decide +kernel
theorem tyX9_ok : ∀ k, k < 3 → parseFieldDescriptor (TX9 k).2.2.1 = some (tyX9 k) := by decide +kernel
theorem in_X9 : ∀ w ∈ wsX90, w ∈ lw_all := lw_in wsX90 [421, 422, 423] (by decide +kernel) (by decide +kernel)
def RX10 : String := "BakedBefore$Holy"
def TX10 : u_T := fun k => match k with
  | 0 => ("BakedBefore$Loaf", "trace", "LBakedBefore$Trace;", true)
  | 1 => ("BakedBefore$Loaf", "number", "I", true)
  | _ => ("BakedBefore$Loaf", "v", "I", true)
def tyX10 : Nat → FieldType := fun k => match k with
  | 0 => .object "BakedBefore$Trace"
  | 1 => .int
  | _ => .int
abbrev wsX100 : List Cond := u_ws RX10 TX10 3
theorem nmX10 : ∀ a, a < 3 → ∀ b, b < 3 → a ≠ b → (TX10 a).2.1 ≠ (TX10 b).2.1 := by decide +kernel
theorem tyX10_ok : ∀ k, k < 3 → parseFieldDescriptor (TX10 k).2.2.1 = some (tyX10 k) := by decide +kernel
theorem in_X10 : ∀ w ∈ wsX100, w ∈ lw_all := lw_in wsX100 [431, 432, 433] (by decide +kernel) (by decide +kernel)
def RX11 : String := "BakedBefore$Rye"
def TX11 : u_T := fun k => match k with
  | 0 => ("BakedBefore$Loaf", "trace", "LBakedBefore$Trace;", true)
  | 1 => ("BakedBefore$Loaf", "number", "I", true)
  | _ => ("BakedBefore$Loaf", "v", "I", true)
def tyX11 : Nat → FieldType := fun k => match k with
  | 0 => .object "BakedBefore$Trace"
  | 1 => .int
  | _ => .int
abbrev wsX110 : List Cond := u_ws RX11 TX11 3
theorem nmX11 : ∀ a, a < 3 → ∀ b, b < 3 → a ≠ b → (TX11 a).2.1 ≠ (TX11 b).2.1 := by decide +kernel
theorem tyX11_ok : ∀ k, k < 3 → parseFieldDescriptor (TX11 k).2.2.1 = some (tyX11 k) := by decide +kernel
theorem in_X11 : ∀ w ∈ wsX110, w ∈ lw_all := lw_in wsX110 [441, 442, 443] (by decide +kernel) (by decide +kernel)
def RX12 : String := "BakedBefore$Poisoned"
def TX12 : u_T := fun k => match k with
  | 0 => ("BakedBefore$Loaf", "trace", "LBakedBefore$Trace;", true)
  | 1 => ("BakedBefore$Loaf", "number", "I", true)
  | _ => ("BakedBefore$Loaf", "v", "I", true)
def tyX12 : Nat → FieldType := fun k => match k with
  | 0 => .object "BakedBefore$Trace"
  | 1 => .int
  | _ => .int
abbrev wsX120 : List Cond := u_ws RX12 TX12 3
theorem nmX12 : ∀ a, a < 3 → ∀ b, b < 3 → a ≠ b → (TX12 a).2.1 ≠ (TX12 b).2.1 := by decide +kernel
theorem tyX12_ok : ∀ k, k < 3 → parseFieldDescriptor (TX12 k).2.2.1 = some (tyX12 k) := by decide +kernel
theorem in_X12 : ∀ w ∈ wsX120, w ∈ lw_all := lw_in wsX120 [451, 452, 453] (by decide +kernel) (by decide +kernel)
def RX13 : String := "BakedBefore$Shy"
def TX13 : u_T := fun k => match k with
  | 0 => ("BakedBefore$Loaf", "trace", "LBakedBefore$Trace;", true)
  | 1 => ("BakedBefore$Loaf", "number", "I", true)
  | _ => ("BakedBefore$Loaf", "v", "I", true)
def tyX13 : Nat → FieldType := fun k => match k with
  | 0 => .object "BakedBefore$Trace"
  | 1 => .int
  | _ => .int
abbrev wsX130 : List Cond := u_ws RX13 TX13 3
theorem nmX13 : ∀ a, a < 3 → ∀ b, b < 3 → a ≠ b → (TX13 a).2.1 ≠ (TX13 b).2.1 := by decide +kernel
theorem tyX13_ok : ∀ k, k < 3 → parseFieldDescriptor (TX13 k).2.2.1 = some (tyX13 k) := by decide +kernel
theorem in_X13 : ∀ w ∈ wsX130, w ∈ lw_all := lw_in wsX130 [461, 462, 463] (by decide +kernel) (by decide +kernel)
def RJ3 : String := "java/util/Objects"
def RJ4 : String := "jdk/internal/util/Preconditions"
def RJ5 : String := "java/lang/Math"
def RJ6 : String := "java/lang/String"
def TJ6 : u_T := fun k => match k with
  | 0 => ("java/lang/String", "value", "[B", true)
  | _ => ("java/lang/String", "coder", "B", true)
def tyJ6 : Nat → FieldType := fun k => match k with
  | 0 => .array .byte
  | _ => .byte
abbrev wsJ60 : List Cond := u_ws RJ6 TJ6 2
theorem nmJ6 : ∀ a, a < 2 → ∀ b, b < 2 → a ≠ b → (TJ6 a).2.1 ≠ (TJ6 b).2.1 := by decide +kernel
theorem tyJ6_ok : ∀ k, k < 2 → parseFieldDescriptor (TJ6 k).2.2.1 = some (tyJ6 k) := by decide +kernel
theorem in_J6 : ∀ w ∈ wsJ60, w ∈ lw_all := lw_in wsJ60 [1179, 1181] (by decide +kernel) (by decide +kernel)
def RJ7 : String := "java/lang/StringLatin1"
def RJ8 : String := "java/lang/StringUTF16"
def RX14 : String := "BakedBefore$Reader"
def TX14 : u_T := fun k => match k with
  | 0 => ("BakedBefore$Reader", "text", "[B", true)
  | 1 => ("BakedBefore$Reader", "size", "I", true)
  | 2 => ("BakedBefore$Reader", "at", "I", false)
  | 3 => ("BakedBefore$Reader", "deep", "I", false)
  | _ => ("BakedBefore$Reader", "kiln", "LBakedBefore$Kiln;", true)
def tyX14 : Nat → FieldType := fun k => match k with
  | 0 => .array .byte
  | 1 => .int
  | 2 => .int
  | 3 => .int
  | _ => .object "BakedBefore$Kiln"
abbrev wsX140 : List Cond := u_ws RX14 TX14 5
theorem nmX14 : ∀ a, a < 5 → ∀ b, b < 5 → a ≠ b → (TX14 a).2.1 ≠ (TX14 b).2.1 := by decide +kernel
theorem tyX14_ok : ∀ k, k < 5 → parseFieldDescriptor (TX14 k).2.2.1 = some (tyX14 k) := by decide +kernel
theorem in_X14 : ∀ w ∈ wsX140, w ∈ lw_all := lw_in wsX140 [672, 674, 676, 678, 680] (by decide +kernel) (by decide +kernel)
def RJ9 : String := "java/lang/Throwable"
def TJ9 : u_T := fun k => match k with
  | 0 => ("java/lang/Throwable", "cause", "Ljava/lang/Throwable;", false)
  | 1 => ("java/lang/Throwable", "stackTrace", "[Ljava/lang/StackTraceElement;", false)
  | 2 => ("java/lang/Throwable", "suppressedExceptions", "Ljava/util/List;", false)
  | 3 => ("java/lang/Throwable", "detailMessage", "Ljava/lang/String;", false)
  | _ => ("java/lang/Throwable", "backtrace", "Ljava/lang/Object;", false)
def tyJ9 : Nat → FieldType := fun k => match k with
  | 0 => .object "java/lang/Throwable"
  | 1 => .array (.object "java/lang/StackTraceElement")
  | 2 => .object "java/util/List"
  | 3 => .object "java/lang/String"
  | _ => .object "java/lang/Object"
abbrev wsJ90 : List Cond := u_ws RJ9 TJ9 5
theorem nmJ9 : ∀ a, a < 5 → ∀ b, b < 5 → a ≠ b → (TJ9 a).2.1 ≠ (TJ9 b).2.1 := by decide +kernel
theorem tyJ9_ok : ∀ k, k < 5 → parseFieldDescriptor (TJ9 k).2.2.1 = some (tyJ9 k) := by decide +kernel
theorem in_J9 : ∀ w ∈ wsJ90, w ∈ lw_all := lw_in wsJ90 [770, 772, 774, 776, 778] (by decide +kernel) (by decide +kernel)
def RJ10 : String := "java/lang/Exception"
def RJ11 : String := "java/lang/RuntimeException"
def RX15 : String := "BakedBefore$Off"
def TX15 : u_T := fun k => match k with
  | 0 => ("java/lang/Throwable", "cause", "Ljava/lang/Throwable;", false)
  | 1 => ("java/lang/Throwable", "stackTrace", "[Ljava/lang/StackTraceElement;", false)
  | 2 => ("java/lang/Throwable", "suppressedExceptions", "Ljava/util/List;", false)
  | 3 => ("java/lang/Throwable", "detailMessage", "Ljava/lang/String;", false)
  | 4 => ("java/lang/Throwable", "backtrace", "Ljava/lang/Object;", false)
  | 5 => ("java/lang/Throwable", "depth", "I", false)
  | _ => ("BakedBefore$Off", "place", "I", true)
def tyX15 : Nat → FieldType := fun k => match k with
  | 0 => .object "java/lang/Throwable"
  | 1 => .array (.object "java/lang/StackTraceElement")
  | 2 => .object "java/util/List"
  | 3 => .object "java/lang/String"
  | 4 => .object "java/lang/Object"
  | 5 => .int
  | _ => .int
abbrev wsX150 : List Cond := u_ws RX15 TX15 7
theorem nmX15 : ∀ a, a < 7 → ∀ b, b < 7 → a ≠ b → (TX15 a).2.1 ≠ (TX15 b).2.1 := by decide +kernel
theorem tyX15_ok : ∀ k, k < 7 → parseFieldDescriptor (TX15 k).2.2.1 = some (tyX15 k) := by decide +kernel
theorem in_X15 : ∀ w ∈ wsX150, w ∈ lw_all := lw_in wsX150 [769, 771, 773, 775, 777, 838, 832] (by decide +kernel) (by decide +kernel)
def RX16 : String := "BakedBefore$Clause"
def TX16 : u_T := fun k => match k with
  | 0 => ("BakedBefore$Clause", "n", "I", true)
  | _ => ("BakedBefore$Clause", "test", "LBakedBefore$Test;", true)
def tyX16 : Nat → FieldType := fun k => match k with
  | 0 => .int
  | _ => .object "BakedBefore$Test"
abbrev wsX160 : List Cond := u_ws RX16 TX16 2
theorem nmX16 : ∀ a, a < 2 → ∀ b, b < 2 → a ≠ b → (TX16 a).2.1 ≠ (TX16 b).2.1 := by decide +kernel
theorem tyX16_ok : ∀ k, k < 2 → parseFieldDescriptor (TX16 k).2.2.1 = some (tyX16 k) := by decide +kernel
theorem in_X16 : ∀ w ∈ wsX160, w ∈ lw_all := lw_in wsX160 [987, 989] (by decide +kernel) (by decide +kernel)
def RX17 : String := "BakedBefore$Test"
def RX18 : String := "BakedBefore$Some"
def TX18 : u_T := fun k => match k with
  | 0 => ("BakedBefore$Some", "isAll", "Z", true)
  | _ => ("BakedBefore$Some", "of", "Ljava/util/ArrayList;", true)
def tyX18 : Nat → FieldType := fun k => match k with
  | 0 => .boolean
  | _ => .object "java/util/ArrayList"
abbrev wsX180 : List Cond := u_ws RX18 TX18 2
theorem nmX18 : ∀ a, a < 2 → ∀ b, b < 2 → a ≠ b → (TX18 a).2.1 ≠ (TX18 b).2.1 := by decide +kernel
theorem tyX18_ok : ∀ k, k < 2 → parseFieldDescriptor (TX18 k).2.2.1 = some (tyX18 k) := by decide +kernel
theorem in_X18 : ∀ w ∈ wsX180, w ∈ lw_all := lw_in wsX180 [867, 869] (by decide +kernel) (by decide +kernel)
def RX19 : String := "BakedBefore$Not"
def TX19 : u_T := fun k => match k with
  | _ => ("BakedBefore$Not", "of", "LBakedBefore$Test;", true)
def tyX19 : Nat → FieldType := fun k => match k with
  | _ => .object "BakedBefore$Test"
abbrev wsX190 : List Cond := u_ws RX19 TX19 1
theorem nmX19 : ∀ a, a < 1 → ∀ b, b < 1 → a ≠ b → (TX19 a).2.1 ≠ (TX19 b).2.1 := by decide +kernel
theorem tyX19_ok : ∀ k, k < 1 → parseFieldDescriptor (TX19 k).2.2.1 = some (tyX19 k) := by decide +kernel
theorem in_X19 : ∀ w ∈ wsX190, w ∈ lw_all := lw_in wsX190 [891] (by decide +kernel) (by decide +kernel)
def RX20 : String := "BakedBefore$Against"
def TX20 : u_T := fun k => match k with
  | 0 => ("BakedBefore$Against", "letter", "I", true)
  | 1 => ("BakedBefore$Against", "sign", "I", true)
  | _ => ("BakedBefore$Against", "n", "I", true)
def tyX20 : Nat → FieldType := fun k => match k with
  | 0 => .int
  | 1 => .int
  | _ => .int
abbrev wsX200 : List Cond := u_ws RX20 TX20 3
theorem nmX20 : ∀ a, a < 3 → ∀ b, b < 3 → a ≠ b → (TX20 a).2.1 ≠ (TX20 b).2.1 := by decide +kernel
theorem tyX20_ok : ∀ k, k < 3 → parseFieldDescriptor (TX20 k).2.2.1 = some (tyX20 k) := by decide +kernel
theorem in_X20 : ∀ w ∈ wsX200, w ∈ lw_all := lw_in wsX200 [903, 905, 907] (by decide +kernel) (by decide +kernel)
def RJ12 : String := "jdk/internal/util/ArraysSupport"
def RJ13 : String := "java/util/Arrays"
def RJ14 : String := "java/lang/Integer"
def RJ15 : String := "java/lang/ClassCastException"
def TJ15 : u_T := fun k => match k with
  | 0 => ("java/lang/Throwable", "backtrace", "Ljava/lang/Object;", false)
  | 1 => ("java/lang/Throwable", "detailMessage", "Ljava/lang/String;", false)
  | 2 => ("java/lang/Throwable", "cause", "Ljava/lang/Throwable;", false)
  | 3 => ("java/lang/Throwable", "stackTrace", "[Ljava/lang/StackTraceElement;", false)
  | 4 => ("java/lang/Throwable", "depth", "I", false)
  | _ => ("java/lang/Throwable", "suppressedExceptions", "Ljava/util/List;", false)
def tyJ15 : Nat → FieldType := fun k => match k with
  | 0 => .object "java/lang/Object"
  | 1 => .object "java/lang/String"
  | 2 => .object "java/lang/Throwable"
  | 3 => .array (.object "java/lang/StackTraceElement")
  | 4 => .int
  | _ => .object "java/util/List"
abbrev wsJ150 : List Cond := u_ws RJ15 TJ15 6
theorem nmJ15 : ∀ a, a < 6 → ∀ b, b < 6 → a ≠ b → (TJ15 a).2.1 ≠ (TJ15 b).2.1 := by decide +kernel
theorem tyJ15_ok : ∀ k, k < 6 → parseFieldDescriptor (TJ15 k).2.2.1 = some (tyJ15 k) := by decide +kernel
theorem in_J15 : ∀ w ∈ wsJ150, w ∈ lw_all := lw_in wsJ150 [1169, 1170, 1171, 1172, 1173, 1174] (by decide +kernel) (by decide +kernel)
def RJ16 : String := "java/lang/NullPointerException"
def TJ16 : u_T := fun k => match k with
  | 0 => ("java/lang/Throwable", "backtrace", "Ljava/lang/Object;", false)
  | 1 => ("java/lang/Throwable", "detailMessage", "Ljava/lang/String;", false)
  | 2 => ("java/lang/Throwable", "cause", "Ljava/lang/Throwable;", false)
  | 3 => ("java/lang/Throwable", "stackTrace", "[Ljava/lang/StackTraceElement;", false)
  | 4 => ("java/lang/Throwable", "depth", "I", false)
  | 5 => ("java/lang/Throwable", "suppressedExceptions", "Ljava/util/List;", false)
  | 6 => ("java/lang/NullPointerException", "extendedMessageState", "I", false)
  | _ => ("java/lang/NullPointerException", "extendedMessage", "Ljava/lang/String;", false)
def tyJ16 : Nat → FieldType := fun k => match k with
  | 0 => .object "java/lang/Object"
  | 1 => .object "java/lang/String"
  | 2 => .object "java/lang/Throwable"
  | 3 => .array (.object "java/lang/StackTraceElement")
  | 4 => .int
  | 5 => .object "java/util/List"
  | 6 => .int
  | _ => .object "java/lang/String"
abbrev wsJ160 : List Cond := u_ws RJ16 TJ16 8
theorem nmJ16 : ∀ a, a < 8 → ∀ b, b < 8 → a ≠ b → (TJ16 a).2.1 ≠ (TJ16 b).2.1 := by decide +kernel
theorem tyJ16_ok : ∀ k, k < 8 → parseFieldDescriptor (TJ16 k).2.2.1 = some (tyJ16 k) := by decide +kernel
theorem in_J16 : ∀ w ∈ wsJ160, w ∈ lw_all := lw_in wsJ160 [1201, 1202, 1203, 1204, 1205, 1206, 1197, 1199] (by decide +kernel) (by decide +kernel)
def RJ17 : String := "java/lang/NegativeArraySizeException"
def TJ17 : u_T := fun k => match k with
  | 0 => ("java/lang/Throwable", "backtrace", "Ljava/lang/Object;", false)
  | 1 => ("java/lang/Throwable", "detailMessage", "Ljava/lang/String;", false)
  | 2 => ("java/lang/Throwable", "cause", "Ljava/lang/Throwable;", false)
  | 3 => ("java/lang/Throwable", "stackTrace", "[Ljava/lang/StackTraceElement;", false)
  | 4 => ("java/lang/Throwable", "depth", "I", false)
  | _ => ("java/lang/Throwable", "suppressedExceptions", "Ljava/util/List;", false)
def tyJ17 : Nat → FieldType := fun k => match k with
  | 0 => .object "java/lang/Object"
  | 1 => .object "java/lang/String"
  | 2 => .object "java/lang/Throwable"
  | 3 => .array (.object "java/lang/StackTraceElement")
  | 4 => .int
  | _ => .object "java/util/List"
abbrev wsJ170 : List Cond := u_ws RJ17 TJ17 6
theorem nmJ17 : ∀ a, a < 6 → ∀ b, b < 6 → a ≠ b → (TJ17 a).2.1 ≠ (TJ17 b).2.1 := by decide +kernel
theorem tyJ17_ok : ∀ k, k < 6 → parseFieldDescriptor (TJ17 k).2.2.1 = some (tyJ17 k) := by decide +kernel
theorem in_J17 : ∀ w ∈ wsJ170, w ∈ lw_all := lw_in wsJ170 [1327, 1328, 1329, 1330, 1331, 1332] (by decide +kernel) (by decide +kernel)
def RJ18 : String := "java/lang/ArrayStoreException"
def TJ18 : u_T := fun k => match k with
  | 0 => ("java/lang/Throwable", "backtrace", "Ljava/lang/Object;", false)
  | 1 => ("java/lang/Throwable", "detailMessage", "Ljava/lang/String;", false)
  | 2 => ("java/lang/Throwable", "cause", "Ljava/lang/Throwable;", false)
  | 3 => ("java/lang/Throwable", "stackTrace", "[Ljava/lang/StackTraceElement;", false)
  | 4 => ("java/lang/Throwable", "depth", "I", false)
  | _ => ("java/lang/Throwable", "suppressedExceptions", "Ljava/util/List;", false)
def tyJ18 : Nat → FieldType := fun k => match k with
  | 0 => .object "java/lang/Object"
  | 1 => .object "java/lang/String"
  | 2 => .object "java/lang/Throwable"
  | 3 => .array (.object "java/lang/StackTraceElement")
  | 4 => .int
  | _ => .object "java/util/List"
abbrev wsJ180 : List Cond := u_ws RJ18 TJ18 6
theorem nmJ18 : ∀ a, a < 6 → ∀ b, b < 6 → a ≠ b → (TJ18 a).2.1 ≠ (TJ18 b).2.1 := by decide +kernel
theorem tyJ18_ok : ∀ k, k < 6 → parseFieldDescriptor (TJ18 k).2.2.1 = some (tyJ18 k) := by decide +kernel
theorem in_J18 : ∀ w ∈ wsJ180, w ∈ lw_all := lw_in wsJ180 [1379, 1380, 1381, 1382, 1383, 1384] (by decide +kernel) (by decide +kernel)
def RJ19 : String := "java/lang/IndexOutOfBoundsException"
def RJ20 : String := "java/lang/ArrayIndexOutOfBoundsException"
def TJ20 : u_T := fun k => match k with
  | 0 => ("java/lang/Throwable", "backtrace", "Ljava/lang/Object;", false)
  | 1 => ("java/lang/Throwable", "detailMessage", "Ljava/lang/String;", false)
  | 2 => ("java/lang/Throwable", "cause", "Ljava/lang/Throwable;", false)
  | 3 => ("java/lang/Throwable", "stackTrace", "[Ljava/lang/StackTraceElement;", false)
  | 4 => ("java/lang/Throwable", "depth", "I", false)
  | _ => ("java/lang/Throwable", "suppressedExceptions", "Ljava/util/List;", false)
def tyJ20 : Nat → FieldType := fun k => match k with
  | 0 => .object "java/lang/Object"
  | 1 => .object "java/lang/String"
  | 2 => .object "java/lang/Throwable"
  | 3 => .array (.object "java/lang/StackTraceElement")
  | 4 => .int
  | _ => .object "java/util/List"
abbrev wsJ200 : List Cond := u_ws RJ20 TJ20 6
theorem nmJ20 : ∀ a, a < 6 → ∀ b, b < 6 → a ≠ b → (TJ20 a).2.1 ≠ (TJ20 b).2.1 := by decide +kernel
theorem tyJ20_ok : ∀ k, k < 6 → parseFieldDescriptor (TJ20 k).2.2.1 = some (tyJ20 k) := by decide +kernel
theorem in_J20 : ∀ w ∈ wsJ200, w ∈ lw_all := lw_in wsJ200 [1396, 1397, 1398, 1399, 1400, 1401] (by decide +kernel) (by decide +kernel)
def RJ21 : String := "java/lang/Object"
