/-! names of the classes: their fields and types (by program, out of the claim) -/
def RX1 : String := "RegionHouse"
def TX1 : u_T := fun k => match k with
  | 0 => ("RegionHouse", "tape", "LRegionHouse$Signs;", true)
  | 1 => ("RegionHouse", "out", "LRegionHouse$Signs;", true)
  | 2 => ("RegionHouse", "fault", "LRegionHouse$Fault;", true)
  | 3 => ("RegionHouse", "lexemes", "LRegionHouse$Lexemes;", true)
  | 4 => ("RegionHouse", "program", "LRegionHouse$Program;", true)
  | 5 => ("RegionHouse", "types", "LRegionHouse$Types;", true)
  | 6 => ("RegionHouse", "reader", "LRegionHouse$Reader;", true)
  | 7 => ("RegionHouse", "typing", "LRegionHouse$Typing;", true)
  | 8 => ("RegionHouse", "regions", "LRegionHouse$Regions;", true)
  | 9 => ("RegionHouse", "printer", "LRegionHouse$Printer;", true)
  | 10 => ("RegionHouse", "code", "LRegionHouse$Code;", true)
  | 11 => ("RegionHouse", "stack", "LRegionHouse$Stack;", true)
  | 12 => ("RegionHouse", "pool", "LRegionHouse$Pool;", true)
  | 13 => ("RegionHouse", "machine", "LRegionHouse$Machine;", true)
  | _ => ("RegionHouse", "isMade", "Z", false)
def tyX1 : Nat → FieldType := fun k => match k with
  | 0 => .object "RegionHouse$Signs"
  | 1 => .object "RegionHouse$Signs"
  | 2 => .object "RegionHouse$Fault"
  | 3 => .object "RegionHouse$Lexemes"
  | 4 => .object "RegionHouse$Program"
  | 5 => .object "RegionHouse$Types"
  | 6 => .object "RegionHouse$Reader"
  | 7 => .object "RegionHouse$Typing"
  | 8 => .object "RegionHouse$Regions"
  | 9 => .object "RegionHouse$Printer"
  | 10 => .object "RegionHouse$Code"
  | 11 => .object "RegionHouse$Stack"
  | 12 => .object "RegionHouse$Pool"
  | 13 => .object "RegionHouse$Machine"
  | _ => .boolean
set_option maxRecDepth 100000 in
theorem nmX1 : ∀ a, a < 15 → ∀ b, b < 15 → a ≠ b → (TX1 a).2.1 ≠ (TX1 b).2.1 := by decide +kernel
set_option maxRecDepth 100000 in
theorem tyX1_ok : ∀ k, k < 15 → parseFieldDescriptor (TX1 k).2.2.1 = some (tyX1 k) := by decide +kernel
set_option maxRecDepth 100000 in
theorem in_X1 : ∀ w ∈ u_ws RX1 TX1 15, w ∈ lw_all := lw_in (u_ws RX1 TX1 15) [1136, 1138, 1140, 1142, 1144, 1146, 1148, 1150, 1152, 1154, 1156, 1158, 1160, 1162, 1164] (by decide +kernel) (by decide +kernel)
def RX2 : String := "RegionHouse$Signs"
def TX2 : u_T := fun k => match k with
  | 0 => ("RegionHouse$Signs", "row", "[B", true)
  | _ => ("RegionHouse$Signs", "size", "I", false)
def tyX2 : Nat → FieldType := fun k => match k with
  | 0 => .array .byte
  | _ => .int
set_option maxRecDepth 100000 in
theorem nmX2 : ∀ a, a < 2 → ∀ b, b < 2 → a ≠ b → (TX2 a).2.1 ≠ (TX2 b).2.1 := by decide +kernel
set_option maxRecDepth 100000 in
theorem tyX2_ok : ∀ k, k < 2 → parseFieldDescriptor (TX2 k).2.2.1 = some (tyX2 k) := by decide +kernel
set_option maxRecDepth 100000 in
theorem in_X2 : ∀ w ∈ u_ws RX2 TX2 2, w ∈ lw_all := lw_in (u_ws RX2 TX2 2) [292, 294] (by decide +kernel) (by decide +kernel)
def RX3 : String := "RegionHouse$Fault"
def TX3 : u_T := fun k => match k with
  | 0 => ("RegionHouse$Fault", "kind", "I", false)
  | _ => ("RegionHouse$Fault", "place", "I", false)
def tyX3 : Nat → FieldType := fun k => match k with
  | 0 => .int
  | _ => .int
set_option maxRecDepth 100000 in
theorem nmX3 : ∀ a, a < 2 → ∀ b, b < 2 → a ≠ b → (TX3 a).2.1 ≠ (TX3 b).2.1 := by decide +kernel
set_option maxRecDepth 100000 in
theorem tyX3_ok : ∀ k, k < 2 → parseFieldDescriptor (TX3 k).2.2.1 = some (tyX3 k) := by decide +kernel
set_option maxRecDepth 100000 in
theorem in_X3 : ∀ w ∈ u_ws RX3 TX3 2, w ∈ lw_all := lw_in (u_ws RX3 TX3 2) [306, 308] (by decide +kernel) (by decide +kernel)
def RX4 : String := "RegionHouse$Lexemes"
def TX4 : u_T := fun k => match k with
  | 0 => ("RegionHouse$Lexemes", "words", "[Ljava/lang/String;", true)
  | 1 => ("RegionHouse$Lexemes", "packed", "[J", true)
  | 2 => ("RegionHouse$Lexemes", "text", "[B", true)
  | 3 => ("RegionHouse$Lexemes", "length", "I", false)
  | 4 => ("RegionHouse$Lexemes", "kinds", "[I", true)
  | 5 => ("RegionHouse$Lexemes", "values", "[I", true)
  | 6 => ("RegionHouse$Lexemes", "names", "[J", true)
  | 7 => ("RegionHouse$Lexemes", "starts", "[I", true)
  | 8 => ("RegionHouse$Lexemes", "ends", "[I", true)
  | _ => ("RegionHouse$Lexemes", "many", "I", false)
def tyX4 : Nat → FieldType := fun k => match k with
  | 0 => .array (.object "java/lang/String")
  | 1 => .array .long
  | 2 => .array .byte
  | 3 => .int
  | 4 => .array .int
  | 5 => .array .int
  | 6 => .array .long
  | 7 => .array .int
  | 8 => .array .int
  | _ => .int
set_option maxRecDepth 100000 in
theorem nmX4 : ∀ a, a < 10 → ∀ b, b < 10 → a ≠ b → (TX4 a).2.1 ≠ (TX4 b).2.1 := by decide +kernel
set_option maxRecDepth 100000 in
theorem tyX4_ok : ∀ k, k < 10 → parseFieldDescriptor (TX4 k).2.2.1 = some (tyX4 k) := by decide +kernel
set_option maxRecDepth 100000 in
theorem in_X4 : ∀ w ∈ u_ws RX4 TX4 10, w ∈ lw_all := lw_in (u_ws RX4 TX4 10) [390, 392, 394, 396, 398, 400, 402, 404, 406, 408] (by decide +kernel) (by decide +kernel)
def RX5 : String := "RegionHouse$Program"
def TX5 : u_T := fun k => match k with
  | 0 => ("RegionHouse$Program", "kinds", "[I", true)
  | 1 => ("RegionHouse$Program", "firsts", "[I", true)
  | 2 => ("RegionHouse$Program", "lasts", "[I", true)
  | 3 => ("RegionHouse$Program", "signs", "[I", true)
  | 4 => ("RegionHouse$Program", "a", "[I", true)
  | 5 => ("RegionHouse$Program", "b", "[I", true)
  | 6 => ("RegionHouse$Program", "c", "[I", true)
  | 7 => ("RegionHouse$Program", "nexts", "[I", true)
  | 8 => ("RegionHouse$Program", "arounds", "[I", true)
  | 9 => ("RegionHouse$Program", "roles", "[I", true)
  | 10 => ("RegionHouse$Program", "starts", "[I", true)
  | 11 => ("RegionHouse$Program", "values", "[I", true)
  | 12 => ("RegionHouse$Program", "scopes", "[I", true)
  | 13 => ("RegionHouse$Program", "parts", "I", false)
  | 14 => ("RegionHouse$Program", "names", "[J", true)
  | 15 => ("RegionHouse$Program", "lexemes", "[I", true)
  | 16 => ("RegionHouse$Program", "owners", "[I", true)
  | 17 => ("RegionHouse$Program", "before", "[I", true)
  | 18 => ("RegionHouse$Program", "depths", "[I", true)
  | 19 => ("RegionHouse$Program", "variables", "I", false)
  | 20 => ("RegionHouse$Program", "outer", "[I", true)
  | 21 => ("RegionHouse$Program", "bodies", "[I", true)
  | 22 => ("RegionHouse$Program", "given", "[I", true)
  | 23 => ("RegionHouse$Program", "captureFirst", "[I", true)
  | 24 => ("RegionHouse$Program", "captureLast", "[I", true)
  | 25 => ("RegionHouse$Program", "captureCount", "[I", true)
  | 26 => ("RegionHouse$Program", "fns", "I", false)
  | 27 => ("RegionHouse$Program", "captured", "[I", false)
  | 28 => ("RegionHouse$Program", "captureNext", "[I", false)
  | 29 => ("RegionHouse$Program", "captures", "I", false)
  | 30 => ("RegionHouse$Program", "functionNames", "[J", true)
  | 31 => ("RegionHouse$Program", "functionLexemes", "[I", true)
  | 32 => ("RegionHouse$Program", "parameters", "[I", true)
  | 33 => ("RegionHouse$Program", "parameterFirst", "[I", true)
  | 34 => ("RegionHouse$Program", "partFrom", "[I", true)
  | 35 => ("RegionHouse$Program", "partTo", "[I", true)
  | 36 => ("RegionHouse$Program", "fnFrom", "[I", true)
  | 37 => ("RegionHouse$Program", "fnTo", "[I", true)
  | _ => ("RegionHouse$Program", "functions", "I", false)
def tyX5 : Nat → FieldType := fun k => match k with
  | 0 => .array .int
  | 1 => .array .int
  | 2 => .array .int
  | 3 => .array .int
  | 4 => .array .int
  | 5 => .array .int
  | 6 => .array .int
  | 7 => .array .int
  | 8 => .array .int
  | 9 => .array .int
  | 10 => .array .int
  | 11 => .array .int
  | 12 => .array .int
  | 13 => .int
  | 14 => .array .long
  | 15 => .array .int
  | 16 => .array .int
  | 17 => .array .int
  | 18 => .array .int
  | 19 => .int
  | 20 => .array .int
  | 21 => .array .int
  | 22 => .array .int
  | 23 => .array .int
  | 24 => .array .int
  | 25 => .array .int
  | 26 => .int
  | 27 => .array .int
  | 28 => .array .int
  | 29 => .int
  | 30 => .array .long
  | 31 => .array .int
  | 32 => .array .int
  | 33 => .array .int
  | 34 => .array .int
  | 35 => .array .int
  | 36 => .array .int
  | 37 => .array .int
  | _ => .int
set_option maxRecDepth 100000 in
theorem nmX5 : ∀ a, a < 39 → ∀ b, b < 39 → a ≠ b → (TX5 a).2.1 ≠ (TX5 b).2.1 := by decide +kernel
set_option maxRecDepth 100000 in
theorem tyX5_ok : ∀ k, k < 39 → parseFieldDescriptor (TX5 k).2.2.1 = some (tyX5 k) := by decide +kernel
set_option maxRecDepth 100000 in
theorem in_X5 : ∀ w ∈ u_ws RX5 TX5 39, w ∈ lw_all := lw_in (u_ws RX5 TX5 39) [554, 556, 558, 560, 562, 564, 566, 568, 570, 572, 574, 576, 578, 580, 582, 584, 586, 588, 590, 592, 594, 596, 598, 600, 602, 604, 606, 608, 610, 612, 614, 616, 618, 620, 622, 624, 626, 628, 630] (by decide +kernel) (by decide +kernel)
def RX6 : String := "RegionHouse$Types"
def TX6 : u_T := fun k => match k with
  | 0 => ("RegionHouse$Types", "kinds", "[I", false)
  | 1 => ("RegionHouse$Types", "links", "[I", false)
  | 2 => ("RegionHouse$Types", "a", "[I", false)
  | 3 => ("RegionHouse$Types", "b", "[I", false)
  | 4 => ("RegionHouse$Types", "holdFirst", "[I", false)
  | 5 => ("RegionHouse$Types", "holdLast", "[I", false)
  | 6 => ("RegionHouse$Types", "stamps", "[I", false)
  | 7 => ("RegionHouse$Types", "images", "[I", false)
  | 8 => ("RegionHouse$Types", "size", "I", false)
  | 9 => ("RegionHouse$Types", "held", "[I", false)
  | 10 => ("RegionHouse$Types", "heldNext", "[I", false)
  | 11 => ("RegionHouse$Types", "holds", "I", false)
  | 12 => ("RegionHouse$Types", "stamp", "I", false)
  | 13 => ("RegionHouse$Types", "work", "[I", false)
  | 14 => ("RegionHouse$Types", "works", "I", false)
  | 15 => ("RegionHouse$Types", "reached", "I", false)
  | 16 => ("RegionHouse$Types", "unknowns", "I", false)
  | _ => ("RegionHouse$Types", "heldIn", "I", false)
def tyX6 : Nat → FieldType := fun k => match k with
  | 0 => .array .int
  | 1 => .array .int
  | 2 => .array .int
  | 3 => .array .int
  | 4 => .array .int
  | 5 => .array .int
  | 6 => .array .int
  | 7 => .array .int
  | 8 => .int
  | 9 => .array .int
  | 10 => .array .int
  | 11 => .int
  | 12 => .int
  | 13 => .array .int
  | 14 => .int
  | 15 => .int
  | 16 => .int
  | _ => .int
set_option maxRecDepth 100000 in
theorem nmX6 : ∀ a, a < 18 → ∀ b, b < 18 → a ≠ b → (TX6 a).2.1 ≠ (TX6 b).2.1 := by decide +kernel
set_option maxRecDepth 100000 in
theorem tyX6_ok : ∀ k, k < 18 → parseFieldDescriptor (TX6 k).2.2.1 = some (tyX6 k) := by decide +kernel
set_option maxRecDepth 100000 in
theorem in_X6 : ∀ w ∈ u_ws RX6 TX6 18, w ∈ lw_all := lw_in (u_ws RX6 TX6 18) [659, 661, 663, 665, 667, 669, 671, 673, 675, 677, 679, 681, 683, 685, 687, 689, 691, 693] (by decide +kernel) (by decide +kernel)
def RX7 : String := "RegionHouse$Reader"
def TX7 : u_T := fun k => match k with
  | 0 => ("RegionHouse$Reader", "row", "LRegionHouse$Lexemes;", true)
  | 1 => ("RegionHouse$Reader", "made", "LRegionHouse$Program;", true)
  | 2 => ("RegionHouse$Reader", "fault", "LRegionHouse$Fault;", true)
  | 3 => ("RegionHouse$Reader", "at", "I", false)
  | 4 => ("RegionHouse$Reader", "deep", "I", false)
  | 5 => ("RegionHouse$Reader", "scope", "I", false)
  | 6 => ("RegionHouse$Reader", "fn", "I", false)
  | 7 => ("RegionHouse$Reader", "function", "I", false)
  | 8 => ("RegionHouse$Reader", "low", "I", false)
  | 9 => ("RegionHouse$Reader", "high", "I", false)
  | 10 => ("RegionHouse$Reader", "held", "[I", true)
  | 11 => ("RegionHouse$Reader", "holds", "I", false)
  | _ => ("RegionHouse$Reader", "depths", "[I", true)
def tyX7 : Nat → FieldType := fun k => match k with
  | 0 => .object "RegionHouse$Lexemes"
  | 1 => .object "RegionHouse$Program"
  | 2 => .object "RegionHouse$Fault"
  | 3 => .int
  | 4 => .int
  | 5 => .int
  | 6 => .int
  | 7 => .int
  | 8 => .int
  | 9 => .int
  | 10 => .array .int
  | 11 => .int
  | _ => .array .int
set_option maxRecDepth 100000 in
theorem nmX7 : ∀ a, a < 13 → ∀ b, b < 13 → a ≠ b → (TX7 a).2.1 ≠ (TX7 b).2.1 := by decide +kernel
set_option maxRecDepth 100000 in
theorem tyX7_ok : ∀ k, k < 13 → parseFieldDescriptor (TX7 k).2.2.1 = some (tyX7 k) := by decide +kernel
set_option maxRecDepth 100000 in
theorem in_X7 : ∀ w ∈ u_ws RX7 TX7 13, w ∈ lw_all := lw_in (u_ws RX7 TX7 13) [715, 717, 719, 721, 723, 725, 727, 729, 731, 733, 735, 737, 739] (by decide +kernel) (by decide +kernel)
def RX8 : String := "RegionHouse$Typing"
def TX8 : u_T := fun k => match k with
  | 0 => ("RegionHouse$Typing", "row", "LRegionHouse$Lexemes;", true)
  | 1 => ("RegionHouse$Typing", "made", "LRegionHouse$Program;", true)
  | 2 => ("RegionHouse$Typing", "types", "LRegionHouse$Types;", true)
  | 3 => ("RegionHouse$Typing", "fault", "LRegionHouse$Fault;", true)
  | 4 => ("RegionHouse$Typing", "of", "[I", true)
  | 5 => ("RegionHouse$Typing", "variables", "[I", true)
  | 6 => ("RegionHouse$Typing", "results", "[I", true)
  | 7 => ("RegionHouse$Typing", "callFrom", "[I", true)
  | 8 => ("RegionHouse$Typing", "calls", "[I", false)
  | 9 => ("RegionHouse$Typing", "size", "I", false)
  | 10 => ("RegionHouse$Typing", "regionFrom", "[I", true)
  | 11 => ("RegionHouse$Typing", "regionCount", "[I", true)
  | 12 => ("RegionHouse$Typing", "regions", "[I", false)
  | _ => ("RegionHouse$Typing", "regionSize", "I", false)
def tyX8 : Nat → FieldType := fun k => match k with
  | 0 => .object "RegionHouse$Lexemes"
  | 1 => .object "RegionHouse$Program"
  | 2 => .object "RegionHouse$Types"
  | 3 => .object "RegionHouse$Fault"
  | 4 => .array .int
  | 5 => .array .int
  | 6 => .array .int
  | 7 => .array .int
  | 8 => .array .int
  | 9 => .int
  | 10 => .array .int
  | 11 => .array .int
  | 12 => .array .int
  | _ => .int
set_option maxRecDepth 100000 in
theorem nmX8 : ∀ a, a < 14 → ∀ b, b < 14 → a ≠ b → (TX8 a).2.1 ≠ (TX8 b).2.1 := by decide +kernel
set_option maxRecDepth 100000 in
theorem tyX8_ok : ∀ k, k < 14 → parseFieldDescriptor (TX8 k).2.2.1 = some (tyX8 k) := by decide +kernel
set_option maxRecDepth 100000 in
theorem in_X8 : ∀ w ∈ u_ws RX8 TX8 14, w ∈ lw_all := lw_in (u_ws RX8 TX8 14) [762, 764, 766, 768, 770, 772, 774, 776, 778, 780, 782, 784, 786, 788] (by decide +kernel) (by decide +kernel)
def RX9 : String := "RegionHouse$Regions"
def TX9 : u_T := fun k => match k with
  | 0 => ("RegionHouse$Regions", "row", "LRegionHouse$Lexemes;", true)
  | 1 => ("RegionHouse$Regions", "made", "LRegionHouse$Program;", true)
  | 2 => ("RegionHouse$Regions", "types", "LRegionHouse$Types;", true)
  | 3 => ("RegionHouse$Regions", "typing", "LRegionHouse$Typing;", true)
  | 4 => ("RegionHouse$Regions", "fault", "LRegionHouse$Fault;", true)
  | 5 => ("RegionHouse$Regions", "put", "[I", false)
  | 6 => ("RegionHouse$Regions", "own", "[I", false)
  | 7 => ("RegionHouse$Regions", "size", "I", false)
  | 8 => ("RegionHouse$Regions", "from", "[I", true)
  | 9 => ("RegionHouse$Regions", "selves", "[I", true)
  | 10 => ("RegionHouse$Regions", "first", "[I", true)
  | 11 => ("RegionHouse$Regions", "count", "[I", true)
  | 12 => ("RegionHouse$Regions", "boxes", "[I", false)
  | 13 => ("RegionHouse$Regions", "owners", "[I", false)
  | 14 => ("RegionHouse$Regions", "regions", "I", false)
  | 15 => ("RegionHouse$Regions", "keptFrom", "[I", true)
  | 16 => ("RegionHouse$Regions", "keptCount", "[I", true)
  | 17 => ("RegionHouse$Regions", "kept", "[I", false)
  | 18 => ("RegionHouse$Regions", "keeps", "I", false)
  | _ => ("RegionHouse$Regions", "marks", "[Z", true)
def tyX9 : Nat → FieldType := fun k => match k with
  | 0 => .object "RegionHouse$Lexemes"
  | 1 => .object "RegionHouse$Program"
  | 2 => .object "RegionHouse$Types"
  | 3 => .object "RegionHouse$Typing"
  | 4 => .object "RegionHouse$Fault"
  | 5 => .array .int
  | 6 => .array .int
  | 7 => .int
  | 8 => .array .int
  | 9 => .array .int
  | 10 => .array .int
  | 11 => .array .int
  | 12 => .array .int
  | 13 => .array .int
  | 14 => .int
  | 15 => .array .int
  | 16 => .array .int
  | 17 => .array .int
  | 18 => .int
  | _ => .array .boolean
set_option maxRecDepth 100000 in
theorem nmX9 : ∀ a, a < 20 → ∀ b, b < 20 → a ≠ b → (TX9 a).2.1 ≠ (TX9 b).2.1 := by decide +kernel
set_option maxRecDepth 100000 in
theorem tyX9_ok : ∀ k, k < 20 → parseFieldDescriptor (TX9 k).2.2.1 = some (tyX9 k) := by decide +kernel
set_option maxRecDepth 100000 in
theorem in_X9 : ∀ w ∈ u_ws RX9 TX9 20, w ∈ lw_all := lw_in (u_ws RX9 TX9 20) [817, 819, 821, 823, 825, 827, 829, 831, 833, 835, 837, 839, 841, 843, 845, 847, 849, 851, 853, 855] (by decide +kernel) (by decide +kernel)
def RX10 : String := "RegionHouse$Printer"
def TX10 : u_T := fun k => match k with
  | 0 => ("RegionHouse$Printer", "row", "LRegionHouse$Lexemes;", true)
  | 1 => ("RegionHouse$Printer", "made", "LRegionHouse$Program;", true)
  | 2 => ("RegionHouse$Printer", "types", "LRegionHouse$Types;", true)
  | 3 => ("RegionHouse$Printer", "typing", "LRegionHouse$Typing;", true)
  | 4 => ("RegionHouse$Printer", "regions", "LRegionHouse$Regions;", true)
  | 5 => ("RegionHouse$Printer", "out", "LRegionHouse$Signs;", true)
  | 6 => ("RegionHouse$Printer", "opens", "[I", true)
  | 7 => ("RegionHouse$Printer", "shuts", "[I", true)
  | 8 => ("RegionHouse$Printer", "openNext", "[I", true)
  | 9 => ("RegionHouse$Printer", "shutNext", "[I", true)
  | 10 => ("RegionHouse$Printer", "notes", "[I", true)
  | 11 => ("RegionHouse$Printer", "begins", "Z", false)
  | 12 => ("RegionHouse$Printer", "unknowns", "[I", false)
  | 13 => ("RegionHouse$Printer", "names", "I", false)
  | _ => ("RegionHouse$Printer", "function", "I", false)
def tyX10 : Nat → FieldType := fun k => match k with
  | 0 => .object "RegionHouse$Lexemes"
  | 1 => .object "RegionHouse$Program"
  | 2 => .object "RegionHouse$Types"
  | 3 => .object "RegionHouse$Typing"
  | 4 => .object "RegionHouse$Regions"
  | 5 => .object "RegionHouse$Signs"
  | 6 => .array .int
  | 7 => .array .int
  | 8 => .array .int
  | 9 => .array .int
  | 10 => .array .int
  | 11 => .boolean
  | 12 => .array .int
  | 13 => .int
  | _ => .int
set_option maxRecDepth 100000 in
theorem nmX10 : ∀ a, a < 15 → ∀ b, b < 15 → a ≠ b → (TX10 a).2.1 ≠ (TX10 b).2.1 := by decide +kernel
set_option maxRecDepth 100000 in
theorem tyX10_ok : ∀ k, k < 15 → parseFieldDescriptor (TX10 k).2.2.1 = some (tyX10 k) := by decide +kernel
set_option maxRecDepth 100000 in
theorem in_X10 : ∀ w ∈ u_ws RX10 TX10 15, w ∈ lw_all := lw_in (u_ws RX10 TX10 15) [880, 882, 884, 886, 888, 890, 892, 894, 896, 898, 900, 902, 904, 906, 908] (by decide +kernel) (by decide +kernel)
def RX11 : String := "RegionHouse$Code"
def TX11 : u_T := fun k => match k with
  | 0 => ("RegionHouse$Code", "made", "LRegionHouse$Program;", true)
  | 1 => ("RegionHouse$Code", "typing", "LRegionHouse$Typing;", true)
  | 2 => ("RegionHouse$Code", "regions", "LRegionHouse$Regions;", true)
  | 3 => ("RegionHouse$Code", "row", "[I", false)
  | 4 => ("RegionHouse$Code", "size", "I", false)
  | 5 => ("RegionHouse$Code", "entries", "[I", true)
  | 6 => ("RegionHouse$Code", "fnEntries", "[I", true)
  | 7 => ("RegionHouse$Code", "fnFunctions", "[I", true)
  | 8 => ("RegionHouse$Code", "slots", "[I", true)
  | 9 => ("RegionHouse$Code", "function", "I", false)
  | _ => ("RegionHouse$Code", "fn", "I", false)
def tyX11 : Nat → FieldType := fun k => match k with
  | 0 => .object "RegionHouse$Program"
  | 1 => .object "RegionHouse$Typing"
  | 2 => .object "RegionHouse$Regions"
  | 3 => .array .int
  | 4 => .int
  | 5 => .array .int
  | 6 => .array .int
  | 7 => .array .int
  | 8 => .array .int
  | 9 => .int
  | _ => .int
set_option maxRecDepth 100000 in
theorem nmX11 : ∀ a, a < 11 → ∀ b, b < 11 → a ≠ b → (TX11 a).2.1 ≠ (TX11 b).2.1 := by decide +kernel
set_option maxRecDepth 100000 in
theorem tyX11_ok : ∀ k, k < 11 → parseFieldDescriptor (TX11 k).2.2.1 = some (tyX11 k) := by decide +kernel
set_option maxRecDepth 100000 in
theorem in_X11 : ∀ w ∈ u_ws RX11 TX11 11, w ∈ lw_all := lw_in (u_ws RX11 TX11 11) [928, 930, 932, 934, 936, 938, 940, 942, 944, 946, 948] (by decide +kernel) (by decide +kernel)
def RX12 : String := "RegionHouse$Stack"
def TX12 : u_T := fun k => match k with
  | 0 => ("RegionHouse$Stack", "values", "[I", true)
  | 1 => ("RegionHouse$Stack", "sorts", "[B", true)
  | _ => ("RegionHouse$Stack", "size", "I", false)
def tyX12 : Nat → FieldType := fun k => match k with
  | 0 => .array .int
  | 1 => .array .byte
  | _ => .int
set_option maxRecDepth 100000 in
theorem nmX12 : ∀ a, a < 3 → ∀ b, b < 3 → a ≠ b → (TX12 a).2.1 ≠ (TX12 b).2.1 := by decide +kernel
set_option maxRecDepth 100000 in
theorem tyX12_ok : ∀ k, k < 3 → parseFieldDescriptor (TX12 k).2.2.1 = some (tyX12 k) := by decide +kernel
set_option maxRecDepth 100000 in
theorem in_X12 : ∀ w ∈ u_ws RX12 TX12 3, w ∈ lw_all := lw_in (u_ws RX12 TX12 3) [960, 962, 964] (by decide +kernel) (by decide +kernel)
def RX13 : String := "RegionHouse$Pool"
def TX13 : u_T := fun k => match k with
  | 0 => ("RegionHouse$Pool", "stack", "LRegionHouse$Stack;", true)
  | 1 => ("RegionHouse$Pool", "code", "LRegionHouse$Code;", true)
  | 2 => ("RegionHouse$Pool", "words", "[I", true)
  | 3 => ("RegionHouse$Pool", "sorts", "[B", true)
  | 4 => ("RegionHouse$Pool", "pages", "I", false)
  | 5 => ("RegionHouse$Pool", "width", "I", false)
  | 6 => ("RegionHouse$Pool", "nexts", "[I", true)
  | 7 => ("RegionHouse$Pool", "regionOf", "[I", true)
  | 8 => ("RegionHouse$Pool", "free", "I", false)
  | 9 => ("RegionHouse$Pool", "used", "I", false)
  | 10 => ("RegionHouse$Pool", "most", "I", false)
  | 11 => ("RegionHouse$Pool", "functions", "[I", true)
  | 12 => ("RegionHouse$Pool", "numbers", "[I", true)
  | 13 => ("RegionHouse$Pool", "firsts", "[I", true)
  | 14 => ("RegionHouse$Pool", "latest", "[I", true)
  | 15 => ("RegionHouse$Pool", "filled", "[I", true)
  | 16 => ("RegionHouse$Pool", "objects", "[I", true)
  | 17 => ("RegionHouse$Pool", "pageCounts", "[I", true)
  | 18 => ("RegionHouse$Pool", "before", "[I", true)
  | 19 => ("RegionHouse$Pool", "regions", "I", false)
  | 20 => ("RegionHouse$Pool", "regionsMade", "I", false)
  | 21 => ("RegionHouse$Pool", "objectsMade", "I", false)
  | 22 => ("RegionHouse$Pool", "collections", "I", false)
  | 23 => ("RegionHouse$Pool", "copied", "I", false)
  | 24 => ("RegionHouse$Pool", "isWorn", "Z", false)
  | 25 => ("RegionHouse$Pool", "queue", "[I", true)
  | _ => ("RegionHouse$Pool", "queued", "I", false)
def tyX13 : Nat → FieldType := fun k => match k with
  | 0 => .object "RegionHouse$Stack"
  | 1 => .object "RegionHouse$Code"
  | 2 => .array .int
  | 3 => .array .byte
  | 4 => .int
  | 5 => .int
  | 6 => .array .int
  | 7 => .array .int
  | 8 => .int
  | 9 => .int
  | 10 => .int
  | 11 => .array .int
  | 12 => .array .int
  | 13 => .array .int
  | 14 => .array .int
  | 15 => .array .int
  | 16 => .array .int
  | 17 => .array .int
  | 18 => .array .int
  | 19 => .int
  | 20 => .int
  | 21 => .int
  | 22 => .int
  | 23 => .int
  | 24 => .boolean
  | 25 => .array .int
  | _ => .int
set_option maxRecDepth 100000 in
theorem nmX13 : ∀ a, a < 27 → ∀ b, b < 27 → a ≠ b → (TX13 a).2.1 ≠ (TX13 b).2.1 := by decide +kernel
set_option maxRecDepth 100000 in
theorem tyX13_ok : ∀ k, k < 27 → parseFieldDescriptor (TX13 k).2.2.1 = some (tyX13 k) := by decide +kernel
set_option maxRecDepth 100000 in
theorem in_X13 : ∀ w ∈ u_ws RX13 TX13 27, w ∈ lw_all := lw_in (u_ws RX13 TX13 27) [1005, 1007, 1009, 1011, 1013, 1015, 1017, 1019, 1021, 1023, 1025, 1027, 1029, 1031, 1033, 1035, 1037, 1039, 1041, 1043, 1045, 1047, 1049, 1051, 1053, 1055, 1057] (by decide +kernel) (by decide +kernel)
def RX14 : String := "RegionHouse$Machine"
def TX14 : u_T := fun k => match k with
  | 0 => ("RegionHouse$Machine", "made", "LRegionHouse$Program;", true)
  | 1 => ("RegionHouse$Machine", "regions", "LRegionHouse$Regions;", true)
  | 2 => ("RegionHouse$Machine", "code", "LRegionHouse$Code;", true)
  | 3 => ("RegionHouse$Machine", "stack", "LRegionHouse$Stack;", true)
  | 4 => ("RegionHouse$Machine", "pool", "LRegionHouse$Pool;", true)
  | 5 => ("RegionHouse$Machine", "state", "I", false)
  | 6 => ("RegionHouse$Machine", "steps", "I", false)
  | 7 => ("RegionHouse$Machine", "every", "I", false)
  | 8 => ("RegionHouse$Machine", "at", "I", false)
  | 9 => ("RegionHouse$Machine", "base", "I", false)
  | 10 => ("RegionHouse$Machine", "function", "I", false)
  | 11 => ("RegionHouse$Machine", "hands", "I", false)
  | 12 => ("RegionHouse$Machine", "handles", "[I", true)
  | 13 => ("RegionHouse$Machine", "backs", "[I", true)
  | 14 => ("RegionHouse$Machine", "bases", "[I", true)
  | 15 => ("RegionHouse$Machine", "functions", "[I", true)
  | 16 => ("RegionHouse$Machine", "handsBefore", "[I", true)
  | _ => ("RegionHouse$Machine", "calls", "I", false)
def tyX14 : Nat → FieldType := fun k => match k with
  | 0 => .object "RegionHouse$Program"
  | 1 => .object "RegionHouse$Regions"
  | 2 => .object "RegionHouse$Code"
  | 3 => .object "RegionHouse$Stack"
  | 4 => .object "RegionHouse$Pool"
  | 5 => .int
  | 6 => .int
  | 7 => .int
  | 8 => .int
  | 9 => .int
  | 10 => .int
  | 11 => .int
  | 12 => .array .int
  | 13 => .array .int
  | 14 => .array .int
  | 15 => .array .int
  | 16 => .array .int
  | _ => .int
set_option maxRecDepth 100000 in
theorem nmX14 : ∀ a, a < 18 → ∀ b, b < 18 → a ≠ b → (TX14 a).2.1 ≠ (TX14 b).2.1 := by decide +kernel
set_option maxRecDepth 100000 in
theorem tyX14_ok : ∀ k, k < 18 → parseFieldDescriptor (TX14 k).2.2.1 = some (tyX14 k) := by decide +kernel
set_option maxRecDepth 100000 in
theorem in_X14 : ∀ w ∈ u_ws RX14 TX14 18, w ∈ lw_all := lw_in (u_ws RX14 TX14 18) [1084, 1086, 1088, 1090, 1092, 1094, 1096, 1098, 1100, 1102, 1104, 1106, 1108, 1110, 1112, 1114, 1116, 1118] (by decide +kernel) (by decide +kernel)
def RX15 : String := "RegionHouseModel"
def TX15 : u_T := fun k => match k with
  | 0 => ("RegionHouseModel", "thrown", "I", false)
  | 1 => ("RegionHouseModel", "taped", "I", false)
  | 2 => ("RegionHouseModel", "tape", "[I", true)
  | 3 => ("RegionHouseModel", "outMany", "I", false)
  | 4 => ("RegionHouseModel", "out", "[I", true)
  | 5 => ("RegionHouseModel", "faultKind", "I", false)
  | 6 => ("RegionHouseModel", "faultPlace", "I", false)
  | 7 => ("RegionHouseModel", "hasProgram", "Z", false)
  | 8 => ("RegionHouseModel", "lexemes", "I", false)
  | 9 => ("RegionHouseModel", "kinds", "[I", true)
  | 10 => ("RegionHouseModel", "places", "[I", true)
  | 11 => ("RegionHouseModel", "lengths", "[I", true)
  | 12 => ("RegionHouseModel", "worth", "[I", true)
  | 13 => ("RegionHouseModel", "textLong", "I", false)
  | 14 => ("RegionHouseModel", "text", "[I", true)
  | 15 => ("RegionHouseModel", "names", "I", false)
  | 16 => ("RegionHouseModel", "nameAt", "[I", true)
  | 17 => ("RegionHouseModel", "at", "I", false)
  | 18 => ("RegionHouseModel", "come", "I", false)
  | 19 => ("RegionHouseModel", "comes", "[I", true)
  | 20 => ("RegionHouseModel", "comesA", "[I", true)
  | 21 => ("RegionHouseModel", "comesB", "[I", true)
  | 22 => ("RegionHouseModel", "read", "I", false)
  | 23 => ("RegionHouseModel", "readPart", "[I", true)
  | 24 => ("RegionHouseModel", "readFirst", "[I", true)
  | 25 => ("RegionHouseModel", "readLast", "[I", true)
  | 26 => ("RegionHouseModel", "deep", "I", false)
  | 27 => ("RegionHouseModel", "functions", "I", false)
  | 28 => ("RegionHouseModel", "here", "I", false)
  | 29 => ("RegionHouseModel", "fName", "[I", true)
  | 30 => ("RegionHouseModel", "fLexeme", "[I", true)
  | 31 => ("RegionHouseModel", "fMany", "[I", true)
  | 32 => ("RegionHouseModel", "fVariable", "[I", true)
  | 33 => ("RegionHouseModel", "fBody", "[I", true)
  | 34 => ("RegionHouseModel", "fPart", "[I", true)
  | 35 => ("RegionHouseModel", "fVariables", "[I", true)
  | 36 => ("RegionHouseModel", "variables", "I", false)
  | 37 => ("RegionHouseModel", "vName", "[I", true)
  | 38 => ("RegionHouseModel", "vLexeme", "[I", true)
  | 39 => ("RegionHouseModel", "vDepth", "[I", true)
  | 40 => ("RegionHouseModel", "scoped", "I", false)
  | 41 => ("RegionHouseModel", "scope", "[I", true)
  | 42 => ("RegionHouseModel", "scopes", "I", false)
  | 43 => ("RegionHouseModel", "scopeTop", "I", false)
  | 44 => ("RegionHouseModel", "scopeVariable", "[I", true)
  | 45 => ("RegionHouseModel", "scopeUp", "[I", true)
  | 46 => ("RegionHouseModel", "parts", "I", false)
  | 47 => ("RegionHouseModel", "pKind", "[I", true)
  | 48 => ("RegionHouseModel", "pFirst", "[I", true)
  | 49 => ("RegionHouseModel", "pLast", "[I", true)
  | 50 => ("RegionHouseModel", "pA", "[I", true)
  | 51 => ("RegionHouseModel", "pB", "[I", true)
  | 52 => ("RegionHouseModel", "pC", "[I", true)
  | 53 => ("RegionHouseModel", "pWhat", "[I", true)
  | 54 => ("RegionHouseModel", "pLexeme", "[I", true)
  | 55 => ("RegionHouseModel", "pUp", "[I", true)
  | 56 => ("RegionHouseModel", "pScope", "[I", true)
  | 57 => ("RegionHouseModel", "pStart", "[I", true)
  | 58 => ("RegionHouseModel", "pGiven", "[I", true)
  | 59 => ("RegionHouseModel", "pGivenMany", "[I", true)
  | 60 => ("RegionHouseModel", "givens", "I", false)
  | 61 => ("RegionHouseModel", "given", "[I", true)
  | 62 => ("RegionHouseModel", "pDepth", "[I", true)
  | 63 => ("RegionHouseModel", "types", "I", false)
  | 64 => ("RegionHouseModel", "tKind", "[I", true)
  | 65 => ("RegionHouseModel", "tA", "[I", true)
  | 66 => ("RegionHouseModel", "tB", "[I", true)
  | 67 => ("RegionHouseModel", "tUp", "[I", true)
  | 68 => ("RegionHouseModel", "tHolds", "[I", true)
  | 69 => ("RegionHouseModel", "tMark", "[I", true)
  | 70 => ("RegionHouseModel", "tDone", "[I", true)
  | 71 => ("RegionHouseModel", "tCopy", "[I", true)
  | 72 => ("RegionHouseModel", "mark", "I", false)
  | 73 => ("RegionHouseModel", "holds", "I", false)
  | 74 => ("RegionHouseModel", "heldType", "[I", true)
  | 75 => ("RegionHouseModel", "heldNext", "[I", true)
  | 76 => ("RegionHouseModel", "row", "[I", true)
  | 77 => ("RegionHouseModel", "pairs", "[I", true)
  | 78 => ("RegionHouseModel", "pType", "[I", true)
  | 79 => ("RegionHouseModel", "vType", "[I", true)
  | 80 => ("RegionHouseModel", "fResult", "[I", true)
  | 81 => ("RegionHouseModel", "pCopy", "[I", true)
  | 82 => ("RegionHouseModel", "copies", "I", false)
  | 83 => ("RegionHouseModel", "copy", "[I", true)
  | 84 => ("RegionHouseModel", "heldMark", "I", false)
  | 85 => ("RegionHouseModel", "tHeld", "[I", true)
  | 86 => ("RegionHouseModel", "tNumber", "[I", true)
  | 87 => ("RegionHouseModel", "numbers", "I", false)
  | 88 => ("RegionHouseModel", "numberType", "[I", true)
  | 89 => ("RegionHouseModel", "numberOwn", "[I", true)
  | 90 => ("RegionHouseModel", "words", "I", false)
  | 91 => ("RegionHouseModel", "partBits", "[J", true)
  | 92 => ("RegionHouseModel", "scopeBits", "[J", true)
  | 93 => ("RegionHouseModel", "allBits", "[J", true)
  | 94 => ("RegionHouseModel", "firstScope", "I", false)
  | 95 => ("RegionHouseModel", "fNumbers", "[I", true)
  | 96 => ("RegionHouseModel", "fGets", "[I", true)
  | 97 => ("RegionHouseModel", "fGet", "[I", true)
  | 98 => ("RegionHouseModel", "rType", "[I", true)
  | 99 => ("RegionHouseModel", "rOwn", "[I", true)
  | 100 => ("RegionHouseModel", "fReach", "[I", true)
  | 101 => ("RegionHouseModel", "pCaught", "[I", true)
  | 102 => ("RegionHouseModel", "pCaughtMany", "[I", true)
  | 103 => ("RegionHouseModel", "caughts", "I", false)
  | 104 => ("RegionHouseModel", "caught", "[I", true)
  | 105 => ("RegionHouseModel", "pKept", "[I", true)
  | 106 => ("RegionHouseModel", "pKeptMany", "[I", true)
  | 107 => ("RegionHouseModel", "kepts", "I", false)
  | 108 => ("RegionHouseModel", "kept", "[I", true)
  | 109 => ("RegionHouseModel", "fScope", "[I", true)
  | 110 => ("RegionHouseModel", "unknownMany", "I", false)
  | 111 => ("RegionHouseModel", "heldMany", "I", false)
  | 112 => ("RegionHouseModel", "digits", "[I", true)
  | 113 => ("RegionHouseModel", "spaced", "Z", false)
  | 114 => ("RegionHouseModel", "annotated", "[I", true)
  | 115 => ("RegionHouseModel", "gets", "[I", true)
  | 116 => ("RegionHouseModel", "unknowns", "I", false)
  | 117 => ("RegionHouseModel", "tasks", "I", false)
  | 118 => ("RegionHouseModel", "taskType", "[I", true)
  | 119 => ("RegionHouseModel", "pages", "I", false)
  | 120 => ("RegionHouseModel", "pageWords", "I", false)
  | 121 => ("RegionHouseModel", "every", "I", false)
  | 122 => ("RegionHouseModel", "state", "I", false)
  | 123 => ("RegionHouseModel", "steps", "I", false)
  | 124 => ("RegionHouseModel", "objects", "I", false)
  | 125 => ("RegionHouseModel", "collections", "I", false)
  | 126 => ("RegionHouseModel", "copied", "I", false)
  | 127 => ("RegionHouseModel", "pagesUsed", "I", false)
  | 128 => ("RegionHouseModel", "peak", "I", false)
  | 129 => ("RegionHouseModel", "regionsMade", "I", false)
  | 130 => ("RegionHouseModel", "strays", "I", false)
  | 131 => ("RegionHouseModel", "under", "I", false)
  | 132 => ("RegionHouseModel", "stack", "I", false)
  | 133 => ("RegionHouseModel", "sKind", "[I", true)
  | 134 => ("RegionHouseModel", "sValue", "[I", true)
  | 135 => ("RegionHouseModel", "control", "I", false)
  | 136 => ("RegionHouseModel", "doWhat", "[I", true)
  | 137 => ("RegionHouseModel", "doPart", "[I", true)
  | 138 => ("RegionHouseModel", "doBase", "[I", true)
  | 139 => ("RegionHouseModel", "acts", "I", false)
  | 140 => ("RegionHouseModel", "aVariable", "[I", true)
  | 141 => ("RegionHouseModel", "aRegion", "[I", true)
  | 142 => ("RegionHouseModel", "aClosure", "[I", true)
  | 143 => ("RegionHouseModel", "aFunction", "[I", true)
  | 144 => ("RegionHouseModel", "theres", "I", false)
  | 145 => ("RegionHouseModel", "gFunction", "[I", true)
  | 146 => ("RegionHouseModel", "gNumber", "[I", true)
  | 147 => ("RegionHouseModel", "gSerial", "[I", true)
  | 148 => ("RegionHouseModel", "gObjects", "[I", true)
  | 149 => ("RegionHouseModel", "gPages", "[I", true)
  | 150 => ("RegionHouseModel", "gUsed", "[I", true)
  | 151 => ("RegionHouseModel", "nObjects", "[I", true)
  | 152 => ("RegionHouseModel", "nPages", "[I", true)
  | 153 => ("RegionHouseModel", "nUsed", "[I", true)
  | 154 => ("RegionHouseModel", "oKind", "[I", true)
  | 155 => ("RegionHouseModel", "oWords", "[I", true)
  | 156 => ("RegionHouseModel", "oRegion", "[I", true)
  | 157 => ("RegionHouseModel", "oSerial", "[I", true)
  | 158 => ("RegionHouseModel", "oPart", "[I", true)
  | 159 => ("RegionHouseModel", "oAt", "[I", true)
  | 160 => ("RegionHouseModel", "oMany", "[I", true)
  | 161 => ("RegionHouseModel", "oMet", "[I", true)
  | 162 => ("RegionHouseModel", "met", "I", false)
  | 163 => ("RegionHouseModel", "queue", "[I", true)
  | 164 => ("RegionHouseModel", "filled", "I", false)
  | 165 => ("RegionHouseModel", "inKind", "[I", true)
  | 166 => ("RegionHouseModel", "inValue", "[I", true)
  | 167 => ("RegionHouseModel", "foundKind", "I", false)
  | 168 => ("RegionHouseModel", "foundValue", "I", false)
  | 169 => ("RegionHouseModel", "showKind", "[I", true)
  | _ => ("RegionHouseModel", "showValue", "[I", true)
def tyX15 : Nat → FieldType := fun k => match k with
  | 0 => .int
  | 1 => .int
  | 2 => .array .int
  | 3 => .int
  | 4 => .array .int
  | 5 => .int
  | 6 => .int
  | 7 => .boolean
  | 8 => .int
  | 9 => .array .int
  | 10 => .array .int
  | 11 => .array .int
  | 12 => .array .int
  | 13 => .int
  | 14 => .array .int
  | 15 => .int
  | 16 => .array .int
  | 17 => .int
  | 18 => .int
  | 19 => .array .int
  | 20 => .array .int
  | 21 => .array .int
  | 22 => .int
  | 23 => .array .int
  | 24 => .array .int
  | 25 => .array .int
  | 26 => .int
  | 27 => .int
  | 28 => .int
  | 29 => .array .int
  | 30 => .array .int
  | 31 => .array .int
  | 32 => .array .int
  | 33 => .array .int
  | 34 => .array .int
  | 35 => .array .int
  | 36 => .int
  | 37 => .array .int
  | 38 => .array .int
  | 39 => .array .int
  | 40 => .int
  | 41 => .array .int
  | 42 => .int
  | 43 => .int
  | 44 => .array .int
  | 45 => .array .int
  | 46 => .int
  | 47 => .array .int
  | 48 => .array .int
  | 49 => .array .int
  | 50 => .array .int
  | 51 => .array .int
  | 52 => .array .int
  | 53 => .array .int
  | 54 => .array .int
  | 55 => .array .int
  | 56 => .array .int
  | 57 => .array .int
  | 58 => .array .int
  | 59 => .array .int
  | 60 => .int
  | 61 => .array .int
  | 62 => .array .int
  | 63 => .int
  | 64 => .array .int
  | 65 => .array .int
  | 66 => .array .int
  | 67 => .array .int
  | 68 => .array .int
  | 69 => .array .int
  | 70 => .array .int
  | 71 => .array .int
  | 72 => .int
  | 73 => .int
  | 74 => .array .int
  | 75 => .array .int
  | 76 => .array .int
  | 77 => .array .int
  | 78 => .array .int
  | 79 => .array .int
  | 80 => .array .int
  | 81 => .array .int
  | 82 => .int
  | 83 => .array .int
  | 84 => .int
  | 85 => .array .int
  | 86 => .array .int
  | 87 => .int
  | 88 => .array .int
  | 89 => .array .int
  | 90 => .int
  | 91 => .array .long
  | 92 => .array .long
  | 93 => .array .long
  | 94 => .int
  | 95 => .array .int
  | 96 => .array .int
  | 97 => .array .int
  | 98 => .array .int
  | 99 => .array .int
  | 100 => .array .int
  | 101 => .array .int
  | 102 => .array .int
  | 103 => .int
  | 104 => .array .int
  | 105 => .array .int
  | 106 => .array .int
  | 107 => .int
  | 108 => .array .int
  | 109 => .array .int
  | 110 => .int
  | 111 => .int
  | 112 => .array .int
  | 113 => .boolean
  | 114 => .array .int
  | 115 => .array .int
  | 116 => .int
  | 117 => .int
  | 118 => .array .int
  | 119 => .int
  | 120 => .int
  | 121 => .int
  | 122 => .int
  | 123 => .int
  | 124 => .int
  | 125 => .int
  | 126 => .int
  | 127 => .int
  | 128 => .int
  | 129 => .int
  | 130 => .int
  | 131 => .int
  | 132 => .int
  | 133 => .array .int
  | 134 => .array .int
  | 135 => .int
  | 136 => .array .int
  | 137 => .array .int
  | 138 => .array .int
  | 139 => .int
  | 140 => .array .int
  | 141 => .array .int
  | 142 => .array .int
  | 143 => .array .int
  | 144 => .int
  | 145 => .array .int
  | 146 => .array .int
  | 147 => .array .int
  | 148 => .array .int
  | 149 => .array .int
  | 150 => .array .int
  | 151 => .array .int
  | 152 => .array .int
  | 153 => .array .int
  | 154 => .array .int
  | 155 => .array .int
  | 156 => .array .int
  | 157 => .array .int
  | 158 => .array .int
  | 159 => .array .int
  | 160 => .array .int
  | 161 => .array .int
  | 162 => .int
  | 163 => .array .int
  | 164 => .int
  | 165 => .array .int
  | 166 => .array .int
  | 167 => .int
  | 168 => .int
  | 169 => .array .int
  | _ => .array .int
set_option maxRecDepth 100000 in
theorem nmX15 : ∀ a, a < 171 → ∀ b, b < 171 → a ≠ b → (TX15 a).2.1 ≠ (TX15 b).2.1 := by decide +kernel
set_option maxRecDepth 100000 in
theorem tyX15_ok : ∀ k, k < 171 → parseFieldDescriptor (TX15 k).2.2.1 = some (tyX15 k) := by decide +kernel
set_option maxRecDepth 100000 in
theorem in_X15 : ∀ w ∈ u_ws RX15 TX15 171, w ∈ lw_all := lw_in (u_ws RX15 TX15 171) [2655, 2657, 2659, 2661, 2663, 2665, 2667, 2669, 2671, 2673, 2675, 2677, 2679, 2681, 2683, 2685, 2687, 2689, 2691, 2693, 2695, 2697, 2699, 2701, 2703, 2705, 2707, 2709, 2711, 2713, 2715, 2717, 2719, 2721, 2723, 2725, 2727, 2729, 2731, 2733, 2735, 2737, 2739, 2741, 2743, 2745, 2747, 2749, 2751, 2753, 2755, 2757, 2759, 2761, 2763, 2765, 2767, 2769, 2771, 2773, 2775, 2777, 2779, 2781, 2783, 2785, 2787, 2789, 2791, 2793, 2795, 2797, 2799, 2801, 2803, 2805, 2807, 2809, 2811, 2813, 2815, 2817, 2819, 2821, 2823, 2825, 2827, 2829, 2831, 2833, 2835, 2837, 2839, 2841, 2843, 2845, 2847, 2849, 2851, 2853, 2855, 2857, 2859, 2861, 2863, 2865, 2867, 2869, 2871, 2873, 2875, 2877, 2879, 2881, 2883, 2885, 2887, 2889, 2891, 2893, 2895, 2897, 2899, 2901, 2903, 2905, 2907, 2909, 2911, 2913, 2915, 2917, 2919, 2921, 2923, 2925, 2927, 2929, 2931, 2933, 2935, 2937, 2939, 2941, 2943, 2945, 2947, 2949, 2951, 2953, 2955, 2957, 2959, 2961, 2963, 2965, 2967, 2969, 2971, 2973, 2975, 2977, 2979, 2981, 2983, 2985, 2987, 2989, 2991, 2993, 2995] (by decide +kernel) (by decide +kernel)
def RJ7 : String := "java/lang/UnsupportedOperationException"
def TJ7 : u_T := fun k => match k with
  | 0 => ("java/lang/Throwable", "cause", "Ljava/lang/Throwable;", false)
  | 1 => ("java/lang/Throwable", "stackTrace", "[Ljava/lang/StackTraceElement;", false)
  | 2 => ("java/lang/Throwable", "suppressedExceptions", "Ljava/util/List;", false)
  | 3 => ("java/lang/Throwable", "detailMessage", "Ljava/lang/String;", false)
  | 4 => ("java/lang/Throwable", "backtrace", "Ljava/lang/Object;", false)
  | _ => ("java/lang/Throwable", "depth", "I", false)
def tyJ7 : Nat → FieldType := fun k => match k with
  | 0 => .object "java/lang/Throwable"
  | 1 => .array (.object "java/lang/StackTraceElement")
  | 2 => .object "java/util/List"
  | 3 => .object "java/lang/String"
  | 4 => .object "java/lang/Object"
  | _ => .int
set_option maxRecDepth 100000 in
theorem nmJ7 : ∀ a, a < 6 → ∀ b, b < 6 → a ≠ b → (TJ7 a).2.1 ≠ (TJ7 b).2.1 := by decide +kernel
set_option maxRecDepth 100000 in
theorem tyJ7_ok : ∀ k, k < 6 → parseFieldDescriptor (TJ7 k).2.2.1 = some (tyJ7 k) := by decide +kernel
set_option maxRecDepth 100000 in
theorem in_J7 : ∀ w ∈ u_ws RJ7 TJ7 6, w ∈ lw_all := lw_in (u_ws RJ7 TJ7 6) [1429, 1431, 1433, 1435, 1437, 1480] (by decide +kernel) (by decide +kernel)
def RJ10 : String := "java/lang/IllegalArgumentException"
def TJ10 : u_T := fun k => match k with
  | 0 => ("java/lang/Throwable", "cause", "Ljava/lang/Throwable;", false)
  | 1 => ("java/lang/Throwable", "stackTrace", "[Ljava/lang/StackTraceElement;", false)
  | 2 => ("java/lang/Throwable", "suppressedExceptions", "Ljava/util/List;", false)
  | 3 => ("java/lang/Throwable", "detailMessage", "Ljava/lang/String;", false)
  | 4 => ("java/lang/Throwable", "backtrace", "Ljava/lang/Object;", false)
  | _ => ("java/lang/Throwable", "depth", "I", false)
def tyJ10 : Nat → FieldType := fun k => match k with
  | 0 => .object "java/lang/Throwable"
  | 1 => .array (.object "java/lang/StackTraceElement")
  | 2 => .object "java/util/List"
  | 3 => .object "java/lang/String"
  | 4 => .object "java/lang/Object"
  | _ => .int
set_option maxRecDepth 100000 in
theorem nmJ10 : ∀ a, a < 6 → ∀ b, b < 6 → a ≠ b → (TJ10 a).2.1 ≠ (TJ10 b).2.1 := by decide +kernel
set_option maxRecDepth 100000 in
theorem tyJ10_ok : ∀ k, k < 6 → parseFieldDescriptor (TJ10 k).2.2.1 = some (tyJ10 k) := by decide +kernel
set_option maxRecDepth 100000 in
theorem in_J10 : ∀ w ∈ u_ws RJ10 TJ10 6, w ∈ lw_all := lw_in (u_ws RJ10 TJ10 6) [2052, 2053, 2054, 2055, 2056, 2061] (by decide +kernel) (by decide +kernel)
def RJ11 : String := "java/lang/IllegalStateException"
def TJ11 : u_T := fun k => match k with
  | 0 => ("java/lang/Throwable", "cause", "Ljava/lang/Throwable;", false)
  | 1 => ("java/lang/Throwable", "stackTrace", "[Ljava/lang/StackTraceElement;", false)
  | 2 => ("java/lang/Throwable", "suppressedExceptions", "Ljava/util/List;", false)
  | 3 => ("java/lang/Throwable", "detailMessage", "Ljava/lang/String;", false)
  | 4 => ("java/lang/Throwable", "backtrace", "Ljava/lang/Object;", false)
  | _ => ("java/lang/Throwable", "depth", "I", false)
def tyJ11 : Nat → FieldType := fun k => match k with
  | 0 => .object "java/lang/Throwable"
  | 1 => .array (.object "java/lang/StackTraceElement")
  | 2 => .object "java/util/List"
  | 3 => .object "java/lang/String"
  | 4 => .object "java/lang/Object"
  | _ => .int
set_option maxRecDepth 100000 in
theorem nmJ11 : ∀ a, a < 6 → ∀ b, b < 6 → a ≠ b → (TJ11 a).2.1 ≠ (TJ11 b).2.1 := by decide +kernel
set_option maxRecDepth 100000 in
theorem tyJ11_ok : ∀ k, k < 6 → parseFieldDescriptor (TJ11 k).2.2.1 = some (tyJ11 k) := by decide +kernel
set_option maxRecDepth 100000 in
theorem in_J11 : ∀ w ∈ u_ws RJ11 TJ11 6, w ∈ lw_all := lw_in (u_ws RJ11 TJ11 6) [2078, 2079, 2080, 2081, 2082, 2087] (by decide +kernel) (by decide +kernel)
def RJ12 : String := "java/lang/IndexOutOfBoundsException"
def TJ12 : u_T := fun k => match k with
  | 0 => ("java/lang/Throwable", "cause", "Ljava/lang/Throwable;", false)
  | 1 => ("java/lang/Throwable", "stackTrace", "[Ljava/lang/StackTraceElement;", false)
  | 2 => ("java/lang/Throwable", "suppressedExceptions", "Ljava/util/List;", false)
  | 3 => ("java/lang/Throwable", "detailMessage", "Ljava/lang/String;", false)
  | 4 => ("java/lang/Throwable", "backtrace", "Ljava/lang/Object;", false)
  | _ => ("java/lang/Throwable", "depth", "I", false)
def tyJ12 : Nat → FieldType := fun k => match k with
  | 0 => .object "java/lang/Throwable"
  | 1 => .array (.object "java/lang/StackTraceElement")
  | 2 => .object "java/util/List"
  | 3 => .object "java/lang/String"
  | 4 => .object "java/lang/Object"
  | _ => .int
set_option maxRecDepth 100000 in
theorem nmJ12 : ∀ a, a < 6 → ∀ b, b < 6 → a ≠ b → (TJ12 a).2.1 ≠ (TJ12 b).2.1 := by decide +kernel
set_option maxRecDepth 100000 in
theorem tyJ12_ok : ∀ k, k < 6 → parseFieldDescriptor (TJ12 k).2.2.1 = some (tyJ12 k) := by decide +kernel
set_option maxRecDepth 100000 in
theorem in_J12 : ∀ w ∈ u_ws RJ12 TJ12 6, w ∈ lw_all := lw_in (u_ws RJ12 TJ12 6) [2215, 2216, 2217, 2218, 2219, 2224] (by decide +kernel) (by decide +kernel)
abbrev pcl : List vw_C := [(RX1, TX1, 15), (RX1, TX1, 15), (RX2, TX2, 2), (RX3, TX3, 2), (RX4, TX4, 10), (RX5, TX5, 39), (RX6, TX6, 18), (RX7, TX7, 13), (RX8, TX8, 14), (RX9, TX9, 20), (RX10, TX10, 15), (RX11, TX11, 11), (RX12, TX12, 3), (RX13, TX13, 27), (RX14, TX14, 18), (RX15, TX15, 171), (RJ7, TJ7, 6), (RJ10, TJ10, 6), (RJ11, TJ11, 6), (RJ12, TJ12, 6)]
def ftL : List (Nat → FieldType) := [tyX1, tyX1, tyX2, tyX3, tyX4, tyX5, tyX6, tyX7, tyX8, tyX9, tyX10, tyX11, tyX12, tyX13, tyX14, tyX15, tyJ7, tyJ10, tyJ11, tyJ12]
def ftP (ci : Nat) : Nat → FieldType := ftL.getD ci tyX1
def finP (ci k : Nat) : Bool := ((pcl.getD ci (RX1, TX1, 15)).2.1 k).2.2.2
def nfP (ci : Nat) : Nat := (pcl.getD ci (RX1, TX1, 15)).2.2
