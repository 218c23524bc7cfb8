/-! CLASSES (rows of the given names, and tables over them) -/
set_option maxRecDepth 100000
def RX0 : String := "EarthOffice"
def TX0 : u_T := fun k => match k with
  | 0 => ("EarthOffice", "ways", "LEarthOffice$Ways;", true)
  | 1 => ("EarthOffice", "earth", "LEarthOffice$Earth;", true)
  | 2 => ("EarthOffice", "state", "LEarthOffice$State;", true)
  | 3 => ("EarthOffice", "net", "LEarthOffice$Net;", true)
  | 4 => ("EarthOffice", "book", "LEarthOffice$Book;", true)
  | 5 => ("EarthOffice", "log", "LEarthOffice$Log;", true)
  | 6 => ("EarthOffice", "tape", "LEarthOffice$Bytes;", true)
  | 7 => ("EarthOffice", "coder", "LEarthOffice$Coder;", true)
  | 8 => ("EarthOffice", "lines", "[LEarthOffice$Line;", true)
  | 9 => ("EarthOffice", "windows", "[LEarthOffice$Window;", true)
  | 10 => ("EarthOffice", "picks", "LEarthOffice$Picks;", true)
  | 11 => ("EarthOffice", "finder", "LEarthOffice$Finder;", true)
  | 12 => ("EarthOffice", "locator", "LEarthOffice$Locator;", true)
  | 13 => ("EarthOffice", "sea", "LEarthOffice$Sea;", true)
  | 14 => ("EarthOffice", "draft", "[I", true)
  | _ => ("EarthOffice", "chosen", "[I", true)
def tyX0 : Nat → FieldType := fun k => match k with
  | 0 => .object "EarthOffice$Ways"
  | 1 => .object "EarthOffice$Earth"
  | 2 => .object "EarthOffice$State"
  | 3 => .object "EarthOffice$Net"
  | 4 => .object "EarthOffice$Book"
  | 5 => .object "EarthOffice$Log"
  | 6 => .object "EarthOffice$Bytes"
  | 7 => .object "EarthOffice$Coder"
  | 8 => .array (.object "EarthOffice$Line")
  | 9 => .array (.object "EarthOffice$Window")
  | 10 => .object "EarthOffice$Picks"
  | 11 => .object "EarthOffice$Finder"
  | 12 => .object "EarthOffice$Locator"
  | 13 => .object "EarthOffice$Sea"
  | 14 => .array .int
  | _ => .array .int
abbrev wsX00 : List Cond := u_ws RX0 TX0 16
theorem nmX0 : ∀ a, a < 16 → ∀ b, b < 16 → a ≠ b → (TX0 a).2.1 ≠ (TX0 b).2.1 := by decide +kernel
theorem tyX0_ok : ∀ k, k < 16 → parseFieldDescriptor (TX0 k).2.2.1 = some (tyX0 k) := by decide +kernel
theorem in_X0 : ∀ w ∈ wsX00, w ∈ lw_all := lw_in wsX00 [914, 916, 918, 920, 922, 924, 926, 928, 930, 932, 934, 936, 938, 940, 942, 944] (by decide +kernel) (by decide +kernel)
def RX1 : String := "EarthOffice$Ways"
def TX1 : u_T := fun k => match k with
  | 0 => ("EarthOffice$Ways", "heap", "[J", true)
  | _ => ("EarthOffice$Ways", "size", "I", false)
def tyX1 : Nat → FieldType := fun k => match k with
  | 0 => .array .long
  | _ => .int
abbrev wsX10 : List Cond := u_ws RX1 TX1 2
theorem nmX1 : ∀ a, a < 2 → ∀ b, b < 2 → a ≠ b → (TX1 a).2.1 ≠ (TX1 b).2.1 := by decide +kernel
theorem tyX1_ok : ∀ k, k < 2 → parseFieldDescriptor (TX1 k).2.2.1 = some (tyX1 k) := by decide +kernel
theorem in_X1 : ∀ w ∈ wsX10, w ∈ lw_all := lw_in wsX10 [188, 190] (by decide +kernel) (by decide +kernel)
def RX2 : String := "EarthOffice$Earth"
def TX2 : u_T := fun k => match k with
  | 0 => ("EarthOffice$Earth", "slow", "[I", true)
  | 1 => ("EarthOffice$Earth", "costs", "[I", true)
  | 2 => ("EarthOffice$Earth", "times", "[I", true)
  | 3 => ("EarthOffice$Earth", "least", "[I", true)
  | 4 => ("EarthOffice$Earth", "most", "[I", true)
  | 5 => ("EarthOffice$Earth", "ways", "LEarthOffice$Ways;", true)
  | _ => ("EarthOffice$Earth", "isOld", "Z", false)
def tyX2 : Nat → FieldType := fun k => match k with
  | 0 => .array .int
  | 1 => .array .int
  | 2 => .array .int
  | 3 => .array .int
  | 4 => .array .int
  | 5 => .object "EarthOffice$Ways"
  | _ => .boolean
abbrev wsX20 : List Cond := u_ws RX2 TX2 7
theorem nmX2 : ∀ a, a < 7 → ∀ b, b < 7 → a ≠ b → (TX2 a).2.1 ≠ (TX2 b).2.1 := by decide +kernel
theorem tyX2_ok : ∀ k, k < 7 → parseFieldDescriptor (TX2 k).2.2.1 = some (tyX2 k) := by decide +kernel
theorem in_X2 : ∀ w ∈ wsX20, w ∈ lw_all := lw_in wsX20 [217, 219, 221, 223, 225, 227, 229] (by decide +kernel) (by decide +kernel)
def RX3 : String := "EarthOffice$State"
def TX3 : u_T := fun k => match k with
  | 0 => ("EarthOffice$State", "net", "LEarthOffice$Net;", true)
  | 1 => ("EarthOffice$State", "earth", "LEarthOffice$Earth;", true)
  | 2 => ("EarthOffice$State", "book", "LEarthOffice$Book;", true)
  | 3 => ("EarthOffice$State", "gauges", "LEarthOffice$Gauges;", true)
  | 4 => ("EarthOffice$State", "rules", "[LEarthOffice$Rule;", true)
  | 5 => ("EarthOffice$State", "ruleMany", "I", false)
  | 6 => ("EarthOffice$State", "alerts", "LEarthOffice$Alerts;", true)
  | 7 => ("EarthOffice$State", "reader", "LEarthOffice$Reader;", true)
  | 8 => ("EarthOffice$State", "text", "LEarthOffice$Bytes;", true)
  | 9 => ("EarthOffice$State", "draft", "[I", true)
  | 10 => ("EarthOffice$State", "clock", "I", false)
  | _ => ("EarthOffice$State", "pile", "[J", true)
def tyX3 : Nat → FieldType := fun k => match k with
  | 0 => .object "EarthOffice$Net"
  | 1 => .object "EarthOffice$Earth"
  | 2 => .object "EarthOffice$Book"
  | 3 => .object "EarthOffice$Gauges"
  | 4 => .array (.object "EarthOffice$Rule")
  | 5 => .int
  | 6 => .object "EarthOffice$Alerts"
  | 7 => .object "EarthOffice$Reader"
  | 8 => .object "EarthOffice$Bytes"
  | 9 => .array .int
  | 10 => .int
  | _ => .array .long
abbrev wsX30 : List Cond := u_ws RX3 TX3 12
theorem nmX3 : ∀ a, a < 12 → ∀ b, b < 12 → a ≠ b → (TX3 a).2.1 ≠ (TX3 b).2.1 := by decide +kernel
theorem tyX3_ok : ∀ k, k < 12 → parseFieldDescriptor (TX3 k).2.2.1 = some (tyX3 k) := by decide +kernel
theorem in_X3 : ∀ w ∈ wsX30, w ∈ lw_all := lw_in wsX30 [628, 630, 632, 634, 636, 638, 640, 642, 644, 646, 648, 650] (by decide +kernel) (by decide +kernel)
def RX4 : String := "EarthOffice$Net"
def TX4 : u_T := fun k => match k with
  | 0 => ("EarthOffice$Net", "stations", "I", false)
  | 1 => ("EarthOffice$Net", "xs", "[I", true)
  | 2 => ("EarthOffice$Net", "ys", "[I", true)
  | 3 => ("EarthOffice$Net", "samples", "[I", true)
  | _ => ("EarthOffice$Net", "known", "[Z", true)
def tyX4 : Nat → FieldType := fun k => match k with
  | 0 => .int
  | 1 => .array .int
  | 2 => .array .int
  | 3 => .array .int
  | _ => .array .boolean
abbrev wsX40 : List Cond := u_ws RX4 TX4 5
theorem nmX4 : ∀ a, a < 5 → ∀ b, b < 5 → a ≠ b → (TX4 a).2.1 ≠ (TX4 b).2.1 := by decide +kernel
theorem tyX4_ok : ∀ k, k < 5 → parseFieldDescriptor (TX4 k).2.2.1 = some (tyX4 k) := by decide +kernel
theorem in_X4 : ∀ w ∈ wsX40, w ∈ lw_all := lw_in wsX40 [260, 262, 264, 266, 268] (by decide +kernel) (by decide +kernel)
def RX5 : String := "EarthOffice$Book"
def TX5 : u_T := fun k => match k with
  | 0 => ("EarthOffice$Book", "events", "[LEarthOffice$Event;", true)
  | 1 => ("EarthOffice$Book", "many", "I", false)
  | _ => ("EarthOffice$Book", "made", "J", false)
def tyX5 : Nat → FieldType := fun k => match k with
  | 0 => .array (.object "EarthOffice$Event")
  | 1 => .int
  | _ => .long
abbrev wsX50 : List Cond := u_ws RX5 TX5 3
theorem nmX5 : ∀ a, a < 3 → ∀ b, b < 3 → a ≠ b → (TX5 a).2.1 ≠ (TX5 b).2.1 := by decide +kernel
theorem tyX5_ok : ∀ k, k < 3 → parseFieldDescriptor (TX5 k).2.2.1 = some (tyX5 k) := by decide +kernel
theorem in_X5 : ∀ w ∈ wsX50, w ∈ lw_all := lw_in wsX50 [321, 323, 325] (by decide +kernel) (by decide +kernel)
def RX6 : String := "EarthOffice$Event"
def TX6 : u_T := fun k => match k with
  | 0 => ("EarthOffice$Event", "versions", "[I", true)
  | 1 => ("EarthOffice$Event", "many", "I", false)
  | 2 => ("EarthOffice$Event", "arrivals", "[I", true)
  | 3 => ("EarthOffice$Event", "arrived", "I", false)
  | 4 => ("EarthOffice$Event", "merged", "I", false)
  | _ => ("EarthOffice$Event", "madeAt", "J", false)
def tyX6 : Nat → FieldType := fun k => match k with
  | 0 => .array .int
  | 1 => .int
  | 2 => .array .int
  | 3 => .int
  | 4 => .int
  | _ => .long
abbrev wsX60 : List Cond := u_ws RX6 TX6 6
theorem nmX6 : ∀ a, a < 6 → ∀ b, b < 6 → a ≠ b → (TX6 a).2.1 ≠ (TX6 b).2.1 := by decide +kernel
theorem tyX6_ok : ∀ k, k < 6 → parseFieldDescriptor (TX6 k).2.2.1 = some (tyX6 k) := by decide +kernel
theorem in_X6 : ∀ w ∈ wsX60, w ∈ lw_all := lw_in wsX60 [301, 303, 305, 307, 309, 311] (by decide +kernel) (by decide +kernel)
def RX7 : String := "EarthOffice$Gauges"
def TX7 : u_T := fun k => match k with
  | 0 => ("EarthOffice$Gauges", "many", "I", false)
  | 1 => ("EarthOffice$Gauges", "means", "[I", true)
  | 2 => ("EarthOffice$Gauges", "parts", "[I", true)
  | 3 => ("EarthOffice$Gauges", "speeds", "[I", true)
  | 4 => ("EarthOffice$Gauges", "amplitudes", "[I", true)
  | 5 => ("EarthOffice$Gauges", "phases", "[I", true)
  | 6 => ("EarthOffice$Gauges", "levels", "[I", true)
  | 7 => ("EarthOffice$Gauges", "has", "[Z", true)
  | _ => ("EarthOffice$Gauges", "latest", "[I", true)
def tyX7 : Nat → FieldType := fun k => match k with
  | 0 => .int
  | 1 => .array .int
  | 2 => .array .int
  | 3 => .array .int
  | 4 => .array .int
  | 5 => .array .int
  | 6 => .array .int
  | 7 => .array .boolean
  | _ => .array .int
abbrev wsX70 : List Cond := u_ws RX7 TX7 9
theorem nmX7 : ∀ a, a < 9 → ∀ b, b < 9 → a ≠ b → (TX7 a).2.1 ≠ (TX7 b).2.1 := by decide +kernel
theorem tyX7_ok : ∀ k, k < 9 → parseFieldDescriptor (TX7 k).2.2.1 = some (tyX7 k) := by decide +kernel
theorem in_X7 : ∀ w ∈ wsX70, w ∈ lw_all := lw_in wsX70 [349, 351, 353, 355, 357, 359, 361, 363, 365] (by decide +kernel) (by decide +kernel)
def RX8 : String := "EarthOffice$Alerts"
def TX8 : u_T := fun k => match k with
  | 0 => ("EarthOffice$Alerts", "users", "I", false)
  | 1 => ("EarthOffice$Alerts", "zones", "[I", true)
  | 2 => ("EarthOffice$Alerts", "drills", "[Z", true)
  | 3 => ("EarthOffice$Alerts", "deaf", "[Z", true)
  | 4 => ("EarthOffice$Alerts", "received", "[I", true)
  | 5 => ("EarthOffice$Alerts", "isDrill", "Z", false)
  | 6 => ("EarthOffice$Alerts", "many", "I", false)
  | 7 => ("EarthOffice$Alerts", "unsent", "I", false)
  | 8 => ("EarthOffice$Alerts", "whose", "[I", true)
  | 9 => ("EarthOffice$Alerts", "ruleOf", "[I", true)
  | 10 => ("EarthOffice$Alerts", "since", "[I", true)
  | 11 => ("EarthOffice$Alerts", "tries", "[I", true)
  | 12 => ("EarthOffice$Alerts", "came", "[I", true)
  | 13 => ("EarthOffice$Alerts", "ends", "[I", true)
  | 14 => ("EarthOffice$Alerts", "sizes", "[I", true)
  | _ => ("EarthOffice$Alerts", "texts", "[B", true)
def tyX8 : Nat → FieldType := fun k => match k with
  | 0 => .int
  | 1 => .array .int
  | 2 => .array .boolean
  | 3 => .array .boolean
  | 4 => .array .int
  | 5 => .boolean
  | 6 => .int
  | 7 => .int
  | 8 => .array .int
  | 9 => .array .int
  | 10 => .array .int
  | 11 => .array .int
  | 12 => .array .int
  | 13 => .array .int
  | 14 => .array .int
  | _ => .array .byte
abbrev wsX80 : List Cond := u_ws RX8 TX8 16
theorem nmX8 : ∀ a, a < 16 → ∀ b, b < 16 → a ≠ b → (TX8 a).2.1 ≠ (TX8 b).2.1 := by decide +kernel
theorem tyX8_ok : ∀ k, k < 16 → parseFieldDescriptor (TX8 k).2.2.1 = some (tyX8 k) := by decide +kernel
theorem in_X8 : ∀ w ∈ wsX80, w ∈ lw_all := lw_in wsX80 [404, 406, 408, 410, 412, 414, 416, 418, 420, 422, 424, 426, 428, 430, 432, 434] (by decide +kernel) (by decide +kernel)
def RX9 : String := "EarthOffice$Reader"
def TX9 : u_T := fun k => match k with
  | 0 => ("EarthOffice$Reader", "wrong", "LEarthOffice$Wrong;", true)
  | 1 => ("EarthOffice$Reader", "rule", "LEarthOffice$Rule;", true)
  | 2 => ("EarthOffice$Reader", "text", "LEarthOffice$Bytes;", false)
  | 3 => ("EarthOffice$Reader", "begin", "I", false)
  | 4 => ("EarthOffice$Reader", "end", "I", false)
  | 5 => ("EarthOffice$Reader", "kind", "I", false)
  | _ => ("EarthOffice$Reader", "things", "I", false)
def tyX9 : Nat → FieldType := fun k => match k with
  | 0 => .object "EarthOffice$Wrong"
  | 1 => .object "EarthOffice$Rule"
  | 2 => .object "EarthOffice$Bytes"
  | 3 => .int
  | 4 => .int
  | 5 => .int
  | _ => .int
abbrev wsX90 : List Cond := u_ws RX9 TX9 7
theorem nmX9 : ∀ a, a < 7 → ∀ b, b < 7 → a ≠ b → (TX9 a).2.1 ≠ (TX9 b).2.1 := by decide +kernel
theorem tyX9_ok : ∀ k, k < 7 → parseFieldDescriptor (TX9 k).2.2.1 = some (tyX9 k) := by decide +kernel
theorem in_X9 : ∀ w ∈ wsX90, w ∈ lw_all := lw_in wsX90 [581, 583, 585, 587, 589, 591, 593] (by decide +kernel) (by decide +kernel)
def RX10 : String := "EarthOffice$Wrong"
def TX10 : u_T := fun k => match k with
  | 0 => ("java/lang/Throwable", "cause", "Ljava/lang/Throwable;", false)
  | 1 => ("java/lang/Throwable", "stackTrace", "[Ljava/lang/StackTraceElement;", false)
  | 2 => ("java/lang/Throwable", "suppressedExceptions", "Ljava/util/List;", false)
  | 3 => ("java/lang/Throwable", "detailMessage", "Ljava/lang/String;", false)
  | 4 => ("java/lang/Throwable", "backtrace", "Ljava/lang/Object;", false)
  | 5 => ("java/lang/Throwable", "depth", "I", false)
  | _ => ("EarthOffice$Wrong", "place", "I", false)
def tyX10 : Nat → FieldType := fun k => match k with
  | 0 => .object "java/lang/Throwable"
  | 1 => .array (.object "java/lang/StackTraceElement")
  | 2 => .object "java/util/List"
  | 3 => .object "java/lang/String"
  | 4 => .object "java/lang/Object"
  | 5 => .int
  | _ => .int
abbrev wsX100 : List Cond := u_ws RX10 TX10 7
theorem nmX10 : ∀ a, a < 7 → ∀ b, b < 7 → a ≠ b → (TX10 a).2.1 ≠ (TX10 b).2.1 := by decide +kernel
theorem tyX10_ok : ∀ k, k < 7 → parseFieldDescriptor (TX10 k).2.2.1 = some (tyX10 k) := by decide +kernel
theorem in_X10 : ∀ w ∈ wsX100, w ∈ lw_all := lw_in wsX100 [453, 455, 457, 459, 461, 503, 497] (by decide +kernel) (by decide +kernel)
def RX11 : String := "EarthOffice$Rule"
def TX11 : u_T := fun k => match k with
  | 0 => ("EarthOffice$Rule", "ops", "[I", true)
  | 1 => ("EarthOffice$Rule", "as", "[I", true)
  | 2 => ("EarthOffice$Rule", "bs", "[I", true)
  | 3 => ("EarthOffice$Rule", "runs", "[I", true)
  | 4 => ("EarthOffice$Rule", "many", "I", false)
  | 5 => ("EarthOffice$Rule", "message", "LEarthOffice$Bytes;", true)
  | 6 => ("EarthOffice$Rule", "isTrue", "Z", false)
  | _ => ("EarthOffice$Rule", "turned", "I", false)
def tyX11 : Nat → FieldType := fun k => match k with
  | 0 => .array .int
  | 1 => .array .int
  | 2 => .array .int
  | 3 => .array .int
  | 4 => .int
  | 5 => .object "EarthOffice$Bytes"
  | 6 => .boolean
  | _ => .int
abbrev wsX110 : List Cond := u_ws RX11 TX11 8
theorem nmX11 : ∀ a, a < 8 → ∀ b, b < 8 → a ≠ b → (TX11 a).2.1 ≠ (TX11 b).2.1 := by decide +kernel
theorem tyX11_ok : ∀ k, k < 8 → parseFieldDescriptor (TX11 k).2.2.1 = some (tyX11 k) := by decide +kernel
theorem in_X11 : ∀ w ∈ wsX110, w ∈ lw_all := lw_in wsX110 [556, 558, 560, 562, 564, 566, 568, 570] (by decide +kernel) (by decide +kernel)
def RX12 : String := "EarthOffice$Bytes"
def TX12 : u_T := fun k => match k with
  | 0 => ("EarthOffice$Bytes", "cells", "[B", true)
  | _ => ("EarthOffice$Bytes", "size", "I", false)
def tyX12 : Nat → FieldType := fun k => match k with
  | 0 => .array .byte
  | _ => .int
abbrev wsX120 : List Cond := u_ws RX12 TX12 2
theorem nmX12 : ∀ a, a < 2 → ∀ b, b < 2 → a ≠ b → (TX12 a).2.1 ≠ (TX12 b).2.1 := by decide +kernel
theorem tyX12_ok : ∀ k, k < 2 → parseFieldDescriptor (TX12 k).2.2.1 = some (tyX12 k) := by decide +kernel
theorem in_X12 : ∀ w ∈ wsX120, w ∈ lw_all := lw_in wsX120 [531, 533] (by decide +kernel) (by decide +kernel)
def RX13 : String := "EarthOffice$Log"
def TX13 : u_T := fun k => match k with
  | 0 => ("EarthOffice$Log", "bytes", "LEarthOffice$Bytes;", true)
  | 1 => ("EarthOffice$Log", "rows", "I", false)
  | _ => ("EarthOffice$Log", "last", "I", false)
def tyX13 : Nat → FieldType := fun k => match k with
  | 0 => .object "EarthOffice$Bytes"
  | 1 => .int
  | _ => .int
abbrev wsX130 : List Cond := u_ws RX13 TX13 3
theorem nmX13 : ∀ a, a < 3 → ∀ b, b < 3 → a ≠ b → (TX13 a).2.1 ≠ (TX13 b).2.1 := by decide +kernel
theorem tyX13_ok : ∀ k, k < 3 → parseFieldDescriptor (TX13 k).2.2.1 = some (tyX13 k) := by decide +kernel
theorem in_X13 : ∀ w ∈ wsX130, w ∈ lw_all := lw_in wsX130 [668, 670, 672] (by decide +kernel) (by decide +kernel)
def RX14 : String := "EarthOffice$Coder"
def TX14 : u_T := fun k => match k with
  | _ => ("EarthOffice$Coder", "samples", "[I", true)
def tyX14 : Nat → FieldType := fun k => match k with
  | _ => .array .int
abbrev wsX140 : List Cond := u_ws RX14 TX14 1
theorem nmX14 : ∀ a, a < 1 → ∀ b, b < 1 → a ≠ b → (TX14 a).2.1 ≠ (TX14 b).2.1 := by decide +kernel
theorem tyX14_ok : ∀ k, k < 1 → parseFieldDescriptor (TX14 k).2.2.1 = some (tyX14 k) := by decide +kernel
theorem in_X14 : ∀ w ∈ wsX140, w ∈ lw_all := lw_in wsX140 [685] (by decide +kernel) (by decide +kernel)
def RX15 : String := "EarthOffice$Line"
def TX15 : u_T := fun k => match k with
  | 0 => ("EarthOffice$Line", "ear", "LEarthOffice$Bytes;", true)
  | 1 => ("EarthOffice$Line", "counts", "[I", true)
  | _ => ("EarthOffice$Line", "expected", "[I", true)
def tyX15 : Nat → FieldType := fun k => match k with
  | 0 => .object "EarthOffice$Bytes"
  | 1 => .array .int
  | _ => .array .int
abbrev wsX150 : List Cond := u_ws RX15 TX15 3
theorem nmX15 : ∀ a, a < 3 → ∀ b, b < 3 → a ≠ b → (TX15 a).2.1 ≠ (TX15 b).2.1 := by decide +kernel
theorem tyX15_ok : ∀ k, k < 3 → parseFieldDescriptor (TX15 k).2.2.1 = some (tyX15 k) := by decide +kernel
theorem in_X15 : ∀ w ∈ wsX150, w ∈ lw_all := lw_in wsX150 [710, 712, 714] (by decide +kernel) (by decide +kernel)
def RX16 : String := "EarthOffice$Window"
def TX16 : u_T := fun k => match k with
  | 0 => ("EarthOffice$Window", "x", "[I", true)
  | 1 => ("EarthOffice$Window", "y", "[I", true)
  | 2 => ("EarthOffice$Window", "n", "I", false)
  | 3 => ("EarthOffice$Window", "station", "I", false)
  | _ => ("EarthOffice$Window", "from", "I", false)
def tyX16 : Nat → FieldType := fun k => match k with
  | 0 => .array .int
  | 1 => .array .int
  | 2 => .int
  | 3 => .int
  | _ => .int
abbrev wsX160 : List Cond := u_ws RX16 TX16 5
theorem nmX16 : ∀ a, a < 5 → ∀ b, b < 5 → a ≠ b → (TX16 a).2.1 ≠ (TX16 b).2.1 := by decide +kernel
theorem tyX16_ok : ∀ k, k < 5 → parseFieldDescriptor (TX16 k).2.2.1 = some (tyX16 k) := by decide +kernel
theorem in_X16 : ∀ w ∈ wsX160, w ∈ lw_all := lw_in wsX160 [732, 734, 736, 738, 740] (by decide +kernel) (by decide +kernel)
def RX17 : String := "EarthOffice$Picks"
def TX17 : u_T := fun k => match k with
  | 0 => ("EarthOffice$Picks", "many", "I", false)
  | 1 => ("EarthOffice$Picks", "stations", "[I", true)
  | 2 => ("EarthOffice$Picks", "ticks", "[I", true)
  | 3 => ("EarthOffice$Picks", "phases", "[I", true)
  | 4 => ("EarthOffice$Picks", "weights", "[I", true)
  | 5 => ("EarthOffice$Picks", "signs", "[I", true)
  | _ => ("EarthOffice$Picks", "events", "[I", true)
def tyX17 : Nat → FieldType := fun k => match k with
  | 0 => .int
  | 1 => .array .int
  | 2 => .array .int
  | 3 => .array .int
  | 4 => .array .int
  | 5 => .array .int
  | _ => .array .int
abbrev wsX170 : List Cond := u_ws RX17 TX17 7
theorem nmX17 : ∀ a, a < 7 → ∀ b, b < 7 → a ≠ b → (TX17 a).2.1 ≠ (TX17 b).2.1 := by decide +kernel
theorem tyX17_ok : ∀ k, k < 7 → parseFieldDescriptor (TX17 k).2.2.1 = some (tyX17 k) := by decide +kernel
theorem in_X17 : ∀ w ∈ wsX170, w ∈ lw_all := lw_in wsX170 [769, 771, 773, 775, 777, 779, 781] (by decide +kernel) (by decide +kernel)
def RX18 : String := "EarthOffice$Finder"
def TX18 : u_T := fun k => match k with
  | 0 => ("EarthOffice$Finder", "state", "LEarthOffice$State;", true)
  | 1 => ("EarthOffice$Finder", "picks", "LEarthOffice$Picks;", true)
  | 2 => ("EarthOffice$Finder", "many", "I", false)
  | 3 => ("EarthOffice$Finder", "order", "[I", true)
  | 4 => ("EarthOffice$Finder", "sources", "[I", true)
  | 5 => ("EarthOffice$Finder", "next", "[I", true)
  | 6 => ("EarthOffice$Finder", "last", "[I", true)
  | 7 => ("EarthOffice$Finder", "worth", "I", false)
  | 8 => ("EarthOffice$Finder", "counted", "I", false)
  | 9 => ("EarthOffice$Finder", "x", "I", false)
  | 10 => ("EarthOffice$Finder", "y", "I", false)
  | 11 => ("EarthOffice$Finder", "depth", "I", false)
  | _ => ("EarthOffice$Finder", "origin", "I", false)
def tyX18 : Nat → FieldType := fun k => match k with
  | 0 => .object "EarthOffice$State"
  | 1 => .object "EarthOffice$Picks"
  | 2 => .int
  | 3 => .array .int
  | 4 => .array .int
  | 5 => .array .int
  | 6 => .array .int
  | 7 => .int
  | 8 => .int
  | 9 => .int
  | 10 => .int
  | 11 => .int
  | _ => .int
abbrev wsX180 : List Cond := u_ws RX18 TX18 13
theorem nmX18 : ∀ a, a < 13 → ∀ b, b < 13 → a ≠ b → (TX18 a).2.1 ≠ (TX18 b).2.1 := by decide +kernel
theorem tyX18_ok : ∀ k, k < 13 → parseFieldDescriptor (TX18 k).2.2.1 = some (tyX18 k) := by decide +kernel
theorem in_X18 : ∀ w ∈ wsX180, w ∈ lw_all := lw_in wsX180 [809, 811, 813, 815, 817, 819, 821, 823, 825, 827, 829, 831, 833] (by decide +kernel) (by decide +kernel)
def RX19 : String := "EarthOffice$Locator"
def TX19 : u_T := fun k => match k with
  | 0 => ("EarthOffice$Locator", "state", "LEarthOffice$State;", true)
  | 1 => ("EarthOffice$Locator", "event", "LEarthOffice$Event;", false)
  | 2 => ("EarthOffice$Locator", "lows", "[I", true)
  | 3 => ("EarthOffice$Locator", "highs", "[I", true)
  | 4 => ("EarthOffice$Locator", "misfit", "I", false)
  | 5 => ("EarthOffice$Locator", "number", "I", false)
  | _ => ("EarthOffice$Locator", "sizes", "[I", true)
def tyX19 : Nat → FieldType := fun k => match k with
  | 0 => .object "EarthOffice$State"
  | 1 => .object "EarthOffice$Event"
  | 2 => .array .int
  | 3 => .array .int
  | 4 => .int
  | 5 => .int
  | _ => .array .int
abbrev wsX190 : List Cond := u_ws RX19 TX19 7
theorem nmX19 : ∀ a, a < 7 → ∀ b, b < 7 → a ≠ b → (TX19 a).2.1 ≠ (TX19 b).2.1 := by decide +kernel
theorem tyX19_ok : ∀ k, k < 7 → parseFieldDescriptor (TX19 k).2.2.1 = some (tyX19 k) := by decide +kernel
theorem in_X19 : ∀ w ∈ wsX190, w ∈ lw_all := lw_in wsX190 [849, 851, 853, 855, 857, 859, 861] (by decide +kernel) (by decide +kernel)
def RX20 : String := "EarthOffice$Sea"
def TX20 : u_T := fun k => match k with
  | 0 => ("EarthOffice$Sea", "width", "I", false)
  | 1 => ("EarthOffice$Sea", "height", "I", false)
  | 2 => ("EarthOffice$Sea", "depths", "[I", true)
  | 3 => ("EarthOffice$Sea", "columns", "[I", true)
  | 4 => ("EarthOffice$Sea", "crests", "[I", true)
  | 5 => ("EarthOffice$Sea", "rights", "[I", true)
  | 6 => ("EarthOffice$Sea", "belows", "[I", true)
  | 7 => ("EarthOffice$Sea", "costs", "[I", true)
  | _ => ("EarthOffice$Sea", "ways", "LEarthOffice$Ways;", true)
def tyX20 : Nat → FieldType := fun k => match k with
  | 0 => .int
  | 1 => .int
  | 2 => .array .int
  | 3 => .array .int
  | 4 => .array .int
  | 5 => .array .int
  | 6 => .array .int
  | 7 => .array .int
  | _ => .object "EarthOffice$Ways"
abbrev wsX200 : List Cond := u_ws RX20 TX20 9
theorem nmX20 : ∀ a, a < 9 → ∀ b, b < 9 → a ≠ b → (TX20 a).2.1 ≠ (TX20 b).2.1 := by decide +kernel
theorem tyX20_ok : ∀ k, k < 9 → parseFieldDescriptor (TX20 k).2.2.1 = some (tyX20 k) := by decide +kernel
theorem in_X20 : ∀ w ∈ wsX200, w ∈ lw_all := lw_in wsX200 [879, 881, 883, 885, 887, 889, 891, 893, 895] (by decide +kernel) (by decide +kernel)
def RX21 : String := "EarthOfficeModel"
def TX21 : u_T := fun k => match k with
  | 0 => ("EarthOfficeModel", "roots", "[I", true)
  | 1 => ("EarthOfficeModel", "rooted", "I", false)
  | 2 => ("EarthOfficeModel", "tape", "[B", true)
  | 3 => ("EarthOfficeModel", "tapeSize", "I", false)
  | 4 => ("EarthOfficeModel", "log", "[B", true)
  | 5 => ("EarthOfficeModel", "logSize", "I", false)
  | 6 => ("EarthOfficeModel", "rows", "I", false)
  | 7 => ("EarthOfficeModel", "rowSize", "I", false)
  | 8 => ("EarthOfficeModel", "old", "[B", true)
  | 9 => ("EarthOfficeModel", "stations", "I", false)
  | 10 => ("EarthOfficeModel", "stationX", "[I", true)
  | 11 => ("EarthOfficeModel", "stationY", "[I", true)
  | 12 => ("EarthOfficeModel", "isKnown", "[Z", true)
  | 13 => ("EarthOfficeModel", "samples", "[I", true)
  | 14 => ("EarthOfficeModel", "counts", "[I", true)
  | 15 => ("EarthOfficeModel", "expected", "[I", true)
  | 16 => ("EarthOfficeModel", "ears", "[B", true)
  | 17 => ("EarthOfficeModel", "came", "[I", true)
  | 18 => ("EarthOfficeModel", "windowSize", "[I", true)
  | 19 => ("EarthOfficeModel", "windowStation", "[I", true)
  | 20 => ("EarthOfficeModel", "windowFirst", "[I", true)
  | 21 => ("EarthOfficeModel", "values", "[I", true)
  | 22 => ("EarthOfficeModel", "before", "[I", true)
  | 23 => ("EarthOfficeModel", "picks", "I", false)
  | 24 => ("EarthOfficeModel", "pick", "[I", true)
  | 25 => ("EarthOfficeModel", "slow", "[I", true)
  | 26 => ("EarthOfficeModel", "costs", "[I", true)
  | 27 => ("EarthOfficeModel", "isReckoned", "Z", false)
  | 28 => ("EarthOfficeModel", "events", "I", false)
  | 29 => ("EarthOfficeModel", "made", "I", false)
  | 30 => ("EarthOfficeModel", "arrivals", "[I", true)
  | 31 => ("EarthOfficeModel", "arrival", "[I", true)
  | 32 => ("EarthOfficeModel", "versions", "[I", true)
  | 33 => ("EarthOfficeModel", "version", "[I", true)
  | 34 => ("EarthOfficeModel", "madeAt", "[I", true)
  | 35 => ("EarthOfficeModel", "merged", "[I", true)
  | 36 => ("EarthOfficeModel", "source", "[I", true)
  | 37 => ("EarthOfficeModel", "counting", "[I", true)
  | 38 => ("EarthOfficeModel", "countingMany", "I", false)
  | 39 => ("EarthOfficeModel", "times", "[I", true)
  | 40 => ("EarthOfficeModel", "weights", "[I", true)
  | 41 => ("EarthOfficeModel", "middle", "I", false)
  | 42 => ("EarthOfficeModel", "sizes", "[I", true)
  | 43 => ("EarthOfficeModel", "gauges", "I", false)
  | 44 => ("EarthOfficeModel", "gaugeX", "[I", true)
  | 45 => ("EarthOfficeModel", "gaugeY", "[I", true)
  | 46 => ("EarthOfficeModel", "means", "[I", true)
  | 47 => ("EarthOfficeModel", "constituents", "[I", true)
  | 48 => ("EarthOfficeModel", "constituent", "[I", true)
  | 49 => ("EarthOfficeModel", "levels", "[I", true)
  | 50 => ("EarthOfficeModel", "width", "I", false)
  | 51 => ("EarthOfficeModel", "height", "I", false)
  | 52 => ("EarthOfficeModel", "depths", "[I", true)
  | 53 => ("EarthOfficeModel", "columns", "[I", true)
  | 54 => ("EarthOfficeModel", "crests", "[I", true)
  | 55 => ("EarthOfficeModel", "flows", "[I", true)
  | 56 => ("EarthOfficeModel", "ways", "[I", true)
  | 57 => ("EarthOfficeModel", "rules", "I", false)
  | 58 => ("EarthOfficeModel", "texts", "[[B", true)
  | 59 => ("EarthOfficeModel", "textSizes", "[I", true)
  | 60 => ("EarthOfficeModel", "says", "[I", true)
  | 61 => ("EarthOfficeModel", "things", "[I", true)
  | 62 => ("EarthOfficeModel", "wasTrue", "[Z", true)
  | 63 => ("EarthOfficeModel", "turned", "[I", true)
  | 64 => ("EarthOfficeModel", "heldFor", "[I", true)
  | 65 => ("EarthOfficeModel", "text", "[B", false)
  | 66 => ("EarthOfficeModel", "textSize", "I", false)
  | 67 => ("EarthOfficeModel", "word", "I", false)
  | 68 => ("EarthOfficeModel", "behind", "I", false)
  | 69 => ("EarthOfficeModel", "fault", "I", false)
  | 70 => ("EarthOfficeModel", "thingMany", "I", false)
  | 71 => ("EarthOfficeModel", "heldMany", "I", false)
  | 72 => ("EarthOfficeModel", "isWorked", "Z", false)
  | 73 => ("EarthOfficeModel", "working", "I", false)
  | 74 => ("EarthOfficeModel", "names", "[Ljava/lang/String;", true)
  | 75 => ("EarthOfficeModel", "marks", "[Ljava/lang/String;", true)
  | 76 => ("EarthOfficeModel", "users", "I", false)
  | 77 => ("EarthOfficeModel", "zones", "[I", true)
  | 78 => ("EarthOfficeModel", "drills", "[Z", true)
  | 79 => ("EarthOfficeModel", "isDeaf", "[Z", true)
  | 80 => ("EarthOfficeModel", "isDrill", "Z", false)
  | 81 => ("EarthOfficeModel", "clock", "I", false)
  | 82 => ("EarthOfficeModel", "messages", "I", false)
  | 83 => ("EarthOfficeModel", "unsent", "I", false)
  | 84 => ("EarthOfficeModel", "message", "[I", true)
  | _ => ("EarthOfficeModel", "wording", "[B", true)
def tyX21 : Nat → FieldType := fun k => match k with
  | 0 => .array .int
  | 1 => .int
  | 2 => .array .byte
  | 3 => .int
  | 4 => .array .byte
  | 5 => .int
  | 6 => .int
  | 7 => .int
  | 8 => .array .byte
  | 9 => .int
  | 10 => .array .int
  | 11 => .array .int
  | 12 => .array .boolean
  | 13 => .array .int
  | 14 => .array .int
  | 15 => .array .int
  | 16 => .array .byte
  | 17 => .array .int
  | 18 => .array .int
  | 19 => .array .int
  | 20 => .array .int
  | 21 => .array .int
  | 22 => .array .int
  | 23 => .int
  | 24 => .array .int
  | 25 => .array .int
  | 26 => .array .int
  | 27 => .boolean
  | 28 => .int
  | 29 => .int
  | 30 => .array .int
  | 31 => .array .int
  | 32 => .array .int
  | 33 => .array .int
  | 34 => .array .int
  | 35 => .array .int
  | 36 => .array .int
  | 37 => .array .int
  | 38 => .int
  | 39 => .array .int
  | 40 => .array .int
  | 41 => .int
  | 42 => .array .int
  | 43 => .int
  | 44 => .array .int
  | 45 => .array .int
  | 46 => .array .int
  | 47 => .array .int
  | 48 => .array .int
  | 49 => .array .int
  | 50 => .int
  | 51 => .int
  | 52 => .array .int
  | 53 => .array .int
  | 54 => .array .int
  | 55 => .array .int
  | 56 => .array .int
  | 57 => .int
  | 58 => .array (.array .byte)
  | 59 => .array .int
  | 60 => .array .int
  | 61 => .array .int
  | 62 => .array .boolean
  | 63 => .array .int
  | 64 => .array .int
  | 65 => .array .byte
  | 66 => .int
  | 67 => .int
  | 68 => .int
  | 69 => .int
  | 70 => .int
  | 71 => .int
  | 72 => .boolean
  | 73 => .int
  | 74 => .array (.object "java/lang/String")
  | 75 => .array (.object "java/lang/String")
  | 76 => .int
  | 77 => .array .int
  | 78 => .array .boolean
  | 79 => .array .boolean
  | 80 => .boolean
  | 81 => .int
  | 82 => .int
  | 83 => .int
  | 84 => .array .int
  | _ => .array .byte
abbrev wsX210 : List Cond := u_ws RX21 TX21 86
theorem nmX21 : ∀ a, a < 86 → ∀ b, b < 86 → a ≠ b → (TX21 a).2.1 ≠ (TX21 b).2.1 := by decide +kernel
theorem tyX21_ok : ∀ k, k < 86 → parseFieldDescriptor (TX21 k).2.2.1 = some (tyX21 k) := by decide +kernel
theorem in_X21 : ∀ w ∈ wsX210, w ∈ lw_all := lw_in wsX210 [2248, 2250, 2252, 2254, 2256, 2258, 2260, 2262, 2264, 2266, 2268, 2270, 2272, 2274, 2276, 2278, 2280, 2282, 2284, 2286, 2288, 2290, 2292, 2294, 2296, 2298, 2300, 2302, 2304, 2306, 2308, 2310, 2312, 2314, 2316, 2318, 2320, 2322, 2324, 2326, 2328, 2330, 2332, 2334, 2336, 2338, 2340, 2342, 2344, 2346, 2348, 2350, 2352, 2354, 2356, 2358, 2360, 2362, 2364, 2366, 2368, 2370, 2372, 2374, 2376, 2378, 2380, 2382, 2384, 2386, 2388, 2390, 2392, 2394, 2396, 2398, 2400, 2402, 2404, 2406, 2408, 2410, 2412, 2414, 2416, 2418] (by decide +kernel) (by decide +kernel)
def cN (g : Nat) : String := match g with
  | 1 => RX0
  | 2 => RX1
  | 3 => RX2
  | 4 => RX3
  | 5 => RX4
  | 6 => RX5
  | 7 => RX6
  | 8 => RX7
  | 9 => RX8
  | 10 => RX9
  | 11 => RX10
  | 12 => RX11
  | 13 => RX12
  | 14 => RX13
  | 15 => RX14
  | 16 => RX15
  | 17 => RX16
  | 18 => RX17
  | 19 => RX18
  | 20 => RX19
  | 21 => RX20
  | 22 => RX21
  | _ => ""
def cT (g : Nat) : u_T := match g with
  | 1 => TX0
  | 2 => TX1
  | 3 => TX2
  | 4 => TX3
  | 5 => TX4
  | 6 => TX5
  | 7 => TX6
  | 8 => TX7
  | 9 => TX8
  | 10 => TX9
  | 11 => TX10
  | 12 => TX11
  | 13 => TX12
  | 14 => TX13
  | 15 => TX14
  | 16 => TX15
  | 17 => TX16
  | 18 => TX17
  | 19 => TX18
  | 20 => TX19
  | 21 => TX20
  | 22 => TX21
  | _ => fun _ => ("", "", "", false)
def cF (g : Nat) : Nat := match g with
  | 1 => 16
  | 2 => 2
  | 3 => 7
  | 4 => 12
  | 5 => 5
  | 6 => 3
  | 7 => 6
  | 8 => 9
  | 9 => 16
  | 10 => 7
  | 11 => 7
  | 12 => 8
  | 13 => 2
  | 14 => 3
  | 15 => 1
  | 16 => 3
  | 17 => 5
  | 18 => 7
  | 19 => 13
  | 20 => 7
  | 21 => 9
  | 22 => 86
  | _ => 0
def cY (g : Nat) : Nat → FieldType := match g with
  | 1 => tyX0
  | 2 => tyX1
  | 3 => tyX2
  | 4 => tyX3
  | 5 => tyX4
  | 6 => tyX5
  | 7 => tyX6
  | 8 => tyX7
  | 9 => tyX8
  | 10 => tyX9
  | 11 => tyX10
  | 12 => tyX11
  | 13 => tyX12
  | 14 => tyX13
  | 15 => tyX14
  | 16 => tyX15
  | 17 => tyX16
  | 18 => tyX17
  | 19 => tyX18
  | 20 => tyX19
  | 21 => tyX20
  | 22 => tyX21
  | _ => fun _ => .int
theorem c_in : ∀ g, 1 ≤ g → g < 23 → ∀ w ∈ u_ws (cN g) (cT g) (cF g), w ∈ lw_all := by
  intro g h1 h2
  match g, h1, h2 with
  | 1, _, _ => exact in_X0
  | 2, _, _ => exact in_X1
  | 3, _, _ => exact in_X2
  | 4, _, _ => exact in_X3
  | 5, _, _ => exact in_X4
  | 6, _, _ => exact in_X5
  | 7, _, _ => exact in_X6
  | 8, _, _ => exact in_X7
  | 9, _, _ => exact in_X8
  | 10, _, _ => exact in_X9
  | 11, _, _ => exact in_X10
  | 12, _, _ => exact in_X11
  | 13, _, _ => exact in_X12
  | 14, _, _ => exact in_X13
  | 15, _, _ => exact in_X14
  | 16, _, _ => exact in_X15
  | 17, _, _ => exact in_X16
  | 18, _, _ => exact in_X17
  | 19, _, _ => exact in_X18
  | 20, _, _ => exact in_X19
  | 21, _, _ => exact in_X20
  | 22, _, _ => exact in_X21
  | n + 23, _, h => exact absurd h (by omega)
theorem c_nm : ∀ g, 1 ≤ g → g < 23 → ∀ a, a < cF g → ∀ b, b < cF g → a ≠ b → (cT g a).2.1 ≠ (cT g b).2.1 := by
  intro g h1 h2
  match g, h1, h2 with
  | 1, _, _ => exact nmX0
  | 2, _, _ => exact nmX1
  | 3, _, _ => exact nmX2
  | 4, _, _ => exact nmX3
  | 5, _, _ => exact nmX4
  | 6, _, _ => exact nmX5
  | 7, _, _ => exact nmX6
  | 8, _, _ => exact nmX7
  | 9, _, _ => exact nmX8
  | 10, _, _ => exact nmX9
  | 11, _, _ => exact nmX10
  | 12, _, _ => exact nmX11
  | 13, _, _ => exact nmX12
  | 14, _, _ => exact nmX13
  | 15, _, _ => exact nmX14
  | 16, _, _ => exact nmX15
  | 17, _, _ => exact nmX16
  | 18, _, _ => exact nmX17
  | 19, _, _ => exact nmX18
  | 20, _, _ => exact nmX19
  | 21, _, _ => exact nmX20
  | 22, _, _ => exact nmX21
  | n + 23, _, h => exact absurd h (by omega)
theorem c_ty : ∀ g, 1 ≤ g → g < 23 → ∀ k, k < cF g → parseFieldDescriptor (cT g k).2.2.1 = some (cY g k) := by
  intro g h1 h2
  match g, h1, h2 with
  | 1, _, _ => exact tyX0_ok
  | 2, _, _ => exact tyX1_ok
  | 3, _, _ => exact tyX2_ok
  | 4, _, _ => exact tyX3_ok
  | 5, _, _ => exact tyX4_ok
  | 6, _, _ => exact tyX5_ok
  | 7, _, _ => exact tyX6_ok
  | 8, _, _ => exact tyX7_ok
  | 9, _, _ => exact tyX8_ok
  | 10, _, _ => exact tyX9_ok
  | 11, _, _ => exact tyX10_ok
  | 12, _, _ => exact tyX11_ok
  | 13, _, _ => exact tyX12_ok
  | 14, _, _ => exact tyX13_ok
  | 15, _, _ => exact tyX14_ok
  | 16, _, _ => exact tyX15_ok
  | 17, _, _ => exact tyX16_ok
  | 18, _, _ => exact tyX17_ok
  | 19, _, _ => exact tyX18_ok
  | 20, _, _ => exact tyX19_ok
  | 21, _, _ => exact tyX20_ok
  | 22, _, _ => exact tyX21_ok
  | n + 23, _, h => exact absurd h (by omega)
/-- fields: kind, family, place, length (gen/layout.py) -/
def fdT : List (List (Nat × Nat × Int × Int)) := [
  [],
  [(20, 2, 0, 0), (20, 3, 0, 0), (20, 4, 0, 0), (20, 5, 0, 0), (20, 6, 0, 0), (20, 14, 0, 0), (20, 13, 0, 0), (20, 15, 0, 0), (22, 16, 0, 4), (22, 17, 0, 6), (20, 18, 0, 0), (20, 19, 0, 0), (20, 20, 0, 0), (20, 21, 0, 0), (10, 0, 0, 8), (10, 0, 0, 24)],
  [(12, 0, 0, 26000), (0, 0, 1, 0)],
  [(10, 0, 0, 32), (10, 0, 0, 1440), (10, 0, 0, 2880), (10, 0, 0, 20160), (10, 0, 0, 20160), (20, 2, 0, 0), (1, 0, 6, 0)],
  [(20, 5, 0, 0), (20, 3, 0, 0), (20, 6, 0, 0), (20, 8, 0, 0), (22, 12, 0, 8), (0, 0, 5, 0), (20, 9, 0, 0), (20, 10, 0, 0), (20, 13, 2, 0), (10, 0, 0, 8), (0, 0, 10, 0), (12, 0, 0, 61)],
  [(0, 0, 0, 0), (10, 0, 0, 12), (10, 0, 0, 12), (10, 0, 0, 49152), (11, 0, 0, 49152)],
  [(22, 7, 0, 24), (0, 0, 1, 0), (2, 0, 2, 0)],
  [(10, 0, 0, 128), (0, 0, 1, 0), (10, 0, 0, 120), (0, 0, 3, 0), (0, 0, 4, 0), (2, 0, 5, 0)],
  [(0, 0, 0, 0), (10, 0, 0, 4), (10, 0, 0, 4), (10, 0, 0, 24), (10, 0, 0, 24), (10, 0, 0, 24), (10, 0, 0, 16384), (11, 0, 0, 16384), (10, 0, 0, 4)],
  [(0, 0, 0, 0), (10, 0, 0, 32), (11, 0, 0, 8), (11, 0, 0, 8), (10, 0, 0, 8), (1, 0, 5, 0), (0, 0, 6, 0), (0, 0, 7, 0), (10, 0, 0, 200), (10, 0, 0, 200), (10, 0, 0, 200), (10, 0, 0, 200), (10, 0, 0, 200), (10, 0, 0, 200), (10, 0, 0, 200), (13, 0, 0, 16000)],
  [(20, 11, 0, 0), (20, 12, 8, 0), (21, 13, 2, 0), (0, 0, 3, 0), (0, 0, 4, 0), (0, 0, 5, 0), (0, 0, 6, 0)],
  [(90, 0, 0, 0), (90, 0, 0, 0), (90, 0, 0, 0), (90, 0, 0, 0), (90, 0, 0, 0), (0, 0, 5, 0), (0, 0, 6, 0)],
  [(10, 0, 0, 60), (10, 0, 0, 60), (10, 0, 0, 60), (10, 0, 0, 60), (0, 0, 4, 0), (20, 13, 7, 0), (1, 0, 6, 0), (0, 0, 7, 0)],
  [(13, 0, 0, (-1)), (0, 0, 1, 0)],
  [(20, 13, 1, 0), (0, 0, 1, 0), (0, 0, 2, 0)],
  [(10, 0, 0, 56)],
  [(20, 13, 3, 0), (10, 0, 0, 10), (10, 0, 0, 12)],
  [(10, 0, 0, 512), (10, 0, 0, 512), (0, 0, 2, 0), (0, 0, 3, 0), (0, 0, 4, 0)],
  [(0, 0, 0, 0), (10, 0, 0, 64), (10, 0, 0, 64), (10, 0, 0, 64), (10, 0, 0, 64), (10, 0, 0, 64), (10, 0, 0, 64)],
  [(20, 4, 0, 0), (20, 18, 0, 0), (0, 0, 2, 0), (10, 0, 0, 64), (10, 0, 0, 64), (10, 0, 0, 64), (10, 0, 0, 24), (0, 0, 7, 0), (0, 0, 8, 0), (0, 0, 9, 0), (0, 0, 10, 0), (0, 0, 11, 0), (0, 0, 12, 0)],
  [(20, 4, 0, 0), (21, 7, 1, 0), (10, 0, 0, 24), (10, 0, 0, 24), (0, 0, 4, 0), (0, 0, 5, 0), (10, 0, 0, 24)],
  [(0, 0, 0, 0), (0, 0, 1, 0), (10, 0, 0, 1024), (10, 0, 0, 1024), (10, 0, 0, 1024), (10, 0, 0, 1024), (10, 0, 0, 1024), (10, 0, 0, 1024), (20, 2, 0, 0)],
  [(10, 0, 0, 70000), (0, 0, 1, 0), (20, 22099, 8, 0), (0, 0, 3, 0), (13, 0, 0, 61000), (0, 0, 5, 0), (0, 0, 6, 0), (0, 0, 7, 0), (13, 0, 0, 60000), (0, 0, 9, 0), (10, 0, 0, 12), (10, 0, 0, 12), (11, 0, 0, 49152), (10, 0, 0, 49152), (10, 0, 0, 40), (10, 0, 0, 48), (13, 0, 0, 4000), (10, 0, 0, 256), (10, 0, 0, 6), (10, 0, 0, 6), (10, 0, 0, 6), (10, 0, 0, 3072), (10, 0, 0, 512), (0, 0, 23, 0), (10, 0, 0, 384), (10, 0, 0, 32), (10, 0, 0, 2880), (1, 0, 27, 0), (0, 0, 28, 0), (0, 0, 29, 0), (10, 0, 0, 24), (10, 0, 0, 2880), (10, 0, 0, 24), (10, 0, 0, 3072), (10, 0, 0, 24), (10, 0, 0, 24), (10, 0, 0, 64), (10, 0, 0, 24), (0, 0, 38, 0), (10, 0, 0, 24), (10, 0, 0, 24), (0, 0, 41, 0), (10, 0, 0, 24), (0, 0, 43, 0), (10, 0, 0, 4), (10, 0, 0, 4), (10, 0, 0, 4), (10, 0, 0, 4), (10, 0, 0, 72), (10, 0, 0, 16384), (0, 0, 50, 0), (0, 0, 51, 0), (10, 0, 0, 1024), (10, 0, 0, 1024), (10, 0, 0, 1024), (10, 0, 0, 2048), (10, 0, 0, 1024), (0, 0, 57, 0), (22, 22099, 0, 8), (10, 0, 0, 8), (10, 0, 0, 8), (10, 0, 0, 8), (11, 0, 0, 8), (10, 0, 0, 8), (10, 0, 0, 512), (21, 22099, 65, 0), (0, 0, 66, 0), (0, 0, 67, 0), (0, 0, 68, 0), (0, 0, 69, 0), (0, 0, 70, 0), (0, 0, 71, 0), (1, 0, 72, 0), (0, 0, 73, 0), (22, 31, 0, 14), (22, 31, 14, 11), (0, 0, 76, 0), (10, 0, 0, 32), (11, 0, 0, 8), (11, 0, 0, 8), (1, 0, 80, 0), (0, 0, 81, 0), (0, 0, 82, 0), (0, 0, 83, 0), (10, 0, 0, 1600), (13, 0, 0, 32000)]]
def cntT : List Int := [0, 1, 1, 1, 1, 1, 1, 24, 1, 1, 1, 1, 9, 16, 1, 1, 4, 6, 1, 1, 1, 1, 1, 0, 0, 0, 0, 0, 0, 0, 1, 67, 1]
