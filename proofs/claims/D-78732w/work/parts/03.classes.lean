set_option maxRecDepth 100000
def RJ0 : String := "java/lang/Enum"
def RJ1 : String := "java/util/AbstractCollection"
def RJ2 : String := "java/util/ArrayDeque"
def TJ2 : u_T := fun k => match k with
  | 0 => ("java/util/ArrayDeque", "elements", "[Ljava/lang/Object;", false)
  | 1 => ("java/util/ArrayDeque", "head", "I", false)
  | _ => ("java/util/ArrayDeque", "tail", "I", false)
def tyJ2 : Nat → FieldType := fun k => match k with
  | 0 => .array (.object "java/lang/Object")
  | 1 => .int
  | _ => .int
abbrev wsJ20 : List Cond := u_ws RJ2 TJ2 3
theorem nmJ2 : ∀ a, a < 3 → ∀ b, b < 3 → a ≠ b → (TJ2 a).2.1 ≠ (TJ2 b).2.1 := by decide +kernel
theorem tyJ2_ok : ∀ k, k < 3 → parseFieldDescriptor (TJ2 k).2.2.1 = some (tyJ2 k) := by decide +kernel
theorem in_J2 : ∀ w ∈ wsJ20, w ∈ lw_all := lw_in wsJ20 [206, 208, 210] (by decide +kernel) (by decide +kernel)
def RJ3 : String := "java/lang/AbstractStringBuilder"
def RJ4 : String := "java/lang/StringBuilder"
def TJ4 : u_T := fun k => match k with
  | 0 => ("java/lang/AbstractStringBuilder", "value", "[B", false)
  | 1 => ("java/lang/AbstractStringBuilder", "coder", "B", false)
  | 2 => ("java/lang/AbstractStringBuilder", "maybeLatin1", "Z", false)
  | _ => ("java/lang/AbstractStringBuilder", "count", "I", false)
def tyJ4 : Nat → FieldType := fun k => match k with
  | 0 => .array .byte
  | 1 => .byte
  | 2 => .boolean
  | _ => .int
abbrev wsJ40 : List Cond := u_ws RJ4 TJ4 4
theorem nmJ4 : ∀ a, a < 4 → ∀ b, b < 4 → a ≠ b → (TJ4 a).2.1 ≠ (TJ4 b).2.1 := by decide +kernel
theorem tyJ4_ok : ∀ k, k < 4 → parseFieldDescriptor (TJ4 k).2.2.1 = some (tyJ4 k) := by decide +kernel
theorem in_J4 : ∀ w ∈ wsJ40, w ∈ lw_all := lw_in wsJ40 [235, 237, 239, 241] (by decide +kernel) (by decide +kernel)
def RJ5 : String := "java/lang/String"
def TJ5 : u_T := fun k => match k with
  | 0 => ("java/lang/String", "value", "[B", true)
  | 1 => ("java/lang/String", "coder", "B", true)
  | 2 => ("java/lang/String", "hash", "I", false)
  | _ => ("java/lang/String", "hashIsZero", "Z", false)
def tyJ5 : Nat → FieldType := fun k => match k with
  | 0 => .array .byte
  | 1 => .byte
  | 2 => .int
  | _ => .boolean
abbrev wsJ50 : List Cond := u_ws RJ5 TJ5 4
theorem nmJ5 : ∀ a, a < 4 → ∀ b, b < 4 → a ≠ b → (TJ5 a).2.1 ≠ (TJ5 b).2.1 := by decide +kernel
theorem tyJ5_ok : ∀ k, k < 4 → parseFieldDescriptor (TJ5 k).2.2.1 = some (tyJ5 k) := by decide +kernel
theorem in_J5 : ∀ w ∈ wsJ50, w ∈ lw_all := lw_in wsJ50 [719, 721, 723, 725] (by decide +kernel) (by decide +kernel)
def RJ6 : String := "java/lang/StringUTF16"
def RJ7 : String := "java/util/Arrays"
def RJ8 : String := "java/lang/Math"
def RJ9 : String := "java/lang/Integer"
def RJ10 : String := "jdk/internal/util/ArraysSupport"
def RJ11 : String := "java/lang/StringLatin1"
def RJ12 : String := "jdk/internal/util/Preconditions"
def RJ13 : String := "java/lang/Throwable"
def TJ13 : u_T := fun k => match k with
  | 0 => ("java/lang/Throwable", "cause", "Ljava/lang/Throwable;", false)
  | 1 => ("java/lang/Throwable", "stackTrace", "[Ljava/lang/StackTraceElement;", false)
  | 2 => ("java/lang/Throwable", "suppressedExceptions", "Ljava/util/List;", false)
  | 3 => ("java/lang/Throwable", "detailMessage", "Ljava/lang/String;", false)
  | _ => ("java/lang/Throwable", "backtrace", "Ljava/lang/Object;", false)
def tyJ13 : Nat → FieldType := fun k => match k with
  | 0 => .object "java/lang/Throwable"
  | 1 => .array (.object "java/lang/StackTraceElement")
  | 2 => .object "java/util/List"
  | 3 => .object "java/lang/String"
  | _ => .object "java/lang/Object"
abbrev wsJ130 : List Cond := u_ws RJ13 TJ13 5
theorem nmJ13 : ∀ a, a < 5 → ∀ b, b < 5 → a ≠ b → (TJ13 a).2.1 ≠ (TJ13 b).2.1 := by decide +kernel
theorem tyJ13_ok : ∀ k, k < 5 → parseFieldDescriptor (TJ13 k).2.2.1 = some (tyJ13 k) := by decide +kernel
theorem in_J13 : ∀ w ∈ wsJ130, w ∈ lw_all := lw_in wsJ130 [821, 823, 825, 827, 829] (by decide +kernel) (by decide +kernel)
def RJ14 : String := "java/lang/Exception"
def RJ15 : String := "java/lang/Object"
def RX0 : String := "DyeLattice"
def TX0 : u_T := fun k => match k with
  | 0 => ("DyeLattice", "lattice", "LDyeLattice$Lattice;", false)
  | 1 => ("DyeLattice", "history", "Ljava/util/ArrayDeque;", true)
  | _ => ("DyeLattice", "text", "Ljava/lang/StringBuilder;", true)
def tyX0 : Nat → FieldType := fun k => match k with
  | 0 => .object "DyeLattice$Lattice"
  | 1 => .object "java/util/ArrayDeque"
  | _ => .object "java/lang/StringBuilder"
abbrev wsX00 : List Cond := u_ws RX0 TX0 3
theorem nmX0 : ∀ a, a < 3 → ∀ b, b < 3 → a ≠ b → (TX0 a).2.1 ≠ (TX0 b).2.1 := by decide +kernel
theorem tyX0_ok : ∀ k, k < 3 → parseFieldDescriptor (TX0 k).2.2.1 = some (tyX0 k) := by decide +kernel
theorem in_X0 : ∀ w ∈ wsX00, w ∈ lw_all := lw_in wsX00 [249, 251, 253] (by decide +kernel) (by decide +kernel)
def RX1 : String := "DyeLattice$Lattice"
def TX1 : u_T := fun k => match k with
  | 0 => ("DyeLattice$Lattice", "columns", "I", true)
  | 1 => ("DyeLattice$Lattice", "rows", "I", true)
  | 2 => ("DyeLattice$Lattice", "kind", "LDyeLattice$Kind;", false)
  | 3 => ("DyeLattice$Lattice", "threshold", "I", false)
  | 4 => ("DyeLattice$Lattice", "beat", "I", false)
  | 5 => ("DyeLattice$Lattice", "time", "I", false)
  | 6 => ("DyeLattice$Lattice", "reactions", "I", false)
  | 7 => ("DyeLattice$Lattice", "grains", "[I", true)
  | 8 => ("DyeLattice$Lattice", "valves", "[LDyeLattice$Valve;", true)
  | 9 => ("DyeLattice$Lattice", "sources", "[I", true)
  | 10 => ("DyeLattice$Lattice", "dyes", "[I", false)
  | _ => ("DyeLattice$Lattice", "isClogged", "[Z", true)
def tyX1 : Nat → FieldType := fun k => match k with
  | 0 => .int
  | 1 => .int
  | 2 => .object "DyeLattice$Kind"
  | 3 => .int
  | 4 => .int
  | 5 => .int
  | 6 => .int
  | 7 => .array .int
  | 8 => .array (.object "DyeLattice$Valve")
  | 9 => .array .int
  | 10 => .array .int
  | _ => .array .boolean
abbrev wsX10 : List Cond := u_ws RX1 TX1 12
theorem nmX1 : ∀ a, a < 12 → ∀ b, b < 12 → a ≠ b → (TX1 a).2.1 ≠ (TX1 b).2.1 := by decide +kernel
theorem tyX1_ok : ∀ k, k < 12 → parseFieldDescriptor (TX1 k).2.2.1 = some (tyX1 k) := by decide +kernel
theorem in_X1 : ∀ w ∈ wsX10, w ∈ lw_all := lw_in wsX10 [165, 167, 169, 171, 173, 175, 177, 179, 181, 183, 185, 187] (by decide +kernel) (by decide +kernel)
def RX2 : String := "DyeLattice$Kind"
def RX3 : String := "DyeLattice$Valve"
def RX4 : String := "DyeLatticeModel"
def TX4 : u_T := fun k => match k with
  | 0 => ("DyeLatticeModel", "now", "[I", true)
  | 1 => ("DyeLatticeModel", "past", "[I", true)
  | 2 => ("DyeLatticeModel", "kept", "[I", true)
  | 3 => ("DyeLatticeModel", "saved", "I", false)
  | 4 => ("DyeLatticeModel", "text", "[I", true)
  | 5 => ("DyeLatticeModel", "length", "I", false)
  | 6 => ("DyeLatticeModel", "queue", "[I", true)
  | 7 => ("DyeLatticeModel", "isMet", "[Z", true)
  | 8 => ("DyeLatticeModel", "met", "I", false)
  | 9 => ("DyeLatticeModel", "clusterOf", "[I", true)
  | 10 => ("DyeLatticeModel", "clusters", "I", false)
  | 11 => ("DyeLatticeModel", "fresh", "[I", true)
  | 12 => ("DyeLatticeModel", "from", "I", false)
  | 13 => ("DyeLatticeModel", "end", "I", false)
  | _ => ("DyeLatticeModel", "isWrong", "Z", false)
def tyX4 : Nat → FieldType := fun k => match k with
  | 0 => .array .int
  | 1 => .array .int
  | 2 => .array .int
  | 3 => .int
  | 4 => .array .int
  | 5 => .int
  | 6 => .array .int
  | 7 => .array .boolean
  | 8 => .int
  | 9 => .array .int
  | 10 => .int
  | 11 => .array .int
  | 12 => .int
  | 13 => .int
  | _ => .boolean
abbrev wsX40 : List Cond := u_ws RX4 TX4 15
set_option maxRecDepth 100000 in
theorem nmX4 : ∀ a, a < 15 → ∀ b, b < 15 → a ≠ b → (TX4 a).2.1 ≠ (TX4 b).2.1 := by decide +kernel
set_option maxRecDepth 100000 in
theorem tyX4_ok : ∀ k, k < 15 → parseFieldDescriptor (TX4 k).2.2.1 = some (tyX4 k) := by decide +kernel
theorem in_X4 : ∀ w ∈ wsX40, w ∈ lw_all := lw_in wsX40 [1187, 1189, 1191, 1193, 1195, 1197, 1199, 1201, 1203, 1205, 1207, 1209, 1211, 1213, 1215] (by decide +kernel) (by decide +kernel)
def RX5 : String := "DyeLattice$Parser"
def TX5 : u_T := fun k => match k with
  | 0 => ("DyeLattice$Parser", "into", "LDyeLattice$Lattice;", false)
  | 1 => ("DyeLattice$Parser", "position", "I", false)
  | 2 => ("DyeLattice$Parser", "token", "LDyeLattice$Token;", false)
  | _ => ("DyeLattice$Parser", "this$0", "LDyeLattice;", true)
def tyX5 : Nat → FieldType := fun k => match k with
  | 0 => .object "DyeLattice$Lattice"
  | 1 => .int
  | 2 => .object "DyeLattice$Token"
  | _ => .object "DyeLattice"
abbrev wsX50 : List Cond := u_ws RX5 TX5 4
theorem nmX5 : ∀ a, a < 4 → ∀ b, b < 4 → a ≠ b → (TX5 a).2.1 ≠ (TX5 b).2.1 := by decide +kernel
theorem tyX5_ok : ∀ k, k < 4 → parseFieldDescriptor (TX5 k).2.2.1 = some (tyX5 k) := by decide +kernel
theorem in_X5 : ∀ w ∈ wsX50, w ∈ lw_all := lw_in wsX50 [650, 652, 654, 656] (by decide +kernel) (by decide +kernel)
def RX6 : String := "DyeLattice$Token"
def RX7 : String := "DyeLattice$Sign"
def TX7 : u_T := fun k => match k with
  | 0 => ("DyeLattice$Token", "start", "I", true)
  | _ => ("DyeLattice$Sign", "sign", "C", true)
def tyX7 : Nat → FieldType := fun k => match k with
  | 0 => .int
  | _ => .char
abbrev wsX70 : List Cond := u_ws RX7 TX7 2
theorem nmX7 : ∀ a, a < 2 → ∀ b, b < 2 → a ≠ b → (TX7 a).2.1 ≠ (TX7 b).2.1 := by decide +kernel
theorem tyX7_ok : ∀ k, k < 2 → parseFieldDescriptor (TX7 k).2.2.1 = some (tyX7 k) := by decide +kernel
theorem in_X7 : ∀ w ∈ wsX70, w ∈ lw_all := lw_in wsX70 [642, 640] (by decide +kernel) (by decide +kernel)
def RX8 : String := "DyeLattice$Word"
def TX8 : u_T := fun k => match k with
  | 0 => ("DyeLattice$Token", "start", "I", true)
  | _ => ("DyeLattice$Word", "word", "Ljava/lang/String;", true)
def tyX8 : Nat → FieldType := fun k => match k with
  | 0 => .int
  | _ => .object "java/lang/String"
abbrev wsX80 : List Cond := u_ws RX8 TX8 2
theorem nmX8 : ∀ a, a < 2 → ∀ b, b < 2 → a ≠ b → (TX8 a).2.1 ≠ (TX8 b).2.1 := by decide +kernel
theorem tyX8_ok : ∀ k, k < 2 → parseFieldDescriptor (TX8 k).2.2.1 = some (tyX8 k) := by decide +kernel
theorem in_X8 : ∀ w ∈ wsX80, w ∈ lw_all := lw_in wsX80 [753, 751] (by decide +kernel) (by decide +kernel)
def RX9 : String := "DyeLattice$Number"
def TX9 : u_T := fun k => match k with
  | 0 => ("DyeLattice$Token", "start", "I", true)
  | _ => ("DyeLattice$Number", "value", "I", true)
def tyX9 : Nat → FieldType := fun k => match k with
  | 0 => .int
  | _ => .int
abbrev wsX90 : List Cond := u_ws RX9 TX9 2
theorem nmX9 : ∀ a, a < 2 → ∀ b, b < 2 → a ≠ b → (TX9 a).2.1 ≠ (TX9 b).2.1 := by decide +kernel
theorem tyX9_ok : ∀ k, k < 2 → parseFieldDescriptor (TX9 k).2.2.1 = some (tyX9 k) := by decide +kernel
theorem in_X9 : ∀ w ∈ wsX90, w ∈ lw_all := lw_in wsX90 [765, 763] (by decide +kernel) (by decide +kernel)
def RX10 : String := "DyeLattice$TokenException"
def TX10 : u_T := fun k => match k with
  | 0 => ("java/lang/Throwable", "cause", "Ljava/lang/Throwable;", false)
  | 1 => ("java/lang/Throwable", "stackTrace", "[Ljava/lang/StackTraceElement;", false)
  | 2 => ("java/lang/Throwable", "suppressedExceptions", "Ljava/util/List;", false)
  | 3 => ("java/lang/Throwable", "detailMessage", "Ljava/lang/String;", false)
  | 4 => ("java/lang/Throwable", "backtrace", "Ljava/lang/Object;", false)
  | 5 => ("java/lang/Throwable", "depth", "I", false)
  | _ => ("DyeLattice$TokenException", "position", "I", true)
def tyX10 : Nat → FieldType := fun k => match k with
  | 0 => .object "java/lang/Throwable"
  | 1 => .array (.object "java/lang/StackTraceElement")
  | 2 => .object "java/util/List"
  | 3 => .object "java/lang/String"
  | 4 => .object "java/lang/Object"
  | 5 => .int
  | _ => .int
abbrev wsX100 : List Cond := u_ws RX10 TX10 7
theorem nmX10 : ∀ a, a < 7 → ∀ b, b < 7 → a ≠ b → (TX10 a).2.1 ≠ (TX10 b).2.1 := by decide +kernel
theorem tyX10_ok : ∀ k, k < 7 → parseFieldDescriptor (TX10 k).2.2.1 = some (tyX10 k) := by decide +kernel
theorem in_X10 : ∀ w ∈ wsX100, w ∈ lw_all := lw_in wsX100 [820, 822, 824, 826, 828, 871, 865] (by decide +kernel) (by decide +kernel)
def RX11 : String := "DyeLattice$Valve$1"
def RX12 : String := "DyeLattice$Valve$2"
def RX13 : String := "DyeLattice$Valve$3"
def RX14 : String := "DyeLattice$Valve$4"
def RX15 : String := "DyeLattice$Valve$5"
abbrev CL : List vw_C := [(RX0, TX0, 3), (RX1, TX1, 12), (RX4, TX4, 15), (RX5, TX5, 4), (RX7, TX7, 2), (RX8, TX8, 2), (RX9, TX9, 2), (RX10, TX10, 7), (RJ2, TJ2, 3), (RJ4, TJ4, 4), (RJ5, TJ5, 4)]
abbrev TYS (D : va_G) : List (ClassId × FieldType) := [(D.1 100, .int), (D.1 101, .boolean), (D.1 102, .byte), (D.1 103, .object "java/lang/Object"), (D.1 104, .object "DyeLattice$Valve"), (D.1 105, .object "java/lang/String"), (D.1 106, .object "DyeLattice$Kind")]
