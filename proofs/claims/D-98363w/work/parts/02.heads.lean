set_option maxRecDepth 100000
/-! heads of the classes (from claim/names): R, T, ty, ws, nm, in_ -/
def RJ0 : String := "java/util/AbstractCollection"
def RJ1 : String := "java/util/AbstractList"
def RJ10 : String := "java/lang/StringUTF16"
def RJ11 : String := "jdk/internal/util/ArraysSupport"
def RJ12 : String := "java/lang/Math"
def RJ13 : String := "java/util/Arrays"
def RJ14 : String := "jdk/internal/util/Preconditions"
def RJ15 : String := "java/lang/StringLatin1"
def RJ16 : String := "java/lang/Integer"
def RJ17 : String := "java/lang/Enum"
def RJ18 : String := "java/util/Objects"
def RJ19 : String := "java/util/NoSuchElementException"
def TJ19 : u_T := fun k => match k with
  | 0 => ("java/lang/Throwable", "cause", "Ljava/lang/Throwable;", false)
  | 1 => ("java/lang/Throwable", "stackTrace", "[Ljava/lang/StackTraceElement;", false)
  | 2 => ("java/lang/Throwable", "suppressedExceptions", "Ljava/util/List;", false)
  | 3 => ("java/lang/Throwable", "detailMessage", "Ljava/lang/String;", false)
  | 4 => ("java/lang/Throwable", "backtrace", "Ljava/lang/Object;", false)
  | _ => ("java/lang/Throwable", "depth", "I", false)
def tyJ19 : Nat → FieldType := fun k => match k with
  | 0 => .object "java/lang/Throwable"
  | 1 => .array (.object "java/lang/StackTraceElement")
  | 2 => .object "java/util/List"
  | 3 => .object "java/lang/String"
  | 4 => .object "java/lang/Object"
  | _ => .int
abbrev wsJ190 : List Cond := u_ws RJ19 TJ19 6
theorem nmJ19 : ∀ a, a < 6 → ∀ b, b < 6 → a ≠ b → (TJ19 a).2.1 ≠ (TJ19 b).2.1 := by decide +kernel
theorem tyJ19_ok : ∀ k, k < 6 → parseFieldDescriptor (TJ19 k).2.2.1 = some (tyJ19 k) := by decide +kernel
theorem in_J19 : ∀ w ∈ wsJ190, w ∈ lw_all := lw_in wsJ190 [1563, 1564, 1565, 1566, 1567, 1572] (by decide +kernel) (by decide +kernel)
def RJ2 : String := "java/util/ArrayList"
def TJ2 : u_T := fun k => match k with
  | 0 => ("java/util/AbstractList", "modCount", "I", false)
  | 1 => ("java/util/ArrayList", "elementData", "[Ljava/lang/Object;", false)
  | _ => ("java/util/ArrayList", "size", "I", false)
def tyJ2 : Nat → FieldType := fun k => match k with
  | 0 => .int
  | 1 => .array (.object "java/lang/Object")
  | _ => .int
abbrev wsJ20 : List Cond := u_ws RJ2 TJ2 3
theorem nmJ2 : ∀ a, a < 3 → ∀ b, b < 3 → a ≠ b → (TJ2 a).2.1 ≠ (TJ2 b).2.1 := by decide +kernel
theorem tyJ2_ok : ∀ k, k < 3 → parseFieldDescriptor (TJ2 k).2.2.1 = some (tyJ2 k) := by decide +kernel
theorem in_J2 : ∀ w ∈ wsJ20, w ∈ lw_all := lw_in wsJ20 [491, 487, 489] (by decide +kernel) (by decide +kernel)
def RJ20 : String := "java/lang/Object"
def RJ3 : String := "java/lang/Throwable"
def TJ3 : u_T := fun k => match k with
  | 0 => ("java/lang/Throwable", "cause", "Ljava/lang/Throwable;", false)
  | 1 => ("java/lang/Throwable", "stackTrace", "[Ljava/lang/StackTraceElement;", false)
  | 2 => ("java/lang/Throwable", "suppressedExceptions", "Ljava/util/List;", false)
  | 3 => ("java/lang/Throwable", "detailMessage", "Ljava/lang/String;", false)
  | _ => ("java/lang/Throwable", "backtrace", "Ljava/lang/Object;", false)
def tyJ3 : Nat → FieldType := fun k => match k with
  | 0 => .object "java/lang/Throwable"
  | 1 => .array (.object "java/lang/StackTraceElement")
  | 2 => .object "java/util/List"
  | 3 => .object "java/lang/String"
  | _ => .object "java/lang/Object"
abbrev wsJ30 : List Cond := u_ws RJ3 TJ3 5
theorem nmJ3 : ∀ a, a < 5 → ∀ b, b < 5 → a ≠ b → (TJ3 a).2.1 ≠ (TJ3 b).2.1 := by decide +kernel
theorem tyJ3_ok : ∀ k, k < 5 → parseFieldDescriptor (TJ3 k).2.2.1 = some (tyJ3 k) := by decide +kernel
theorem in_J3 : ∀ w ∈ wsJ30, w ∈ lw_all := lw_in wsJ30 [182, 184, 186, 188, 190] (by decide +kernel) (by decide +kernel)
def RJ4 : String := "java/lang/Exception"
def RJ5 : String := "java/lang/RuntimeException"
def RJ6 : String := "java/lang/IllegalArgumentException"
def TJ6 : u_T := fun k => match k with
  | 0 => ("java/lang/Throwable", "cause", "Ljava/lang/Throwable;", false)
  | 1 => ("java/lang/Throwable", "stackTrace", "[Ljava/lang/StackTraceElement;", false)
  | 2 => ("java/lang/Throwable", "suppressedExceptions", "Ljava/util/List;", false)
  | 3 => ("java/lang/Throwable", "detailMessage", "Ljava/lang/String;", false)
  | 4 => ("java/lang/Throwable", "backtrace", "Ljava/lang/Object;", false)
  | _ => ("java/lang/Throwable", "depth", "I", false)
def tyJ6 : Nat → FieldType := fun k => match k with
  | 0 => .object "java/lang/Throwable"
  | 1 => .array (.object "java/lang/StackTraceElement")
  | 2 => .object "java/util/List"
  | 3 => .object "java/lang/String"
  | 4 => .object "java/lang/Object"
  | _ => .int
abbrev wsJ60 : List Cond := u_ws RJ6 TJ6 6
theorem nmJ6 : ∀ a, a < 6 → ∀ b, b < 6 → a ≠ b → (TJ6 a).2.1 ≠ (TJ6 b).2.1 := by decide +kernel
theorem tyJ6_ok : ∀ k, k < 6 → parseFieldDescriptor (TJ6 k).2.2.1 = some (tyJ6 k) := by decide +kernel
theorem in_J6 : ∀ w ∈ wsJ60, w ∈ lw_all := lw_in wsJ60 [181, 183, 185, 187, 189, 453] (by decide +kernel) (by decide +kernel)
def RJ7 : String := "java/lang/AbstractStringBuilder"
def RJ8 : String := "java/lang/StringBuilder"
def TJ8 : u_T := fun k => match k with
  | 0 => ("java/lang/AbstractStringBuilder", "value", "[B", false)
  | 1 => ("java/lang/AbstractStringBuilder", "coder", "B", false)
  | 2 => ("java/lang/AbstractStringBuilder", "maybeLatin1", "Z", false)
  | _ => ("java/lang/AbstractStringBuilder", "count", "I", false)
def tyJ8 : Nat → FieldType := fun k => match k with
  | 0 => .array .byte
  | 1 => .byte
  | 2 => .boolean
  | _ => .int
abbrev wsJ80 : List Cond := u_ws RJ8 TJ8 4
theorem nmJ8 : ∀ a, a < 4 → ∀ b, b < 4 → a ≠ b → (TJ8 a).2.1 ≠ (TJ8 b).2.1 := by decide +kernel
theorem tyJ8_ok : ∀ k, k < 4 → parseFieldDescriptor (TJ8 k).2.2.1 = some (tyJ8 k) := by decide +kernel
theorem in_J8 : ∀ w ∈ wsJ80, w ∈ lw_all := lw_in wsJ80 [233, 235, 237, 239] (by decide +kernel) (by decide +kernel)
def RJ9 : String := "java/lang/String"
def TJ9 : u_T := fun k => match k with
  | 0 => ("java/lang/String", "value", "[B", true)
  | 1 => ("java/lang/String", "coder", "B", true)
  | 2 => ("java/lang/String", "hash", "I", false)
  | _ => ("java/lang/String", "hashIsZero", "Z", false)
def tyJ9 : Nat → FieldType := fun k => match k with
  | 0 => .array .byte
  | 1 => .byte
  | 2 => .int
  | _ => .boolean
abbrev wsJ90 : List Cond := u_ws RJ9 TJ9 4
theorem nmJ9 : ∀ a, a < 4 → ∀ b, b < 4 → a ≠ b → (TJ9 a).2.1 ≠ (TJ9 b).2.1 := by decide +kernel
theorem tyJ9_ok : ∀ k, k < 4 → parseFieldDescriptor (TJ9 k).2.2.1 = some (tyJ9 k) := by decide +kernel
theorem in_J9 : ∀ w ∈ wsJ90, w ∈ lw_all := lw_in wsJ90 [472, 474, 476, 478] (by decide +kernel) (by decide +kernel)
def RX0 : String := "SpoonRowLaw"
def RX1 : String := "SpoonRow"
def TX1 : u_T := fun k => match k with
  | 0 => ("SpoonRow", "bed", "LSpoonRow$Bed;", false)
  | 1 => ("SpoonRow", "book", "LSpoonRow$Book;", true)
  | 2 => ("SpoonRow", "image", "LSpoonRow$Book;", true)
  | 3 => ("SpoonRow", "now", "LSpoonRow$Lay;", true)
  | 4 => ("SpoonRow", "tried", "LSpoonRow$Lay;", true)
  | 5 => ("SpoonRow", "turnAt", "[I", true)
  | 6 => ("SpoonRow", "turnBy", "[I", true)
  | 7 => ("SpoonRow", "turnWoken", "[I", true)
  | 8 => ("SpoonRow", "turnWord", "[I", true)
  | 9 => ("SpoonRow", "nothing", "[I", true)
  | 10 => ("SpoonRow", "night", "LSpoonRow$Night;", false)
  | 11 => ("SpoonRow", "trial", "LSpoonRow$Night;", false)
  | 12 => ("SpoonRow", "hasImage", "Z", false)
  | 13 => ("SpoonRow", "tape", "[B", true)
  | 14 => ("SpoonRow", "taped", "I", false)
  | 15 => ("SpoonRow", "faultPlace", "I", false)
  | 16 => ("SpoonRow", "row", "[I", true)
  | 17 => ("SpoonRow", "kept", "[I", true)
  | 18 => ("SpoonRow", "hasKept", "Z", false)
  | 19 => ("SpoonRow", "sums", "[I", true)
  | _ => ("SpoonRow", "its", "I", false)
def tyX1 : Nat → FieldType := fun k => match k with
  | 0 => .object "SpoonRow$Bed"
  | 1 => .object "SpoonRow$Book"
  | 2 => .object "SpoonRow$Book"
  | 3 => .object "SpoonRow$Lay"
  | 4 => .object "SpoonRow$Lay"
  | 5 => .array .int
  | 6 => .array .int
  | 7 => .array .int
  | 8 => .array .int
  | 9 => .array .int
  | 10 => .object "SpoonRow$Night"
  | 11 => .object "SpoonRow$Night"
  | 12 => .boolean
  | 13 => .array .byte
  | 14 => .int
  | 15 => .int
  | 16 => .array .int
  | 17 => .array .int
  | 18 => .boolean
  | 19 => .array .int
  | _ => .int
abbrev wsX10 : List Cond := u_ws RX1 TX1 21
theorem nmX1 : ∀ a, a < 21 → ∀ b, b < 21 → a ≠ b → (TX1 a).2.1 ≠ (TX1 b).2.1 := by decide +kernel
theorem tyX1_ok : ∀ k, k < 21 → parseFieldDescriptor (TX1 k).2.2.1 = some (tyX1 k) := by decide +kernel
theorem in_X1 : ∀ w ∈ wsX10, w ∈ lw_all := lw_in wsX10 [820, 822, 824, 826, 828, 830, 832, 834, 836, 838, 840, 842, 844, 846, 848, 850, 852, 854, 856, 858, 860] (by decide +kernel) (by decide +kernel)
def RX10 : String := "SpoonRow$Fault"
def TX10 : u_T := fun k => match k with
  | 0 => ("java/lang/Throwable", "cause", "Ljava/lang/Throwable;", false)
  | 1 => ("java/lang/Throwable", "stackTrace", "[Ljava/lang/StackTraceElement;", false)
  | 2 => ("java/lang/Throwable", "suppressedExceptions", "Ljava/util/List;", false)
  | 3 => ("java/lang/Throwable", "detailMessage", "Ljava/lang/String;", false)
  | 4 => ("java/lang/Throwable", "backtrace", "Ljava/lang/Object;", false)
  | 5 => ("java/lang/Throwable", "depth", "I", false)
  | 6 => ("SpoonRow$Fault", "kind", "I", true)
  | _ => ("SpoonRow$Fault", "place", "I", true)
def tyX10 : Nat → FieldType := fun k => match k with
  | 0 => .object "java/lang/Throwable"
  | 1 => .array (.object "java/lang/StackTraceElement")
  | 2 => .object "java/util/List"
  | 3 => .object "java/lang/String"
  | 4 => .object "java/lang/Object"
  | 5 => .int
  | 6 => .int
  | _ => .int
abbrev wsX100 : List Cond := u_ws RX10 TX10 8
theorem nmX10 : ∀ a, a < 8 → ∀ b, b < 8 → a ≠ b → (TX10 a).2.1 ≠ (TX10 b).2.1 := by decide +kernel
theorem tyX10_ok : ∀ k, k < 8 → parseFieldDescriptor (TX10 k).2.2.1 = some (tyX10 k) := by decide +kernel
theorem in_X10 : ∀ w ∈ wsX100, w ∈ lw_all := lw_in wsX100 [1308, 1309, 1310, 1311, 1312, 1325, 1321, 1323] (by decide +kernel) (by decide +kernel)
def RX11 : String := "SpoonRow$Expr"
def RX12 : String := "SpoonRow$Told"
def TX12 : u_T := fun k => match k with
  | _ => ("SpoonRow$Told", "n", "I", true)
def tyX12 : Nat → FieldType := fun k => match k with
  | _ => .int
abbrev wsX120 : List Cond := u_ws RX12 TX12 1
theorem nmX12 : ∀ a, a < 1 → ∀ b, b < 1 → a ≠ b → (TX12 a).2.1 ≠ (TX12 b).2.1 := by decide +kernel
theorem tyX12_ok : ∀ k, k < 1 → parseFieldDescriptor (TX12 k).2.2.1 = some (tyX12 k) := by decide +kernel
theorem in_X12 : ∀ w ∈ wsX120, w ∈ lw_all := lw_in wsX120 [1370] (by decide +kernel) (by decide +kernel)
def RX13 : String := "SpoonRow$Seen"
def TX13 : u_T := fun k => match k with
  | _ => ("SpoonRow$Seen", "value", "LSpoonRow$Value;", true)
def tyX13 : Nat → FieldType := fun k => match k with
  | _ => .object "SpoonRow$Value"
abbrev wsX130 : List Cond := u_ws RX13 TX13 1
theorem nmX13 : ∀ a, a < 1 → ∀ b, b < 1 → a ≠ b → (TX13 a).2.1 ≠ (TX13 b).2.1 := by decide +kernel
theorem tyX13_ok : ∀ k, k < 1 → parseFieldDescriptor (TX13 k).2.2.1 = some (tyX13 k) := by decide +kernel
theorem in_X13 : ∀ w ∈ wsX130, w ∈ lw_all := lw_in wsX130 [1402] (by decide +kernel) (by decide +kernel)
def RX14 : String := "SpoonRow$Both"
def TX14 : u_T := fun k => match k with
  | 0 => ("SpoonRow$Both", "act", "C", true)
  | 1 => ("SpoonRow$Both", "left", "LSpoonRow$Expr;", true)
  | _ => ("SpoonRow$Both", "right", "LSpoonRow$Expr;", true)
def tyX14 : Nat → FieldType := fun k => match k with
  | 0 => .char
  | 1 => .object "SpoonRow$Expr"
  | _ => .object "SpoonRow$Expr"
abbrev wsX140 : List Cond := u_ws RX14 TX14 3
theorem nmX14 : ∀ a, a < 3 → ∀ b, b < 3 → a ≠ b → (TX14 a).2.1 ≠ (TX14 b).2.1 := by decide +kernel
theorem tyX14_ok : ∀ k, k < 3 → parseFieldDescriptor (TX14 k).2.2.1 = some (tyX14 k) := by decide +kernel
theorem in_X14 : ∀ w ∈ wsX140, w ∈ lw_all := lw_in wsX140 [1431, 1433, 1435] (by decide +kernel) (by decide +kernel)
def RX15 : String := "SpoonRow$Not"
def TX15 : u_T := fun k => match k with
  | _ => ("SpoonRow$Not", "part", "LSpoonRow$Expr;", true)
def tyX15 : Nat → FieldType := fun k => match k with
  | _ => .object "SpoonRow$Expr"
abbrev wsX150 : List Cond := u_ws RX15 TX15 1
theorem nmX15 : ∀ a, a < 1 → ∀ b, b < 1 → a ≠ b → (TX15 a).2.1 ≠ (TX15 b).2.1 := by decide +kernel
theorem tyX15_ok : ∀ k, k < 1 → parseFieldDescriptor (TX15 k).2.2.1 = some (tyX15 k) := by decide +kernel
theorem in_X15 : ∀ w ∈ wsX150, w ∈ lw_all := lw_in wsX150 [1449] (by decide +kernel) (by decide +kernel)
def RX16 : String := "SpoonRow$Sleeper"
def TX16 : u_T := fun k => match k with
  | 0 => ("SpoonRow$Sleeper", "left", "I", true)
  | 1 => ("SpoonRow$Sleeper", "right", "I", true)
  | 2 => ("SpoonRow$Sleeper", "light", "I", true)
  | 3 => ("SpoonRow$Sleeper", "width", "I", true)
  | 4 => ("SpoonRow$Sleeper", "out", "I", true)
  | _ => ("SpoonRow$Sleeper", "tenths", "I", true)
def tyX16 : Nat → FieldType := fun k => match k with
  | 0 => .int
  | 1 => .int
  | 2 => .int
  | 3 => .int
  | 4 => .int
  | _ => .int
abbrev wsX160 : List Cond := u_ws RX16 TX16 6
theorem nmX16 : ∀ a, a < 6 → ∀ b, b < 6 → a ≠ b → (TX16 a).2.1 ≠ (TX16 b).2.1 := by decide +kernel
theorem tyX16_ok : ∀ k, k < 6 → parseFieldDescriptor (TX16 k).2.2.1 = some (tyX16 k) := by decide +kernel
theorem in_X16 : ∀ w ∈ wsX160, w ∈ lw_all := lw_in wsX160 [1540, 1541, 1542, 1543, 1544, 1545] (by decide +kernel) (by decide +kernel)
def RX17 : String := "SpoonRow$Child"
def TX17 : u_T := fun k => match k with
  | 0 => ("SpoonRow$Sleeper", "left", "I", true)
  | 1 => ("SpoonRow$Sleeper", "right", "I", true)
  | 2 => ("SpoonRow$Sleeper", "light", "I", true)
  | 3 => ("SpoonRow$Sleeper", "width", "I", true)
  | 4 => ("SpoonRow$Sleeper", "out", "I", true)
  | _ => ("SpoonRow$Sleeper", "tenths", "I", true)
def tyX17 : Nat → FieldType := fun k => match k with
  | 0 => .int
  | 1 => .int
  | 2 => .int
  | 3 => .int
  | 4 => .int
  | _ => .int
abbrev wsX170 : List Cond := u_ws RX17 TX17 6
theorem nmX17 : ∀ a, a < 6 → ∀ b, b < 6 → a ≠ b → (TX17 a).2.1 ≠ (TX17 b).2.1 := by decide +kernel
theorem tyX17_ok : ∀ k, k < 6 → parseFieldDescriptor (TX17 k).2.2.1 = some (tyX17 k) := by decide +kernel
theorem in_X17 : ∀ w ∈ wsX170, w ∈ lw_all := lw_in wsX170 [1519, 1520, 1521, 1522, 1523, 1524] (by decide +kernel) (by decide +kernel)
def RX18 : String := "SpoonRow$Dog"
def TX18 : u_T := fun k => match k with
  | 0 => ("SpoonRow$Sleeper", "left", "I", true)
  | 1 => ("SpoonRow$Sleeper", "right", "I", true)
  | 2 => ("SpoonRow$Sleeper", "light", "I", true)
  | 3 => ("SpoonRow$Sleeper", "width", "I", true)
  | 4 => ("SpoonRow$Sleeper", "out", "I", true)
  | _ => ("SpoonRow$Sleeper", "tenths", "I", true)
def tyX18 : Nat → FieldType := fun k => match k with
  | 0 => .int
  | 1 => .int
  | 2 => .int
  | 3 => .int
  | 4 => .int
  | _ => .int
abbrev wsX180 : List Cond := u_ws RX18 TX18 6
theorem nmX18 : ∀ a, a < 6 → ∀ b, b < 6 → a ≠ b → (TX18 a).2.1 ≠ (TX18 b).2.1 := by decide +kernel
theorem tyX18_ok : ∀ k, k < 6 → parseFieldDescriptor (TX18 k).2.2.1 = some (tyX18 k) := by decide +kernel
theorem in_X18 : ∀ w ∈ wsX180, w ∈ lw_all := lw_in wsX180 [1503, 1505, 1507, 1509, 1511, 1513] (by decide +kernel) (by decide +kernel)
def RX19 : String := "SpoonRow$Snorer"
def TX19 : u_T := fun k => match k with
  | 0 => ("SpoonRow$Sleeper", "left", "I", true)
  | 1 => ("SpoonRow$Sleeper", "right", "I", true)
  | 2 => ("SpoonRow$Sleeper", "light", "I", true)
  | 3 => ("SpoonRow$Sleeper", "width", "I", true)
  | 4 => ("SpoonRow$Sleeper", "out", "I", true)
  | _ => ("SpoonRow$Sleeper", "tenths", "I", true)
def tyX19 : Nat → FieldType := fun k => match k with
  | 0 => .int
  | 1 => .int
  | 2 => .int
  | 3 => .int
  | 4 => .int
  | _ => .int
abbrev wsX190 : List Cond := u_ws RX19 TX19 6
theorem nmX19 : ∀ a, a < 6 → ∀ b, b < 6 → a ≠ b → (TX19 a).2.1 ≠ (TX19 b).2.1 := by decide +kernel
theorem tyX19_ok : ∀ k, k < 6 → parseFieldDescriptor (TX19 k).2.2.1 = some (tyX19 k) := by decide +kernel
theorem in_X19 : ∀ w ∈ wsX190, w ∈ lw_all := lw_in wsX190 [1531, 1532, 1533, 1534, 1535, 1536] (by decide +kernel) (by decide +kernel)
def RX2 : String := "SpoonRow$Bed"
def TX2 : u_T := fun k => match k with
  | 0 => ("SpoonRow$Bed", "wide", "I", false)
  | 1 => ("SpoonRow$Bed", "room", "I", false)
  | 2 => ("SpoonRow$Bed", "minutes", "I", false)
  | 3 => ("SpoonRow$Bed", "awake", "I", false)
  | 4 => ("SpoonRow$Bed", "bolsters", "I", false)
  | 5 => ("SpoonRow$Bed", "nevers", "I", false)
  | 6 => ("SpoonRow$Bed", "sleepers", "Ljava/util/ArrayList;", true)
  | 7 => ("SpoonRow$Bed", "never", "[I", true)
  | 8 => ("SpoonRow$Bed", "wakes", "LSpoonRow$Expr;", false)
  | _ => ("SpoonRow$Bed", "view", "LSpoonRow$View;", true)
def tyX2 : Nat → FieldType := fun k => match k with
  | 0 => .int
  | 1 => .int
  | 2 => .int
  | 3 => .int
  | 4 => .int
  | 5 => .int
  | 6 => .object "java/util/ArrayList"
  | 7 => .array .int
  | 8 => .object "SpoonRow$Expr"
  | _ => .object "SpoonRow$View"
abbrev wsX20 : List Cond := u_ws RX2 TX2 10
theorem nmX2 : ∀ a, a < 10 → ∀ b, b < 10 → a ≠ b → (TX2 a).2.1 ≠ (TX2 b).2.1 := by decide +kernel
theorem tyX2_ok : ∀ k, k < 10 → parseFieldDescriptor (TX2 k).2.2.1 = some (tyX2 k) := by decide +kernel
theorem in_X2 : ∀ w ∈ wsX20, w ∈ lw_all := lw_in wsX20 [547, 549, 551, 553, 555, 557, 559, 561, 563, 565] (by decide +kernel) (by decide +kernel)
def RX3 : String := "SpoonRow$View"
def TX3 : u_T := fun k => match k with
  | _ => ("SpoonRow$View", "of", "[I", true)
def tyX3 : Nat → FieldType := fun k => match k with
  | _ => .array .int
abbrev wsX30 : List Cond := u_ws RX3 TX3 1
theorem nmX3 : ∀ a, a < 1 → ∀ b, b < 1 → a ≠ b → (TX3 a).2.1 ≠ (TX3 b).2.1 := by decide +kernel
theorem tyX3_ok : ∀ k, k < 1 → parseFieldDescriptor (TX3 k).2.2.1 = some (tyX3 k) := by decide +kernel
theorem in_X3 : ∀ w ∈ wsX30, w ∈ lw_all := lw_in wsX30 [513] (by decide +kernel) (by decide +kernel)
def RX4 : String := "SpoonRow$Value"
def RX5 : String := "SpoonRow$Book"
def TX5 : u_T := fun k => match k with
  | 0 => ("SpoonRow$Book", "now", "LSpoonRow$Lay;", true)
  | 1 => ("SpoonRow$Book", "ahead", "Ljava/util/ArrayList;", true)
  | 2 => ("SpoonRow$Book", "who", "[I", true)
  | 3 => ("SpoonRow$Book", "minute", "[I", true)
  | 4 => ("SpoonRow$Book", "side", "[I", true)
  | 5 => ("SpoonRow$Book", "refused", "[I", true)
  | 6 => ("SpoonRow$Book", "acts", "I", false)
  | _ => ("SpoonRow$Book", "seen", "I", false)
def tyX5 : Nat → FieldType := fun k => match k with
  | 0 => .object "SpoonRow$Lay"
  | 1 => .object "java/util/ArrayList"
  | 2 => .array .int
  | 3 => .array .int
  | 4 => .array .int
  | 5 => .array .int
  | 6 => .int
  | _ => .int
abbrev wsX50 : List Cond := u_ws RX5 TX5 8
theorem nmX5 : ∀ a, a < 8 → ∀ b, b < 8 → a ≠ b → (TX5 a).2.1 ≠ (TX5 b).2.1 := by decide +kernel
theorem tyX5_ok : ∀ k, k < 8 → parseFieldDescriptor (TX5 k).2.2.1 = some (tyX5 k) := by decide +kernel
theorem in_X5 : ∀ w ∈ wsX50, w ∈ lw_all := lw_in wsX50 [692, 694, 696, 698, 700, 702, 704, 706] (by decide +kernel) (by decide +kernel)
def RX6 : String := "SpoonRow$Lay"
def TX6 : u_T := fun k => match k with
  | 0 => ("SpoonRow$Lay", "at", "[I", true)
  | 1 => ("SpoonRow$Lay", "out", "[I", true)
  | 2 => ("SpoonRow$Lay", "many", "I", false)
  | 3 => ("SpoonRow$Lay", "first", "I", false)
  | 4 => ("SpoonRow$Lay", "by", "I", false)
  | 5 => ("SpoonRow$Lay", "every", "I", false)
  | 6 => ("SpoonRow$Lay", "bolsters", "I", false)
  | _ => ("SpoonRow$Lay", "free", "Z", false)
def tyX6 : Nat → FieldType := fun k => match k with
  | 0 => .array .int
  | 1 => .array .int
  | 2 => .int
  | 3 => .int
  | 4 => .int
  | 5 => .int
  | 6 => .int
  | _ => .boolean
abbrev wsX60 : List Cond := u_ws RX6 TX6 8
theorem nmX6 : ∀ a, a < 8 → ∀ b, b < 8 → a ≠ b → (TX6 a).2.1 ≠ (TX6 b).2.1 := by decide +kernel
theorem tyX6_ok : ∀ k, k < 8 → parseFieldDescriptor (TX6 k).2.2.1 = some (tyX6 k) := by decide +kernel
theorem in_X6 : ∀ w ∈ wsX60, w ∈ lw_all := lw_in wsX60 [601, 603, 605, 607, 609, 611, 613, 615] (by decide +kernel) (by decide +kernel)
def RX7 : String := "SpoonRow$Night"
def TX7 : u_T := fun k => match k with
  | 0 => ("SpoonRow$Night", "bed", "LSpoonRow$Bed;", true)
  | 1 => ("SpoonRow$Night", "lay", "LSpoonRow$Lay;", true)
  | 2 => ("SpoonRow$Night", "side", "[I", true)
  | 3 => ("SpoonRow$Night", "since", "[I", true)
  | 4 => ("SpoonRow$Night", "woken", "[I", true)
  | 5 => ("SpoonRow$Night", "last", "[I", true)
  | 6 => ("SpoonRow$Night", "begun", "[I", true)
  | 7 => ("SpoonRow$Night", "turnAt", "[I", true)
  | 8 => ("SpoonRow$Night", "turnBy", "[I", true)
  | 9 => ("SpoonRow$Night", "turnWoken", "[I", true)
  | 10 => ("SpoonRow$Night", "turnWord", "[I", true)
  | 11 => ("SpoonRow$Night", "turns", "I", false)
  | 12 => ("SpoonRow$Night", "quiet", "I", false)
  | 13 => ("SpoonRow$Night", "still", "I", false)
  | _ => ("SpoonRow$Night", "minute", "I", false)
def tyX7 : Nat → FieldType := fun k => match k with
  | 0 => .object "SpoonRow$Bed"
  | 1 => .object "SpoonRow$Lay"
  | 2 => .array .int
  | 3 => .array .int
  | 4 => .array .int
  | 5 => .array .int
  | 6 => .array .int
  | 7 => .array .int
  | 8 => .array .int
  | 9 => .array .int
  | 10 => .array .int
  | 11 => .int
  | 12 => .int
  | 13 => .int
  | _ => .int
abbrev wsX70 : List Cond := u_ws RX7 TX7 15
theorem nmX7 : ∀ a, a < 15 → ∀ b, b < 15 → a ≠ b → (TX7 a).2.1 ≠ (TX7 b).2.1 := by decide +kernel
theorem tyX7_ok : ∀ k, k < 15 → parseFieldDescriptor (TX7 k).2.2.1 = some (tyX7 k) := by decide +kernel
theorem in_X7 : ∀ w ∈ wsX70, w ∈ lw_all := lw_in wsX70 [738, 740, 742, 744, 746, 748, 750, 752, 754, 756, 758, 760, 762, 764, 766] (by decide +kernel) (by decide +kernel)
def RX8 : String := "SpoonRowModel"
def TX8 : u_T := fun k => match k with
  | 0 => ("SpoonRowModel", "kinds", "[Ljava/lang/String;", true)
  | 1 => ("SpoonRowModel", "values", "[Ljava/lang/String;", true)
  | 2 => ("SpoonRowModel", "code", "I", false)
  | 3 => ("SpoonRowModel", "told", "[I", true)
  | 4 => ("SpoonRowModel", "kind", "[I", true)
  | 5 => ("SpoonRowModel", "bears", "[I", true)
  | 6 => ("SpoonRowModel", "light", "[I", true)
  | 7 => ("SpoonRowModel", "wide", "[I", true)
  | 8 => ("SpoonRowModel", "outAt", "[I", true)
  | 9 => ("SpoonRowModel", "tenths", "[I", true)
  | 10 => ("SpoonRowModel", "nevers", "[I", true)
  | 11 => ("SpoonRowModel", "signs", "[I", true)
  | 12 => ("SpoonRowModel", "status", "[I", true)
  | 13 => ("SpoonRowModel", "tape", "[I", true)
  | 14 => ("SpoonRowModel", "taped", "I", false)
  | 15 => ("SpoonRowModel", "at", "I", false)
  | 16 => ("SpoonRowModel", "size", "I", false)
  | 17 => ("SpoonRowModel", "token", "I", false)
  | 18 => ("SpoonRowModel", "number", "I", false)
  | 19 => ("SpoonRowModel", "begins", "I", false)
  | 20 => ("SpoonRowModel", "stops", "I", false)
  | 21 => ("SpoonRowModel", "bad", "I", false)
  | 22 => ("SpoonRowModel", "badPlace", "I", false)
  | 23 => ("SpoonRowModel", "faultPlace", "I", false)
  | 24 => ("SpoonRowModel", "lying", "[I", true)
  | 25 => ("SpoonRowModel", "past", "[I", true)
  | 26 => ("SpoonRowModel", "firstSide", "I", false)
  | 27 => ("SpoonRowModel", "wordBy", "I", false)
  | 28 => ("SpoonRowModel", "wordEvery", "I", false)
  | 29 => ("SpoonRowModel", "bolsterSet", "I", false)
  | 30 => ("SpoonRowModel", "acts", "I", false)
  | 31 => ("SpoonRowModel", "seen", "I", false)
  | 32 => ("SpoonRowModel", "asked", "[I", true)
  | 33 => ("SpoonRowModel", "stack", "[I", true)
  | 34 => ("SpoonRowModel", "row", "[I", true)
  | 35 => ("SpoonRowModel", "goes", "[I", true)
  | 36 => ("SpoonRowModel", "side", "[I", true)
  | 37 => ("SpoonRowModel", "since", "[I", true)
  | 38 => ("SpoonRowModel", "wokenAt", "[I", true)
  | 39 => ("SpoonRowModel", "wokenMany", "[I", true)
  | 40 => ("SpoonRowModel", "began", "[I", true)
  | 41 => ("SpoonRowModel", "turnAt", "[I", true)
  | 42 => ("SpoonRowModel", "turnBy", "[I", true)
  | 43 => ("SpoonRowModel", "turnWoken", "[I", true)
  | 44 => ("SpoonRowModel", "turnWord", "[I", true)
  | 45 => ("SpoonRowModel", "many", "I", false)
  | 46 => ("SpoonRowModel", "word", "I", false)
  | 47 => ("SpoonRowModel", "every", "I", false)
  | 48 => ("SpoonRowModel", "bolsters", "I", false)
  | 49 => ("SpoonRowModel", "turns", "I", false)
  | 50 => ("SpoonRowModel", "minute", "I", false)
  | 51 => ("SpoonRowModel", "quiet", "I", false)
  | 52 => ("SpoonRowModel", "lastTurn", "I", false)
  | 53 => ("SpoonRowModel", "isFree", "Z", false)
  | 54 => ("SpoonRowModel", "keptRow", "[I", true)
  | 55 => ("SpoonRowModel", "bestRow", "[I", true)
  | 56 => ("SpoonRowModel", "ordersMany", "I", false)
  | 57 => ("SpoonRowModel", "bestValue", "I", false)
  | 58 => ("SpoonRowModel", "isKept", "Z", false)
  | 59 => ("SpoonRowModel", "inAll", "[I", true)
  | 60 => ("SpoonRowModel", "seenWho", "[I", true)
  | 61 => ("SpoonRowModel", "seenAt", "[I", true)
  | 62 => ("SpoonRowModel", "seenSide", "[I", true)
  | 63 => ("SpoonRowModel", "seedNow", "I", false)
  | 64 => ("SpoonRowModel", "hasImage", "Z", false)
  | 65 => ("SpoonRowModel", "actsThen", "I", false)
  | 66 => ("SpoonRowModel", "seenThen", "I", false)
  | 67 => ("SpoonRowModel", "rowThen", "[I", true)
  | 68 => ("SpoonRowModel", "pastThen", "[I", true)
  | 69 => ("SpoonRowModel", "seenWhoThen", "[I", true)
  | 70 => ("SpoonRowModel", "seenAtThen", "[I", true)
  | 71 => ("SpoonRowModel", "seenSideThen", "[I", true)
  | _ => ("SpoonRowModel", "statusThen", "[I", true)
def tyX8 : Nat → FieldType := fun k => match k with
  | 0 => .array (.object "java/lang/String")
  | 1 => .array (.object "java/lang/String")
  | 2 => .int
  | 3 => .array .int
  | 4 => .array .int
  | 5 => .array .int
  | 6 => .array .int
  | 7 => .array .int
  | 8 => .array .int
  | 9 => .array .int
  | 10 => .array .int
  | 11 => .array .int
  | 12 => .array .int
  | 13 => .array .int
  | 14 => .int
  | 15 => .int
  | 16 => .int
  | 17 => .int
  | 18 => .int
  | 19 => .int
  | 20 => .int
  | 21 => .int
  | 22 => .int
  | 23 => .int
  | 24 => .array .int
  | 25 => .array .int
  | 26 => .int
  | 27 => .int
  | 28 => .int
  | 29 => .int
  | 30 => .int
  | 31 => .int
  | 32 => .array .int
  | 33 => .array .int
  | 34 => .array .int
  | 35 => .array .int
  | 36 => .array .int
  | 37 => .array .int
  | 38 => .array .int
  | 39 => .array .int
  | 40 => .array .int
  | 41 => .array .int
  | 42 => .array .int
  | 43 => .array .int
  | 44 => .array .int
  | 45 => .int
  | 46 => .int
  | 47 => .int
  | 48 => .int
  | 49 => .int
  | 50 => .int
  | 51 => .int
  | 52 => .int
  | 53 => .boolean
  | 54 => .array .int
  | 55 => .array .int
  | 56 => .int
  | 57 => .int
  | 58 => .boolean
  | 59 => .array .int
  | 60 => .array .int
  | 61 => .array .int
  | 62 => .array .int
  | 63 => .int
  | 64 => .boolean
  | 65 => .int
  | 66 => .int
  | 67 => .array .int
  | 68 => .array .int
  | 69 => .array .int
  | 70 => .array .int
  | 71 => .array .int
  | _ => .array .int
abbrev wsX80 : List Cond := u_ws RX8 TX8 73
theorem nmX8 : ∀ a, a < 73 → ∀ b, b < 73 → a ≠ b → (TX8 a).2.1 ≠ (TX8 b).2.1 := by decide +kernel
theorem tyX8_ok : ∀ k, k < 73 → parseFieldDescriptor (TX8 k).2.2.1 = some (tyX8 k) := by decide +kernel
theorem in_X8 : ∀ w ∈ wsX80, w ∈ lw_all := lw_in wsX80 [1843, 1845, 1847, 1849, 1851, 1853, 1855, 1857, 1859, 1861, 1863, 1865, 1867, 1869, 1871, 1873, 1875, 1877, 1879, 1881, 1883, 1885, 1887, 1889, 1891, 1893, 1895, 1897, 1899, 1901, 1903, 1905, 1907, 1909, 1911, 1913, 1915, 1917, 1919, 1921, 1923, 1925, 1927, 1929, 1931, 1933, 1935, 1937, 1939, 1941, 1943, 1945, 1947, 1949, 1951, 1953, 1955, 1957, 1959, 1961, 1963, 1965, 1967, 1969, 1971, 1973, 1975, 1977, 1979, 1981, 1983, 1985, 1987] (by decide +kernel) (by decide +kernel)
def RX9 : String := "SpoonRow$Reader"
def TX9 : u_T := fun k => match k with
  | 0 => ("SpoonRow$Reader", "text", "[B", true)
  | 1 => ("SpoonRow$Reader", "size", "I", true)
  | 2 => ("SpoonRow$Reader", "next", "I", false)
  | 3 => ("SpoonRow$Reader", "place", "I", false)
  | 4 => ("SpoonRow$Reader", "value", "I", false)
  | 5 => ("SpoonRow$Reader", "isLong", "Z", false)
  | 6 => ("SpoonRow$Reader", "sort", "LSpoonRow$Sort;", false)
  | 7 => ("SpoonRow$Reader", "word", "Ljava/lang/String;", false)
  | _ => ("SpoonRow$Reader", "has", "[Z", true)
def tyX9 : Nat → FieldType := fun k => match k with
  | 0 => .array .byte
  | 1 => .int
  | 2 => .int
  | 3 => .int
  | 4 => .int
  | 5 => .boolean
  | 6 => .object "SpoonRow$Sort"
  | 7 => .object "java/lang/String"
  | _ => .array .boolean
abbrev wsX90 : List Cond := u_ws RX9 TX9 9
theorem nmX9 : ∀ a, a < 9 → ∀ b, b < 9 → a ≠ b → (TX9 a).2.1 ≠ (TX9 b).2.1 := by decide +kernel
theorem tyX9_ok : ∀ k, k < 9 → parseFieldDescriptor (TX9 k).2.2.1 = some (tyX9 k) := by decide +kernel
theorem in_X9 : ∀ w ∈ wsX90, w ∈ lw_all := lw_in wsX90 [1258, 1260, 1262, 1264, 1266, 1268, 1270, 1272, 1274] (by decide +kernel) (by decide +kernel)
