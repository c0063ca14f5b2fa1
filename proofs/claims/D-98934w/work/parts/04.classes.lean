/-! the classes: names, fields, methods' names (printed by wip/D-98934w/gen/base.py out of claim/names) -/
set_option maxRecDepth 100000
def RJ0 : String := "java/util/AbstractCollection"
def RJ1 : String := "java/util/AbstractList"
def RJ10 : String := "jdk/internal/util/ArraysSupport"
def RJ11 : String := "java/lang/Math"
def RJ12 : String := "java/lang/StringLatin1"
def RJ13 : String := "java/lang/Throwable"
def TJ13 : u_T := fun k => match k with
  | 0 => ("java/lang/Throwable", "cause", "Ljava/lang/Throwable;", false)
  | 1 => ("java/lang/Throwable", "stackTrace", "[Ljava/lang/StackTraceElement;", false)
  | 2 => ("java/lang/Throwable", "suppressedExceptions", "Ljava/util/List;", false)
  | 3 => ("java/lang/Throwable", "detailMessage", "Ljava/lang/String;", false)
  | _ => ("java/lang/Throwable", "backtrace", "Ljava/lang/Object;", false)
def tyJ13 : Nat → FieldType := fun k => match k with
  | 0 => .object "java/lang/Throwable"
  | 1 => .array (.object "java/lang/StackTraceElement")
  | 2 => .object "java/util/List"
  | 3 => .object "java/lang/String"
  | _ => .object "java/lang/Object"
abbrev wsJ130 : List Cond := u_ws RJ13 TJ13 5
set_option maxRecDepth 100000 in
theorem nmJ13 : ∀ a, a < 5 → ∀ b, b < 5 → a ≠ b → (TJ13 a).2.1 ≠ (TJ13 b).2.1 := by decide +kernel
set_option maxRecDepth 100000 in
theorem tyJ13_ok : ∀ k, k < 5 → parseFieldDescriptor (TJ13 k).2.2.1 = some (tyJ13 k) := by decide +kernel
theorem in_J13 : ∀ w ∈ wsJ130, w ∈ lw_all := lw_in wsJ130 [761, 763, 765, 767, 769] (by decide +kernel) (by decide +kernel)
def RJ14 : String := "java/lang/Exception"
def RJ15 : String := "java/lang/RuntimeException"
def RJ16 : String := "java/util/NoSuchElementException"
def TJ16 : u_T := fun k => match k with
  | 0 => ("java/lang/Throwable", "cause", "Ljava/lang/Throwable;", false)
  | 1 => ("java/lang/Throwable", "stackTrace", "[Ljava/lang/StackTraceElement;", false)
  | 2 => ("java/lang/Throwable", "suppressedExceptions", "Ljava/util/List;", false)
  | 3 => ("java/lang/Throwable", "detailMessage", "Ljava/lang/String;", false)
  | 4 => ("java/lang/Throwable", "backtrace", "Ljava/lang/Object;", false)
  | _ => ("java/lang/Throwable", "depth", "I", false)
def tyJ16 : Nat → FieldType := fun k => match k with
  | 0 => .object "java/lang/Throwable"
  | 1 => .array (.object "java/lang/StackTraceElement")
  | 2 => .object "java/util/List"
  | 3 => .object "java/lang/String"
  | 4 => .object "java/lang/Object"
  | _ => .int
abbrev wsJ160 : List Cond := u_ws RJ16 TJ16 6
set_option maxRecDepth 100000 in
theorem nmJ16 : ∀ a, a < 6 → ∀ b, b < 6 → a ≠ b → (TJ16 a).2.1 ≠ (TJ16 b).2.1 := by decide +kernel
set_option maxRecDepth 100000 in
theorem tyJ16_ok : ∀ k, k < 6 → parseFieldDescriptor (TJ16 k).2.2.1 = some (tyJ16 k) := by decide +kernel
theorem in_J16 : ∀ w ∈ wsJ160, w ∈ lw_all := lw_in wsJ160 [1835, 1836, 1837, 1838, 1839, 1850] (by decide +kernel) (by decide +kernel)
def RJ17 : String := "java/lang/Integer"
def RJ18 : String := "java/lang/Object"
def RJ2 : String := "java/util/ArrayList"
def TJ2 : u_T := fun k => match k with
  | 0 => ("java/util/AbstractList", "modCount", "I", false)
  | 1 => ("java/util/ArrayList", "elementData", "[Ljava/lang/Object;", false)
  | _ => ("java/util/ArrayList", "size", "I", false)
def tyJ2 : Nat → FieldType := fun k => match k with
  | 0 => .int
  | 1 => .array (.object "java/lang/Object")
  | _ => .int
abbrev wsJ20 : List Cond := u_ws RJ2 TJ2 3
set_option maxRecDepth 100000 in
theorem nmJ2 : ∀ a, a < 3 → ∀ b, b < 3 → a ≠ b → (TJ2 a).2.1 ≠ (TJ2 b).2.1 := by decide +kernel
set_option maxRecDepth 100000 in
theorem tyJ2_ok : ∀ k, k < 3 → parseFieldDescriptor (TJ2 k).2.2.1 = some (tyJ2 k) := by decide +kernel
theorem in_J2 : ∀ w ∈ wsJ20, w ∈ lw_all := lw_in wsJ20 [196, 192, 194] (by decide +kernel) (by decide +kernel)
def RJ3 : String := "java/util/Arrays"
def RJ4 : String := "java/util/Objects"
def RJ5 : String := "jdk/internal/util/Preconditions"
def RJ6 : String := "java/lang/AbstractStringBuilder"
def RJ7 : String := "java/lang/StringBuilder"
def TJ7 : u_T := fun k => match k with
  | 0 => ("java/lang/AbstractStringBuilder", "value", "[B", false)
  | 1 => ("java/lang/AbstractStringBuilder", "coder", "B", false)
  | 2 => ("java/lang/AbstractStringBuilder", "maybeLatin1", "Z", false)
  | _ => ("java/lang/AbstractStringBuilder", "count", "I", false)
def tyJ7 : Nat → FieldType := fun k => match k with
  | 0 => .array .byte
  | 1 => .byte
  | 2 => .boolean
  | _ => .int
abbrev wsJ70 : List Cond := u_ws RJ7 TJ7 4
set_option maxRecDepth 100000 in
theorem nmJ7 : ∀ a, a < 4 → ∀ b, b < 4 → a ≠ b → (TJ7 a).2.1 ≠ (TJ7 b).2.1 := by decide +kernel
set_option maxRecDepth 100000 in
theorem tyJ7_ok : ∀ k, k < 4 → parseFieldDescriptor (TJ7 k).2.2.1 = some (tyJ7 k) := by decide +kernel
theorem in_J7 : ∀ w ∈ wsJ70, w ∈ lw_all := lw_in wsJ70 [554, 556, 558, 560] (by decide +kernel) (by decide +kernel)
def RJ8 : String := "java/lang/String"
def TJ8 : u_T := fun k => match k with
  | 0 => ("java/lang/String", "value", "[B", true)
  | 1 => ("java/lang/String", "coder", "B", true)
  | 2 => ("java/lang/String", "hash", "I", false)
  | _ => ("java/lang/String", "hashIsZero", "Z", false)
def tyJ8 : Nat → FieldType := fun k => match k with
  | 0 => .array .byte
  | 1 => .byte
  | 2 => .int
  | _ => .boolean
abbrev wsJ80 : List Cond := u_ws RJ8 TJ8 4
set_option maxRecDepth 100000 in
theorem nmJ8 : ∀ a, a < 4 → ∀ b, b < 4 → a ≠ b → (TJ8 a).2.1 ≠ (TJ8 b).2.1 := by decide +kernel
set_option maxRecDepth 100000 in
theorem tyJ8_ok : ∀ k, k < 4 → parseFieldDescriptor (TJ8 k).2.2.1 = some (tyJ8 k) := by decide +kernel
theorem in_J8 : ∀ w ∈ wsJ80, w ∈ lw_all := lw_in wsJ80 [708, 710, 712, 714] (by decide +kernel) (by decide +kernel)
def RJ9 : String := "java/lang/StringUTF16"
def RX0 : String := "HeldCoatsLaw"
def RX1 : String := "HeldCoats"
def TX1 : u_T := fun k => match k with
  | 0 => ("HeldCoats", "tape", "[B", true)
  | 1 => ("HeldCoats", "taped", "I", false)
  | 2 => ("HeldCoats", "fault", "I", false)
  | 3 => ("HeldCoats", "capital", "LHeldCoats$Capital;", false)
  | 4 => ("HeldCoats", "now", "LHeldCoats$Reign;", true)
  | 5 => ("HeldCoats", "trial", "LHeldCoats$Reign;", true)
  | 6 => ("HeldCoats", "sentence", "LHeldCoats$Cond;", false)
  | 7 => ("HeldCoats", "before", "[LHeldCoats$Reign;", true)
  | 8 => ("HeldCoats", "befores", "I", false)
  | 9 => ("HeldCoats", "laid", "I", false)
  | 10 => ("HeldCoats", "turns", "I", false)
  | 11 => ("HeldCoats", "wins", "I", false)
  | 12 => ("HeldCoats", "gives", "I", false)
  | 13 => ("HeldCoats", "surely", "I", false)
  | 14 => ("HeldCoats", "never", "I", false)
  | 15 => ("HeldCoats", "price", "I", false)
  | 16 => ("HeldCoats", "told", "[I", true)
  | _ => ("HeldCoats", "kept", "[LHeldCoats$Kept;", true)
def tyX1 : Nat → FieldType := fun k => match k with
  | 0 => .array .byte
  | 1 => .int
  | 2 => .int
  | 3 => .object "HeldCoats$Capital"
  | 4 => .object "HeldCoats$Reign"
  | 5 => .object "HeldCoats$Reign"
  | 6 => .object "HeldCoats$Cond"
  | 7 => .array (.object "HeldCoats$Reign")
  | 8 => .int
  | 9 => .int
  | 10 => .int
  | 11 => .int
  | 12 => .int
  | 13 => .int
  | 14 => .int
  | 15 => .int
  | 16 => .array .int
  | _ => .array (.object "HeldCoats$Kept")
abbrev wsX10 : List Cond := u_ws RX1 TX1 18
set_option maxRecDepth 100000 in
theorem nmX1 : ∀ a, a < 18 → ∀ b, b < 18 → a ≠ b → (TX1 a).2.1 ≠ (TX1 b).2.1 := by decide +kernel
set_option maxRecDepth 100000 in
theorem tyX1_ok : ∀ k, k < 18 → parseFieldDescriptor (TX1 k).2.2.1 = some (tyX1 k) := by decide +kernel
theorem in_X1 : ∀ w ∈ wsX10, w ∈ lw_all := lw_in wsX10 [398, 400, 402, 404, 406, 408, 410, 412, 414, 416, 418, 420, 422, 424, 426, 428, 430, 432] (by decide +kernel) (by decide +kernel)
def RX10 : String := "HeldCoats$Told"
def TX10 : u_T := fun k => match k with
  | 0 => ("HeldCoats$Named", "name", "Ljava/lang/String;", true)
  | _ => ("HeldCoats$Told", "number", "I", true)
def tyX10 : Nat → FieldType := fun k => match k with
  | 0 => .object "java/lang/String"
  | _ => .int
abbrev wsX100 : List Cond := u_ws RX10 TX10 2
set_option maxRecDepth 100000 in
theorem nmX10 : ∀ a, a < 2 → ∀ b, b < 2 → a ≠ b → (TX10 a).2.1 ≠ (TX10 b).2.1 := by decide +kernel
set_option maxRecDepth 100000 in
theorem tyX10_ok : ∀ k, k < 2 → parseFieldDescriptor (TX10 k).2.2.1 = some (tyX10 k) := by decide +kernel
theorem in_X10 : ∀ w ∈ wsX100, w ∈ lw_all := lw_in wsX100 [947, 945] (by decide +kernel) (by decide +kernel)
def RX11 : String := "HeldCoats$Coat"
def TX11 : u_T := fun k => match k with
  | 0 => ("HeldCoats$Named", "name", "Ljava/lang/String;", true)
  | 1 => ("HeldCoats$Coat", "man", "I", true)
  | 2 => ("HeldCoats$Coat", "warmth", "I", true)
  | _ => ("HeldCoats$Coat", "cloth", "I", true)
def tyX11 : Nat → FieldType := fun k => match k with
  | 0 => .object "java/lang/String"
  | 1 => .int
  | 2 => .int
  | _ => .int
abbrev wsX110 : List Cond := u_ws RX11 TX11 4
set_option maxRecDepth 100000 in
theorem nmX11 : ∀ a, a < 4 → ∀ b, b < 4 → a ≠ b → (TX11 a).2.1 ≠ (TX11 b).2.1 := by decide +kernel
set_option maxRecDepth 100000 in
theorem tyX11_ok : ∀ k, k < 4 → parseFieldDescriptor (TX11 k).2.2.1 = some (tyX11 k) := by decide +kernel
theorem in_X11 : ∀ w ∈ wsX110, w ∈ lw_all := lw_in wsX110 [1042, 1036, 1038, 1040] (by decide +kernel) (by decide +kernel)
def RX12 : String := "HeldCoats$Act"
def RX13 : String := "HeldCoats$OfCoat"
def RX14 : String := "HeldCoats$With"
def RX15 : String := "HeldCoats$Lies"
def TX15 : u_T := fun k => match k with
  | 0 => ("HeldCoats$With", "other", "I", true)
  | _ => ("HeldCoats$OfCoat", "coat", "I", true)
def tyX15 : Nat → FieldType := fun k => match k with
  | 0 => .int
  | _ => .int
abbrev wsX150 : List Cond := u_ws RX15 TX15 2
set_option maxRecDepth 100000 in
theorem nmX15 : ∀ a, a < 2 → ∀ b, b < 2 → a ≠ b → (TX15 a).2.1 ≠ (TX15 b).2.1 := by decide +kernel
set_option maxRecDepth 100000 in
theorem tyX15_ok : ∀ k, k < 2 → parseFieldDescriptor (TX15 k).2.2.1 = some (tyX15 k) := by decide +kernel
theorem in_X15 : ∀ w ∈ wsX150, w ∈ lw_all := lw_in wsX150 [1181, 1183] (by decide +kernel) (by decide +kernel)
def RX16 : String := "HeldCoats$Lent"
def TX16 : u_T := fun k => match k with
  | 0 => ("HeldCoats$With", "other", "I", true)
  | _ => ("HeldCoats$OfCoat", "coat", "I", true)
def tyX16 : Nat → FieldType := fun k => match k with
  | 0 => .int
  | _ => .int
abbrev wsX160 : List Cond := u_ws RX16 TX16 2
set_option maxRecDepth 100000 in
theorem nmX16 : ∀ a, a < 2 → ∀ b, b < 2 → a ≠ b → (TX16 a).2.1 ≠ (TX16 b).2.1 := by decide +kernel
set_option maxRecDepth 100000 in
theorem tyX16_ok : ∀ k, k < 2 → parseFieldDescriptor (TX16 k).2.2.1 = some (tyX16 k) := by decide +kernel
theorem in_X16 : ∀ w ∈ wsX160, w ∈ lw_all := lw_in wsX160 [1336, 1337] (by decide +kernel) (by decide +kernel)
def RX17 : String := "HeldCoats$Stored"
def TX17 : u_T := fun k => match k with
  | _ => ("HeldCoats$OfCoat", "coat", "I", true)
def tyX17 : Nat → FieldType := fun k => match k with
  | _ => .int
abbrev wsX170 : List Cond := u_ws RX17 TX17 1
set_option maxRecDepth 100000 in
theorem nmX17 : ∀ a, a < 1 → ∀ b, b < 1 → a ≠ b → (TX17 a).2.1 ≠ (TX17 b).2.1 := by decide +kernel
set_option maxRecDepth 100000 in
theorem tyX17_ok : ∀ k, k < 1 → parseFieldDescriptor (TX17 k).2.2.1 = some (tyX17 k) := by decide +kernel
theorem in_X17 : ∀ w ∈ wsX170, w ∈ lw_all := lw_in wsX170 [1349] (by decide +kernel) (by decide +kernel)
def RX18 : String := "HeldCoats$Wears"
def TX18 : u_T := fun k => match k with
  | 0 => ("HeldCoats$With", "other", "I", true)
  | _ => ("HeldCoats$OfCoat", "coat", "I", true)
def tyX18 : Nat → FieldType := fun k => match k with
  | 0 => .int
  | _ => .int
abbrev wsX180 : List Cond := u_ws RX18 TX18 2
set_option maxRecDepth 100000 in
theorem nmX18 : ∀ a, a < 2 → ∀ b, b < 2 → a ≠ b → (TX18 a).2.1 ≠ (TX18 b).2.1 := by decide +kernel
set_option maxRecDepth 100000 in
theorem tyX18_ok : ∀ k, k < 2 → parseFieldDescriptor (TX18 k).2.2.1 = some (tyX18 k) := by decide +kernel
theorem in_X18 : ∀ w ∈ wsX180, w ∈ lw_all := lw_in wsX180 [1323, 1324] (by decide +kernel) (by decide +kernel)
def RX19 : String := "HeldCoats$BookReader"
def TX19 : u_T := fun k => match k with
  | 0 => ("HeldCoats$Reader", "tape", "[B", true)
  | 1 => ("HeldCoats$Reader", "size", "I", true)
  | 2 => ("HeldCoats$Reader", "limit", "I", true)
  | 3 => ("HeldCoats$Reader", "to", "I", false)
  | 4 => ("HeldCoats$Reader", "kind", "I", false)
  | 5 => ("HeldCoats$Reader", "from", "I", false)
  | 6 => ("HeldCoats$Reader", "number", "I", false)
  | 7 => ("HeldCoats$Reader", "sign", "I", false)
  | 8 => ("HeldCoats$Reader", "word", "Ljava/lang/String;", false)
  | 9 => ("HeldCoats$BookReader", "c", "LHeldCoats$Capital;", true)
  | _ => ("HeldCoats$BookReader", "acts", "Ljava/util/ArrayList;", true)
def tyX19 : Nat → FieldType := fun k => match k with
  | 0 => .array .byte
  | 1 => .int
  | 2 => .int
  | 3 => .int
  | 4 => .int
  | 5 => .int
  | 6 => .int
  | 7 => .int
  | 8 => .object "java/lang/String"
  | 9 => .object "HeldCoats$Capital"
  | _ => .object "java/util/ArrayList"
abbrev wsX190 : List Cond := u_ws RX19 TX19 11
set_option maxRecDepth 100000 in
theorem nmX19 : ∀ a, a < 11 → ∀ b, b < 11 → a ≠ b → (TX19 a).2.1 ≠ (TX19 b).2.1 := by decide +kernel
set_option maxRecDepth 100000 in
theorem tyX19_ok : ∀ k, k < 11 → parseFieldDescriptor (TX19 k).2.2.1 = some (tyX19 k) := by decide +kernel
theorem in_X19 : ∀ w ∈ wsX190, w ∈ lw_all := lw_in wsX190 [1538, 1539, 1540, 1541, 1542, 1543, 1544, 1545, 1546, 1534, 1536] (by decide +kernel) (by decide +kernel)
def RX2 : String := "HeldCoats$Capital"
def TX2 : u_T := fun k => match k with
  | 0 => ("HeldCoats$Capital", "lines", "I", false)
  | 1 => ("HeldCoats$Capital", "colds", "I", false)
  | 2 => ("HeldCoats$Capital", "summer", "I", false)
  | 3 => ("HeldCoats$Capital", "holds", "I", false)
  | 4 => ("HeldCoats$Capital", "moths", "I", false)
  | 5 => ("HeldCoats$Capital", "limit", "I", false)
  | 6 => ("HeldCoats$Capital", "seats", "Ljava/util/ArrayList;", true)
  | 7 => ("HeldCoats$Capital", "men", "Ljava/util/ArrayList;", true)
  | 8 => ("HeldCoats$Capital", "coats", "Ljava/util/ArrayList;", true)
  | 9 => ("HeldCoats$Capital", "coldFrom", "[I", true)
  | _ => ("HeldCoats$Capital", "cold", "[I", true)
def tyX2 : Nat → FieldType := fun k => match k with
  | 0 => .int
  | 1 => .int
  | 2 => .int
  | 3 => .int
  | 4 => .int
  | 5 => .int
  | 6 => .object "java/util/ArrayList"
  | 7 => .object "java/util/ArrayList"
  | 8 => .object "java/util/ArrayList"
  | 9 => .array .int
  | _ => .array .int
abbrev wsX20 : List Cond := u_ws RX2 TX2 11
set_option maxRecDepth 100000 in
theorem nmX2 : ∀ a, a < 11 → ∀ b, b < 11 → a ≠ b → (TX2 a).2.1 ≠ (TX2 b).2.1 := by decide +kernel
set_option maxRecDepth 100000 in
theorem tyX2_ok : ∀ k, k < 11 → parseFieldDescriptor (TX2 k).2.2.1 = some (tyX2 k) := by decide +kernel
theorem in_X2 : ∀ w ∈ wsX20, w ∈ lw_all := lw_in wsX20 [240, 242, 244, 246, 248, 250, 252, 254, 256, 258, 260] (by decide +kernel) (by decide +kernel)
def RX20 : String := "HeldCoats$Days"
def TX20 : u_T := fun k => match k with
  | _ => ("HeldCoats$Days", "many", "I", true)
def tyX20 : Nat → FieldType := fun k => match k with
  | _ => .int
abbrev wsX200 : List Cond := u_ws RX20 TX20 1
set_option maxRecDepth 100000 in
theorem nmX20 : ∀ a, a < 1 → ∀ b, b < 1 → a ≠ b → (TX20 a).2.1 ≠ (TX20 b).2.1 := by decide +kernel
set_option maxRecDepth 100000 in
theorem tyX20_ok : ∀ k, k < 1 → parseFieldDescriptor (TX20 k).2.2.1 = some (tyX20 k) := by decide +kernel
theorem in_X20 : ∀ w ∈ wsX200, w ∈ lw_all := lw_in wsX200 [1583] (by decide +kernel) (by decide +kernel)
def RX21 : String := "HeldCoats$SentenceReader"
def TX21 : u_T := fun k => match k with
  | 0 => ("HeldCoats$Reader", "tape", "[B", true)
  | 1 => ("HeldCoats$Reader", "size", "I", true)
  | 2 => ("HeldCoats$Reader", "limit", "I", true)
  | 3 => ("HeldCoats$Reader", "to", "I", false)
  | 4 => ("HeldCoats$Reader", "kind", "I", false)
  | 5 => ("HeldCoats$Reader", "from", "I", false)
  | 6 => ("HeldCoats$Reader", "number", "I", false)
  | 7 => ("HeldCoats$Reader", "sign", "I", false)
  | 8 => ("HeldCoats$Reader", "word", "Ljava/lang/String;", false)
  | 9 => ("HeldCoats$SentenceReader", "c", "LHeldCoats$Capital;", true)
  | 10 => ("HeldCoats$SentenceReader", "ones", "I", false)
  | _ => ("HeldCoats$SentenceReader", "within", "I", false)
def tyX21 : Nat → FieldType := fun k => match k with
  | 0 => .array .byte
  | 1 => .int
  | 2 => .int
  | 3 => .int
  | 4 => .int
  | 5 => .int
  | 6 => .int
  | 7 => .int
  | 8 => .object "java/lang/String"
  | 9 => .object "HeldCoats$Capital"
  | 10 => .int
  | _ => .int
abbrev wsX210 : List Cond := u_ws RX21 TX21 12
set_option maxRecDepth 100000 in
theorem nmX21 : ∀ a, a < 12 → ∀ b, b < 12 → a ≠ b → (TX21 a).2.1 ≠ (TX21 b).2.1 := by decide +kernel
set_option maxRecDepth 100000 in
theorem tyX21_ok : ∀ k, k < 12 → parseFieldDescriptor (TX21 k).2.2.1 = some (tyX21 k) := by decide +kernel
theorem in_X21 : ∀ w ∈ wsX210, w ∈ lw_all := lw_in wsX210 [1642, 1643, 1644, 1645, 1646, 1647, 1648, 1649, 1650, 1636, 1638, 1640] (by decide +kernel) (by decide +kernel)
def RX22 : String := "HeldCoats$Cond"
def RX23 : String := "HeldCoats$Not"
def TX23 : u_T := fun k => match k with
  | _ => ("HeldCoats$Not", "x", "LHeldCoats$Cond;", true)
def tyX23 : Nat → FieldType := fun k => match k with
  | _ => .object "HeldCoats$Cond"
abbrev wsX230 : List Cond := u_ws RX23 TX23 1
set_option maxRecDepth 100000 in
theorem nmX23 : ∀ a, a < 1 → ∀ b, b < 1 → a ≠ b → (TX23 a).2.1 ≠ (TX23 b).2.1 := by decide +kernel
set_option maxRecDepth 100000 in
theorem tyX23_ok : ∀ k, k < 1 → parseFieldDescriptor (TX23 k).2.2.1 = some (tyX23 k) := by decide +kernel
theorem in_X23 : ∀ w ∈ wsX230, w ∈ lw_all := lw_in wsX230 [1704] (by decide +kernel) (by decide +kernel)
def RX24 : String := "HeldCoats$IsSo"
def TX24 : u_T := fun k => match k with
  | _ => ("HeldCoats$IsSo", "bare", "Z", true)
def tyX24 : Nat → FieldType := fun k => match k with
  | _ => .boolean
abbrev wsX240 : List Cond := u_ws RX24 TX24 1
set_option maxRecDepth 100000 in
theorem nmX24 : ∀ a, a < 1 → ∀ b, b < 1 → a ≠ b → (TX24 a).2.1 ≠ (TX24 b).2.1 := by decide +kernel
set_option maxRecDepth 100000 in
theorem tyX24_ok : ∀ k, k < 1 → parseFieldDescriptor (TX24 k).2.2.1 = some (tyX24 k) := by decide +kernel
theorem in_X24 : ∀ w ∈ wsX240, w ∈ lw_all := lw_in wsX240 [1714] (by decide +kernel) (by decide +kernel)
def RX25 : String := "HeldCoats$Of"
def TX25 : u_T := fun k => match k with
  | 0 => ("HeldCoats$Of", "man", "Z", true)
  | _ => ("HeldCoats$Of", "which", "I", true)
def tyX25 : Nat → FieldType := fun k => match k with
  | 0 => .boolean
  | _ => .int
abbrev wsX250 : List Cond := u_ws RX25 TX25 2
set_option maxRecDepth 100000 in
theorem nmX25 : ∀ a, a < 2 → ∀ b, b < 2 → a ≠ b → (TX25 a).2.1 ≠ (TX25 b).2.1 := by decide +kernel
set_option maxRecDepth 100000 in
theorem tyX25_ok : ∀ k, k < 2 → parseFieldDescriptor (TX25 k).2.2.1 = some (tyX25 k) := by decide +kernel
theorem in_X25 : ∀ w ∈ wsX250, w ∈ lw_all := lw_in wsX250 [1728, 1730] (by decide +kernel) (by decide +kernel)
def RX26 : String := "HeldCoats$Than"
def TX26 : u_T := fun k => match k with
  | 0 => ("HeldCoats$Than", "what", "I", true)
  | 1 => ("HeldCoats$Than", "sign", "I", true)
  | _ => ("HeldCoats$Than", "number", "I", true)
def tyX26 : Nat → FieldType := fun k => match k with
  | 0 => .int
  | 1 => .int
  | _ => .int
abbrev wsX260 : List Cond := u_ws RX26 TX26 3
set_option maxRecDepth 100000 in
theorem nmX26 : ∀ a, a < 3 → ∀ b, b < 3 → a ≠ b → (TX26 a).2.1 ≠ (TX26 b).2.1 := by decide +kernel
set_option maxRecDepth 100000 in
theorem tyX26_ok : ∀ k, k < 3 → parseFieldDescriptor (TX26 k).2.2.1 = some (tyX26 k) := by decide +kernel
theorem in_X26 : ∀ w ∈ wsX260, w ∈ lw_all := lw_in wsX260 [1749, 1751, 1753] (by decide +kernel) (by decide +kernel)
def RX27 : String := "HeldCoats$Two"
def TX27 : u_T := fun k => match k with
  | 0 => ("HeldCoats$Two", "a", "LHeldCoats$Cond;", true)
  | 1 => ("HeldCoats$Two", "b", "LHeldCoats$Cond;", true)
  | _ => ("HeldCoats$Two", "both", "Z", true)
def tyX27 : Nat → FieldType := fun k => match k with
  | 0 => .object "HeldCoats$Cond"
  | 1 => .object "HeldCoats$Cond"
  | _ => .boolean
abbrev wsX270 : List Cond := u_ws RX27 TX27 3
set_option maxRecDepth 100000 in
theorem nmX27 : ∀ a, a < 3 → ∀ b, b < 3 → a ≠ b → (TX27 a).2.1 ≠ (TX27 b).2.1 := by decide +kernel
set_option maxRecDepth 100000 in
theorem tyX27_ok : ∀ k, k < 3 → parseFieldDescriptor (TX27 k).2.2.1 = some (tyX27 k) := by decide +kernel
theorem in_X27 : ∀ w ∈ wsX270, w ∈ lw_all := lw_in wsX270 [1766, 1768, 1770] (by decide +kernel) (by decide +kernel)
def RX3 : String := "HeldCoats$Reign"
def TX3 : u_T := fun k => match k with
  | 0 => ("HeldCoats$Reign", "c", "LHeldCoats$Capital;", false)
  | 1 => ("HeldCoats$Reign", "day", "I", false)
  | 2 => ("HeldCoats$Reign", "bares", "I", false)
  | 3 => ("HeldCoats$Reign", "firstBare", "I", false)
  | 4 => ("HeldCoats$Reign", "eaten", "I", false)
  | 5 => ("HeldCoats$Reign", "queued", "I", false)
  | 6 => ("HeldCoats$Reign", "at", "[I", true)
  | 7 => ("HeldCoats$Reign", "cloth", "[I", true)
  | 8 => ("HeldCoats$Reign", "user", "[I", true)
  | 9 => ("HeldCoats$Reign", "since", "[I", true)
  | 10 => ("HeldCoats$Reign", "queue", "[I", true)
  | 11 => ("HeldCoats$Reign", "harm", "[I", true)
  | 12 => ("HeldCoats$Reign", "ruled", "[I", true)
  | _ => ("HeldCoats$Reign", "seed", "I", false)
def tyX3 : Nat → FieldType := fun k => match k with
  | 0 => .object "HeldCoats$Capital"
  | 1 => .int
  | 2 => .int
  | 3 => .int
  | 4 => .int
  | 5 => .int
  | 6 => .array .int
  | 7 => .array .int
  | 8 => .array .int
  | 9 => .array .int
  | 10 => .array .int
  | 11 => .array .int
  | 12 => .array .int
  | _ => .int
abbrev wsX30 : List Cond := u_ws RX3 TX3 14
set_option maxRecDepth 100000 in
theorem nmX3 : ∀ a, a < 14 → ∀ b, b < 14 → a ≠ b → (TX3 a).2.1 ≠ (TX3 b).2.1 := by decide +kernel
set_option maxRecDepth 100000 in
theorem tyX3_ok : ∀ k, k < 14 → parseFieldDescriptor (TX3 k).2.2.1 = some (tyX3 k) := by decide +kernel
theorem in_X3 : ∀ w ∈ wsX30, w ∈ lw_all := lw_in wsX30 [300, 302, 304, 306, 308, 310, 312, 314, 316, 318, 320, 322, 324, 326] (by decide +kernel) (by decide +kernel)
def RX4 : String := "HeldCoats$Kept"
def TX4 : u_T := fun k => match k with
  | 0 => ("HeldCoats$Kept", "capital", "LHeldCoats$Capital;", false)
  | 1 => ("HeldCoats$Kept", "sentence", "LHeldCoats$Cond;", false)
  | _ => ("HeldCoats$Kept", "reign", "LHeldCoats$Reign;", true)
def tyX4 : Nat → FieldType := fun k => match k with
  | 0 => .object "HeldCoats$Capital"
  | 1 => .object "HeldCoats$Cond"
  | _ => .object "HeldCoats$Reign"
abbrev wsX40 : List Cond := u_ws RX4 TX4 3
set_option maxRecDepth 100000 in
theorem nmX4 : ∀ a, a < 3 → ∀ b, b < 3 → a ≠ b → (TX4 a).2.1 ≠ (TX4 b).2.1 := by decide +kernel
set_option maxRecDepth 100000 in
theorem tyX4_ok : ∀ k, k < 3 → parseFieldDescriptor (TX4 k).2.2.1 = some (tyX4 k) := by decide +kernel
theorem in_X4 : ∀ w ∈ wsX40, w ∈ lw_all := lw_in wsX40 [373, 375, 377] (by decide +kernel) (by decide +kernel)
def RX5 : String := "HeldCoatsModel"
def TX5 : u_T := fun k => match k with
  | 0 => ("HeldCoatsModel", "thrown", "I", false)
  | 1 => ("HeldCoatsModel", "tape", "[B", true)
  | 2 => ("HeldCoatsModel", "length", "I", false)
  | 3 => ("HeldCoatsModel", "size", "I", false)
  | 4 => ("HeldCoatsModel", "p", "I", false)
  | 5 => ("HeldCoatsModel", "limit", "I", false)
  | 6 => ("HeldCoatsModel", "s", "[I", true)
  | 7 => ("HeldCoatsModel", "h", "[I", true)
  | 8 => ("HeldCoatsModel", "read", "[I", true)
  | 9 => ("HeldCoatsModel", "names", "[J", true)
  | 10 => ("HeldCoatsModel", "reserved", "[J", true)
  | 11 => ("HeldCoatsModel", "token", "I", false)
  | 12 => ("HeldCoatsModel", "at", "I", false)
  | 13 => ("HeldCoatsModel", "span", "I", false)
  | 14 => ("HeldCoatsModel", "number", "I", false)
  | 15 => ("HeldCoatsModel", "fault", "I", false)
  | 16 => ("HeldCoatsModel", "faultAt", "I", false)
  | 17 => ("HeldCoatsModel", "word", "J", false)
  | 18 => ("HeldCoatsModel", "got", "I", false)
  | 19 => ("HeldCoatsModel", "lines", "I", false)
  | 20 => ("HeldCoatsModel", "onces", "I", false)
  | 21 => ("HeldCoatsModel", "undone", "[I", true)
  | 22 => ("HeldCoatsModel", "before", "[I", true)
  | 23 => ("HeldCoatsModel", "undoMany", "I", false)
  | 24 => ("HeldCoatsModel", "laidSet", "I", false)
  | 25 => ("HeldCoatsModel", "hasLaid", "Z", false)
  | 26 => ("HeldCoatsModel", "turnSet", "I", false)
  | 27 => ("HeldCoatsModel", "hasTurns", "Z", false)
  | 28 => ("HeldCoatsModel", "frostDay", "I", false)
  | 29 => ("HeldCoatsModel", "surelySet", "I", false)
  | 30 => ("HeldCoatsModel", "neverSet", "I", false)
  | 31 => ("HeldCoatsModel", "hasHooks", "Z", false)
  | 32 => ("HeldCoatsModel", "sat", "[I", true)
  | 33 => ("HeldCoatsModel", "priceNow", "I", false)
  | 34 => ("HeldCoatsModel", "hasPrice", "Z", false)
  | 35 => ("HeldCoatsModel", "seed", "I", false)
  | 36 => ("HeldCoatsModel", "toldMany", "I", false)
  | 37 => ("HeldCoatsModel", "toldAt", "[I", true)
  | 38 => ("HeldCoatsModel", "hasTold", "Z", false)
  | 39 => ("HeldCoatsModel", "stack", "[I", true)
  | 40 => ("HeldCoatsModel", "codes", "I", false)
  | 41 => ("HeldCoatsModel", "ones", "I", false)
  | 42 => ("HeldCoatsModel", "top", "I", false)
  | 43 => ("HeldCoatsModel", "deep", "I", false)
  | 44 => ("HeldCoatsModel", "isWhole", "Z", false)
  | 45 => ("HeldCoatsModel", "truths", "[Z", true)
  | 46 => ("HeldCoatsModel", "kept", "[I", true)
  | 47 => ("HeldCoatsModel", "namesKept", "[J", true)
  | _ => ("HeldCoatsModel", "areKept", "[Z", true)
def tyX5 : Nat → FieldType := fun k => match k with
  | 0 => .int
  | 1 => .array .byte
  | 2 => .int
  | 3 => .int
  | 4 => .int
  | 5 => .int
  | 6 => .array .int
  | 7 => .array .int
  | 8 => .array .int
  | 9 => .array .long
  | 10 => .array .long
  | 11 => .int
  | 12 => .int
  | 13 => .int
  | 14 => .int
  | 15 => .int
  | 16 => .int
  | 17 => .long
  | 18 => .int
  | 19 => .int
  | 20 => .int
  | 21 => .array .int
  | 22 => .array .int
  | 23 => .int
  | 24 => .int
  | 25 => .boolean
  | 26 => .int
  | 27 => .boolean
  | 28 => .int
  | 29 => .int
  | 30 => .int
  | 31 => .boolean
  | 32 => .array .int
  | 33 => .int
  | 34 => .boolean
  | 35 => .int
  | 36 => .int
  | 37 => .array .int
  | 38 => .boolean
  | 39 => .array .int
  | 40 => .int
  | 41 => .int
  | 42 => .int
  | 43 => .int
  | 44 => .boolean
  | 45 => .array .boolean
  | 46 => .array .int
  | 47 => .array .long
  | _ => .array .boolean
abbrev wsX50 : List Cond := u_ws RX5 TX5 49
set_option maxRecDepth 100000 in
theorem nmX5 : ∀ a, a < 49 → ∀ b, b < 49 → a ≠ b → (TX5 a).2.1 ≠ (TX5 b).2.1 := by decide +kernel
set_option maxRecDepth 100000 in
theorem tyX5_ok : ∀ k, k < 49 → parseFieldDescriptor (TX5 k).2.2.1 = some (tyX5 k) := by decide +kernel
theorem in_X5 : ∀ w ∈ wsX50, w ∈ lw_all := lw_in wsX50 [1967, 1969, 1971, 1973, 1975, 1977, 1979, 1981, 1983, 1985, 1987, 1989, 1991, 1993, 1995, 1997, 1999, 2001, 2003, 2005, 2007, 2009, 2011, 2013, 2015, 2017, 2019, 2021, 2023, 2025, 2027, 2029, 2031, 2033, 2035, 2037, 2039, 2041, 2043, 2045, 2047, 2049, 2051, 2053, 2055, 2057, 2059, 2061, 2063] (by decide +kernel) (by decide +kernel)
def RX6 : String := "HeldCoats$Reader"
def RX7 : String := "HeldCoats$CapitalReader"
def TX7 : u_T := fun k => match k with
  | 0 => ("HeldCoats$Reader", "tape", "[B", true)
  | 1 => ("HeldCoats$Reader", "size", "I", true)
  | 2 => ("HeldCoats$Reader", "limit", "I", true)
  | 3 => ("HeldCoats$Reader", "to", "I", false)
  | 4 => ("HeldCoats$Reader", "kind", "I", false)
  | 5 => ("HeldCoats$Reader", "from", "I", false)
  | 6 => ("HeldCoats$Reader", "number", "I", false)
  | 7 => ("HeldCoats$Reader", "sign", "I", false)
  | 8 => ("HeldCoats$Reader", "word", "Ljava/lang/String;", false)
  | 9 => ("HeldCoats$CapitalReader", "c", "LHeldCoats$Capital;", true)
  | _ => ("HeldCoats$CapitalReader", "onces", "I", false)
def tyX7 : Nat → FieldType := fun k => match k with
  | 0 => .array .byte
  | 1 => .int
  | 2 => .int
  | 3 => .int
  | 4 => .int
  | 5 => .int
  | 6 => .int
  | 7 => .int
  | 8 => .object "java/lang/String"
  | 9 => .object "HeldCoats$Capital"
  | _ => .int
abbrev wsX70 : List Cond := u_ws RX7 TX7 11
set_option maxRecDepth 100000 in
theorem nmX7 : ∀ a, a < 11 → ∀ b, b < 11 → a ≠ b → (TX7 a).2.1 ≠ (TX7 b).2.1 := by decide +kernel
set_option maxRecDepth 100000 in
theorem tyX7_ok : ∀ k, k < 11 → parseFieldDescriptor (TX7 k).2.2.1 = some (tyX7 k) := by decide +kernel
theorem in_X7 : ∀ w ∈ wsX70, w ∈ lw_all := lw_in wsX70 [493, 495, 497, 499, 501, 503, 505, 507, 509, 489, 491] (by decide +kernel) (by decide +kernel)
def RX8 : String := "HeldCoats$Fault"
def TX8 : u_T := fun k => match k with
  | 0 => ("java/lang/Throwable", "cause", "Ljava/lang/Throwable;", false)
  | 1 => ("java/lang/Throwable", "stackTrace", "[Ljava/lang/StackTraceElement;", false)
  | 2 => ("java/lang/Throwable", "suppressedExceptions", "Ljava/util/List;", false)
  | 3 => ("java/lang/Throwable", "detailMessage", "Ljava/lang/String;", false)
  | 4 => ("java/lang/Throwable", "backtrace", "Ljava/lang/Object;", false)
  | 5 => ("java/lang/Throwable", "depth", "I", false)
  | 6 => ("HeldCoats$Fault", "kind", "I", true)
  | _ => ("HeldCoats$Fault", "place", "I", true)
def tyX8 : Nat → FieldType := fun k => match k with
  | 0 => .object "java/lang/Throwable"
  | 1 => .array (.object "java/lang/StackTraceElement")
  | 2 => .object "java/util/List"
  | 3 => .object "java/lang/String"
  | 4 => .object "java/lang/Object"
  | 5 => .int
  | 6 => .int
  | _ => .int
abbrev wsX80 : List Cond := u_ws RX8 TX8 8
set_option maxRecDepth 100000 in
theorem nmX8 : ∀ a, a < 8 → ∀ b, b < 8 → a ≠ b → (TX8 a).2.1 ≠ (TX8 b).2.1 := by decide +kernel
set_option maxRecDepth 100000 in
theorem tyX8_ok : ∀ k, k < 8 → parseFieldDescriptor (TX8 k).2.2.1 = some (tyX8 k) := by decide +kernel
theorem in_X8 : ∀ w ∈ wsX80, w ∈ lw_all := lw_in wsX80 [760, 762, 764, 766, 768, 815, 807, 809] (by decide +kernel) (by decide +kernel)
def RX9 : String := "HeldCoats$Named"
abbrev cJ0_init : ByteArray := prog_48_method_1_code
def yJ0_init : MethodName := ⟨RJ0, "<init>", "()V"⟩
abbrev cJ1_init : ByteArray := prog_49_method_1_code
def yJ1_init : MethodName := ⟨RJ1, "<init>", "()V"⟩
abbrev cJ10_newLength : ByteArray := prog_58_method_27_code
def yJ10_newLength : MethodName := ⟨RJ10, "newLength", "(III)I"⟩
abbrev cJ10_hugeLength : ByteArray := prog_58_method_28_code
def yJ10_hugeLength : MethodName := ⟨RJ10, "hugeLength", "(II)I"⟩
abbrev cJ11_max : ByteArray := prog_38_method_65_code
def yJ11_max : MethodName := ⟨RJ11, "max", "(II)I"⟩
abbrev cJ11_min : ByteArray := prog_38_method_69_code
def yJ11_min : MethodName := ⟨RJ11, "min", "(II)I"⟩
abbrev cJ12_canEncode : ByteArray := prog_42_method_3_code
def yJ12_canEncode : MethodName := ⟨RJ12, "canEncode", "(C)Z"⟩
abbrev cJ12_inflate : ByteArray := prog_42_method_50_code
def yJ12_inflate : MethodName := ⟨RJ12, "inflate", "([BI[BII)V"⟩
abbrev cJ12_equals : ByteArray := prog_42_method_13_code
def yJ12_equals : MethodName := ⟨RJ12, "equals", "([B[B)Z"⟩
abbrev cJ12_indexOf : ByteArray := prog_42_method_24_code
def yJ12_indexOf : MethodName := ⟨RJ12, "indexOf", "([B[B)I"⟩
abbrev cJ12_indexOf_2 : ByteArray := prog_42_method_25_code
def yJ12_indexOf_2 : MethodName := ⟨RJ12, "indexOf", "([BI[BII)I"⟩
abbrev cJ13_init : ByteArray := prog_45_method_1_code
def yJ13_init : MethodName := ⟨RJ13, "<init>", "()V"⟩
abbrev cJ13_init_2 : ByteArray := prog_45_method_5_code
def yJ13_init_2 : MethodName := ⟨RJ13, "<init>", "(Ljava/lang/String;Ljava/lang/Throwable;ZZ)V"⟩
abbrev cJ14_init : ByteArray := prog_35_method_5_code
def yJ14_init : MethodName := ⟨RJ14, "<init>", "(Ljava/lang/String;Ljava/lang/Throwable;ZZ)V"⟩
abbrev cJ14_init_2 : ByteArray := prog_35_method_1_code
def yJ14_init_2 : MethodName := ⟨RJ14, "<init>", "()V"⟩
abbrev cJ15_init : ByteArray := prog_39_method_1_code
def yJ15_init : MethodName := ⟨RJ15, "<init>", "()V"⟩
abbrev cJ16_init : ByteArray := prog_54_method_1_code
def yJ16_init : MethodName := ⟨RJ16, "<init>", "()V"⟩
abbrev cJ17_bitCount : ByteArray := prog_36_method_49_code
def yJ17_bitCount : MethodName := ⟨RJ17, "bitCount", "(I)I"⟩
abbrev cJ18_init : ByteArray := object_method_1_code
def yJ18_init : MethodName := ⟨RJ18, "<init>", "()V"⟩
abbrev cJ2_init : ByteArray := prog_50_method_2_code
def yJ2_init : MethodName := ⟨RJ2, "<init>", "()V"⟩
abbrev cJ2_size : ByteArray := prog_50_method_8_code
def yJ2_size : MethodName := ⟨RJ2, "size", "()I"⟩
abbrev cJ2_get : ByteArray := prog_50_method_20_code
def yJ2_get : MethodName := ⟨RJ2, "get", "(I)Ljava/lang/Object;"⟩
abbrev cJ2_elementData : ByteArray := prog_50_method_18_code
def yJ2_elementData : MethodName := ⟨RJ2, "elementData", "(I)Ljava/lang/Object;"⟩
abbrev cJ2_add : ByteArray := prog_50_method_25_code
def yJ2_add : MethodName := ⟨RJ2, "add", "(Ljava/lang/Object;)Z"⟩
abbrev cJ2_add_2 : ByteArray := prog_50_method_24_code
def yJ2_add_2 : MethodName := ⟨RJ2, "add", "(Ljava/lang/Object;[Ljava/lang/Object;I)V"⟩
abbrev cJ2_grow : ByteArray := prog_50_method_7_code
def yJ2_grow : MethodName := ⟨RJ2, "grow", "()[Ljava/lang/Object;"⟩
abbrev cJ2_grow_2 : ByteArray := prog_50_method_6_code
def yJ2_grow_2 : MethodName := ⟨RJ2, "grow", "(I)[Ljava/lang/Object;"⟩
abbrev cJ3_fill : ByteArray := prog_51_method_103_code
def yJ3_fill : MethodName := ⟨RJ3, "fill", "([II)V"⟩
abbrev cJ3_copyOf : ByteArray := prog_51_method_121_code
def yJ3_copyOf : MethodName := ⟨RJ3, "copyOf", "([BI)[B"⟩
abbrev cJ3_copyOfRange : ByteArray := prog_51_method_132_code
def yJ3_copyOfRange : MethodName := ⟨RJ3, "copyOfRange", "([BII)[B"⟩
abbrev cJ3_copyOfRangeByte : ByteArray := prog_51_method_133_code
def yJ3_copyOfRangeByte : MethodName := ⟨RJ3, "copyOfRangeByte", "([BII)[B"⟩
abbrev cJ3_checkLength : ByteArray := prog_51_method_131_code
def yJ3_checkLength : MethodName := ⟨RJ3, "checkLength", "(II)V"⟩
abbrev cJ3_copyOf_2 : ByteArray := prog_51_method_119_code
def yJ3_copyOf_2 : MethodName := ⟨RJ3, "copyOf", "([Ljava/lang/Object;I)[Ljava/lang/Object;"⟩
abbrev cJ3_copyOf_3 : ByteArray := prog_51_method_120_code
def yJ3_copyOf_3 : MethodName := ⟨RJ3, "copyOf", "([Ljava/lang/Object;ILjava/lang/Class;)[Ljava/lang/Object;"⟩
abbrev cJ4_checkIndex : ByteArray := prog_55_method_17_code
def yJ4_checkIndex : MethodName := ⟨RJ4, "checkIndex", "(II)I"⟩
abbrev cJ5_checkIndex : ByteArray := prog_59_method_11_code
def yJ5_checkIndex : MethodName := ⟨RJ5, "checkIndex", "(IILjava/util/function/BiFunction;)I"⟩
abbrev cJ5_checkFromIndexSize : ByteArray := prog_59_method_13_code
def yJ5_checkFromIndexSize : MethodName := ⟨RJ5, "checkFromIndexSize", "(IIILjava/util/function/BiFunction;)I"⟩
abbrev cJ5_checkFromToIndex : ByteArray := prog_59_method_12_code
def yJ5_checkFromToIndex : MethodName := ⟨RJ5, "checkFromToIndex", "(IIILjava/util/function/BiFunction;)I"⟩
abbrev cJ6_init : ByteArray := prog_30_method_2_code
def yJ6_init : MethodName := ⟨RJ6, "<init>", "(I)V"⟩
abbrev cJ6_append : ByteArray := prog_30_method_31_code
def yJ6_append : MethodName := ⟨RJ6, "append", "(C)Ljava/lang/AbstractStringBuilder;"⟩
abbrev cJ6_ensureCapacityInternal : ByteArray := prog_30_method_9_code
def yJ6_ensureCapacityInternal : MethodName := ⟨RJ6, "ensureCapacityInternal", "(I)V"⟩
abbrev cJ6_newCapacity : ByteArray := prog_30_method_10_code
def yJ6_newCapacity : MethodName := ⟨RJ6, "newCapacity", "(I)I"⟩
abbrev cJ6_isLatin1 : ByteArray := prog_30_method_68_code
def yJ6_isLatin1 : MethodName := ⟨RJ6, "isLatin1", "()Z"⟩
abbrev cJ6_inflate : ByteArray := prog_30_method_11_code
def yJ6_inflate : MethodName := ⟨RJ6, "inflate", "()V"⟩
abbrev cJ6_getValue : ByteArray := prog_30_method_64_code
def yJ6_getValue : MethodName := ⟨RJ6, "getValue", "()[B"⟩
abbrev cJ6_length : ByteArray := prog_30_method_6_code
def yJ6_length : MethodName := ⟨RJ6, "length", "()I"⟩
abbrev cJ6_append_2 : ByteArray := prog_30_method_22_code
def yJ6_append_2 : MethodName := ⟨RJ6, "append", "(Ljava/lang/String;)Ljava/lang/AbstractStringBuilder;"⟩
abbrev cJ6_appendNull : ByteArray := prog_30_method_26_code
def yJ6_appendNull : MethodName := ⟨RJ6, "appendNull", "()Ljava/lang/AbstractStringBuilder;"⟩
abbrev cJ6_putStringAt : ByteArray := prog_30_method_73_code
def yJ6_putStringAt : MethodName := ⟨RJ6, "putStringAt", "(ILjava/lang/String;)V"⟩
abbrev cJ6_inflateIfNeededFor : ByteArray := prog_30_method_71_code
def yJ6_inflateIfNeededFor : MethodName := ⟨RJ6, "inflateIfNeededFor", "(Ljava/lang/String;)V"⟩
abbrev cJ7_init : ByteArray := prog_41_method_1_code
def yJ7_init : MethodName := ⟨RJ7, "<init>", "()V"⟩
abbrev cJ7_append : ByteArray := prog_41_method_14_code
def yJ7_append : MethodName := ⟨RJ7, "append", "(C)Ljava/lang/StringBuilder;"⟩
abbrev cJ7_toString : ByteArray := prog_41_method_42_code
def yJ7_toString : MethodName := ⟨RJ7, "toString", "()Ljava/lang/String;"⟩
abbrev cJ7_length : ByteArray := prog_41_method_93_code
def yJ7_length : MethodName := ⟨RJ7, "length", "()I"⟩
abbrev cJ7_append_2 : ByteArray := prog_41_method_7_code
def yJ7_append_2 : MethodName := ⟨RJ7, "append", "(Ljava/lang/String;)Ljava/lang/StringBuilder;"⟩
abbrev cJ8_checkBoundsOffCount : ByteArray := prog_40_method_157_code
def yJ8_checkBoundsOffCount : MethodName := ⟨RJ8, "checkBoundsOffCount", "(III)I"⟩
abbrev cJ8_checkIndex : ByteArray := prog_40_method_155_code
def yJ8_checkIndex : MethodName := ⟨RJ8, "checkIndex", "(II)V"⟩
abbrev cJ8_init : ByteArray := prog_40_method_53_code
def yJ8_init : MethodName := ⟨RJ8, "<init>", "(Ljava/lang/StringBuilder;)V"⟩
abbrev cJ8_init_2 : ByteArray := prog_40_method_150_code
def yJ8_init_2 : MethodName := ⟨RJ8, "<init>", "(Ljava/lang/AbstractStringBuilder;Ljava/lang/Void;)V"⟩
abbrev cJ8_equals : ByteArray := prog_40_method_66_code
def yJ8_equals : MethodName := ⟨RJ8, "equals", "(Ljava/lang/Object;)Z"⟩
abbrev cJ8_checkBoundsBeginEnd : ByteArray := prog_40_method_158_code
def yJ8_checkBoundsBeginEnd : MethodName := ⟨RJ8, "checkBoundsBeginEnd", "(III)V"⟩
abbrev cJ8_length : ByteArray := prog_40_method_54_code
def yJ8_length : MethodName := ⟨RJ8, "length", "()I"⟩
abbrev cJ8_coder : ByteArray := prog_40_method_152_code
def yJ8_coder : MethodName := ⟨RJ8, "coder", "()B"⟩
abbrev cJ8_getBytes : ByteArray := prog_40_method_147_code
def yJ8_getBytes : MethodName := ⟨RJ8, "getBytes", "([BIB)V"⟩
abbrev cJ8_indexOf : ByteArray := prog_40_method_84_code
def yJ8_indexOf : MethodName := ⟨RJ8, "indexOf", "(Ljava/lang/String;)I"⟩
abbrev cJ8_isLatin1 : ByteArray := prog_40_method_154_code
def yJ8_isLatin1 : MethodName := ⟨RJ8, "isLatin1", "()Z"⟩
abbrev cJ9_newBytesFor : ByteArray := prog_43_method_2_code
def yJ9_newBytesFor : MethodName := ⟨RJ9, "newBytesFor", "(I)[B"⟩
abbrev cJ9_newBytesLength : ByteArray := prog_43_method_3_code
def yJ9_newBytesLength : MethodName := ⟨RJ9, "newBytesLength", "(I)I"⟩
abbrev cJ9_inflate : ByteArray := prog_43_method_86_code
def yJ9_inflate : MethodName := ⟨RJ9, "inflate", "([BI[BII)V"⟩
abbrev cJ9_checkBoundsOffCount : ByteArray := prog_43_method_94_code
def yJ9_checkBoundsOffCount : MethodName := ⟨RJ9, "checkBoundsOffCount", "(II[B)V"⟩
abbrev cJ9_length : ByteArray := prog_43_method_6_code
def yJ9_length : MethodName := ⟨RJ9, "length", "([B)I"⟩
abbrev cJ9_putChar : ByteArray := prog_43_method_4_code
def yJ9_putChar : MethodName := ⟨RJ9, "putChar", "([BII)V"⟩
abbrev cJ9_putCharSB : ByteArray := prog_43_method_71_code
def yJ9_putCharSB : MethodName := ⟨RJ9, "putCharSB", "([BII)V"⟩
abbrev cJ9_checkIndex : ByteArray := prog_43_method_91_code
def yJ9_checkIndex : MethodName := ⟨RJ9, "checkIndex", "(I[B)V"⟩
abbrev cJ9_compress : ByteArray := prog_43_method_17_code
def yJ9_compress : MethodName := ⟨RJ9, "compress", "([BII)[B"⟩
abbrev cJ9_compress_2 : ByteArray := prog_43_method_22_code
def yJ9_compress_2 : MethodName := ⟨RJ9, "compress", "([BI[BII)I"⟩
abbrev cJ9_getChar : ByteArray := prog_43_method_5_code
def yJ9_getChar : MethodName := ⟨RJ9, "getChar", "([BI)C"⟩
abbrev cJ9_coderFromArrayLen : ByteArray := prog_43_method_15_code
def yJ9_coderFromArrayLen : MethodName := ⟨RJ9, "coderFromArrayLen", "([BI)B"⟩
abbrev cJ9_putCharsAt : ByteArray := prog_43_method_81_code
def yJ9_putCharsAt : MethodName := ⟨RJ9, "putCharsAt", "([BICCCC)I"⟩
abbrev cJ9_checkBoundsBeginEnd : ByteArray := prog_43_method_93_code
def yJ9_checkBoundsBeginEnd : MethodName := ⟨RJ9, "checkBoundsBeginEnd", "(II[B)V"⟩
abbrev cJ9_indexOf : ByteArray := prog_43_method_41_code
def yJ9_indexOf : MethodName := ⟨RJ9, "indexOf", "([B[B)I"⟩
abbrev cJ9_indexOfUnsafe : ByteArray := prog_43_method_43_code
def yJ9_indexOfUnsafe : MethodName := ⟨RJ9, "indexOfUnsafe", "([BI[BII)I"⟩
abbrev cJ9_indexOfLatin1 : ByteArray := prog_43_method_44_code
def yJ9_indexOfLatin1 : MethodName := ⟨RJ9, "indexOfLatin1", "([B[B)I"⟩
abbrev cJ9_indexOfLatin1Unsafe : ByteArray := prog_43_method_46_code
def yJ9_indexOfLatin1Unsafe : MethodName := ⟨RJ9, "indexOfLatin1Unsafe", "([BI[BII)I"⟩
abbrev cL_law : ByteArray := code
abbrev cX0_man : ByteArray := method_3_code
def yX0_man : MethodName := ⟨RX0, "man", "(LHeldCoats;II[J)I"⟩
abbrev cX0_coat : ByteArray := method_4_code
def yX0_coat : MethodName := ⟨RX0, "coat", "(LHeldCoats;II[J)I"⟩
abbrev cX1_init : ByteArray := prog_1_method_5_code
def yX1_init : MethodName := ⟨RX1, "<init>", "()V"⟩
abbrev cX1_feed : ByteArray := prog_1_method_7_code
def yX1_feed : MethodName := ⟨RX1, "feed", "(IIIII)I"⟩
abbrev cX1_come : ByteArray := prog_1_method_6_code
def yX1_come : MethodName := ⟨RX1, "come", "(I)V"⟩
abbrev cX1_end : ByteArray := prog_1_method_8_code
def yX1_end : MethodName := ⟨RX1, "end", "(I)Z"⟩
abbrev cX1_capital : ByteArray := prog_1_method_11_code
def yX1_capital : MethodName := ⟨RX1, "capital", "()I"⟩
abbrev cX1_take : ByteArray := prog_1_method_9_code
def yX1_take : MethodName := ⟨RX1, "take", "()I"⟩
abbrev cX1_isIn : ByteArray := prog_1_method_1_code
def yX1_isIn : MethodName := ⟨RX1, "isIn", "(III)Z"⟩
abbrev cX1_isOf : ByteArray := prog_1_method_2_code
def yX1_isOf : MethodName := ⟨RX1, "isOf", "(II)Z"⟩
abbrev cX1_fault : ByteArray := prog_1_method_12_code
def yX1_fault : MethodName := ⟨RX1, "fault", "()I"⟩
abbrev cX1_seat : ByteArray := prog_1_method_20_code
def yX1_seat : MethodName := ⟨RX1, "seat", "(II)I"⟩
abbrev cX1_isSeat : ByteArray := prog_1_method_13_code
def yX1_isSeat : MethodName := ⟨RX1, "isSeat", "(I)Z"⟩
abbrev cX1_lain : ByteArray := prog_1_method_4_code
def yX1_lain : MethodName := ⟨RX1, "lain", "(LHeldCoats$Reign;I)I"⟩
abbrev cX1_now : ByteArray := prog_1_method_23_code
def yX1_now : MethodName := ⟨RX1, "now", "(I)I"⟩
abbrev cX1_lay : ByteArray := prog_1_method_26_code
def yX1_lay : MethodName := ⟨RX1, "lay", "(II)I"⟩
abbrev cX1_isCoat : ByteArray := prog_1_method_15_code
def yX1_isCoat : MethodName := ⟨RX1, "isCoat", "(I)Z"⟩
abbrev cX1_does : ByteArray := prog_1_method_25_code
def yX1_does : MethodName := ⟨RX1, "does", "(LHeldCoats$Act;)I"⟩
abbrev cX1_snap : ByteArray := prog_1_method_24_code
def yX1_snap : MethodName := ⟨RX1, "snap", "()V"⟩
abbrev cX1_wear : ByteArray := prog_1_method_27_code
def yX1_wear : MethodName := ⟨RX1, "wear", "(II)I"⟩
abbrev cX1_isMan : ByteArray := prog_1_method_14_code
def yX1_isMan : MethodName := ⟨RX1, "isMan", "(I)Z"⟩
abbrev cX1_lend : ByteArray := prog_1_method_28_code
def yX1_lend : MethodName := ⟨RX1, "lend", "(II)I"⟩
abbrev cX1_keep : ByteArray := prog_1_method_29_code
def yX1_keep : MethodName := ⟨RX1, "keep", "(I)I"⟩
abbrev cX1_days : ByteArray := prog_1_method_30_code
def yX1_days : MethodName := ⟨RX1, "days", "(I)I"⟩
abbrev cX1_undo : ByteArray := prog_1_method_31_code
def yX1_undo : MethodName := ⟨RX1, "undo", "()I"⟩
abbrev cX1_best : ByteArray := prog_1_method_33_code
def yX1_best : MethodName := ⟨RX1, "best", "(II)I"⟩
abbrev cX1_worthOf : ByteArray := prog_1_method_32_code
def yX1_worthOf : MethodName := ⟨RX1, "worthOf", "(I)I"⟩
abbrev cX1_seats : ByteArray := prog_1_method_17_code
def yX1_seats : MethodName := ⟨RX1, "seats", "()I"⟩
abbrev cX1_laid : ByteArray := prog_1_method_34_code
def yX1_laid : MethodName := ⟨RX1, "laid", "()I"⟩
abbrev cX1_share : ByteArray := prog_1_method_36_code
def yX1_share : MethodName := ⟨RX1, "share", "(IIII)I"⟩
abbrev cX1_areTwo : ByteArray := prog_1_method_16_code
def yX1_areTwo : MethodName := ⟨RX1, "areTwo", "(II)Z"⟩
abbrev cX1_harmIn : ByteArray := prog_1_method_35_code
def yX1_harmIn : MethodName := ⟨RX1, "harmIn", "(IIZI)I"⟩
abbrev cX1_turns : ByteArray := prog_1_method_37_code
def yX1_turns : MethodName := ⟨RX1, "turns", "()I"⟩
abbrev cX1_ahead : ByteArray := prog_1_method_38_code
def yX1_ahead : MethodName := ⟨RX1, "ahead", "(I)I"⟩
abbrev cX1_queue : ByteArray := prog_1_method_39_code
def yX1_queue : MethodName := ⟨RX1, "queue", "(I)I"⟩
abbrev cX1_bribes : ByteArray := prog_1_method_40_code
def yX1_bribes : MethodName := ⟨RX1, "bribes", "(I)I"⟩
abbrev cX1_coats : ByteArray := prog_1_method_19_code
def yX1_coats : MethodName := ⟨RX1, "coats", "()I"⟩
abbrev cX1_frost : ByteArray := prog_1_method_42_code
def yX1_frost : MethodName := ⟨RX1, "frost", "(II)I"⟩
abbrev cX1_layFrost : ByteArray := prog_1_method_41_code
def yX1_layFrost : MethodName := ⟨RX1, "layFrost", "(II)Z"⟩
abbrev cX1_frostAt : ByteArray := prog_1_method_43_code
def yX1_frostAt : MethodName := ⟨RX1, "frostAt", "(II)I"⟩
abbrev cX1_word : ByteArray := prog_1_method_44_code
def yX1_word : MethodName := ⟨RX1, "word", "(I)I"⟩
abbrev cX1_bare : ByteArray := prog_1_method_46_code
def yX1_bare : MethodName := ⟨RX1, "bare", "()I"⟩
abbrev cX1_firstDay : ByteArray := prog_1_method_45_code
def yX1_firstDay : MethodName := ⟨RX1, "firstDay", "(I)I"⟩
abbrev cX1_rules : ByteArray := prog_1_method_47_code
def yX1_rules : MethodName := ⟨RX1, "rules", "(I)I"⟩
abbrev cX1_harm : ByteArray := prog_1_method_48_code
def yX1_harm : MethodName := ⟨RX1, "harm", "(II)I"⟩
abbrev cX1_hooks : ByteArray := prog_1_method_49_code
def yX1_hooks : MethodName := ⟨RX1, "hooks", "()I"⟩
abbrev cX1_onTape : ByteArray := prog_1_method_10_code
def yX1_onTape : MethodName := ⟨RX1, "onTape", "(I)I"⟩
abbrev cX1_men : ByteArray := prog_1_method_18_code
def yX1_men : MethodName := ⟨RX1, "men", "()I"⟩
abbrev cX1_surely : ByteArray := prog_1_method_50_code
def yX1_surely : MethodName := ⟨RX1, "surely", "()I"⟩
abbrev cX1_never : ByteArray := prog_1_method_51_code
def yX1_never : MethodName := ⟨RX1, "never", "()I"⟩
abbrev cX1_rounds : ByteArray := prog_1_method_53_code
def yX1_rounds : MethodName := ⟨RX1, "rounds", "()I"⟩
abbrev cX1_cold : ByteArray := prog_1_method_52_code
def yX1_cold : MethodName := ⟨RX1, "cold", "(I)I"⟩
abbrev cX1_price : ByteArray := prog_1_method_54_code
def yX1_price : MethodName := ⟨RX1, "price", "()I"⟩
abbrev cX1_drawn : ByteArray := prog_1_method_55_code
def yX1_drawn : MethodName := ⟨RX1, "drawn", "(II)I"⟩
abbrev cX1_odds : ByteArray := prog_1_method_56_code
def yX1_odds : MethodName := ⟨RX1, "odds", "(III)I"⟩
abbrev cX1_book : ByteArray := prog_1_method_57_code
def yX1_book : MethodName := ⟨RX1, "book", "(I)I"⟩
abbrev cX1_lived : ByteArray := prog_1_method_58_code
def yX1_lived : MethodName := ⟨RX1, "lived", "(Ljava/util/ArrayList;Z)I"⟩
abbrev cX1_told : ByteArray := prog_1_method_59_code
def yX1_told : MethodName := ⟨RX1, "told", "(I)I"⟩
abbrev cX1_sentence : ByteArray := prog_1_method_60_code
def yX1_sentence : MethodName := ⟨RX1, "sentence", "()I"⟩
abbrev cX1_said : ByteArray := prog_1_method_61_code
def yX1_said : MethodName := ⟨RX1, "said", "(I)I"⟩
abbrev cX1_image : ByteArray := prog_1_method_62_code
def yX1_image : MethodName := ⟨RX1, "image", "(I)Z"⟩
abbrev cX1_restore : ByteArray := prog_1_method_63_code
def yX1_restore : MethodName := ⟨RX1, "restore", "(I)Z"⟩
abbrev cX1_count : ByteArray := prog_1_method_64_code
def yX1_count : MethodName := ⟨RX1, "count", "(I)I"⟩
abbrev cX1_man : ByteArray := prog_1_method_21_code
def yX1_man : MethodName := ⟨RX1, "man", "(II)I"⟩
abbrev cX1_need : ByteArray := prog_1_method_3_code
def yX1_need : MethodName := ⟨RX1, "need", "(Z)V"⟩
abbrev cX1_coat : ByteArray := prog_1_method_22_code
def yX1_coat : MethodName := ⟨RX1, "coat", "(II)I"⟩
abbrev cX10_init : ByteArray := prog_23_method_1_code
def yX10_init : MethodName := ⟨RX10, "<init>", "(Ljava/lang/String;I)V"⟩
abbrev cX11_init : ByteArray := prog_6_method_1_code
def yX11_init : MethodName := ⟨RX11, "<init>", "(Ljava/lang/String;III)V"⟩
abbrev cX12_init : ByteArray := prog_2_method_1_code
def yX12_init : MethodName := ⟨RX12, "<init>", "()V"⟩
abbrev cX12_told : ByteArray := prog_2_method_3_code
def yX12_told : MethodName := ⟨RX12, "told", "(II)I"⟩
abbrev cX13_init : ByteArray := prog_17_method_1_code
def yX13_init : MethodName := ⟨RX13, "<init>", "(I)V"⟩
abbrev cX14_init : ByteArray := prog_26_method_1_code
def yX14_init : MethodName := ⟨RX14, "<init>", "(II)V"⟩
abbrev cX15_init : ByteArray := prog_13_method_1_code
def yX15_init : MethodName := ⟨RX15, "<init>", "(II)V"⟩
abbrev cX15_does : ByteArray := prog_13_method_2_code
def yX15_does : MethodName := ⟨RX15, "does", "(LHeldCoats$Reign;)I"⟩
abbrev cX16_does : ByteArray := prog_12_method_2_code
def yX16_does : MethodName := ⟨RX16, "does", "(LHeldCoats$Reign;)I"⟩
abbrev cX16_init : ByteArray := prog_12_method_1_code
def yX16_init : MethodName := ⟨RX16, "<init>", "(II)V"⟩
abbrev cX17_does : ByteArray := prog_21_method_2_code
def yX17_does : MethodName := ⟨RX17, "does", "(LHeldCoats$Reign;)I"⟩
abbrev cX17_init : ByteArray := prog_21_method_1_code
def yX17_init : MethodName := ⟨RX17, "<init>", "(I)V"⟩
abbrev cX18_does : ByteArray := prog_25_method_2_code
def yX18_does : MethodName := ⟨RX18, "does", "(LHeldCoats$Reign;)I"⟩
abbrev cX18_init : ByteArray := prog_25_method_1_code
def yX18_init : MethodName := ⟨RX18, "<init>", "(II)V"⟩
abbrev cX19_init : ByteArray := prog_3_method_1_code
def yX19_init : MethodName := ⟨RX19, "<init>", "([BILHeldCoats$Capital;)V"⟩
abbrev cX19_read : ByteArray := prog_3_method_2_code
def yX19_read : MethodName := ⟨RX19, "read", "()Ljava/util/ArrayList;"⟩
abbrev cX19_act : ByteArray := prog_3_method_3_code
def yX19_act : MethodName := ⟨RX19, "act", "()LHeldCoats$Act;"⟩
abbrev cX19_wears : ByteArray := prog_3_method_4_code
def yX19_wears : MethodName := ⟨RX19, "wears", "(I)LHeldCoats$Act;"⟩
abbrev cX19_of : ByteArray := prog_3_method_5_code
def yX19_of : MethodName := ⟨RX19, "of", "(I)LHeldCoats$Act;"⟩
abbrev cX2_init : ByteArray := prog_4_method_1_code
def yX2_init : MethodName := ⟨RX2, "<init>", "()V"⟩
abbrev cX2_isSeat : ByteArray := prog_4_method_2_code
def yX2_isSeat : MethodName := ⟨RX2, "isSeat", "(I)Z"⟩
abbrev cX2_isSummer : ByteArray := prog_4_method_6_code
def yX2_isSummer : MethodName := ⟨RX2, "isSummer", "(I)Z"⟩
abbrev cX2_cold : ByteArray := prog_4_method_5_code
def yX2_cold : MethodName := ⟨RX2, "cold", "(I)I"⟩
abbrev cX2_isCoat : ByteArray := prog_4_method_4_code
def yX2_isCoat : MethodName := ⟨RX2, "isCoat", "(I)Z"⟩
abbrev cX2_isMan : ByteArray := prog_4_method_3_code
def yX2_isMan : MethodName := ⟨RX2, "isMan", "(I)Z"⟩
abbrev cX2_coatsOf : ByteArray := prog_4_method_7_code
def yX2_coatsOf : MethodName := ⟨RX2, "coatsOf", "(I)I"⟩
abbrev cX20_does : ByteArray := prog_8_method_2_code
def yX20_does : MethodName := ⟨RX20, "does", "(LHeldCoats$Reign;)I"⟩
abbrev cX20_init : ByteArray := prog_8_method_1_code
def yX20_init : MethodName := ⟨RX20, "<init>", "(I)V"⟩
abbrev cX21_init : ByteArray := prog_20_method_1_code
def yX21_init : MethodName := ⟨RX21, "<init>", "([BILHeldCoats$Capital;)V"⟩
abbrev cX21_read : ByteArray := prog_20_method_2_code
def yX21_read : MethodName := ⟨RX21, "read", "()LHeldCoats$Cond;"⟩
abbrev cX21_or : ByteArray := prog_20_method_3_code
def yX21_or : MethodName := ⟨RX21, "or", "()LHeldCoats$Cond;"⟩
abbrev cX21_and : ByteArray := prog_20_method_4_code
def yX21_and : MethodName := ⟨RX21, "and", "()LHeldCoats$Cond;"⟩
abbrev cX21_says : ByteArray := prog_20_method_6_code
def yX21_says : MethodName := ⟨RX21, "says", "()LHeldCoats$Cond;"⟩
abbrev cX21_numbered : ByteArray := prog_20_method_5_code
def yX21_numbered : MethodName := ⟨RX21, "numbered", "()I"⟩
abbrev cX21_bracket : ByteArray := prog_20_method_7_code
def yX21_bracket : MethodName := ⟨RX21, "bracket", "()LHeldCoats$Cond;"⟩
abbrev cX21_than : ByteArray := prog_20_method_8_code
def yX21_than : MethodName := ⟨RX21, "than", "(I)LHeldCoats$Cond;"⟩
abbrev cX22_init : ByteArray := prog_7_method_1_code
def yX22_init : MethodName := ⟨RX22, "<init>", "()V"⟩
abbrev cX23_init : ByteArray := prog_15_method_1_code
def yX23_init : MethodName := ⟨RX23, "<init>", "(LHeldCoats$Cond;)V"⟩
abbrev cX23_holds : ByteArray := prog_15_method_2_code
def yX23_holds : MethodName := ⟨RX23, "holds", "(LHeldCoats$Reign;I)Z"⟩
abbrev cX24_init : ByteArray := prog_10_method_1_code
def yX24_init : MethodName := ⟨RX24, "<init>", "(Z)V"⟩
abbrev cX24_holds : ByteArray := prog_10_method_2_code
def yX24_holds : MethodName := ⟨RX24, "holds", "(LHeldCoats$Reign;I)Z"⟩
abbrev cX25_init : ByteArray := prog_16_method_1_code
def yX25_init : MethodName := ⟨RX25, "<init>", "(ZI)V"⟩
abbrev cX25_holds : ByteArray := prog_16_method_2_code
def yX25_holds : MethodName := ⟨RX25, "holds", "(LHeldCoats$Reign;I)Z"⟩
abbrev cX26_init : ByteArray := prog_22_method_1_code
def yX26_init : MethodName := ⟨RX26, "<init>", "(III)V"⟩
abbrev cX26_holds : ByteArray := prog_22_method_2_code
def yX26_holds : MethodName := ⟨RX26, "holds", "(LHeldCoats$Reign;I)Z"⟩
abbrev cX27_init : ByteArray := prog_24_method_1_code
def yX27_init : MethodName := ⟨RX27, "<init>", "(LHeldCoats$Cond;LHeldCoats$Cond;Z)V"⟩
abbrev cX27_holds : ByteArray := prog_24_method_2_code
def yX27_holds : MethodName := ⟨RX27, "holds", "(LHeldCoats$Reign;I)Z"⟩
abbrev cX3_init : ByteArray := prog_19_method_1_code
def yX3_init : MethodName := ⟨RX3, "<init>", "()V"⟩
abbrev cX3_begin : ByteArray := prog_19_method_2_code
def yX3_begin : MethodName := ⟨RX3, "begin", "(LHeldCoats$Capital;)LHeldCoats$Reign;"⟩
abbrev cX3_coats : ByteArray := prog_19_method_6_code
def yX3_coats : MethodName := ⟨RX3, "coats", "()I"⟩
abbrev cX3_on : ByteArray := prog_19_method_10_code
def yX3_on : MethodName := ⟨RX3, "on", "(I)I"⟩
abbrev cX3_holder : ByteArray := prog_19_method_12_code
def yX3_holder : MethodName := ⟨RX3, "holder", "(I)I"⟩
abbrev cX3_owner : ByteArray := prog_19_method_11_code
def yX3_owner : MethodName := ⟨RX3, "owner", "(I)I"⟩
abbrev cX3_ruler : ByteArray := prog_19_method_19_code
def yX3_ruler : MethodName := ⟨RX3, "ruler", "(Z)I"⟩
abbrev cX3_men : ByteArray := prog_19_method_7_code
def yX3_men : MethodName := ⟨RX3, "men", "()I"⟩
abbrev cX3_seats : ByteArray := prog_19_method_8_code
def yX3_seats : MethodName := ⟨RX3, "seats", "()I"⟩
abbrev cX3_as : ByteArray := prog_19_method_3_code
def yX3_as : MethodName := ⟨RX3, "as", "(LHeldCoats$Reign;)LHeldCoats$Reign;"⟩
abbrev cX3_copy : ByteArray := prog_19_method_4_code
def yX3_copy : MethodName := ⟨RX3, "copy", "([I[I)V"⟩
abbrev cX3_passAll : ByteArray := prog_19_method_31_code
def yX3_passAll : MethodName := ⟨RX3, "passAll", "(I)I"⟩
abbrev cX3_pass : ByteArray := prog_19_method_30_code
def yX3_pass : MethodName := ⟨RX3, "pass", "()Z"⟩
abbrev cX3_isOver : ByteArray := prog_19_method_5_code
def yX3_isOver : MethodName := ⟨RX3, "isOver", "()Z"⟩
abbrev cX3_noon : ByteArray := prog_19_method_28_code
def yX3_noon : MethodName := ⟨RX3, "noon", "()V"⟩
abbrev cX3_wornBy : ByteArray := prog_19_method_13_code
def yX3_wornBy : MethodName := ⟨RX3, "wornBy", "(I)I"⟩
abbrev cX3_chill : ByteArray := prog_19_method_15_code
def yX3_chill : MethodName := ⟨RX3, "chill", "(III)I"⟩
abbrev cX3_warmth : ByteArray := prog_19_method_14_code
def yX3_warmth : MethodName := ⟨RX3, "warmth", "(I)I"⟩
abbrev cX3_square : ByteArray := prog_19_method_16_code
def yX3_square : MethodName := ⟨RX3, "square", "(I)I"⟩
abbrev cX3_lies : ByteArray := prog_19_method_29_code
def yX3_lies : MethodName := ⟨RX3, "lies", "(I)V"⟩
abbrev cX3_keep : ByteArray := prog_19_method_27_code
def yX3_keep : MethodName := ⟨RX3, "keep", "(I)V"⟩
abbrev cX3_whyLend : ByteArray := prog_19_method_25_code
def yX3_whyLend : MethodName := ⟨RX3, "whyLend", "(II)I"⟩
abbrev cX3_whyLay : ByteArray := prog_19_method_20_code
def yX3_whyLay : MethodName := ⟨RX3, "whyLay", "(II)I"⟩
abbrev cX3_isWorn : ByteArray := prog_19_method_9_code
def yX3_isWorn : MethodName := ⟨RX3, "isWorn", "(I)Z"⟩
abbrev cX3_lay : ByteArray := prog_19_method_21_code
def yX3_lay : MethodName := ⟨RX3, "lay", "(II)V"⟩
abbrev cX3_whyKeep : ByteArray := prog_19_method_26_code
def yX3_whyKeep : MethodName := ⟨RX3, "whyKeep", "(I)I"⟩
abbrev cX3_whyWear : ByteArray := prog_19_method_22_code
def yX3_whyWear : MethodName := ⟨RX3, "whyWear", "(II)I"⟩
abbrev cX3_wear : ByteArray := prog_19_method_23_code
def yX3_wear : MethodName := ⟨RX3, "wear", "(II)V"⟩
abbrev cX3_leaves : ByteArray := prog_19_method_24_code
def yX3_leaves : MethodName := ⟨RX3, "leaves", "(I)V"⟩
abbrev cX3_drawn : ByteArray := prog_19_method_34_code
def yX3_drawn : MethodName := ⟨RX3, "drawn", "(II)I"⟩
abbrev cX3_acts : ByteArray := prog_19_method_33_code
def yX3_acts : MethodName := ⟨RX3, "acts", "(I)V"⟩
abbrev cX3_draw : ByteArray := prog_19_method_32_code
def yX3_draw : MethodName := ⟨RX3, "draw", "(I)I"⟩
abbrev cX3_heldBy : ByteArray := prog_19_method_17_code
def yX3_heldBy : MethodName := ⟨RX3, "heldBy", "(I)I"⟩
abbrev cX3_worth : ByteArray := prog_19_method_18_code
def yX3_worth : MethodName := ⟨RX3, "worth", "(I)I"⟩
abbrev cX4_init : ByteArray := prog_11_method_1_code
def yX4_init : MethodName := ⟨RX4, "<init>", "()V"⟩
abbrev cX5_thrown : ByteArray := prog_28_method_1_code
def yX5_thrown : MethodName := ⟨RX5, "thrown", "()I"⟩
abbrev cX5_feed : ByteArray := prog_28_method_3_code
def yX5_feed : MethodName := ⟨RX5, "feed", "(IIIII)I"⟩
abbrev cX5_four : ByteArray := prog_28_method_4_code
def yX5_four : MethodName := ⟨RX5, "four", "(I)V"⟩
abbrev cX5_end : ByteArray := prog_28_method_5_code
def yX5_end : MethodName := ⟨RX5, "end", "(I)Z"⟩
abbrev cX5_init : ByteArray := prog_28_method_12_code
def yX5_init : MethodName := ⟨RX5, "<init>", "()V"⟩
abbrev cX5_clears : ByteArray := prog_28_method_13_code
def yX5_clears : MethodName := ⟨RX5, "clears", "()V"⟩
abbrev cX5_capital : ByteArray := prog_28_method_32_code
def yX5_capital : MethodName := ⟨RX5, "capital", "()I"⟩
abbrev cX5_taken : ByteArray := prog_28_method_6_code
def yX5_taken : MethodName := ⟨RX5, "taken", "(I)V"⟩
abbrev cX5_next : ByteArray := prog_28_method_17_code
def yX5_next : MethodName := ⟨RX5, "next", "()V"⟩
abbrev cX5_peek : ByteArray := prog_28_method_14_code
def yX5_peek : MethodName := ⟨RX5, "peek", "()I"⟩
abbrev cX5_isSmall : ByteArray := prog_28_method_15_code
def yX5_isSmall : MethodName := ⟨RX5, "isSmall", "(I)Z"⟩
abbrev cX5_isDigit : ByteArray := prog_28_method_16_code
def yX5_isDigit : MethodName := ⟨RX5, "isDigit", "(I)Z"⟩
abbrev cX5_line : ByteArray := prog_28_method_30_code
def yX5_line : MethodName := ⟨RX5, "line", "()Z"⟩
abbrev cX5_isWord : ByteArray := prog_28_method_19_code
def yX5_isWord : MethodName := ⟨RX5, "isWord", "(J)Z"⟩
abbrev cX5_bad : ByteArray := prog_28_method_18_code
def yX5_bad : MethodName := ⟨RX5, "bad", "(I)Z"⟩
abbrev cX5_fresh : ByteArray := prog_28_method_26_code
def yX5_fresh : MethodName := ⟨RX5, "fresh", "(I)Z"⟩
abbrev cX5_isName : ByteArray := prog_28_method_22_code
def yX5_isName : MethodName := ⟨RX5, "isName", "()Z"⟩
abbrev cX5_find : ByteArray := prog_28_method_25_code
def yX5_find : MethodName := ⟨RX5, "find", "(II)I"⟩
abbrev cX5_puts : ByteArray := prog_28_method_24_code
def yX5_puts : MethodName := ⟨RX5, "puts", "(III)Z"⟩
abbrev cX5_takes : ByteArray := prog_28_method_23_code
def yX5_takes : MethodName := ⟨RX5, "takes", "(II)Z"⟩
abbrev cX5_isIn : ByteArray := prog_28_method_7_code
def yX5_isIn : MethodName := ⟨RX5, "isIn", "(III)Z"⟩
abbrev cX5_takesName : ByteArray := prog_28_method_28_code
def yX5_takesName : MethodName := ⟨RX5, "takesName", "(II)Z"⟩
abbrev cX5_looksAt : ByteArray := prog_28_method_27_code
def yX5_looksAt : MethodName := ⟨RX5, "looksAt", "(II)Z"⟩
abbrev cX5_readCold : ByteArray := prog_28_method_31_code
def yX5_readCold : MethodName := ⟨RX5, "readCold", "()Z"⟩
abbrev cX5_once : ByteArray := prog_28_method_29_code
def yX5_once : MethodName := ⟨RX5, "once", "(IIII)Z"⟩
abbrev cX5_bitOf : ByteArray := prog_28_method_8_code
def yX5_bitOf : MethodName := ⟨RX5, "bitOf", "(II)Z"⟩
abbrev cX5_sign : ByteArray := prog_28_method_21_code
def yX5_sign : MethodName := ⟨RX5, "sign", "(I)Z"⟩
abbrev cX5_isSign : ByteArray := prog_28_method_20_code
def yX5_isSign : MethodName := ⟨RX5, "isSign", "(I)Z"⟩
abbrev cX5_fault : ByteArray := prog_28_method_33_code
def yX5_fault : MethodName := ⟨RX5, "fault", "()I"⟩
abbrev cX5_seat : ByteArray := prog_28_method_49_code
def yX5_seat : MethodName := ⟨RX5, "seat", "(II)I"⟩
abbrev cX5_isSeat : ByteArray := prog_28_method_34_code
def yX5_isSeat : MethodName := ⟨RX5, "isSeat", "(I)Z"⟩
abbrev cX5_coatOn : ByteArray := prog_28_method_40_code
def yX5_coatOn : MethodName := ⟨RX5, "coatOn", "(I)I"⟩
abbrev cX5_holder : ByteArray := prog_28_method_42_code
def yX5_holder : MethodName := ⟨RX5, "holder", "(I)I"⟩
abbrev cX5_isSummer : ByteArray := prog_28_method_39_code
def yX5_isSummer : MethodName := ⟨RX5, "isSummer", "()Z"⟩
abbrev cX5_coldOn : ByteArray := prog_28_method_38_code
def yX5_coldOn : MethodName := ⟨RX5, "coldOn", "(I)I"⟩
abbrev cX5_whoseOn : ByteArray := prog_28_method_41_code
def yX5_whoseOn : MethodName := ⟨RX5, "whoseOn", "(I)I"⟩
abbrev cX5_man : ByteArray := prog_28_method_50_code
def yX5_man : MethodName := ⟨RX5, "man", "(II)I"⟩
abbrev cX5_isMan : ByteArray := prog_28_method_35_code
def yX5_isMan : MethodName := ⟨RX5, "isMan", "(I)Z"⟩
abbrev cX5_throwsIf : ByteArray := prog_28_method_2_code
def yX5_throwsIf : MethodName := ⟨RX5, "throwsIf", "(Z)Z"⟩
abbrev cX5_chill : ByteArray := prog_28_method_46_code
def yX5_chill : MethodName := ⟨RX5, "chill", "(I)I"⟩
abbrev cX5_coatsAt : ByteArray := prog_28_method_43_code
def yX5_coatsAt : MethodName := ⟨RX5, "coatsAt", "(I)I"⟩
abbrev cX5_chillIn : ByteArray := prog_28_method_45_code
def yX5_chillIn : MethodName := ⟨RX5, "chillIn", "(III)I"⟩
abbrev cX5_warmth : ByteArray := prog_28_method_44_code
def yX5_warmth : MethodName := ⟨RX5, "warmth", "(I)I"⟩
abbrev cX5_greater : ByteArray := prog_28_method_9_code
def yX5_greater : MethodName := ⟨RX5, "greater", "(II)I"⟩
abbrev cX5_coat : ByteArray := prog_28_method_51_code
def yX5_coat : MethodName := ⟨RX5, "coat", "(II)I"⟩
abbrev cX5_isCoat : ByteArray := prog_28_method_36_code
def yX5_isCoat : MethodName := ⟨RX5, "isCoat", "(I)Z"⟩
abbrev cX5_now : ByteArray := prog_28_method_52_code
def yX5_now : MethodName := ⟨RX5, "now", "(I)I"⟩
abbrev cX5_ruler : ByteArray := prog_28_method_48_code
def yX5_ruler : MethodName := ⟨RX5, "ruler", "()I"⟩
abbrev cX5_rulerBy : ByteArray := prog_28_method_47_code
def yX5_rulerBy : MethodName := ⟨RX5, "rulerBy", "(Z)I"⟩
abbrev cX5_lay : ByteArray := prog_28_method_63_code
def yX5_lay : MethodName := ⟨RX5, "lay", "(II)I"⟩
abbrev cX5_whyLay : ByteArray := prog_28_method_53_code
def yX5_whyLay : MethodName := ⟨RX5, "whyLay", "(II)I"⟩
abbrev cX5_isWorn : ByteArray := prog_28_method_37_code
def yX5_isWorn : MethodName := ⟨RX5, "isWorn", "(I)Z"⟩
abbrev cX5_keepsAll : ByteArray := prog_28_method_68_code
def yX5_keepsAll : MethodName := ⟨RX5, "keepsAll", "()V"⟩
abbrev cX5_lays : ByteArray := prog_28_method_54_code
def yX5_lays : MethodName := ⟨RX5, "lays", "(II)V"⟩
abbrev cX5_wear : ByteArray := prog_28_method_64_code
def yX5_wear : MethodName := ⟨RX5, "wear", "(II)I"⟩
abbrev cX5_whyWear : ByteArray := prog_28_method_55_code
def yX5_whyWear : MethodName := ⟨RX5, "whyWear", "(II)I"⟩
abbrev cX5_wears : ByteArray := prog_28_method_56_code
def yX5_wears : MethodName := ⟨RX5, "wears", "(II)V"⟩
abbrev cX5_unqueues : ByteArray := prog_28_method_57_code
def yX5_unqueues : MethodName := ⟨RX5, "unqueues", "(I)V"⟩
abbrev cX5_lend : ByteArray := prog_28_method_65_code
def yX5_lend : MethodName := ⟨RX5, "lend", "(II)I"⟩
abbrev cX5_whyLend : ByteArray := prog_28_method_58_code
def yX5_whyLend : MethodName := ⟨RX5, "whyLend", "(II)I"⟩
abbrev cX5_keep : ByteArray := prog_28_method_66_code
def yX5_keep : MethodName := ⟨RX5, "keep", "(I)I"⟩
abbrev cX5_keeps : ByteArray := prog_28_method_59_code
def yX5_keeps : MethodName := ⟨RX5, "keeps", "(I)V"⟩
abbrev cX5_days : ByteArray := prog_28_method_67_code
def yX5_days : MethodName := ⟨RX5, "days", "(I)I"⟩
abbrev cX5_goesOn : ByteArray := prog_28_method_62_code
def yX5_goesOn : MethodName := ⟨RX5, "goesOn", "(I)I"⟩
abbrev cX5_day : ByteArray := prog_28_method_61_code
def yX5_day : MethodName := ⟨RX5, "day", "()V"⟩
abbrev cX5_lying : ByteArray := prog_28_method_60_code
def yX5_lying : MethodName := ⟨RX5, "lying", "(I)V"⟩
abbrev cX5_undo : ByteArray := prog_28_method_69_code
def yX5_undo : MethodName := ⟨RX5, "undo", "()I"⟩
abbrev cX5_best : ByteArray := prog_28_method_73_code
def yX5_best : MethodName := ⟨RX5, "best", "(II)I"⟩
abbrev cX5_bits : ByteArray := prog_28_method_10_code
def yX5_bits : MethodName := ⟨RX5, "bits", "(I)I"⟩
abbrev cX5_worthOf : ByteArray := prog_28_method_72_code
def yX5_worthOf : MethodName := ⟨RX5, "worthOf", "(I)I"⟩
abbrev cX5_laid : ByteArray := prog_28_method_74_code
def yX5_laid : MethodName := ⟨RX5, "laid", "()I"⟩
abbrev cX5_share : ByteArray := prog_28_method_76_code
def yX5_share : MethodName := ⟨RX5, "share", "(IIII)I"⟩
abbrev cX5_harmIn : ByteArray := prog_28_method_75_code
def yX5_harmIn : MethodName := ⟨RX5, "harmIn", "(III)I"⟩
abbrev cX5_turns : ByteArray := prog_28_method_77_code
def yX5_turns : MethodName := ⟨RX5, "turns", "()I"⟩
abbrev cX5_ahead : ByteArray := prog_28_method_79_code
def yX5_ahead : MethodName := ⟨RX5, "ahead", "(I)I"⟩
abbrev cX5_aheadOf : ByteArray := prog_28_method_78_code
def yX5_aheadOf : MethodName := ⟨RX5, "aheadOf", "(I)I"⟩
abbrev cX5_queue : ByteArray := prog_28_method_80_code
def yX5_queue : MethodName := ⟨RX5, "queue", "(I)I"⟩
abbrev cX5_bribes : ByteArray := prog_28_method_81_code
def yX5_bribes : MethodName := ⟨RX5, "bribes", "(I)I"⟩
abbrev cX5_frost : ByteArray := prog_28_method_84_code
def yX5_frost : MethodName := ⟨RX5, "frost", "(II)I"⟩
abbrev cX5_areTwo : ByteArray := prog_28_method_83_code
def yX5_areTwo : MethodName := ⟨RX5, "areTwo", "(II)Z"⟩
abbrev cX5_frostOf : ByteArray := prog_28_method_82_code
def yX5_frostOf : MethodName := ⟨RX5, "frostOf", "(II)I"⟩
abbrev cX5_frostAt : ByteArray := prog_28_method_85_code
def yX5_frostAt : MethodName := ⟨RX5, "frostAt", "(II)I"⟩
abbrev cX5_word : ByteArray := prog_28_method_86_code
def yX5_word : MethodName := ⟨RX5, "word", "(I)I"⟩
abbrev cX5_tries : ByteArray := prog_28_method_70_code
def yX5_tries : MethodName := ⟨RX5, "tries", "()V"⟩
abbrev cX5_back : ByteArray := prog_28_method_71_code
def yX5_back : MethodName := ⟨RX5, "back", "()V"⟩
abbrev cX5_bare : ByteArray := prog_28_method_88_code
def yX5_bare : MethodName := ⟨RX5, "bare", "()I"⟩
abbrev cX5_firstOf : ByteArray := prog_28_method_87_code
def yX5_firstOf : MethodName := ⟨RX5, "firstOf", "(I)I"⟩
abbrev cX5_rules : ByteArray := prog_28_method_89_code
def yX5_rules : MethodName := ⟨RX5, "rules", "(I)I"⟩
abbrev cX5_harm : ByteArray := prog_28_method_90_code
def yX5_harm : MethodName := ⟨RX5, "harm", "(II)I"⟩
abbrev cX5_hooks : ByteArray := prog_28_method_91_code
def yX5_hooks : MethodName := ⟨RX5, "hooks", "()I"⟩
abbrev cX5_octet : ByteArray := prog_28_method_11_code
def yX5_octet : MethodName := ⟨RX5, "octet", "(I)I"⟩
abbrev cX5_surely : ByteArray := prog_28_method_92_code
def yX5_surely : MethodName := ⟨RX5, "surely", "()I"⟩
abbrev cX5_never : ByteArray := prog_28_method_93_code
def yX5_never : MethodName := ⟨RX5, "never", "()I"⟩
abbrev cX5_rounds : ByteArray := prog_28_method_94_code
def yX5_rounds : MethodName := ⟨RX5, "rounds", "()I"⟩
abbrev cX5_price : ByteArray := prog_28_method_95_code
def yX5_price : MethodName := ⟨RX5, "price", "()I"⟩
abbrev cX5_drawn : ByteArray := prog_28_method_99_code
def yX5_drawn : MethodName := ⟨RX5, "drawn", "(II)I"⟩
abbrev cX5_draws : ByteArray := prog_28_method_98_code
def yX5_draws : MethodName := ⟨RX5, "draws", "(II)I"⟩
abbrev cX5_drawsCoat : ByteArray := prog_28_method_97_code
def yX5_drawsCoat : MethodName := ⟨RX5, "drawsCoat", "(I)V"⟩
abbrev cX5_draw : ByteArray := prog_28_method_96_code
def yX5_draw : MethodName := ⟨RX5, "draw", "(I)I"⟩
abbrev cX5_odds : ByteArray := prog_28_method_100_code
def yX5_odds : MethodName := ⟨RX5, "odds", "(III)I"⟩
abbrev cX5_book : ByteArray := prog_28_method_103_code
def yX5_book : MethodName := ⟨RX5, "book", "(I)I"⟩
abbrev cX5_bookLine : ByteArray := prog_28_method_101_code
def yX5_bookLine : MethodName := ⟨RX5, "bookLine", "()Z"⟩
abbrev cX5_does : ByteArray := prog_28_method_102_code
def yX5_does : MethodName := ⟨RX5, "does", "(III)I"⟩
abbrev cX5_told : ByteArray := prog_28_method_104_code
def yX5_told : MethodName := ⟨RX5, "told", "(I)I"⟩
abbrev cX5_sentence : ByteArray := prog_28_method_111_code
def yX5_sentence : MethodName := ⟨RX5, "sentence", "()I"⟩
abbrev cX5_nots : ByteArray := prog_28_method_107_code
def yX5_nots : MethodName := ⟨RX5, "nots", "()V"⟩
abbrev cX5_code : ByteArray := prog_28_method_105_code
def yX5_code : MethodName := ⟨RX5, "code", "(III)V"⟩
abbrev cX5_joins : ByteArray := prog_28_method_106_code
def yX5_joins : MethodName := ⟨RX5, "joins", "(I)V"⟩
abbrev cX5_behind : ByteArray := prog_28_method_110_code
def yX5_behind : MethodName := ⟨RX5, "behind", "()Z"⟩
abbrev cX5_operand : ByteArray := prog_28_method_109_code
def yX5_operand : MethodName := ⟨RX5, "operand", "()Z"⟩
abbrev cX5_leafOf : ByteArray := prog_28_method_108_code
def yX5_leafOf : MethodName := ⟨RX5, "leafOf", "()I"⟩
abbrev cX5_said : ByteArray := prog_28_method_114_code
def yX5_said : MethodName := ⟨RX5, "said", "(I)I"⟩
abbrev cX5_isSaid : ByteArray := prog_28_method_113_code
def yX5_isSaid : MethodName := ⟨RX5, "isSaid", "(I)Z"⟩
abbrev cX5_isLeaf : ByteArray := prog_28_method_112_code
def yX5_isLeaf : MethodName := ⟨RX5, "isLeaf", "(IIII)Z"⟩
abbrev cX5_image : ByteArray := prog_28_method_115_code
def yX5_image : MethodName := ⟨RX5, "image", "(I)Z"⟩
abbrev cX5_restore : ByteArray := prog_28_method_116_code
def yX5_restore : MethodName := ⟨RX5, "restore", "(I)Z"⟩
abbrev cX5_count : ByteArray := prog_28_method_117_code
def yX5_count : MethodName := ⟨RX5, "count", "(I)I"⟩
abbrev cX6_init : ByteArray := prog_18_method_1_code
def yX6_init : MethodName := ⟨RX6, "<init>", "([BII)V"⟩
abbrev cX6_go : ByteArray := prog_18_method_5_code
def yX6_go : MethodName := ⟨RX6, "go", "()V"⟩
abbrev cX6_byteAt : ByteArray := prog_18_method_2_code
def yX6_byteAt : MethodName := ⟨RX6, "byteAt", "(I)I"⟩
abbrev cX6_isLetter : ByteArray := prog_18_method_4_code
def yX6_isLetter : MethodName := ⟨RX6, "isLetter", "(I)Z"⟩
abbrev cX6_isDigit : ByteArray := prog_18_method_3_code
def yX6_isDigit : MethodName := ⟨RX6, "isDigit", "(I)Z"⟩
abbrev cX6_is : ByteArray := prog_18_method_7_code
def yX6_is : MethodName := ⟨RX6, "is", "(Ljava/lang/String;)Z"⟩
abbrev cX6_need : ByteArray := prog_18_method_6_code
def yX6_need : MethodName := ⟨RX6, "need", "(ZI)V"⟩
abbrev cX6_isName : ByteArray := prog_18_method_8_code
def yX6_isName : MethodName := ⟨RX6, "isName", "()Z"⟩
abbrev cX6_find : ByteArray := prog_18_method_12_code
def yX6_find : MethodName := ⟨RX6, "find", "(Ljava/util/ArrayList;)I"⟩
abbrev cX6_number : ByteArray := prog_18_method_10_code
def yX6_number : MethodName := ⟨RX6, "number", "(II)I"⟩
abbrev cX6_holdNumber : ByteArray := prog_18_method_9_code
def yX6_holdNumber : MethodName := ⟨RX6, "holdNumber", "(II)I"⟩
abbrev cX6_one : ByteArray := prog_18_method_13_code
def yX6_one : MethodName := ⟨RX6, "one", "(Ljava/util/ArrayList;)I"⟩
abbrev cX6_end : ByteArray := prog_18_method_11_code
def yX6_end : MethodName := ⟨RX6, "end", "()V"⟩
abbrev cX7_init : ByteArray := prog_5_method_1_code
def yX7_init : MethodName := ⟨RX7, "<init>", "([BI)V"⟩
abbrev cX7_read : ByteArray := prog_5_method_2_code
def yX7_read : MethodName := ⟨RX7, "read", "()LHeldCoats$Capital;"⟩
abbrev cX7_line : ByteArray := prog_5_method_3_code
def yX7_line : MethodName := ⟨RX7, "line", "()V"⟩
abbrev cX7_told : ByteArray := prog_5_method_8_code
def yX7_told : MethodName := ⟨RX7, "told", "(Ljava/util/ArrayList;III)V"⟩
abbrev cX7_first : ByteArray := prog_5_method_6_code
def yX7_first : MethodName := ⟨RX7, "first", "(II)V"⟩
abbrev cX7_fresh : ByteArray := prog_5_method_7_code
def yX7_fresh : MethodName := ⟨RX7, "fresh", "()Ljava/lang/String;"⟩
abbrev cX7_coat : ByteArray := prog_5_method_9_code
def yX7_coat : MethodName := ⟨RX7, "coat", "()V"⟩
abbrev cX7_cold : ByteArray := prog_5_method_10_code
def yX7_cold : MethodName := ⟨RX7, "cold", "()V"⟩
abbrev cX7_once : ByteArray := prog_5_method_4_code
def yX7_once : MethodName := ⟨RX7, "once", "(III)I"⟩
abbrev cX7_limit : ByteArray := prog_5_method_5_code
def yX7_limit : MethodName := ⟨RX7, "limit", "()V"⟩
abbrev cX8_init : ByteArray := prog_9_method_1_code
def yX8_init : MethodName := ⟨RX8, "<init>", "(II)V"⟩
abbrev cX9_init : ByteArray := prog_14_method_1_code
def yX9_init : MethodName := ⟨RX9, "<init>", "(Ljava/lang/String;)V"⟩
/-- the classes of which objects are made, by number -/
def cz_cl : List vw_C := [(RX1, TX1, 18), (RX2, TX2, 11), (RJ2, TJ2, 3), (RX3, TX3, 14), (RX4, TX4, 3), (RX5, TX5, 49), (RX7, TX7, 11), (RJ7, TJ7, 4), (RJ8, TJ8, 4), (RX8, TX8, 8), (RX10, TX10, 2), (RX11, TX11, 4), (RX15, TX15, 2), (RX18, TX18, 2), (RX16, TX16, 2), (RX17, TX17, 1), (RX19, TX19, 11), (RX20, TX20, 1), (RX21, TX21, 12), (RX23, TX23, 1), (RX24, TX24, 1), (RX25, TX25, 2), (RX26, TX26, 3), (RX27, TX27, 3), (RJ16, TJ16, 0)]
theorem cz_cl0 : cz_cl[0]? = some (RX1, TX1, 18) := rfl
theorem cz_cl1 : cz_cl[1]? = some (RX2, TX2, 11) := rfl
theorem cz_cl2 : cz_cl[2]? = some (RJ2, TJ2, 3) := rfl
theorem cz_cl3 : cz_cl[3]? = some (RX3, TX3, 14) := rfl
theorem cz_cl4 : cz_cl[4]? = some (RX4, TX4, 3) := rfl
theorem cz_cl5 : cz_cl[5]? = some (RX5, TX5, 49) := rfl
theorem cz_cl6 : cz_cl[6]? = some (RX7, TX7, 11) := rfl
theorem cz_cl7 : cz_cl[7]? = some (RJ7, TJ7, 4) := rfl
theorem cz_cl8 : cz_cl[8]? = some (RJ8, TJ8, 4) := rfl
theorem cz_cl9 : cz_cl[9]? = some (RX8, TX8, 8) := rfl
theorem cz_cl10 : cz_cl[10]? = some (RX10, TX10, 2) := rfl
theorem cz_cl11 : cz_cl[11]? = some (RX11, TX11, 4) := rfl
theorem cz_cl12 : cz_cl[12]? = some (RX15, TX15, 2) := rfl
theorem cz_cl13 : cz_cl[13]? = some (RX18, TX18, 2) := rfl
theorem cz_cl14 : cz_cl[14]? = some (RX16, TX16, 2) := rfl
theorem cz_cl15 : cz_cl[15]? = some (RX17, TX17, 1) := rfl
theorem cz_cl16 : cz_cl[16]? = some (RX19, TX19, 11) := rfl
theorem cz_cl17 : cz_cl[17]? = some (RX20, TX20, 1) := rfl
theorem cz_cl18 : cz_cl[18]? = some (RX21, TX21, 12) := rfl
theorem cz_cl19 : cz_cl[19]? = some (RX23, TX23, 1) := rfl
theorem cz_cl20 : cz_cl[20]? = some (RX24, TX24, 1) := rfl
theorem cz_cl21 : cz_cl[21]? = some (RX25, TX25, 2) := rfl
theorem cz_cl22 : cz_cl[22]? = some (RX26, TX26, 3) := rfl
theorem cz_cl23 : cz_cl[23]? = some (RX27, TX27, 3) := rfl
theorem cz_cl24 : cz_cl[24]? = some (RJ16, TJ16, 0) := rfl
/-- what is known of each class by its words -/
def cz_ck (i : Nat) (q : vw_C) : Prop := (∀ w ∈ u_ws q.1 q.2.1 q.2.2, w ∈ lw_all) ∧ (∀ a, a < q.2.2 → ∀ b, b < q.2.2 → a ≠ b → (q.2.1 a).2.1 ≠ (q.2.1 b).2.1) ∧ (i = 24 ∨ Cond.instantiable q.1 q.2.2 ∈ lw_all) ∧ (Cond.initialized q.1 ∈ lw_all) ∧ ∃ ty : Nat → FieldType, ∀ k, k < q.2.2 → parseFieldDescriptor (q.2.1 k).2.2.1 = some (ty k)
theorem cz_ck0 : cz_ck 0 (RX1, TX1, 18) := ⟨in_X1, nmX1, Or.inr q160, q113, tyX1, tyX1_ok⟩
theorem cz_ck1 : cz_ck 1 (RX2, TX2, 11) := ⟨in_X2, nmX2, Or.inr q168, q114, tyX2, tyX2_ok⟩
theorem cz_ck2 : cz_ck 2 (RJ2, TJ2, 3) := ⟨in_J2, nmJ2, Or.inr q174, q117, tyJ2, tyJ2_ok⟩
theorem cz_ck3 : cz_ck 3 (RX3, TX3, 14) := ⟨in_X3, nmX3, Or.inr q265, q118, tyX3, tyX3_ok⟩
theorem cz_ck4 : cz_ck 4 (RX4, TX4, 3) := ⟨in_X4, nmX4, Or.inr q362, q122, tyX4, tyX4_ok⟩
theorem cz_ck5 : cz_ck 5 (RX5, TX5, 49) := ⟨in_X5, nmX5, Or.inr q1879, q123, tyX5, tyX5_ok⟩
theorem cz_ck6 : cz_ck 6 (RX7, TX7, 11) := ⟨in_X7, nmX7, Or.inr q457, q125, tyX7, tyX7_ok⟩
theorem cz_ck7 : cz_ck 7 (RJ7, TJ7, 4) := ⟨in_J7, nmJ7, Or.inr q533, q127, tyJ7, tyJ7_ok⟩
theorem cz_ck8 : cz_ck 8 (RJ8, TJ8, 4) := ⟨in_J8, nmJ8, Or.inr q661, q128, tyJ8, tyJ8_ok⟩
theorem cz_ck9 : cz_ck 9 (RX8, TX8, 8) := ⟨in_X8, nmX8, Or.inr q752, q136, tyX8, tyX8_ok⟩
theorem cz_ck10 : cz_ck 10 (RX10, TX10, 2) := ⟨in_X10, nmX10, Or.inr q913, q138, tyX10, tyX10_ok⟩
theorem cz_ck11 : cz_ck 11 (RX11, TX11, 4) := ⟨in_X11, nmX11, Or.inr q1022, q139, tyX11, tyX11_ok⟩
theorem cz_ck12 : cz_ck 12 (RX15, TX15, 2) := ⟨in_X15, nmX15, Or.inr q1151, q145, tyX15, tyX15_ok⟩
theorem cz_ck13 : cz_ck 13 (RX18, TX18, 2) := ⟨in_X18, nmX18, Or.inr q1318, q148, tyX18, tyX18_ok⟩
theorem cz_ck14 : cz_ck 14 (RX16, TX16, 2) := ⟨in_X16, nmX16, Or.inr q1331, q146, tyX16, tyX16_ok⟩
theorem cz_ck15 : cz_ck 15 (RX17, TX17, 1) := ⟨in_X17, nmX17, Or.inr q1344, q147, tyX17, tyX17_ok⟩
theorem cz_ck16 : cz_ck 16 (RX19, TX19, 11) := ⟨in_X19, nmX19, Or.inr q1525, q150, tyX19, tyX19_ok⟩
theorem cz_ck17 : cz_ck 17 (RX20, TX20, 1) := ⟨in_X20, nmX20, Or.inr q1574, q151, tyX20, tyX20_ok⟩
theorem cz_ck18 : cz_ck 18 (RX21, TX21, 12) := ⟨in_X21, nmX21, Or.inr q1627, q152, tyX21, tyX21_ok⟩
theorem cz_ck19 : cz_ck 19 (RX23, TX23, 1) := ⟨in_X23, nmX23, Or.inr q1695, q154, tyX23, tyX23_ok⟩
theorem cz_ck20 : cz_ck 20 (RX24, TX24, 1) := ⟨in_X24, nmX24, Or.inr q1708, q155, tyX24, tyX24_ok⟩
theorem cz_ck21 : cz_ck 21 (RX25, TX25, 2) := ⟨in_X25, nmX25, Or.inr q1718, q156, tyX25, tyX25_ok⟩
theorem cz_ck22 : cz_ck 22 (RX26, TX26, 3) := ⟨in_X26, nmX26, Or.inr q1738, q157, tyX26, tyX26_ok⟩
theorem cz_ck23 : cz_ck 23 (RX27, TX27, 3) := ⟨in_X27, nmX27, Or.inr q1758, q158, tyX27, tyX27_ok⟩
theorem cz_ck24 : cz_ck 24 (RJ16, TJ16, 0) := ⟨fun w h => absurd h List.not_mem_nil, fun a ha => absurd ha (Nat.not_lt_zero a), Or.inl rfl, q141, tyJ16, fun k hk => absurd hk (Nat.not_lt_zero k)⟩
theorem cz_cks : ∀ (i : Nat) (q : vw_C), cz_cl[i]? = some q → cz_ck i q := by
  intro i q h
  match i, h with
  | 0, h => cases h; exact cz_ck0
  | 1, h => cases h; exact cz_ck1
  | 2, h => cases h; exact cz_ck2
  | 3, h => cases h; exact cz_ck3
  | 4, h => cases h; exact cz_ck4
  | 5, h => cases h; exact cz_ck5
  | 6, h => cases h; exact cz_ck6
  | 7, h => cases h; exact cz_ck7
  | 8, h => cases h; exact cz_ck8
  | 9, h => cases h; exact cz_ck9
  | 10, h => cases h; exact cz_ck10
  | 11, h => cases h; exact cz_ck11
  | 12, h => cases h; exact cz_ck12
  | 13, h => cases h; exact cz_ck13
  | 14, h => cases h; exact cz_ck14
  | 15, h => cases h; exact cz_ck15
  | 16, h => cases h; exact cz_ck16
  | 17, h => cases h; exact cz_ck17
  | 18, h => cases h; exact cz_ck18
  | 19, h => cases h; exact cz_ck19
  | 20, h => cases h; exact cz_ck20
  | 21, h => cases h; exact cz_ck21
  | 22, h => cases h; exact cz_ck22
  | 23, h => cases h; exact cz_ck23
  | 24, h => cases h; exact cz_ck24
  | i + 25, h => simp [cz_cl] at h
