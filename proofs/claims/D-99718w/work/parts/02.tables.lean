/-! the tables: rows of claim/names; the lists of them -/
set_option maxRecDepth 100000
def RX0 : String := "WornSkinLaw"
def RX1 : String := "WornSkin"
def TX1 : u_T := fun k => match k with
  | 0 => ("WornSkin", "reader", "LWornSkin$Reader;", true)
  | 1 => ("WornSkin", "shelf", "LWornSkin$Shelf;", false)
  | 2 => ("WornSkin", "trial", "LWornSkin$Shelf;", true)
  | 3 => ("WornSkin", "lines", "Ljava/util/ArrayList;", false)
  | 4 => ("WornSkin", "seen", "Ljava/util/ArrayList;", false)
  | 5 => ("WornSkin", "behind", "Ljava/util/ArrayList;", true)
  | 6 => ("WornSkin", "lays", "LWornSkin$Lays;", true)
  | 7 => ("WornSkin", "g", "J", false)
  | _ => ("WornSkin", "marks", "[LWornSkin$Mark;", true)
def tyX1 : Nat → FieldType := fun k => match k with
  | 0 => .object "WornSkin$Reader"
  | 1 => .object "WornSkin$Shelf"
  | 2 => .object "WornSkin$Shelf"
  | 3 => .object "java/util/ArrayList"
  | 4 => .object "java/util/ArrayList"
  | 5 => .object "java/util/ArrayList"
  | 6 => .object "WornSkin$Lays"
  | 7 => .long
  | _ => .array (.object "WornSkin$Mark")
abbrev wsX10 : List Cond := u_ws RX1 TX1 9
theorem nmX1 : ∀ a, a < 9 → ∀ b, b < 9 → a ≠ b → (TX1 a).2.1 ≠ (TX1 b).2.1 := by decide +kernel
theorem tyX1_ok : ∀ k, k < 9 → parseFieldDescriptor (TX1 k).2.2.1 = some (tyX1 k) := by decide +kernel
theorem in_X1 : ∀ w ∈ wsX10, w ∈ lw_all := lw_in wsX10 [439, 441, 443, 445, 447, 449, 451, 453, 455] (by decide +kernel) (by decide +kernel)
def RX2 : String := "WornSkin$Reader"
def TX2 : u_T := fun k => match k with
  | 0 => ("WornSkin$Reader", "facts", "[Ljava/lang/String;", true)
  | 1 => ("WornSkin$Reader", "kinds", "[Ljava/lang/String;", true)
  | 2 => ("WornSkin$Reader", "kept", "[Ljava/lang/String;", true)
  | 3 => ("WornSkin$Reader", "inks", "[Ljava/lang/String;", true)
  | 4 => ("WornSkin$Reader", "acts", "[Ljava/lang/String;", true)
  | 5 => ("WornSkin$Reader", "draft", "LWornSkin$Library;", false)
  | 6 => ("WornSkin$Reader", "tape", "[I", true)
  | 7 => ("WornSkin$Reader", "taped", "I", false)
  | 8 => ("WornSkin$Reader", "sort", "[I", true)
  | 9 => ("WornSkin$Reader", "value", "[J", true)
  | 10 => ("WornSkin$Reader", "place", "[I", true)
  | 11 => ("WornSkin$Reader", "at", "I", false)
  | _ => ("WornSkin$Reader", "deep", "I", false)
def tyX2 : Nat → FieldType := fun k => match k with
  | 0 => .array (.object "java/lang/String")
  | 1 => .array (.object "java/lang/String")
  | 2 => .array (.object "java/lang/String")
  | 3 => .array (.object "java/lang/String")
  | 4 => .array (.object "java/lang/String")
  | 5 => .object "WornSkin$Library"
  | 6 => .array .int
  | 7 => .int
  | 8 => .array .int
  | 9 => .array .long
  | 10 => .array .int
  | 11 => .int
  | _ => .int
abbrev wsX20 : List Cond := u_ws RX2 TX2 13
theorem nmX2 : ∀ a, a < 13 → ∀ b, b < 13 → a ≠ b → (TX2 a).2.1 ≠ (TX2 b).2.1 := by decide +kernel
theorem tyX2_ok : ∀ k, k < 13 → parseFieldDescriptor (TX2 k).2.2.1 = some (tyX2 k) := by decide +kernel
theorem in_X2 : ∀ w ∈ wsX20, w ∈ lw_all := lw_in wsX20 [219, 221, 223, 225, 227, 229, 231, 233, 235, 237, 239, 241, 243] (by decide +kernel) (by decide +kernel)
def RX3 : String := "WornSkin$Shelf"
def TX3 : u_T := fun k => match k with
  | 0 => ("WornSkin$Shelf", "library", "LWornSkin$Library;", false)
  | 1 => ("WornSkin$Shelf", "week", "I", false)
  | 2 => ("WornSkin$Shelf", "open", "I", false)
  | 3 => ("WornSkin$Shelf", "thick", "[I", true)
  | 4 => ("WornSkin$Shelf", "of", "[I", true)
  | _ => ("WornSkin$Shelf", "many", "[I", true)
def tyX3 : Nat → FieldType := fun k => match k with
  | 0 => .object "WornSkin$Library"
  | 1 => .int
  | 2 => .int
  | 3 => .array .int
  | 4 => .array .int
  | _ => .array .int
abbrev wsX30 : List Cond := u_ws RX3 TX3 6
theorem nmX3 : ∀ a, a < 6 → ∀ b, b < 6 → a ≠ b → (TX3 a).2.1 ≠ (TX3 b).2.1 := by decide +kernel
theorem tyX3_ok : ∀ k, k < 6 → parseFieldDescriptor (TX3 k).2.2.1 = some (tyX3 k) := by decide +kernel
theorem in_X3 : ∀ w ∈ wsX30, w ∈ lw_all := lw_in wsX30 [269, 271, 273, 275, 277, 279] (by decide +kernel) (by decide +kernel)
def RX4 : String := "WornSkin$Library"
def TX4 : u_T := fun k => match k with
  | 0 => ("WornSkin$Library", "names", "Ljava/util/ArrayList;", true)
  | 1 => ("WornSkin$Library", "nameOf", "Ljava/util/ArrayList;", true)
  | 2 => ("WornSkin$Library", "skins", "Ljava/util/ArrayList;", true)
  | 3 => ("WornSkin$Library", "texts", "Ljava/util/ArrayList;", true)
  | 4 => ("WornSkin$Library", "damp", "[I", true)
  | 5 => ("WornSkin$Library", "damps", "I", false)
  | 6 => ("WornSkin$Library", "shows", "LWornSkin$Expression;", false)
  | _ => ("WornSkin$Library", "facts", "LWornSkin$Facts;", true)
def tyX4 : Nat → FieldType := fun k => match k with
  | 0 => .object "java/util/ArrayList"
  | 1 => .object "java/util/ArrayList"
  | 2 => .object "java/util/ArrayList"
  | 3 => .object "java/util/ArrayList"
  | 4 => .array .int
  | 5 => .int
  | 6 => .object "WornSkin$Expression"
  | _ => .object "WornSkin$Facts"
abbrev wsX40 : List Cond := u_ws RX4 TX4 8
theorem nmX4 : ∀ a, a < 8 → ∀ b, b < 8 → a ≠ b → (TX4 a).2.1 ≠ (TX4 b).2.1 := by decide +kernel
theorem tyX4_ok : ∀ k, k < 8 → parseFieldDescriptor (TX4 k).2.2.1 = some (tyX4 k) := by decide +kernel
theorem in_X4 : ∀ w ∈ wsX40, w ∈ lw_all := lw_in wsX40 [346, 348, 350, 352, 354, 356, 358, 360] (by decide +kernel) (by decide +kernel)
def RJ0 : String := "java/util/AbstractCollection"
def RJ1 : String := "java/util/AbstractList"
def RJ2 : String := "java/util/ArrayList"
def TJ2 : u_T := fun k => match k with
  | 0 => ("java/util/AbstractList", "modCount", "I", false)
  | 1 => ("java/util/ArrayList", "elementData", "[Ljava/lang/Object;", false)
  | _ => ("java/util/ArrayList", "size", "I", false)
def tyJ2 : Nat → FieldType := fun k => match k with
  | 0 => .int
  | 1 => .array (.object "java/lang/Object")
  | _ => .int
abbrev wsJ20 : List Cond := u_ws RJ2 TJ2 3
theorem nmJ2 : ∀ a, a < 3 → ∀ b, b < 3 → a ≠ b → (TJ2 a).2.1 ≠ (TJ2 b).2.1 := by decide +kernel
theorem tyJ2_ok : ∀ k, k < 3 → parseFieldDescriptor (TJ2 k).2.2.1 = some (tyJ2 k) := by decide +kernel
theorem in_J2 : ∀ w ∈ wsJ20, w ∈ lw_all := lw_in wsJ20 [313, 309, 311] (by decide +kernel) (by decide +kernel)
def RX5 : String := "WornSkin$Facts"
def TX5 : u_T := fun k => match k with
  | _ => ("WornSkin$Facts", "of", "[I", true)
def tyX5 : Nat → FieldType := fun k => match k with
  | _ => .array .int
abbrev wsX50 : List Cond := u_ws RX5 TX5 1
theorem nmX5 : ∀ a, a < 1 → ∀ b, b < 1 → a ≠ b → (TX5 a).2.1 ≠ (TX5 b).2.1 := by decide +kernel
theorem tyX5_ok : ∀ k, k < 1 → parseFieldDescriptor (TX5 k).2.2.1 = some (tyX5 k) := by decide +kernel
theorem in_X5 : ∀ w ∈ wsX50, w ∈ lw_all := lw_in wsX50 [325] (by decide +kernel) (by decide +kernel)
def RJ3 : String := "java/util/Objects"
def RJ4 : String := "jdk/internal/util/Preconditions"
def RX6 : String := "WornSkin$Lays"
def TX6 : u_T := fun k => match k with
  | 0 => ("WornSkin$Lays", "row", "[I", true)
  | 1 => ("WornSkin$Lays", "best", "[I", true)
  | 2 => ("WornSkin$Lays", "most", "I", false)
  | _ => ("WornSkin$Lays", "this$0", "LWornSkin;", true)
def tyX6 : Nat → FieldType := fun k => match k with
  | 0 => .array .int
  | 1 => .array .int
  | 2 => .int
  | _ => .object "WornSkin"
abbrev wsX60 : List Cond := u_ws RX6 TX6 4
theorem nmX6 : ∀ a, a < 4 → ∀ b, b < 4 → a ≠ b → (TX6 a).2.1 ≠ (TX6 b).2.1 := by decide +kernel
theorem tyX6_ok : ∀ k, k < 4 → parseFieldDescriptor (TX6 k).2.2.1 = some (tyX6 k) := by decide +kernel
theorem in_X6 : ∀ w ∈ wsX60, w ∈ lw_all := lw_in wsX60 [417, 419, 421, 423] (by decide +kernel) (by decide +kernel)
def RX7 : String := "WornSkinModel"
def TX7 : u_T := fun k => match k with
  | 0 => ("WornSkinModel", "thrown", "I", false)
  | 1 => ("WornSkinModel", "taped", "I", false)
  | 2 => ("WornSkinModel", "tape", "[I", true)
  | 3 => ("WornSkinModel", "size", "I", false)
  | 4 => ("WornSkinModel", "place", "I", false)
  | 5 => ("WornSkinModel", "begin", "I", false)
  | 6 => ("WornSkinModel", "token", "I", false)
  | 7 => ("WornSkinModel", "word", "J", false)
  | 8 => ("WornSkinModel", "told", "I", false)
  | 9 => ("WornSkinModel", "wrong", "I", false)
  | 10 => ("WornSkinModel", "library", "[I", true)
  | 11 => ("WornSkinModel", "skinName", "[J", true)
  | 12 => ("WornSkinModel", "textName", "[J", true)
  | 13 => ("WornSkinModel", "linesOf", "[I", true)
  | 14 => ("WornSkinModel", "thickTold", "[I", true)
  | 15 => ("WornSkinModel", "holes", "[I", true)
  | 16 => ("WornSkinModel", "kind", "[I", true)
  | 17 => ("WornSkinModel", "gall", "[I", true)
  | 18 => ("WornSkinModel", "long0", "[I", true)
  | 19 => ("WornSkinModel", "damp", "[I", true)
  | 20 => ("WornSkinModel", "lineFrom", "[I", true)
  | 21 => ("WornSkinModel", "lineTo", "[I", true)
  | 22 => ("WornSkinModel", "codes", "[I", true)
  | 23 => ("WornSkinModel", "code", "I", false)
  | 24 => ("WornSkinModel", "opened", "[I", true)
  | 25 => ("WornSkinModel", "compared", "[Z", true)
  | 26 => ("WornSkinModel", "kept", "[I", true)
  | 27 => ("WornSkinModel", "keptBy", "[I", true)
  | 28 => ("WornSkinModel", "ahead", "[I", true)
  | 29 => ("WornSkinModel", "against", "[I", true)
  | 30 => ("WornSkinModel", "sum", "[I", true)
  | 31 => ("WornSkinModel", "sumBy", "[I", true)
  | 32 => ("WornSkinModel", "term", "[I", true)
  | 33 => ("WornSkinModel", "termBy", "[I", true)
  | 34 => ("WornSkinModel", "byNot", "[I", true)
  | 35 => ("WornSkinModel", "valueOf", "[I", true)
  | 36 => ("WornSkinModel", "given", "I", false)
  | 37 => ("WornSkinModel", "fresh", "J", false)
  | 38 => ("WornSkinModel", "lines", "[I", true)
  | 39 => ("WornSkinModel", "lineWhat", "[I", true)
  | 40 => ("WornSkinModel", "lineA", "[I", true)
  | 41 => ("WornSkinModel", "lineB", "[I", true)
  | 42 => ("WornSkinModel", "lineC", "[I", true)
  | 43 => ("WornSkinModel", "seens", "[I", true)
  | 44 => ("WornSkinModel", "seenSkin", "[I", true)
  | 45 => ("WornSkinModel", "seenDeep", "[I", true)
  | 46 => ("WornSkinModel", "seenDamp", "[I", true)
  | 47 => ("WornSkinModel", "seenShows", "[Z", true)
  | 48 => ("WornSkinModel", "s", "[I", true)
  | 49 => ("WornSkinModel", "aside", "[I", true)
  | 50 => ("WornSkinModel", "before", "[I", true)
  | 51 => ("WornSkinModel", "marked", "[I", true)
  | 52 => ("WornSkinModel", "undone", "[I", true)
  | 53 => ("WornSkinModel", "isLaid", "[Z", true)
  | 54 => ("WornSkinModel", "done", "I", false)
  | 55 => ("WornSkinModel", "row", "[I", true)
  | 56 => ("WornSkinModel", "bestRow", "[I", true)
  | 57 => ("WornSkinModel", "most", "I", false)
  | _ => ("WornSkinModel", "g", "J", false)
def tyX7 : Nat → FieldType := fun k => match k with
  | 0 => .int
  | 1 => .int
  | 2 => .array .int
  | 3 => .int
  | 4 => .int
  | 5 => .int
  | 6 => .int
  | 7 => .long
  | 8 => .int
  | 9 => .int
  | 10 => .array .int
  | 11 => .array .long
  | 12 => .array .long
  | 13 => .array .int
  | 14 => .array .int
  | 15 => .array .int
  | 16 => .array .int
  | 17 => .array .int
  | 18 => .array .int
  | 19 => .array .int
  | 20 => .array .int
  | 21 => .array .int
  | 22 => .array .int
  | 23 => .int
  | 24 => .array .int
  | 25 => .array .boolean
  | 26 => .array .int
  | 27 => .array .int
  | 28 => .array .int
  | 29 => .array .int
  | 30 => .array .int
  | 31 => .array .int
  | 32 => .array .int
  | 33 => .array .int
  | 34 => .array .int
  | 35 => .array .int
  | 36 => .int
  | 37 => .long
  | 38 => .array .int
  | 39 => .array .int
  | 40 => .array .int
  | 41 => .array .int
  | 42 => .array .int
  | 43 => .array .int
  | 44 => .array .int
  | 45 => .array .int
  | 46 => .array .int
  | 47 => .array .boolean
  | 48 => .array .int
  | 49 => .array .int
  | 50 => .array .int
  | 51 => .array .int
  | 52 => .array .int
  | 53 => .array .boolean
  | 54 => .int
  | 55 => .array .int
  | 56 => .array .int
  | 57 => .int
  | _ => .long
abbrev wsX70 : List Cond := u_ws RX7 TX7 59
theorem nmX7 : ∀ a, a < 59 → ∀ b, b < 59 → a ≠ b → (TX7 a).2.1 ≠ (TX7 b).2.1 := by decide +kernel
theorem tyX7_ok : ∀ k, k < 59 → parseFieldDescriptor (TX7 k).2.2.1 = some (tyX7 k) := by decide +kernel
theorem in_X7 : ∀ w ∈ wsX70, w ∈ lw_all := lw_in wsX70 [1743, 1745, 1747, 1749, 1751, 1753, 1755, 1757, 1759, 1761, 1763, 1765, 1767, 1769, 1771, 1773, 1775, 1777, 1779, 1781, 1783, 1785, 1787, 1789, 1791, 1793, 1795, 1797, 1799, 1801, 1803, 1805, 1807, 1809, 1811, 1813, 1815, 1817, 1819, 1821, 1823, 1825, 1827, 1829, 1831, 1833, 1835, 1837, 1839, 1841, 1843, 1845, 1847, 1849, 1851, 1853, 1855, 1857, 1859] (by decide +kernel) (by decide +kernel)
def RJ5 : String := "java/lang/String"
def RJ6 : String := "java/lang/StringLatin1"
def RJ7 : String := "java/lang/Math"
def RJ8 : String := "java/lang/StringUTF16"
def RJ9 : String := "java/lang/Character"
def RJ10 : String := "java/lang/Throwable"
def TJ10 : u_T := fun k => match k with
  | 0 => ("java/lang/Throwable", "cause", "Ljava/lang/Throwable;", false)
  | 1 => ("java/lang/Throwable", "stackTrace", "[Ljava/lang/StackTraceElement;", false)
  | 2 => ("java/lang/Throwable", "suppressedExceptions", "Ljava/util/List;", false)
  | 3 => ("java/lang/Throwable", "detailMessage", "Ljava/lang/String;", false)
  | _ => ("java/lang/Throwable", "backtrace", "Ljava/lang/Object;", false)
def tyJ10 : Nat → FieldType := fun k => match k with
  | 0 => .object "java/lang/Throwable"
  | 1 => .array (.object "java/lang/StackTraceElement")
  | 2 => .object "java/util/List"
  | 3 => .object "java/lang/String"
  | _ => .object "java/lang/Object"
abbrev wsJ100 : List Cond := u_ws RJ10 TJ10 5
theorem nmJ10 : ∀ a, a < 5 → ∀ b, b < 5 → a ≠ b → (TJ10 a).2.1 ≠ (TJ10 b).2.1 := by decide +kernel
theorem tyJ10_ok : ∀ k, k < 5 → parseFieldDescriptor (TJ10 k).2.2.1 = some (tyJ10 k) := by decide +kernel
theorem in_J10 : ∀ w ∈ wsJ100, w ∈ lw_all := lw_in wsJ100 [631, 633, 635, 637, 639] (by decide +kernel) (by decide +kernel)
def RJ11 : String := "java/lang/Exception"
def RX8 : String := "WornSkin$Wrong"
def TX8 : u_T := fun k => match k with
  | 0 => ("java/lang/Throwable", "cause", "Ljava/lang/Throwable;", false)
  | 1 => ("java/lang/Throwable", "stackTrace", "[Ljava/lang/StackTraceElement;", false)
  | 2 => ("java/lang/Throwable", "suppressedExceptions", "Ljava/util/List;", false)
  | 3 => ("java/lang/Throwable", "detailMessage", "Ljava/lang/String;", false)
  | 4 => ("java/lang/Throwable", "backtrace", "Ljava/lang/Object;", false)
  | 5 => ("java/lang/Throwable", "depth", "I", false)
  | _ => ("WornSkin$Wrong", "fault", "I", true)
def tyX8 : Nat → FieldType := fun k => match k with
  | 0 => .object "java/lang/Throwable"
  | 1 => .array (.object "java/lang/StackTraceElement")
  | 2 => .object "java/util/List"
  | 3 => .object "java/lang/String"
  | 4 => .object "java/lang/Object"
  | 5 => .int
  | _ => .int
abbrev wsX80 : List Cond := u_ws RX8 TX8 7
theorem nmX8 : ∀ a, a < 7 → ∀ b, b < 7 → a ≠ b → (TX8 a).2.1 ≠ (TX8 b).2.1 := by decide +kernel
theorem tyX8_ok : ∀ k, k < 7 → parseFieldDescriptor (TX8 k).2.2.1 = some (tyX8 k) := by decide +kernel
theorem in_X8 : ∀ w ∈ wsX80, w ∈ lw_all := lw_in wsX80 [630, 632, 634, 636, 638, 678, 672] (by decide +kernel) (by decide +kernel)
def RJ12 : String := "java/lang/Number"
def RJ13 : String := "java/lang/Long"
def TJ13 : u_T := fun k => match k with
  | _ => ("java/lang/Long", "value", "J", true)
def tyJ13 : Nat → FieldType := fun k => match k with
  | _ => .long
abbrev wsJ130 : List Cond := u_ws RJ13 TJ13 1
theorem nmJ13 : ∀ a, a < 1 → ∀ b, b < 1 → a ≠ b → (TJ13 a).2.1 ≠ (TJ13 b).2.1 := by decide +kernel
theorem tyJ13_ok : ∀ k, k < 1 → parseFieldDescriptor (TJ13 k).2.2.1 = some (tyJ13 k) := by decide +kernel
theorem in_J13 : ∀ w ∈ wsJ130, w ∈ lw_all := lw_in wsJ130 [723] (by decide +kernel) (by decide +kernel)
def RJ14 : String := "jdk/internal/util/ArraysSupport"
def RJ15 : String := "java/util/Arrays"
def RJ16 : String := "java/lang/Integer"
def TJ16 : u_T := fun k => match k with
  | _ => ("java/lang/Integer", "value", "I", true)
def tyJ16 : Nat → FieldType := fun k => match k with
  | _ => .int
abbrev wsJ160 : List Cond := u_ws RJ16 TJ16 1
theorem nmJ16 : ∀ a, a < 1 → ∀ b, b < 1 → a ≠ b → (TJ16 a).2.1 ≠ (TJ16 b).2.1 := by decide +kernel
theorem tyJ16_ok : ∀ k, k < 1 → parseFieldDescriptor (TJ16 k).2.2.1 = some (tyJ16 k) := by decide +kernel
theorem in_J16 : ∀ w ∈ wsJ160, w ∈ lw_all := lw_in wsJ160 [813] (by decide +kernel) (by decide +kernel)
def RX9 : String := "WornSkin$Skin"
def TX9 : u_T := fun k => match k with
  | 0 => ("WornSkin$Skin", "lines", "I", true)
  | 1 => ("WornSkin$Skin", "thick", "I", true)
  | _ => ("WornSkin$Skin", "holes", "I", false)
def tyX9 : Nat → FieldType := fun k => match k with
  | 0 => .int
  | 1 => .int
  | _ => .int
abbrev wsX90 : List Cond := u_ws RX9 TX9 3
theorem nmX9 : ∀ a, a < 3 → ∀ b, b < 3 → a ≠ b → (TX9 a).2.1 ≠ (TX9 b).2.1 := by decide +kernel
theorem tyX9_ok : ∀ k, k < 3 → parseFieldDescriptor (TX9 k).2.2.1 = some (tyX9 k) := by decide +kernel
theorem in_X9 : ∀ w ∈ wsX90, w ∈ lw_all := lw_in wsX90 [847, 849, 851] (by decide +kernel) (by decide +kernel)
def RX10 : String := "WornSkin$Text"
def TX10 : u_T := fun k => match k with
  | 0 => ("WornSkin$Text", "gall", "Z", true)
  | _ => ("WornSkin$Text", "lines", "I", true)
def tyX10 : Nat → FieldType := fun k => match k with
  | 0 => .boolean
  | _ => .int
abbrev wsX100 : List Cond := u_ws RX10 TX10 2
theorem nmX10 : ∀ a, a < 2 → ∀ b, b < 2 → a ≠ b → (TX10 a).2.1 ≠ (TX10 b).2.1 := by decide +kernel
theorem tyX10_ok : ∀ k, k < 2 → parseFieldDescriptor (TX10 k).2.2.1 = some (tyX10 k) := by decide +kernel
theorem in_X10 : ∀ w ∈ wsX100, w ∈ lw_all := lw_in wsX100 [920, 921] (by decide +kernel) (by decide +kernel)
def RX11 : String := "WornSkin$Psalm"
def TX11 : u_T := fun k => match k with
  | 0 => ("WornSkin$Text", "gall", "Z", true)
  | _ => ("WornSkin$Text", "lines", "I", true)
def tyX11 : Nat → FieldType := fun k => match k with
  | 0 => .boolean
  | _ => .int
abbrev wsX110 : List Cond := u_ws RX11 TX11 2
theorem nmX11 : ∀ a, a < 2 → ∀ b, b < 2 → a ≠ b → (TX11 a).2.1 ≠ (TX11 b).2.1 := by decide +kernel
theorem tyX11_ok : ∀ k, k < 2 → parseFieldDescriptor (TX11 k).2.2.1 = some (tyX11 k) := by decide +kernel
theorem in_X11 : ∀ w ∈ wsX110, w ∈ lw_all := lw_in wsX110 [894, 896] (by decide +kernel) (by decide +kernel)
def RX12 : String := "WornSkin$Recipe"
def TX12 : u_T := fun k => match k with
  | 0 => ("WornSkin$Text", "gall", "Z", true)
  | _ => ("WornSkin$Text", "lines", "I", true)
def tyX12 : Nat → FieldType := fun k => match k with
  | 0 => .boolean
  | _ => .int
abbrev wsX120 : List Cond := u_ws RX12 TX12 2
theorem nmX12 : ∀ a, a < 2 → ∀ b, b < 2 → a ≠ b → (TX12 a).2.1 ≠ (TX12 b).2.1 := by decide +kernel
theorem tyX12_ok : ∀ k, k < 2 → parseFieldDescriptor (TX12 k).2.2.1 = some (tyX12 k) := by decide +kernel
theorem in_X12 : ∀ w ∈ wsX120, w ∈ lw_all := lw_in wsX120 [905, 906] (by decide +kernel) (by decide +kernel)
def RX13 : String := "WornSkin$Oath"
def TX13 : u_T := fun k => match k with
  | 0 => ("WornSkin$Text", "gall", "Z", true)
  | _ => ("WornSkin$Text", "lines", "I", true)
def tyX13 : Nat → FieldType := fun k => match k with
  | 0 => .boolean
  | _ => .int
abbrev wsX130 : List Cond := u_ws RX13 TX13 2
theorem nmX13 : ∀ a, a < 2 → ∀ b, b < 2 → a ≠ b → (TX13 a).2.1 ≠ (TX13 b).2.1 := by decide +kernel
theorem tyX13_ok : ∀ k, k < 2 → parseFieldDescriptor (TX13 k).2.2.1 = some (tyX13 k) := by decide +kernel
theorem in_X13 : ∀ w ∈ wsX130, w ∈ lw_all := lw_in wsX130 [914, 915] (by decide +kernel) (by decide +kernel)
def RX14 : String := "WornSkin$Expression"
def RX15 : String := "WornSkin$Fact"
def TX15 : u_T := fun k => match k with
  | _ => ("WornSkin$Fact", "which", "I", true)
def tyX15 : Nat → FieldType := fun k => match k with
  | _ => .int
abbrev wsX150 : List Cond := u_ws RX15 TX15 1
theorem nmX15 : ∀ a, a < 1 → ∀ b, b < 1 → a ≠ b → (TX15 a).2.1 ≠ (TX15 b).2.1 := by decide +kernel
theorem tyX15_ok : ∀ k, k < 1 → parseFieldDescriptor (TX15 k).2.2.1 = some (tyX15 k) := by decide +kernel
theorem in_X15 : ∀ w ∈ wsX150, w ∈ lw_all := lw_in wsX150 [973] (by decide +kernel) (by decide +kernel)
def RX16 : String := "WornSkin$Plain"
def TX16 : u_T := fun k => match k with
  | _ => ("WornSkin$Plain", "n", "I", true)
def tyX16 : Nat → FieldType := fun k => match k with
  | _ => .int
abbrev wsX160 : List Cond := u_ws RX16 TX16 1
theorem nmX16 : ∀ a, a < 1 → ∀ b, b < 1 → a ≠ b → (TX16 a).2.1 ≠ (TX16 b).2.1 := by decide +kernel
theorem tyX16_ok : ∀ k, k < 1 → parseFieldDescriptor (TX16 k).2.2.1 = some (tyX16 k) := by decide +kernel
theorem in_X16 : ∀ w ∈ wsX160, w ∈ lw_all := lw_in wsX160 [983] (by decide +kernel) (by decide +kernel)
def RX17 : String := "WornSkin$Not"
def TX17 : u_T := fun k => match k with
  | _ => ("WornSkin$Not", "e", "LWornSkin$Expression;", true)
def tyX17 : Nat → FieldType := fun k => match k with
  | _ => .object "WornSkin$Expression"
abbrev wsX170 : List Cond := u_ws RX17 TX17 1
theorem nmX17 : ∀ a, a < 1 → ∀ b, b < 1 → a ≠ b → (TX17 a).2.1 ≠ (TX17 b).2.1 := by decide +kernel
theorem tyX17_ok : ∀ k, k < 1 → parseFieldDescriptor (TX17 k).2.2.1 = some (tyX17 k) := by decide +kernel
theorem in_X17 : ∀ w ∈ wsX170, w ∈ lw_all := lw_in wsX170 [993] (by decide +kernel) (by decide +kernel)
def RX18 : String := "WornSkin$Chain"
def TX18 : u_T := fun k => match k with
  | 0 => ("WornSkin$Chain", "first", "LWornSkin$Expression;", true)
  | _ => ("WornSkin$Chain", "links", "Ljava/util/ArrayList;", true)
def tyX18 : Nat → FieldType := fun k => match k with
  | 0 => .object "WornSkin$Expression"
  | _ => .object "java/util/ArrayList"
abbrev wsX180 : List Cond := u_ws RX18 TX18 2
theorem nmX18 : ∀ a, a < 2 → ∀ b, b < 2 → a ≠ b → (TX18 a).2.1 ≠ (TX18 b).2.1 := by decide +kernel
theorem tyX18_ok : ∀ k, k < 2 → parseFieldDescriptor (TX18 k).2.2.1 = some (tyX18 k) := by decide +kernel
theorem in_X18 : ∀ w ∈ wsX180, w ∈ lw_all := lw_in wsX180 [1018, 1020] (by decide +kernel) (by decide +kernel)
def RX19 : String := "WornSkin$Link"
def RX20 : String := "WornSkin$Times"
def TX20 : u_T := fun k => match k with
  | _ => ("WornSkin$Link", "e", "LWornSkin$Expression;", true)
def tyX20 : Nat → FieldType := fun k => match k with
  | _ => .object "WornSkin$Expression"
abbrev wsX200 : List Cond := u_ws RX20 TX20 1
theorem nmX20 : ∀ a, a < 1 → ∀ b, b < 1 → a ≠ b → (TX20 a).2.1 ≠ (TX20 b).2.1 := by decide +kernel
theorem tyX20_ok : ∀ k, k < 1 → parseFieldDescriptor (TX20 k).2.2.1 = some (tyX20 k) := by decide +kernel
theorem in_X20 : ∀ w ∈ wsX200, w ∈ lw_all := lw_in wsX200 [1033] (by decide +kernel) (by decide +kernel)
def RX21 : String := "WornSkin$Plus"
def TX21 : u_T := fun k => match k with
  | _ => ("WornSkin$Link", "e", "LWornSkin$Expression;", true)
def tyX21 : Nat → FieldType := fun k => match k with
  | _ => .object "WornSkin$Expression"
abbrev wsX210 : List Cond := u_ws RX21 TX21 1
theorem nmX21 : ∀ a, a < 1 → ∀ b, b < 1 → a ≠ b → (TX21 a).2.1 ≠ (TX21 b).2.1 := by decide +kernel
theorem tyX21_ok : ∀ k, k < 1 → parseFieldDescriptor (TX21 k).2.2.1 = some (tyX21 k) := by decide +kernel
theorem in_X21 : ∀ w ∈ wsX210, w ∈ lw_all := lw_in wsX210 [1042] (by decide +kernel) (by decide +kernel)
def RX22 : String := "WornSkin$Minus"
def TX22 : u_T := fun k => match k with
  | _ => ("WornSkin$Link", "e", "LWornSkin$Expression;", true)
def tyX22 : Nat → FieldType := fun k => match k with
  | _ => .object "WornSkin$Expression"
abbrev wsX220 : List Cond := u_ws RX22 TX22 1
theorem nmX22 : ∀ a, a < 1 → ∀ b, b < 1 → a ≠ b → (TX22 a).2.1 ≠ (TX22 b).2.1 := by decide +kernel
theorem tyX22_ok : ∀ k, k < 1 → parseFieldDescriptor (TX22 k).2.2.1 = some (tyX22 k) := by decide +kernel
theorem in_X22 : ∀ w ∈ wsX220, w ∈ lw_all := lw_in wsX220 [1050] (by decide +kernel) (by decide +kernel)
def RX23 : String := "WornSkin$Less"
def TX23 : u_T := fun k => match k with
  | _ => ("WornSkin$Link", "e", "LWornSkin$Expression;", true)
def tyX23 : Nat → FieldType := fun k => match k with
  | _ => .object "WornSkin$Expression"
abbrev wsX230 : List Cond := u_ws RX23 TX23 1
theorem nmX23 : ∀ a, a < 1 → ∀ b, b < 1 → a ≠ b → (TX23 a).2.1 ≠ (TX23 b).2.1 := by decide +kernel
theorem tyX23_ok : ∀ k, k < 1 → parseFieldDescriptor (TX23 k).2.2.1 = some (tyX23 k) := by decide +kernel
theorem in_X23 : ∀ w ∈ wsX230, w ∈ lw_all := lw_in wsX230 [1058] (by decide +kernel) (by decide +kernel)
def RX24 : String := "WornSkin$Same"
def TX24 : u_T := fun k => match k with
  | _ => ("WornSkin$Link", "e", "LWornSkin$Expression;", true)
def tyX24 : Nat → FieldType := fun k => match k with
  | _ => .object "WornSkin$Expression"
abbrev wsX240 : List Cond := u_ws RX24 TX24 1
theorem nmX24 : ∀ a, a < 1 → ∀ b, b < 1 → a ≠ b → (TX24 a).2.1 ≠ (TX24 b).2.1 := by decide +kernel
theorem tyX24_ok : ∀ k, k < 1 → parseFieldDescriptor (TX24 k).2.2.1 = some (tyX24 k) := by decide +kernel
theorem in_X24 : ∀ w ∈ wsX240, w ∈ lw_all := lw_in wsX240 [1066] (by decide +kernel) (by decide +kernel)
def RX25 : String := "WornSkin$And"
def TX25 : u_T := fun k => match k with
  | _ => ("WornSkin$Link", "e", "LWornSkin$Expression;", true)
def tyX25 : Nat → FieldType := fun k => match k with
  | _ => .object "WornSkin$Expression"
abbrev wsX250 : List Cond := u_ws RX25 TX25 1
theorem nmX25 : ∀ a, a < 1 → ∀ b, b < 1 → a ≠ b → (TX25 a).2.1 ≠ (TX25 b).2.1 := by decide +kernel
theorem tyX25_ok : ∀ k, k < 1 → parseFieldDescriptor (TX25 k).2.2.1 = some (tyX25 k) := by decide +kernel
theorem in_X25 : ∀ w ∈ wsX250, w ∈ lw_all := lw_in wsX250 [1074] (by decide +kernel) (by decide +kernel)
def RX26 : String := "WornSkin$Or"
def TX26 : u_T := fun k => match k with
  | _ => ("WornSkin$Link", "e", "LWornSkin$Expression;", true)
def tyX26 : Nat → FieldType := fun k => match k with
  | _ => .object "WornSkin$Expression"
abbrev wsX260 : List Cond := u_ws RX26 TX26 1
theorem nmX26 : ∀ a, a < 1 → ∀ b, b < 1 → a ≠ b → (TX26 a).2.1 ≠ (TX26 b).2.1 := by decide +kernel
theorem tyX26_ok : ∀ k, k < 1 → parseFieldDescriptor (TX26 k).2.2.1 = some (tyX26 k) := by decide +kernel
theorem in_X26 : ∀ w ∈ wsX260, w ∈ lw_all := lw_in wsX260 [1082] (by decide +kernel) (by decide +kernel)
def RX27 : String := "WornSkin$Line"
def RX28 : String := "WornSkin$Weeks"
def RX29 : String := "WornSkin$Scrapes"
def TX29 : u_T := fun k => match k with
  | 0 => ("WornSkin$Scrapes", "skin", "I", true)
  | _ => ("WornSkin$Scrapes", "third", "Z", true)
def tyX29 : Nat → FieldType := fun k => match k with
  | 0 => .int
  | _ => .boolean
abbrev wsX290 : List Cond := u_ws RX29 TX29 2
theorem nmX29 : ∀ a, a < 2 → ∀ b, b < 2 → a ≠ b → (TX29 a).2.1 ≠ (TX29 b).2.1 := by decide +kernel
theorem tyX29_ok : ∀ k, k < 2 → parseFieldDescriptor (TX29 k).2.2.1 = some (tyX29 k) := by decide +kernel
theorem in_X29 : ∀ w ∈ wsX290, w ∈ lw_all := lw_in wsX290 [1124, 1126] (by decide +kernel) (by decide +kernel)
def RX30 : String := "WornSkin$Writes"
def TX30 : u_T := fun k => match k with
  | 0 => ("WornSkin$Writes", "text", "I", true)
  | 1 => ("WornSkin$Writes", "skin", "I", true)
  | _ => ("WornSkin$Writes", "line", "I", true)
def tyX30 : Nat → FieldType := fun k => match k with
  | 0 => .int
  | 1 => .int
  | _ => .int
abbrev wsX300 : List Cond := u_ws RX30 TX30 3
theorem nmX30 : ∀ a, a < 3 → ∀ b, b < 3 → a ≠ b → (TX30 a).2.1 ≠ (TX30 b).2.1 := by decide +kernel
theorem tyX30_ok : ∀ k, k < 3 → parseFieldDescriptor (TX30 k).2.2.1 = some (tyX30 k) := by decide +kernel
theorem in_X30 : ∀ w ∈ wsX300, w ∈ lw_all := lw_in wsX300 [1138, 1140, 1142] (by decide +kernel) (by decide +kernel)
def RJ17 : String := "java/lang/RuntimeException"
def RJ18 : String := "java/util/NoSuchElementException"
def TJ18 : u_T := fun k => match k with
  | 0 => ("java/lang/Throwable", "cause", "Ljava/lang/Throwable;", false)
  | 1 => ("java/lang/Throwable", "stackTrace", "[Ljava/lang/StackTraceElement;", false)
  | 2 => ("java/lang/Throwable", "suppressedExceptions", "Ljava/util/List;", false)
  | 3 => ("java/lang/Throwable", "detailMessage", "Ljava/lang/String;", false)
  | 4 => ("java/lang/Throwable", "backtrace", "Ljava/lang/Object;", false)
  | _ => ("java/lang/Throwable", "depth", "I", false)
def tyJ18 : Nat → FieldType := fun k => match k with
  | 0 => .object "java/lang/Throwable"
  | 1 => .array (.object "java/lang/StackTraceElement")
  | 2 => .object "java/util/List"
  | 3 => .object "java/lang/String"
  | 4 => .object "java/lang/Object"
  | _ => .int
abbrev wsJ180 : List Cond := u_ws RJ18 TJ18 6
theorem nmJ18 : ∀ a, a < 6 → ∀ b, b < 6 → a ≠ b → (TJ18 a).2.1 ≠ (TJ18 b).2.1 := by decide +kernel
theorem tyJ18_ok : ∀ k, k < 6 → parseFieldDescriptor (TJ18 k).2.2.1 = some (tyJ18 k) := by decide +kernel
theorem in_J18 : ∀ w ∈ wsJ180, w ∈ lw_all := lw_in wsJ180 [1658, 1659, 1660, 1661, 1662, 1670] (by decide +kernel) (by decide +kernel)
def RX31 : String := "WornSkin$Mark"
def TX31 : u_T := fun k => match k with
  | 0 => ("WornSkin$Mark", "shelf", "LWornSkin$Shelf;", true)
  | 1 => ("WornSkin$Mark", "lines", "Ljava/util/ArrayList;", true)
  | _ => ("WornSkin$Mark", "seen", "Ljava/util/ArrayList;", true)
def tyX31 : Nat → FieldType := fun k => match k with
  | 0 => .object "WornSkin$Shelf"
  | 1 => .object "java/util/ArrayList"
  | _ => .object "java/util/ArrayList"
abbrev wsX310 : List Cond := u_ws RX31 TX31 3
theorem nmX31 : ∀ a, a < 3 → ∀ b, b < 3 → a ≠ b → (TX31 a).2.1 ≠ (TX31 b).2.1 := by decide +kernel
theorem tyX31_ok : ∀ k, k < 3 → parseFieldDescriptor (TX31 k).2.2.1 = some (tyX31 k) := by decide +kernel
theorem in_X31 : ∀ w ∈ wsX310, w ∈ lw_all := lw_in wsX310 [1626, 1628, 1630] (by decide +kernel) (by decide +kernel)
def RJ19 : String := "java/lang/Object"
def TX28 : u_T := fun _ => ("", "", "", false)
def TJstr : u_T := fun k => match k with
  | 0 => ("java/lang/String", "value", "[B", true)
  | _ => ("java/lang/String", "coder", "B", true)
def jCl : List vw_C := [(RX1, TX1, 9), (RX2, TX2, 13), (RX3, TX3, 6), (RX4, TX4, 8), (RJ2, TJ2, 3), (RX5, TX5, 1), (RX6, TX6, 4), (RX7, TX7, 59), (RJ10, TJ10, 5), (RX8, TX8, 7), (RJ13, TJ13, 1), (RJ16, TJ16, 1), (RX9, TX9, 3), (RX10, TX10, 2), (RX11, TX11, 2), (RX12, TX12, 2), (RX13, TX13, 2), (RX15, TX15, 1), (RX16, TX16, 1), (RX17, TX17, 1), (RX18, TX18, 2), (RX20, TX20, 1), (RX21, TX21, 1), (RX22, TX22, 1), (RX23, TX23, 1), (RX24, TX24, 1), (RX25, TX25, 1), (RX26, TX26, 1), (RX28, TX28, 0), (RX29, TX29, 2), (RX30, TX30, 3), (RJ18, TJ18, 6), (RX31, TX31, 3), (RJ5, TJstr, 2)]
def jTy : List FieldType := [.int, .long, .boolean, .byte, .object "java/lang/Object", .object "java/lang/String", .object "WornSkin$Mark", .object "java/lang/Integer", .object "java/lang/Long", .int]
/-- a constant that may be null -/
def jopt (n : Nat) : Option Nat := if n = 0 then none else some (n - 1)
def jSt : List (String × String × String × ((Nat → Nat) → Value)) := [("java/util/ArrayList", "EMPTY_ELEMENTDATA", "[Ljava/lang/Object;", fun K => .ref (K 51)),
  ("java/util/ArrayList", "DEFAULTCAPACITY_EMPTY_ELEMENTDATA", "[Ljava/lang/Object;", fun K => .ref (K 52)),
  ("java/lang/Long$LongCache", "cache", "[Ljava/lang/Long;", fun K => .ref (K 53)),
  ("java/lang/Integer$IntegerCache", "cache", "[Ljava/lang/Integer;", fun K => .ref (K 54)),
  ("java/lang/Integer$IntegerCache", "high", "I", fun _ => .int 127),
  ("java/lang/String", "COMPACT_STRINGS", "Z", fun _ => .int 1),
  ("jdk/internal/util/Preconditions", "SIOOBE_FORMATTER", "Ljava/util/function/BiFunction;", fun K => va_rf (jopt (K 568))),
  ("java/lang/Throwable", "UNASSIGNED_STACK", "[Ljava/lang/StackTraceElement;", fun K => va_rf (jopt (K 569))),
  ("java/lang/Throwable", "SUPPRESSED_SENTINEL", "Ljava/util/List;", fun K => va_rf (jopt (K 570)))]
def jStr : List (String × Nat × String × Nat) := [("WornSkin$Reader", 11, "wet", 1), ("WornSkin$Reader", 13, "deep", 2), ("WornSkin$Reader", 15, "bite", 3), ("WornSkin$Reader", 17, "thin", 4), ("WornSkin$Reader", 25, "charter", 5), ("WornSkin$Reader", 27, "psalm", 6), ("WornSkin$Reader", 29, "recipe", 7), ("WornSkin$Reader", 31, "oath", 8), ("WornSkin$Reader", 36, "skin", 9), ("WornSkin$Reader", 38, "lines", 10), ("WornSkin$Reader", 40, "thick", 11), ("WornSkin$Reader", 42, "hole", 12), ("WornSkin$Reader", 44, "text", 13), ("WornSkin$Reader", 46, "damp", 14), ("WornSkin$Reader", 48, "shows", 15), ("WornSkin$Reader", 50, "write", 16), ("WornSkin$Reader", 52, "scrape", 17), ("WornSkin$Reader", 54, "third", 18), ("WornSkin$Reader", 56, "week", 19), ("WornSkin$Reader", 58, "gall", 20), ("WornSkin$Reader", 60, "soot", 21), ("WornSkin$Reader", 62, "not", 22), ("WornSkin$Reader", 64, "and", 23), ("WornSkin$Reader", 66, "or", 24), ("WornSkin$Reader", 124, "()<=+-*;", 25)]
