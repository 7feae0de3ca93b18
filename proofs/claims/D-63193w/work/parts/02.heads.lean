set_option maxRecDepth 100000
def RX1 : String := "WriteOnceDisc"
def TX1 : u_T := fun k => match k with
  | 0 => ("WriteOnceDisc", "power", "LWriteOnceDisc$Power;", true)
  | 1 => ("WriteOnceDisc", "burner", "LWriteOnceDisc$Burner;", true)
  | 2 => ("WriteOnceDisc", "medium", "LWriteOnceDisc$Medium;", false)
  | 3 => ("WriteOnceDisc", "other", "LWriteOnceDisc$Medium;", false)
  | 4 => ("WriteOnceDisc", "tree", "LWriteOnceDisc$Tree;", false)
  | 5 => ("WriteOnceDisc", "opened", "LWriteOnceDisc$Reader;", true)
  | 6 => ("WriteOnceDisc", "one", "LWriteOnceDisc$Reader;", true)
  | 7 => ("WriteOnceDisc", "two", "LWriteOnceDisc$Reader;", true)
  | 8 => ("WriteOnceDisc", "marked", "[I", true)
  | 9 => ("WriteOnceDisc", "last", "I", false)
  | _ => ("WriteOnceDisc", "markCount", "I", false)
def tyX1 : Nat → FieldType := fun k => match k with
  | 0 => .object "WriteOnceDisc$Power"
  | 1 => .object "WriteOnceDisc$Burner"
  | 2 => .object "WriteOnceDisc$Medium"
  | 3 => .object "WriteOnceDisc$Medium"
  | 4 => .object "WriteOnceDisc$Tree"
  | 5 => .object "WriteOnceDisc$Reader"
  | 6 => .object "WriteOnceDisc$Reader"
  | 7 => .object "WriteOnceDisc$Reader"
  | 8 => .array .int
  | 9 => .int
  | _ => .int
abbrev wsX10 : List Cond := u_ws RX1 TX1 11
theorem nmX1 : ∀ a, a < 11 → ∀ b, b < 11 → a ≠ b → (TX1 a).2.1 ≠ (TX1 b).2.1 := by decide +kernel
theorem tyX1_ok : ∀ k, k < 11 → parseFieldDescriptor (TX1 k).2.2.1 = some (tyX1 k) := by decide +kernel
theorem in_X1 : ∀ w ∈ wsX10, w ∈ lw_all := lw_in wsX10 [637, 639, 641, 643, 645, 647, 649, 651, 653, 655, 657] (by decide +kernel) (by decide +kernel)
def RX2 : String := "WriteOnceDisc$Power"
def TX2 : u_T := fun k => match k with
  | 0 => ("WriteOnceDisc$Power", "left", "I", false)
  | 1 => ("WriteOnceDisc$Power", "writes", "I", false)
  | _ => ("WriteOnceDisc$Power", "lost", "Z", false)
def tyX2 : Nat → FieldType := fun k => match k with
  | 0 => .int
  | 1 => .int
  | _ => .boolean
abbrev wsX20 : List Cond := u_ws RX2 TX2 3
theorem nmX2 : ∀ a, a < 3 → ∀ b, b < 3 → a ≠ b → (TX2 a).2.1 ≠ (TX2 b).2.1 := by decide +kernel
theorem tyX2_ok : ∀ k, k < 3 → parseFieldDescriptor (TX2 k).2.2.1 = some (tyX2 k) := by decide +kernel
theorem in_X2 : ∀ w ∈ wsX20, w ∈ lw_all := lw_in wsX20 [134, 136, 138] (by decide +kernel) (by decide +kernel)
def RX3 : String := "WriteOnceDisc$Burner"
def TX3 : u_T := fun k => match k with
  | 0 => ("WriteOnceDisc$Burner", "medium", "LWriteOnceDisc$Medium;", false)
  | 1 => ("WriteOnceDisc$Burner", "old", "LWriteOnceDisc$Medium;", false)
  | 2 => ("WriteOnceDisc$Burner", "power", "LWriteOnceDisc$Power;", true)
  | 3 => ("WriteOnceDisc$Burner", "tree", "LWriteOnceDisc$Tree;", false)
  | 4 => ("WriteOnceDisc$Burner", "table", "Ljava/util/ArrayList;", true)
  | _ => ("WriteOnceDisc$Burner", "page", "LWriteOnceDisc$Page;", true)
def tyX3 : Nat → FieldType := fun k => match k with
  | 0 => .object "WriteOnceDisc$Medium"
  | 1 => .object "WriteOnceDisc$Medium"
  | 2 => .object "WriteOnceDisc$Power"
  | 3 => .object "WriteOnceDisc$Tree"
  | 4 => .object "java/util/ArrayList"
  | _ => .object "WriteOnceDisc$Page"
abbrev wsX30 : List Cond := u_ws RX3 TX3 6
theorem nmX3 : ∀ a, a < 6 → ∀ b, b < 6 → a ≠ b → (TX3 a).2.1 ≠ (TX3 b).2.1 := by decide +kernel
theorem tyX3_ok : ∀ k, k < 6 → parseFieldDescriptor (TX3 k).2.2.1 = some (tyX3 k) := by decide +kernel
theorem in_X3 : ∀ w ∈ wsX30, w ∈ lw_all := lw_in wsX30 [191, 193, 195, 197, 199, 201] (by decide +kernel) (by decide +kernel)
def RX4 : String := "WriteOnceDisc$Page"
def TX4 : u_T := fun k => match k with
  | _ => ("WriteOnceDisc$Page", "bytes", "[B", true)
def tyX4 : Nat → FieldType := fun k => match k with
  | _ => .array .byte
abbrev wsX40 : List Cond := u_ws RX4 TX4 1
theorem nmX4 : ∀ a, a < 1 → ∀ b, b < 1 → a ≠ b → (TX4 a).2.1 ≠ (TX4 b).2.1 := by decide +kernel
theorem tyX4_ok : ∀ k, k < 1 → parseFieldDescriptor (TX4 k).2.2.1 = some (tyX4 k) := by decide +kernel
theorem in_X4 : ∀ w ∈ wsX40, w ∈ lw_all := lw_in wsX40 [181] (by decide +kernel) (by decide +kernel)
def RX5 : String := "WriteOnceDisc$Tree"
def TX5 : u_T := fun k => match k with
  | 0 => ("WriteOnceDisc$Tree", "nodes", "Ljava/util/ArrayList;", true)
  | _ => ("WriteOnceDisc$Tree", "given", "I", false)
def tyX5 : Nat → FieldType := fun k => match k with
  | 0 => .object "java/util/ArrayList"
  | _ => .int
abbrev wsX50 : List Cond := u_ws RX5 TX5 2
theorem nmX5 : ∀ a, a < 2 → ∀ b, b < 2 → a ≠ b → (TX5 a).2.1 ≠ (TX5 b).2.1 := by decide +kernel
theorem tyX5_ok : ∀ k, k < 2 → parseFieldDescriptor (TX5 k).2.2.1 = some (tyX5 k) := by decide +kernel
theorem in_X5 : ∀ w ∈ wsX50, w ∈ lw_all := lw_in wsX50 [546, 548] (by decide +kernel) (by decide +kernel)
def RX6 : String := "WriteOnceDisc$Node"
def TX6 : u_T := fun k => match k with
  | 0 => ("WriteOnceDisc$Node", "number", "I", true)
  | 1 => ("WriteOnceDisc$Node", "directory", "Z", true)
  | 2 => ("WriteOnceDisc$Node", "parent", "I", false)
  | 3 => ("WriteOnceDisc$Node", "size", "I", false)
  | 4 => ("WriteOnceDisc$Node", "seed", "I", false)
  | 5 => ("WriteOnceDisc$Node", "sector", "I", false)
  | 6 => ("WriteOnceDisc$Node", "name", "Ljava/lang/String;", false)
  | 7 => ("WriteOnceDisc$Node", "identifier", "Ljava/lang/String;", false)
  | 8 => ("WriteOnceDisc$Node", "written", "Z", false)
  | 9 => ("WriteOnceDisc$Node", "at", "I", false)
  | 10 => ("WriteOnceDisc$Node", "many", "I", false)
  | _ => ("WriteOnceDisc$Node", "place", "I", false)
def tyX6 : Nat → FieldType := fun k => match k with
  | 0 => .int
  | 1 => .boolean
  | 2 => .int
  | 3 => .int
  | 4 => .int
  | 5 => .int
  | 6 => .object "java/lang/String"
  | 7 => .object "java/lang/String"
  | 8 => .boolean
  | 9 => .int
  | 10 => .int
  | _ => .int
abbrev wsX60 : List Cond := u_ws RX6 TX6 12
theorem nmX6 : ∀ a, a < 12 → ∀ b, b < 12 → a ≠ b → (TX6 a).2.1 ≠ (TX6 b).2.1 := by decide +kernel
theorem tyX6_ok : ∀ k, k < 12 → parseFieldDescriptor (TX6 k).2.2.1 = some (tyX6 k) := by decide +kernel
theorem in_X6 : ∀ w ∈ wsX60, w ∈ lw_all := lw_in wsX60 [466, 468, 470, 472, 474, 476, 478, 480, 482, 484, 486, 488] (by decide +kernel) (by decide +kernel)
def RX7 : String := "WriteOnceDisc$Medium"
def TX7 : u_T := fun k => match k with
  | 0 => ("WriteOnceDisc$Medium", "sectors", "I", true)
  | 1 => ("WriteOnceDisc$Medium", "bytes", "[B", true)
  | 2 => ("WriteOnceDisc$Medium", "states", "[I", true)
  | _ => ("WriteOnceDisc$Medium", "defects", "[Z", true)
def tyX7 : Nat → FieldType := fun k => match k with
  | 0 => .int
  | 1 => .array .byte
  | 2 => .array .int
  | _ => .array .boolean
abbrev wsX70 : List Cond := u_ws RX7 TX7 4
theorem nmX7 : ∀ a, a < 4 → ∀ b, b < 4 → a ≠ b → (TX7 a).2.1 ≠ (TX7 b).2.1 := by decide +kernel
theorem tyX7_ok : ∀ k, k < 4 → parseFieldDescriptor (TX7 k).2.2.1 = some (tyX7 k) := by decide +kernel
theorem in_X7 : ∀ w ∈ wsX70, w ∈ lw_all := lw_in wsX70 [569, 571, 573, 575] (by decide +kernel) (by decide +kernel)
def RX8 : String := "WriteOnceDisc$Reader"
def TX8 : u_T := fun k => match k with
  | 0 => ("WriteOnceDisc$Reader", "nodes", "Ljava/util/ArrayList;", true)
  | 1 => ("WriteOnceDisc$Reader", "made", "[LWriteOnceDisc$Found;", true)
  | 2 => ("WriteOnceDisc$Reader", "used", "I", false)
  | 3 => ("WriteOnceDisc$Reader", "medium", "LWriteOnceDisc$Medium;", false)
  | 4 => ("WriteOnceDisc$Reader", "idAt", "J", false)
  | 5 => ("WriteOnceDisc$Reader", "lastAt", "J", false)
  | 6 => ("WriteOnceDisc$Reader", "idLength", "I", false)
  | 7 => ("WriteOnceDisc$Reader", "lastLength", "I", false)
  | 8 => ("WriteOnceDisc$Reader", "wrong", "I", false)
  | 9 => ("WriteOnceDisc$Reader", "places", "[I", true)
  | _ => ("WriteOnceDisc$Reader", "length", "I", false)
def tyX8 : Nat → FieldType := fun k => match k with
  | 0 => .object "java/util/ArrayList"
  | 1 => .array (.object "WriteOnceDisc$Found")
  | 2 => .int
  | 3 => .object "WriteOnceDisc$Medium"
  | 4 => .long
  | 5 => .long
  | 6 => .int
  | 7 => .int
  | 8 => .int
  | 9 => .array .int
  | _ => .int
abbrev wsX80 : List Cond := u_ws RX8 TX8 11
theorem nmX8 : ∀ a, a < 11 → ∀ b, b < 11 → a ≠ b → (TX8 a).2.1 ≠ (TX8 b).2.1 := by decide +kernel
theorem tyX8_ok : ∀ k, k < 11 → parseFieldDescriptor (TX8 k).2.2.1 = some (tyX8 k) := by decide +kernel
theorem in_X8 : ∀ w ∈ wsX80, w ∈ lw_all := lw_in wsX80 [603, 605, 607, 609, 611, 613, 615, 617, 619, 621, 623] (by decide +kernel) (by decide +kernel)
def RX9 : String := "WriteOnceDiscModel"
def TX9 : u_T := fun k => match k with
  | 0 => ("WriteOnceDiscModel", "thrown", "I", false)
  | 1 => ("WriteOnceDiscModel", "sectors", "I", true)
  | 2 => ("WriteOnceDiscModel", "side", "I", false)
  | 3 => ("WriteOnceDiscModel", "bytes", "[B", true)
  | 4 => ("WriteOnceDiscModel", "states", "[B", true)
  | 5 => ("WriteOnceDiscModel", "defective", "[Z", true)
  | 6 => ("WriteOnceDiscModel", "lost", "Z", false)
  | 7 => ("WriteOnceDiscModel", "left", "I", false)
  | 8 => ("WriteOnceDiscModel", "writes", "I", false)
  | 9 => ("WriteOnceDiscModel", "page", "[B", true)
  | 10 => ("WriteOnceDiscModel", "many", "I", false)
  | 11 => ("WriteOnceDiscModel", "isThere", "[Z", true)
  | 12 => ("WriteOnceDiscModel", "isDirectory", "[Z", true)
  | 13 => ("WriteOnceDiscModel", "parent", "[I", true)
  | 14 => ("WriteOnceDiscModel", "name", "[J", true)
  | 15 => ("WriteOnceDiscModel", "size", "[I", true)
  | 16 => ("WriteOnceDiscModel", "seed", "[I", true)
  | 17 => ("WriteOnceDiscModel", "isWritten", "[Z", true)
  | 18 => ("WriteOnceDiscModel", "extent", "[I", true)
  | 19 => ("WriteOnceDiscModel", "older", "[I", true)
  | 20 => ("WriteOnceDiscModel", "number", "I", false)
  | 21 => ("WriteOnceDiscModel", "plan", "[B", true)
  | 22 => ("WriteOnceDiscModel", "directories", "I", false)
  | 23 => ("WriteOnceDiscModel", "planned", "I", false)
  | 24 => ("WriteOnceDiscModel", "table", "[I", true)
  | 25 => ("WriteOnceDiscModel", "at", "[I", true)
  | 26 => ("WriteOnceDiscModel", "long0", "[I", true)
  | 27 => ("WriteOnceDiscModel", "seen", "I", false)
  | 28 => ("WriteOnceDiscModel", "wrong", "I", false)
  | 29 => ("WriteOnceDiscModel", "sAbove", "[I", true)
  | 30 => ("WriteOnceDiscModel", "sDirectory", "[Z", true)
  | 31 => ("WriteOnceDiscModel", "sSize", "[I", true)
  | 32 => ("WriteOnceDiscModel", "sSector", "[I", true)
  | 33 => ("WriteOnceDiscModel", "sName", "[J", true)
  | 34 => ("WriteOnceDiscModel", "sDepth", "[I", true)
  | 35 => ("WriteOnceDiscModel", "opened", "I", false)
  | 36 => ("WriteOnceDiscModel", "oAbove", "[I", true)
  | 37 => ("WriteOnceDiscModel", "oDirectory", "[Z", true)
  | 38 => ("WriteOnceDiscModel", "oSize", "[I", true)
  | 39 => ("WriteOnceDiscModel", "oSector", "[I", true)
  | _ => ("WriteOnceDiscModel", "oName", "[J", true)
def tyX9 : Nat → FieldType := fun k => match k with
  | 0 => .int
  | 1 => .int
  | 2 => .int
  | 3 => .array .byte
  | 4 => .array .byte
  | 5 => .array .boolean
  | 6 => .boolean
  | 7 => .int
  | 8 => .int
  | 9 => .array .byte
  | 10 => .int
  | 11 => .array .boolean
  | 12 => .array .boolean
  | 13 => .array .int
  | 14 => .array .long
  | 15 => .array .int
  | 16 => .array .int
  | 17 => .array .boolean
  | 18 => .array .int
  | 19 => .array .int
  | 20 => .int
  | 21 => .array .byte
  | 22 => .int
  | 23 => .int
  | 24 => .array .int
  | 25 => .array .int
  | 26 => .array .int
  | 27 => .int
  | 28 => .int
  | 29 => .array .int
  | 30 => .array .boolean
  | 31 => .array .int
  | 32 => .array .int
  | 33 => .array .long
  | 34 => .array .int
  | 35 => .int
  | 36 => .array .int
  | 37 => .array .boolean
  | 38 => .array .int
  | 39 => .array .int
  | _ => .array .long
abbrev wsX90 : List Cond := u_ws RX9 TX9 41
theorem nmX9 : ∀ a, a < 41 → ∀ b, b < 41 → a ≠ b → (TX9 a).2.1 ≠ (TX9 b).2.1 := by decide +kernel
theorem tyX9_ok : ∀ k, k < 41 → parseFieldDescriptor (TX9 k).2.2.1 = some (tyX9 k) := by decide +kernel
theorem in_X9 : ∀ w ∈ wsX90, w ∈ lw_all := lw_in wsX90 [1335, 1337, 1339, 1341, 1343, 1345, 1347, 1349, 1351, 1353, 1355, 1357, 1359, 1361, 1363, 1365, 1367, 1369, 1371, 1373, 1375, 1377, 1379, 1381, 1383, 1385, 1387, 1389, 1391, 1393, 1395, 1397, 1399, 1401, 1403, 1405, 1407, 1409, 1411, 1413, 1415] (by decide +kernel) (by decide +kernel)
def RX10 : String := "WriteOnceDisc$Found"
def TX10 : u_T := fun k => match k with
  | 0 => ("WriteOnceDisc$Found", "parent", "I", false)
  | 1 => ("WriteOnceDisc$Found", "depth", "I", false)
  | 2 => ("WriteOnceDisc$Found", "sector", "I", false)
  | 3 => ("WriteOnceDisc$Found", "size", "I", false)
  | 4 => ("WriteOnceDisc$Found", "directory", "Z", false)
  | _ => ("WriteOnceDisc$Found", "name", "J", false)
def tyX10 : Nat → FieldType := fun k => match k with
  | 0 => .int
  | 1 => .int
  | 2 => .int
  | 3 => .int
  | 4 => .boolean
  | _ => .long
abbrev wsX100 : List Cond := u_ws RX10 TX10 6
theorem nmX10 : ∀ a, a < 6 → ∀ b, b < 6 → a ≠ b → (TX10 a).2.1 ≠ (TX10 b).2.1 := by decide +kernel
theorem tyX10_ok : ∀ k, k < 6 → parseFieldDescriptor (TX10 k).2.2.1 = some (tyX10 k) := by decide +kernel
theorem in_X10 : ∀ w ∈ wsX100, w ∈ lw_all := lw_in wsX100 [1071, 1073, 1075, 1077, 1079, 1081] (by decide +kernel) (by decide +kernel)
def RJ2 : String := "java/util/ArrayList"
def TJ2 : u_T := fun k => match k with
  | 0 => ("java/util/AbstractList", "modCount", "I", false)
  | 1 => ("java/util/ArrayList", "elementData", "[Ljava/lang/Object;", false)
  | _ => ("java/util/ArrayList", "size", "I", false)
def tyJ2 : Nat → FieldType := fun k => match k with
  | 0 => .int
  | 1 => .array (.object "java/lang/Object")
  | _ => .int
abbrev wsJ20 : List Cond := u_ws RJ2 TJ2 3
theorem nmJ2 : ∀ a, a < 3 → ∀ b, b < 3 → a ≠ b → (TJ2 a).2.1 ≠ (TJ2 b).2.1 := by decide +kernel
theorem tyJ2_ok : ∀ k, k < 3 → parseFieldDescriptor (TJ2 k).2.2.1 = some (tyJ2 k) := by decide +kernel
theorem in_J2 : ∀ w ∈ wsJ20, w ∈ lw_all := lw_in wsJ20 [170, 166, 168] (by decide +kernel) (by decide +kernel)
def RJ4 : String := "java/lang/StringBuilder"
def TJ4 : u_T := fun k => match k with
  | 0 => ("java/lang/AbstractStringBuilder", "value", "[B", false)
  | 1 => ("java/lang/AbstractStringBuilder", "coder", "B", false)
  | 2 => ("java/lang/AbstractStringBuilder", "maybeLatin1", "Z", false)
  | _ => ("java/lang/AbstractStringBuilder", "count", "I", false)
def tyJ4 : Nat → FieldType := fun k => match k with
  | 0 => .array .byte
  | 1 => .byte
  | 2 => .boolean
  | _ => .int
abbrev wsJ40 : List Cond := u_ws RJ4 TJ4 4
theorem nmJ4 : ∀ a, a < 4 → ∀ b, b < 4 → a ≠ b → (TJ4 a).2.1 ≠ (TJ4 b).2.1 := by decide +kernel
theorem tyJ4_ok : ∀ k, k < 4 → parseFieldDescriptor (TJ4 k).2.2.1 = some (tyJ4 k) := by decide +kernel
theorem in_J4 : ∀ w ∈ wsJ40, w ∈ lw_all := lw_in wsJ40 [245, 247, 249, 251] (by decide +kernel) (by decide +kernel)
def RJ5 : String := "java/lang/String"
def TJ5 : u_T := fun k => match k with
  | 0 => ("java/lang/String", "value", "[B", true)
  | 1 => ("java/lang/String", "coder", "B", true)
  | 2 => ("java/lang/String", "hash", "I", false)
  | _ => ("java/lang/String", "hashIsZero", "Z", false)
def tyJ5 : Nat → FieldType := fun k => match k with
  | 0 => .array .byte
  | 1 => .byte
  | 2 => .int
  | _ => .boolean
abbrev wsJ50 : List Cond := u_ws RJ5 TJ5 4
theorem nmJ5 : ∀ a, a < 4 → ∀ b, b < 4 → a ≠ b → (TJ5 a).2.1 ≠ (TJ5 b).2.1 := by decide +kernel
theorem tyJ5_ok : ∀ k, k < 4 → parseFieldDescriptor (TJ5 k).2.2.1 = some (tyJ5 k) := by decide +kernel
theorem in_J5 : ∀ w ∈ wsJ50, w ∈ lw_all := lw_in wsJ50 [426, 428, 430, 432] (by decide +kernel) (by decide +kernel)
def RJ16 : String := "java/util/NoSuchElementException"
def TJ16 : u_T := fun k => match k with
  | 0 => ("java/lang/Throwable", "cause", "Ljava/lang/Throwable;", false)
  | 1 => ("java/lang/Throwable", "stackTrace", "[Ljava/lang/StackTraceElement;", false)
  | 2 => ("java/lang/Throwable", "suppressedExceptions", "Ljava/util/List;", false)
  | 3 => ("java/lang/Throwable", "detailMessage", "Ljava/lang/String;", false)
  | 4 => ("java/lang/Throwable", "backtrace", "Ljava/lang/Object;", false)
  | _ => ("java/lang/Throwable", "depth", "I", false)
def tyJ16 : Nat → FieldType := fun k => match k with
  | 0 => .object "java/lang/Throwable"
  | 1 => .array (.object "java/lang/StackTraceElement")
  | 2 => .object "java/util/List"
  | 3 => .object "java/lang/String"
  | 4 => .object "java/lang/Object"
  | _ => .int
abbrev wsJ160 : List Cond := u_ws RJ16 TJ16 6
theorem nmJ16 : ∀ a, a < 6 → ∀ b, b < 6 → a ≠ b → (TJ16 a).2.1 ≠ (TJ16 b).2.1 := by decide +kernel
theorem tyJ16_ok : ∀ k, k < 6 → parseFieldDescriptor (TJ16 k).2.2.1 = some (tyJ16 k) := by decide +kernel
theorem in_J16 : ∀ w ∈ wsJ160, w ∈ lw_all := lw_in wsJ160 [1201, 1203, 1205, 1207, 1209, 1247] (by decide +kernel) (by decide +kernel)
/-- the classes, by number: name, fields, how many, their types -/
def kcl : List (String × u_T × Nat × (Nat → FieldType)) := [(RX1, TX1, 11, tyX1), (RX2, TX2, 3, tyX2), (RX3, TX3, 6, tyX3), (RX4, TX4, 1, tyX4), (RX5, TX5, 2, tyX5), (RX6, TX6, 12, tyX6), (RX7, TX7, 4, tyX7), (RX8, TX8, 11, tyX8), (RX9, TX9, 41, tyX9), (RX10, TX10, 6, tyX10), (RJ2, TJ2, 3, tyJ2), (RJ4, TJ4, 4, tyJ4), (RJ5, TJ5, 4, tyJ5), (RJ16, TJ16, 6, tyJ16)]
/-- the text constants, by number: owner, entry, text -/
def kst_ : List (String × Nat × String) := [("WriteOnceDisc", 13, ""), ("WriteOnceDisc", 209, "MARK"), ("WriteOnceDisc$Burner", 202, "CD001"), ("WriteOnceDisc$Burner", 109, ""), ("WriteOnceDisc$Burner", 211, "MARK"), ("WriteOnceDisc$Tree", 20, ""), ("WriteOnceDisc$Node", 37, ".;1"), ("WriteOnceDisc$Reader", 45, "CD001"), ("WriteOnceDisc$Reader", 83, ".;1")]
