def F_T : u_T := fun k => match k with
  | 0 => ("PpmTreesModel", "thrown", "I", false)
  | 1 => ("PpmTreesModel", "order", "I", true)
  | 2 => ("PpmTreesModel", "room", "I", true)
  | 3 => ("PpmTreesModel", "size", "I", false)
  | 4 => ("PpmTreesModel", "outSize", "I", false)
  | 5 => ("PpmTreesModel", "received", "I", false)
  | 6 => ("PpmTreesModel", "kept", "I", false)
  | 7 => ("PpmTreesModel", "excluded", "I", false)
  | 8 => ("PpmTreesModel", "sum", "I", false)
  | 9 => ("PpmTreesModel", "many", "I", false)
  | 10 => ("PpmTreesModel", "from", "I", false)
  | 11 => ("PpmTreesModel", "length", "I", false)
  | 12 => ("PpmTreesModel", "of", "I", false)
  | 13 => ("PpmTreesModel", "restarted", "Z", false)
  | 14 => ("PpmTreesModel", "low", "I", false)
  | 15 => ("PpmTreesModel", "high", "I", false)
  | 16 => ("PpmTreesModel", "held", "I", false)
  | 17 => ("PpmTreesModel", "bits", "I", false)
  | 18 => ("PpmTreesModel", "escapes", "I", false)
  | 19 => ("PpmTreesModel", "begunAnew", "I", false)
  | 20 => ("PpmTreesModel", "isPacked", "Z", false)
  | 21 => ("PpmTreesModel", "packed", "I", false)
  | 22 => ("PpmTreesModel", "number", "I", false)
  | 23 => ("PpmTreesModel", "taken", "I", false)
  | 24 => ("PpmTreesModel", "place", "I", false)
  | 25 => ("PpmTreesModel", "got", "I", false)
  | 26 => ("PpmTreesModel", "readIn", "I", false)
  | 27 => ("PpmTreesModel", "text", "[I", true)
  | 28 => ("PpmTreesModel", "out", "[I", true)
  | 29 => ("PpmTreesModel", "receivedByte", "[I", true)
  | 30 => ("PpmTreesModel", "nodes", "[I", true)
  | 31 => ("PpmTreesModel", "parent", "[I", true)
  | 32 => ("PpmTreesModel", "octet", "[I", true)
  | 33 => ("PpmTreesModel", "count", "[I", true)
  | 34 => ("PpmTreesModel", "latests", "[I", true)
  | 35 => ("PpmTreesModel", "latest", "[I", true)
  | 36 => ("PpmTreesModel", "restarts", "[I", true)
  | 37 => ("PpmTreesModel", "isExcluded", "[Z", true)
  | 38 => ("PpmTreesModel", "counts", "[I", true)
  | 39 => ("PpmTreesModel", "made", "[I", true)
  | 40 => ("PpmTreesModel", "signExcluded", "[I", true)
  | 41 => ("PpmTreesModel", "signFound", "[I", true)
  | 42 => ("PpmTreesModel", "toldOf", "[I", true)
  | 43 => ("PpmTreesModel", "packedExcluded", "[I", true)
  | 44 => ("PpmTreesModel", "packedFound", "[I", true)
  | _ => ("PpmTreesModel", "gotByte", "[I", true)
def fty_T : Nat → FieldType := fun k => match k with
  | 0 => .int
  | 1 => .int
  | 2 => .int
  | 3 => .int
  | 4 => .int
  | 5 => .int
  | 6 => .int
  | 7 => .int
  | 8 => .int
  | 9 => .int
  | 10 => .int
  | 11 => .int
  | 12 => .int
  | 13 => .boolean
  | 14 => .int
  | 15 => .int
  | 16 => .int
  | 17 => .int
  | 18 => .int
  | 19 => .int
  | 20 => .boolean
  | 21 => .int
  | 22 => .int
  | 23 => .int
  | 24 => .int
  | 25 => .int
  | 26 => .int
  | 27 => .array .int
  | 28 => .array .int
  | 29 => .array .int
  | 30 => .array .int
  | 31 => .array .int
  | 32 => .array .int
  | 33 => .array .int
  | 34 => .array .int
  | 35 => .array .int
  | 36 => .array .int
  | 37 => .array .boolean
  | 38 => .array .int
  | 39 => .array .int
  | 40 => .array .int
  | 41 => .array .int
  | 42 => .array .int
  | 43 => .array .int
  | 44 => .array .int
  | _ => .array .int
def F_X : u_T := fun k => match k with
  | 0 => ("PpmTrees", "excluded", "I", false)
  | 1 => ("PpmTrees", "escapes", "I", false)
  | 2 => ("PpmTrees", "found", "I", false)
  | 3 => ("PpmTrees", "textSize", "I", false)
  | 4 => ("PpmTrees", "outSize", "I", false)
  | 5 => ("PpmTrees", "receivedSize", "I", false)
  | 6 => ("PpmTrees", "place", "I", false)
  | 7 => ("PpmTrees", "isPacked", "Z", false)
  | 8 => ("PpmTrees", "bitsTold", "I", false)
  | 9 => ("PpmTrees", "escapesTold", "I", false)
  | 10 => ("PpmTrees", "restartsTold", "I", false)
  | 11 => ("PpmTrees", "signsTold", "I", false)
  | 12 => ("PpmTrees", "isExcluded", "[Z", true)
  | 13 => ("PpmTrees", "ends", "[LPpmTrees$Model;", true)
  | 14 => ("PpmTrees", "restarts", "[I", true)
  | 15 => ("PpmTrees", "text", "[I", true)
  | 16 => ("PpmTrees", "out", "[I", true)
  | 17 => ("PpmTrees", "received", "[I", true)
  | 18 => ("PpmTrees", "fresh", "[I", true)
  | 19 => ("PpmTrees", "excludedTold", "[I", true)
  | 20 => ("PpmTrees", "foundTold", "[I", true)
  | 21 => ("PpmTrees", "kept", "Ljava/util/List;", true)
  | 22 => ("PpmTrees", "before", "LPpmTrees$Model;", true)
  | 23 => ("PpmTrees", "writer", "LPpmTrees$Writer;", true)
  | 24 => ("PpmTrees", "again", "LPpmTrees$Writer;", true)
  | 25 => ("PpmTrees", "reader", "LPpmTrees$Reader;", true)
  | 26 => ("PpmTrees", "writing", "LPpmTrees$Taker;", true)
  | 27 => ("PpmTrees", "reading", "LPpmTrees$Taker;", true)
  | _ => ("PpmTrees", "sum", "LPpmTrees$Sum;", true)
def fty_X : Nat → FieldType := fun k => match k with
  | 0 => .int
  | 1 => .int
  | 2 => .int
  | 3 => .int
  | 4 => .int
  | 5 => .int
  | 6 => .int
  | 7 => .boolean
  | 8 => .int
  | 9 => .int
  | 10 => .int
  | 11 => .int
  | 12 => .array .boolean
  | 13 => .array (.object "PpmTrees$Model")
  | 14 => .array .int
  | 15 => .array .int
  | 16 => .array .int
  | 17 => .array .int
  | 18 => .array .int
  | 19 => .array .int
  | 20 => .array .int
  | 21 => .object "java/util/List"
  | 22 => .object "PpmTrees$Model"
  | 23 => .object "PpmTrees$Writer"
  | 24 => .object "PpmTrees$Writer"
  | 25 => .object "PpmTrees$Reader"
  | 26 => .object "PpmTrees$Taker"
  | 27 => .object "PpmTrees$Taker"
  | _ => .object "PpmTrees$Sum"
def F_Mo : u_T := fun k => match k with
  | 0 => ("PpmTrees$Model", "order", "I", true)
  | 1 => ("PpmTrees$Model", "room", "I", true)
  | 2 => ("PpmTrees$Model", "size", "I", false)
  | 3 => ("PpmTrees$Model", "lateMany", "I", false)
  | 4 => ("PpmTrees$Model", "parents", "[I", true)
  | 5 => ("PpmTrees$Model", "bytes", "[I", true)
  | 6 => ("PpmTrees$Model", "counts", "[I", true)
  | 7 => ("PpmTrees$Model", "firsts", "[I", true)
  | 8 => ("PpmTrees$Model", "nexts", "[I", true)
  | _ => ("PpmTrees$Model", "late", "[I", true)
def fty_Mo : Nat → FieldType := fun k => match k with
  | 0 => .int
  | 1 => .int
  | 2 => .int
  | 3 => .int
  | 4 => .array .int
  | 5 => .array .int
  | 6 => .array .int
  | 7 => .array .int
  | 8 => .array .int
  | _ => .array .int
def F_Wr : u_T := fun k => match k with
  | 0 => ("PpmTrees$Writer", "bits", "I", false)
  | 1 => ("PpmTrees$Writer", "held", "I", false)
  | 2 => ("PpmTrees$Range", "low", "I", false)
  | 3 => ("PpmTrees$Range", "high", "I", false)
  | _ => ("PpmTrees$Writer", "bytes", "[B", true)
def fty_Wr : Nat → FieldType := fun k => match k with
  | 0 => .int
  | 1 => .int
  | 2 => .int
  | 3 => .int
  | _ => .array .byte
def F_Re : u_T := fun k => match k with
  | 0 => ("PpmTrees$Reader", "number", "I", false)
  | 1 => ("PpmTrees$Reader", "taken", "I", false)
  | 2 => ("PpmTrees$Range", "low", "I", false)
  | 3 => ("PpmTrees$Range", "high", "I", false)
  | _ => ("PpmTrees$Reader", "this$0", "LPpmTrees;", true)
def fty_Re : Nat → FieldType := fun k => match k with
  | 0 => .int
  | 1 => .int
  | 2 => .int
  | 3 => .int
  | _ => .object "PpmTrees"
def F_Su : u_T := fun k => match k with
  | _ => ("PpmTrees$Sum", "all", "I", false)
def fty_Su : Nat → FieldType := fun k => match k with
  | _ => .int
def F_P1 : u_T := fun k => match k with
  | _ => ("PpmTrees$1", "this$0", "LPpmTrees;", true)
def fty_P1 : Nat → FieldType := fun k => match k with
  | _ => .object "PpmTrees"
def F_P2 : u_T := fun k => match k with
  | _ => ("PpmTrees$2", "this$0", "LPpmTrees;", true)
def fty_P2 : Nat → FieldType := fun k => match k with
  | _ => .object "PpmTrees"
def F_AL : u_T := fun k => match k with
  | 0 => ("java/util/ArrayList", "size", "I", false)
  | 1 => ("java/util/AbstractList", "modCount", "I", false)
  | _ => ("java/util/ArrayList", "elementData", "[Ljava/lang/Object;", false)
def fty_AL : Nat → FieldType := fun k => match k with
  | 0 => .int
  | 1 => .int
  | _ => .array (.object "java/lang/Object")
def F_Ai : u_T := fun k => match k with
  | 0 => ("java/lang/Throwable", "depth", "I", false)
  | 1 => ("java/lang/Throwable", "stackTrace", "[Ljava/lang/StackTraceElement;", false)
  | 2 => ("java/lang/Throwable", "backtrace", "Ljava/lang/Object;", false)
  | 3 => ("java/lang/Throwable", "detailMessage", "Ljava/lang/String;", false)
  | 4 => ("java/lang/Throwable", "cause", "Ljava/lang/Throwable;", false)
  | _ => ("java/lang/Throwable", "suppressedExceptions", "Ljava/util/List;", false)
def fty_Ai : Nat → FieldType := fun k => match k with
  | 0 => .int
  | 1 => .array (.object "java/lang/StackTraceElement")
  | 2 => .object "java/lang/Object"
  | 3 => .object "java/lang/String"
  | 4 => .object "java/lang/Throwable"
  | _ => .object "java/util/List"
abbrev classes : List vw_C := [("PpmTreesModel", F_T, 46), ("PpmTrees", F_X, 29), ("PpmTrees$Model", F_Mo, 10), ("PpmTrees$Writer", F_Wr, 5), ("PpmTrees$Reader", F_Re, 5), ("PpmTrees$Sum", F_Su, 1), ("PpmTrees$1", F_P1, 1), ("PpmTrees$2", F_P2, 1), ("java/util/ArrayList", F_AL, 3), ("java/lang/ArrayIndexOutOfBoundsException", F_Ai, 6)]
/-- the words that every contract takes: those of the tables that stay true -/
def Tg : List Cond := lw_tbl.filter goodWord
theorem mTg {w : Cond} (h : w ∈ lw_tbl) (g : goodWord w = true) : w ∈ Tg := List.mem_filter.mpr ⟨h, g⟩
theorem mT0 {w : Cond} (i : Nat) (h : (k2_sels lw_privs)[i]? = some w) : w ∈ lw_tbl := List.mem_append_left _ (List.mem_of_getElem? h)
theorem mTt {w : Cond} (h : w ∈ tables_1) : w ∈ lw_tbl := List.mem_append_right _ h
theorem mT1 {w : Cond} (i : Nat) (h : tables_1_1[i]? = some w) : w ∈ lw_tbl := mTt (List.mem_append_left _ (List.mem_of_getElem? h))
theorem mT2 {w : Cond} (i : Nat) (h : tables_1_2[i]? = some w) : w ∈ lw_tbl := mTt (List.mem_append_right _ (List.mem_append_left _ (List.mem_of_getElem? h)))
theorem mT3 {w : Cond} (i : Nat) (h : tables_1_3[i]? = some w) : w ∈ lw_tbl := mTt (List.mem_append_right _ (List.mem_append_right _ (List.mem_append_left _ (List.mem_of_getElem? h))))
theorem mT4 {w : Cond} (i : Nat) (h : tables_1_4[i]? = some w) : w ∈ lw_tbl := mTt (List.mem_append_right _ (List.mem_append_right _ (List.mem_append_right _ (List.mem_append_left _ (List.mem_of_getElem? h)))))
theorem mT5 {w : Cond} (i : Nat) (h : tables_1_5[i]? = some w) : w ∈ lw_tbl := mTt (List.mem_append_right _ (List.mem_append_right _ (List.mem_append_right _ (List.mem_append_right _ (List.mem_of_getElem? h)))))
theorem fn_T : ∀ a, a < 46 → ∀ b, b < 46 → a ≠ b → (F_T a).2.1 ≠ (F_T b).2.1 := by decide +kernel
theorem fty_T_ok : ∀ k, k < 46 → parseFieldDescriptor (F_T k).2.2.1 = some (fty_T k) := by decide +kernel
theorem fi_T : ∀ w ∈ u_ws "PpmTreesModel" F_T 46, w ∈ Tg := by decide +kernel
theorem fn_X : ∀ a, a < 29 → ∀ b, b < 29 → a ≠ b → (F_X a).2.1 ≠ (F_X b).2.1 := by decide +kernel
theorem fty_X_ok : ∀ k, k < 29 → parseFieldDescriptor (F_X k).2.2.1 = some (fty_X k) := by decide +kernel
theorem fi_X : ∀ w ∈ u_ws "PpmTrees" F_X 29, w ∈ Tg := by decide +kernel
theorem fn_Mo : ∀ a, a < 10 → ∀ b, b < 10 → a ≠ b → (F_Mo a).2.1 ≠ (F_Mo b).2.1 := by decide +kernel
theorem fty_Mo_ok : ∀ k, k < 10 → parseFieldDescriptor (F_Mo k).2.2.1 = some (fty_Mo k) := by decide +kernel
theorem fi_Mo : ∀ w ∈ u_ws "PpmTrees$Model" F_Mo 10, w ∈ Tg := by decide +kernel
theorem fn_Wr : ∀ a, a < 5 → ∀ b, b < 5 → a ≠ b → (F_Wr a).2.1 ≠ (F_Wr b).2.1 := by decide +kernel
theorem fty_Wr_ok : ∀ k, k < 5 → parseFieldDescriptor (F_Wr k).2.2.1 = some (fty_Wr k) := by decide +kernel
theorem fi_Wr : ∀ w ∈ u_ws "PpmTrees$Writer" F_Wr 5, w ∈ Tg := by decide +kernel
theorem fn_Re : ∀ a, a < 5 → ∀ b, b < 5 → a ≠ b → (F_Re a).2.1 ≠ (F_Re b).2.1 := by decide +kernel
theorem fty_Re_ok : ∀ k, k < 5 → parseFieldDescriptor (F_Re k).2.2.1 = some (fty_Re k) := by decide +kernel
theorem fi_Re : ∀ w ∈ u_ws "PpmTrees$Reader" F_Re 5, w ∈ Tg := by decide +kernel
theorem fn_Su : ∀ a, a < 1 → ∀ b, b < 1 → a ≠ b → (F_Su a).2.1 ≠ (F_Su b).2.1 := by decide +kernel
theorem fty_Su_ok : ∀ k, k < 1 → parseFieldDescriptor (F_Su k).2.2.1 = some (fty_Su k) := by decide +kernel
theorem fi_Su : ∀ w ∈ u_ws "PpmTrees$Sum" F_Su 1, w ∈ Tg := by decide +kernel
theorem fn_P1 : ∀ a, a < 1 → ∀ b, b < 1 → a ≠ b → (F_P1 a).2.1 ≠ (F_P1 b).2.1 := by decide +kernel
theorem fty_P1_ok : ∀ k, k < 1 → parseFieldDescriptor (F_P1 k).2.2.1 = some (fty_P1 k) := by decide +kernel
theorem fi_P1 : ∀ w ∈ u_ws "PpmTrees$1" F_P1 1, w ∈ Tg := by decide +kernel
theorem fn_P2 : ∀ a, a < 1 → ∀ b, b < 1 → a ≠ b → (F_P2 a).2.1 ≠ (F_P2 b).2.1 := by decide +kernel
theorem fty_P2_ok : ∀ k, k < 1 → parseFieldDescriptor (F_P2 k).2.2.1 = some (fty_P2 k) := by decide +kernel
theorem fi_P2 : ∀ w ∈ u_ws "PpmTrees$2" F_P2 1, w ∈ Tg := by decide +kernel
theorem fn_AL : ∀ a, a < 3 → ∀ b, b < 3 → a ≠ b → (F_AL a).2.1 ≠ (F_AL b).2.1 := by decide +kernel
theorem fty_AL_ok : ∀ k, k < 3 → parseFieldDescriptor (F_AL k).2.2.1 = some (fty_AL k) := by decide +kernel
theorem fi_AL : ∀ w ∈ u_ws "java/util/ArrayList" F_AL 3, w ∈ Tg := by decide +kernel
theorem fn_Ai : ∀ a, a < 6 → ∀ b, b < 6 → a ≠ b → (F_Ai a).2.1 ≠ (F_Ai b).2.1 := by decide +kernel
theorem fty_Ai_ok : ∀ k, k < 6 → parseFieldDescriptor (F_Ai k).2.2.1 = some (fty_Ai k) := by decide +kernel
theorem fi_Ai : ∀ w ∈ u_ws "java/lang/ArrayIndexOutOfBoundsException" F_Ai 6, w ∈ Tg := by decide +kernel
