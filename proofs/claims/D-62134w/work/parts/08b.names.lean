/-! ===== the classes by number, their fields, what the tables say of them (printed) ===== -/
theorem sd_in {w : Cond} (j : Nat) (h : tables_1[j]? = some w) : w ∈ lw_tbl := List.mem_append_right _ (List.mem_of_getElem? h)
theorem sd_mem (l : List Cond) (js : List Nat) (h : l.map some = js.map (fun j => tables_1[j]?)) : ∀ w ∈ l, w ∈ lw_tbl := by
  intro w hw
  have h1 : some w ∈ l.map some := List.mem_map.mpr ⟨w, hw, rfl⟩
  rw [h] at h1
  obtain ⟨j, -, e⟩ := List.mem_map.mp h1
  exact sd_in j e
def sd_nm (k : Nat) : String := match k with
  | 0 => "TreeShell"
  | 1 => "TreeShell$Dir"
  | 2 => "TreeShell$Doc"
  | 3 => "TreeShell$Grep"
  | 4 => "TreeShell$Level"
  | 5 => "TreeShell$Line"
  | 6 => "TreeShell$Words"
  | 7 => "TreeShellModel"
  | 8 => "java/lang/StringBuilder"
  | 9 => "TreeShell$Mark"
  | 10 => "TreeShell$Tool"
  | 11 => "java/lang/String"
  | 12 => "TreeShell$Node"
  | 13 => "java/lang/Enum"
  | 14 => "TreeShellLaw"
  | 15 => "java/lang/AbstractStringBuilder"
  | 16 => "java/lang/StringLatin1"
  | 17 => "java/lang/Integer"
  | 18 => "java/lang/Math"
  | 19 => "java/util/Arrays"
  | 20 => "jdk/internal/util/ArraysSupport"
  | 21 => "jdk/internal/util/Preconditions"
  | 22 => "java/lang/Object"
  | _ => ""
def sd_T0 : u_T := fun k => match k with
  | 0 => ("TreeShell", "mostNodes", "I", true)
  | 1 => ("TreeShell", "mostChars", "I", true)
  | 2 => ("TreeShell", "pipe", "I", true)
  | 3 => ("TreeShell", "root", "LTreeShell$Dir;", true)
  | 4 => ("TreeShell", "here", "LTreeShell$Dir;", false)
  | 5 => ("TreeShell", "nodes", "I", false)
  | 6 => ("TreeShell", "chars", "I", false)
  | 7 => ("TreeShell", "line", "LTreeShell$Line;", true)
  | 8 => ("TreeShell", "at", "I", false)
  | 9 => ("TreeShell", "words", "LTreeShell$Words;", true)
  | 10 => ("TreeShell", "levels", "[LTreeShell$Level;", true)
  | 11 => ("TreeShell", "tools", "[LTreeShell$Tool;", true)
  | 12 => ("TreeShell", "grep", "LTreeShell$Grep;", true)
  | 13 => ("TreeShell", "empty", "Ljava/lang/StringBuilder;", true)
  | 14 => ("TreeShell", "shown", "Ljava/lang/StringBuilder;", true)
  | 15 => ("TreeShell", "status", "I", false)
  | 16 => ("TreeShell", "ran", "I", false)
  | 17 => ("TreeShell", "broke", "Z", false)
  | 18 => ("TreeShell", "found", "LTreeShell$Node;", false)
  | 19 => ("TreeShell", "vacantIn", "LTreeShell$Dir;", false)
  | _ => ("TreeShell", "vacantName", "J", false)
def sd_t0 : Nat → FieldType := fun k => match k with
  | 0 => .int
  | 1 => .int
  | 2 => .int
  | 3 => .object "TreeShell$Dir"
  | 4 => .object "TreeShell$Dir"
  | 5 => .int
  | 6 => .int
  | 7 => .object "TreeShell$Line"
  | 8 => .int
  | 9 => .object "TreeShell$Words"
  | 10 => .array (.object "TreeShell$Level")
  | 11 => .array (.object "TreeShell$Tool")
  | 12 => .object "TreeShell$Grep"
  | 13 => .object "java/lang/StringBuilder"
  | 14 => .object "java/lang/StringBuilder"
  | 15 => .int
  | 16 => .int
  | 17 => .boolean
  | 18 => .object "TreeShell$Node"
  | 19 => .object "TreeShell$Dir"
  | _ => .long
theorem sd_n0 : ∀ a, a < 21 → ∀ b, b < 21 → a ≠ b → (sd_T0 a).2.1 ≠ (sd_T0 b).2.1 := by decide +kernel
theorem sd_k0 : ∀ k, k < 21 → parseFieldDescriptor (sd_T0 k).2.2.1 = some (sd_t0 k) := by decide +kernel
theorem sd_i0 : ∀ w ∈ u_ws "TreeShell" sd_T0 21, w ∈ lw_tbl := sd_mem _ [258, 260, 262, 264, 266, 268, 270, 272, 274, 276, 278, 280, 282, 284, 286, 288, 290, 292, 294, 296, 298] (by decide +kernel)
def sd_T1 : u_T := fun k => match k with
  | 0 => ("TreeShell$Node", "name", "J", true)
  | 1 => ("TreeShell$Node", "in", "LTreeShell$Dir;", true)
  | 2 => ("TreeShell$Node", "next", "LTreeShell$Node;", false)
  | _ => ("TreeShell$Dir", "first", "LTreeShell$Node;", false)
def sd_t1 : Nat → FieldType := fun k => match k with
  | 0 => .long
  | 1 => .object "TreeShell$Dir"
  | 2 => .object "TreeShell$Node"
  | _ => .object "TreeShell$Node"
theorem sd_n1 : ∀ a, a < 4 → ∀ b, b < 4 → a ≠ b → (sd_T1 a).2.1 ≠ (sd_T1 b).2.1 := by decide +kernel
theorem sd_k1 : ∀ k, k < 4 → parseFieldDescriptor (sd_T1 k).2.2.1 = some (sd_t1 k) := by decide +kernel
theorem sd_i1 : ∀ w ∈ u_ws "TreeShell$Dir" sd_T1 4, w ∈ lw_tbl := sd_mem _ [54, 56, 58, 52] (by decide +kernel)
def sd_T2 : u_T := fun k => match k with
  | 0 => ("TreeShell$Node", "name", "J", true)
  | 1 => ("TreeShell$Node", "in", "LTreeShell$Dir;", true)
  | 2 => ("TreeShell$Node", "next", "LTreeShell$Node;", false)
  | _ => ("TreeShell$Doc", "text", "Ljava/lang/StringBuilder;", true)
def sd_t2 : Nat → FieldType := fun k => match k with
  | 0 => .long
  | 1 => .object "TreeShell$Dir"
  | 2 => .object "TreeShell$Node"
  | _ => .object "java/lang/StringBuilder"
theorem sd_n2 : ∀ a, a < 4 → ∀ b, b < 4 → a ≠ b → (sd_T2 a).2.1 ≠ (sd_T2 b).2.1 := by decide +kernel
theorem sd_k2 : ∀ k, k < 4 → parseFieldDescriptor (sd_T2 k).2.2.1 = some (sd_t2 k) := by decide +kernel
theorem sd_i2 : ∀ w ∈ u_ws "TreeShell$Doc" sd_T2 4, w ∈ lw_tbl := sd_mem _ [724, 725, 726, 722] (by decide +kernel)
def sd_T3 : u_T := fun k => match k with
  | 0 => ("TreeShell$Grep", "inverse", "Z", false)
  | 1 => ("TreeShell$Grep", "w", "Ljava/lang/StringBuilder;", false)
  | 2 => ("TreeShell$Grep", "core", "I", false)
  | 3 => ("TreeShell$Grep", "coreEnd", "I", false)
  | 4 => ("TreeShell$Grep", "fromStart", "Z", false)
  | _ => ("TreeShell$Grep", "toEnd", "Z", false)
def sd_t3 : Nat → FieldType := fun k => match k with
  | 0 => .boolean
  | 1 => .object "java/lang/StringBuilder"
  | 2 => .int
  | 3 => .int
  | 4 => .boolean
  | _ => .boolean
theorem sd_n3 : ∀ a, a < 6 → ∀ b, b < 6 → a ≠ b → (sd_T3 a).2.1 ≠ (sd_T3 b).2.1 := by decide +kernel
theorem sd_k3 : ∀ k, k < 6 → parseFieldDescriptor (sd_T3 k).2.2.1 = some (sd_t3 k) := by decide +kernel
theorem sd_i3 : ∀ w ∈ u_ws "TreeShell$Grep" sd_T3 6, w ∈ lw_tbl := sd_mem _ [184, 186, 188, 190, 192, 194] (by decide +kernel)
def sd_T4 : u_T := fun k => match k with
  | 0 => ("TreeShell$Level", "made", "Ljava/lang/StringBuilder;", false)
  | 1 => ("TreeShell$Level", "link", "Ljava/lang/StringBuilder;", false)
  | 2 => ("TreeShell$Level", "fed", "Ljava/lang/StringBuilder;", true)
  | 3 => ("TreeShell$Level", "input", "Ljava/lang/StringBuilder;", false)
  | 4 => ("TreeShell$Level", "output", "Ljava/lang/StringBuilder;", false)
  | 5 => ("TreeShell$Level", "source", "Ljava/lang/StringBuilder;", false)
  | _ => ("TreeShell$Level", "target", "LTreeShell$Doc;", false)
def sd_t4 : Nat → FieldType := fun k => match k with
  | 0 => .object "java/lang/StringBuilder"
  | 1 => .object "java/lang/StringBuilder"
  | 2 => .object "java/lang/StringBuilder"
  | 3 => .object "java/lang/StringBuilder"
  | 4 => .object "java/lang/StringBuilder"
  | 5 => .object "java/lang/StringBuilder"
  | _ => .object "TreeShell$Doc"
theorem sd_n4 : ∀ a, a < 7 → ∀ b, b < 7 → a ≠ b → (sd_T4 a).2.1 ≠ (sd_T4 b).2.1 := by decide +kernel
theorem sd_k4 : ∀ k, k < 7 → parseFieldDescriptor (sd_T4 k).2.2.1 = some (sd_t4 k) := by decide +kernel
theorem sd_i4 : ∀ w ∈ u_ws "TreeShell$Level" sd_T4 7, w ∈ lw_tbl := sd_mem _ [222, 224, 226, 228, 230, 232, 234] (by decide +kernel)
def sd_T5 : u_T := fun k => match k with
  | 0 => ("TreeShell$Line", "text", "[C", true)
  | 1 => ("TreeShell$Line", "size", "I", false)
  | 2 => ("TreeShell$Line", "marks", "[LTreeShell$Mark;", true)
  | 3 => ("TreeShell$Line", "starts", "[I", true)
  | 4 => ("TreeShell$Line", "ends", "[I", true)
  | _ => ("TreeShell$Line", "tokens", "I", false)
def sd_t5 : Nat → FieldType := fun k => match k with
  | 0 => .array (.char)
  | 1 => .int
  | 2 => .array (.object "TreeShell$Mark")
  | 3 => .array (.int)
  | 4 => .array (.int)
  | _ => .int
theorem sd_n5 : ∀ a, a < 6 → ∀ b, b < 6 → a ≠ b → (sd_T5 a).2.1 ≠ (sd_T5 b).2.1 := by decide +kernel
theorem sd_k5 : ∀ k, k < 6 → parseFieldDescriptor (sd_T5 k).2.2.1 = some (sd_t5 k) := by decide +kernel
theorem sd_i5 : ∀ w ∈ u_ws "TreeShell$Line" sd_T5 6, w ∈ lw_tbl := sd_mem _ [82, 84, 86, 88, 90, 92] (by decide +kernel)
def sd_T6 : u_T := fun k => match k with
  | 0 => ("TreeShell$Words", "text", "Ljava/lang/StringBuilder;", true)
  | 1 => ("TreeShell$Words", "place", "[I", true)
  | 2 => ("TreeShell$Words", "count", "I", false)
  | 3 => ("TreeShell$Words", "arg", "[I", true)
  | _ => ("TreeShell$Words", "args", "I", false)
def sd_t6 : Nat → FieldType := fun k => match k with
  | 0 => .object "java/lang/StringBuilder"
  | 1 => .array (.int)
  | 2 => .int
  | 3 => .array (.int)
  | _ => .int
theorem sd_n6 : ∀ a, a < 5 → ∀ b, b < 5 → a ≠ b → (sd_T6 a).2.1 ≠ (sd_T6 b).2.1 := by decide +kernel
theorem sd_k6 : ∀ k, k < 5 → parseFieldDescriptor (sd_T6 k).2.2.1 = some (sd_t6 k) := by decide +kernel
theorem sd_i6 : ∀ w ∈ u_ws "TreeShell$Words" sd_T6 5, w ∈ lw_tbl := sd_mem _ [145, 147, 149, 151, 153] (by decide +kernel)
def sd_T7 : u_T := fun k => match k with
  | 0 => ("TreeShellModel", "nodeLimit", "I", false)
  | 1 => ("TreeShellModel", "charLimit", "I", false)
  | 2 => ("TreeShellModel", "pipeLimit", "I", false)
  | 3 => ("TreeShellModel", "used", "[Z", false)
  | 4 => ("TreeShellModel", "isDir", "[Z", false)
  | 5 => ("TreeShellModel", "parent", "[I", false)
  | 6 => ("TreeShellModel", "name", "[J", false)
  | 7 => ("TreeShellModel", "size", "[I", false)
  | 8 => ("TreeShellModel", "content", "[I", false)
  | 9 => ("TreeShellModel", "here", "I", false)
  | 10 => ("TreeShellModel", "lineLength", "I", false)
  | 11 => ("TreeShellModel", "line", "[I", false)
  | 12 => ("TreeShellModel", "tokens", "I", false)
  | 13 => ("TreeShellModel", "kind", "[I", false)
  | 14 => ("TreeShellModel", "from", "[I", false)
  | 15 => ("TreeShellModel", "to", "[I", false)
  | 16 => ("TreeShellModel", "words", "I", false)
  | 17 => ("TreeShellModel", "wordFrom", "[I", false)
  | 18 => ("TreeShellModel", "wordTo", "[I", false)
  | 19 => ("TreeShellModel", "wordLength", "I", false)
  | 20 => ("TreeShellModel", "wordChar", "[I", false)
  | 21 => ("TreeShellModel", "level", "I", false)
  | 22 => ("TreeShellModel", "pos", "I", false)
  | 23 => ("TreeShellModel", "listIn", "[I", false)
  | 24 => ("TreeShellModel", "commandIn", "[I", false)
  | 25 => ("TreeShellModel", "nextIn", "[I", false)
  | 26 => ("TreeShellModel", "target", "[I", false)
  | 27 => ("TreeShellModel", "back", "[I", false)
  | 28 => ("TreeShellModel", "many", "[Z", false)
  | 29 => ("TreeShellModel", "turned", "[Z", false)
  | 30 => ("TreeShellModel", "put", "[I", false)
  | 31 => ("TreeShellModel", "putLength", "[I", false)
  | 32 => ("TreeShellModel", "input", "[I", false)
  | 33 => ("TreeShellModel", "inputLength", "[I", false)
  | 34 => ("TreeShellModel", "text", "[I", false)
  | 35 => ("TreeShellModel", "textLength", "I", false)
  | 36 => ("TreeShellModel", "spilt", "Z", false)
  | 37 => ("TreeShellModel", "source", "[I", false)
  | 38 => ("TreeShellModel", "sourceLength", "I", false)
  | 39 => ("TreeShellModel", "lines", "I", false)
  | 40 => ("TreeShellModel", "lineFrom", "[I", false)
  | 41 => ("TreeShellModel", "lineTo", "[I", false)
  | 42 => ("TreeShellModel", "pathNode", "I", false)
  | 43 => ("TreeShellModel", "pathDir", "I", false)
  | 44 => ("TreeShellModel", "pathName", "J", false)
  | 45 => ("TreeShellModel", "result", "I", false)
  | 46 => ("TreeShellModel", "outLength", "I", false)
  | 47 => ("TreeShellModel", "out", "[I", false)
  | _ => ("TreeShellModel", "count", "I", false)
def sd_t7 : Nat → FieldType := fun k => match k with
  | 0 => .int
  | 1 => .int
  | 2 => .int
  | 3 => .array (.boolean)
  | 4 => .array (.boolean)
  | 5 => .array (.int)
  | 6 => .array (.long)
  | 7 => .array (.int)
  | 8 => .array (.int)
  | 9 => .int
  | 10 => .int
  | 11 => .array (.int)
  | 12 => .int
  | 13 => .array (.int)
  | 14 => .array (.int)
  | 15 => .array (.int)
  | 16 => .int
  | 17 => .array (.int)
  | 18 => .array (.int)
  | 19 => .int
  | 20 => .array (.int)
  | 21 => .int
  | 22 => .int
  | 23 => .array (.int)
  | 24 => .array (.int)
  | 25 => .array (.int)
  | 26 => .array (.int)
  | 27 => .array (.int)
  | 28 => .array (.boolean)
  | 29 => .array (.boolean)
  | 30 => .array (.int)
  | 31 => .array (.int)
  | 32 => .array (.int)
  | 33 => .array (.int)
  | 34 => .array (.int)
  | 35 => .int
  | 36 => .boolean
  | 37 => .array (.int)
  | 38 => .int
  | 39 => .int
  | 40 => .array (.int)
  | 41 => .array (.int)
  | 42 => .int
  | 43 => .int
  | 44 => .long
  | 45 => .int
  | 46 => .int
  | 47 => .array (.int)
  | _ => .int
theorem sd_n7 : ∀ a, a < 49 → ∀ b, b < 49 → a ≠ b → (sd_T7 a).2.1 ≠ (sd_T7 b).2.1 := by decide +kernel
theorem sd_k7 : ∀ k, k < 49 → parseFieldDescriptor (sd_T7 k).2.2.1 = some (sd_t7 k) := by decide +kernel
theorem sd_i7 : ∀ w ∈ u_ws "TreeShellModel" sd_T7 49, w ∈ lw_tbl := sd_mem _ [937, 939, 941, 943, 945, 947, 949, 951, 953, 955, 957, 959, 961, 963, 965, 967, 969, 971, 973, 975, 977, 979, 981, 983, 985, 987, 989, 991, 993, 995, 997, 999, 1001, 1003, 1005, 1007, 1009, 1011, 1013, 1015, 1017, 1019, 1021, 1023, 1025, 1027, 1029, 1031, 1033] (by decide +kernel)
def sd_T8 : u_T := fun k => match k with
  | 0 => ("java/lang/AbstractStringBuilder", "value", "[B", false)
  | 1 => ("java/lang/AbstractStringBuilder", "coder", "B", false)
  | 2 => ("java/lang/AbstractStringBuilder", "maybeLatin1", "Z", false)
  | _ => ("java/lang/AbstractStringBuilder", "count", "I", false)
def sd_t8 : Nat → FieldType := fun k => match k with
  | 0 => .array (.byte)
  | 1 => .byte
  | 2 => .boolean
  | _ => .int
theorem sd_n8 : ∀ a, a < 4 → ∀ b, b < 4 → a ≠ b → (sd_T8 a).2.1 ≠ (sd_T8 b).2.1 := by decide +kernel
theorem sd_k8 : ∀ k, k < 4 → parseFieldDescriptor (sd_T8 k).2.2.1 = some (sd_t8 k) := by decide +kernel
theorem sd_i8 : ∀ w ∈ u_ws "java/lang/StringBuilder" sd_T8 4, w ∈ lw_tbl := sd_mem _ [125, 127, 129, 131] (by decide +kernel)
def sd_cl : List vw_C := [("TreeShell", sd_T0, 21), ("TreeShell$Dir", sd_T1, 4), ("TreeShell$Doc", sd_T2, 4), ("TreeShell$Grep", sd_T3, 6), ("TreeShell$Level", sd_T4, 7), ("TreeShell$Line", sd_T5, 6), ("TreeShell$Words", sd_T6, 5), ("TreeShellModel", sd_T7, 49), ("java/lang/StringBuilder", sd_T8, 4)]
