/-! tables of the pure interpreter: printed by gen02.py out of the Statement's words -/
def nmC : Nat → String
  | 0 => "PackedTreeLaw"
  | 1 => "PackedTree"
  | 2 => "PackedTree$Room"
  | 3 => "PackedTree$Tree"
  | 4 => "PackedTree$Device"
  | 5 => "PackedTree$Leaf"
  | 6 => "PackedTree$Inner"
  | 7 => "PackedTree$Node"
  | 8 => "PackedTreeModel"
  | 9 => "java/lang/Math"
  | 10 => "java/lang/Object"
  | 11 => "java/lang/UnsupportedOperationException"
  | 12 => "java/lang/IndexOutOfBoundsException"
  | 13 => "java/lang/IllegalArgumentException"
  | _ => "java/lang/IllegalStateException"
/-- a field: declaring class, name, descriptor, final, its kind (0 int, 1 boolean, 2 a reference) -/
def fTb : List (String × String × String × Bool × Nat) := [("PackedTree", "body", "[B", true, 2), ("PackedTree", "changed", "[Z", true, 2), ("PackedTree", "device", "LPackedTree$Device;", true, 2), ("PackedTree", "file", "[B", true, 2), ("PackedTree", "now", "[[B", true, 2), ("PackedTree", "pointers", "[I", true, 2), ("PackedTree", "room", "LPackedTree$Room;", true, 2), ("PackedTree", "size", "I", true, 0), ("PackedTree", "spare", "[[B", true, 2), ("PackedTree", "tree", "LPackedTree$Tree;", true, 2), ("PackedTree$Room", "size", "I", true, 0), ("PackedTree$Room", "taken", "[Z", true, 2), ("PackedTree$Tree", "inners", "[LPackedTree$Inner;", true, 2), ("PackedTree$Tree", "last", "[LPackedTree$Node;", true, 2), ("PackedTree$Tree", "leaf", "LPackedTree$Leaf;", false, 2), ("PackedTree$Tree", "leaves", "[LPackedTree$Leaf;", true, 2), ("PackedTree$Tree", "place", "I", false, 0), ("PackedTree$Tree", "room", "LPackedTree$Room;", true, 2), ("PackedTree$Tree", "root", "LPackedTree$Node;", false, 2), ("PackedTree$Device", "commits", "I", false, 0), ("PackedTree$Device", "full", "I", false, 0), ("PackedTree$Device", "home", "[[B", true, 2), ("PackedTree$Device", "last", "[[B", true, 2), ("PackedTree$Device", "left", "I", false, 0), ("PackedTree$Device", "logged", "[Z", true, 2), ("PackedTree$Device", "off", "Z", false, 1), ("PackedTree$Device", "rows", "[[B", true, 2), ("PackedTree$Device", "signs", "[I", true, 2), ("PackedTree$Device", "size", "I", true, 0), ("PackedTree$Device", "writes", "I", false, 0), ("PackedTree$Node", "before", "LPackedTree$Node;", false, 2), ("PackedTree$Node", "behind", "LPackedTree$Node;", false, 2), ("PackedTree$Node", "block", "I", true, 0), ("PackedTree$Node", "parent", "LPackedTree$Inner;", false, 2), ("PackedTree$Leaf", "body", "I", false, 0), ("PackedTree$Leaf", "bytes", "[B", true, 2), ("PackedTree$Leaf", "keys", "[I", true, 2), ("PackedTree$Leaf", "many", "I", false, 0), ("PackedTree$Leaf", "sizes", "[I", true, 2), ("PackedTree$Inner", "children", "[LPackedTree$Node;", true, 2), ("PackedTree$Inner", "height", "I", false, 0), ("PackedTree$Inner", "many", "I", false, 0), ("PackedTreeModel", "before", "[I", true, 2), ("PackedTreeModel", "blocks", "I", true, 0), ("PackedTreeModel", "commits", "I", false, 0), ("PackedTreeModel", "committed", "[I", true, 2), ("PackedTreeModel", "failing", "I", false, 0), ("PackedTreeModel", "full", "Z", false, 1), ("PackedTreeModel", "inJournal", "[Z", true, 2), ("PackedTreeModel", "journal", "I", true, 0), ("PackedTreeModel", "journalUsed", "I", false, 0), ("PackedTreeModel", "now", "[I", true, 2), ("PackedTreeModel", "off", "Z", false, 1), ("PackedTreeModel", "s", "[I", true, 2), ("PackedTreeModel", "thrown", "I", false, 0), ("PackedTreeModel", "writes", "I", false, 0), ("PackedTreeModel", "written", "I", false, 0)]
def fD (f : Nat) : String × String × String × Bool × Nat := fTb.getD f ("", "", "", false, 3)
/-- the fields of a class; how many slots an object has -/
def cFl : Nat → List Nat
  | 1 => [0, 1, 2, 3, 4, 5, 6, 7, 8, 9]
  | 2 => [10, 11]
  | 3 => [12, 13, 14, 15, 16, 17, 18]
  | 4 => [19, 20, 21, 22, 23, 24, 25, 26, 27, 28, 29]
  | 5 => [30, 31, 32, 33, 34, 35, 36, 37, 38]
  | 6 => [30, 31, 32, 33, 39, 40, 41]
  | 8 => [42, 43, 44, 45, 46, 47, 48, 49, 50, 51, 52, 53, 54, 55, 56]
  | _ => []
def cSz : Nat → Nat
  | 1 => 10
  | 2 => 2
  | 3 => 7
  | 4 => 11
  | 5 => 9
  | 6 => 7
  | 8 => 15
  | _ => 6
/-- classes of objects that the memory holds; those of them that are exceptions -/
def cOb : List Nat := [1, 2, 3, 4, 5, 6, 8, 11, 12, 13, 14]
def cEx : List Nat := [11, 12, 13, 14]
def tyA : Nat → FieldType
  | 0 => .int
  | 1 => .byte
  | 2 => .boolean
  | 3 => .long
  | 4 => .array .byte
  | 5 => .object "PackedTree$Leaf"
  | 6 => .object "PackedTree$Inner"
  | _ => .object "PackedTree$Node"
/-- a method: name, bytes, locals, what it returns, handlers, the number of its class -/
def mTb : List (MethodName × ByteArray × Nat × Option FieldType × List (Nat × Nat × Nat × Nat) × Nat) := [
  (⟨"PackedTreeLaw", "cell", "([II)I"⟩, method_2_code, 2, some .int, [], 0),
  (⟨"PackedTreeLaw", "make", "(LPackedTree;IIZ[J)I"⟩, method_3_code, 6, some .int, [(0, 12, 15, 13), (0, 12, 19, 15), (0, 12, 23, 17), (0, 12, 27, 19)], 0),
  (⟨"PackedTreeLaw", "link", "(LPackedTree;III[J)I"⟩, method_4_code, 6, some .int, [(0, 12, 15, 13), (0, 12, 19, 15), (0, 12, 23, 17), (0, 12, 27, 19)], 0),
  (⟨"PackedTreeLaw", "unlink", "(LPackedTree;II[J)I"⟩, method_5_code, 5, some .int, [(0, 10, 13, 13), (0, 10, 17, 15), (0, 10, 21, 19)], 0),
  (⟨"PackedTreeLaw", "move", "(LPackedTree;IIII[J)I"⟩, method_6_code, 7, some .int, [(0, 14, 17, 13), (0, 14, 21, 15), (0, 14, 25, 17), (0, 14, 29, 19)], 0),
  (⟨"PackedTreeLaw", "write", "(LPackedTree;IIJI[J)I"⟩, method_7_code, 8, some .int, [(0, 14, 17, 13), (0, 14, 21, 15), (0, 14, 25, 17), (0, 14, 29, 19)], 0),
  (⟨"PackedTreeLaw", "fill", "(LPackedTree;IIII[J)I"⟩, method_8_code, 7, some .int, [(0, 14, 17, 13), (0, 14, 21, 15), (0, 14, 25, 17), (0, 14, 29, 19)], 0),
  (⟨"PackedTreeLaw", "cut", "(LPackedTree;II[J)I"⟩, method_9_code, 5, some .int, [(0, 10, 13, 13), (0, 10, 17, 15), (0, 10, 21, 17), (0, 10, 25, 19)], 0),
  (⟨"PackedTreeLaw", "read", "(LPackedTree;II[J)I"⟩, method_10_code, 5, some .int, [(0, 10, 13, 13), (0, 10, 17, 15)], 0),
  (⟨"PackedTreeLaw", "look", "(LPackedTree;II[J)I"⟩, method_11_code, 5, some .int, [(0, 10, 13, 13), (0, 10, 17, 15)], 0),
  (⟨"PackedTreeLaw", "name", "(LPackedTree;II[J)I"⟩, method_12_code, 5, some .int, [(0, 10, 13, 13), (0, 10, 17, 15)], 0),
  (⟨"PackedTreeLaw", "about", "(LPackedTree;II[J)I"⟩, method_13_code, 5, some .int, [(0, 10, 13, 13), (0, 10, 17, 15), (0, 10, 21, 17)], 0),
  (⟨"PackedTreeLaw", "node", "(LPackedTree;III[J)I"⟩, method_14_code, 6, some .int, [(0, 12, 15, 13), (0, 12, 19, 15), (0, 12, 23, 17)], 0),
  (⟨"PackedTreeLaw", "item", "(LPackedTree;II[J)I"⟩, method_15_code, 5, some .int, [(0, 10, 13, 13), (0, 10, 17, 15), (0, 10, 21, 17)], 0),
  (⟨"PackedTreeLaw", "commit", "(LPackedTree;[J)I"⟩, method_16_code, 3, some .int, [(0, 8, 11, 13), (0, 8, 14, 19)], 0),
  (⟨"PackedTreeLaw", "checkpoint", "(LPackedTree;[J)I"⟩, method_17_code, 3, some .int, [(0, 8, 11, 13)], 0),
  (⟨"PackedTreeLaw", "back", "(LPackedTree;[J)I"⟩, method_18_code, 3, some .int, [(0, 8, 11, 13)], 0),
  (⟨"PackedTreeLaw", "fail", "(LPackedTree;I)I"⟩, method_19_code, 3, some .int, [(0, 5, 8, 17)], 0),
  (⟨"PackedTreeLaw", "recover", "(LPackedTree;[J)I"⟩, method_20_code, 3, some .int, [(0, 8, 11, 19)], 0),
  (⟨"PackedTreeLaw", "count", "(LPackedTree;I[J)I"⟩, method_21_code, 4, some .int, [(0, 9, 12, 13), (0, 9, 15, 17)], 0),
  (⟨"PackedTree", "<init>", "(II)V"⟩, prog_1_method_11_code, 5, none, [], 1),
  (⟨"PackedTree", "near", "(III)I"⟩, prog_1_method_1_code, 3, some .int, [], 1),
  (⟨"PackedTree", "layStat", "(III)V"⟩, prog_1_method_27_code, 4, none, [], 1),
  (⟨"PackedTree", "putNumber", "([BIII)V"⟩, prog_1_method_7_code, 5, none, [], 1),
  (⟨"PackedTree", "keyOf", "(III)I"⟩, prog_1_method_2_code, 3, some .int, [], 1),
  (⟨"PackedTree", "layAll", "()V"⟩, prog_1_method_16_code, 1, none, [], 1),
  (⟨"PackedTree", "clear", "([BI)V"⟩, prog_1_method_10_code, 3, none, [], 1),
  (⟨"PackedTree", "copy", "([B[B)V"⟩, prog_1_method_8_code, 3, none, [], 1),
  (⟨"PackedTree", "off", "()Z"⟩, prog_1_method_65_code, 1, some .boolean, [], 1),
  (⟨"PackedTree", "make", "(IIZ)I"⟩, prog_1_method_36_code, 6, some .int, [(54, 97, 100, 108)], 1),
  (⟨"PackedTree", "on", "()V"⟩, prog_1_method_15_code, 1, none, [], 1),
  (⟨"PackedTree", "isDirectory", "(I)Z"⟩, prog_1_method_23_code, 2, some .boolean, [], 1),
  (⟨"PackedTree", "isKind", "(II)Z"⟩, prog_1_method_22_code, 3, some .boolean, [], 1),
  (⟨"PackedTree", "isObject", "(I)Z"⟩, prog_1_method_20_code, 2, some .boolean, [], 1),
  (⟨"PackedTree", "stat", "(III)I"⟩, prog_1_method_21_code, 5, some .int, [], 1),
  (⟨"PackedTree", "numberOf", "([BII)I"⟩, prog_1_method_6_code, 5, some .int, [], 1),
  (⟨"PackedTree", "byteOf", "([BI)I"⟩, prog_1_method_5_code, 2, some .int, [], 1),
  (⟨"PackedTree", "there", "(Z)V"⟩, prog_1_method_12_code, 1, none, [], 1),
  (⟨"PackedTree", "isName", "(I)Z"⟩, prog_1_method_35_code, 1, some .boolean, [], 1),
  (⟨"PackedTree", "proper", "(Z)V"⟩, prog_1_method_13_code, 1, none, [], 1),
  (⟨"PackedTree", "freeObject", "()I"⟩, prog_1_method_34_code, 2, some .int, [], 1),
  (⟨"PackedTree", "told", "(II)I"⟩, prog_1_method_31_code, 3, some .int, [], 1),
  (⟨"PackedTree", "can", "(Z)V"⟩, prog_1_method_14_code, 1, none, [], 1),
  (⟨"PackedTree", "keep", "()V"⟩, prog_1_method_18_code, 2, none, [], 1),
  (⟨"PackedTree", "enter", "(III)V"⟩, prog_1_method_32_code, 4, none, [], 1),
  (⟨"PackedTree", "count", "(II)V"⟩, prog_1_method_29_code, 3, none, [], 1),
  (⟨"PackedTree", "linksOf", "(I)I"⟩, prog_1_method_25_code, 2, some .int, [], 1),
  (⟨"PackedTree", "sizeOf", "(I)I"⟩, prog_1_method_26_code, 2, some .int, [], 1),
  (⟨"PackedTree", "change", "(III)V"⟩, prog_1_method_28_code, 4, none, [], 1),
  (⟨"PackedTree", "putBack", "()V"⟩, prog_1_method_19_code, 2, none, [], 1),
  (⟨"PackedTree", "takeAll", "()V"⟩, prog_1_method_17_code, 1, none, [], 1),
  (⟨"PackedTree", "link", "(III)I"⟩, prog_1_method_37_code, 5, some .int, [(57, 81, 84, 108)], 1),
  (⟨"PackedTree", "isFile", "(I)Z"⟩, prog_1_method_24_code, 2, some .boolean, [], 1),
  (⟨"PackedTree", "unlink", "(II)I"⟩, prog_1_method_38_code, 5, some .int, [], 1),
  (⟨"PackedTree", "leave", "(II)V"⟩, prog_1_method_33_code, 3, none, [], 1),
  (⟨"PackedTree", "remove", "(I)V"⟩, prog_1_method_39_code, 3, none, [], 1),
  (⟨"PackedTree", "readPointers", "(I)I"⟩, prog_1_method_47_code, 4, some .int, [], 1),
  (⟨"PackedTree", "bytesOf", "(II)I"⟩, prog_1_method_30_code, 3, some .int, [], 1),
  (⟨"PackedTree", "move", "(IIII)I"⟩, prog_1_method_42_code, 7, some .int, [(100, 115, 118, 108)], 1),
  (⟨"PackedTree", "isWithin", "(II)Z"⟩, prog_1_method_41_code, 4, some .boolean, [], 1),
  (⟨"PackedTree", "parentOf", "(I)I"⟩, prog_1_method_40_code, 4, some .int, [], 1),
  (⟨"PackedTree", "kindOf", "(I)I"⟩, prog_1_method_4_code, 1, some .int, [], 1),
  (⟨"PackedTree", "objectOf", "(I)I"⟩, prog_1_method_3_code, 1, some .int, [], 1),
  (⟨"PackedTree", "write", "(IIJI)I"⟩, prog_1_method_52_code, 7, some .int, [], 1),
  (⟨"PackedTree", "mayWrite", "(IIII)V"⟩, prog_1_method_51_code, 5, none, [], 1),
  (⟨"PackedTree", "readFile", "(I)V"⟩, prog_1_method_48_code, 5, none, [], 1),
  (⟨"PackedTree", "reformed", "(II)I"⟩, prog_1_method_50_code, 4, some .int, [(4, 10, 13, 108)], 1),
  (⟨"PackedTree", "reform", "(II)V"⟩, prog_1_method_49_code, 7, none, [], 1),
  (⟨"PackedTree", "blocksOf", "(I)I"⟩, prog_1_method_46_code, 1, some .int, [], 1),
  (⟨"PackedTree", "tailOf", "(I)I"⟩, prog_1_method_45_code, 2, some .int, [], 1),
  (⟨"PackedTree", "fill", "(IIII)I"⟩, prog_1_method_53_code, 6, some .int, [], 1),
  (⟨"PackedTree", "cut", "(II)I"⟩, prog_1_method_54_code, 3, some .int, [], 1),
  (⟨"PackedTree", "read", "(II)I"⟩, prog_1_method_55_code, 5, some .int, [], 1),
  (⟨"PackedTree", "look", "(II)I"⟩, prog_1_method_43_code, 3, some .int, [], 1),
  (⟨"PackedTree", "name", "(II)I"⟩, prog_1_method_44_code, 7, some .int, [], 1),
  (⟨"PackedTree", "about", "(II)I"⟩, prog_1_method_56_code, 4, some .int, [], 1),
  (⟨"PackedTree", "node", "(III)I"⟩, prog_1_method_57_code, 6, some .int, [], 1),
  (⟨"PackedTree", "item", "(II)I"⟩, prog_1_method_58_code, 6, some .int, [], 1),
  (⟨"PackedTree", "commit", "()I"⟩, prog_1_method_60_code, 3, some .int, [], 1),
  (⟨"PackedTree", "lookOver", "()I"⟩, prog_1_method_59_code, 3, some .int, [], 1),
  (⟨"PackedTree", "same", "([B[B)Z"⟩, prog_1_method_9_code, 3, some .boolean, [], 1),
  (⟨"PackedTree", "checkpoint", "()I"⟩, prog_1_method_61_code, 2, some .int, [], 1),
  (⟨"PackedTree", "back", "()I"⟩, prog_1_method_63_code, 2, some .int, [], 1),
  (⟨"PackedTree", "takeLast", "()V"⟩, prog_1_method_62_code, 2, none, [], 1),
  (⟨"PackedTree", "fail", "(I)V"⟩, prog_1_method_64_code, 2, none, [], 1),
  (⟨"PackedTree", "recover", "()I"⟩, prog_1_method_66_code, 2, some .int, [], 1),
  (⟨"PackedTree", "count", "(I)I"⟩, prog_1_method_67_code, 8, some .int, [], 1),
  (⟨"PackedTree$Room", "<init>", "(I)V"⟩, prog_6_method_1_code, 2, none, [], 2),
  (⟨"PackedTree$Room", "take", "()I"⟩, prog_6_method_2_code, 2, some .int, [], 2),
  (⟨"PackedTree$Room", "free", "(I)V"⟩, prog_6_method_3_code, 2, none, [], 2),
  (⟨"PackedTree$Room", "lay", "([BI)V"⟩, prog_6_method_5_code, 4, none, [], 2),
  (⟨"PackedTree$Room", "isTaken", "([BI)Z"⟩, prog_6_method_7_code, 2, some .boolean, [], 2),
  (⟨"PackedTree$Room", "takeFrom", "([B)V"⟩, prog_6_method_6_code, 3, none, [], 2),
  (⟨"PackedTree$Room", "many", "()I"⟩, prog_6_method_4_code, 3, some .int, [], 2),
  (⟨"PackedTree$Tree", "<init>", "(LPackedTree$Room;)V"⟩, prog_7_method_1_code, 2, none, [], 3),
  (⟨"PackedTree$Tree", "begin", "()V"⟩, prog_7_method_4_code, 1, none, [], 3),
  (⟨"PackedTree$Tree", "leafAt", "(I)LPackedTree$Leaf;"⟩, prog_7_method_2_code, 2, some (.object "PackedTree$Leaf"), [], 3),
  (⟨"PackedTree$Tree", "set", "(I[BI)V"⟩, prog_7_method_13_code, 7, none, [], 3),
  (⟨"PackedTree$Tree", "find", "(I)Z"⟩, prog_7_method_10_code, 2, some .boolean, [], 3),
  (⟨"PackedTree$Tree", "leafFor", "(I)LPackedTree$Leaf;"⟩, prog_7_method_9_code, 3, some (.object "PackedTree$Leaf"), [], 3),
  (⟨"PackedTree$Tree", "share", "(LPackedTree$Leaf;)V"⟩, prog_7_method_14_code, 5, none, [], 3),
  (⟨"PackedTree$Tree", "add", "(LPackedTree$Node;LPackedTree$Node;)V"⟩, prog_7_method_15_code, 6, none, [], 3),
  (⟨"PackedTree$Tree", "innerAt", "(II)LPackedTree$Inner;"⟩, prog_7_method_3_code, 3, some (.object "PackedTree$Inner"), [], 3),
  (⟨"PackedTree$Tree", "join", "(LPackedTree$Leaf;)V"⟩, prog_7_method_17_code, 5, none, [], 3),
  (⟨"PackedTree$Tree", "gone", "(LPackedTree$Node;)V"⟩, prog_7_method_18_code, 6, none, [], 3),
  (⟨"PackedTree$Tree", "belong", "(LPackedTree$Leaf;LPackedTree$Leaf;)Z"⟩, prog_7_method_16_code, 2, some .boolean, [], 3),
  (⟨"PackedTree$Tree", "lay", "([[B)V"⟩, prog_7_method_5_code, 2, none, [], 3),
  (⟨"PackedTree$Tree", "lay", "(LPackedTree$Node;[[B)V"⟩, prog_7_method_6_code, 5, none, [], 3),
  (⟨"PackedTree$Tree", "take", "([[BI)V"⟩, prog_7_method_7_code, 4, none, [], 3),
  (⟨"PackedTree$Tree", "read", "([[BI)LPackedTree$Node;"⟩, prog_7_method_8_code, 9, some (.object "PackedTree$Node"), [], 3),
  (⟨"PackedTree$Tree", "firstLeaf", "()LPackedTree$Leaf;"⟩, prog_7_method_12_code, 1, some (.object "PackedTree$Leaf"), [], 3),
  (⟨"PackedTree$Tree", "firstOf", "(I)LPackedTree$Node;"⟩, prog_7_method_11_code, 3, some (.object "PackedTree$Node"), [], 3),
  (⟨"PackedTree$Device", "<init>", "(II)V"⟩, prog_2_method_1_code, 3, none, [], 4),
  (⟨"PackedTree$Device", "room", "()I"⟩, prog_2_method_2_code, 1, some .int, [], 4),
  (⟨"PackedTree$Device", "checkpoint", "()V"⟩, prog_2_method_7_code, 3, none, [], 4),
  (⟨"PackedTree$Device", "read", "(Z)V"⟩, prog_2_method_6_code, 5, none, [], 4),
  (⟨"PackedTree$Device", "isDone", "()Z"⟩, prog_2_method_3_code, 1, some .boolean, [], 4),
  (⟨"PackedTree$Device", "commit", "([[B[Z)V"⟩, prog_2_method_5_code, 5, none, [], 4),
  (⟨"PackedTree$Device", "log", "(I[B)Z"⟩, prog_2_method_4_code, 3, some .boolean, [], 4),
  (⟨"PackedTree$Device", "recover", "()V"⟩, prog_2_method_8_code, 2, none, [], 4),
  (⟨"PackedTree$Leaf", "<init>", "(I)V"⟩, prog_4_method_1_code, 2, none, [], 5),
  (⟨"PackedTree$Leaf", "begin", "()V"⟩, prog_4_method_6_code, 1, none, [], 5),
  (⟨"PackedTree$Leaf", "first", "()I"⟩, prog_4_method_5_code, 1, some .int, [], 5),
  (⟨"PackedTree$Leaf", "place", "(I)I"⟩, prog_4_method_11_code, 3, some .int, [], 5),
  (⟨"PackedTree$Leaf", "has", "(II)Z"⟩, prog_4_method_12_code, 3, some .boolean, [], 5),
  (⟨"PackedTree$Leaf", "drop", "(I)V"⟩, prog_4_method_14_code, 5, none, [], 5),
  (⟨"PackedTree$Leaf", "from", "(I)I"⟩, prog_4_method_10_code, 4, some .int, [], 5),
  (⟨"PackedTree$Leaf", "put", "(II[BII)V"⟩, prog_4_method_13_code, 8, none, [], 5),
  (⟨"PackedTree$Leaf", "isOver", "()Z"⟩, prog_4_method_9_code, 1, some .boolean, [], 5),
  (⟨"PackedTree$Leaf", "used", "()I"⟩, prog_4_method_4_code, 1, some .int, [], 5),
  (⟨"PackedTree$Leaf", "cost", "(I)I"⟩, prog_4_method_7_code, 2, some .int, [], 5),
  (⟨"PackedTree$Leaf", "fits", "(I)Z"⟩, prog_4_method_8_code, 2, some .boolean, [], 5),
  (⟨"PackedTree$Leaf", "give", "(ILPackedTree$Leaf;I)V"⟩, prog_4_method_15_code, 4, none, [], 5),
  (⟨"PackedTree$Leaf", "height", "()I"⟩, prog_4_method_2_code, 1, some .int, [], 5),
  (⟨"PackedTree$Leaf", "lay", "([B)V"⟩, prog_4_method_16_code, 3, none, [], 5),
  (⟨"PackedTree$Leaf", "take", "([B)V"⟩, prog_4_method_17_code, 6, none, [], 5),
  (⟨"PackedTree$Leaf", "many", "()I"⟩, prog_4_method_3_code, 1, some .int, [], 5),
  (⟨"PackedTree$Inner", "childFor", "(I)LPackedTree$Node;"⟩, prog_3_method_11_code, 3, some (.object "PackedTree$Node"), [], 6),
  (⟨"PackedTree$Inner", "first", "()I"⟩, prog_3_method_5_code, 1, some .int, [], 6),
  (⟨"PackedTree$Inner", "height", "()I"⟩, prog_3_method_2_code, 1, some .int, [], 6),
  (⟨"PackedTree$Inner", "<init>", "(I)V"⟩, prog_3_method_1_code, 2, none, [], 6),
  (⟨"PackedTree$Inner", "begin", "(I)V"⟩, prog_3_method_6_code, 2, none, [], 6),
  (⟨"PackedTree$Inner", "put", "(ILPackedTree$Node;)V"⟩, prog_3_method_9_code, 4, none, [], 6),
  (⟨"PackedTree$Inner", "at", "(LPackedTree$Node;)I"⟩, prog_3_method_8_code, 3, some .int, [], 6),
  (⟨"PackedTree$Inner", "drop", "(I)LPackedTree$Node;"⟩, prog_3_method_10_code, 4, some (.object "PackedTree$Node"), [], 6),
  (⟨"PackedTree$Inner", "hasRoom", "()Z"⟩, prog_3_method_7_code, 1, some .boolean, [], 6),
  (⟨"PackedTree$Inner", "lay", "([B)V"⟩, prog_3_method_12_code, 3, none, [], 6),
  (⟨"PackedTree$Inner", "many", "()I"⟩, prog_3_method_3_code, 1, some .int, [], 6),
  (⟨"PackedTree$Inner", "used", "()I"⟩, prog_3_method_4_code, 1, some .int, [], 6),
  (⟨"PackedTree$Node", "<init>", "(I)V"⟩, prog_5_method_1_code, 2, none, [], 7),
  (⟨"PackedTree$Node", "alone", "()V"⟩, prog_5_method_7_code, 1, none, [], 7),
  (⟨"PackedTree$Node", "comesBehind", "(LPackedTree$Node;)V"⟩, prog_5_method_8_code, 2, none, [], 7),
  (⟨"PackedTree$Node", "goes", "()V"⟩, prog_5_method_9_code, 1, none, [], 7),
  (⟨"PackedTreeModel", "<init>", "(II)V"⟩, prog_9_method_1_code, 3, none, [], 8),
  (⟨"PackedTreeModel", "keep", "([I[I)V"⟩, prog_9_method_3_code, 3, none, [], 8),
  (⟨"PackedTreeModel", "thrown", "()I"⟩, prog_9_method_2_code, 1, some .int, [], 8),
  (⟨"PackedTreeModel", "make", "(IIZ)I"⟩, prog_9_method_43_code, 5, some .int, [], 8),
  (⟨"PackedTreeModel", "isDirectory", "(I)Z"⟩, prog_9_method_6_code, 2, some .boolean, [], 8),
  (⟨"PackedTreeModel", "isObject", "(I)Z"⟩, prog_9_method_5_code, 2, some .boolean, [], 8),
  (⟨"PackedTreeModel", "isIn", "(III)Z"⟩, prog_9_method_4_code, 3, some .boolean, [], 8),
  (⟨"PackedTreeModel", "isName", "(I)Z"⟩, prog_9_method_42_code, 2, some .boolean, [], 8),
  (⟨"PackedTreeModel", "entry", "(II)I"⟩, prog_9_method_41_code, 4, some .int, [], 8),
  (⟨"PackedTreeModel", "find", "(III)I"⟩, prog_9_method_29_code, 6, some .int, [], 8),
  (⟨"PackedTreeModel", "leafOf", "(III)I"⟩, prog_9_method_28_code, 7, some .int, [], 8),
  (⟨"PackedTreeModel", "compare", "(IIIII)I"⟩, prog_9_method_22_code, 7, some .int, [], 8),
  (⟨"PackedTreeModel", "objects", "()I"⟩, prog_9_method_40_code, 3, some .int, [], 8),
  (⟨"PackedTreeModel", "begin", "()V"⟩, prog_9_method_38_code, 1, none, [], 8),
  (⟨"PackedTreeModel", "put", "(IIIII)V"⟩, prog_9_method_30_code, 9, none, [], 8),
  (⟨"PackedTreeModel", "copy", "(II)V"⟩, prog_9_method_23_code, 3, none, [], 8),
  (⟨"PackedTreeModel", "settle", "(I)V"⟩, prog_9_method_26_code, 5, none, [], 8),
  (⟨"PackedTreeModel", "beside", "(II)I"⟩, prog_9_method_12_code, 5, some .int, [], 8),
  (⟨"PackedTreeModel", "height", "(I)I"⟩, prog_9_method_10_code, 2, some .int, [], 8),
  (⟨"PackedTreeModel", "placeOf", "(I)I"⟩, prog_9_method_11_code, 4, some .int, [], 8),
  (⟨"PackedTreeModel", "used", "(I)I"⟩, prog_9_method_20_code, 4, some .int, [], 8),
  (⟨"PackedTreeModel", "cost", "(II)I"⟩, prog_9_method_21_code, 3, some .int, [], 8),
  (⟨"PackedTreeModel", "carry", "(IIII)V"⟩, prog_9_method_24_code, 6, none, [], 8),
  (⟨"PackedTreeModel", "drop", "(II)V"⟩, prog_9_method_25_code, 4, none, [], 8),
  (⟨"PackedTreeModel", "take", "()I"⟩, prog_9_method_8_code, 2, some .int, [], 8),
  (⟨"PackedTreeModel", "lineUp", "(II)V"⟩, prog_9_method_13_code, 7, none, [], 8),
  (⟨"PackedTreeModel", "added", "(II)V"⟩, prog_9_method_18_code, 8, none, [], 8),
  (⟨"PackedTreeModel", "child", "(III)V"⟩, prog_9_method_15_code, 5, none, [], 8),
  (⟨"PackedTreeModel", "childPlace", "(II)I"⟩, prog_9_method_16_code, 4, some .int, [], 8),
  (⟨"PackedTreeModel", "takeChild", "(II)I"⟩, prog_9_method_17_code, 5, some .int, [], 8),
  (⟨"PackedTreeModel", "ended", "(I)Z"⟩, prog_9_method_39_code, 2, some .boolean, [], 8),
  (⟨"PackedTreeModel", "link", "(III)I"⟩, prog_9_method_44_code, 4, some .int, [], 8),
  (⟨"PackedTreeModel", "isFile", "(I)Z"⟩, prog_9_method_7_code, 2, some .boolean, [], 8),
  (⟨"PackedTreeModel", "unlink", "(II)I"⟩, prog_9_method_45_code, 7, some .int, [], 8),
  (⟨"PackedTreeModel", "remove", "(III)V"⟩, prog_9_method_31_code, 5, none, [], 8),
  (⟨"PackedTreeModel", "lookAt", "(I)V"⟩, prog_9_method_27_code, 6, none, [], 8),
  (⟨"PackedTreeModel", "gone", "(I)V"⟩, prog_9_method_19_code, 8, none, [], 8),
  (⟨"PackedTreeModel", "lineOff", "(I)V"⟩, prog_9_method_14_code, 5, none, [], 8),
  (⟨"PackedTreeModel", "free", "(I)V"⟩, prog_9_method_9_code, 2, none, [], 8),
  (⟨"PackedTreeModel", "tailOf", "(I)I"⟩, prog_9_method_33_code, 2, some .int, [], 8),
  (⟨"PackedTreeModel", "resize", "(IIII)V"⟩, prog_9_method_32_code, 6, none, [], 8),
  (⟨"PackedTreeModel", "move", "(IIII)I"⟩, prog_9_method_48_code, 6, some .int, [], 8),
  (⟨"PackedTreeModel", "isWithin", "(II)Z"⟩, prog_9_method_47_code, 4, some .boolean, [], 8),
  (⟨"PackedTreeModel", "above", "(I)I"⟩, prog_9_method_46_code, 5, some .int, [], 8),
  (⟨"PackedTreeModel", "write", "(IIJI)I"⟩, prog_9_method_51_code, 7, some .int, [], 8),
  (⟨"PackedTreeModel", "refused", "(IIII)I"⟩, prog_9_method_49_code, 5, some .int, [], 8),
  (⟨"PackedTreeModel", "gather", "(I)V"⟩, prog_9_method_36_code, 3, none, [], 8),
  (⟨"PackedTreeModel", "byteOf", "(II)I"⟩, prog_9_method_35_code, 3, some .int, [], 8),
  (⟨"PackedTreeModel", "change", "(II)I"⟩, prog_9_method_50_code, 3, some .int, [], 8),
  (⟨"PackedTreeModel", "lay", "(II)V"⟩, prog_9_method_37_code, 7, none, [], 8),
  (⟨"PackedTreeModel", "datasOf", "(I)I"⟩, prog_9_method_34_code, 1, some .int, [], 8),
  (⟨"PackedTreeModel", "fill", "(IIII)I"⟩, prog_9_method_52_code, 6, some .int, [], 8),
  (⟨"PackedTreeModel", "cut", "(II)I"⟩, prog_9_method_53_code, 3, some .int, [], 8),
  (⟨"PackedTreeModel", "read", "(II)I"⟩, prog_9_method_54_code, 3, some .int, [], 8),
  (⟨"PackedTreeModel", "look", "(II)I"⟩, prog_9_method_55_code, 3, some .int, [], 8),
  (⟨"PackedTreeModel", "name", "(II)I"⟩, prog_9_method_56_code, 7, some .int, [], 8),
  (⟨"PackedTreeModel", "about", "(II)I"⟩, prog_9_method_57_code, 3, some .int, [], 8),
  (⟨"PackedTreeModel", "node", "(III)I"⟩, prog_9_method_58_code, 5, some .int, [], 8),
  (⟨"PackedTreeModel", "item", "(II)I"⟩, prog_9_method_60_code, 7, some .int, [], 8),
  (⟨"PackedTreeModel", "items", "()I"⟩, prog_9_method_59_code, 3, some .int, [], 8),
  (⟨"PackedTreeModel", "commit", "()I"⟩, prog_9_method_70_code, 3, some .int, [], 8),
  (⟨"PackedTreeModel", "changed", "()I"⟩, prog_9_method_67_code, 3, some .int, [], 8),
  (⟨"PackedTreeModel", "isChanged", "(I)Z"⟩, prog_9_method_66_code, 2, some .boolean, [], 8),
  (⟨"PackedTreeModel", "isAlike", "(II)Z"⟩, prog_9_method_61_code, 5, some .boolean, [], 8),
  (⟨"PackedTreeModel", "isLeafAlike", "(I)Z"⟩, prog_9_method_63_code, 6, some .boolean, [], 8),
  (⟨"PackedTreeModel", "isBodyAlike", "(II)Z"⟩, prog_9_method_62_code, 3, some .boolean, [], 8),
  (⟨"PackedTreeModel", "isInnerAlike", "(I)Z"⟩, prog_9_method_65_code, 7, some .boolean, [], 8),
  (⟨"PackedTreeModel", "firstBelow", "([II)I"⟩, prog_9_method_64_code, 3, some .int, [], 8),
  (⟨"PackedTreeModel", "home", "()Z"⟩, prog_9_method_69_code, 2, some .boolean, [], 8),
  (⟨"PackedTreeModel", "goes", "()Z"⟩, prog_9_method_68_code, 1, some .boolean, [], 8),
  (⟨"PackedTreeModel", "checkpoint", "()I"⟩, prog_9_method_71_code, 2, some .int, [], 8),
  (⟨"PackedTreeModel", "back", "()I"⟩, prog_9_method_72_code, 2, some .int, [], 8),
  (⟨"PackedTreeModel", "fail", "(I)V"⟩, prog_9_method_73_code, 2, none, [], 8),
  (⟨"PackedTreeModel", "off", "()Z"⟩, prog_9_method_74_code, 1, some .boolean, [], 8),
  (⟨"PackedTreeModel", "recover", "()I"⟩, prog_9_method_75_code, 2, some .int, [], 8),
  (⟨"PackedTreeModel", "count", "(I)I"⟩, prog_9_method_78_code, 2, some .int, [], 8),
  (⟨"PackedTreeModel", "inUse", "()I"⟩, prog_9_method_77_code, 3, some .int, [], 8),
  (⟨"PackedTreeModel", "usedOfAll", "()I"⟩, prog_9_method_76_code, 3, some .int, [], 8),
  (⟨"java/lang/Math", "max", "(II)I"⟩, prog_15_method_65_code, 2, some .int, [], 9),
  (⟨"java/lang/Object", "<init>", "()V"⟩, object_method_1_code, 1, none, [], 10),
  (x, code, maxLocals, ret, [], 0)]
/-- field links: class, place in its pool, field, class that is named, whether it is a nest mate's private one -/
def fLk : List (Nat × Nat × Nat × Nat × Bool) := [(2, 9, 11, 2, false), (1, 141, 11, 2, true), (2, 15, 10, 2, false), (3, 29, 17, 3, false), (3, 11, 15, 3, false), (3, 19, 12, 3, false), (3, 25, 13, 3, false), (3, 52, 18, 3, false), (1, 122, 18, 3, true), (3, 104, 14, 3, false), (1, 155, 14, 3, true), (3, 112, 16, 3, false), (1, 164, 16, 3, true), (4, 27, 28, 4, false), (4, 11, 21, 4, false), (1, 92, 21, 4, true), (4, 16, 22, 4, false), (1, 99, 22, 4, true), (4, 30, 26, 4, false), (4, 33, 27, 4, false), (4, 19, 24, 4, false), (4, 48, 20, 4, false), (1, 339, 20, 4, true), (4, 23, 23, 4, false), (1, 352, 23, 4, true), (4, 37, 25, 4, false), (1, 111, 25, 4, true), (4, 41, 29, 4, false), (1, 336, 29, 4, true), (4, 59, 19, 4, false), (1, 363, 19, 4, true), (5, 9, 36, 5, false), (1, 261, 36, 5, true), (5, 15, 38, 5, false), (3, 128, 38, 5, true), (1, 198, 38, 5, true), (5, 18, 35, 5, false), (1, 159, 35, 5, true), (5, 22, 37, 5, false), (3, 156, 37, 5, true), (1, 258, 37, 5, true), (5, 26, 34, 5, false), (7, 7, 32, 7, false), (3, 60, 32, 7, false), (6, 38, 32, 7, false), (1, 126, 32, 7, false), (3, 199, 32, 6, false), (1, 323, 32, 6, false), (1, 326, 32, 5, false), (7, 13, 33, 7, false), (6, 30, 33, 7, false), (3, 170, 33, 7, false), (1, 319, 33, 7, false), (7, 17, 30, 7, false), (3, 91, 30, 7, false), (3, 145, 30, 5, false), (3, 200, 30, 6, false), (7, 21, 31, 7, false), (3, 94, 31, 7, false), (3, 161, 31, 5, false), (3, 201, 31, 6, false), (1, 270, 31, 5, false), (1, 313, 31, 7, false), (6, 9, 39, 6, false), (3, 70, 39, 6, true), (6, 19, 41, 6, false), (3, 67, 41, 6, true), (6, 15, 40, 6, false), (3, 178, 40, 6, true), (1, 40, 7, 1, false), (1, 49, 6, 1, false), (1, 58, 9, 1, false), (1, 67, 2, 1, false), (1, 15, 4, 1, false), (1, 18, 8, 1, false), (1, 21, 1, 1, false), (1, 25, 0, 1, false), (1, 29, 3, 1, false), (1, 32, 5, 1, false), (8, 40, 54, 8, false), (8, 30, 43, 8, false), (8, 33, 49, 8, false), (8, 7, 53, 8, false), (8, 13, 42, 8, false), (8, 16, 45, 8, false), (8, 19, 51, 8, false), (8, 51, 47, 8, false), (8, 22, 48, 8, false), (8, 223, 50, 8, false), (8, 149, 52, 8, false), (8, 26, 46, 8, false), (8, 217, 56, 8, false), (8, 220, 55, 8, false), (8, 236, 44, 8, false)]
def fLw (q : Nat × Nat × Nat × Nat × Bool) : List Cond := (if q.2.2.2.2 then Cond.fieldLinkNest (nmC q.1) q.2.1 (nmC q.2.2.2.1) (fD q.2.2.1).2.1 (fD q.2.2.1).2.2.1 "PackedTree" else Cond.fieldLink (nmC q.1) q.2.1 (nmC q.2.2.2.1) (fD q.2.2.1).2.1 (fD q.2.2.1).2.2.1) :: (if nmC q.2.2.2.1 = (fD q.2.2.1).1 then [] else [Cond.sameField (nmC q.2.2.2.1) (fD q.2.2.1).1 (fD q.2.2.1).2.1 (fD q.2.2.1).2.2.1])
def wIn (ws : List Cond) (is : List Nat) : Bool := decide (ws.map some = is.map (fun i => lw_tbl[i]?))
theorem wIn_ok {ws : List Cond} {is : List Nat} (h : wIn ws is = true) : ∀ w ∈ ws, w ∈ lw_tbl := by
  intro w hw
  have h := of_decide_eq_true h
  obtain ⟨k, hk⟩ := List.getElem?_of_mem hw
  have h1 : (ws.map some)[k]? = some (some w) := by rw [List.getElem?_map, hk]; rfl
  rw [h, List.getElem?_map] at h1
  cases hi : is[k]? with
  | none => rw [hi] at h1; cases h1
  | some i => rw [hi] at h1; exact List.mem_of_getElem? (Option.some.inj h1)
def wAll {α : Type} (f : α → List Cond) : List α → List (List Nat) → Bool
  | [], _ => true
  | a :: l, i :: is => wIn (f a) i && wAll f l is
  | _ :: _, [] => false
theorem wAll_ok {α : Type} {f : α → List Cond} : ∀ {l : List α} {is : List (List Nat)}, wAll f l is = true → ∀ a ∈ l, ∀ w ∈ f a, w ∈ lw_tbl
  | [], _, _, a, h, _, _ => by cases h
  | b :: l, i :: is, h, a, ha, w, hw => by
    simp only [wAll, Bool.and_eq_true] at h
    rcases List.mem_cons.mp ha with rfl | ha
    · exact wIn_ok h.1 w hw
    · exact wAll_ok h.2 a ha w hw
  | _ :: _, [], h, _, _, _, _ => by simp [wAll] at h
set_option maxRecDepth 100000 in
theorem fLk_ok : ∀ q ∈ fLk, ∀ w ∈ fLw q, w ∈ lw_tbl := wAll_ok (is := [[132], [133], [134], [155], [156], [157], [158], [159], [160], [161], [162], [163], [164], [187], [188], [189], [190], [191], [192], [193], [194], [195], [196], [197], [198], [199], [200], [201], [202], [203], [204], [315], [316], [317], [318], [319], [320], [321], [322], [323], [324], [325], [326], [327], [328], [329], [330, 331], [332, 331], [333, 334], [335], [336], [337], [338], [339], [340], [341, 342], [343, 344], [345], [346], [347, 348], [349, 350], [351, 348], [352], [492], [493], [494], [495], [496], [497], [592], [593], [594], [595], [596], [597], [598], [599], [600], [601], [1090], [1091], [1092], [1093], [1094], [1095], [1096], [1097], [1098], [1099], [1100], [1101], [1102], [1103], [1104]]) (by decide +kernel)
def cLy (c : Nat) : List Cond := Cond.instantiable (nmC c) (cSz c) :: Cond.initialized (nmC c) :: (cFl c).map (fun f => if (fD f).2.2.2.1 then Cond.laysFinal (nmC c) (fD f).1 (fD f).2.1 (fD f).2.2.1 else Cond.lays (nmC c) (fD f).1 (fD f).2.1 (fD f).2.2.1)
set_option maxRecDepth 100000 in
theorem cLy_ok : ∀ c ∈ cOb, ∀ w ∈ cLy c, w ∈ lw_tbl := wAll_ok (is := [[114, 95, 616, 614, 608, 618, 610, 620, 604, 602, 612, 606], [127, 96, 137, 135], [144, 97, 169, 171, 175, 167, 177, 165, 173], [181, 98, 225, 217, 207, 209, 219, 215, 221, 211, 213, 205, 223], [307, 104, 367, 369, 363, 365, 361, 357, 353, 359, 355], [486, 105, 506, 507, 504, 505, 498, 502, 500], [1082, 106, 1113, 1107, 1133, 1115, 1127, 1119, 1121, 1109, 1123, 1117, 1125, 1111, 1105, 1131, 1129], [678, 110], [720, 107], [741, 111], [233, 102]]) (by decide +kernel)
/-- a method's words: its code -/
def mWd (q : MethodName × ByteArray × Nat × Option FieldType × List (Nat × Nat × Nat × Nat) × Nat) : List Cond := [if q.2.2.2.2.1 = [] then Cond.code q.1 q.2.1 q.2.2.1 q.2.2.2.1 else Cond.codeWith q.1 q.2.1 q.2.2.1 q.2.2.2.1 q.2.2.2.2.1]
/-- method links: class, place in its pool, kind of call (0 static, 1 static of a nest mate, 2 a constructor, 3 virtual, 4 virtual through Node), class that is named, targets by the receiver's class -/
def mLk : List (Nat × Nat × Nat × Nat × List (Nat × Nat)) := [(0, 88, 2, 1, [(0, 20)]), (1, 7, 2, 10, [(0, 232)]), (1, 36, 0, 1, [(0, 21)]), (1, 46, 2, 2, [(0, 87)]), (2, 3, 2, 10, [(0, 232)]), (1, 55, 2, 3, [(0, 94)]), (3, 3, 2, 10, [(0, 232)]), (1, 64, 2, 4, [(0, 112)]), (4, 3, 2, 10, [(0, 232)]), (1, 71, 3, 2, [(2, 88)]), (1, 75, 3, 3, [(3, 95)]), (3, 42, 3, 2, [(2, 88)]), (3, 48, 3, 3, [(3, 96)]), (3, 33, 2, 5, [(0, 120)]), (5, 3, 2, 7, [(0, 149)]), (7, 1, 2, 10, [(0, 232)]), (3, 36, 3, 5, [(5, 121)]), (5, 29, 4, 5, [(5, 150)]), (1, 78, 3, 1, [(1, 22)]), (1, 185, 0, 1, [(0, 23)]), (1, 82, 0, 1, [(0, 24)]), (1, 85, 3, 3, [(3, 97)]), (3, 124, 3, 3, [(3, 98)]), (3, 101, 3, 3, [(3, 99)]), (3, 97, 3, 6, [(6, 137)]), (6, 22, 4, 7, [(5, 122), (6, 138)]), (3, 108, 3, 5, [(5, 123)]), (3, 114, 3, 5, [(5, 124)]), (3, 132, 3, 5, [(5, 125)]), (5, 37, 3, 5, [(5, 126)]), (3, 135, 3, 5, [(5, 127)]), (3, 138, 3, 3, [(3, 100)]), (3, 146, 3, 5, [(5, 128)]), (5, 33, 3, 5, [(5, 129)]), (3, 150, 3, 5, [(5, 130)]), (3, 153, 3, 5, [(5, 131)]), (3, 157, 3, 5, [(5, 132)]), (5, 41, 3, 5, [(5, 127)]), (5, 45, 3, 5, [(5, 125)]), (3, 162, 4, 5, [(5, 151)]), (3, 166, 3, 3, [(3, 101)]), (3, 118, 4, 7, [(5, 133), (6, 139)]), (3, 83, 3, 3, [(3, 102)]), (3, 39, 2, 6, [(0, 140)]), (6, 3, 2, 7, [(0, 149)]), (3, 40, 3, 6, [(6, 141)]), (6, 26, 4, 6, [(6, 150)]), (3, 87, 3, 6, [(6, 142)]), (3, 174, 3, 6, [(6, 143)]), (3, 180, 4, 6, [(6, 151)]), (3, 181, 3, 6, [(6, 144)]), (3, 142, 3, 3, [(3, 103)]), (3, 186, 3, 3, [(3, 104)]), (3, 193, 4, 7, [(5, 152), (6, 152)]), (3, 196, 3, 2, [(2, 89)]), (3, 202, 3, 6, [(6, 145)]), (3, 189, 0, 3, [(0, 105)]), (3, 183, 3, 5, [(5, 129)]), (1, 89, 3, 1, [(1, 25)]), (1, 118, 3, 3, [(3, 106)]), (3, 56, 3, 3, [(3, 107)]), (3, 64, 4, 7, [(5, 134), (6, 146)]), (6, 34, 1, 1, [(0, 26)]), (6, 41, 1, 1, [(0, 23)]), (5, 48, 1, 1, [(0, 26)]), (5, 52, 1, 1, [(0, 23)]), (1, 131, 3, 2, [(2, 90)]), (2, 22, 1, 1, [(0, 26)]), (1, 95, 0, 1, [(0, 27)]), (0, 157, 3, 1, [(1, 28)]), (0, 82, 0, 0, [(0, 0)]), (0, 94, 0, 0, [(0, 1)]), (0, 7, 3, 1, [(1, 29)]), (1, 204, 3, 1, [(1, 30)]), (1, 207, 3, 1, [(1, 31)]), (1, 181, 3, 1, [(1, 32)]), (1, 175, 3, 1, [(1, 33)]), (1, 151, 3, 3, [(3, 98)]), (1, 178, 3, 1, [(1, 34)]), (1, 167, 3, 5, [(5, 126)]), (1, 171, 0, 1, [(0, 35)]), (1, 3, 0, 1, [(0, 36)]), (1, 210, 0, 1, [(0, 37)]), (1, 214, 0, 1, [(0, 38)]), (1, 217, 0, 1, [(0, 39)]), (1, 220, 3, 1, [(1, 40)]), (1, 223, 3, 1, [(1, 41)]), (1, 227, 0, 1, [(0, 42)]), (1, 230, 3, 1, [(1, 43)]), (1, 233, 3, 1, [(1, 44)]), (1, 201, 3, 1, [(1, 45)]), (1, 189, 3, 1, [(1, 46)]), (1, 192, 3, 1, [(1, 47)]), (1, 195, 3, 1, [(1, 48)]), (1, 236, 3, 1, [(1, 49)]), (1, 144, 0, 2, [(0, 91)]), (1, 148, 3, 1, [(1, 50)]), (1, 134, 3, 2, [(2, 92)]), (2, 26, 0, 2, [(0, 91)]), (1, 138, 3, 3, [(3, 108)]), (3, 73, 3, 3, [(3, 109)]), (3, 77, 1, 1, [(0, 36)]), (3, 81, 3, 5, [(5, 135)]), (5, 56, 1, 1, [(0, 36)]), (5, 60, 1, 1, [(0, 35)]), (0, 101, 0, 0, [(0, 2)]), (0, 21, 3, 1, [(1, 51)]), (1, 239, 3, 1, [(1, 52)]), (0, 105, 0, 0, [(0, 3)]), (0, 25, 3, 1, [(1, 53)]), (1, 242, 3, 1, [(1, 54)]), (1, 245, 3, 1, [(1, 55)]), (1, 248, 3, 1, [(1, 56)]), (1, 282, 3, 1, [(1, 57)]), (1, 251, 3, 2, [(2, 89)]), (0, 109, 0, 0, [(0, 4)]), (0, 29, 3, 1, [(1, 58)]), (1, 276, 3, 1, [(1, 59)]), (1, 273, 3, 1, [(1, 60)]), (1, 254, 3, 3, [(3, 110)]), (3, 121, 3, 3, [(3, 111)]), (1, 264, 0, 1, [(0, 61)]), (1, 267, 0, 1, [(0, 62)]), (0, 115, 0, 0, [(0, 5)]), (0, 33, 3, 1, [(1, 63)]), (1, 294, 3, 1, [(1, 64)]), (1, 298, 3, 1, [(1, 65)]), (1, 301, 0, 9, [(0, 231)]), (1, 306, 3, 1, [(1, 66)]), (1, 291, 3, 1, [(1, 67)]), (1, 285, 0, 1, [(0, 68)]), (1, 279, 0, 1, [(0, 69)]), (1, 288, 0, 1, [(0, 26)]), (0, 119, 0, 0, [(0, 6)]), (0, 37, 3, 1, [(1, 70)]), (0, 122, 0, 0, [(0, 7)]), (0, 40, 3, 1, [(1, 71)]), (0, 125, 0, 0, [(0, 8)]), (0, 43, 3, 1, [(1, 72)]), (0, 128, 0, 0, [(0, 9)]), (0, 46, 3, 1, [(1, 73)]), (0, 131, 0, 0, [(0, 10)]), (0, 49, 3, 1, [(1, 74)]), (0, 134, 0, 0, [(0, 11)]), (0, 52, 3, 1, [(1, 75)]), (0, 137, 0, 0, [(0, 12)]), (0, 55, 3, 1, [(1, 76)]), (1, 309, 3, 3, [(3, 111)]), (1, 314, 4, 7, [(5, 136), (6, 147)]), (1, 316, 4, 7, [(5, 129), (6, 148)]), (0, 140, 0, 0, [(0, 13)]), (0, 58, 3, 1, [(1, 77)]), (0, 143, 0, 0, [(0, 14)]), (0, 61, 3, 1, [(1, 78)]), (1, 331, 3, 1, [(1, 79)]), (1, 327, 0, 1, [(0, 80)]), (1, 334, 3, 4, [(4, 113)]), (1, 342, 3, 4, [(4, 114)]), (4, 62, 3, 4, [(4, 115)]), (4, 51, 1, 1, [(0, 27)]), (4, 44, 3, 4, [(4, 116)]), (1, 345, 3, 4, [(4, 117)]), (4, 55, 3, 4, [(4, 118)]), (0, 147, 0, 0, [(0, 15)]), (0, 65, 3, 1, [(1, 81)]), (0, 150, 0, 0, [(0, 16)]), (0, 68, 3, 1, [(1, 82)]), (1, 349, 3, 1, [(1, 83)]), (0, 153, 0, 0, [(0, 17)]), (0, 71, 3, 1, [(1, 84)]), (0, 162, 0, 0, [(0, 18)]), (0, 75, 3, 1, [(1, 85)]), (1, 355, 3, 4, [(4, 119)]), (0, 165, 0, 0, [(0, 19)]), (0, 78, 3, 1, [(1, 86)]), (1, 358, 3, 5, [(5, 129)]), (1, 359, 3, 2, [(2, 93)]), (1, 360, 4, 7, [(5, 133), (6, 139)]), (0, 93, 2, 8, [(0, 153)]), (8, 1, 2, 10, [(0, 232)]), (8, 36, 0, 8, [(0, 154)]), (0, 98, 3, 8, [(8, 155)]), (0, 97, 3, 8, [(8, 156)]), (8, 152, 3, 8, [(8, 157)]), (8, 47, 3, 8, [(8, 158)]), (8, 43, 0, 8, [(0, 159)]), (8, 155, 3, 8, [(8, 160)]), (8, 158, 3, 8, [(8, 161)]), (8, 124, 3, 8, [(8, 162)]), (8, 117, 3, 8, [(8, 163)]), (8, 113, 3, 8, [(8, 164)]), (8, 161, 3, 8, [(8, 165)]), (8, 164, 3, 8, [(8, 166)]), (8, 130, 3, 8, [(8, 167)]), (8, 91, 3, 8, [(8, 168)]), (8, 121, 3, 8, [(8, 169)]), (8, 88, 3, 8, [(8, 170)]), (8, 55, 3, 8, [(8, 171)]), (8, 59, 3, 8, [(8, 172)]), (8, 97, 3, 8, [(8, 173)]), (8, 100, 3, 8, [(8, 174)]), (8, 103, 3, 8, [(8, 175)]), (8, 94, 3, 8, [(8, 176)]), (8, 62, 3, 8, [(8, 177)]), (8, 77, 3, 8, [(8, 178)]), (8, 107, 3, 8, [(8, 179)]), (8, 66, 3, 8, [(8, 180)]), (8, 70, 3, 8, [(8, 181)]), (8, 74, 3, 8, [(8, 182)]), (8, 167, 3, 8, [(8, 183)]), (0, 104, 3, 8, [(8, 184)]), (8, 170, 3, 8, [(8, 185)]), (0, 108, 3, 8, [(8, 186)]), (8, 134, 3, 8, [(8, 187)]), (8, 127, 3, 8, [(8, 188)]), (8, 110, 3, 8, [(8, 189)]), (8, 81, 3, 8, [(8, 190)]), (8, 85, 3, 8, [(8, 191)]), (8, 137, 0, 8, [(0, 192)]), (8, 146, 3, 8, [(8, 193)]), (0, 112, 3, 8, [(8, 194)]), (8, 176, 3, 8, [(8, 195)]), (8, 173, 3, 8, [(8, 196)]), (0, 118, 3, 8, [(8, 197)]), (8, 183, 3, 8, [(8, 198)]), (8, 187, 3, 8, [(8, 199)]), (8, 140, 3, 8, [(8, 200)]), (8, 192, 3, 8, [(8, 201)]), (8, 180, 3, 8, [(8, 202)]), (8, 143, 0, 8, [(0, 203)]), (0, 121, 3, 8, [(8, 204)]), (0, 124, 3, 8, [(8, 205)]), (0, 127, 3, 8, [(8, 206)]), (0, 130, 3, 8, [(8, 207)]), (0, 133, 3, 8, [(8, 208)]), (0, 136, 3, 8, [(8, 209)]), (0, 139, 3, 8, [(8, 210)]), (0, 142, 3, 8, [(8, 211)]), (8, 195, 3, 8, [(8, 212)]), (0, 146, 3, 8, [(8, 213)]), (8, 230, 3, 8, [(8, 214)]), (8, 214, 3, 8, [(8, 215)]), (8, 198, 3, 8, [(8, 216)]), (8, 208, 3, 8, [(8, 217)]), (8, 201, 3, 8, [(8, 218)]), (8, 211, 3, 8, [(8, 219)]), (8, 204, 0, 8, [(0, 220)]), (8, 233, 3, 8, [(8, 221)]), (8, 226, 3, 8, [(8, 222)]), (0, 149, 3, 8, [(8, 223)]), (0, 152, 3, 8, [(8, 224)]), (0, 156, 3, 8, [(8, 225)]), (0, 161, 3, 8, [(8, 226)]), (0, 164, 3, 8, [(8, 227)]), (0, 168, 3, 8, [(8, 228)]), (8, 239, 3, 8, [(8, 229)]), (8, 242, 3, 8, [(8, 230)])]
def mNm (y : Nat) : MethodName := (mTb.getD y (x, code, maxLocals, ret, [], 0)).1
def mLw (q : Nat × Nat × Nat × Nat × List (Nat × Nat)) : List Cond := match q.2.2.1, q.2.2.2.2 with
  | 0, [(_, y)] => [Cond.methodLink (nmC q.1) q.2.1 (mNm y), Cond.static (mNm y), Cond.initialized (mNm y).cls]
  | 1, [(_, y)] => [Cond.methodLinkNest (nmC q.1) q.2.1 (mNm y) "PackedTree", Cond.static (mNm y), Cond.initialized (mNm y).cls]
  | 2, [(_, y)] => [Cond.methodLink (nmC q.1) q.2.1 (mNm y), Cond.instanceMethod (mNm y)]
  | 3, [(c, y)] => [Cond.methodLink (nmC q.1) q.2.1 (mNm y), Cond.selects (nmC c) (mNm y) (mNm y), Cond.instanceMethod (mNm y)]
  | 4, (c, y) :: r => Cond.methodLink (nmC q.1) q.2.1 ⟨nmC q.2.2.2.1, (mNm y).name, (mNm y).desc⟩ :: Cond.sameMethod (nmC q.2.2.2.1) (nmC 7) (mNm y).name (mNm y).desc :: ((c, y) :: r).flatMap (fun t => [Cond.selects (nmC t.1) ⟨nmC q.2.2.2.1, (mNm y).name, (mNm y).desc⟩ (mNm t.2), Cond.instanceMethod (mNm t.2)])
  | _, _ => []
set_option maxRecDepth 100000 in
theorem mLk_ok_0 : ∀ q ∈ (mLk.drop 0).take 70, ∀ w ∈ mLw q, w ∈ lw_tbl := wAll_ok (is := [[115, 116], [118, 119], [123, 124, 95], [128, 129], [131, 119], [145, 146], [148, 119], [182, 183], [185, 119], [228, 230, 229], [298, 300, 299], [302, 230, 229], [303, 1, 305], [308, 309], [311, 312], [314, 119], [372, 374, 373], [376, 377, 379, 380], [382, 2, 384], [386, 387, 95], [389, 390, 95], [392, 394, 393], [396, 398, 397], [400, 3, 402], [404, 406, 405], [408, 410, 416, 414, 411, 412], [417, 419, 418], [421, 423, 422], [425, 427, 426], [429, 431, 430], [433, 435, 434], [437, 4, 439], [441, 443, 442], [445, 447, 446], [449, 451, 450], [453, 455, 454], [457, 459, 458], [461, 435, 434], [462, 427, 426], [463, 464, 466, 467], [469, 5, 471], [473, 475, 479, 480, 476, 477], [482, 6, 484], [487, 488], [490, 312], [509, 511, 510], [513, 514, 515, 380], [516, 518, 517], [520, 522, 521], [524, 525, 526, 467], [527, 529, 528], [531, 7, 533], [535, 8, 537], [539, 541, 543, 540, 542, 540], [545, 547, 546], [549, 551, 550], [553, 554, 97], [556, 447, 446], [557, 9, 559], [561, 563, 562], [565, 10, 567], [569, 571, 579, 580, 572, 573], [575, 576, 95], [578, 387, 95], [582, 576, 95], [583, 387, 95], [584, 586, 585], [588, 576, 95], [589, 590, 95], [623, 625, 624]]) (by decide +kernel)
set_option maxRecDepth 100000 in
theorem mLk_ok_1 : ∀ q ∈ (mLk.drop 70).take 70, ∀ w ∈ mLw q, w ∈ lw_tbl := wAll_ok (is := [[627, 628, 94], [630, 631, 94], [668, 670, 669], [673, 11, 675], [692, 12, 694], [696, 13, 698], [700, 14, 702], [704, 398, 397], [705, 15, 707], [709, 431, 430], [710, 711, 95], [713, 714, 95], [716, 717, 95], [734, 735, 95], [737, 738, 95], [755, 16, 757], [759, 17, 761], [763, 764, 95], [767, 18, 769], [771, 19, 773], [775, 20, 777], [779, 21, 781], [783, 22, 785], [787, 23, 789], [791, 24, 793], [795, 796, 96], [798, 25, 800], [802, 804, 803], [806, 796, 96], [807, 809, 808], [811, 26, 813], [815, 714, 95], [816, 818, 817], [820, 714, 95], [821, 711, 95], [822, 823, 94], [825, 827, 826], [829, 27, 831], [833, 834, 94], [836, 838, 837], [840, 28, 842], [844, 29, 846], [848, 30, 850], [852, 31, 854], [856, 547, 546], [857, 858, 94], [860, 862, 861], [864, 32, 866], [868, 33, 870], [872, 874, 873], [876, 878, 877], [880, 881, 95], [883, 884, 95], [887, 888, 94], [890, 892, 891], [894, 34, 896], [898, 35, 900], [902, 903, 112], [905, 36, 907], [909, 37, 911], [913, 914, 95], [916, 917, 95], [919, 576, 95], [920, 921, 94], [923, 925, 924], [927, 928, 94], [930, 932, 931], [934, 935, 94], [937, 939, 938], [941, 942, 94]]) (by decide +kernel)
set_option maxRecDepth 100000 in
theorem mLk_ok_2 : ∀ q ∈ (mLk.drop 140).take 70, ∀ w ∈ mLw q, w ∈ lw_tbl := wAll_ok (is := [[944, 946, 945], [948, 949, 94], [951, 953, 952], [955, 956, 94], [958, 960, 959], [962, 963, 94], [965, 967, 966], [969, 878, 877], [970, 972, 976, 977, 973, 974], [979, 981, 985, 446, 982, 983], [986, 987, 94], [989, 991, 990], [993, 994, 94], [996, 998, 997], [1000, 38, 1002], [1004, 1005, 95], [1007, 1009, 1008], [1011, 1013, 1012], [1015, 39, 1017], [1019, 590, 95], [1020, 40, 1022], [1024, 1026, 1025], [1028, 41, 1030], [1032, 1033, 94], [1035, 1037, 1036], [1039, 1040, 94], [1042, 1044, 1043], [1046, 42, 1048], [1050, 1051, 94], [1053, 1055, 1054], [1057, 1058, 94], [1060, 1062, 1061], [1064, 1066, 1065], [1068, 1069, 94], [1071, 1073, 1072], [1075, 447, 446], [1076, 1078, 1077], [1080, 475, 479, 480, 476, 477], [1083, 1084], [1086, 119], [1087, 1088, 106], [1136, 1138, 1137], [1140, 1142, 1141], [1144, 43, 1146], [1148, 44, 1150], [1152, 1153, 106], [1155, 45, 1157], [1159, 46, 1161], [1163, 47, 1165], [1167, 48, 1169], [1171, 49, 1173], [1175, 50, 1177], [1179, 51, 1181], [1183, 52, 1185], [1187, 53, 1189], [1191, 54, 1193], [1195, 55, 1197], [1199, 56, 1201], [1203, 57, 1205], [1207, 58, 1209], [1211, 59, 1213], [1215, 60, 1217], [1219, 61, 1221], [1223, 62, 1225], [1227, 63, 1229], [1231, 64, 1233], [1235, 65, 1237], [1239, 66, 1241], [1243, 67, 1245], [1247, 68, 1249]]) (by decide +kernel)
set_option maxRecDepth 100000 in
theorem mLk_ok_3 : ∀ q ∈ (mLk.drop 210).take 70, ∀ w ∈ mLw q, w ∈ lw_tbl := wAll_ok (is := [[1251, 1253, 1252], [1255, 69, 1257], [1259, 1261, 1260], [1263, 70, 1265], [1267, 71, 1269], [1271, 72, 1273], [1275, 73, 1277], [1279, 74, 1281], [1283, 1284, 106], [1286, 75, 1288], [1290, 1292, 1291], [1294, 76, 1296], [1298, 77, 1300], [1302, 1304, 1303], [1306, 78, 1308], [1310, 79, 1312], [1314, 80, 1316], [1319, 81, 1321], [1323, 82, 1325], [1327, 1328, 106], [1330, 1332, 1331], [1334, 1336, 1335], [1338, 1340, 1339], [1342, 1344, 1343], [1346, 1348, 1347], [1350, 1352, 1351], [1354, 1356, 1355], [1358, 1360, 1359], [1362, 83, 1364], [1366, 1368, 1367], [1370, 84, 1372], [1374, 85, 1376], [1378, 86, 1380], [1382, 87, 1384], [1386, 88, 1388], [1390, 89, 1392], [1394, 1395, 106], [1397, 90, 1399], [1401, 91, 1403], [1405, 1407, 1406], [1409, 1411, 1410], [1413, 1415, 1414], [1417, 1419, 1418], [1421, 1423, 1422], [1425, 1427, 1426], [1429, 92, 1431], [1433, 93, 1435]]) (by decide +kernel)
/-- class links: class, place in its pool, class -/
def cLk : List (Nat × Nat × Nat) := [(0, 8, 1), (1, 44, 2), (1, 53, 3), (3, 9, 5), (3, 17, 6), (3, 23, 7), (1, 62, 4), (2, 19, 14), (6, 4, 7), (0, 13, 11), (0, 15, 12), (0, 17, 13), (0, 19, 14), (1, 108, 14), (1, 115, 11), (1, 102, 12), (1, 105, 13), (1, 160, 5), (0, 91, 8)]
def cLw (q : Nat × Nat × Nat) : List Cond := [Cond.classLink (nmC q.1) q.2.1 (nmC q.2.2)]
set_option maxRecDepth 100000 in
theorem cLk_ok : ∀ q ∈ cLk, ∀ w ∈ cLw q, w ∈ lw_tbl := wAll_ok (is := [[113], [126], [143], [149], [151], [153], [180], [232], [491], [633], [634], [666], [667], [672], [677], [719], [740], [886], [1081]]) (by decide +kernel)
