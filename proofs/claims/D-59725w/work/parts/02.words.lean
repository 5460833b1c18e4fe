/-! names, field tables, words by their places (out of claim/names) -/
set_option maxRecDepth 100000
def RJ0 : String := "java/util/AbstractMap"
abbrev cJ0_init : ByteArray := prog_41_method_1_code
def yJ0_init : MethodName := ⟨RJ0, "<init>", "()V"⟩
abbrev cJ0_putAll : ByteArray := prog_41_method_9_code
def yJ0_putAll : MethodName := ⟨RJ0, "putAll", "(Ljava/util/Map;)V"⟩
def RJ1 : String := "java/util/TreeMap"
def TJ1 : u_T := fun k => match k with
  | 0 => ("java/util/AbstractMap", "keySet", "Ljava/util/Set;", false)
  | 1 => ("java/util/AbstractMap", "values", "Ljava/util/Collection;", false)
  | 2 => ("java/util/TreeMap", "comparator", "Ljava/util/Comparator;", true)
  | 3 => ("java/util/TreeMap", "root", "Ljava/util/TreeMap$Entry;", false)
  | 4 => ("java/util/TreeMap", "size", "I", false)
  | 5 => ("java/util/TreeMap", "modCount", "I", false)
  | 6 => ("java/util/TreeMap", "entrySet", "Ljava/util/TreeMap$EntrySet;", false)
  | 7 => ("java/util/TreeMap", "navigableKeySet", "Ljava/util/TreeMap$KeySet;", false)
  | _ => ("java/util/TreeMap", "descendingMap", "Ljava/util/NavigableMap;", false)
def tyJ1 : Nat → FieldType := fun k => match k with
  | 0 => .object "java/util/Set"
  | 1 => .object "java/util/Collection"
  | 2 => .object "java/util/Comparator"
  | 3 => .object "java/util/TreeMap$Entry"
  | 4 => .int
  | 5 => .int
  | 6 => .object "java/util/TreeMap$EntrySet"
  | 7 => .object "java/util/TreeMap$KeySet"
  | _ => .object "java/util/NavigableMap"
abbrev wsJ10 : List Cond := u_ws RJ1 TJ1 9
theorem nmJ1 : ∀ a, a < 9 → ∀ b, b < 9 → a ≠ b → (TJ1 a).2.1 ≠ (TJ1 b).2.1 := by decide +kernel
theorem tyJ1_ok : ∀ k, k < 9 → parseFieldDescriptor (TJ1 k).2.2.1 = some (tyJ1 k) := by decide +kernel
abbrev cJ1_init : ByteArray := prog_67_method_1_code
def yJ1_init : MethodName := ⟨RJ1, "<init>", "()V"⟩
abbrev cJ1_size : ByteArray := prog_67_method_5_code
def yJ1_size : MethodName := ⟨RJ1, "size", "()I"⟩
abbrev cJ1_get : ByteArray := prog_67_method_8_code
def yJ1_get : MethodName := ⟨RJ1, "get", "(Ljava/lang/Object;)Ljava/lang/Object;"⟩
abbrev cJ1_getEntry : ByteArray := prog_67_method_15_code
def yJ1_getEntry : MethodName := ⟨RJ1, "getEntry", "(Ljava/lang/Object;)Ljava/util/TreeMap$Entry;"⟩
abbrev cJ1_getEntryUsingComparator : ByteArray := prog_67_method_16_code
def yJ1_getEntryUsingComparator : MethodName := ⟨RJ1, "getEntryUsingComparator", "(Ljava/lang/Object;)Ljava/util/TreeMap$Entry;"⟩
abbrev cJ1_putAll : ByteArray := prog_67_method_14_code
def yJ1_putAll : MethodName := ⟨RJ1, "putAll", "(Ljava/util/Map;)V"⟩
abbrev cJ1_comparator : ByteArray := prog_67_method_9_code
def yJ1_comparator : MethodName := ⟨RJ1, "comparator", "()Ljava/util/Comparator;"⟩
abbrev cJ1_entrySet : ByteArray := prog_67_method_53_code
def yJ1_entrySet : MethodName := ⟨RJ1, "entrySet", "()Ljava/util/Set;"⟩
abbrev cJ1_getFirstEntry : ByteArray := prog_67_method_72_code
def yJ1_getFirstEntry : MethodName := ⟨RJ1, "getFirstEntry", "()Ljava/util/TreeMap$Entry;"⟩
abbrev cJ1_keyIterator : ByteArray := prog_67_method_65_code
def yJ1_keyIterator : MethodName := ⟨RJ1, "keyIterator", "()Ljava/util/Iterator;"⟩
abbrev cJ1_navigableKeySet : ByteArray := prog_67_method_50_code
def yJ1_navigableKeySet : MethodName := ⟨RJ1, "navigableKeySet", "()Ljava/util/NavigableSet;"⟩
abbrev cJ1_buildFromSorted : ByteArray := prog_67_method_90_code
def yJ1_buildFromSorted : MethodName := ⟨RJ1, "buildFromSorted", "(ILjava/util/Iterator;Ljava/io/ObjectInputStream;Ljava/lang/Object;)V"⟩
abbrev cJ1_computeRedLevel : ByteArray := prog_67_method_92_code
def yJ1_computeRedLevel : MethodName := ⟨RJ1, "computeRedLevel", "(I)I"⟩
abbrev cJ1_buildFromSorted_2 : ByteArray := prog_67_method_91_code
def yJ1_buildFromSorted_2 : MethodName := ⟨RJ1, "buildFromSorted", "(IIIILjava/util/Iterator;Ljava/io/ObjectInputStream;Ljava/lang/Object;)Ljava/util/TreeMap$Entry;"⟩
abbrev cJ1_successor : ByteArray := prog_67_method_74_code
def yJ1_successor : MethodName := ⟨RJ1, "successor", "(Ljava/util/TreeMap$Entry;)Ljava/util/TreeMap$Entry;"⟩
abbrev cJ1_put : ByteArray := prog_67_method_21_code
def yJ1_put : MethodName := ⟨RJ1, "put", "(Ljava/lang/Object;Ljava/lang/Object;)Ljava/lang/Object;"⟩
abbrev cJ1_put_2 : ByteArray := prog_67_method_31_code
def yJ1_put_2 : MethodName := ⟨RJ1, "put", "(Ljava/lang/Object;Ljava/lang/Object;Z)Ljava/lang/Object;"⟩
abbrev cJ1_addEntryToEmptyMap : ByteArray := prog_67_method_30_code
def yJ1_addEntryToEmptyMap : MethodName := ⟨RJ1, "addEntryToEmptyMap", "(Ljava/lang/Object;Ljava/lang/Object;)V"⟩
abbrev cJ1_compare : ByteArray := prog_67_method_67_code
def yJ1_compare : MethodName := ⟨RJ1, "compare", "(Ljava/lang/Object;Ljava/lang/Object;)I"⟩
abbrev cJ1_addEntry : ByteArray := prog_67_method_29_code
def yJ1_addEntry : MethodName := ⟨RJ1, "addEntry", "(Ljava/lang/Object;Ljava/lang/Object;Ljava/util/TreeMap$Entry;Z)V"⟩
abbrev cJ1_fixAfterInsertion : ByteArray := prog_67_method_83_code
def yJ1_fixAfterInsertion : MethodName := ⟨RJ1, "fixAfterInsertion", "(Ljava/util/TreeMap$Entry;)V"⟩
abbrev cJ1_parentOf : ByteArray := prog_67_method_77_code
def yJ1_parentOf : MethodName := ⟨RJ1, "parentOf", "(Ljava/util/TreeMap$Entry;)Ljava/util/TreeMap$Entry;"⟩
abbrev cJ1_leftOf : ByteArray := prog_67_method_79_code
def yJ1_leftOf : MethodName := ⟨RJ1, "leftOf", "(Ljava/util/TreeMap$Entry;)Ljava/util/TreeMap$Entry;"⟩
abbrev cJ1_rightOf : ByteArray := prog_67_method_80_code
def yJ1_rightOf : MethodName := ⟨RJ1, "rightOf", "(Ljava/util/TreeMap$Entry;)Ljava/util/TreeMap$Entry;"⟩
abbrev cJ1_colorOf : ByteArray := prog_67_method_76_code
def yJ1_colorOf : MethodName := ⟨RJ1, "colorOf", "(Ljava/util/TreeMap$Entry;)Z"⟩
abbrev cJ1_setColor : ByteArray := prog_67_method_78_code
def yJ1_setColor : MethodName := ⟨RJ1, "setColor", "(Ljava/util/TreeMap$Entry;Z)V"⟩
abbrev cJ1_rotateLeft : ByteArray := prog_67_method_81_code
def yJ1_rotateLeft : MethodName := ⟨RJ1, "rotateLeft", "(Ljava/util/TreeMap$Entry;)V"⟩
abbrev cJ1_rotateRight : ByteArray := prog_67_method_82_code
def yJ1_rotateRight : MethodName := ⟨RJ1, "rotateRight", "(Ljava/util/TreeMap$Entry;)V"⟩
abbrev cJ1_remove : ByteArray := prog_67_method_34_code
def yJ1_remove : MethodName := ⟨RJ1, "remove", "(Ljava/lang/Object;)Ljava/lang/Object;"⟩
abbrev cJ1_deleteEntry : ByteArray := prog_67_method_84_code
def yJ1_deleteEntry : MethodName := ⟨RJ1, "deleteEntry", "(Ljava/util/TreeMap$Entry;)V"⟩
abbrev cJ1_fixAfterDeletion : ByteArray := prog_67_method_85_code
def yJ1_fixAfterDeletion : MethodName := ⟨RJ1, "fixAfterDeletion", "(Ljava/util/TreeMap$Entry;)V"⟩
def RJ10 : String := "java/util/ArrayList"
def TJ10 : u_T := fun k => match k with
  | 0 => ("java/util/AbstractList", "modCount", "I", false)
  | 1 => ("java/util/ArrayList", "elementData", "[Ljava/lang/Object;", false)
  | _ => ("java/util/ArrayList", "size", "I", false)
def tyJ10 : Nat → FieldType := fun k => match k with
  | 0 => .int
  | 1 => .array (.object "java/lang/Object")
  | _ => .int
abbrev wsJ100 : List Cond := u_ws RJ10 TJ10 3
theorem nmJ10 : ∀ a, a < 3 → ∀ b, b < 3 → a ≠ b → (TJ10 a).2.1 ≠ (TJ10 b).2.1 := by decide +kernel
theorem tyJ10_ok : ∀ k, k < 3 → parseFieldDescriptor (TJ10 k).2.2.1 = some (tyJ10 k) := by decide +kernel
abbrev cJ10_init : ByteArray := prog_45_method_2_code
def yJ10_init : MethodName := ⟨RJ10, "<init>", "()V"⟩
abbrev cJ10_add : ByteArray := prog_45_method_25_code
def yJ10_add : MethodName := ⟨RJ10, "add", "(Ljava/lang/Object;)Z"⟩
abbrev cJ10_add_2 : ByteArray := prog_45_method_24_code
def yJ10_add_2 : MethodName := ⟨RJ10, "add", "(Ljava/lang/Object;[Ljava/lang/Object;I)V"⟩
abbrev cJ10_grow : ByteArray := prog_45_method_7_code
def yJ10_grow : MethodName := ⟨RJ10, "grow", "()[Ljava/lang/Object;"⟩
abbrev cJ10_grow_2 : ByteArray := prog_45_method_6_code
def yJ10_grow_2 : MethodName := ⟨RJ10, "grow", "(I)[Ljava/lang/Object;"⟩
abbrev cJ10_iterator : ByteArray := prog_45_method_55_code
def yJ10_iterator : MethodName := ⟨RJ10, "iterator", "()Ljava/util/Iterator;"⟩
abbrev cJ10_size : ByteArray := prog_45_method_8_code
def yJ10_size : MethodName := ⟨RJ10, "size", "()I"⟩
abbrev cJ10_remove : ByteArray := prog_45_method_29_code
def yJ10_remove : MethodName := ⟨RJ10, "remove", "(I)Ljava/lang/Object;"⟩
abbrev cJ10_fastRemove : ByteArray := prog_45_method_39_code
def yJ10_fastRemove : MethodName := ⟨RJ10, "fastRemove", "([Ljava/lang/Object;I)V"⟩
abbrev cJ10_isEmpty : ByteArray := prog_45_method_9_code
def yJ10_isEmpty : MethodName := ⟨RJ10, "isEmpty", "()Z"⟩
def RJ11 : String := "java/lang/AbstractStringBuilder"
abbrev cJ11_init : ByteArray := prog_13_method_2_code
def yJ11_init : MethodName := ⟨RJ11, "<init>", "(I)V"⟩
abbrev cJ11_length : ByteArray := prog_13_method_6_code
def yJ11_length : MethodName := ⟨RJ11, "length", "()I"⟩
abbrev cJ11_setLength : ByteArray := prog_13_method_13_code
def yJ11_setLength : MethodName := ⟨RJ11, "setLength", "(I)V"⟩
abbrev cJ11_append : ByteArray := prog_13_method_22_code
def yJ11_append : MethodName := ⟨RJ11, "append", "(Ljava/lang/String;)Ljava/lang/AbstractStringBuilder;"⟩
abbrev cJ11_appendNull : ByteArray := prog_13_method_26_code
def yJ11_appendNull : MethodName := ⟨RJ11, "appendNull", "()Ljava/lang/AbstractStringBuilder;"⟩
abbrev cJ11_ensureCapacityInternal : ByteArray := prog_13_method_9_code
def yJ11_ensureCapacityInternal : MethodName := ⟨RJ11, "ensureCapacityInternal", "(I)V"⟩
abbrev cJ11_newCapacity : ByteArray := prog_13_method_10_code
def yJ11_newCapacity : MethodName := ⟨RJ11, "newCapacity", "(I)I"⟩
abbrev cJ11_isLatin1 : ByteArray := prog_13_method_68_code
def yJ11_isLatin1 : MethodName := ⟨RJ11, "isLatin1", "()Z"⟩
abbrev cJ11_putStringAt : ByteArray := prog_13_method_73_code
def yJ11_putStringAt : MethodName := ⟨RJ11, "putStringAt", "(ILjava/lang/String;)V"⟩
abbrev cJ11_inflateIfNeededFor : ByteArray := prog_13_method_71_code
def yJ11_inflateIfNeededFor : MethodName := ⟨RJ11, "inflateIfNeededFor", "(Ljava/lang/String;)V"⟩
abbrev cJ11_inflate : ByteArray := prog_13_method_11_code
def yJ11_inflate : MethodName := ⟨RJ11, "inflate", "()V"⟩
abbrev cJ11_append_2 : ByteArray := prog_13_method_32_code
def yJ11_append_2 : MethodName := ⟨RJ11, "append", "(I)Ljava/lang/AbstractStringBuilder;"⟩
abbrev cJ11_getValue : ByteArray := prog_13_method_64_code
def yJ11_getValue : MethodName := ⟨RJ11, "getValue", "()[B"⟩
abbrev cJ11_charAt : ByteArray := prog_13_method_14_code
def yJ11_charAt : MethodName := ⟨RJ11, "charAt", "(I)C"⟩
abbrev cJ11_compareTo : ByteArray := prog_13_method_5_code
def yJ11_compareTo : MethodName := ⟨RJ11, "compareTo", "(Ljava/lang/AbstractStringBuilder;)I"⟩
abbrev cJ11_append_3 : ByteArray := prog_13_method_31_code
def yJ11_append_3 : MethodName := ⟨RJ11, "append", "(C)Ljava/lang/AbstractStringBuilder;"⟩
def RJ12 : String := "java/lang/StringBuilder"
def TJ12 : u_T := fun k => match k with
  | 0 => ("java/lang/AbstractStringBuilder", "value", "[B", false)
  | 1 => ("java/lang/AbstractStringBuilder", "coder", "B", false)
  | 2 => ("java/lang/AbstractStringBuilder", "maybeLatin1", "Z", false)
  | _ => ("java/lang/AbstractStringBuilder", "count", "I", false)
def tyJ12 : Nat → FieldType := fun k => match k with
  | 0 => .array .byte
  | 1 => .byte
  | 2 => .boolean
  | _ => .int
abbrev wsJ120 : List Cond := u_ws RJ12 TJ12 4
theorem nmJ12 : ∀ a, a < 4 → ∀ b, b < 4 → a ≠ b → (TJ12 a).2.1 ≠ (TJ12 b).2.1 := by decide +kernel
theorem tyJ12_ok : ∀ k, k < 4 → parseFieldDescriptor (TJ12 k).2.2.1 = some (tyJ12 k) := by decide +kernel
abbrev cJ12_init : ByteArray := prog_31_method_2_code
def yJ12_init : MethodName := ⟨RJ12, "<init>", "(I)V"⟩
abbrev cJ12_length : ByteArray := prog_31_method_93_code
def yJ12_length : MethodName := ⟨RJ12, "length", "()I"⟩
abbrev cJ12_setLength : ByteArray := prog_31_method_89_code
def yJ12_setLength : MethodName := ⟨RJ12, "setLength", "(I)V"⟩
abbrev cJ12_init_2 : ByteArray := prog_31_method_1_code
def yJ12_init_2 : MethodName := ⟨RJ12, "<init>", "()V"⟩
abbrev cJ12_append : ByteArray := prog_31_method_7_code
def yJ12_append : MethodName := ⟨RJ12, "append", "(Ljava/lang/String;)Ljava/lang/StringBuilder;"⟩
abbrev cJ12_append_2 : ByteArray := prog_31_method_15_code
def yJ12_append_2 : MethodName := ⟨RJ12, "append", "(I)Ljava/lang/StringBuilder;"⟩
abbrev cJ12_toString : ByteArray := prog_31_method_42_code
def yJ12_toString : MethodName := ⟨RJ12, "toString", "()Ljava/lang/String;"⟩
abbrev cJ12_charAt : ByteArray := prog_31_method_88_code
def yJ12_charAt : MethodName := ⟨RJ12, "charAt", "(I)C"⟩
abbrev cJ12_compareTo : ByteArray := prog_31_method_97_code
def yJ12_compareTo : MethodName := ⟨RJ12, "compareTo", "(Ljava/lang/Object;)I"⟩
abbrev cJ12_compareTo_2 : ByteArray := prog_31_method_5_code
def yJ12_compareTo_2 : MethodName := ⟨RJ12, "compareTo", "(Ljava/lang/StringBuilder;)I"⟩
abbrev cJ12_append_3 : ByteArray := prog_31_method_14_code
def yJ12_append_3 : MethodName := ⟨RJ12, "append", "(C)Ljava/lang/StringBuilder;"⟩
def RJ13 : String := "java/lang/String"
def TJ13 : u_T := fun k => match k with
  | 0 => ("java/lang/String", "value", "[B", true)
  | 1 => ("java/lang/String", "coder", "B", true)
  | 2 => ("java/lang/String", "hash", "I", false)
  | _ => ("java/lang/String", "hashIsZero", "Z", false)
def tyJ13 : Nat → FieldType := fun k => match k with
  | 0 => .array .byte
  | 1 => .byte
  | 2 => .int
  | _ => .boolean
abbrev wsJ130 : List Cond := u_ws RJ13 TJ13 4
theorem nmJ13 : ∀ a, a < 4 → ∀ b, b < 4 → a ≠ b → (TJ13 a).2.1 ≠ (TJ13 b).2.1 := by decide +kernel
theorem tyJ13_ok : ∀ k, k < 4 → parseFieldDescriptor (TJ13 k).2.2.1 = some (tyJ13 k) := by decide +kernel
abbrev cJ13_checkBoundsBeginEnd : ByteArray := prog_30_method_158_code
def yJ13_checkBoundsBeginEnd : MethodName := ⟨RJ13, "checkBoundsBeginEnd", "(III)V"⟩
abbrev cJ13_length : ByteArray := prog_30_method_54_code
def yJ13_length : MethodName := ⟨RJ13, "length", "()I"⟩
abbrev cJ13_coder : ByteArray := prog_30_method_152_code
def yJ13_coder : MethodName := ⟨RJ13, "coder", "()B"⟩
abbrev cJ13_checkBoundsOffCount : ByteArray := prog_30_method_157_code
def yJ13_checkBoundsOffCount : MethodName := ⟨RJ13, "checkBoundsOffCount", "(III)I"⟩
abbrev cJ13_getBytes : ByteArray := prog_30_method_147_code
def yJ13_getBytes : MethodName := ⟨RJ13, "getBytes", "([BIB)V"⟩
abbrev cJ13_init : ByteArray := prog_30_method_53_code
def yJ13_init : MethodName := ⟨RJ13, "<init>", "(Ljava/lang/StringBuilder;)V"⟩
abbrev cJ13_init_2 : ByteArray := prog_30_method_150_code
def yJ13_init_2 : MethodName := ⟨RJ13, "<init>", "(Ljava/lang/AbstractStringBuilder;Ljava/lang/Void;)V"⟩
abbrev cJ13_checkIndex : ByteArray := prog_30_method_155_code
def yJ13_checkIndex : MethodName := ⟨RJ13, "checkIndex", "(II)V"⟩
abbrev cJ13_compareTo : ByteArray := prog_30_method_162_code
def yJ13_compareTo : MethodName := ⟨RJ13, "compareTo", "(Ljava/lang/Object;)I"⟩
abbrev cJ13_compareTo_2 : ByteArray := prog_30_method_71_code
def yJ13_compareTo_2 : MethodName := ⟨RJ13, "compareTo", "(Ljava/lang/String;)I"⟩
abbrev cJ13_checkOffset : ByteArray := prog_30_method_156_code
def yJ13_checkOffset : MethodName := ⟨RJ13, "checkOffset", "(II)V"⟩
abbrev cJ13_equals : ByteArray := prog_30_method_66_code
def yJ13_equals : MethodName := ⟨RJ13, "equals", "(Ljava/lang/Object;)Z"⟩
def RJ14 : String := "java/lang/StringUTF16"
abbrev cJ14_newBytesFor : ByteArray := prog_34_method_2_code
def yJ14_newBytesFor : MethodName := ⟨RJ14, "newBytesFor", "(I)[B"⟩
abbrev cJ14_newBytesLength : ByteArray := prog_34_method_3_code
def yJ14_newBytesLength : MethodName := ⟨RJ14, "newBytesLength", "(I)I"⟩
abbrev cJ14_putCharsAt : ByteArray := prog_34_method_81_code
def yJ14_putCharsAt : MethodName := ⟨RJ14, "putCharsAt", "([BICCCC)I"⟩
abbrev cJ14_checkBoundsBeginEnd : ByteArray := prog_34_method_93_code
def yJ14_checkBoundsBeginEnd : MethodName := ⟨RJ14, "checkBoundsBeginEnd", "(II[B)V"⟩
abbrev cJ14_length : ByteArray := prog_34_method_6_code
def yJ14_length : MethodName := ⟨RJ14, "length", "([B)I"⟩
abbrev cJ14_putChar : ByteArray := prog_34_method_4_code
def yJ14_putChar : MethodName := ⟨RJ14, "putChar", "([BII)V"⟩
abbrev cJ14_inflate : ByteArray := prog_34_method_86_code
def yJ14_inflate : MethodName := ⟨RJ14, "inflate", "([BI[BII)V"⟩
abbrev cJ14_checkBoundsOffCount : ByteArray := prog_34_method_94_code
def yJ14_checkBoundsOffCount : MethodName := ⟨RJ14, "checkBoundsOffCount", "(II[B)V"⟩
abbrev cJ14_getChars : ByteArray := prog_34_method_77_code
def yJ14_getChars : MethodName := ⟨RJ14, "getChars", "(III[B)I"⟩
abbrev cJ14_getChars_2 : ByteArray := prog_34_method_89_code
def yJ14_getChars_2 : MethodName := ⟨RJ14, "getChars", "(II[B)I"⟩
abbrev cJ14_compress : ByteArray := prog_34_method_17_code
def yJ14_compress : MethodName := ⟨RJ14, "compress", "([BII)[B"⟩
abbrev cJ14_compress_2 : ByteArray := prog_34_method_22_code
def yJ14_compress_2 : MethodName := ⟨RJ14, "compress", "([BI[BII)I"⟩
abbrev cJ14_getChar : ByteArray := prog_34_method_5_code
def yJ14_getChar : MethodName := ⟨RJ14, "getChar", "([BI)C"⟩
abbrev cJ14_coderFromArrayLen : ByteArray := prog_34_method_15_code
def yJ14_coderFromArrayLen : MethodName := ⟨RJ14, "coderFromArrayLen", "([BI)B"⟩
abbrev cJ14_fillNull : ByteArray := prog_34_method_70_code
def yJ14_fillNull : MethodName := ⟨RJ14, "fillNull", "([BII)V"⟩
abbrev cJ14_compareTo : ByteArray := prog_34_method_29_code
def yJ14_compareTo : MethodName := ⟨RJ14, "compareTo", "([B[B)I"⟩
abbrev cJ14_compareValues : ByteArray := prog_34_method_31_code
def yJ14_compareValues : MethodName := ⟨RJ14, "compareValues", "([B[BII)I"⟩
abbrev cJ14_compareToLatin1 : ByteArray := prog_34_method_32_code
def yJ14_compareToLatin1 : MethodName := ⟨RJ14, "compareToLatin1", "([B[B)I"⟩
abbrev cJ14_compareTo_2 : ByteArray := prog_34_method_30_code
def yJ14_compareTo_2 : MethodName := ⟨RJ14, "compareTo", "([B[BII)I"⟩
abbrev cJ14_checkOffset : ByteArray := prog_34_method_92_code
def yJ14_checkOffset : MethodName := ⟨RJ14, "checkOffset", "(I[B)V"⟩
abbrev cJ14_compareToLatin1_2 : ByteArray := prog_34_method_33_code
def yJ14_compareToLatin1_2 : MethodName := ⟨RJ14, "compareToLatin1", "([B[BII)I"⟩
abbrev cJ14_putCharSB : ByteArray := prog_34_method_71_code
def yJ14_putCharSB : MethodName := ⟨RJ14, "putCharSB", "([BII)V"⟩
abbrev cJ14_checkIndex : ByteArray := prog_34_method_91_code
def yJ14_checkIndex : MethodName := ⟨RJ14, "checkIndex", "(I[B)V"⟩
def RJ15 : String := "java/lang/IndexOutOfBoundsException"
def TJ15 : u_T := fun k => match k with
  | 0 => ("java/lang/Throwable", "cause", "Ljava/lang/Throwable;", false)
  | 1 => ("java/lang/Throwable", "stackTrace", "[Ljava/lang/StackTraceElement;", false)
  | 2 => ("java/lang/Throwable", "suppressedExceptions", "Ljava/util/List;", false)
  | 3 => ("java/lang/Throwable", "detailMessage", "Ljava/lang/String;", false)
  | 4 => ("java/lang/Throwable", "backtrace", "Ljava/lang/Object;", false)
  | _ => ("java/lang/Throwable", "depth", "I", false)
def tyJ15 : Nat → FieldType := fun k => match k with
  | 0 => .object "java/lang/Throwable"
  | 1 => .array (.object "java/lang/StackTraceElement")
  | 2 => .object "java/util/List"
  | 3 => .object "java/lang/String"
  | 4 => .object "java/lang/Object"
  | _ => .int
abbrev wsJ150 : List Cond := u_ws RJ15 TJ15 6
theorem nmJ15 : ∀ a, a < 6 → ∀ b, b < 6 → a ≠ b → (TJ15 a).2.1 ≠ (TJ15 b).2.1 := by decide +kernel
theorem tyJ15_ok : ∀ k, k < 6 → parseFieldDescriptor (TJ15 k).2.2.1 = some (tyJ15 k) := by decide +kernel
abbrev cJ15_init : ByteArray := prog_22_method_2_code
def yJ15_init : MethodName := ⟨RJ15, "<init>", "(Ljava/lang/String;)V"⟩
abbrev cJ15_init_2 : ByteArray := prog_22_method_1_code
def yJ15_init_2 : MethodName := ⟨RJ15, "<init>", "()V"⟩
def RJ16 : String := "java/lang/ArrayIndexOutOfBoundsException"
def TJ16 : u_T := fun k => match k with
  | 0 => ("java/lang/Throwable", "cause", "Ljava/lang/Throwable;", false)
  | 1 => ("java/lang/Throwable", "stackTrace", "[Ljava/lang/StackTraceElement;", false)
  | 2 => ("java/lang/Throwable", "suppressedExceptions", "Ljava/util/List;", false)
  | 3 => ("java/lang/Throwable", "detailMessage", "Ljava/lang/String;", false)
  | 4 => ("java/lang/Throwable", "backtrace", "Ljava/lang/Object;", false)
  | _ => ("java/lang/Throwable", "depth", "I", false)
def tyJ16 : Nat → FieldType := fun k => match k with
  | 0 => .object "java/lang/Throwable"
  | 1 => .array (.object "java/lang/StackTraceElement")
  | 2 => .object "java/util/List"
  | 3 => .object "java/lang/String"
  | 4 => .object "java/lang/Object"
  | _ => .int
abbrev wsJ160 : List Cond := u_ws RJ16 TJ16 6
theorem nmJ16 : ∀ a, a < 6 → ∀ b, b < 6 → a ≠ b → (TJ16 a).2.1 ≠ (TJ16 b).2.1 := by decide +kernel
theorem tyJ16_ok : ∀ k, k < 6 → parseFieldDescriptor (TJ16 k).2.2.1 = some (tyJ16 k) := by decide +kernel
abbrev cJ16_init : ByteArray := prog_15_method_3_code
def yJ16_init : MethodName := ⟨RJ16, "<init>", "(I)V"⟩
abbrev cJ16_init_2 : ByteArray := prog_15_method_2_code
def yJ16_init_2 : MethodName := ⟨RJ16, "<init>", "(Ljava/lang/String;)V"⟩
def RJ17 : String := "java/util/Objects"
abbrev cJ17_requireNonNull : ByteArray := prog_56_method_10_code
def yJ17_requireNonNull : MethodName := ⟨RJ17, "requireNonNull", "(Ljava/lang/Object;)Ljava/lang/Object;"⟩
abbrev cJ17_equals : ByteArray := prog_56_method_2_code
def yJ17_equals : MethodName := ⟨RJ17, "equals", "(Ljava/lang/Object;Ljava/lang/Object;)Z"⟩
abbrev cJ17_checkIndex : ByteArray := prog_56_method_17_code
def yJ17_checkIndex : MethodName := ⟨RJ17, "checkIndex", "(II)I"⟩
def RJ18 : String := "jdk/internal/util/Preconditions"
abbrev cJ18_checkFromToIndex : ByteArray := prog_79_method_12_code
def yJ18_checkFromToIndex : MethodName := ⟨RJ18, "checkFromToIndex", "(IIILjava/util/function/BiFunction;)I"⟩
abbrev cJ18_checkFromIndexSize : ByteArray := prog_79_method_13_code
def yJ18_checkFromIndexSize : MethodName := ⟨RJ18, "checkFromIndexSize", "(IIILjava/util/function/BiFunction;)I"⟩
abbrev cJ18_checkIndex : ByteArray := prog_79_method_11_code
def yJ18_checkIndex : MethodName := ⟨RJ18, "checkIndex", "(IILjava/util/function/BiFunction;)I"⟩
def RJ19 : String := "java/lang/StringLatin1"
abbrev cJ19_inflate : ByteArray := prog_33_method_50_code
def yJ19_inflate : MethodName := ⟨RJ19, "inflate", "([BI[BII)V"⟩
abbrev cJ19_fillNull : ByteArray := prog_33_method_48_code
def yJ19_fillNull : MethodName := ⟨RJ19, "fillNull", "([BII)V"⟩
abbrev cJ19_compareTo : ByteArray := prog_33_method_14_code
def yJ19_compareTo : MethodName := ⟨RJ19, "compareTo", "([B[B)I"⟩
abbrev cJ19_compareTo_2 : ByteArray := prog_33_method_15_code
def yJ19_compareTo_2 : MethodName := ⟨RJ19, "compareTo", "([B[BII)I"⟩
abbrev cJ19_getChar : ByteArray := prog_33_method_44_code
def yJ19_getChar : MethodName := ⟨RJ19, "getChar", "([BI)C"⟩
abbrev cJ19_compareToUTF16 : ByteArray := prog_33_method_16_code
def yJ19_compareToUTF16 : MethodName := ⟨RJ19, "compareToUTF16", "([B[B)I"⟩
abbrev cJ19_length : ByteArray := prog_33_method_5_code
def yJ19_length : MethodName := ⟨RJ19, "length", "([B)I"⟩
abbrev cJ19_compareToUTF16Values : ByteArray := prog_33_method_18_code
def yJ19_compareToUTF16Values : MethodName := ⟨RJ19, "compareToUTF16Values", "([B[BII)I"⟩
abbrev cJ19_compareToUTF16_2 : ByteArray := prog_33_method_17_code
def yJ19_compareToUTF16_2 : MethodName := ⟨RJ19, "compareToUTF16", "([B[BII)I"⟩
abbrev cJ19_equals : ByteArray := prog_33_method_13_code
def yJ19_equals : MethodName := ⟨RJ19, "equals", "([B[B)Z"⟩
abbrev cJ19_canEncode : ByteArray := prog_33_method_3_code
def yJ19_canEncode : MethodName := ⟨RJ19, "canEncode", "(C)Z"⟩
def RJ2 : String := "java/util/AbstractCollection"
abbrev cJ2_init : ByteArray := prog_39_method_1_code
def yJ2_init : MethodName := ⟨RJ2, "<init>", "()V"⟩
abbrev cJ2_isEmpty : ByteArray := prog_39_method_4_code
def yJ2_isEmpty : MethodName := ⟨RJ2, "isEmpty", "()Z"⟩
def RJ20 : String := "java/util/AbstractSet"
abbrev cJ20_init : ByteArray := prog_43_method_1_code
def yJ20_init : MethodName := ⟨RJ20, "<init>", "()V"⟩
def RJ21 : String := "java/util/TreeMap$EntrySet"
def TJ21 : u_T := fun k => match k with
  | _ => ("java/util/TreeMap$EntrySet", "this$0", "Ljava/util/TreeMap;", true)
def tyJ21 : Nat → FieldType := fun k => match k with
  | _ => .object "java/util/TreeMap"
abbrev wsJ210 : List Cond := u_ws RJ21 TJ21 1
theorem nmJ21 : ∀ a, a < 1 → ∀ b, b < 1 → a ≠ b → (TJ21 a).2.1 ≠ (TJ21 b).2.1 := by decide +kernel
theorem tyJ21_ok : ∀ k, k < 1 → parseFieldDescriptor (TJ21 k).2.2.1 = some (tyJ21 k) := by decide +kernel
abbrev cJ21_init : ByteArray := prog_70_method_1_code
def yJ21_init : MethodName := ⟨RJ21, "<init>", "(Ljava/util/TreeMap;)V"⟩
abbrev cJ21_iterator : ByteArray := prog_70_method_2_code
def yJ21_iterator : MethodName := ⟨RJ21, "iterator", "()Ljava/util/Iterator;"⟩
abbrev cJ21_size : ByteArray := prog_70_method_5_code
def yJ21_size : MethodName := ⟨RJ21, "size", "()I"⟩
def RJ22 : String := "java/util/TreeMap$PrivateEntryIterator"
abbrev cJ22_init : ByteArray := prog_74_method_1_code
def yJ22_init : MethodName := ⟨RJ22, "<init>", "(Ljava/util/TreeMap;Ljava/util/TreeMap$Entry;)V"⟩
abbrev cJ22_nextEntry : ByteArray := prog_74_method_3_code
def yJ22_nextEntry : MethodName := ⟨RJ22, "nextEntry", "()Ljava/util/TreeMap$Entry;"⟩
abbrev cJ22_hasNext : ByteArray := prog_74_method_2_code
def yJ22_hasNext : MethodName := ⟨RJ22, "hasNext", "()Z"⟩
def RJ23 : String := "java/util/TreeMap$EntryIterator"
def TJ23 : u_T := fun k => match k with
  | 0 => ("java/util/TreeMap$PrivateEntryIterator", "next", "Ljava/util/TreeMap$Entry;", false)
  | 1 => ("java/util/TreeMap$PrivateEntryIterator", "lastReturned", "Ljava/util/TreeMap$Entry;", false)
  | 2 => ("java/util/TreeMap$PrivateEntryIterator", "expectedModCount", "I", false)
  | _ => ("java/util/TreeMap$PrivateEntryIterator", "this$0", "Ljava/util/TreeMap;", true)
def tyJ23 : Nat → FieldType := fun k => match k with
  | 0 => .object "java/util/TreeMap$Entry"
  | 1 => .object "java/util/TreeMap$Entry"
  | 2 => .int
  | _ => .object "java/util/TreeMap"
abbrev wsJ230 : List Cond := u_ws RJ23 TJ23 4
theorem nmJ23 : ∀ a, a < 4 → ∀ b, b < 4 → a ≠ b → (TJ23 a).2.1 ≠ (TJ23 b).2.1 := by decide +kernel
theorem tyJ23_ok : ∀ k, k < 4 → parseFieldDescriptor (TJ23 k).2.2.1 = some (tyJ23 k) := by decide +kernel
abbrev cJ23_init : ByteArray := prog_69_method_1_code
def yJ23_init : MethodName := ⟨RJ23, "<init>", "(Ljava/util/TreeMap;Ljava/util/TreeMap$Entry;)V"⟩
abbrev cJ23_next : ByteArray := prog_69_method_3_code
def yJ23_next : MethodName := ⟨RJ23, "next", "()Ljava/lang/Object;"⟩
abbrev cJ23_next_2 : ByteArray := prog_69_method_2_code
def yJ23_next_2 : MethodName := ⟨RJ23, "next", "()Ljava/util/Map$Entry;"⟩
def RJ24 : String := "java/util/TreeMap$KeyIterator"
def TJ24 : u_T := fun k => match k with
  | 0 => ("java/util/TreeMap$PrivateEntryIterator", "next", "Ljava/util/TreeMap$Entry;", false)
  | 1 => ("java/util/TreeMap$PrivateEntryIterator", "lastReturned", "Ljava/util/TreeMap$Entry;", false)
  | 2 => ("java/util/TreeMap$PrivateEntryIterator", "expectedModCount", "I", false)
  | _ => ("java/util/TreeMap$PrivateEntryIterator", "this$0", "Ljava/util/TreeMap;", true)
def tyJ24 : Nat → FieldType := fun k => match k with
  | 0 => .object "java/util/TreeMap$Entry"
  | 1 => .object "java/util/TreeMap$Entry"
  | 2 => .int
  | _ => .object "java/util/TreeMap"
abbrev wsJ240 : List Cond := u_ws RJ24 TJ24 4
theorem nmJ24 : ∀ a, a < 4 → ∀ b, b < 4 → a ≠ b → (TJ24 a).2.1 ≠ (TJ24 b).2.1 := by decide +kernel
theorem tyJ24_ok : ∀ k, k < 4 → parseFieldDescriptor (TJ24 k).2.2.1 = some (tyJ24 k) := by decide +kernel
abbrev cJ24_init : ByteArray := prog_71_method_1_code
def yJ24_init : MethodName := ⟨RJ24, "<init>", "(Ljava/util/TreeMap;Ljava/util/TreeMap$Entry;)V"⟩
abbrev cJ24_next : ByteArray := prog_71_method_2_code
def yJ24_next : MethodName := ⟨RJ24, "next", "()Ljava/lang/Object;"⟩
def RJ25 : String := "java/util/TreeMap$KeySet"
def TJ25 : u_T := fun k => match k with
  | _ => ("java/util/TreeMap$KeySet", "m", "Ljava/util/NavigableMap;", true)
def tyJ25 : Nat → FieldType := fun k => match k with
  | _ => .object "java/util/NavigableMap"
abbrev wsJ250 : List Cond := u_ws RJ25 TJ25 1
theorem nmJ25 : ∀ a, a < 1 → ∀ b, b < 1 → a ≠ b → (TJ25 a).2.1 ≠ (TJ25 b).2.1 := by decide +kernel
theorem tyJ25_ok : ∀ k, k < 1 → parseFieldDescriptor (TJ25 k).2.2.1 = some (tyJ25 k) := by decide +kernel
abbrev cJ25_iterator : ByteArray := prog_72_method_2_code
def yJ25_iterator : MethodName := ⟨RJ25, "iterator", "()Ljava/util/Iterator;"⟩
abbrev cJ25_init : ByteArray := prog_72_method_1_code
def yJ25_init : MethodName := ⟨RJ25, "<init>", "(Ljava/util/NavigableMap;)V"⟩
abbrev cJ25_size : ByteArray := prog_72_method_4_code
def yJ25_size : MethodName := ⟨RJ25, "size", "()I"⟩
def RJ26 : String := "java/lang/Number"
abbrev cJ26_init : ByteArray := prog_28_method_1_code
def yJ26_init : MethodName := ⟨RJ26, "<init>", "()V"⟩
def RJ27 : String := "java/lang/Integer"
def TJ27 : u_T := fun k => match k with
  | _ => ("java/lang/Integer", "value", "I", true)
def tyJ27 : Nat → FieldType := fun k => match k with
  | _ => .int
abbrev wsJ270 : List Cond := u_ws RJ27 TJ27 1
theorem nmJ27 : ∀ a, a < 1 → ∀ b, b < 1 → a ≠ b → (TJ27 a).2.1 ≠ (TJ27 b).2.1 := by decide +kernel
theorem tyJ27_ok : ∀ k, k < 1 → parseFieldDescriptor (TJ27 k).2.2.1 = some (tyJ27 k) := by decide +kernel
abbrev cJ27_stringSize : ByteArray := prog_23_method_13_code
def yJ27_stringSize : MethodName := ⟨RJ27, "stringSize", "(I)I"⟩
abbrev cJ27_getChars : ByteArray := prog_23_method_12_code
def yJ27_getChars : MethodName := ⟨RJ27, "getChars", "(II[B)I"⟩
abbrev cJ27_compare : ByteArray := prog_23_method_40_code
def yJ27_compare : MethodName := ⟨RJ27, "compare", "(II)I"⟩
abbrev cJ27_compareTo : ByteArray := prog_23_method_63_code
def yJ27_compareTo : MethodName := ⟨RJ27, "compareTo", "(Ljava/lang/Object;)I"⟩
abbrev cJ27_compareTo_2 : ByteArray := prog_23_method_39_code
def yJ27_compareTo_2 : MethodName := ⟨RJ27, "compareTo", "(Ljava/lang/Integer;)I"⟩
abbrev cJ27_numberOfLeadingZeros : ByteArray := prog_23_method_47_code
def yJ27_numberOfLeadingZeros : MethodName := ⟨RJ27, "numberOfLeadingZeros", "(I)I"⟩
abbrev cJ27_numberOfTrailingZeros : ByteArray := prog_23_method_48_code
def yJ27_numberOfTrailingZeros : MethodName := ⟨RJ27, "numberOfTrailingZeros", "(I)I"⟩
abbrev cJ27_equals : ByteArray := prog_23_method_34_code
def yJ27_equals : MethodName := ⟨RJ27, "equals", "(Ljava/lang/Object;)Z"⟩
abbrev cJ27_intValue : ByteArray := prog_23_method_27_code
def yJ27_intValue : MethodName := ⟨RJ27, "intValue", "()I"⟩
abbrev cJ27_valueOf : ByteArray := prog_23_method_22_code
def yJ27_valueOf : MethodName := ⟨RJ27, "valueOf", "(I)Ljava/lang/Integer;"⟩
abbrev cJ27_init : ByteArray := prog_23_method_23_code
def yJ27_init : MethodName := ⟨RJ27, "<init>", "(I)V"⟩
def RJ28 : String := "java/util/ArrayDeque"
abbrev cJ28_poll : ByteArray := prog_44_method_31_code
def yJ28_poll : MethodName := ⟨RJ28, "poll", "()Ljava/lang/Object;"⟩
abbrev cJ28_pollFirst : ByteArray := prog_44_method_20_code
def yJ28_pollFirst : MethodName := ⟨RJ28, "pollFirst", "()Ljava/lang/Object;"⟩
abbrev cJ28_elementAt : ByteArray := prog_44_method_10_code
def yJ28_elementAt : MethodName := ⟨RJ28, "elementAt", "([Ljava/lang/Object;I)Ljava/lang/Object;"⟩
abbrev cJ28_inc : ByteArray := prog_44_method_6_code
def yJ28_inc : MethodName := ⟨RJ28, "inc", "(II)I"⟩
abbrev cJ28_isEmpty : ByteArray := prog_44_method_38_code
def yJ28_isEmpty : MethodName := ⟨RJ28, "isEmpty", "()Z"⟩
def RJ29 : String := "java/util/TreeMap$Entry"
def TJ29 : u_T := fun k => match k with
  | 0 => ("java/util/TreeMap$Entry", "key", "Ljava/lang/Object;", false)
  | 1 => ("java/util/TreeMap$Entry", "value", "Ljava/lang/Object;", false)
  | 2 => ("java/util/TreeMap$Entry", "left", "Ljava/util/TreeMap$Entry;", false)
  | 3 => ("java/util/TreeMap$Entry", "right", "Ljava/util/TreeMap$Entry;", false)
  | 4 => ("java/util/TreeMap$Entry", "parent", "Ljava/util/TreeMap$Entry;", false)
  | _ => ("java/util/TreeMap$Entry", "color", "Z", false)
def tyJ29 : Nat → FieldType := fun k => match k with
  | 0 => .object "java/lang/Object"
  | 1 => .object "java/lang/Object"
  | 2 => .object "java/util/TreeMap$Entry"
  | 3 => .object "java/util/TreeMap$Entry"
  | 4 => .object "java/util/TreeMap$Entry"
  | _ => .boolean
abbrev wsJ290 : List Cond := u_ws RJ29 TJ29 6
theorem nmJ29 : ∀ a, a < 6 → ∀ b, b < 6 → a ≠ b → (TJ29 a).2.1 ≠ (TJ29 b).2.1 := by decide +kernel
theorem tyJ29_ok : ∀ k, k < 6 → parseFieldDescriptor (TJ29 k).2.2.1 = some (tyJ29 k) := by decide +kernel
abbrev cJ29_getKey : ByteArray := prog_68_method_2_code
def yJ29_getKey : MethodName := ⟨RJ29, "getKey", "()Ljava/lang/Object;"⟩
abbrev cJ29_getValue : ByteArray := prog_68_method_3_code
def yJ29_getValue : MethodName := ⟨RJ29, "getValue", "()Ljava/lang/Object;"⟩
abbrev cJ29_init : ByteArray := prog_68_method_1_code
def yJ29_init : MethodName := ⟨RJ29, "<init>", "(Ljava/lang/Object;Ljava/lang/Object;Ljava/util/TreeMap$Entry;)V"⟩
def RJ3 : String := "java/util/AbstractQueue"
abbrev cJ3_init : ByteArray := prog_42_method_1_code
def yJ3_init : MethodName := ⟨RJ3, "<init>", "()V"⟩
abbrev cJ3_addAll : ByteArray := prog_42_method_6_code
def yJ3_addAll : MethodName := ⟨RJ3, "addAll", "(Ljava/util/Collection;)Z"⟩
def RJ30 : String := "java/lang/Math"
abbrev cJ30_max : ByteArray := prog_27_method_65_code
def yJ30_max : MethodName := ⟨RJ30, "max", "(II)I"⟩
abbrev cJ30_min : ByteArray := prog_27_method_69_code
def yJ30_min : MethodName := ⟨RJ30, "min", "(II)I"⟩
def RJ31 : String := "jdk/internal/util/ArraysSupport"
abbrev cJ31_newLength : ByteArray := prog_78_method_27_code
def yJ31_newLength : MethodName := ⟨RJ31, "newLength", "(III)I"⟩
abbrev cJ31_hugeLength : ByteArray := prog_78_method_28_code
def yJ31_hugeLength : MethodName := ⟨RJ31, "hugeLength", "(II)I"⟩
abbrev cJ31_mismatch : ByteArray := prog_78_method_13_code
def yJ31_mismatch : MethodName := ⟨RJ31, "mismatch", "([B[BI)I"⟩
abbrev cJ31_vectorizedMismatch : ByteArray := prog_78_method_3_code
def yJ31_vectorizedMismatch : MethodName := ⟨RJ31, "vectorizedMismatch", "(Ljava/lang/Object;JLjava/lang/Object;JII)I"⟩
def RJ32 : String := "jdk/internal/misc/Unsafe"
abbrev cJ32_getLongUnaligned : ByteArray := prog_76_method_334_code
def yJ32_getLongUnaligned : MethodName := ⟨RJ32, "getLongUnaligned", "(Ljava/lang/Object;J)J"⟩
abbrev cJ32_makeLong : ByteArray := prog_76_method_353_code
def yJ32_makeLong : MethodName := ⟨RJ32, "makeLong", "(II)J"⟩
abbrev cJ32_toUnsignedLong : ByteArray := prog_76_method_370_code
def yJ32_toUnsignedLong : MethodName := ⟨RJ32, "toUnsignedLong", "(I)J"⟩
abbrev cJ32_pickPos : ByteArray := prog_76_method_350_code
def yJ32_pickPos : MethodName := ⟨RJ32, "pickPos", "(II)I"⟩
abbrev cJ32_makeLong_2 : ByteArray := prog_76_method_352_code
def yJ32_makeLong_2 : MethodName := ⟨RJ32, "makeLong", "(SSSS)J"⟩
abbrev cJ32_toUnsignedLong_2 : ByteArray := prog_76_method_369_code
def yJ32_toUnsignedLong_2 : MethodName := ⟨RJ32, "toUnsignedLong", "(S)J"⟩
abbrev cJ32_makeLong_3 : ByteArray := prog_76_method_351_code
def yJ32_makeLong_3 : MethodName := ⟨RJ32, "makeLong", "(BBBBBBBB)J"⟩
abbrev cJ32_toUnsignedLong_3 : ByteArray := prog_76_method_368_code
def yJ32_toUnsignedLong_3 : MethodName := ⟨RJ32, "toUnsignedLong", "(B)J"⟩
abbrev cJ32_getIntUnaligned : ByteArray := prog_76_method_336_code
def yJ32_getIntUnaligned : MethodName := ⟨RJ32, "getIntUnaligned", "(Ljava/lang/Object;J)I"⟩
abbrev cJ32_makeInt : ByteArray := prog_76_method_354_code
def yJ32_makeInt : MethodName := ⟨RJ32, "makeInt", "(SS)I"⟩
abbrev cJ32_toUnsignedInt : ByteArray := prog_76_method_367_code
def yJ32_toUnsignedInt : MethodName := ⟨RJ32, "toUnsignedInt", "(S)I"⟩
abbrev cJ32_makeInt_2 : ByteArray := prog_76_method_355_code
def yJ32_makeInt_2 : MethodName := ⟨RJ32, "makeInt", "(BBBB)I"⟩
abbrev cJ32_toUnsignedInt_2 : ByteArray := prog_76_method_366_code
def yJ32_toUnsignedInt_2 : MethodName := ⟨RJ32, "toUnsignedInt", "(B)I"⟩
def RJ33 : String := "java/lang/Long"
abbrev cJ33_numberOfLeadingZeros : ByteArray := prog_26_method_48_code
def yJ33_numberOfLeadingZeros : MethodName := ⟨RJ33, "numberOfLeadingZeros", "(J)I"⟩
abbrev cJ33_numberOfTrailingZeros : ByteArray := prog_26_method_49_code
def yJ33_numberOfTrailingZeros : MethodName := ⟨RJ33, "numberOfTrailingZeros", "(J)I"⟩
def RJ34 : String := "java/util/ArrayList$Itr"
def TJ34 : u_T := fun k => match k with
  | 0 => ("java/util/ArrayList$Itr", "cursor", "I", false)
  | 1 => ("java/util/ArrayList$Itr", "lastRet", "I", false)
  | 2 => ("java/util/ArrayList$Itr", "expectedModCount", "I", false)
  | _ => ("java/util/ArrayList$Itr", "this$0", "Ljava/util/ArrayList;", true)
def tyJ34 : Nat → FieldType := fun k => match k with
  | 0 => .int
  | 1 => .int
  | 2 => .int
  | _ => .object "java/util/ArrayList"
abbrev wsJ340 : List Cond := u_ws RJ34 TJ34 4
theorem nmJ34 : ∀ a, a < 4 → ∀ b, b < 4 → a ≠ b → (TJ34 a).2.1 ≠ (TJ34 b).2.1 := by decide +kernel
theorem tyJ34_ok : ∀ k, k < 4 → parseFieldDescriptor (TJ34 k).2.2.1 = some (tyJ34 k) := by decide +kernel
abbrev cJ34_next : ByteArray := prog_46_method_3_code
def yJ34_next : MethodName := ⟨RJ34, "next", "()Ljava/lang/Object;"⟩
abbrev cJ34_checkForComodification : ByteArray := prog_46_method_6_code
def yJ34_checkForComodification : MethodName := ⟨RJ34, "checkForComodification", "()V"⟩
abbrev cJ34_hasNext : ByteArray := prog_46_method_2_code
def yJ34_hasNext : MethodName := ⟨RJ34, "hasNext", "()Z"⟩
abbrev cJ34_init : ByteArray := prog_46_method_1_code
def yJ34_init : MethodName := ⟨RJ34, "<init>", "(Ljava/util/ArrayList;)V"⟩
def RJ35 : String := "java/util/PriorityQueue$Itr"
def TJ35 : u_T := fun k => match k with
  | 0 => ("java/util/PriorityQueue$Itr", "cursor", "I", false)
  | 1 => ("java/util/PriorityQueue$Itr", "lastRet", "I", false)
  | 2 => ("java/util/PriorityQueue$Itr", "forgetMeNot", "Ljava/util/ArrayDeque;", false)
  | 3 => ("java/util/PriorityQueue$Itr", "lastRetElt", "Ljava/lang/Object;", false)
  | 4 => ("java/util/PriorityQueue$Itr", "expectedModCount", "I", false)
  | _ => ("java/util/PriorityQueue$Itr", "this$0", "Ljava/util/PriorityQueue;", true)
def tyJ35 : Nat → FieldType := fun k => match k with
  | 0 => .int
  | 1 => .int
  | 2 => .object "java/util/ArrayDeque"
  | 3 => .object "java/lang/Object"
  | 4 => .int
  | _ => .object "java/util/PriorityQueue"
abbrev wsJ350 : List Cond := u_ws RJ35 TJ35 6
theorem nmJ35 : ∀ a, a < 6 → ∀ b, b < 6 → a ≠ b → (TJ35 a).2.1 ≠ (TJ35 b).2.1 := by decide +kernel
theorem tyJ35_ok : ∀ k, k < 6 → parseFieldDescriptor (TJ35 k).2.2.1 = some (tyJ35 k) := by decide +kernel
abbrev cJ35_next : ByteArray := prog_58_method_3_code
def yJ35_next : MethodName := ⟨RJ35, "next", "()Ljava/lang/Object;"⟩
abbrev cJ35_hasNext : ByteArray := prog_58_method_2_code
def yJ35_hasNext : MethodName := ⟨RJ35, "hasNext", "()Z"⟩
abbrev cJ35_init : ByteArray := prog_58_method_1_code
def yJ35_init : MethodName := ⟨RJ35, "<init>", "(Ljava/util/PriorityQueue;)V"⟩
def RJ36 : String := "java/util/Arrays"
abbrev cJ36_copyOf : ByteArray := prog_47_method_121_code
def yJ36_copyOf : MethodName := ⟨RJ36, "copyOf", "([BI)[B"⟩
abbrev cJ36_copyOfRange : ByteArray := prog_47_method_132_code
def yJ36_copyOfRange : MethodName := ⟨RJ36, "copyOfRange", "([BII)[B"⟩
abbrev cJ36_copyOfRangeByte : ByteArray := prog_47_method_133_code
def yJ36_copyOfRangeByte : MethodName := ⟨RJ36, "copyOfRangeByte", "([BII)[B"⟩
abbrev cJ36_checkLength : ByteArray := prog_47_method_131_code
def yJ36_checkLength : MethodName := ⟨RJ36, "checkLength", "(II)V"⟩
abbrev cJ36_fill : ByteArray := prog_47_method_110_code
def yJ36_fill : MethodName := ⟨RJ36, "fill", "([BIIB)V"⟩
abbrev cJ36_rangeCheck : ByteArray := prog_47_method_30_code
def yJ36_rangeCheck : MethodName := ⟨RJ36, "rangeCheck", "(III)V"⟩
abbrev cJ36_copyOf_2 : ByteArray := prog_47_method_119_code
def yJ36_copyOf_2 : MethodName := ⟨RJ36, "copyOf", "([Ljava/lang/Object;I)[Ljava/lang/Object;"⟩
abbrev cJ36_copyOf_3 : ByteArray := prog_47_method_120_code
def yJ36_copyOf_3 : MethodName := ⟨RJ36, "copyOf", "([Ljava/lang/Object;ILjava/lang/Class;)[Ljava/lang/Object;"⟩
def RJ37 : String := "java/lang/IllegalStateException"
def TJ37 : u_T := fun k => match k with
  | 0 => ("java/lang/Throwable", "cause", "Ljava/lang/Throwable;", false)
  | 1 => ("java/lang/Throwable", "stackTrace", "[Ljava/lang/StackTraceElement;", false)
  | 2 => ("java/lang/Throwable", "suppressedExceptions", "Ljava/util/List;", false)
  | 3 => ("java/lang/Throwable", "detailMessage", "Ljava/lang/String;", false)
  | 4 => ("java/lang/Throwable", "backtrace", "Ljava/lang/Object;", false)
  | _ => ("java/lang/Throwable", "depth", "I", false)
def tyJ37 : Nat → FieldType := fun k => match k with
  | 0 => .object "java/lang/Throwable"
  | 1 => .array (.object "java/lang/StackTraceElement")
  | 2 => .object "java/util/List"
  | 3 => .object "java/lang/String"
  | 4 => .object "java/lang/Object"
  | _ => .int
abbrev wsJ370 : List Cond := u_ws RJ37 TJ37 6
theorem nmJ37 : ∀ a, a < 6 → ∀ b, b < 6 → a ≠ b → (TJ37 a).2.1 ≠ (TJ37 b).2.1 := by decide +kernel
theorem tyJ37_ok : ∀ k, k < 6 → parseFieldDescriptor (TJ37 k).2.2.1 = some (tyJ37 k) := by decide +kernel
abbrev cJ37_init : ByteArray := prog_21_method_1_code
def yJ37_init : MethodName := ⟨RJ37, "<init>", "()V"⟩
def RJ38 : String := "java/util/TreeSet"
def TJ38 : u_T := fun k => match k with
  | _ => ("java/util/TreeSet", "m", "Ljava/util/NavigableMap;", false)
def tyJ38 : Nat → FieldType := fun k => match k with
  | _ => .object "java/util/NavigableMap"
abbrev wsJ380 : List Cond := u_ws RJ38 TJ38 1
theorem nmJ38 : ∀ a, a < 1 → ∀ b, b < 1 → a ≠ b → (TJ38 a).2.1 ≠ (TJ38 b).2.1 := by decide +kernel
theorem tyJ38_ok : ∀ k, k < 1 → parseFieldDescriptor (TJ38 k).2.2.1 = some (tyJ38 k) := by decide +kernel
abbrev cJ38_iterator : ByteArray := prog_75_method_6_code
def yJ38_iterator : MethodName := ⟨RJ38, "iterator", "()Ljava/util/Iterator;"⟩
abbrev cJ38_init : ByteArray := prog_75_method_2_code
def yJ38_init : MethodName := ⟨RJ38, "<init>", "()V"⟩
abbrev cJ38_init_2 : ByteArray := prog_75_method_1_code
def yJ38_init_2 : MethodName := ⟨RJ38, "<init>", "(Ljava/util/NavigableMap;)V"⟩
abbrev cJ38_add : ByteArray := prog_75_method_12_code
def yJ38_add : MethodName := ⟨RJ38, "add", "(Ljava/lang/Object;)Z"⟩
abbrev cJ38_size : ByteArray := prog_75_method_9_code
def yJ38_size : MethodName := ⟨RJ38, "size", "()I"⟩
def RJ39 : String := "java/lang/StringIndexOutOfBoundsException"
def TJ39 : u_T := fun k => match k with
  | 0 => ("java/lang/Throwable", "backtrace", "Ljava/lang/Object;", false)
  | 1 => ("java/lang/Throwable", "detailMessage", "Ljava/lang/String;", false)
  | 2 => ("java/lang/Throwable", "cause", "Ljava/lang/Throwable;", false)
  | 3 => ("java/lang/Throwable", "stackTrace", "[Ljava/lang/StackTraceElement;", false)
  | 4 => ("java/lang/Throwable", "depth", "I", false)
  | _ => ("java/lang/Throwable", "suppressedExceptions", "Ljava/util/List;", false)
def tyJ39 : Nat → FieldType := fun k => match k with
  | 0 => .object "java/lang/Object"
  | 1 => .object "java/lang/String"
  | 2 => .object "java/lang/Throwable"
  | 3 => .array (.object "java/lang/StackTraceElement")
  | 4 => .int
  | _ => .object "java/util/List"
abbrev wsJ390 : List Cond := u_ws RJ39 TJ39 6
theorem nmJ39 : ∀ a, a < 6 → ∀ b, b < 6 → a ≠ b → (TJ39 a).2.1 ≠ (TJ39 b).2.1 := by decide +kernel
theorem tyJ39_ok : ∀ k, k < 6 → parseFieldDescriptor (TJ39 k).2.2.1 = some (tyJ39 k) := by decide +kernel
abbrev cJ39_init : ByteArray := prog_32_method_3_code
def yJ39_init : MethodName := ⟨RJ39, "<init>", "(I)V"⟩
def RJ4 : String := "java/util/PriorityQueue"
def TJ4 : u_T := fun k => match k with
  | 0 => ("java/util/PriorityQueue", "queue", "[Ljava/lang/Object;", false)
  | 1 => ("java/util/PriorityQueue", "size", "I", false)
  | 2 => ("java/util/PriorityQueue", "comparator", "Ljava/util/Comparator;", true)
  | _ => ("java/util/PriorityQueue", "modCount", "I", false)
def tyJ4 : Nat → FieldType := fun k => match k with
  | 0 => .array (.object "java/lang/Object")
  | 1 => .int
  | 2 => .object "java/util/Comparator"
  | _ => .int
abbrev wsJ40 : List Cond := u_ws RJ4 TJ4 4
theorem nmJ4 : ∀ a, a < 4 → ∀ b, b < 4 → a ≠ b → (TJ4 a).2.1 ≠ (TJ4 b).2.1 := by decide +kernel
theorem tyJ4_ok : ∀ k, k < 4 → parseFieldDescriptor (TJ4 k).2.2.1 = some (tyJ4 k) := by decide +kernel
abbrev cJ4_init : ByteArray := prog_57_method_3_code
def yJ4_init : MethodName := ⟨RJ4, "<init>", "(Ljava/util/Comparator;)V"⟩
abbrev cJ4_init_2 : ByteArray := prog_57_method_4_code
def yJ4_init_2 : MethodName := ⟨RJ4, "<init>", "(ILjava/util/Comparator;)V"⟩
abbrev cJ4_peek : ByteArray := prog_57_method_15_code
def yJ4_peek : MethodName := ⟨RJ4, "peek", "()Ljava/lang/Object;"⟩
abbrev cJ4_iterator : ByteArray := prog_57_method_22_code
def yJ4_iterator : MethodName := ⟨RJ4, "iterator", "()Ljava/util/Iterator;"⟩
abbrev cJ4_add : ByteArray := prog_57_method_13_code
def yJ4_add : MethodName := ⟨RJ4, "add", "(Ljava/lang/Object;)Z"⟩
abbrev cJ4_offer : ByteArray := prog_57_method_14_code
def yJ4_offer : MethodName := ⟨RJ4, "offer", "(Ljava/lang/Object;)Z"⟩
abbrev cJ4_grow : ByteArray := prog_57_method_12_code
def yJ4_grow : MethodName := ⟨RJ4, "grow", "(I)V"⟩
abbrev cJ4_siftUp : ByteArray := prog_57_method_27_code
def yJ4_siftUp : MethodName := ⟨RJ4, "siftUp", "(ILjava/lang/Object;)V"⟩
abbrev cJ4_siftUpUsingComparator : ByteArray := prog_57_method_29_code
def yJ4_siftUpUsingComparator : MethodName := ⟨RJ4, "siftUpUsingComparator", "(ILjava/lang/Object;[Ljava/lang/Object;Ljava/util/Comparator;)V"⟩
abbrev cJ4_siftUpComparable : ByteArray := prog_57_method_28_code
def yJ4_siftUpComparable : MethodName := ⟨RJ4, "siftUpComparable", "(ILjava/lang/Object;[Ljava/lang/Object;)V"⟩
abbrev cJ4_remove : ByteArray := prog_57_method_17_code
def yJ4_remove : MethodName := ⟨RJ4, "remove", "(Ljava/lang/Object;)Z"⟩
abbrev cJ4_indexOf : ByteArray := prog_57_method_16_code
def yJ4_indexOf : MethodName := ⟨RJ4, "indexOf", "(Ljava/lang/Object;)I"⟩
abbrev cJ4_removeAt : ByteArray := prog_57_method_26_code
def yJ4_removeAt : MethodName := ⟨RJ4, "removeAt", "(I)Ljava/lang/Object;"⟩
abbrev cJ4_siftDown : ByteArray := prog_57_method_30_code
def yJ4_siftDown : MethodName := ⟨RJ4, "siftDown", "(ILjava/lang/Object;)V"⟩
abbrev cJ4_siftDownUsingComparator : ByteArray := prog_57_method_32_code
def yJ4_siftDownUsingComparator : MethodName := ⟨RJ4, "siftDownUsingComparator", "(ILjava/lang/Object;[Ljava/lang/Object;ILjava/util/Comparator;)V"⟩
abbrev cJ4_siftDownComparable : ByteArray := prog_57_method_31_code
def yJ4_siftDownComparable : MethodName := ⟨RJ4, "siftDownComparable", "(ILjava/lang/Object;[Ljava/lang/Object;I)V"⟩
abbrev cJ4_size : ByteArray := prog_57_method_23_code
def yJ4_size : MethodName := ⟨RJ4, "size", "()I"⟩
abbrev cJ4_poll : ByteArray := prog_57_method_25_code
def yJ4_poll : MethodName := ⟨RJ4, "poll", "()Ljava/lang/Object;"⟩
def RJ40 : String := "java/lang/Object"
abbrev cJ40_init : ByteArray := object_method_1_code
def yJ40_init : MethodName := ⟨RJ40, "<init>", "()V"⟩
abbrev cJ40_equals : ByteArray := object_method_4_code
def yJ40_equals : MethodName := ⟨RJ40, "equals", "(Ljava/lang/Object;)Z"⟩
def RJ5 : String := "java/lang/Throwable"
def TJ5 : u_T := fun k => match k with
  | 0 => ("java/lang/Throwable", "cause", "Ljava/lang/Throwable;", false)
  | 1 => ("java/lang/Throwable", "stackTrace", "[Ljava/lang/StackTraceElement;", false)
  | 2 => ("java/lang/Throwable", "suppressedExceptions", "Ljava/util/List;", false)
  | 3 => ("java/lang/Throwable", "detailMessage", "Ljava/lang/String;", false)
  | _ => ("java/lang/Throwable", "backtrace", "Ljava/lang/Object;", false)
def tyJ5 : Nat → FieldType := fun k => match k with
  | 0 => .object "java/lang/Throwable"
  | 1 => .array (.object "java/lang/StackTraceElement")
  | 2 => .object "java/util/List"
  | 3 => .object "java/lang/String"
  | _ => .object "java/lang/Object"
abbrev wsJ50 : List Cond := u_ws RJ5 TJ5 5
theorem nmJ5 : ∀ a, a < 5 → ∀ b, b < 5 → a ≠ b → (TJ5 a).2.1 ≠ (TJ5 b).2.1 := by decide +kernel
theorem tyJ5_ok : ∀ k, k < 5 → parseFieldDescriptor (TJ5 k).2.2.1 = some (tyJ5 k) := by decide +kernel
abbrev cJ5_init : ByteArray := prog_36_method_1_code
def yJ5_init : MethodName := ⟨RJ5, "<init>", "()V"⟩
abbrev cJ5_init_2 : ByteArray := prog_36_method_2_code
def yJ5_init_2 : MethodName := ⟨RJ5, "<init>", "(Ljava/lang/String;)V"⟩
def RJ6 : String := "java/lang/Exception"
abbrev cJ6_init : ByteArray := prog_19_method_1_code
def yJ6_init : MethodName := ⟨RJ6, "<init>", "()V"⟩
abbrev cJ6_init_2 : ByteArray := prog_19_method_2_code
def yJ6_init_2 : MethodName := ⟨RJ6, "<init>", "(Ljava/lang/String;)V"⟩
def RJ7 : String := "java/lang/RuntimeException"
abbrev cJ7_init : ByteArray := prog_29_method_1_code
def yJ7_init : MethodName := ⟨RJ7, "<init>", "()V"⟩
abbrev cJ7_init_2 : ByteArray := prog_29_method_2_code
def yJ7_init_2 : MethodName := ⟨RJ7, "<init>", "(Ljava/lang/String;)V"⟩
def RJ8 : String := "java/lang/IllegalArgumentException"
def TJ8 : u_T := fun k => match k with
  | 0 => ("java/lang/Throwable", "cause", "Ljava/lang/Throwable;", false)
  | 1 => ("java/lang/Throwable", "stackTrace", "[Ljava/lang/StackTraceElement;", false)
  | 2 => ("java/lang/Throwable", "suppressedExceptions", "Ljava/util/List;", false)
  | 3 => ("java/lang/Throwable", "detailMessage", "Ljava/lang/String;", false)
  | 4 => ("java/lang/Throwable", "backtrace", "Ljava/lang/Object;", false)
  | _ => ("java/lang/Throwable", "depth", "I", false)
def tyJ8 : Nat → FieldType := fun k => match k with
  | 0 => .object "java/lang/Throwable"
  | 1 => .array (.object "java/lang/StackTraceElement")
  | 2 => .object "java/util/List"
  | 3 => .object "java/lang/String"
  | 4 => .object "java/lang/Object"
  | _ => .int
abbrev wsJ80 : List Cond := u_ws RJ8 TJ8 6
theorem nmJ8 : ∀ a, a < 6 → ∀ b, b < 6 → a ≠ b → (TJ8 a).2.1 ≠ (TJ8 b).2.1 := by decide +kernel
theorem tyJ8_ok : ∀ k, k < 6 → parseFieldDescriptor (TJ8 k).2.2.1 = some (tyJ8 k) := by decide +kernel
abbrev cJ8_init : ByteArray := prog_20_method_1_code
def yJ8_init : MethodName := ⟨RJ8, "<init>", "()V"⟩
abbrev cJ8_init_2 : ByteArray := prog_20_method_2_code
def yJ8_init_2 : MethodName := ⟨RJ8, "<init>", "(Ljava/lang/String;)V"⟩
def RJ9 : String := "java/util/AbstractList"
abbrev cJ9_init : ByteArray := prog_40_method_1_code
def yJ9_init : MethodName := ⟨RJ9, "<init>", "()V"⟩
abbrev cL_law : ByteArray := code
def RX0 : String := "RiddlePostLaw"
abbrev cX0_setParent : ByteArray := method_3_code
def yX0_setParent : MethodName := ⟨RX0, "setParent", "(LRiddlePost;II[J)I"⟩
abbrev cX0_setAges : ByteArray := method_4_code
def yX0_setAges : MethodName := ⟨RX0, "setAges", "(LRiddlePost;III[J)I"⟩
abbrev cX0_setAnswer : ByteArray := method_5_code
def yX0_setAnswer : MethodName := ⟨RX0, "setAnswer", "(LRiddlePost;III[J)I"⟩
abbrev cX0_setReference : ByteArray := method_6_code
def yX0_setReference : MethodName := ⟨RX0, "setReference", "(LRiddlePost;III[J)I"⟩
abbrev cX0_takeAway : ByteArray := method_7_code
def yX0_takeAway : MethodName := ⟨RX0, "takeAway", "(LRiddlePost;I[J)I"⟩
abbrev cX0_solve : ByteArray := method_8_code
def yX0_solve : MethodName := ⟨RX0, "solve", "(LRiddlePost;I[J)I"⟩
abbrev cX0_forget : ByteArray := method_9_code
def yX0_forget : MethodName := ⟨RX0, "forget", "(LRiddlePost;I[J)I"⟩
abbrev cX0_pass : ByteArray := method_10_code
def yX0_pass : MethodName := ⟨RX0, "pass", "(LRiddlePost;I[J)I"⟩
abbrev cX0_parentOf : ByteArray := method_11_code
def yX0_parentOf : MethodName := ⟨RX0, "parentOf", "(LRiddlePost;I[J)I"⟩
abbrev cX0_depthOf : ByteArray := method_12_code
def yX0_depthOf : MethodName := ⟨RX0, "depthOf", "(LRiddlePost;I[J)I"⟩
abbrev cX0_kindOf : ByteArray := method_13_code
def yX0_kindOf : MethodName := ⟨RX0, "kindOf", "(LRiddlePost;I[J)I"⟩
abbrev cX0_valueOf : ByteArray := method_14_code
def yX0_valueOf : MethodName := ⟨RX0, "valueOf", "(LRiddlePost;I[J)I"⟩
abbrev cX0_truthOf : ByteArray := method_15_code
def yX0_truthOf : MethodName := ⟨RX0, "truthOf", "(LRiddlePost;I[J)I"⟩
abbrev cX0_rememberedOf : ByteArray := method_16_code
def yX0_rememberedOf : MethodName := ⟨RX0, "rememberedOf", "(LRiddlePost;I[J)I"⟩
abbrev cX0_ticksLeftOf : ByteArray := method_17_code
def yX0_ticksLeftOf : MethodName := ⟨RX0, "ticksLeftOf", "(LRiddlePost;I[J)I"⟩
abbrev cX0_referralLeft : ByteArray := method_18_code
def yX0_referralLeft : MethodName := ⟨RX0, "referralLeft", "(LRiddlePost;I[J)I"⟩
abbrev cX0_isOutOfDate : ByteArray := method_19_code
def yX0_isOutOfDate : MethodName := ⟨RX0, "isOutOfDate", "(LRiddlePost;I[J)I"⟩
abbrev cX0_questionsTo : ByteArray := method_20_code
def yX0_questionsTo : MethodName := ⟨RX0, "questionsTo", "(LRiddlePost;I[J)I"⟩
abbrev cX0_wouldSolve : ByteArray := method_21_code
def yX0_wouldSolve : MethodName := ⟨RX0, "wouldSolve", "(LRiddlePost;I[J)I"⟩
abbrev cX0_costOf : ByteArray := method_22_code
def yX0_costOf : MethodName := ⟨RX0, "costOf", "(LRiddlePost;I[J)I"⟩
abbrev cX0_ticksUntilTruth : ByteArray := method_23_code
def yX0_ticksUntilTruth : MethodName := ⟨RX0, "ticksUntilTruth", "(LRiddlePost;I[J)I"⟩
abbrev cX0_append : ByteArray := method_24_code
def yX0_append : MethodName := ⟨RX0, "append", "(LRiddlePost;I[J)I"⟩
abbrev cX0_runActs : ByteArray := method_25_code
def yX0_runActs : MethodName := ⟨RX0, "runActs", "(LRiddlePost;[J)I"⟩
abbrev cX0_undo : ByteArray := method_26_code
def yX0_undo : MethodName := ⟨RX0, "undo", "(LRiddlePost;[J)I"⟩
def RX1 : String := "RiddlePost"
def TX1 : u_T := fun k => match k with
  | 0 => ("RiddlePost", "post", "LRiddlePost$Post;", false)
  | 1 => ("RiddlePost", "saved", "Ljava/util/ArrayList;", true)
  | _ => ("RiddlePost", "text", "Ljava/lang/StringBuilder;", true)
def tyX1 : Nat → FieldType := fun k => match k with
  | 0 => .object "RiddlePost$Post"
  | 1 => .object "java/util/ArrayList"
  | _ => .object "java/lang/StringBuilder"
abbrev wsX10 : List Cond := u_ws RX1 TX1 3
theorem nmX1 : ∀ a, a < 3 → ∀ b, b < 3 → a ≠ b → (TX1 a).2.1 ≠ (TX1 b).2.1 := by decide +kernel
theorem tyX1_ok : ∀ k, k < 3 → parseFieldDescriptor (TX1 k).2.2.1 = some (tyX1 k) := by decide +kernel
abbrev cX1_init : ByteArray := prog_1_method_5_code
def yX1_init : MethodName := ⟨RX1, "<init>", "()V"⟩
abbrev cX1_time : ByteArray := prog_1_method_18_code
def yX1_time : MethodName := ⟨RX1, "time", "()I"⟩
abbrev cX1_remembered : ByteArray := prog_1_method_28_code
def yX1_remembered : MethodName := ⟨RX1, "remembered", "()I"⟩
abbrev cX1_rememberedByAccount : ByteArray := prog_1_method_29_code
def yX1_rememberedByAccount : MethodName := ⟨RX1, "rememberedByAccount", "()I"⟩
abbrev cX1_ticksUntilForgetting : ByteArray := prog_1_method_30_code
def yX1_ticksUntilForgetting : MethodName := ⟨RX1, "ticksUntilForgetting", "()I"⟩
abbrev cX1_left : ByteArray := prog_1_method_25_code
def yX1_left : MethodName := ⟨RX1, "left", "(LRiddlePost$Note;)I"⟩
abbrev cX1_solved : ByteArray := prog_1_method_32_code
def yX1_solved : MethodName := ⟨RX1, "solved", "()I"⟩
abbrev cX1_questions : ByteArray := prog_1_method_33_code
def yX1_questions : MethodName := ⟨RX1, "questions", "()I"⟩
abbrev cX1_hits : ByteArray := prog_1_method_34_code
def yX1_hits : MethodName := ⟨RX1, "hits", "()I"⟩
abbrev cX1_meanQuestions : ByteArray := prog_1_method_36_code
def yX1_meanQuestions : MethodName := ⟨RX1, "meanQuestions", "()D"⟩
abbrev cX1_clearText : ByteArray := prog_1_method_41_code
def yX1_clearText : MethodName := ⟨RX1, "clearText", "()I"⟩
abbrev cX1_firstError : ByteArray := prog_1_method_42_code
def yX1_firstError : MethodName := ⟨RX1, "firstError", "()I"⟩
abbrev cX1_isWithin : ByteArray := prog_1_method_1_code
def yX1_isWithin : MethodName := ⟨RX1, "isWithin", "(III)Z"⟩
abbrev cX1_digest : ByteArray := prog_1_method_45_code
def yX1_digest : MethodName := ⟨RX1, "digest", "()J"⟩
abbrev cX1_add : ByteArray := prog_1_method_44_code
def yX1_add : MethodName := ⟨RX1, "add", "(J[I)J"⟩
abbrev cX1_referralLeft : ByteArray := prog_1_method_27_code
def yX1_referralLeft : MethodName := ⟨RX1, "referralLeft", "(I)I"⟩
abbrev cX1_checkZone : ByteArray := prog_1_method_8_code
def yX1_checkZone : MethodName := ⟨RX1, "checkZone", "(I)V"⟩
abbrev cX1_checkIndex : ByteArray := prog_1_method_3_code
def yX1_checkIndex : MethodName := ⟨RX1, "checkIndex", "(II)V"⟩
abbrev cX1_rememberedOf : ByteArray := prog_1_method_24_code
def yX1_rememberedOf : MethodName := ⟨RX1, "rememberedOf", "(I)I"⟩
abbrev cX1_checkRiddle : ByteArray := prog_1_method_9_code
def yX1_checkRiddle : MethodName := ⟨RX1, "checkRiddle", "(I)V"⟩
abbrev cX1_ticksLeftOf : ByteArray := prog_1_method_26_code
def yX1_ticksLeftOf : MethodName := ⟨RX1, "ticksLeftOf", "(I)I"⟩
abbrev cX1_isOutOfDate : ByteArray := prog_1_method_31_code
def yX1_isOutOfDate : MethodName := ⟨RX1, "isOutOfDate", "(I)Z"⟩
abbrev cX1_setParent : ByteArray := prog_1_method_10_code
def yX1_setParent : MethodName := ⟨RX1, "setParent", "(II)I"⟩
abbrev cX1_checkRange : ByteArray := prog_1_method_2_code
def yX1_checkRange : MethodName := ⟨RX1, "checkRange", "(III)V"⟩
abbrev cX1_save : ByteArray := prog_1_method_6_code
def yX1_save : MethodName := ⟨RX1, "save", "()V"⟩
abbrev cX1_setAges : ByteArray := prog_1_method_11_code
def yX1_setAges : MethodName := ⟨RX1, "setAges", "(III)I"⟩
abbrev cX1_setAnswer : ByteArray := prog_1_method_12_code
def yX1_setAnswer : MethodName := ⟨RX1, "setAnswer", "(III)I"⟩
abbrev cX1_setReference : ByteArray := prog_1_method_13_code
def yX1_setReference : MethodName := ⟨RX1, "setReference", "(III)I"⟩
abbrev cX1_takeAway : ByteArray := prog_1_method_14_code
def yX1_takeAway : MethodName := ⟨RX1, "takeAway", "(I)I"⟩
abbrev cX1_checkState : ByteArray := prog_1_method_4_code
def yX1_checkState : MethodName := ⟨RX1, "checkState", "(Z)V"⟩
abbrev cX1_solve : ByteArray := prog_1_method_15_code
def yX1_solve : MethodName := ⟨RX1, "solve", "(I)I"⟩
abbrev cX1_forget : ByteArray := prog_1_method_16_code
def yX1_forget : MethodName := ⟨RX1, "forget", "(I)I"⟩
abbrev cX1_pass : ByteArray := prog_1_method_17_code
def yX1_pass : MethodName := ⟨RX1, "pass", "(I)I"⟩
abbrev cX1_parentOf : ByteArray := prog_1_method_19_code
def yX1_parentOf : MethodName := ⟨RX1, "parentOf", "(I)I"⟩
abbrev cX1_depthOf : ByteArray := prog_1_method_20_code
def yX1_depthOf : MethodName := ⟨RX1, "depthOf", "(I)I"⟩
abbrev cX1_kindOf : ByteArray := prog_1_method_21_code
def yX1_kindOf : MethodName := ⟨RX1, "kindOf", "(I)I"⟩
abbrev cX1_valueOf : ByteArray := prog_1_method_22_code
def yX1_valueOf : MethodName := ⟨RX1, "valueOf", "(I)I"⟩
abbrev cX1_truthOf : ByteArray := prog_1_method_23_code
def yX1_truthOf : MethodName := ⟨RX1, "truthOf", "(I)I"⟩
abbrev cX1_questionsTo : ByteArray := prog_1_method_35_code
def yX1_questionsTo : MethodName := ⟨RX1, "questionsTo", "(I)I"⟩
abbrev cX1_wouldSolve : ByteArray := prog_1_method_37_code
def yX1_wouldSolve : MethodName := ⟨RX1, "wouldSolve", "(I)I"⟩
abbrev cX1_costOf : ByteArray := prog_1_method_38_code
def yX1_costOf : MethodName := ⟨RX1, "costOf", "(I)I"⟩
abbrev cX1_ticksUntilTruth : ByteArray := prog_1_method_39_code
def yX1_ticksUntilTruth : MethodName := ⟨RX1, "ticksUntilTruth", "(I)I"⟩
abbrev cX1_append : ByteArray := prog_1_method_40_code
def yX1_append : MethodName := ⟨RX1, "append", "(I)I"⟩
abbrev cX1_runActs : ByteArray := prog_1_method_43_code
def yX1_runActs : MethodName := ⟨RX1, "runActs", "()I"⟩
abbrev cX1_undo : ByteArray := prog_1_method_7_code
def yX1_undo : MethodName := ⟨RX1, "undo", "()I"⟩
def RX10 : String := "RiddlePost$Act"
def TX10 : u_T := fun k => match k with
  | 0 => ("RiddlePost$Act", "sign", "C", true)
  | _ => ("RiddlePost$Act", "number", "I", true)
def tyX10 : Nat → FieldType := fun k => match k with
  | 0 => .char
  | _ => .int
abbrev wsX100 : List Cond := u_ws RX10 TX10 2
theorem nmX10 : ∀ a, a < 2 → ∀ b, b < 2 → a ≠ b → (TX10 a).2.1 ≠ (TX10 b).2.1 := by decide +kernel
theorem tyX10_ok : ∀ k, k < 2 → parseFieldDescriptor (TX10 k).2.2.1 = some (tyX10 k) := by decide +kernel
abbrev cX10_init : ByteArray := prog_2_method_1_code
def yX10_init : MethodName := ⟨RX10, "<init>", "(CI)V"⟩
def RX2 : String := "RiddlePost$Post"
def TX2 : u_T := fun k => match k with
  | 0 => ("RiddlePost$Post", "zones", "LRiddlePost$Zones;", true)
  | 1 => ("RiddlePost$Post", "memory", "LRiddlePost$Memory;", true)
  | 2 => ("RiddlePost$Post", "questions", "[I", true)
  | 3 => ("RiddlePost$Post", "time", "I", false)
  | 4 => ("RiddlePost$Post", "solved", "I", false)
  | _ => ("RiddlePost$Post", "hits", "I", false)
def tyX2 : Nat → FieldType := fun k => match k with
  | 0 => .object "RiddlePost$Zones"
  | 1 => .object "RiddlePost$Memory"
  | 2 => .array .int
  | 3 => .int
  | 4 => .int
  | _ => .int
abbrev wsX20 : List Cond := u_ws RX2 TX2 6
theorem nmX2 : ∀ a, a < 6 → ∀ b, b < 6 → a ≠ b → (TX2 a).2.1 ≠ (TX2 b).2.1 := by decide +kernel
theorem tyX2_ok : ∀ k, k < 6 → parseFieldDescriptor (TX2 k).2.2.1 = some (tyX2 k) := by decide +kernel
abbrev cX2_init : ByteArray := prog_5_method_1_code
def yX2_init : MethodName := ⟨RX2, "<init>", "(LRiddlePost$Zones;LRiddlePost$Memory;)V"⟩
abbrev cX2_asked : ByteArray := prog_5_method_5_code
def yX2_asked : MethodName := ⟨RX2, "asked", "()I"⟩
abbrev cX2_trial : ByteArray := prog_5_method_3_code
def yX2_trial : MethodName := ⟨RX2, "trial", "()LRiddlePost$Post;"⟩
abbrev cX2_copy : ByteArray := prog_5_method_4_code
def yX2_copy : MethodName := ⟨RX2, "copy", "(LRiddlePost$Zones;)LRiddlePost$Post;"⟩
abbrev cX2_solve : ByteArray := prog_5_method_8_code
def yX2_solve : MethodName := ⟨RX2, "solve", "(I)I"⟩
abbrev cX2_reply : ByteArray := prog_5_method_7_code
def yX2_reply : MethodName := ⟨RX2, "reply", "(I)LRiddlePost$Note;"⟩
abbrev cX2_ask : ByteArray := prog_5_method_6_code
def yX2_ask : MethodName := ⟨RX2, "ask", "(I)LRiddlePost$Note;"⟩
abbrev cX2_copy_2 : ByteArray := prog_5_method_2_code
def yX2_copy_2 : MethodName := ⟨RX2, "copy", "()LRiddlePost$Post;"⟩
abbrev cX2_pass : ByteArray := prog_5_method_9_code
def yX2_pass : MethodName := ⟨RX2, "pass", "(I)I"⟩
def RX3 : String := "RiddlePost$Zones"
def TX3 : u_T := fun k => match k with
  | 0 => ("RiddlePost$Zones", "parents", "[I", true)
  | 1 => ("RiddlePost$Zones", "referralAges", "[I", true)
  | 2 => ("RiddlePost$Zones", "refusalAges", "[I", true)
  | 3 => ("RiddlePost$Zones", "kinds", "[I", true)
  | 4 => ("RiddlePost$Zones", "values", "[I", true)
  | _ => ("RiddlePost$Zones", "ages", "[I", true)
def tyX3 : Nat → FieldType := fun k => match k with
  | 0 => .array .int
  | 1 => .array .int
  | 2 => .array .int
  | 3 => .array .int
  | 4 => .array .int
  | _ => .array .int
abbrev wsX30 : List Cond := u_ws RX3 TX3 6
theorem nmX3 : ∀ a, a < 6 → ∀ b, b < 6 → a ≠ b → (TX3 a).2.1 ≠ (TX3 b).2.1 := by decide +kernel
theorem tyX3_ok : ∀ k, k < 6 → parseFieldDescriptor (TX3 k).2.2.1 = some (tyX3 k) := by decide +kernel
abbrev cX3_begun : ByteArray := prog_9_method_2_code
def yX3_begun : MethodName := ⟨RX3, "begun", "()LRiddlePost$Zones;"⟩
abbrev cX3_init : ByteArray := prog_9_method_1_code
def yX3_init : MethodName := ⟨RX3, "<init>", "()V"⟩
abbrev cX3_depth : ByteArray := prog_9_method_5_code
def yX3_depth : MethodName := ⟨RX3, "depth", "(I)I"⟩
abbrev cX3_way : ByteArray := prog_9_method_6_code
def yX3_way : MethodName := ⟨RX3, "way", "(I)Ljava/util/TreeSet;"⟩
abbrev cX3_reply : ByteArray := prog_9_method_7_code
def yX3_reply : MethodName := ⟨RX3, "reply", "(II)LRiddlePost$Note;"⟩
abbrev cX3_truth : ByteArray := prog_9_method_8_code
def yX3_truth : MethodName := ⟨RX3, "truth", "(I)I"⟩
abbrev cX3_copy : ByteArray := prog_9_method_3_code
def yX3_copy : MethodName := ⟨RX3, "copy", "()LRiddlePost$Zones;"⟩
abbrev cX3_set : ByteArray := prog_9_method_4_code
def yX3_set : MethodName := ⟨RX3, "set", "(IIII)I"⟩
def RX4 : String := "RiddlePost$Memory"
def TX4 : u_T := fun k => match k with
  | 0 => ("RiddlePost$Memory", "notes", "Ljava/util/TreeMap;", true)
  | 1 => ("RiddlePost$Memory", "ends", "Ljava/util/PriorityQueue;", true)
  | 2 => ("RiddlePost$Memory", "remembered", "I", false)
  | _ => ("RiddlePost$Memory", "forgotten", "I", false)
def tyX4 : Nat → FieldType := fun k => match k with
  | 0 => .object "java/util/TreeMap"
  | 1 => .object "java/util/PriorityQueue"
  | 2 => .int
  | _ => .int
abbrev wsX40 : List Cond := u_ws RX4 TX4 4
theorem nmX4 : ∀ a, a < 4 → ∀ b, b < 4 → a ≠ b → (TX4 a).2.1 ≠ (TX4 b).2.1 := by decide +kernel
theorem tyX4_ok : ∀ k, k < 4 → parseFieldDescriptor (TX4 k).2.2.1 = some (tyX4 k) := by decide +kernel
abbrev cX4_init : ByteArray := prog_3_method_1_code
def yX4_init : MethodName := ⟨RX4, "<init>", "()V"⟩
abbrev cX4_of : ByteArray := prog_3_method_4_code
def yX4_of : MethodName := ⟨RX4, "of", "(ZI)LRiddlePost$Note;"⟩
abbrev cX4_copy : ByteArray := prog_3_method_2_code
def yX4_copy : MethodName := ⟨RX4, "copy", "()LRiddlePost$Memory;"⟩
abbrev cX4_remember : ByteArray := prog_3_method_3_code
def yX4_remember : MethodName := ⟨RX4, "remember", "(LRiddlePost$Note;)V"⟩
abbrev cX4_forget : ByteArray := prog_3_method_5_code
def yX4_forget : MethodName := ⟨RX4, "forget", "(LRiddlePost$Note;)V"⟩
abbrev cX4_end : ByteArray := prog_3_method_6_code
def yX4_end : MethodName := ⟨RX4, "end", "(I)I"⟩
def RX5 : String := "RiddlePost$Sooner"
abbrev cX5_init : ByteArray := prog_7_method_1_code
def yX5_init : MethodName := ⟨RX5, "<init>", "()V"⟩
abbrev cX5_compare : ByteArray := prog_7_method_3_code
def yX5_compare : MethodName := ⟨RX5, "compare", "(Ljava/lang/Object;Ljava/lang/Object;)I"⟩
abbrev cX5_compare_2 : ByteArray := prog_7_method_2_code
def yX5_compare_2 : MethodName := ⟨RX5, "compare", "(LRiddlePost$Note;LRiddlePost$Note;)I"⟩
def RX6 : String := "RiddlePostModel"
def TX6 : u_T := fun k => match k with
  | 0 => ("RiddlePostModel", "thrown", "I", false)
  | 1 => ("RiddlePostModel", "state", "[I", true)
  | 2 => ("RiddlePostModel", "history", "[I", true)
  | 3 => ("RiddlePostModel", "recorded", "I", false)
  | 4 => ("RiddlePostModel", "kept", "[I", true)
  | 5 => ("RiddlePostModel", "text", "[I", true)
  | 6 => ("RiddlePostModel", "textLength", "I", false)
  | 7 => ("RiddlePostModel", "way", "[I", true)
  | 8 => ("RiddlePostModel", "at", "I", false)
  | 9 => ("RiddlePostModel", "kind", "I", false)
  | _ => ("RiddlePostModel", "number", "I", false)
def tyX6 : Nat → FieldType := fun k => match k with
  | 0 => .int
  | 1 => .array .int
  | 2 => .array .int
  | 3 => .int
  | 4 => .array .int
  | 5 => .array .int
  | 6 => .int
  | 7 => .array .int
  | 8 => .int
  | 9 => .int
  | _ => .int
abbrev wsX60 : List Cond := u_ws RX6 TX6 11
theorem nmX6 : ∀ a, a < 11 → ∀ b, b < 11 → a ≠ b → (TX6 a).2.1 ≠ (TX6 b).2.1 := by decide +kernel
theorem tyX6_ok : ∀ k, k < 11 → parseFieldDescriptor (TX6 k).2.2.1 = some (tyX6 k) := by decide +kernel
abbrev cX6_init : ByteArray := prog_11_method_1_code
def yX6_init : MethodName := ⟨RX6, "<init>", "()V"⟩
abbrev cX6_putsZone : ByteArray := prog_11_method_10_code
def yX6_putsZone : MethodName := ⟨RX6, "putsZone", "(III)V"⟩
abbrev cX6_puts : ByteArray := prog_11_method_12_code
def yX6_puts : MethodName := ⟨RX6, "puts", "(III)V"⟩
abbrev cX6_thrown : ByteArray := prog_11_method_2_code
def yX6_thrown : MethodName := ⟨RX6, "thrown", "()I"⟩
abbrev cX6_setParent : ByteArray := prog_11_method_13_code
def yX6_setParent : MethodName := ⟨RX6, "setParent", "(II)I"⟩
abbrev cX6_within : ByteArray := prog_11_method_3_code
def yX6_within : MethodName := ⟨RX6, "within", "(III)Z"⟩
abbrev cX6_record : ByteArray := prog_11_method_5_code
def yX6_record : MethodName := ⟨RX6, "record", "()V"⟩
abbrev cX6_lays : ByteArray := prog_11_method_4_code
def yX6_lays : MethodName := ⟨RX6, "lays", "([II[II)V"⟩
abbrev cX6_ofZone : ByteArray := prog_11_method_9_code
def yX6_ofZone : MethodName := ⟨RX6, "ofZone", "(II)I"⟩
abbrev cX6_setAges : ByteArray := prog_11_method_14_code
def yX6_setAges : MethodName := ⟨RX6, "setAges", "(III)I"⟩
abbrev cX6_isZone : ByteArray := prog_11_method_6_code
def yX6_isZone : MethodName := ⟨RX6, "isZone", "(I)Z"⟩
abbrev cX6_isAge : ByteArray := prog_11_method_8_code
def yX6_isAge : MethodName := ⟨RX6, "isAge", "(I)Z"⟩
abbrev cX6_setAnswer : ByteArray := prog_11_method_16_code
def yX6_setAnswer : MethodName := ⟨RX6, "setAnswer", "(III)I"⟩
abbrev cX6_isRiddle : ByteArray := prog_11_method_7_code
def yX6_isRiddle : MethodName := ⟨RX6, "isRiddle", "(I)Z"⟩
abbrev cX6_gives : ByteArray := prog_11_method_15_code
def yX6_gives : MethodName := ⟨RX6, "gives", "(IIII)I"⟩
abbrev cX6_of : ByteArray := prog_11_method_11_code
def yX6_of : MethodName := ⟨RX6, "of", "(II)I"⟩
abbrev cX6_setReference : ByteArray := prog_11_method_17_code
def yX6_setReference : MethodName := ⟨RX6, "setReference", "(III)I"⟩
abbrev cX6_takeAway : ByteArray := prog_11_method_18_code
def yX6_takeAway : MethodName := ⟨RX6, "takeAway", "(I)I"⟩
abbrev cX6_solve : ByteArray := prog_11_method_24_code
def yX6_solve : MethodName := ⟨RX6, "solve", "(I)I"⟩
abbrev cX6_solvesFirst : ByteArray := prog_11_method_23_code
def yX6_solvesFirst : MethodName := ⟨RX6, "solvesFirst", "(I)I"⟩
abbrev cX6_solves : ByteArray := prog_11_method_22_code
def yX6_solves : MethodName := ⟨RX6, "solves", "(I)I"⟩
abbrev cX6_asks : ByteArray := prog_11_method_21_code
def yX6_asks : MethodName := ⟨RX6, "asks", "(I)V"⟩
abbrev cX6_comesTo : ByteArray := prog_11_method_20_code
def yX6_comesTo : MethodName := ⟨RX6, "comesTo", "(I)V"⟩
abbrev cX6_costs : ByteArray := prog_11_method_19_code
def yX6_costs : MethodName := ⟨RX6, "costs", "(I)V"⟩
abbrev cX6_forget : ByteArray := prog_11_method_26_code
def yX6_forget : MethodName := ⟨RX6, "forget", "(I)I"⟩
abbrev cX6_forgets : ByteArray := prog_11_method_25_code
def yX6_forgets : MethodName := ⟨RX6, "forgets", "(I)V"⟩
abbrev cX6_pass : ByteArray := prog_11_method_28_code
def yX6_pass : MethodName := ⟨RX6, "pass", "(I)I"⟩
abbrev cX6_passes : ByteArray := prog_11_method_27_code
def yX6_passes : MethodName := ⟨RX6, "passes", "(I)I"⟩
abbrev cX6_time : ByteArray := prog_11_method_30_code
def yX6_time : MethodName := ⟨RX6, "time", "()I"⟩
abbrev cX6_tells : ByteArray := prog_11_method_29_code
def yX6_tells : MethodName := ⟨RX6, "tells", "(I)I"⟩
abbrev cX6_parentOf : ByteArray := prog_11_method_32_code
def yX6_parentOf : MethodName := ⟨RX6, "parentOf", "(I)I"⟩
abbrev cX6_tellsZone : ByteArray := prog_11_method_31_code
def yX6_tellsZone : MethodName := ⟨RX6, "tellsZone", "(II)I"⟩
abbrev cX6_depthOf : ByteArray := prog_11_method_34_code
def yX6_depthOf : MethodName := ⟨RX6, "depthOf", "(I)I"⟩
abbrev cX6_depth : ByteArray := prog_11_method_33_code
def yX6_depth : MethodName := ⟨RX6, "depth", "(I)I"⟩
abbrev cX6_kindOf : ByteArray := prog_11_method_36_code
def yX6_kindOf : MethodName := ⟨RX6, "kindOf", "(I)I"⟩
abbrev cX6_tellsRiddle : ByteArray := prog_11_method_35_code
def yX6_tellsRiddle : MethodName := ⟨RX6, "tellsRiddle", "(II)I"⟩
abbrev cX6_valueOf : ByteArray := prog_11_method_37_code
def yX6_valueOf : MethodName := ⟨RX6, "valueOf", "(I)I"⟩
abbrev cX6_truthOf : ByteArray := prog_11_method_39_code
def yX6_truthOf : MethodName := ⟨RX6, "truthOf", "(I)I"⟩
abbrev cX6_truth : ByteArray := prog_11_method_38_code
def yX6_truth : MethodName := ⟨RX6, "truth", "(I)I"⟩
abbrev cX6_rememberedOf : ByteArray := prog_11_method_40_code
def yX6_rememberedOf : MethodName := ⟨RX6, "rememberedOf", "(I)I"⟩
abbrev cX6_ticksLeftOf : ByteArray := prog_11_method_42_code
def yX6_ticksLeftOf : MethodName := ⟨RX6, "ticksLeftOf", "(I)I"⟩
abbrev cX6_leftUntil : ByteArray := prog_11_method_41_code
def yX6_leftUntil : MethodName := ⟨RX6, "leftUntil", "(I)I"⟩
abbrev cX6_referralLeft : ByteArray := prog_11_method_43_code
def yX6_referralLeft : MethodName := ⟨RX6, "referralLeft", "(I)I"⟩
abbrev cX6_remembered : ByteArray := prog_11_method_45_code
def yX6_remembered : MethodName := ⟨RX6, "remembered", "()I"⟩
abbrev cX6_memories : ByteArray := prog_11_method_44_code
def yX6_memories : MethodName := ⟨RX6, "memories", "()I"⟩
abbrev cX6_rememberedByAccount : ByteArray := prog_11_method_46_code
def yX6_rememberedByAccount : MethodName := ⟨RX6, "rememberedByAccount", "()I"⟩
abbrev cX6_ticksUntilForgetting : ByteArray := prog_11_method_49_code
def yX6_ticksUntilForgetting : MethodName := ⟨RX6, "ticksUntilForgetting", "()I"⟩
abbrev cX6_untilForgetting : ByteArray := prog_11_method_48_code
def yX6_untilForgetting : MethodName := ⟨RX6, "untilForgetting", "()I"⟩
abbrev cX6_sooner : ByteArray := prog_11_method_47_code
def yX6_sooner : MethodName := ⟨RX6, "sooner", "(II)I"⟩
abbrev cX6_isOutOfDate : ByteArray := prog_11_method_51_code
def yX6_isOutOfDate : MethodName := ⟨RX6, "isOutOfDate", "(I)Z"⟩
abbrev cX6_isOld : ByteArray := prog_11_method_50_code
def yX6_isOld : MethodName := ⟨RX6, "isOld", "(I)Z"⟩
abbrev cX6_solved : ByteArray := prog_11_method_52_code
def yX6_solved : MethodName := ⟨RX6, "solved", "()I"⟩
abbrev cX6_questions : ByteArray := prog_11_method_53_code
def yX6_questions : MethodName := ⟨RX6, "questions", "()I"⟩
abbrev cX6_hits : ByteArray := prog_11_method_54_code
def yX6_hits : MethodName := ⟨RX6, "hits", "()I"⟩
abbrev cX6_questionsTo : ByteArray := prog_11_method_55_code
def yX6_questionsTo : MethodName := ⟨RX6, "questionsTo", "(I)I"⟩
abbrev cX6_meanQuestions : ByteArray := prog_11_method_56_code
def yX6_meanQuestions : MethodName := ⟨RX6, "meanQuestions", "()D"⟩
abbrev cX6_wouldSolve : ByteArray := prog_11_method_58_code
def yX6_wouldSolve : MethodName := ⟨RX6, "wouldSolve", "(I)I"⟩
abbrev cX6_would : ByteArray := prog_11_method_57_code
def yX6_would : MethodName := ⟨RX6, "would", "(I)I"⟩
abbrev cX6_costOf : ByteArray := prog_11_method_60_code
def yX6_costOf : MethodName := ⟨RX6, "costOf", "(I)I"⟩
abbrev cX6_cost : ByteArray := prog_11_method_59_code
def yX6_cost : MethodName := ⟨RX6, "cost", "(I)I"⟩
abbrev cX6_ticksUntilTruth : ByteArray := prog_11_method_61_code
def yX6_ticksUntilTruth : MethodName := ⟨RX6, "ticksUntilTruth", "(I)I"⟩
abbrev cX6_wouldIn : ByteArray := prog_11_method_62_code
def yX6_wouldIn : MethodName := ⟨RX6, "wouldIn", "(II)I"⟩
abbrev cX6_append : ByteArray := prog_11_method_63_code
def yX6_append : MethodName := ⟨RX6, "append", "(I)I"⟩
abbrev cX6_clearText : ByteArray := prog_11_method_64_code
def yX6_clearText : MethodName := ⟨RX6, "clearText", "()I"⟩
abbrev cX6_firstError : ByteArray := prog_11_method_69_code
def yX6_firstError : MethodName := ⟨RX6, "firstError", "()I"⟩
abbrev cX6_findError : ByteArray := prog_11_method_68_code
def yX6_findError : MethodName := ⟨RX6, "findError", "()I"⟩
abbrev cX6_readsAct : ByteArray := prog_11_method_67_code
def yX6_readsAct : MethodName := ⟨RX6, "readsAct", "()Z"⟩
abbrev cX6_accepts : ByteArray := prog_11_method_65_code
def yX6_accepts : MethodName := ⟨RX6, "accepts", "(II)Z"⟩
abbrev cX6_readsNumber : ByteArray := prog_11_method_66_code
def yX6_readsNumber : MethodName := ⟨RX6, "readsNumber", "(II)Z"⟩
abbrev cX6_runActs : ByteArray := prog_11_method_71_code
def yX6_runActs : MethodName := ⟨RX6, "runActs", "()I"⟩
abbrev cX6_happens : ByteArray := prog_11_method_70_code
def yX6_happens : MethodName := ⟨RX6, "happens", "()Z"⟩
abbrev cX6_undo : ByteArray := prog_11_method_72_code
def yX6_undo : MethodName := ⟨RX6, "undo", "()I"⟩
abbrev cX6_digest : ByteArray := prog_11_method_73_code
def yX6_digest : MethodName := ⟨RX6, "digest", "()J"⟩
def RX7 : String := "RiddlePost$Topic"
def TX7 : u_T := fun k => match k with
  | 0 => ("RiddlePost$Topic", "isZone", "Z", true)
  | _ => ("RiddlePost$Topic", "number", "I", true)
def tyX7 : Nat → FieldType := fun k => match k with
  | 0 => .boolean
  | _ => .int
abbrev wsX70 : List Cond := u_ws RX7 TX7 2
theorem nmX7 : ∀ a, a < 2 → ∀ b, b < 2 → a ≠ b → (TX7 a).2.1 ≠ (TX7 b).2.1 := by decide +kernel
theorem tyX7_ok : ∀ k, k < 2 → parseFieldDescriptor (TX7 k).2.2.1 = some (tyX7 k) := by decide +kernel
abbrev cX7_init : ByteArray := prog_8_method_1_code
def yX7_init : MethodName := ⟨RX7, "<init>", "(ZI)V"⟩
abbrev cX7_compareTo : ByteArray := prog_8_method_2_code
def yX7_compareTo : MethodName := ⟨RX7, "compareTo", "(LRiddlePost$Topic;)I"⟩
abbrev cX7_compareTo_2 : ByteArray := prog_8_method_3_code
def yX7_compareTo_2 : MethodName := ⟨RX7, "compareTo", "(Ljava/lang/Object;)I"⟩
def RX8 : String := "RiddlePost$Note"
def TX8 : u_T := fun k => match k with
  | 0 => ("RiddlePost$Note", "topic", "LRiddlePost$Topic;", true)
  | 1 => ("RiddlePost$Note", "kind", "I", true)
  | 2 => ("RiddlePost$Note", "value", "I", true)
  | _ => ("RiddlePost$Note", "end", "I", true)
def tyX8 : Nat → FieldType := fun k => match k with
  | 0 => .object "RiddlePost$Topic"
  | 1 => .int
  | 2 => .int
  | _ => .int
abbrev wsX80 : List Cond := u_ws RX8 TX8 4
theorem nmX8 : ∀ a, a < 4 → ∀ b, b < 4 → a ≠ b → (TX8 a).2.1 ≠ (TX8 b).2.1 := by decide +kernel
theorem tyX8_ok : ∀ k, k < 4 → parseFieldDescriptor (TX8 k).2.2.1 = some (tyX8 k) := by decide +kernel
abbrev cX8_init : ByteArray := prog_4_method_1_code
def yX8_init : MethodName := ⟨RX8, "<init>", "(LRiddlePost$Topic;III)V"⟩
def RX9 : String := "RiddlePost$Reader"
def TX9 : u_T := fun k => match k with
  | 0 => ("RiddlePost$Reader", "source", "Ljava/lang/StringBuilder;", true)
  | 1 => ("RiddlePost$Reader", "acts", "Ljava/util/ArrayList;", true)
  | 2 => ("RiddlePost$Reader", "at", "I", false)
  | _ => ("RiddlePost$Reader", "failed", "Z", false)
def tyX9 : Nat → FieldType := fun k => match k with
  | 0 => .object "java/lang/StringBuilder"
  | 1 => .object "java/util/ArrayList"
  | 2 => .int
  | _ => .boolean
abbrev wsX90 : List Cond := u_ws RX9 TX9 4
theorem nmX9 : ∀ a, a < 4 → ∀ b, b < 4 → a ≠ b → (TX9 a).2.1 ≠ (TX9 b).2.1 := by decide +kernel
theorem tyX9_ok : ∀ k, k < 4 → parseFieldDescriptor (TX9 k).2.2.1 = some (tyX9 k) := by decide +kernel
abbrev cX9_init : ByteArray := prog_6_method_1_code
def yX9_init : MethodName := ⟨RX9, "<init>", "(Ljava/lang/StringBuilder;)V"⟩
abbrev cX9_read : ByteArray := prog_6_method_6_code
def yX9_read : MethodName := ⟨RX9, "read", "()I"⟩
abbrev cX9_act : ByteArray := prog_6_method_5_code
def yX9_act : MethodName := ⟨RX9, "act", "()LRiddlePost$Act;"⟩
abbrev cX9_here : ByteArray := prog_6_method_2_code
def yX9_here : MethodName := ⟨RX9, "here", "()C"⟩
abbrev cX9_step : ByteArray := prog_6_method_3_code
def yX9_step : MethodName := ⟨RX9, "step", "(Z)V"⟩
abbrev cX9_number : ByteArray := prog_6_method_4_code
def yX9_number : MethodName := ⟨RX9, "number", "(II)I"⟩
theorem q58 : (Jvm.Cond.initialized "RiddlePostLaw") ∈ lw_all := lw_g (lw_at lw_m1 0 rfl) rfl
theorem q59 : (Jvm.Cond.initialized "RiddlePost") ∈ lw_all := lw_g (lw_at lw_m1 1 rfl) rfl
theorem q60 : (Jvm.Cond.initialized "RiddlePost$Post") ∈ lw_all := lw_g (lw_at lw_m1 2 rfl) rfl
theorem q61 : (Jvm.Cond.initialized "RiddlePost$Zones") ∈ lw_all := lw_g (lw_at lw_m1 3 rfl) rfl
theorem q62 : (Jvm.Cond.initialized "RiddlePost$Memory") ∈ lw_all := lw_g (lw_at lw_m1 4 rfl) rfl
theorem q63 : (Jvm.Cond.initialized "java/util/AbstractMap") ∈ lw_all := lw_g (lw_at lw_m1 5 rfl) rfl
theorem q64 : (Jvm.Cond.initialized "java/util/TreeMap") ∈ lw_all := lw_g (lw_at lw_m1 6 rfl) rfl
theorem q65 : (Jvm.Cond.initialized "java/util/AbstractCollection") ∈ lw_all := lw_g (lw_at lw_m1 7 rfl) rfl
theorem q66 : (Jvm.Cond.initialized "java/util/AbstractQueue") ∈ lw_all := lw_g (lw_at lw_m1 8 rfl) rfl
theorem q67 : (Jvm.Cond.initialized "java/util/PriorityQueue") ∈ lw_all := lw_g (lw_at lw_m1 9 rfl) rfl
theorem q68 : (Jvm.Cond.initialized "RiddlePost$Sooner") ∈ lw_all := lw_g (lw_at lw_m1 10 rfl) rfl
theorem q69 : (Jvm.Cond.initialized "java/lang/Throwable") ∈ lw_all := lw_g (lw_at lw_m1 11 rfl) rfl
theorem q70 : (Jvm.Cond.initialized "java/lang/Exception") ∈ lw_all := lw_g (lw_at lw_m1 12 rfl) rfl
theorem q71 : (Jvm.Cond.initialized "java/lang/RuntimeException") ∈ lw_all := lw_g (lw_at lw_m1 13 rfl) rfl
theorem q72 : (Jvm.Cond.initialized "java/lang/IllegalArgumentException") ∈ lw_all := lw_g (lw_at lw_m1 14 rfl) rfl
theorem q73 : (Jvm.Cond.initialized "java/util/AbstractList") ∈ lw_all := lw_g (lw_at lw_m1 15 rfl) rfl
theorem q74 : (Jvm.Cond.initialized "java/util/ArrayList") ∈ lw_all := lw_g (lw_at lw_m1 16 rfl) rfl
theorem q75 : (Jvm.Cond.initialized "java/lang/AbstractStringBuilder") ∈ lw_all := lw_g (lw_at lw_m1 17 rfl) rfl
theorem q76 : (Jvm.Cond.initialized "java/lang/StringBuilder") ∈ lw_all := lw_g (lw_at lw_m1 18 rfl) rfl
theorem q77 : (Jvm.Cond.initialized "java/lang/String") ∈ lw_all := lw_g (lw_at lw_m1 19 rfl) rfl
theorem q78 : (Jvm.Cond.initialized "java/lang/StringUTF16") ∈ lw_all := lw_g (lw_at lw_m1 20 rfl) rfl
theorem q79 : (Jvm.Cond.initialized "RiddlePostModel") ∈ lw_all := lw_g (lw_at lw_m1 21 rfl) rfl
theorem q80 : (Jvm.Cond.initialized "java/lang/IndexOutOfBoundsException") ∈ lw_all := lw_g (lw_at lw_m1 22 rfl) rfl
theorem q81 : (Jvm.Cond.initialized "java/lang/ArrayIndexOutOfBoundsException") ∈ lw_all := lw_g (lw_at lw_m1 23 rfl) rfl
theorem q82 : (Jvm.Cond.initialized "java/util/Objects") ∈ lw_all := lw_g (lw_at lw_m1 24 rfl) rfl
theorem q83 : (Jvm.Cond.initialized "jdk/internal/util/Preconditions") ∈ lw_all := lw_g (lw_at lw_m1 25 rfl) rfl
theorem q84 : (Jvm.Cond.initialized "java/lang/System") ∈ lw_all := lw_g (lw_at lw_m1 26 rfl) rfl
theorem q85 : (Jvm.Cond.initialized "java/lang/StringLatin1") ∈ lw_all := lw_g (lw_at lw_m1 27 rfl) rfl
theorem q86 : (Jvm.Cond.initialized "java/util/AbstractSet") ∈ lw_all := lw_g (lw_at lw_m1 28 rfl) rfl
theorem q87 : (Jvm.Cond.initialized "java/util/TreeMap$EntrySet") ∈ lw_all := lw_g (lw_at lw_m1 29 rfl) rfl
theorem q88 : (Jvm.Cond.initialized "java/util/TreeMap$PrivateEntryIterator") ∈ lw_all := lw_g (lw_at lw_m1 30 rfl) rfl
theorem q89 : (Jvm.Cond.initialized "java/util/TreeMap$EntryIterator") ∈ lw_all := lw_g (lw_at lw_m1 31 rfl) rfl
theorem q90 : (Jvm.Cond.initialized "java/util/TreeMap$KeyIterator") ∈ lw_all := lw_g (lw_at lw_m1 32 rfl) rfl
theorem q91 : (Jvm.Cond.initialized "java/util/TreeMap$KeySet") ∈ lw_all := lw_g (lw_at lw_m1 33 rfl) rfl
theorem q92 : (Jvm.Cond.initialized "java/lang/Number") ∈ lw_all := lw_g (lw_at lw_m1 34 rfl) rfl
theorem q93 : (Jvm.Cond.initialized "java/lang/Integer") ∈ lw_all := lw_g (lw_at lw_m1 35 rfl) rfl
theorem q94 : (Jvm.Cond.initialized "java/util/ArrayDeque") ∈ lw_all := lw_g (lw_at lw_m1 36 rfl) rfl
theorem q95 : (Jvm.Cond.initialized "java/util/TreeMap$Entry") ∈ lw_all := lw_g (lw_at lw_m1 37 rfl) rfl
theorem q96 : (Jvm.Cond.initialized "java/lang/Math") ∈ lw_all := lw_g (lw_at lw_m1 38 rfl) rfl
theorem q97 : (Jvm.Cond.initialized "jdk/internal/util/ArraysSupport") ∈ lw_all := lw_g (lw_at lw_m1 39 rfl) rfl
theorem q98 : (Jvm.Cond.initialized "jdk/internal/misc/Unsafe") ∈ lw_all := lw_g (lw_at lw_m1 40 rfl) rfl
theorem q99 : (Jvm.Cond.initialized "jdk/internal/misc/UnsafeConstants") ∈ lw_all := lw_g (lw_at lw_m1 41 rfl) rfl
theorem q100 : (Jvm.Cond.initialized "java/lang/Long") ∈ lw_all := lw_g (lw_at lw_m1 42 rfl) rfl
theorem q101 : (Jvm.Cond.initialized "java/util/ArrayList$Itr") ∈ lw_all := lw_g (lw_at lw_m1 43 rfl) rfl
theorem q102 : (Jvm.Cond.initialized "java/util/PriorityQueue$Itr") ∈ lw_all := lw_g (lw_at lw_m1 44 rfl) rfl
theorem q103 : (Jvm.Cond.initialized "java/util/Arrays") ∈ lw_all := lw_g (lw_at lw_m1 45 rfl) rfl
theorem q104 : (Jvm.Cond.initialized "java/lang/IllegalStateException") ∈ lw_all := lw_g (lw_at lw_m1 46 rfl) rfl
theorem q105 : (Jvm.Cond.initialized "RiddlePost$Topic") ∈ lw_all := lw_g (lw_at lw_m1 47 rfl) rfl
theorem q106 : (Jvm.Cond.initialized "java/util/TreeSet") ∈ lw_all := lw_g (lw_at lw_m1 48 rfl) rfl
theorem q107 : (Jvm.Cond.initialized "java/lang/Integer$IntegerCache") ∈ lw_all := lw_g (lw_at lw_m1 49 rfl) rfl
theorem q108 : (Jvm.Cond.initialized "RiddlePost$Note") ∈ lw_all := lw_g (lw_at lw_m1 50 rfl) rfl
theorem q109 : (Jvm.Cond.initialized "java/lang/StringIndexOutOfBoundsException") ∈ lw_all := lw_g (lw_at lw_m1 51 rfl) rfl
theorem q110 : (Jvm.Cond.initialized "RiddlePost$Reader") ∈ lw_all := lw_g (lw_at lw_m1 52 rfl) rfl
theorem q111 : (Jvm.Cond.initialized "RiddlePost$Act") ∈ lw_all := lw_g (lw_at lw_m1 53 rfl) rfl
theorem q112 : (Jvm.Cond.classLink "RiddlePostLaw" (8 : Nat) "RiddlePost") ∈ lw_all := lw_g (lw_at lw_m1 54 rfl) rfl
theorem q113 : (Jvm.Cond.instantiable "RiddlePost" (3 : Nat)) ∈ lw_all := lw_g (lw_at lw_m1 55 rfl) rfl
theorem q114 : (Jvm.Cond.methodLink "RiddlePostLaw" (92 : Nat) ({ cls := "RiddlePost", name := "<init>", desc := "()V" } : Jvm.MethodName)) ∈ lw_all := lw_g (lw_at lw_m1 56 rfl) rfl
theorem q115 : (Jvm.Cond.instanceMethod ({ cls := "RiddlePost", name := "<init>", desc := "()V" } : Jvm.MethodName)) ∈ lw_all := lw_g (lw_at lw_m1 57 rfl) rfl
theorem q116 : (Jvm.Cond.code ({ cls := "RiddlePost", name := "<init>", desc := "()V" } : Jvm.MethodName) prog_1_method_5_code (1 : Nat) (Option.none : Option Jvm.ClassFile.FieldType)) ∈ lw_all := lw_g (lw_at lw_m1 58 rfl) rfl
theorem q117 : (Jvm.Cond.methodLink "RiddlePost" (19 : Nat) ({ cls := "java/lang/Object", name := "<init>", desc := "()V" } : Jvm.MethodName)) ∈ lw_all := lw_g (lw_at lw_m1 59 rfl) rfl
theorem q118 : (Jvm.Cond.instanceMethod ({ cls := "java/lang/Object", name := "<init>", desc := "()V" } : Jvm.MethodName)) ∈ lw_all := lw_g (lw_at lw_m1 60 rfl) rfl
theorem q119 : (Jvm.Cond.code ({ cls := "java/lang/Object", name := "<init>", desc := "()V" } : Jvm.MethodName) object_method_1_code (1 : Nat) (Option.none : Option Jvm.ClassFile.FieldType)) ∈ lw_all := lw_g (lw_at lw_m1 61 rfl) rfl
theorem q120 : (Jvm.Cond.classLink "RiddlePost" (22 : Nat) "RiddlePost$Post") ∈ lw_all := lw_g (lw_at lw_m1 62 rfl) rfl
theorem q121 : (Jvm.Cond.instantiable "RiddlePost$Post" (6 : Nat)) ∈ lw_all := lw_g (lw_at lw_m1 63 rfl) rfl
theorem q122 : (Jvm.Cond.methodLink "RiddlePost" (24 : Nat) ({ cls := "RiddlePost$Zones", name := "begun", desc := "()LRiddlePost$Zones;" } : Jvm.MethodName)) ∈ lw_all := lw_g (lw_at lw_m1 64 rfl) rfl
theorem q123 : (Jvm.Cond.static ({ cls := "RiddlePost$Zones", name := "begun", desc := "()LRiddlePost$Zones;" } : Jvm.MethodName)) ∈ lw_all := lw_g (lw_at lw_m1 65 rfl) rfl
theorem q124 : (Jvm.Cond.code ({ cls := "RiddlePost$Zones", name := "begun", desc := "()LRiddlePost$Zones;" } : Jvm.MethodName) prog_9_method_2_code (2 : Nat) (Option.some (Jvm.ClassFile.FieldType.object "RiddlePost$Zones"))) ∈ lw_all := lw_g (lw_at lw_m1 66 rfl) rfl
theorem q125 : (Jvm.Cond.classLink "RiddlePost$Zones" (10 : Nat) "RiddlePost$Zones") ∈ lw_all := lw_g (lw_at lw_m1 67 rfl) rfl
theorem q126 : (Jvm.Cond.instantiable "RiddlePost$Zones" (6 : Nat)) ∈ lw_all := lw_g (lw_at lw_m1 68 rfl) rfl
theorem q127 : (Jvm.Cond.methodLink "RiddlePost$Zones" (30 : Nat) ({ cls := "RiddlePost$Zones", name := "<init>", desc := "()V" } : Jvm.MethodName)) ∈ lw_all := lw_g (lw_at lw_m1 69 rfl) rfl
theorem q128 : (Jvm.Cond.instanceMethod ({ cls := "RiddlePost$Zones", name := "<init>", desc := "()V" } : Jvm.MethodName)) ∈ lw_all := lw_g (lw_at lw_m1 70 rfl) rfl
theorem q129 : (Jvm.Cond.code ({ cls := "RiddlePost$Zones", name := "<init>", desc := "()V" } : Jvm.MethodName) prog_9_method_1_code (1 : Nat) (Option.none : Option Jvm.ClassFile.FieldType)) ∈ lw_all := lw_g (lw_at lw_m1 71 rfl) rfl
theorem q130 : (Jvm.Cond.methodLink "RiddlePost$Zones" (3 : Nat) ({ cls := "java/lang/Object", name := "<init>", desc := "()V" } : Jvm.MethodName)) ∈ lw_all := lw_g (lw_at lw_m1 72 rfl) rfl
theorem q131 : (Jvm.Cond.fieldLink "RiddlePost$Zones" (9 : Nat) "RiddlePost$Zones" "parents" "[I") ∈ lw_all := lw_g (lw_at lw_m1 73 rfl) rfl
theorem q132 : (Jvm.Cond.fieldLinkNest "RiddlePost$Post" (58 : Nat) "RiddlePost$Zones" "parents" "[I" "RiddlePost") ∈ lw_tbl := lw_at lw_m1 74 rfl
theorem q133 : (Jvm.Cond.fieldLinkNest "RiddlePost" (95 : Nat) "RiddlePost$Zones" "parents" "[I" "RiddlePost") ∈ lw_tbl := lw_at lw_m1 75 rfl
theorem q134 : (Jvm.Cond.fieldLink "RiddlePost$Zones" (15 : Nat) "RiddlePost$Zones" "referralAges" "[I") ∈ lw_all := lw_g (lw_at lw_m1 76 rfl) rfl
theorem q135 : (Jvm.Cond.fieldLinkNest "RiddlePost$Post" (90 : Nat) "RiddlePost$Zones" "referralAges" "[I" "RiddlePost") ∈ lw_tbl := lw_at lw_m1 77 rfl
theorem q136 : (Jvm.Cond.fieldLinkNest "RiddlePost" (102 : Nat) "RiddlePost$Zones" "referralAges" "[I" "RiddlePost") ∈ lw_tbl := lw_at lw_m1 78 rfl
theorem q137 : (Jvm.Cond.fieldLink "RiddlePost$Zones" (18 : Nat) "RiddlePost$Zones" "refusalAges" "[I") ∈ lw_all := lw_g (lw_at lw_m1 79 rfl) rfl
theorem q138 : (Jvm.Cond.fieldLinkNest "RiddlePost" (105 : Nat) "RiddlePost$Zones" "refusalAges" "[I" "RiddlePost") ∈ lw_tbl := lw_at lw_m1 80 rfl
theorem q139 : (Jvm.Cond.fieldLink "RiddlePost$Zones" (21 : Nat) "RiddlePost$Zones" "kinds" "[I") ∈ lw_all := lw_g (lw_at lw_m1 81 rfl) rfl
theorem q140 : (Jvm.Cond.fieldLinkNest "RiddlePost" (115 : Nat) "RiddlePost$Zones" "kinds" "[I" "RiddlePost") ∈ lw_tbl := lw_at lw_m1 82 rfl
theorem q141 : (Jvm.Cond.fieldLink "RiddlePost$Zones" (24 : Nat) "RiddlePost$Zones" "values" "[I") ∈ lw_all := lw_g (lw_at lw_m1 83 rfl) rfl
theorem q142 : (Jvm.Cond.fieldLinkNest "RiddlePost" (149 : Nat) "RiddlePost$Zones" "values" "[I" "RiddlePost") ∈ lw_tbl := lw_at lw_m1 84 rfl
theorem q143 : (Jvm.Cond.fieldLink "RiddlePost$Zones" (27 : Nat) "RiddlePost$Zones" "ages" "[I") ∈ lw_all := lw_g (lw_at lw_m1 85 rfl) rfl
theorem q144 : (Jvm.Cond.laysFinal "RiddlePost$Zones" "RiddlePost$Zones" "parents" "[I") ∈ lw_all := lw_g (lw_at lw_m1 86 rfl) rfl
theorem q145 : (Jvm.Cond.soleField "RiddlePost$Zones" "parents") ∈ lw_all := lw_g (lw_at lw_m1 87 rfl) rfl
theorem q146 : (Jvm.Cond.laysFinal "RiddlePost$Zones" "RiddlePost$Zones" "referralAges" "[I") ∈ lw_all := lw_g (lw_at lw_m1 88 rfl) rfl
theorem q147 : (Jvm.Cond.soleField "RiddlePost$Zones" "referralAges") ∈ lw_all := lw_g (lw_at lw_m1 89 rfl) rfl
theorem q148 : (Jvm.Cond.laysFinal "RiddlePost$Zones" "RiddlePost$Zones" "refusalAges" "[I") ∈ lw_all := lw_g (lw_at lw_m1 90 rfl) rfl
theorem q149 : (Jvm.Cond.soleField "RiddlePost$Zones" "refusalAges") ∈ lw_all := lw_g (lw_at lw_m1 91 rfl) rfl
theorem q150 : (Jvm.Cond.laysFinal "RiddlePost$Zones" "RiddlePost$Zones" "kinds" "[I") ∈ lw_all := lw_g (lw_at lw_m1 92 rfl) rfl
theorem q151 : (Jvm.Cond.soleField "RiddlePost$Zones" "kinds") ∈ lw_all := lw_g (lw_at lw_m1 93 rfl) rfl
theorem q152 : (Jvm.Cond.laysFinal "RiddlePost$Zones" "RiddlePost$Zones" "values" "[I") ∈ lw_all := lw_g (lw_at lw_m1 94 rfl) rfl
theorem q153 : (Jvm.Cond.soleField "RiddlePost$Zones" "values") ∈ lw_all := lw_g (lw_at lw_m1 95 rfl) rfl
theorem q154 : (Jvm.Cond.laysFinal "RiddlePost$Zones" "RiddlePost$Zones" "ages" "[I") ∈ lw_all := lw_g (lw_at lw_m1 96 rfl) rfl
theorem q155 : (Jvm.Cond.soleField "RiddlePost$Zones" "ages") ∈ lw_all := lw_g (lw_at lw_m1 97 rfl) rfl
theorem q156 : (Jvm.Cond.superclass "RiddlePost$Zones" "java/lang/Object") ∈ lw_all := lw_g (lw_at lw_m1 98 rfl) rfl
theorem q157 : (Jvm.Cond.arrayClass Jvm.ClassFile.FieldType.int) ∈ lw_all := lw_g (lw_at lw_m1 99 rfl) rfl
theorem q158 : (Jvm.Cond.classLink "RiddlePost" (30 : Nat) "RiddlePost$Memory") ∈ lw_all := lw_g (lw_at lw_m1 100 rfl) rfl
theorem q159 : (Jvm.Cond.instantiable "RiddlePost$Memory" (4 : Nat)) ∈ lw_all := lw_g (lw_at lw_m1 101 rfl) rfl
theorem q160 : (Jvm.Cond.methodLinkNest "RiddlePost" (32 : Nat) ({ cls := "RiddlePost$Memory", name := "<init>", desc := "()V" } : Jvm.MethodName) "RiddlePost") ∈ lw_tbl := lw_at lw_m1 102 rfl
theorem q161 : (Jvm.Cond.instanceMethod ({ cls := "RiddlePost$Memory", name := "<init>", desc := "()V" } : Jvm.MethodName)) ∈ lw_all := lw_g (lw_at lw_m1 103 rfl) rfl
theorem q162 : (Jvm.Cond.code ({ cls := "RiddlePost$Memory", name := "<init>", desc := "()V" } : Jvm.MethodName) prog_3_method_1_code (1 : Nat) (Option.none : Option Jvm.ClassFile.FieldType)) ∈ lw_all := lw_g (lw_at lw_m1 104 rfl) rfl
theorem q163 : (Jvm.Cond.methodLink "RiddlePost$Memory" (1 : Nat) ({ cls := "java/lang/Object", name := "<init>", desc := "()V" } : Jvm.MethodName)) ∈ lw_all := lw_g (lw_at lw_m1 105 rfl) rfl
theorem q164 : (Jvm.Cond.classLink "RiddlePost$Memory" (7 : Nat) "java/util/TreeMap") ∈ lw_all := lw_g (lw_at lw_m1 106 rfl) rfl
theorem q165 : (Jvm.Cond.instantiable "java/util/TreeMap" (9 : Nat)) ∈ lw_all := lw_g (lw_at lw_m1 107 rfl) rfl
theorem q166 : (Jvm.Cond.methodLink "RiddlePost$Memory" (9 : Nat) ({ cls := "java/util/TreeMap", name := "<init>", desc := "()V" } : Jvm.MethodName)) ∈ lw_all := lw_g (lw_at lw_m1 108 rfl) rfl
theorem q167 : (Jvm.Cond.instanceMethod ({ cls := "java/util/TreeMap", name := "<init>", desc := "()V" } : Jvm.MethodName)) ∈ lw_all := lw_g (lw_at lw_m1 109 rfl) rfl
theorem q168 : (Jvm.Cond.code ({ cls := "java/util/TreeMap", name := "<init>", desc := "()V" } : Jvm.MethodName) prog_67_method_1_code (1 : Nat) (Option.none : Option Jvm.ClassFile.FieldType)) ∈ lw_all := lw_g (lw_at lw_m1 110 rfl) rfl
theorem q169 : (Jvm.Cond.methodLink "java/util/TreeMap" (1 : Nat) ({ cls := "java/util/AbstractMap", name := "<init>", desc := "()V" } : Jvm.MethodName)) ∈ lw_all := lw_g (lw_at lw_m1 111 rfl) rfl
theorem q170 : (Jvm.Cond.instanceMethod ({ cls := "java/util/AbstractMap", name := "<init>", desc := "()V" } : Jvm.MethodName)) ∈ lw_all := lw_g (lw_at lw_m1 112 rfl) rfl
theorem q171 : (Jvm.Cond.code ({ cls := "java/util/AbstractMap", name := "<init>", desc := "()V" } : Jvm.MethodName) prog_41_method_1_code (1 : Nat) (Option.none : Option Jvm.ClassFile.FieldType)) ∈ lw_all := lw_g (lw_at lw_m1 113 rfl) rfl
theorem q172 : (Jvm.Cond.methodLink "java/util/AbstractMap" (1 : Nat) ({ cls := "java/lang/Object", name := "<init>", desc := "()V" } : Jvm.MethodName)) ∈ lw_all := lw_g (lw_at lw_m1 114 rfl) rfl
theorem q173 : (Jvm.Cond.fieldLink "java/util/TreeMap" (16 : Nat) "java/util/TreeMap" "comparator" "Ljava/util/Comparator;") ∈ lw_all := lw_g (lw_at lw_m1 115 rfl) rfl
theorem q174 : (Jvm.Cond.fieldLink "java/util/TreeMap" (101 : Nat) "java/util/TreeMap" "root" "Ljava/util/TreeMap$Entry;") ∈ lw_all := lw_g (lw_at lw_m1 116 rfl) rfl
theorem q175 : (Jvm.Cond.fieldLink "java/util/TreeMap" (7 : Nat) "java/util/TreeMap" "size" "I") ∈ lw_all := lw_g (lw_at lw_m1 117 rfl) rfl
theorem q176 : (Jvm.Cond.fieldLink "java/util/TreeMap" (13 : Nat) "java/util/TreeMap" "modCount" "I") ∈ lw_all := lw_g (lw_at lw_m1 118 rfl) rfl
theorem q177 : (Jvm.Cond.fieldLinkNest "java/util/TreeMap$PrivateEntryIterator" (13 : Nat) "java/util/TreeMap" "modCount" "I" "java/util/TreeMap") ∈ lw_tbl := lw_at lw_m1 119 rfl
theorem q178 : (Jvm.Cond.fieldLink "java/util/TreeMap" (188 : Nat) "java/util/TreeMap" "entrySet" "Ljava/util/TreeMap$EntrySet;") ∈ lw_all := lw_g (lw_at lw_m1 120 rfl) rfl
theorem q179 : (Jvm.Cond.fieldLink "java/util/TreeMap" (191 : Nat) "java/util/TreeMap" "navigableKeySet" "Ljava/util/TreeMap$KeySet;") ∈ lw_all := lw_g (lw_at lw_m1 121 rfl) rfl
theorem q180 : (Jvm.Cond.laysFinal "java/util/TreeMap" "java/util/TreeMap" "comparator" "Ljava/util/Comparator;") ∈ lw_all := lw_g (lw_at lw_m1 122 rfl) rfl
theorem q181 : (Jvm.Cond.soleField "java/util/TreeMap" "comparator") ∈ lw_all := lw_g (lw_at lw_m1 123 rfl) rfl
theorem q182 : (Jvm.Cond.lays "java/util/TreeMap" "java/util/TreeMap" "root" "Ljava/util/TreeMap$Entry;") ∈ lw_all := lw_g (lw_at lw_m1 124 rfl) rfl
theorem q183 : (Jvm.Cond.soleField "java/util/TreeMap" "root") ∈ lw_all := lw_g (lw_at lw_m1 125 rfl) rfl
theorem q184 : (Jvm.Cond.lays "java/util/TreeMap" "java/util/TreeMap" "size" "I") ∈ lw_all := lw_g (lw_at lw_m1 126 rfl) rfl
theorem q185 : (Jvm.Cond.soleField "java/util/TreeMap" "size") ∈ lw_all := lw_g (lw_at lw_m1 127 rfl) rfl
theorem q186 : (Jvm.Cond.lays "java/util/TreeMap" "java/util/TreeMap" "modCount" "I") ∈ lw_all := lw_g (lw_at lw_m1 128 rfl) rfl
theorem q187 : (Jvm.Cond.soleField "java/util/TreeMap" "modCount") ∈ lw_all := lw_g (lw_at lw_m1 129 rfl) rfl
theorem q188 : (Jvm.Cond.lays "java/util/TreeMap" "java/util/TreeMap" "entrySet" "Ljava/util/TreeMap$EntrySet;") ∈ lw_all := lw_g (lw_at lw_m1 130 rfl) rfl
theorem q189 : (Jvm.Cond.soleField "java/util/TreeMap" "entrySet") ∈ lw_all := lw_g (lw_at lw_m1 131 rfl) rfl
theorem q190 : (Jvm.Cond.lays "java/util/TreeMap" "java/util/TreeMap" "navigableKeySet" "Ljava/util/TreeMap$KeySet;") ∈ lw_all := lw_g (lw_at lw_m1 132 rfl) rfl
theorem q191 : (Jvm.Cond.soleField "java/util/TreeMap" "navigableKeySet") ∈ lw_all := lw_g (lw_at lw_m1 133 rfl) rfl
theorem q192 : (Jvm.Cond.lays "java/util/TreeMap" "java/util/TreeMap" "descendingMap" "Ljava/util/NavigableMap;") ∈ lw_all := lw_g (lw_at lw_m1 134 rfl) rfl
theorem q193 : (Jvm.Cond.soleField "java/util/TreeMap" "descendingMap") ∈ lw_all := lw_g (lw_at lw_m1 135 rfl) rfl
theorem q194 : (Jvm.Cond.lays "java/util/TreeMap" "java/util/AbstractMap" "keySet" "Ljava/util/Set;") ∈ lw_all := lw_g (lw_at lw_m1 136 rfl) rfl
theorem q195 : (Jvm.Cond.soleField "java/util/AbstractMap" "keySet") ∈ lw_all := lw_g (lw_at lw_m1 137 rfl) rfl
theorem q196 : (Jvm.Cond.lays "java/util/TreeMap" "java/util/AbstractMap" "values" "Ljava/util/Collection;") ∈ lw_all := lw_g (lw_at lw_m1 138 rfl) rfl
theorem q197 : (Jvm.Cond.soleField "java/util/AbstractMap" "values") ∈ lw_all := lw_g (lw_at lw_m1 139 rfl) rfl
theorem q198 : (Jvm.Cond.superclass "java/util/TreeMap" "java/util/AbstractMap") ∈ lw_all := lw_g (lw_at lw_m1 140 rfl) rfl
theorem q199 : (Jvm.Cond.classLink "RiddlePost$Memory" (16 : Nat) "java/util/PriorityQueue") ∈ lw_all := lw_g (lw_at lw_m1 141 rfl) rfl
theorem q200 : (Jvm.Cond.instantiable "java/util/PriorityQueue" (4 : Nat)) ∈ lw_all := lw_g (lw_at lw_m1 142 rfl) rfl
theorem q201 : (Jvm.Cond.classLink "RiddlePost$Memory" (18 : Nat) "RiddlePost$Sooner") ∈ lw_all := lw_g (lw_at lw_m1 143 rfl) rfl
theorem q202 : (Jvm.Cond.instantiable "RiddlePost$Sooner" (0 : Nat)) ∈ lw_all := lw_g (lw_at lw_m1 144 rfl) rfl
theorem q203 : (Jvm.Cond.methodLinkNest "RiddlePost$Memory" (20 : Nat) ({ cls := "RiddlePost$Sooner", name := "<init>", desc := "()V" } : Jvm.MethodName) "RiddlePost") ∈ lw_tbl := lw_at lw_m1 145 rfl
theorem q204 : (Jvm.Cond.instanceMethod ({ cls := "RiddlePost$Sooner", name := "<init>", desc := "()V" } : Jvm.MethodName)) ∈ lw_all := lw_g (lw_at lw_m1 146 rfl) rfl
theorem q205 : (Jvm.Cond.code ({ cls := "RiddlePost$Sooner", name := "<init>", desc := "()V" } : Jvm.MethodName) prog_7_method_1_code (1 : Nat) (Option.none : Option Jvm.ClassFile.FieldType)) ∈ lw_all := lw_g (lw_at lw_m1 147 rfl) rfl
theorem q206 : (Jvm.Cond.methodLink "RiddlePost$Sooner" (1 : Nat) ({ cls := "java/lang/Object", name := "<init>", desc := "()V" } : Jvm.MethodName)) ∈ lw_all := lw_g (lw_at lw_m1 148 rfl) rfl
theorem q207 : (Jvm.Cond.superclass "RiddlePost$Sooner" "java/lang/Object") ∈ lw_all := lw_g (lw_at lw_m1 149 rfl) rfl
theorem q208 : (Jvm.Cond.methodLink "RiddlePost$Memory" (21 : Nat) ({ cls := "java/util/PriorityQueue", name := "<init>", desc := "(Ljava/util/Comparator;)V" } : Jvm.MethodName)) ∈ lw_all := lw_g (lw_at lw_m1 150 rfl) rfl
theorem q209 : (Jvm.Cond.instanceMethod ({ cls := "java/util/PriorityQueue", name := "<init>", desc := "(Ljava/util/Comparator;)V" } : Jvm.MethodName)) ∈ lw_all := lw_g (lw_at lw_m1 151 rfl) rfl
theorem q210 : (Jvm.Cond.code ({ cls := "java/util/PriorityQueue", name := "<init>", desc := "(Ljava/util/Comparator;)V" } : Jvm.MethodName) prog_57_method_3_code (2 : Nat) (Option.none : Option Jvm.ClassFile.FieldType)) ∈ lw_all := lw_g (lw_at lw_m1 152 rfl) rfl
theorem q211 : (Jvm.Cond.methodLink "java/util/PriorityQueue" (3 : Nat) ({ cls := "java/util/PriorityQueue", name := "<init>", desc := "(ILjava/util/Comparator;)V" } : Jvm.MethodName)) ∈ lw_all := lw_g (lw_at lw_m1 153 rfl) rfl
theorem q212 : (Jvm.Cond.instanceMethod ({ cls := "java/util/PriorityQueue", name := "<init>", desc := "(ILjava/util/Comparator;)V" } : Jvm.MethodName)) ∈ lw_all := lw_g (lw_at lw_m1 154 rfl) rfl
theorem q213 : (Jvm.Cond.code ({ cls := "java/util/PriorityQueue", name := "<init>", desc := "(ILjava/util/Comparator;)V" } : Jvm.MethodName) prog_57_method_4_code (3 : Nat) (Option.none : Option Jvm.ClassFile.FieldType)) ∈ lw_all := lw_g (lw_at lw_m1 155 rfl) rfl
theorem q214 : (Jvm.Cond.methodLink "java/util/PriorityQueue" (7 : Nat) ({ cls := "java/util/AbstractQueue", name := "<init>", desc := "()V" } : Jvm.MethodName)) ∈ lw_all := lw_g (lw_at lw_m1 156 rfl) rfl
theorem q215 : (Jvm.Cond.instanceMethod ({ cls := "java/util/AbstractQueue", name := "<init>", desc := "()V" } : Jvm.MethodName)) ∈ lw_all := lw_g (lw_at lw_m1 157 rfl) rfl
theorem q216 : (Jvm.Cond.code ({ cls := "java/util/AbstractQueue", name := "<init>", desc := "()V" } : Jvm.MethodName) prog_42_method_1_code (1 : Nat) (Option.none : Option Jvm.ClassFile.FieldType)) ∈ lw_all := lw_g (lw_at lw_m1 158 rfl) rfl
theorem q217 : (Jvm.Cond.methodLink "java/util/AbstractQueue" (1 : Nat) ({ cls := "java/util/AbstractCollection", name := "<init>", desc := "()V" } : Jvm.MethodName)) ∈ lw_all := lw_g (lw_at lw_m1 159 rfl) rfl
theorem q218 : (Jvm.Cond.instanceMethod ({ cls := "java/util/AbstractCollection", name := "<init>", desc := "()V" } : Jvm.MethodName)) ∈ lw_all := lw_g (lw_at lw_m1 160 rfl) rfl
theorem q219 : (Jvm.Cond.code ({ cls := "java/util/AbstractCollection", name := "<init>", desc := "()V" } : Jvm.MethodName) prog_39_method_1_code (1 : Nat) (Option.none : Option Jvm.ClassFile.FieldType)) ∈ lw_all := lw_g (lw_at lw_m1 161 rfl) rfl
theorem q220 : (Jvm.Cond.methodLink "java/util/AbstractCollection" (1 : Nat) ({ cls := "java/lang/Object", name := "<init>", desc := "()V" } : Jvm.MethodName)) ∈ lw_all := lw_g (lw_at lw_m1 162 rfl) rfl
theorem q221 : (Jvm.Cond.classLink "java/util/PriorityQueue" (12 : Nat) "java/lang/IllegalArgumentException") ∈ lw_all := lw_g (lw_at lw_m1 163 rfl) rfl
theorem q222 : (Jvm.Cond.instantiable "java/lang/IllegalArgumentException" (6 : Nat)) ∈ lw_all := lw_g (lw_at lw_m1 164 rfl) rfl
theorem q223 : (Jvm.Cond.castable "java/lang/IllegalArgumentException" "java/lang/IllegalArgumentException") ∈ lw_tbl := lw_at lw_m1 165 rfl
theorem q224 : (Jvm.Cond.declares ({ cls := "java/lang/RuntimeException", name := "<init>", desc := "()V" } : Jvm.MethodName)) ∈ lw_tbl := lw_at lw_m1 166 rfl
theorem q225 : (Jvm.Cond.declares ({ cls := "java/lang/RuntimeException", name := "<init>", desc := "(Ljava/lang/String;)V" } : Jvm.MethodName)) ∈ lw_tbl := lw_at lw_m1 167 rfl
theorem q226 : (Jvm.Cond.declares ({ cls := "java/lang/Exception", name := "<init>", desc := "()V" } : Jvm.MethodName)) ∈ lw_tbl := lw_at lw_m1 168 rfl
theorem q227 : (Jvm.Cond.declares ({ cls := "java/lang/Exception", name := "<init>", desc := "(Ljava/lang/String;)V" } : Jvm.MethodName)) ∈ lw_tbl := lw_at lw_m1 169 rfl
theorem q228 : (Jvm.Cond.declares ({ cls := "java/lang/Throwable", name := "<init>", desc := "()V" } : Jvm.MethodName)) ∈ lw_tbl := lw_at lw_m1 170 rfl
theorem q229 : (Jvm.Cond.declares ({ cls := "java/lang/Throwable", name := "<init>", desc := "(Ljava/lang/String;)V" } : Jvm.MethodName)) ∈ lw_tbl := lw_at lw_m1 171 rfl
theorem q230 : (Jvm.Cond.selects "java/lang/IllegalArgumentException" ({ cls := "java/lang/Throwable", name := "fillInStackTrace", desc := "(I)Ljava/lang/Throwable;" } : Jvm.MethodName) ({ cls := "java/lang/Throwable", name := "fillInStackTrace", desc := "(I)Ljava/lang/Throwable;" } : Jvm.MethodName)) ∈ lw_all := lw_g (lw_at lw_m1 172 rfl) rfl
theorem q231 : (Jvm.Cond.selects "java/lang/IllegalArgumentException" ({ cls := "java/lang/Throwable", name := "fillInStackTrace", desc := "()Ljava/lang/Throwable;" } : Jvm.MethodName) ({ cls := "java/lang/Throwable", name := "fillInStackTrace", desc := "()Ljava/lang/Throwable;" } : Jvm.MethodName)) ∈ lw_all := lw_g (lw_at lw_m1 173 rfl) rfl
theorem q232 : (Jvm.Cond.lays "java/lang/IllegalArgumentException" "java/lang/Throwable" "cause" "Ljava/lang/Throwable;") ∈ lw_all := lw_g (lw_at lw_m1 174 rfl) rfl
theorem q233 : (Jvm.Cond.lays "java/lang/Throwable" "java/lang/Throwable" "cause" "Ljava/lang/Throwable;") ∈ lw_all := lw_g (lw_at lw_m1 175 rfl) rfl
theorem q234 : (Jvm.Cond.lays "java/lang/IllegalArgumentException" "java/lang/Throwable" "stackTrace" "[Ljava/lang/StackTraceElement;") ∈ lw_all := lw_g (lw_at lw_m1 176 rfl) rfl
theorem q235 : (Jvm.Cond.lays "java/lang/Throwable" "java/lang/Throwable" "stackTrace" "[Ljava/lang/StackTraceElement;") ∈ lw_all := lw_g (lw_at lw_m1 177 rfl) rfl
theorem q236 : (Jvm.Cond.lays "java/lang/IllegalArgumentException" "java/lang/Throwable" "suppressedExceptions" "Ljava/util/List;") ∈ lw_all := lw_g (lw_at lw_m1 178 rfl) rfl
theorem q237 : (Jvm.Cond.lays "java/lang/Throwable" "java/lang/Throwable" "suppressedExceptions" "Ljava/util/List;") ∈ lw_all := lw_g (lw_at lw_m1 179 rfl) rfl
theorem q238 : (Jvm.Cond.lays "java/lang/IllegalArgumentException" "java/lang/Throwable" "detailMessage" "Ljava/lang/String;") ∈ lw_all := lw_g (lw_at lw_m1 180 rfl) rfl
theorem q239 : (Jvm.Cond.lays "java/lang/Throwable" "java/lang/Throwable" "detailMessage" "Ljava/lang/String;") ∈ lw_all := lw_g (lw_at lw_m1 181 rfl) rfl
theorem q240 : (Jvm.Cond.lays "java/lang/IllegalArgumentException" "java/lang/Throwable" "backtrace" "Ljava/lang/Object;") ∈ lw_all := lw_g (lw_at lw_m1 182 rfl) rfl
theorem q241 : (Jvm.Cond.lays "java/lang/Throwable" "java/lang/Throwable" "backtrace" "Ljava/lang/Object;") ∈ lw_all := lw_g (lw_at lw_m1 183 rfl) rfl
theorem q242 : (Jvm.Cond.fieldLink "java/lang/Throwable" (198 : Nat) "java/lang/Throwable" "backtrace" "Ljava/lang/Object;") ∈ lw_all := lw_g (lw_at lw_m1 184 rfl) rfl
theorem q243 : (Jvm.Cond.superclass "java/lang/Throwable" "java/lang/Object") ∈ lw_all := lw_g (lw_at lw_m1 185 rfl) rfl
theorem q244 : (Jvm.Cond.instanceMethod ({ cls := "java/lang/Throwable", name := "<init>", desc := "()V" } : Jvm.MethodName)) ∈ lw_all := lw_g (lw_at lw_m1 186 rfl) rfl
theorem q245 : (Jvm.Cond.code ({ cls := "java/lang/Throwable", name := "<init>", desc := "()V" } : Jvm.MethodName) prog_36_method_1_code (1 : Nat) (Option.none : Option Jvm.ClassFile.FieldType)) ∈ lw_all := lw_g (lw_at lw_m1 187 rfl) rfl
theorem q246 : (Jvm.Cond.methodLink "java/lang/Throwable" (1 : Nat) ({ cls := "java/lang/Object", name := "<init>", desc := "()V" } : Jvm.MethodName)) ∈ lw_all := lw_g (lw_at lw_m1 188 rfl) rfl
theorem q247 : (Jvm.Cond.fieldLink "java/lang/Throwable" (13 : Nat) "java/lang/Throwable" "UNASSIGNED_STACK" "[Ljava/lang/StackTraceElement;") ∈ lw_all := lw_g (lw_at lw_m1 189 rfl) rfl
theorem q248 : (Jvm.Cond.laysStatic "java/lang/Throwable" "UNASSIGNED_STACK" "[Ljava/lang/StackTraceElement;") ∈ lw_tbl := lw_at lw_m1 190 rfl
theorem q249 : (Jvm.Cond.fieldLink "java/lang/Throwable" (20 : Nat) "java/lang/Throwable" "SUPPRESSED_SENTINEL" "Ljava/util/List;") ∈ lw_all := lw_g (lw_at lw_m1 191 rfl) rfl
theorem q250 : (Jvm.Cond.laysStatic "java/lang/Throwable" "SUPPRESSED_SENTINEL" "Ljava/util/List;") ∈ lw_tbl := lw_at lw_m1 192 rfl
theorem q251 : (Jvm.Cond.methodLink "java/lang/Throwable" (27 : Nat) ({ cls := "java/lang/Throwable", name := "fillInStackTrace", desc := "()Ljava/lang/Throwable;" } : Jvm.MethodName)) ∈ lw_all := lw_g (lw_at lw_m1 193 rfl) rfl
theorem q252 : (Jvm.Cond.instanceMethod ({ cls := "java/lang/Throwable", name := "fillInStackTrace", desc := "()Ljava/lang/Throwable;" } : Jvm.MethodName)) ∈ lw_all := lw_g (lw_at lw_m1 194 rfl) rfl
theorem q253 : (Jvm.Cond.sameMethod "java/lang/Throwable" "java/lang/Throwable" "fillInStackTrace" "()Ljava/lang/Throwable;") ∈ lw_all := lw_g (lw_at lw_m1 195 rfl) rfl
theorem q254 : (Jvm.Cond.selects "java/lang/ArrayIndexOutOfBoundsException" ({ cls := "java/lang/Throwable", name := "fillInStackTrace", desc := "()Ljava/lang/Throwable;" } : Jvm.MethodName) ({ cls := "java/lang/Throwable", name := "fillInStackTrace", desc := "()Ljava/lang/Throwable;" } : Jvm.MethodName)) ∈ lw_all := lw_g (lw_at lw_m1 196 rfl) rfl
theorem q255 : (Jvm.Cond.selects "java/lang/IllegalStateException" ({ cls := "java/lang/Throwable", name := "fillInStackTrace", desc := "()Ljava/lang/Throwable;" } : Jvm.MethodName) ({ cls := "java/lang/Throwable", name := "fillInStackTrace", desc := "()Ljava/lang/Throwable;" } : Jvm.MethodName)) ∈ lw_all := lw_g (lw_at lw_m1 197 rfl) rfl
theorem q256 : (Jvm.Cond.selects "java/lang/IndexOutOfBoundsException" ({ cls := "java/lang/Throwable", name := "fillInStackTrace", desc := "()Ljava/lang/Throwable;" } : Jvm.MethodName) ({ cls := "java/lang/Throwable", name := "fillInStackTrace", desc := "()Ljava/lang/Throwable;" } : Jvm.MethodName)) ∈ lw_all := lw_g (lw_at lw_m1 198 rfl) rfl
theorem q257 : (Jvm.Cond.selects "java/lang/StringIndexOutOfBoundsException" ({ cls := "java/lang/Throwable", name := "fillInStackTrace", desc := "()Ljava/lang/Throwable;" } : Jvm.MethodName) ({ cls := "java/lang/Throwable", name := "fillInStackTrace", desc := "()Ljava/lang/Throwable;" } : Jvm.MethodName)) ∈ lw_all := lw_g (lw_at lw_m1 199 rfl) rfl
theorem q258 : (Jvm.Cond.codeSync ({ cls := "java/lang/Throwable", name := "fillInStackTrace", desc := "()Ljava/lang/Throwable;" } : Jvm.MethodName) prog_36_method_18_code (1 : Nat) (Option.some (Jvm.ClassFile.FieldType.object "java/lang/Throwable"))) ∈ lw_all := lw_g (lw_at lw_m1 200 rfl) rfl
theorem q259 : (Jvm.Cond.methodLink "java/lang/Throwable" (202 : Nat) ({ cls := "java/lang/Throwable", name := "fillInStackTrace", desc := "(I)Ljava/lang/Throwable;" } : Jvm.MethodName)) ∈ lw_all := lw_g (lw_at lw_m1 201 rfl) rfl
theorem q260 : (Jvm.Cond.privateMethod ({ cls := "java/lang/Throwable", name := "fillInStackTrace", desc := "(I)Ljava/lang/Throwable;" } : Jvm.MethodName)) ∈ lw_tbl := lw_at lw_m1 202 rfl
theorem q261 : (Jvm.Cond.instanceMethod ({ cls := "java/lang/Throwable", name := "fillInStackTrace", desc := "(I)Ljava/lang/Throwable;" } : Jvm.MethodName)) ∈ lw_all := lw_g (lw_at lw_m1 203 rfl) rfl
theorem q262 : (Jvm.Cond.instantiable "java/lang/Throwable" (6 : Nat)) ∈ lw_all := lw_g (lw_at lw_m1 204 rfl) rfl
theorem q263 : (Jvm.Cond.native ({ cls := "java/lang/Throwable", name := "fillInStackTrace", desc := "(I)Ljava/lang/Throwable;" } : Jvm.MethodName)) ∈ lw_all := lw_g (lw_at lw_m1 205 rfl) rfl
theorem q264 : (Jvm.Cond.methodLink "java/util/PriorityQueue" (14 : Nat) ({ cls := "java/lang/IllegalArgumentException", name := "<init>", desc := "()V" } : Jvm.MethodName)) ∈ lw_all := lw_g (lw_at lw_m1 206 rfl) rfl
theorem q265 : (Jvm.Cond.instanceMethod ({ cls := "java/lang/IllegalArgumentException", name := "<init>", desc := "()V" } : Jvm.MethodName)) ∈ lw_all := lw_g (lw_at lw_m1 207 rfl) rfl
theorem q266 : (Jvm.Cond.code ({ cls := "java/lang/IllegalArgumentException", name := "<init>", desc := "()V" } : Jvm.MethodName) prog_20_method_1_code (1 : Nat) (Option.none : Option Jvm.ClassFile.FieldType)) ∈ lw_all := lw_g (lw_at lw_m1 208 rfl) rfl
theorem q267 : (Jvm.Cond.methodLink "java/lang/IllegalArgumentException" (1 : Nat) ({ cls := "java/lang/RuntimeException", name := "<init>", desc := "()V" } : Jvm.MethodName)) ∈ lw_all := lw_g (lw_at lw_m1 209 rfl) rfl
theorem q268 : (Jvm.Cond.instanceMethod ({ cls := "java/lang/RuntimeException", name := "<init>", desc := "()V" } : Jvm.MethodName)) ∈ lw_all := lw_g (lw_at lw_m1 210 rfl) rfl
theorem q269 : (Jvm.Cond.code ({ cls := "java/lang/RuntimeException", name := "<init>", desc := "()V" } : Jvm.MethodName) prog_29_method_1_code (1 : Nat) (Option.none : Option Jvm.ClassFile.FieldType)) ∈ lw_all := lw_g (lw_at lw_m1 211 rfl) rfl
theorem q270 : (Jvm.Cond.methodLink "java/lang/RuntimeException" (1 : Nat) ({ cls := "java/lang/Exception", name := "<init>", desc := "()V" } : Jvm.MethodName)) ∈ lw_all := lw_g (lw_at lw_m1 212 rfl) rfl
theorem q271 : (Jvm.Cond.instanceMethod ({ cls := "java/lang/Exception", name := "<init>", desc := "()V" } : Jvm.MethodName)) ∈ lw_all := lw_g (lw_at lw_m1 213 rfl) rfl
theorem q272 : (Jvm.Cond.code ({ cls := "java/lang/Exception", name := "<init>", desc := "()V" } : Jvm.MethodName) prog_19_method_1_code (1 : Nat) (Option.none : Option Jvm.ClassFile.FieldType)) ∈ lw_all := lw_g (lw_at lw_m1 214 rfl) rfl
theorem q273 : (Jvm.Cond.methodLink "java/lang/Exception" (1 : Nat) ({ cls := "java/lang/Throwable", name := "<init>", desc := "()V" } : Jvm.MethodName)) ∈ lw_all := lw_g (lw_at lw_m1 215 rfl) rfl
theorem q274 : (Jvm.Cond.fieldLink "java/lang/Throwable" (198 : Nat) "java/lang/Throwable" "backtrace" "Ljava/lang/Object;") ∈ lw_all := lw_g (lw_at lw_m1 216 rfl) rfl
theorem q275 : (Jvm.Cond.fieldLink "java/lang/Throwable" (31 : Nat) "java/lang/Throwable" "detailMessage" "Ljava/lang/String;") ∈ lw_all := lw_g (lw_at lw_m1 217 rfl) rfl
theorem q276 : (Jvm.Cond.fieldLink "java/lang/Throwable" (7 : Nat) "java/lang/Throwable" "cause" "Ljava/lang/Throwable;") ∈ lw_all := lw_g (lw_at lw_m1 218 rfl) rfl
theorem q277 : (Jvm.Cond.fieldLink "java/lang/Throwable" (17 : Nat) "java/lang/Throwable" "stackTrace" "[Ljava/lang/StackTraceElement;") ∈ lw_all := lw_g (lw_at lw_m1 219 rfl) rfl
theorem q278 : (Jvm.Cond.fieldLink "java/lang/Throwable" (24 : Nat) "java/lang/Throwable" "suppressedExceptions" "Ljava/util/List;") ∈ lw_all := lw_g (lw_at lw_m1 220 rfl) rfl
theorem q279 : (Jvm.Cond.soleField "java/lang/Throwable" "backtrace") ∈ lw_all := lw_g (lw_at lw_m1 221 rfl) rfl
theorem q280 : (Jvm.Cond.soleField "java/lang/Throwable" "detailMessage") ∈ lw_all := lw_g (lw_at lw_m1 222 rfl) rfl
theorem q281 : (Jvm.Cond.soleField "java/lang/Throwable" "cause") ∈ lw_all := lw_g (lw_at lw_m1 223 rfl) rfl
theorem q282 : (Jvm.Cond.soleField "java/lang/Throwable" "stackTrace") ∈ lw_all := lw_g (lw_at lw_m1 224 rfl) rfl
theorem q283 : (Jvm.Cond.lays "java/lang/IllegalArgumentException" "java/lang/Throwable" "depth" "I") ∈ lw_all := lw_g (lw_at lw_m1 225 rfl) rfl
theorem q284 : (Jvm.Cond.soleField "java/lang/Throwable" "depth") ∈ lw_all := lw_g (lw_at lw_m1 226 rfl) rfl
theorem q285 : (Jvm.Cond.soleField "java/lang/Throwable" "suppressedExceptions") ∈ lw_all := lw_g (lw_at lw_m1 227 rfl) rfl
theorem q286 : (Jvm.Cond.superclass "java/lang/IllegalArgumentException" "java/lang/RuntimeException") ∈ lw_all := lw_g (lw_at lw_m1 228 rfl) rfl
theorem q287 : (Jvm.Cond.classLink "java/util/PriorityQueue" (15 : Nat) "java/lang/Object") ∈ lw_all := lw_g (lw_at lw_m1 229 rfl) rfl
theorem q288 : (Jvm.Cond.arrayOver (Jvm.ClassFile.FieldType.object "java/lang/Object")) ∈ lw_tbl := lw_at lw_m1 230 rfl
theorem q289 : (Jvm.Cond.fieldLink "java/util/PriorityQueue$Itr" (44 : Nat) "java/util/PriorityQueue" "queue" "[Ljava/lang/Object;") ∈ lw_all := lw_g (lw_at lw_m1 231 rfl) rfl
theorem q290 : (Jvm.Cond.fieldLink "java/util/PriorityQueue" (17 : Nat) "java/util/PriorityQueue" "queue" "[Ljava/lang/Object;") ∈ lw_all := lw_g (lw_at lw_m1 232 rfl) rfl
theorem q291 : (Jvm.Cond.fieldLink "java/util/PriorityQueue$Itr" (28 : Nat) "java/util/PriorityQueue" "size" "I") ∈ lw_all := lw_g (lw_at lw_m1 233 rfl) rfl
theorem q292 : (Jvm.Cond.fieldLink "java/util/PriorityQueue" (58 : Nat) "java/util/PriorityQueue" "size" "I") ∈ lw_all := lw_g (lw_at lw_m1 234 rfl) rfl
theorem q293 : (Jvm.Cond.fieldLink "java/util/PriorityQueue" (21 : Nat) "java/util/PriorityQueue" "comparator" "Ljava/util/Comparator;") ∈ lw_all := lw_g (lw_at lw_m1 235 rfl) rfl
theorem q294 : (Jvm.Cond.fieldLink "java/util/PriorityQueue$Itr" (17 : Nat) "java/util/PriorityQueue" "modCount" "I") ∈ lw_all := lw_g (lw_at lw_m1 236 rfl) rfl
theorem q295 : (Jvm.Cond.fieldLink "java/util/PriorityQueue" (93 : Nat) "java/util/PriorityQueue" "modCount" "I") ∈ lw_all := lw_g (lw_at lw_m1 237 rfl) rfl
theorem q296 : (Jvm.Cond.lays "java/util/PriorityQueue" "java/util/PriorityQueue" "queue" "[Ljava/lang/Object;") ∈ lw_all := lw_g (lw_at lw_m1 238 rfl) rfl
theorem q297 : (Jvm.Cond.soleField "java/util/PriorityQueue" "queue") ∈ lw_all := lw_g (lw_at lw_m1 239 rfl) rfl
theorem q298 : (Jvm.Cond.lays "java/util/PriorityQueue" "java/util/PriorityQueue" "size" "I") ∈ lw_all := lw_g (lw_at lw_m2 0 rfl) rfl
theorem q299 : (Jvm.Cond.soleField "java/util/PriorityQueue" "size") ∈ lw_all := lw_g (lw_at lw_m2 1 rfl) rfl
theorem q300 : (Jvm.Cond.laysFinal "java/util/PriorityQueue" "java/util/PriorityQueue" "comparator" "Ljava/util/Comparator;") ∈ lw_all := lw_g (lw_at lw_m2 2 rfl) rfl
theorem q301 : (Jvm.Cond.soleField "java/util/PriorityQueue" "comparator") ∈ lw_all := lw_g (lw_at lw_m2 3 rfl) rfl
theorem q302 : (Jvm.Cond.lays "java/util/PriorityQueue" "java/util/PriorityQueue" "modCount" "I") ∈ lw_all := lw_g (lw_at lw_m2 4 rfl) rfl
theorem q303 : (Jvm.Cond.soleField "java/util/PriorityQueue" "modCount") ∈ lw_all := lw_g (lw_at lw_m2 5 rfl) rfl
theorem q304 : (Jvm.Cond.superclass "java/util/PriorityQueue" "java/util/AbstractQueue") ∈ lw_all := lw_g (lw_at lw_m2 6 rfl) rfl
theorem q305 : (Jvm.Cond.fieldLink "RiddlePost$Memory" (10 : Nat) "RiddlePost$Memory" "notes" "Ljava/util/TreeMap;") ∈ lw_all := lw_g (lw_at lw_m2 7 rfl) rfl
theorem q306 : (Jvm.Cond.fieldLinkNest "RiddlePost" (162 : Nat) "RiddlePost$Memory" "notes" "Ljava/util/TreeMap;" "RiddlePost") ∈ lw_tbl := lw_at lw_m2 8 rfl
theorem q307 : (Jvm.Cond.fieldLink "RiddlePost$Memory" (24 : Nat) "RiddlePost$Memory" "ends" "Ljava/util/PriorityQueue;") ∈ lw_all := lw_g (lw_at lw_m2 9 rfl) rfl
theorem q308 : (Jvm.Cond.fieldLinkNest "RiddlePost" (175 : Nat) "RiddlePost$Memory" "ends" "Ljava/util/PriorityQueue;" "RiddlePost") ∈ lw_tbl := lw_at lw_m2 10 rfl
theorem q309 : (Jvm.Cond.fieldLink "RiddlePost$Memory" (37 : Nat) "RiddlePost$Memory" "remembered" "I") ∈ lw_all := lw_g (lw_at lw_m2 11 rfl) rfl
theorem q310 : (Jvm.Cond.fieldLinkNest "RiddlePost" (169 : Nat) "RiddlePost$Memory" "remembered" "I" "RiddlePost") ∈ lw_tbl := lw_at lw_m2 12 rfl
theorem q311 : (Jvm.Cond.fieldLink "RiddlePost$Memory" (41 : Nat) "RiddlePost$Memory" "forgotten" "I") ∈ lw_all := lw_g (lw_at lw_m2 13 rfl) rfl
theorem q312 : (Jvm.Cond.fieldLinkNest "RiddlePost" (172 : Nat) "RiddlePost$Memory" "forgotten" "I" "RiddlePost") ∈ lw_tbl := lw_at lw_m2 14 rfl
theorem q313 : (Jvm.Cond.laysFinal "RiddlePost$Memory" "RiddlePost$Memory" "notes" "Ljava/util/TreeMap;") ∈ lw_all := lw_g (lw_at lw_m2 15 rfl) rfl
theorem q314 : (Jvm.Cond.soleField "RiddlePost$Memory" "notes") ∈ lw_all := lw_g (lw_at lw_m2 16 rfl) rfl
theorem q315 : (Jvm.Cond.laysFinal "RiddlePost$Memory" "RiddlePost$Memory" "ends" "Ljava/util/PriorityQueue;") ∈ lw_all := lw_g (lw_at lw_m2 17 rfl) rfl
theorem q316 : (Jvm.Cond.soleField "RiddlePost$Memory" "ends") ∈ lw_all := lw_g (lw_at lw_m2 18 rfl) rfl
theorem q317 : (Jvm.Cond.lays "RiddlePost$Memory" "RiddlePost$Memory" "remembered" "I") ∈ lw_all := lw_g (lw_at lw_m2 19 rfl) rfl
theorem q318 : (Jvm.Cond.soleField "RiddlePost$Memory" "remembered") ∈ lw_all := lw_g (lw_at lw_m2 20 rfl) rfl
theorem q319 : (Jvm.Cond.lays "RiddlePost$Memory" "RiddlePost$Memory" "forgotten" "I") ∈ lw_all := lw_g (lw_at lw_m2 21 rfl) rfl
theorem q320 : (Jvm.Cond.soleField "RiddlePost$Memory" "forgotten") ∈ lw_all := lw_g (lw_at lw_m2 22 rfl) rfl
theorem q321 : (Jvm.Cond.superclass "RiddlePost$Memory" "java/lang/Object") ∈ lw_all := lw_g (lw_at lw_m2 23 rfl) rfl
theorem q322 : (Jvm.Cond.methodLink "RiddlePost" (33 : Nat) ({ cls := "RiddlePost$Post", name := "<init>", desc := "(LRiddlePost$Zones;LRiddlePost$Memory;)V" } : Jvm.MethodName)) ∈ lw_all := lw_g (lw_at lw_m2 24 rfl) rfl
theorem q323 : (Jvm.Cond.instanceMethod ({ cls := "RiddlePost$Post", name := "<init>", desc := "(LRiddlePost$Zones;LRiddlePost$Memory;)V" } : Jvm.MethodName)) ∈ lw_all := lw_g (lw_at lw_m2 25 rfl) rfl
theorem q324 : (Jvm.Cond.code ({ cls := "RiddlePost$Post", name := "<init>", desc := "(LRiddlePost$Zones;LRiddlePost$Memory;)V" } : Jvm.MethodName) prog_5_method_1_code (3 : Nat) (Option.none : Option Jvm.ClassFile.FieldType)) ∈ lw_all := lw_g (lw_at lw_m2 26 rfl) rfl
theorem q325 : (Jvm.Cond.methodLink "RiddlePost$Post" (3 : Nat) ({ cls := "java/lang/Object", name := "<init>", desc := "()V" } : Jvm.MethodName)) ∈ lw_all := lw_g (lw_at lw_m2 27 rfl) rfl
theorem q326 : (Jvm.Cond.fieldLink "RiddlePost$Post" (15 : Nat) "RiddlePost$Post" "zones" "LRiddlePost$Zones;") ∈ lw_all := lw_g (lw_at lw_m2 28 rfl) rfl
theorem q327 : (Jvm.Cond.fieldLinkNest "RiddlePost" (91 : Nat) "RiddlePost$Post" "zones" "LRiddlePost$Zones;" "RiddlePost") ∈ lw_tbl := lw_at lw_m2 29 rfl
theorem q328 : (Jvm.Cond.fieldLink "RiddlePost$Post" (19 : Nat) "RiddlePost$Post" "memory" "LRiddlePost$Memory;") ∈ lw_all := lw_g (lw_at lw_m2 30 rfl) rfl
theorem q329 : (Jvm.Cond.fieldLinkNest "RiddlePost" (122 : Nat) "RiddlePost$Post" "memory" "LRiddlePost$Memory;" "RiddlePost") ∈ lw_tbl := lw_at lw_m2 31 rfl
theorem q330 : (Jvm.Cond.fieldLink "RiddlePost$Post" (9 : Nat) "RiddlePost$Post" "questions" "[I") ∈ lw_all := lw_g (lw_at lw_m2 32 rfl) rfl
theorem q331 : (Jvm.Cond.fieldLinkNest "RiddlePost" (201 : Nat) "RiddlePost$Post" "questions" "[I" "RiddlePost") ∈ lw_tbl := lw_at lw_m2 33 rfl
theorem q332 : (Jvm.Cond.fieldLink "RiddlePost$Post" (40 : Nat) "RiddlePost$Post" "time" "I") ∈ lw_all := lw_g (lw_at lw_m2 34 rfl) rfl
theorem q333 : (Jvm.Cond.fieldLinkNest "RiddlePost" (140 : Nat) "RiddlePost$Post" "time" "I" "RiddlePost") ∈ lw_tbl := lw_at lw_m2 35 rfl
theorem q334 : (Jvm.Cond.fieldLink "RiddlePost$Post" (44 : Nat) "RiddlePost$Post" "solved" "I") ∈ lw_all := lw_g (lw_at lw_m2 36 rfl) rfl
theorem q335 : (Jvm.Cond.fieldLinkNest "RiddlePost" (192 : Nat) "RiddlePost$Post" "solved" "I" "RiddlePost") ∈ lw_tbl := lw_at lw_m2 37 rfl
theorem q336 : (Jvm.Cond.fieldLink "RiddlePost$Post" (47 : Nat) "RiddlePost$Post" "hits" "I") ∈ lw_all := lw_g (lw_at lw_m2 38 rfl) rfl
theorem q337 : (Jvm.Cond.fieldLinkNest "RiddlePost" (198 : Nat) "RiddlePost$Post" "hits" "I" "RiddlePost") ∈ lw_tbl := lw_at lw_m2 39 rfl
theorem q338 : (Jvm.Cond.laysFinal "RiddlePost$Post" "RiddlePost$Post" "zones" "LRiddlePost$Zones;") ∈ lw_all := lw_g (lw_at lw_m2 40 rfl) rfl
theorem q339 : (Jvm.Cond.soleField "RiddlePost$Post" "zones") ∈ lw_all := lw_g (lw_at lw_m2 41 rfl) rfl
theorem q340 : (Jvm.Cond.laysFinal "RiddlePost$Post" "RiddlePost$Post" "memory" "LRiddlePost$Memory;") ∈ lw_all := lw_g (lw_at lw_m2 42 rfl) rfl
theorem q341 : (Jvm.Cond.soleField "RiddlePost$Post" "memory") ∈ lw_all := lw_g (lw_at lw_m2 43 rfl) rfl
theorem q342 : (Jvm.Cond.laysFinal "RiddlePost$Post" "RiddlePost$Post" "questions" "[I") ∈ lw_all := lw_g (lw_at lw_m2 44 rfl) rfl
theorem q343 : (Jvm.Cond.soleField "RiddlePost$Post" "questions") ∈ lw_all := lw_g (lw_at lw_m2 45 rfl) rfl
theorem q344 : (Jvm.Cond.lays "RiddlePost$Post" "RiddlePost$Post" "time" "I") ∈ lw_all := lw_g (lw_at lw_m2 46 rfl) rfl
theorem q345 : (Jvm.Cond.soleField "RiddlePost$Post" "time") ∈ lw_all := lw_g (lw_at lw_m2 47 rfl) rfl
theorem q346 : (Jvm.Cond.lays "RiddlePost$Post" "RiddlePost$Post" "solved" "I") ∈ lw_all := lw_g (lw_at lw_m2 48 rfl) rfl
theorem q347 : (Jvm.Cond.soleField "RiddlePost$Post" "solved") ∈ lw_all := lw_g (lw_at lw_m2 49 rfl) rfl
theorem q348 : (Jvm.Cond.lays "RiddlePost$Post" "RiddlePost$Post" "hits" "I") ∈ lw_all := lw_g (lw_at lw_m2 50 rfl) rfl
theorem q349 : (Jvm.Cond.soleField "RiddlePost$Post" "hits") ∈ lw_all := lw_g (lw_at lw_m2 51 rfl) rfl
theorem q350 : (Jvm.Cond.superclass "RiddlePost$Post" "java/lang/Object") ∈ lw_all := lw_g (lw_at lw_m2 52 rfl) rfl
theorem q351 : (Jvm.Cond.classLink "RiddlePost" (40 : Nat) "java/util/ArrayList") ∈ lw_all := lw_g (lw_at lw_m2 53 rfl) rfl
theorem q352 : (Jvm.Cond.instantiable "java/util/ArrayList" (3 : Nat)) ∈ lw_all := lw_g (lw_at lw_m2 54 rfl) rfl
theorem q353 : (Jvm.Cond.methodLink "RiddlePost" (42 : Nat) ({ cls := "java/util/ArrayList", name := "<init>", desc := "()V" } : Jvm.MethodName)) ∈ lw_all := lw_g (lw_at lw_m2 55 rfl) rfl
theorem q354 : (Jvm.Cond.instanceMethod ({ cls := "java/util/ArrayList", name := "<init>", desc := "()V" } : Jvm.MethodName)) ∈ lw_all := lw_g (lw_at lw_m2 56 rfl) rfl
theorem q355 : (Jvm.Cond.code ({ cls := "java/util/ArrayList", name := "<init>", desc := "()V" } : Jvm.MethodName) prog_45_method_2_code (1 : Nat) (Option.none : Option Jvm.ClassFile.FieldType)) ∈ lw_all := lw_g (lw_at lw_m2 57 rfl) rfl
theorem q356 : (Jvm.Cond.methodLink "java/util/ArrayList" (1 : Nat) ({ cls := "java/util/AbstractList", name := "<init>", desc := "()V" } : Jvm.MethodName)) ∈ lw_all := lw_g (lw_at lw_m2 58 rfl) rfl
theorem q357 : (Jvm.Cond.instanceMethod ({ cls := "java/util/AbstractList", name := "<init>", desc := "()V" } : Jvm.MethodName)) ∈ lw_all := lw_g (lw_at lw_m2 59 rfl) rfl
theorem q358 : (Jvm.Cond.code ({ cls := "java/util/AbstractList", name := "<init>", desc := "()V" } : Jvm.MethodName) prog_40_method_1_code (1 : Nat) (Option.none : Option Jvm.ClassFile.FieldType)) ∈ lw_all := lw_g (lw_at lw_m2 60 rfl) rfl
theorem q359 : (Jvm.Cond.methodLink "java/util/AbstractList" (1 : Nat) ({ cls := "java/util/AbstractCollection", name := "<init>", desc := "()V" } : Jvm.MethodName)) ∈ lw_all := lw_g (lw_at lw_m2 61 rfl) rfl
theorem q360 : (Jvm.Cond.fieldLink "java/util/ArrayList" (39 : Nat) "java/util/ArrayList" "DEFAULTCAPACITY_EMPTY_ELEMENTDATA" "[Ljava/lang/Object;") ∈ lw_all := lw_g (lw_at lw_m2 62 rfl) rfl
theorem q361 : (Jvm.Cond.laysStatic "java/util/ArrayList" "DEFAULTCAPACITY_EMPTY_ELEMENTDATA" "[Ljava/lang/Object;") ∈ lw_tbl := lw_at lw_m2 63 rfl
theorem q362 : (Jvm.Cond.fieldLink "java/util/ArrayList" (9 : Nat) "java/util/ArrayList" "elementData" "[Ljava/lang/Object;") ∈ lw_all := lw_g (lw_at lw_m2 64 rfl) rfl
theorem q363 : (Jvm.Cond.fieldLink "java/util/ArrayList$Itr" (37 : Nat) "java/util/ArrayList" "elementData" "[Ljava/lang/Object;") ∈ lw_all := lw_g (lw_at lw_m2 65 rfl) rfl
theorem q364 : (Jvm.Cond.fieldLinkNest "java/util/ArrayList$Itr" (28 : Nat) "java/util/ArrayList" "size" "I" "java/util/ArrayList") ∈ lw_tbl := lw_at lw_m2 66 rfl
theorem q365 : (Jvm.Cond.fieldLink "java/util/ArrayList" (48 : Nat) "java/util/ArrayList" "size" "I") ∈ lw_all := lw_g (lw_at lw_m2 67 rfl) rfl
theorem q366 : (Jvm.Cond.fieldLink "java/util/AbstractList" (7 : Nat) "java/util/AbstractList" "modCount" "I") ∈ lw_all := lw_g (lw_at lw_m2 68 rfl) rfl
theorem q367 : (Jvm.Cond.fieldLink "java/util/ArrayList$Itr" (17 : Nat) "java/util/ArrayList" "modCount" "I") ∈ lw_all := lw_g (lw_at lw_m2 69 rfl) rfl
theorem q368 : (Jvm.Cond.sameField "java/util/ArrayList" "java/util/AbstractList" "modCount" "I") ∈ lw_all := lw_g (lw_at lw_m2 70 rfl) rfl
theorem q369 : (Jvm.Cond.fieldLink "java/util/ArrayList" (63 : Nat) "java/util/ArrayList" "modCount" "I") ∈ lw_all := lw_g (lw_at lw_m2 71 rfl) rfl
theorem q370 : (Jvm.Cond.lays "java/util/ArrayList" "java/util/ArrayList" "elementData" "[Ljava/lang/Object;") ∈ lw_all := lw_g (lw_at lw_m2 72 rfl) rfl
theorem q371 : (Jvm.Cond.soleField "java/util/ArrayList" "elementData") ∈ lw_all := lw_g (lw_at lw_m2 73 rfl) rfl
theorem q372 : (Jvm.Cond.lays "java/util/ArrayList" "java/util/ArrayList" "size" "I") ∈ lw_all := lw_g (lw_at lw_m2 74 rfl) rfl
theorem q373 : (Jvm.Cond.soleField "java/util/ArrayList" "size") ∈ lw_all := lw_g (lw_at lw_m2 75 rfl) rfl
theorem q374 : (Jvm.Cond.lays "java/util/ArrayList" "java/util/AbstractList" "modCount" "I") ∈ lw_all := lw_g (lw_at lw_m2 76 rfl) rfl
theorem q375 : (Jvm.Cond.soleField "java/util/AbstractList" "modCount") ∈ lw_all := lw_g (lw_at lw_m2 77 rfl) rfl
theorem q376 : (Jvm.Cond.superclass "java/util/ArrayList" "java/util/AbstractList") ∈ lw_all := lw_g (lw_at lw_m2 78 rfl) rfl
theorem q377 : (Jvm.Cond.classLink "RiddlePost" (47 : Nat) "java/lang/StringBuilder") ∈ lw_all := lw_g (lw_at lw_m2 79 rfl) rfl
theorem q378 : (Jvm.Cond.instantiable "java/lang/StringBuilder" (4 : Nat)) ∈ lw_all := lw_g (lw_at lw_m2 80 rfl) rfl
theorem q379 : (Jvm.Cond.methodLink "RiddlePost" (49 : Nat) ({ cls := "java/lang/StringBuilder", name := "<init>", desc := "(I)V" } : Jvm.MethodName)) ∈ lw_all := lw_g (lw_at lw_m2 81 rfl) rfl
theorem q380 : (Jvm.Cond.instanceMethod ({ cls := "java/lang/StringBuilder", name := "<init>", desc := "(I)V" } : Jvm.MethodName)) ∈ lw_all := lw_g (lw_at lw_m2 82 rfl) rfl
theorem q381 : (Jvm.Cond.code ({ cls := "java/lang/StringBuilder", name := "<init>", desc := "(I)V" } : Jvm.MethodName) prog_31_method_2_code (2 : Nat) (Option.none : Option Jvm.ClassFile.FieldType)) ∈ lw_all := lw_g (lw_at lw_m2 83 rfl) rfl
theorem q382 : (Jvm.Cond.methodLink "java/lang/StringBuilder" (1 : Nat) ({ cls := "java/lang/AbstractStringBuilder", name := "<init>", desc := "(I)V" } : Jvm.MethodName)) ∈ lw_all := lw_g (lw_at lw_m2 84 rfl) rfl
theorem q383 : (Jvm.Cond.instanceMethod ({ cls := "java/lang/AbstractStringBuilder", name := "<init>", desc := "(I)V" } : Jvm.MethodName)) ∈ lw_all := lw_g (lw_at lw_m2 85 rfl) rfl
theorem q384 : (Jvm.Cond.code ({ cls := "java/lang/AbstractStringBuilder", name := "<init>", desc := "(I)V" } : Jvm.MethodName) prog_13_method_2_code (2 : Nat) (Option.none : Option Jvm.ClassFile.FieldType)) ∈ lw_all := lw_g (lw_at lw_m2 86 rfl) rfl
theorem q385 : (Jvm.Cond.methodLink "java/lang/AbstractStringBuilder" (3 : Nat) ({ cls := "java/lang/Object", name := "<init>", desc := "()V" } : Jvm.MethodName)) ∈ lw_all := lw_g (lw_at lw_m2 87 rfl) rfl
theorem q386 : (Jvm.Cond.fieldLink "java/lang/AbstractStringBuilder" (18 : Nat) "java/lang/String" "COMPACT_STRINGS" "Z") ∈ lw_all := lw_g (lw_at lw_m2 88 rfl) rfl
theorem q387 : (Jvm.Cond.laysStatic "java/lang/String" "COMPACT_STRINGS" "Z") ∈ lw_tbl := lw_at lw_m2 89 rfl
theorem q388 : (Jvm.Cond.methodLink "java/lang/AbstractStringBuilder" (26 : Nat) ({ cls := "java/lang/StringUTF16", name := "newBytesFor", desc := "(I)[B" } : Jvm.MethodName)) ∈ lw_all := lw_g (lw_at lw_m2 90 rfl) rfl
theorem q389 : (Jvm.Cond.static ({ cls := "java/lang/StringUTF16", name := "newBytesFor", desc := "(I)[B" } : Jvm.MethodName)) ∈ lw_all := lw_g (lw_at lw_m2 91 rfl) rfl
theorem q390 : (Jvm.Cond.code ({ cls := "java/lang/StringUTF16", name := "newBytesFor", desc := "(I)[B" } : Jvm.MethodName) prog_34_method_2_code (1 : Nat) (Option.some (Jvm.ClassFile.FieldType.array Jvm.ClassFile.FieldType.byte))) ∈ lw_all := lw_g (lw_at lw_m2 92 rfl) rfl
theorem q391 : (Jvm.Cond.methodLink "java/lang/StringUTF16" (11 : Nat) ({ cls := "java/lang/StringUTF16", name := "newBytesLength", desc := "(I)I" } : Jvm.MethodName)) ∈ lw_all := lw_g (lw_at lw_m2 93 rfl) rfl
theorem q392 : (Jvm.Cond.static ({ cls := "java/lang/StringUTF16", name := "newBytesLength", desc := "(I)I" } : Jvm.MethodName)) ∈ lw_all := lw_g (lw_at lw_m2 94 rfl) rfl
theorem q393 : (Jvm.Cond.code ({ cls := "java/lang/StringUTF16", name := "newBytesLength", desc := "(I)I" } : Jvm.MethodName) prog_34_method_3_code (1 : Nat) (Option.some Jvm.ClassFile.FieldType.int)) ∈ lw_all := lw_g (lw_at lw_m2 95 rfl) rfl
theorem q394 : (Jvm.Cond.constant "java/lang/StringUTF16" (20 : Nat) (1073741823 : Int32)) ∈ lw_all := lw_g (lw_at lw_m2 96 rfl) rfl
theorem q395 : (Jvm.Cond.fieldLink "java/lang/AbstractStringBuilder" (15 : Nat) "java/lang/AbstractStringBuilder" "value" "[B") ∈ lw_all := lw_g (lw_at lw_m2 97 rfl) rfl
theorem q396 : (Jvm.Cond.fieldLink "java/lang/AbstractStringBuilder" (22 : Nat) "java/lang/AbstractStringBuilder" "coder" "B") ∈ lw_all := lw_g (lw_at lw_m2 98 rfl) rfl
theorem q397 : (Jvm.Cond.fieldLink "java/lang/AbstractStringBuilder" (73 : Nat) "java/lang/AbstractStringBuilder" "maybeLatin1" "Z") ∈ lw_all := lw_g (lw_at lw_m2 99 rfl) rfl
theorem q398 : (Jvm.Cond.fieldLink "java/lang/String" (1048 : Nat) "java/lang/AbstractStringBuilder" "maybeLatin1" "Z") ∈ lw_all := lw_g (lw_at lw_m2 100 rfl) rfl
theorem q399 : (Jvm.Cond.fieldLink "java/lang/AbstractStringBuilder" (79 : Nat) "java/lang/AbstractStringBuilder" "count" "I") ∈ lw_all := lw_g (lw_at lw_m2 101 rfl) rfl
theorem q400 : (Jvm.Cond.lays "java/lang/StringBuilder" "java/lang/AbstractStringBuilder" "value" "[B") ∈ lw_all := lw_g (lw_at lw_m2 102 rfl) rfl
theorem q401 : (Jvm.Cond.soleField "java/lang/AbstractStringBuilder" "value") ∈ lw_all := lw_g (lw_at lw_m2 103 rfl) rfl
theorem q402 : (Jvm.Cond.lays "java/lang/StringBuilder" "java/lang/AbstractStringBuilder" "coder" "B") ∈ lw_all := lw_g (lw_at lw_m2 104 rfl) rfl
theorem q403 : (Jvm.Cond.soleField "java/lang/AbstractStringBuilder" "coder") ∈ lw_all := lw_g (lw_at lw_m2 105 rfl) rfl
theorem q404 : (Jvm.Cond.lays "java/lang/StringBuilder" "java/lang/AbstractStringBuilder" "maybeLatin1" "Z") ∈ lw_all := lw_g (lw_at lw_m2 106 rfl) rfl
theorem q405 : (Jvm.Cond.soleField "java/lang/AbstractStringBuilder" "maybeLatin1") ∈ lw_all := lw_g (lw_at lw_m2 107 rfl) rfl
theorem q406 : (Jvm.Cond.lays "java/lang/StringBuilder" "java/lang/AbstractStringBuilder" "count" "I") ∈ lw_all := lw_g (lw_at lw_m2 108 rfl) rfl
theorem q407 : (Jvm.Cond.soleField "java/lang/AbstractStringBuilder" "count") ∈ lw_all := lw_g (lw_at lw_m2 109 rfl) rfl
theorem q408 : (Jvm.Cond.superclass "java/lang/StringBuilder" "java/lang/AbstractStringBuilder") ∈ lw_all := lw_g (lw_at lw_m2 110 rfl) rfl
theorem q409 : (Jvm.Cond.arrayClass Jvm.ClassFile.FieldType.byte) ∈ lw_all := lw_g (lw_at lw_m2 111 rfl) rfl
theorem q410 : (Jvm.Cond.fieldLink "RiddlePost" (36 : Nat) "RiddlePost" "post" "LRiddlePost$Post;") ∈ lw_all := lw_g (lw_at lw_m2 112 rfl) rfl
theorem q411 : (Jvm.Cond.fieldLink "RiddlePost" (43 : Nat) "RiddlePost" "saved" "Ljava/util/ArrayList;") ∈ lw_all := lw_g (lw_at lw_m2 113 rfl) rfl
theorem q412 : (Jvm.Cond.fieldLink "RiddlePost" (52 : Nat) "RiddlePost" "text" "Ljava/lang/StringBuilder;") ∈ lw_all := lw_g (lw_at lw_m2 114 rfl) rfl
theorem q413 : (Jvm.Cond.lays "RiddlePost" "RiddlePost" "post" "LRiddlePost$Post;") ∈ lw_all := lw_g (lw_at lw_m2 115 rfl) rfl
theorem q414 : (Jvm.Cond.soleField "RiddlePost" "post") ∈ lw_all := lw_g (lw_at lw_m2 116 rfl) rfl
theorem q415 : (Jvm.Cond.laysFinal "RiddlePost" "RiddlePost" "saved" "Ljava/util/ArrayList;") ∈ lw_all := lw_g (lw_at lw_m2 117 rfl) rfl
theorem q416 : (Jvm.Cond.soleField "RiddlePost" "saved") ∈ lw_all := lw_g (lw_at lw_m2 118 rfl) rfl
theorem q417 : (Jvm.Cond.laysFinal "RiddlePost" "RiddlePost" "text" "Ljava/lang/StringBuilder;") ∈ lw_all := lw_g (lw_at lw_m2 119 rfl) rfl
theorem q418 : (Jvm.Cond.soleField "RiddlePost" "text") ∈ lw_all := lw_g (lw_at lw_m2 120 rfl) rfl
theorem q419 : (Jvm.Cond.superclass "RiddlePost" "java/lang/Object") ∈ lw_all := lw_g (lw_at lw_m2 121 rfl) rfl
theorem q420 : (Jvm.Cond.methodLink "RiddlePostLaw" (128 : Nat) ({ cls := "RiddlePost", name := "time", desc := "()I" } : Jvm.MethodName)) ∈ lw_all := lw_g (lw_at lw_m2 122 rfl) rfl
theorem q421 : (Jvm.Cond.instanceMethod ({ cls := "RiddlePost", name := "time", desc := "()I" } : Jvm.MethodName)) ∈ lw_all := lw_g (lw_at lw_m2 123 rfl) rfl
theorem q422 : (Jvm.Cond.selects "RiddlePost" ({ cls := "RiddlePost", name := "time", desc := "()I" } : Jvm.MethodName) ({ cls := "RiddlePost", name := "time", desc := "()I" } : Jvm.MethodName)) ∈ lw_all := lw_g (lw_at lw_m2 124 rfl) rfl
theorem q423 : (Jvm.Cond.code ({ cls := "RiddlePost", name := "time", desc := "()I" } : Jvm.MethodName) prog_1_method_18_code (1 : Nat) (Option.some Jvm.ClassFile.FieldType.int)) ∈ lw_all := lw_g (lw_at lw_m2 125 rfl) rfl
theorem q424 : (Jvm.Cond.methodLink "RiddlePostLaw" (156 : Nat) ({ cls := "RiddlePost", name := "remembered", desc := "()I" } : Jvm.MethodName)) ∈ lw_all := lw_g (lw_at lw_m2 126 rfl) rfl
theorem q425 : (Jvm.Cond.instanceMethod ({ cls := "RiddlePost", name := "remembered", desc := "()I" } : Jvm.MethodName)) ∈ lw_all := lw_g (lw_at lw_m2 127 rfl) rfl
theorem q426 : (Jvm.Cond.selects "RiddlePost" ({ cls := "RiddlePost", name := "remembered", desc := "()I" } : Jvm.MethodName) ({ cls := "RiddlePost", name := "remembered", desc := "()I" } : Jvm.MethodName)) ∈ lw_all := lw_g (lw_at lw_m2 128 rfl) rfl
theorem q427 : (Jvm.Cond.code ({ cls := "RiddlePost", name := "remembered", desc := "()I" } : Jvm.MethodName) prog_1_method_28_code (1 : Nat) (Option.some Jvm.ClassFile.FieldType.int)) ∈ lw_all := lw_g (lw_at lw_m2 129 rfl) rfl
theorem q428 : (Jvm.Cond.methodLink "RiddlePost" (166 : Nat) ({ cls := "java/util/TreeMap", name := "size", desc := "()I" } : Jvm.MethodName)) ∈ lw_all := lw_g (lw_at lw_m2 130 rfl) rfl
theorem q429 : (Jvm.Cond.instanceMethod ({ cls := "java/util/TreeMap", name := "size", desc := "()I" } : Jvm.MethodName)) ∈ lw_all := lw_g (lw_at lw_m2 131 rfl) rfl
theorem q430 : (Jvm.Cond.selects "java/util/TreeMap" ({ cls := "java/util/TreeMap", name := "size", desc := "()I" } : Jvm.MethodName) ({ cls := "java/util/TreeMap", name := "size", desc := "()I" } : Jvm.MethodName)) ∈ lw_all := lw_g (lw_at lw_m2 132 rfl) rfl
theorem q431 : (Jvm.Cond.code ({ cls := "java/util/TreeMap", name := "size", desc := "()I" } : Jvm.MethodName) prog_67_method_5_code (1 : Nat) (Option.some Jvm.ClassFile.FieldType.int)) ∈ lw_all := lw_g (lw_at lw_m2 133 rfl) rfl
theorem q432 : (Jvm.Cond.methodLink "RiddlePostLaw" (160 : Nat) ({ cls := "RiddlePost", name := "rememberedByAccount", desc := "()I" } : Jvm.MethodName)) ∈ lw_all := lw_g (lw_at lw_m2 134 rfl) rfl
theorem q433 : (Jvm.Cond.instanceMethod ({ cls := "RiddlePost", name := "rememberedByAccount", desc := "()I" } : Jvm.MethodName)) ∈ lw_all := lw_g (lw_at lw_m2 135 rfl) rfl
theorem q434 : (Jvm.Cond.selects "RiddlePost" ({ cls := "RiddlePost", name := "rememberedByAccount", desc := "()I" } : Jvm.MethodName) ({ cls := "RiddlePost", name := "rememberedByAccount", desc := "()I" } : Jvm.MethodName)) ∈ lw_all := lw_g (lw_at lw_m2 136 rfl) rfl
theorem q435 : (Jvm.Cond.code ({ cls := "RiddlePost", name := "rememberedByAccount", desc := "()I" } : Jvm.MethodName) prog_1_method_29_code (1 : Nat) (Option.some Jvm.ClassFile.FieldType.int)) ∈ lw_all := lw_g (lw_at lw_m2 137 rfl) rfl
theorem q436 : (Jvm.Cond.methodLink "RiddlePostLaw" (164 : Nat) ({ cls := "RiddlePost", name := "ticksUntilForgetting", desc := "()I" } : Jvm.MethodName)) ∈ lw_all := lw_g (lw_at lw_m2 138 rfl) rfl
theorem q437 : (Jvm.Cond.instanceMethod ({ cls := "RiddlePost", name := "ticksUntilForgetting", desc := "()I" } : Jvm.MethodName)) ∈ lw_all := lw_g (lw_at lw_m2 139 rfl) rfl
theorem q438 : (Jvm.Cond.selects "RiddlePost" ({ cls := "RiddlePost", name := "ticksUntilForgetting", desc := "()I" } : Jvm.MethodName) ({ cls := "RiddlePost", name := "ticksUntilForgetting", desc := "()I" } : Jvm.MethodName)) ∈ lw_all := lw_g (lw_at lw_m2 140 rfl) rfl
theorem q439 : (Jvm.Cond.code ({ cls := "RiddlePost", name := "ticksUntilForgetting", desc := "()I" } : Jvm.MethodName) prog_1_method_30_code (1 : Nat) (Option.some Jvm.ClassFile.FieldType.int)) ∈ lw_all := lw_g (lw_at lw_m2 141 rfl) rfl
theorem q440 : (Jvm.Cond.methodLink "RiddlePost" (179 : Nat) ({ cls := "java/util/PriorityQueue", name := "peek", desc := "()Ljava/lang/Object;" } : Jvm.MethodName)) ∈ lw_all := lw_g (lw_at lw_m2 142 rfl) rfl
theorem q441 : (Jvm.Cond.instanceMethod ({ cls := "java/util/PriorityQueue", name := "peek", desc := "()Ljava/lang/Object;" } : Jvm.MethodName)) ∈ lw_all := lw_g (lw_at lw_m2 143 rfl) rfl
theorem q442 : (Jvm.Cond.selects "java/util/PriorityQueue" ({ cls := "java/util/PriorityQueue", name := "peek", desc := "()Ljava/lang/Object;" } : Jvm.MethodName) ({ cls := "java/util/PriorityQueue", name := "peek", desc := "()Ljava/lang/Object;" } : Jvm.MethodName)) ∈ lw_all := lw_g (lw_at lw_m2 144 rfl) rfl
theorem q443 : (Jvm.Cond.code ({ cls := "java/util/PriorityQueue", name := "peek", desc := "()Ljava/lang/Object;" } : Jvm.MethodName) prog_57_method_15_code (1 : Nat) (Option.some (Jvm.ClassFile.FieldType.object "java/lang/Object"))) ∈ lw_all := lw_g (lw_at lw_m2 145 rfl) rfl
theorem q444 : (Jvm.Cond.classLink "RiddlePost" (135 : Nat) "RiddlePost$Note") ∈ lw_all := lw_g (lw_at lw_m2 146 rfl) rfl
theorem q445 : (Jvm.Cond.methodLink "RiddlePost" (158 : Nat) ({ cls := "RiddlePost", name := "left", desc := "(LRiddlePost$Note;)I" } : Jvm.MethodName)) ∈ lw_all := lw_g (lw_at lw_m2 147 rfl) rfl
theorem q446 : (Jvm.Cond.privateMethod ({ cls := "RiddlePost", name := "left", desc := "(LRiddlePost$Note;)I" } : Jvm.MethodName)) ∈ lw_tbl := lw_at lw_m2 148 rfl
theorem q447 : (Jvm.Cond.instanceMethod ({ cls := "RiddlePost", name := "left", desc := "(LRiddlePost$Note;)I" } : Jvm.MethodName)) ∈ lw_all := lw_g (lw_at lw_m2 149 rfl) rfl
theorem q448 : (Jvm.Cond.code ({ cls := "RiddlePost", name := "left", desc := "(LRiddlePost$Note;)I" } : Jvm.MethodName) prog_1_method_25_code (2 : Nat) (Option.some Jvm.ClassFile.FieldType.int)) ∈ lw_all := lw_g (lw_at lw_m2 150 rfl) rfl
theorem q449 : (Jvm.Cond.methodLink "RiddlePostLaw" (171 : Nat) ({ cls := "RiddlePost", name := "solved", desc := "()I" } : Jvm.MethodName)) ∈ lw_all := lw_g (lw_at lw_m2 151 rfl) rfl
theorem q450 : (Jvm.Cond.instanceMethod ({ cls := "RiddlePost", name := "solved", desc := "()I" } : Jvm.MethodName)) ∈ lw_all := lw_g (lw_at lw_m2 152 rfl) rfl
theorem q451 : (Jvm.Cond.selects "RiddlePost" ({ cls := "RiddlePost", name := "solved", desc := "()I" } : Jvm.MethodName) ({ cls := "RiddlePost", name := "solved", desc := "()I" } : Jvm.MethodName)) ∈ lw_all := lw_g (lw_at lw_m2 153 rfl) rfl
theorem q452 : (Jvm.Cond.code ({ cls := "RiddlePost", name := "solved", desc := "()I" } : Jvm.MethodName) prog_1_method_32_code (1 : Nat) (Option.some Jvm.ClassFile.FieldType.int)) ∈ lw_all := lw_g (lw_at lw_m2 154 rfl) rfl
theorem q453 : (Jvm.Cond.methodLink "RiddlePostLaw" (175 : Nat) ({ cls := "RiddlePost", name := "questions", desc := "()I" } : Jvm.MethodName)) ∈ lw_all := lw_g (lw_at lw_m2 155 rfl) rfl
theorem q454 : (Jvm.Cond.instanceMethod ({ cls := "RiddlePost", name := "questions", desc := "()I" } : Jvm.MethodName)) ∈ lw_all := lw_g (lw_at lw_m2 156 rfl) rfl
theorem q455 : (Jvm.Cond.selects "RiddlePost" ({ cls := "RiddlePost", name := "questions", desc := "()I" } : Jvm.MethodName) ({ cls := "RiddlePost", name := "questions", desc := "()I" } : Jvm.MethodName)) ∈ lw_all := lw_g (lw_at lw_m2 157 rfl) rfl
theorem q456 : (Jvm.Cond.code ({ cls := "RiddlePost", name := "questions", desc := "()I" } : Jvm.MethodName) prog_1_method_33_code (1 : Nat) (Option.some Jvm.ClassFile.FieldType.int)) ∈ lw_all := lw_g (lw_at lw_m2 158 rfl) rfl
theorem q457 : (Jvm.Cond.methodLink "RiddlePost" (195 : Nat) ({ cls := "RiddlePost$Post", name := "asked", desc := "()I" } : Jvm.MethodName)) ∈ lw_all := lw_g (lw_at lw_m2 159 rfl) rfl
theorem q458 : (Jvm.Cond.instanceMethod ({ cls := "RiddlePost$Post", name := "asked", desc := "()I" } : Jvm.MethodName)) ∈ lw_all := lw_g (lw_at lw_m2 160 rfl) rfl
theorem q459 : (Jvm.Cond.selects "RiddlePost$Post" ({ cls := "RiddlePost$Post", name := "asked", desc := "()I" } : Jvm.MethodName) ({ cls := "RiddlePost$Post", name := "asked", desc := "()I" } : Jvm.MethodName)) ∈ lw_all := lw_g (lw_at lw_m2 161 rfl) rfl
theorem q460 : (Jvm.Cond.code ({ cls := "RiddlePost$Post", name := "asked", desc := "()I" } : Jvm.MethodName) prog_5_method_5_code (3 : Nat) (Option.some Jvm.ClassFile.FieldType.int)) ∈ lw_all := lw_g (lw_at lw_m2 162 rfl) rfl
theorem q461 : (Jvm.Cond.methodLink "RiddlePostLaw" (179 : Nat) ({ cls := "RiddlePost", name := "hits", desc := "()I" } : Jvm.MethodName)) ∈ lw_all := lw_g (lw_at lw_m2 163 rfl) rfl
theorem q462 : (Jvm.Cond.instanceMethod ({ cls := "RiddlePost", name := "hits", desc := "()I" } : Jvm.MethodName)) ∈ lw_all := lw_g (lw_at lw_m2 164 rfl) rfl
theorem q463 : (Jvm.Cond.selects "RiddlePost" ({ cls := "RiddlePost", name := "hits", desc := "()I" } : Jvm.MethodName) ({ cls := "RiddlePost", name := "hits", desc := "()I" } : Jvm.MethodName)) ∈ lw_all := lw_g (lw_at lw_m2 165 rfl) rfl
theorem q464 : (Jvm.Cond.code ({ cls := "RiddlePost", name := "hits", desc := "()I" } : Jvm.MethodName) prog_1_method_34_code (1 : Nat) (Option.some Jvm.ClassFile.FieldType.int)) ∈ lw_all := lw_g (lw_at lw_m2 166 rfl) rfl
theorem q465 : (Jvm.Cond.methodLink "RiddlePostLaw" (186 : Nat) ({ cls := "RiddlePost", name := "meanQuestions", desc := "()D" } : Jvm.MethodName)) ∈ lw_all := lw_g (lw_at lw_m2 167 rfl) rfl
theorem q466 : (Jvm.Cond.instanceMethod ({ cls := "RiddlePost", name := "meanQuestions", desc := "()D" } : Jvm.MethodName)) ∈ lw_all := lw_g (lw_at lw_m2 168 rfl) rfl
theorem q467 : (Jvm.Cond.selects "RiddlePost" ({ cls := "RiddlePost", name := "meanQuestions", desc := "()D" } : Jvm.MethodName) ({ cls := "RiddlePost", name := "meanQuestions", desc := "()D" } : Jvm.MethodName)) ∈ lw_all := lw_g (lw_at lw_m2 169 rfl) rfl
theorem q468 : (Jvm.Cond.code ({ cls := "RiddlePost", name := "meanQuestions", desc := "()D" } : Jvm.MethodName) prog_1_method_36_code (1 : Nat) (Option.some Jvm.ClassFile.FieldType.double)) ∈ lw_all := lw_g (lw_at lw_m2 170 rfl) rfl
theorem q469 : (Jvm.Cond.methodLink "RiddlePostLaw" (203 : Nat) ({ cls := "RiddlePost", name := "clearText", desc := "()I" } : Jvm.MethodName)) ∈ lw_all := lw_g (lw_at lw_m2 171 rfl) rfl
theorem q470 : (Jvm.Cond.instanceMethod ({ cls := "RiddlePost", name := "clearText", desc := "()I" } : Jvm.MethodName)) ∈ lw_all := lw_g (lw_at lw_m2 172 rfl) rfl
theorem q471 : (Jvm.Cond.selects "RiddlePost" ({ cls := "RiddlePost", name := "clearText", desc := "()I" } : Jvm.MethodName) ({ cls := "RiddlePost", name := "clearText", desc := "()I" } : Jvm.MethodName)) ∈ lw_all := lw_g (lw_at lw_m2 173 rfl) rfl
theorem q472 : (Jvm.Cond.code ({ cls := "RiddlePost", name := "clearText", desc := "()I" } : Jvm.MethodName) prog_1_method_41_code (2 : Nat) (Option.some Jvm.ClassFile.FieldType.int)) ∈ lw_all := lw_g (lw_at lw_m2 174 rfl) rfl
theorem q473 : (Jvm.Cond.methodLink "RiddlePost" (216 : Nat) ({ cls := "java/lang/StringBuilder", name := "length", desc := "()I" } : Jvm.MethodName)) ∈ lw_all := lw_g (lw_at lw_m2 175 rfl) rfl
theorem q474 : (Jvm.Cond.instanceMethod ({ cls := "java/lang/StringBuilder", name := "length", desc := "()I" } : Jvm.MethodName)) ∈ lw_all := lw_g (lw_at lw_m2 176 rfl) rfl
theorem q475 : (Jvm.Cond.selects "java/lang/StringBuilder" ({ cls := "java/lang/StringBuilder", name := "length", desc := "()I" } : Jvm.MethodName) ({ cls := "java/lang/StringBuilder", name := "length", desc := "()I" } : Jvm.MethodName)) ∈ lw_all := lw_g (lw_at lw_m2 177 rfl) rfl
theorem q476 : (Jvm.Cond.code ({ cls := "java/lang/StringBuilder", name := "length", desc := "()I" } : Jvm.MethodName) prog_31_method_93_code (1 : Nat) (Option.some Jvm.ClassFile.FieldType.int)) ∈ lw_all := lw_g (lw_at lw_m2 178 rfl) rfl
theorem q477 : (Jvm.Cond.methodLink "java/lang/StringBuilder" (343 : Nat) ({ cls := "java/lang/AbstractStringBuilder", name := "length", desc := "()I" } : Jvm.MethodName)) ∈ lw_all := lw_g (lw_at lw_m2 179 rfl) rfl
theorem q478 : (Jvm.Cond.instanceMethod ({ cls := "java/lang/AbstractStringBuilder", name := "length", desc := "()I" } : Jvm.MethodName)) ∈ lw_all := lw_g (lw_at lw_m2 180 rfl) rfl
theorem q479 : (Jvm.Cond.code ({ cls := "java/lang/AbstractStringBuilder", name := "length", desc := "()I" } : Jvm.MethodName) prog_13_method_6_code (1 : Nat) (Option.some Jvm.ClassFile.FieldType.int)) ∈ lw_all := lw_g (lw_at lw_m2 181 rfl) rfl
theorem q480 : (Jvm.Cond.methodLink "RiddlePost" (223 : Nat) ({ cls := "java/lang/StringBuilder", name := "setLength", desc := "(I)V" } : Jvm.MethodName)) ∈ lw_all := lw_g (lw_at lw_m2 182 rfl) rfl
theorem q481 : (Jvm.Cond.instanceMethod ({ cls := "java/lang/StringBuilder", name := "setLength", desc := "(I)V" } : Jvm.MethodName)) ∈ lw_all := lw_g (lw_at lw_m2 183 rfl) rfl
theorem q482 : (Jvm.Cond.selects "java/lang/StringBuilder" ({ cls := "java/lang/StringBuilder", name := "setLength", desc := "(I)V" } : Jvm.MethodName) ({ cls := "java/lang/StringBuilder", name := "setLength", desc := "(I)V" } : Jvm.MethodName)) ∈ lw_all := lw_g (lw_at lw_m2 184 rfl) rfl
theorem q483 : (Jvm.Cond.code ({ cls := "java/lang/StringBuilder", name := "setLength", desc := "(I)V" } : Jvm.MethodName) prog_31_method_89_code (2 : Nat) (Option.none : Option Jvm.ClassFile.FieldType)) ∈ lw_all := lw_g (lw_at lw_m2 185 rfl) rfl
theorem q484 : (Jvm.Cond.methodLink "java/lang/StringBuilder" (333 : Nat) ({ cls := "java/lang/AbstractStringBuilder", name := "setLength", desc := "(I)V" } : Jvm.MethodName)) ∈ lw_all := lw_g (lw_at lw_m2 186 rfl) rfl
theorem q485 : (Jvm.Cond.instanceMethod ({ cls := "java/lang/AbstractStringBuilder", name := "setLength", desc := "(I)V" } : Jvm.MethodName)) ∈ lw_all := lw_g (lw_at lw_m2 187 rfl) rfl
theorem q486 : (Jvm.Cond.code ({ cls := "java/lang/AbstractStringBuilder", name := "setLength", desc := "(I)V" } : Jvm.MethodName) prog_13_method_13_code (2 : Nat) (Option.none : Option Jvm.ClassFile.FieldType)) ∈ lw_all := lw_g (lw_at lw_m2 188 rfl) rfl
theorem q487 : (Jvm.Cond.classLink "java/lang/AbstractStringBuilder" (129 : Nat) "java/lang/StringIndexOutOfBoundsException") ∈ lw_all := lw_g (lw_at lw_m2 189 rfl) rfl
theorem q488 : (Jvm.Cond.instantiable "java/lang/StringIndexOutOfBoundsException" (6 : Nat)) ∈ lw_all := lw_g (lw_at lw_m2 190 rfl) rfl
theorem q489 : (Jvm.Cond.methodLink "java/lang/AbstractStringBuilder" (131 : Nat) ({ cls := "java/lang/StringIndexOutOfBoundsException", name := "<init>", desc := "(I)V" } : Jvm.MethodName)) ∈ lw_all := lw_g (lw_at lw_m2 191 rfl) rfl
theorem q490 : (Jvm.Cond.instanceMethod ({ cls := "java/lang/StringIndexOutOfBoundsException", name := "<init>", desc := "(I)V" } : Jvm.MethodName)) ∈ lw_all := lw_g (lw_at lw_m2 192 rfl) rfl
theorem q491 : (Jvm.Cond.code ({ cls := "java/lang/StringIndexOutOfBoundsException", name := "<init>", desc := "(I)V" } : Jvm.MethodName) prog_32_method_3_code (2 : Nat) (Option.none : Option Jvm.ClassFile.FieldType)) ∈ lw_all := lw_g (lw_at lw_m2 193 rfl) rfl
theorem q492 : (Jvm.Cond.classLink "java/lang/StringIndexOutOfBoundsException" (10 : Nat) "java/lang/StringBuilder") ∈ lw_all := lw_g (lw_at lw_m2 194 rfl) rfl
theorem q493 : (Jvm.Cond.methodLink "java/lang/StringIndexOutOfBoundsException" (12 : Nat) ({ cls := "java/lang/StringBuilder", name := "<init>", desc := "()V" } : Jvm.MethodName)) ∈ lw_all := lw_g (lw_at lw_m2 195 rfl) rfl
theorem q494 : (Jvm.Cond.instanceMethod ({ cls := "java/lang/StringBuilder", name := "<init>", desc := "()V" } : Jvm.MethodName)) ∈ lw_all := lw_g (lw_at lw_m2 196 rfl) rfl
theorem q495 : (Jvm.Cond.code ({ cls := "java/lang/StringBuilder", name := "<init>", desc := "()V" } : Jvm.MethodName) prog_31_method_1_code (1 : Nat) (Option.none : Option Jvm.ClassFile.FieldType)) ∈ lw_all := lw_g (lw_at lw_m2 197 rfl) rfl
theorem q496 : (Jvm.Cond.stringRef "java/lang/StringIndexOutOfBoundsException" (13 : Nat) "String index out of range: ") ∈ lw_tbl := lw_at lw_m2 198 rfl
theorem q497 : (Jvm.Cond.methodLink "java/lang/StringIndexOutOfBoundsException" (15 : Nat) ({ cls := "java/lang/StringBuilder", name := "append", desc := "(Ljava/lang/String;)Ljava/lang/StringBuilder;" } : Jvm.MethodName)) ∈ lw_all := lw_g (lw_at lw_m2 199 rfl) rfl
theorem q498 : (Jvm.Cond.instanceMethod ({ cls := "java/lang/StringBuilder", name := "append", desc := "(Ljava/lang/String;)Ljava/lang/StringBuilder;" } : Jvm.MethodName)) ∈ lw_all := lw_g (lw_at lw_m2 200 rfl) rfl
theorem q499 : (Jvm.Cond.selects "java/lang/StringBuilder" ({ cls := "java/lang/StringBuilder", name := "append", desc := "(Ljava/lang/String;)Ljava/lang/StringBuilder;" } : Jvm.MethodName) ({ cls := "java/lang/StringBuilder", name := "append", desc := "(Ljava/lang/String;)Ljava/lang/StringBuilder;" } : Jvm.MethodName)) ∈ lw_all := lw_g (lw_at lw_m2 201 rfl) rfl
theorem q500 : (Jvm.Cond.code ({ cls := "java/lang/StringBuilder", name := "append", desc := "(Ljava/lang/String;)Ljava/lang/StringBuilder;" } : Jvm.MethodName) prog_31_method_7_code (2 : Nat) (Option.some (Jvm.ClassFile.FieldType.object "java/lang/StringBuilder"))) ∈ lw_all := lw_g (lw_at lw_m2 202 rfl) rfl
theorem q501 : (Jvm.Cond.methodLink "java/lang/StringBuilder" (29 : Nat) ({ cls := "java/lang/AbstractStringBuilder", name := "append", desc := "(Ljava/lang/String;)Ljava/lang/AbstractStringBuilder;" } : Jvm.MethodName)) ∈ lw_all := lw_g (lw_at lw_m2 203 rfl) rfl
theorem q502 : (Jvm.Cond.instanceMethod ({ cls := "java/lang/AbstractStringBuilder", name := "append", desc := "(Ljava/lang/String;)Ljava/lang/AbstractStringBuilder;" } : Jvm.MethodName)) ∈ lw_all := lw_g (lw_at lw_m2 204 rfl) rfl
theorem q503 : (Jvm.Cond.code ({ cls := "java/lang/AbstractStringBuilder", name := "append", desc := "(Ljava/lang/String;)Ljava/lang/AbstractStringBuilder;" } : Jvm.MethodName) prog_13_method_22_code (3 : Nat) (Option.some (Jvm.ClassFile.FieldType.object "java/lang/AbstractStringBuilder"))) ∈ lw_all := lw_g (lw_at lw_m2 205 rfl) rfl
theorem q504 : (Jvm.Cond.methodLink "java/lang/AbstractStringBuilder" (204 : Nat) ({ cls := "java/lang/AbstractStringBuilder", name := "appendNull", desc := "()Ljava/lang/AbstractStringBuilder;" } : Jvm.MethodName)) ∈ lw_all := lw_g (lw_at lw_m2 206 rfl) rfl
theorem q505 : (Jvm.Cond.privateMethod ({ cls := "java/lang/AbstractStringBuilder", name := "appendNull", desc := "()Ljava/lang/AbstractStringBuilder;" } : Jvm.MethodName)) ∈ lw_tbl := lw_at lw_m2 207 rfl
theorem q506 : (Jvm.Cond.instanceMethod ({ cls := "java/lang/AbstractStringBuilder", name := "appendNull", desc := "()Ljava/lang/AbstractStringBuilder;" } : Jvm.MethodName)) ∈ lw_all := lw_g (lw_at lw_m2 208 rfl) rfl
theorem q507 : (Jvm.Cond.code ({ cls := "java/lang/AbstractStringBuilder", name := "appendNull", desc := "()Ljava/lang/AbstractStringBuilder;" } : Jvm.MethodName) prog_13_method_26_code (3 : Nat) (Option.some (Jvm.ClassFile.FieldType.object "java/lang/AbstractStringBuilder"))) ∈ lw_all := lw_g (lw_at lw_m2 209 rfl) rfl
theorem q508 : (Jvm.Cond.methodLink "java/lang/AbstractStringBuilder" (100 : Nat) ({ cls := "java/lang/AbstractStringBuilder", name := "ensureCapacityInternal", desc := "(I)V" } : Jvm.MethodName)) ∈ lw_all := lw_g (lw_at lw_m2 210 rfl) rfl
theorem q509 : (Jvm.Cond.privateMethod ({ cls := "java/lang/AbstractStringBuilder", name := "ensureCapacityInternal", desc := "(I)V" } : Jvm.MethodName)) ∈ lw_tbl := lw_at lw_m2 211 rfl
theorem q510 : (Jvm.Cond.instanceMethod ({ cls := "java/lang/AbstractStringBuilder", name := "ensureCapacityInternal", desc := "(I)V" } : Jvm.MethodName)) ∈ lw_all := lw_g (lw_at lw_m2 212 rfl) rfl
theorem q511 : (Jvm.Cond.code ({ cls := "java/lang/AbstractStringBuilder", name := "ensureCapacityInternal", desc := "(I)V" } : Jvm.MethodName) prog_13_method_9_code (3 : Nat) (Option.none : Option Jvm.ClassFile.FieldType)) ∈ lw_all := lw_g (lw_at lw_m2 213 rfl) rfl
theorem q512 : (Jvm.Cond.methodLink "java/lang/AbstractStringBuilder" (104 : Nat) ({ cls := "java/lang/AbstractStringBuilder", name := "newCapacity", desc := "(I)I" } : Jvm.MethodName)) ∈ lw_all := lw_g (lw_at lw_m2 214 rfl) rfl
theorem q513 : (Jvm.Cond.privateMethod ({ cls := "java/lang/AbstractStringBuilder", name := "newCapacity", desc := "(I)I" } : Jvm.MethodName)) ∈ lw_tbl := lw_at lw_m2 215 rfl
theorem q514 : (Jvm.Cond.instanceMethod ({ cls := "java/lang/AbstractStringBuilder", name := "newCapacity", desc := "(I)I" } : Jvm.MethodName)) ∈ lw_all := lw_g (lw_at lw_m2 216 rfl) rfl
theorem q515 : (Jvm.Cond.code ({ cls := "java/lang/AbstractStringBuilder", name := "newCapacity", desc := "(I)I" } : Jvm.MethodName) prog_13_method_10_code (6 : Nat) (Option.some Jvm.ClassFile.FieldType.int)) ∈ lw_all := lw_g (lw_at lw_m2 217 rfl) rfl
theorem q516 : (Jvm.Cond.methodLink "java/lang/AbstractStringBuilder" (114 : Nat) ({ cls := "jdk/internal/util/ArraysSupport", name := "newLength", desc := "(III)I" } : Jvm.MethodName)) ∈ lw_all := lw_g (lw_at lw_m2 218 rfl) rfl
theorem q517 : (Jvm.Cond.static ({ cls := "jdk/internal/util/ArraysSupport", name := "newLength", desc := "(III)I" } : Jvm.MethodName)) ∈ lw_all := lw_g (lw_at lw_m2 219 rfl) rfl
theorem q518 : (Jvm.Cond.code ({ cls := "jdk/internal/util/ArraysSupport", name := "newLength", desc := "(III)I" } : Jvm.MethodName) prog_78_method_27_code (4 : Nat) (Option.some Jvm.ClassFile.FieldType.int)) ∈ lw_all := lw_g (lw_at lw_m2 220 rfl) rfl
theorem q519 : (Jvm.Cond.methodLink "jdk/internal/util/ArraysSupport" (194 : Nat) ({ cls := "java/lang/Math", name := "max", desc := "(II)I" } : Jvm.MethodName)) ∈ lw_all := lw_g (lw_at lw_m2 221 rfl) rfl
theorem q520 : (Jvm.Cond.static ({ cls := "java/lang/Math", name := "max", desc := "(II)I" } : Jvm.MethodName)) ∈ lw_all := lw_g (lw_at lw_m2 222 rfl) rfl
theorem q521 : (Jvm.Cond.code ({ cls := "java/lang/Math", name := "max", desc := "(II)I" } : Jvm.MethodName) prog_27_method_65_code (2 : Nat) (Option.some Jvm.ClassFile.FieldType.int)) ∈ lw_all := lw_g (lw_at lw_m2 223 rfl) rfl
theorem q522 : (Jvm.Cond.constant "jdk/internal/util/ArraysSupport" (200 : Nat) (2147483639 : Int32)) ∈ lw_all := lw_g (lw_at lw_m2 224 rfl) rfl
theorem q523 : (Jvm.Cond.methodLink "jdk/internal/util/ArraysSupport" (201 : Nat) ({ cls := "jdk/internal/util/ArraysSupport", name := "hugeLength", desc := "(II)I" } : Jvm.MethodName)) ∈ lw_all := lw_g (lw_at lw_m2 225 rfl) rfl
theorem q524 : (Jvm.Cond.static ({ cls := "jdk/internal/util/ArraysSupport", name := "hugeLength", desc := "(II)I" } : Jvm.MethodName)) ∈ lw_all := lw_g (lw_at lw_m2 226 rfl) rfl
theorem q525 : (Jvm.Cond.code ({ cls := "jdk/internal/util/ArraysSupport", name := "hugeLength", desc := "(II)I" } : Jvm.MethodName) prog_78_method_28_code (3 : Nat) (Option.some Jvm.ClassFile.FieldType.int)) ∈ lw_all := lw_g (lw_at lw_m2 227 rfl) rfl
theorem q526 : (Jvm.Cond.constant "java/lang/AbstractStringBuilder" (39 : Nat) (2147483647 : Int32)) ∈ lw_all := lw_g (lw_at lw_m2 228 rfl) rfl
theorem q527 : (Jvm.Cond.methodLink "java/lang/AbstractStringBuilder" (108 : Nat) ({ cls := "java/util/Arrays", name := "copyOf", desc := "([BI)[B" } : Jvm.MethodName)) ∈ lw_all := lw_g (lw_at lw_m2 229 rfl) rfl
theorem q528 : (Jvm.Cond.static ({ cls := "java/util/Arrays", name := "copyOf", desc := "([BI)[B" } : Jvm.MethodName)) ∈ lw_all := lw_g (lw_at lw_m2 230 rfl) rfl
theorem q529 : (Jvm.Cond.code ({ cls := "java/util/Arrays", name := "copyOf", desc := "([BI)[B" } : Jvm.MethodName) prog_47_method_121_code (3 : Nat) (Option.some (Jvm.ClassFile.FieldType.array Jvm.ClassFile.FieldType.byte))) ∈ lw_all := lw_g (lw_at lw_m2 231 rfl) rfl
theorem q530 : (Jvm.Cond.methodLink "java/util/Arrays" (310 : Nat) ({ cls := "[B", name := "clone", desc := "()Ljava/lang/Object;" } : Jvm.MethodName)) ∈ lw_all := lw_g (lw_at lw_m2 232 rfl) rfl
theorem q531 : (Jvm.Cond.sameMethod "[B" "java/lang/Object" "clone" "()Ljava/lang/Object;") ∈ lw_all := lw_g (lw_at lw_m2 233 rfl) rfl
theorem q532 : (Jvm.Cond.native ({ cls := "java/lang/Object", name := "clone", desc := "()Ljava/lang/Object;" } : Jvm.MethodName)) ∈ lw_all := lw_g (lw_at lw_m2 234 rfl) rfl
theorem q533 : (Jvm.Cond.instanceMethod ({ cls := "java/lang/Object", name := "clone", desc := "()Ljava/lang/Object;" } : Jvm.MethodName)) ∈ lw_all := lw_g (lw_at lw_m2 235 rfl) rfl
theorem q534 : (Jvm.Cond.selects "[B" ({ cls := "[B", name := "clone", desc := "()Ljava/lang/Object;" } : Jvm.MethodName) ({ cls := "java/lang/Object", name := "clone", desc := "()Ljava/lang/Object;" } : Jvm.MethodName)) ∈ lw_all := lw_g (lw_at lw_m2 236 rfl) rfl
theorem q535 : (Jvm.Cond.castable "[B" "java/lang/Cloneable") ∈ lw_tbl := lw_at lw_m2 237 rfl
theorem q536 : (Jvm.Cond.classLink "java/util/Arrays" (311 : Nat) "[B") ∈ lw_all := lw_g (lw_at lw_m2 238 rfl) rfl
theorem q537 : (Jvm.Cond.methodLink "java/util/Arrays" (304 : Nat) ({ cls := "java/lang/Math", name := "min", desc := "(II)I" } : Jvm.MethodName)) ∈ lw_all := lw_g (lw_at lw_m2 239 rfl) rfl
theorem q538 : (Jvm.Cond.static ({ cls := "java/lang/Math", name := "min", desc := "(II)I" } : Jvm.MethodName)) ∈ lw_all := lw_g (lw_at lw_m3 0 rfl) rfl
theorem q539 : (Jvm.Cond.code ({ cls := "java/lang/Math", name := "min", desc := "(II)I" } : Jvm.MethodName) prog_27_method_69_code (2 : Nat) (Option.some Jvm.ClassFile.FieldType.int)) ∈ lw_all := lw_g (lw_at lw_m3 1 rfl) rfl
theorem q540 : (Jvm.Cond.methodLink "java/util/Arrays" (150 : Nat) ({ cls := "java/lang/System", name := "arraycopy", desc := "(Ljava/lang/Object;ILjava/lang/Object;II)V" } : Jvm.MethodName)) ∈ lw_all := lw_g (lw_at lw_m3 2 rfl) rfl
theorem q541 : (Jvm.Cond.static ({ cls := "java/lang/System", name := "arraycopy", desc := "(Ljava/lang/Object;ILjava/lang/Object;II)V" } : Jvm.MethodName)) ∈ lw_all := lw_g (lw_at lw_m3 3 rfl) rfl
theorem q542 : (Jvm.Cond.native ({ cls := "java/lang/System", name := "arraycopy", desc := "(Ljava/lang/Object;ILjava/lang/Object;II)V" } : Jvm.MethodName)) ∈ lw_all := lw_g (lw_at lw_m3 4 rfl) rfl
theorem q543 : (Jvm.Cond.methodLink "java/lang/AbstractStringBuilder" (83 : Nat) ({ cls := "java/lang/AbstractStringBuilder", name := "isLatin1", desc := "()Z" } : Jvm.MethodName)) ∈ lw_all := lw_g (lw_at lw_m3 5 rfl) rfl
theorem q544 : (Jvm.Cond.instanceMethod ({ cls := "java/lang/AbstractStringBuilder", name := "isLatin1", desc := "()Z" } : Jvm.MethodName)) ∈ lw_all := lw_g (lw_at lw_m3 6 rfl) rfl
theorem q545 : (Jvm.Cond.sameMethod "java/lang/AbstractStringBuilder" "java/lang/AbstractStringBuilder" "isLatin1" "()Z") ∈ lw_all := lw_g (lw_at lw_m3 7 rfl) rfl
theorem q546 : (Jvm.Cond.selects "java/lang/StringBuilder" ({ cls := "java/lang/AbstractStringBuilder", name := "isLatin1", desc := "()Z" } : Jvm.MethodName) ({ cls := "java/lang/AbstractStringBuilder", name := "isLatin1", desc := "()Z" } : Jvm.MethodName)) ∈ lw_all := lw_g (lw_at lw_m3 8 rfl) rfl
theorem q547 : (Jvm.Cond.code ({ cls := "java/lang/AbstractStringBuilder", name := "isLatin1", desc := "()Z" } : Jvm.MethodName) prog_13_method_68_code (1 : Nat) (Option.some Jvm.ClassFile.FieldType.boolean)) ∈ lw_all := lw_g (lw_at lw_m3 9 rfl) rfl
theorem q548 : (Jvm.Cond.methodLink "java/lang/AbstractStringBuilder" (226 : Nat) ({ cls := "java/lang/StringUTF16", name := "putCharsAt", desc := "([BICCCC)I" } : Jvm.MethodName)) ∈ lw_all := lw_g (lw_at lw_m3 10 rfl) rfl
theorem q549 : (Jvm.Cond.static ({ cls := "java/lang/StringUTF16", name := "putCharsAt", desc := "([BICCCC)I" } : Jvm.MethodName)) ∈ lw_all := lw_g (lw_at lw_m3 11 rfl) rfl
theorem q550 : (Jvm.Cond.code ({ cls := "java/lang/StringUTF16", name := "putCharsAt", desc := "([BICCCC)I" } : Jvm.MethodName) prog_34_method_81_code (7 : Nat) (Option.some Jvm.ClassFile.FieldType.int)) ∈ lw_all := lw_g (lw_at lw_m3 12 rfl) rfl
theorem q551 : (Jvm.Cond.methodLink "java/lang/StringUTF16" (96 : Nat) ({ cls := "java/lang/StringUTF16", name := "checkBoundsBeginEnd", desc := "(II[B)V" } : Jvm.MethodName)) ∈ lw_all := lw_g (lw_at lw_m3 13 rfl) rfl
theorem q552 : (Jvm.Cond.static ({ cls := "java/lang/StringUTF16", name := "checkBoundsBeginEnd", desc := "(II[B)V" } : Jvm.MethodName)) ∈ lw_all := lw_g (lw_at lw_m3 14 rfl) rfl
theorem q553 : (Jvm.Cond.code ({ cls := "java/lang/StringUTF16", name := "checkBoundsBeginEnd", desc := "(II[B)V" } : Jvm.MethodName) prog_34_method_93_code (3 : Nat) (Option.none : Option Jvm.ClassFile.FieldType)) ∈ lw_all := lw_g (lw_at lw_m3 15 rfl) rfl
theorem q554 : (Jvm.Cond.methodLink "java/lang/StringUTF16" (48 : Nat) ({ cls := "java/lang/StringUTF16", name := "length", desc := "([B)I" } : Jvm.MethodName)) ∈ lw_all := lw_g (lw_at lw_m3 16 rfl) rfl
theorem q555 : (Jvm.Cond.static ({ cls := "java/lang/StringUTF16", name := "length", desc := "([B)I" } : Jvm.MethodName)) ∈ lw_all := lw_g (lw_at lw_m3 17 rfl) rfl
theorem q556 : (Jvm.Cond.code ({ cls := "java/lang/StringUTF16", name := "length", desc := "([B)I" } : Jvm.MethodName) prog_34_method_6_code (1 : Nat) (Option.some Jvm.ClassFile.FieldType.int)) ∈ lw_all := lw_g (lw_at lw_m3 18 rfl) rfl
theorem q557 : (Jvm.Cond.methodLink "java/lang/StringUTF16" (241 : Nat) ({ cls := "java/lang/String", name := "checkBoundsBeginEnd", desc := "(III)V" } : Jvm.MethodName)) ∈ lw_all := lw_g (lw_at lw_m3 19 rfl) rfl
theorem q558 : (Jvm.Cond.static ({ cls := "java/lang/String", name := "checkBoundsBeginEnd", desc := "(III)V" } : Jvm.MethodName)) ∈ lw_all := lw_g (lw_at lw_m3 20 rfl) rfl
theorem q559 : (Jvm.Cond.code ({ cls := "java/lang/String", name := "checkBoundsBeginEnd", desc := "(III)V" } : Jvm.MethodName) prog_30_method_158_code (3 : Nat) (Option.none : Option Jvm.ClassFile.FieldType)) ∈ lw_all := lw_g (lw_at lw_m3 21 rfl) rfl
theorem q560 : (Jvm.Cond.fieldLink "java/lang/String" (1053 : Nat) "jdk/internal/util/Preconditions" "SIOOBE_FORMATTER" "Ljava/util/function/BiFunction;") ∈ lw_all := lw_g (lw_at lw_m3 22 rfl) rfl
theorem q561 : (Jvm.Cond.laysStatic "jdk/internal/util/Preconditions" "SIOOBE_FORMATTER" "Ljava/util/function/BiFunction;") ∈ lw_tbl := lw_at lw_m3 23 rfl
theorem q562 : (Jvm.Cond.methodLink "java/lang/String" (1062 : Nat) ({ cls := "jdk/internal/util/Preconditions", name := "checkFromToIndex", desc := "(IIILjava/util/function/BiFunction;)I" } : Jvm.MethodName)) ∈ lw_all := lw_g (lw_at lw_m3 24 rfl) rfl
theorem q563 : (Jvm.Cond.static ({ cls := "jdk/internal/util/Preconditions", name := "checkFromToIndex", desc := "(IIILjava/util/function/BiFunction;)I" } : Jvm.MethodName)) ∈ lw_all := lw_g (lw_at lw_m3 25 rfl) rfl
theorem q564 : (Jvm.Cond.code ({ cls := "jdk/internal/util/Preconditions", name := "checkFromToIndex", desc := "(IIILjava/util/function/BiFunction;)I" } : Jvm.MethodName) prog_79_method_12_code (4 : Nat) (Option.some Jvm.ClassFile.FieldType.int)) ∈ lw_all := lw_g (lw_at lw_m3 26 rfl) rfl
theorem q565 : (Jvm.Cond.methodLink "java/lang/StringUTF16" (111 : Nat) ({ cls := "java/lang/StringUTF16", name := "putChar", desc := "([BII)V" } : Jvm.MethodName)) ∈ lw_all := lw_g (lw_at lw_m3 27 rfl) rfl
theorem q566 : (Jvm.Cond.static ({ cls := "java/lang/StringUTF16", name := "putChar", desc := "([BII)V" } : Jvm.MethodName)) ∈ lw_all := lw_g (lw_at lw_m3 28 rfl) rfl
theorem q567 : (Jvm.Cond.code ({ cls := "java/lang/StringUTF16", name := "putChar", desc := "([BII)V" } : Jvm.MethodName) prog_34_method_4_code (3 : Nat) (Option.none : Option Jvm.ClassFile.FieldType)) ∈ lw_all := lw_g (lw_at lw_m3 29 rfl) rfl
theorem q568 : (Jvm.Cond.fieldLink "java/lang/StringUTF16" (44 : Nat) "java/lang/StringUTF16" "$assertionsDisabled" "Z") ∈ lw_all := lw_g (lw_at lw_m3 30 rfl) rfl
theorem q569 : (Jvm.Cond.laysStatic "java/lang/StringUTF16" "$assertionsDisabled" "Z") ∈ lw_tbl := lw_at lw_m3 31 rfl
theorem q570 : (Jvm.Cond.fieldLink "java/lang/StringUTF16" (59 : Nat) "java/lang/StringUTF16" "HI_BYTE_SHIFT" "I") ∈ lw_all := lw_g (lw_at lw_m3 32 rfl) rfl
theorem q571 : (Jvm.Cond.laysStatic "java/lang/StringUTF16" "HI_BYTE_SHIFT" "I") ∈ lw_tbl := lw_at lw_m3 33 rfl
theorem q572 : (Jvm.Cond.fieldLink "java/lang/StringUTF16" (63 : Nat) "java/lang/StringUTF16" "LO_BYTE_SHIFT" "I") ∈ lw_all := lw_g (lw_at lw_m3 34 rfl) rfl
theorem q573 : (Jvm.Cond.laysStatic "java/lang/StringUTF16" "LO_BYTE_SHIFT" "I") ∈ lw_tbl := lw_at lw_m3 35 rfl
theorem q574 : (Jvm.Cond.methodLink "java/lang/AbstractStringBuilder" (32 : Nat) ({ cls := "java/lang/String", name := "length", desc := "()I" } : Jvm.MethodName)) ∈ lw_all := lw_g (lw_at lw_m3 36 rfl) rfl
theorem q575 : (Jvm.Cond.instanceMethod ({ cls := "java/lang/String", name := "length", desc := "()I" } : Jvm.MethodName)) ∈ lw_all := lw_g (lw_at lw_m3 37 rfl) rfl
theorem q576 : (Jvm.Cond.selects "java/lang/String" ({ cls := "java/lang/String", name := "length", desc := "()I" } : Jvm.MethodName) ({ cls := "java/lang/String", name := "length", desc := "()I" } : Jvm.MethodName)) ∈ lw_all := lw_g (lw_at lw_m3 38 rfl) rfl
theorem q577 : (Jvm.Cond.code ({ cls := "java/lang/String", name := "length", desc := "()I" } : Jvm.MethodName) prog_30_method_54_code (1 : Nat) (Option.some Jvm.ClassFile.FieldType.int)) ∈ lw_all := lw_g (lw_at lw_m3 39 rfl) rfl
theorem q578 : (Jvm.Cond.methodLink "java/lang/String" (335 : Nat) ({ cls := "java/lang/String", name := "coder", desc := "()B" } : Jvm.MethodName)) ∈ lw_all := lw_g (lw_at lw_m3 40 rfl) rfl
theorem q579 : (Jvm.Cond.instanceMethod ({ cls := "java/lang/String", name := "coder", desc := "()B" } : Jvm.MethodName)) ∈ lw_all := lw_g (lw_at lw_m3 41 rfl) rfl
theorem q580 : (Jvm.Cond.selects "java/lang/String" ({ cls := "java/lang/String", name := "coder", desc := "()B" } : Jvm.MethodName) ({ cls := "java/lang/String", name := "coder", desc := "()B" } : Jvm.MethodName)) ∈ lw_all := lw_g (lw_at lw_m3 42 rfl) rfl
theorem q581 : (Jvm.Cond.code ({ cls := "java/lang/String", name := "coder", desc := "()B" } : Jvm.MethodName) prog_30_method_152_code (1 : Nat) (Option.some Jvm.ClassFile.FieldType.byte)) ∈ lw_all := lw_g (lw_at lw_m3 43 rfl) rfl
theorem q582 : (Jvm.Cond.fieldLink "java/lang/String" (38 : Nat) "java/lang/String" "COMPACT_STRINGS" "Z") ∈ lw_all := lw_g (lw_at lw_m3 44 rfl) rfl
theorem q583 : (Jvm.Cond.methodLink "java/lang/AbstractStringBuilder" (208 : Nat) ({ cls := "java/lang/AbstractStringBuilder", name := "putStringAt", desc := "(ILjava/lang/String;)V" } : Jvm.MethodName)) ∈ lw_all := lw_g (lw_at lw_m3 45 rfl) rfl
theorem q584 : (Jvm.Cond.privateMethod ({ cls := "java/lang/AbstractStringBuilder", name := "putStringAt", desc := "(ILjava/lang/String;)V" } : Jvm.MethodName)) ∈ lw_tbl := lw_at lw_m3 46 rfl
theorem q585 : (Jvm.Cond.instanceMethod ({ cls := "java/lang/AbstractStringBuilder", name := "putStringAt", desc := "(ILjava/lang/String;)V" } : Jvm.MethodName)) ∈ lw_all := lw_g (lw_at lw_m3 47 rfl) rfl
theorem q586 : (Jvm.Cond.code ({ cls := "java/lang/AbstractStringBuilder", name := "putStringAt", desc := "(ILjava/lang/String;)V" } : Jvm.MethodName) prog_13_method_73_code (3 : Nat) (Option.none : Option Jvm.ClassFile.FieldType)) ∈ lw_all := lw_g (lw_at lw_m3 48 rfl) rfl
theorem q587 : (Jvm.Cond.methodLink "java/lang/AbstractStringBuilder" (397 : Nat) ({ cls := "java/lang/AbstractStringBuilder", name := "inflateIfNeededFor", desc := "(Ljava/lang/String;)V" } : Jvm.MethodName)) ∈ lw_all := lw_g (lw_at lw_m3 49 rfl) rfl
theorem q588 : (Jvm.Cond.privateMethod ({ cls := "java/lang/AbstractStringBuilder", name := "inflateIfNeededFor", desc := "(Ljava/lang/String;)V" } : Jvm.MethodName)) ∈ lw_tbl := lw_at lw_m3 50 rfl
theorem q589 : (Jvm.Cond.instanceMethod ({ cls := "java/lang/AbstractStringBuilder", name := "inflateIfNeededFor", desc := "(Ljava/lang/String;)V" } : Jvm.MethodName)) ∈ lw_all := lw_g (lw_at lw_m3 51 rfl) rfl
theorem q590 : (Jvm.Cond.code ({ cls := "java/lang/AbstractStringBuilder", name := "inflateIfNeededFor", desc := "(Ljava/lang/String;)V" } : Jvm.MethodName) prog_13_method_71_code (2 : Nat) (Option.none : Option Jvm.ClassFile.FieldType)) ∈ lw_all := lw_g (lw_at lw_m3 52 rfl) rfl
theorem q591 : (Jvm.Cond.methodLink "java/lang/AbstractStringBuilder" (40 : Nat) ({ cls := "java/lang/String", name := "coder", desc := "()B" } : Jvm.MethodName)) ∈ lw_all := lw_g (lw_at lw_m3 53 rfl) rfl
theorem q592 : (Jvm.Cond.methodLink "java/lang/AbstractStringBuilder" (195 : Nat) ({ cls := "java/lang/AbstractStringBuilder", name := "inflate", desc := "()V" } : Jvm.MethodName)) ∈ lw_all := lw_g (lw_at lw_m3 54 rfl) rfl
theorem q593 : (Jvm.Cond.privateMethod ({ cls := "java/lang/AbstractStringBuilder", name := "inflate", desc := "()V" } : Jvm.MethodName)) ∈ lw_tbl := lw_at lw_m3 55 rfl
theorem q594 : (Jvm.Cond.instanceMethod ({ cls := "java/lang/AbstractStringBuilder", name := "inflate", desc := "()V" } : Jvm.MethodName)) ∈ lw_all := lw_g (lw_at lw_m3 56 rfl) rfl
theorem q595 : (Jvm.Cond.code ({ cls := "java/lang/AbstractStringBuilder", name := "inflate", desc := "()V" } : Jvm.MethodName) prog_13_method_11_code (2 : Nat) (Option.none : Option Jvm.ClassFile.FieldType)) ∈ lw_all := lw_g (lw_at lw_m3 57 rfl) rfl
theorem q596 : (Jvm.Cond.methodLink "java/lang/AbstractStringBuilder" (125 : Nat) ({ cls := "java/lang/StringLatin1", name := "inflate", desc := "([BI[BII)V" } : Jvm.MethodName)) ∈ lw_all := lw_g (lw_at lw_m3 58 rfl) rfl
theorem q597 : (Jvm.Cond.static ({ cls := "java/lang/StringLatin1", name := "inflate", desc := "([BI[BII)V" } : Jvm.MethodName)) ∈ lw_all := lw_g (lw_at lw_m3 59 rfl) rfl
theorem q598 : (Jvm.Cond.code ({ cls := "java/lang/StringLatin1", name := "inflate", desc := "([BI[BII)V" } : Jvm.MethodName) prog_33_method_50_code (5 : Nat) (Option.none : Option Jvm.ClassFile.FieldType)) ∈ lw_all := lw_g (lw_at lw_m3 60 rfl) rfl
theorem q599 : (Jvm.Cond.methodLink "java/lang/StringLatin1" (240 : Nat) ({ cls := "java/lang/StringUTF16", name := "inflate", desc := "([BI[BII)V" } : Jvm.MethodName)) ∈ lw_all := lw_g (lw_at lw_m3 61 rfl) rfl
theorem q600 : (Jvm.Cond.static ({ cls := "java/lang/StringUTF16", name := "inflate", desc := "([BI[BII)V" } : Jvm.MethodName)) ∈ lw_all := lw_g (lw_at lw_m3 62 rfl) rfl
theorem q601 : (Jvm.Cond.code ({ cls := "java/lang/StringUTF16", name := "inflate", desc := "([BI[BII)V" } : Jvm.MethodName) prog_34_method_86_code (6 : Nat) (Option.none : Option Jvm.ClassFile.FieldType)) ∈ lw_all := lw_g (lw_at lw_m3 63 rfl) rfl
theorem q602 : (Jvm.Cond.methodLink "java/lang/StringUTF16" (173 : Nat) ({ cls := "java/lang/StringUTF16", name := "checkBoundsOffCount", desc := "(II[B)V" } : Jvm.MethodName)) ∈ lw_all := lw_g (lw_at lw_m3 64 rfl) rfl
theorem q603 : (Jvm.Cond.static ({ cls := "java/lang/StringUTF16", name := "checkBoundsOffCount", desc := "(II[B)V" } : Jvm.MethodName)) ∈ lw_all := lw_g (lw_at lw_m3 65 rfl) rfl
theorem q604 : (Jvm.Cond.code ({ cls := "java/lang/StringUTF16", name := "checkBoundsOffCount", desc := "(II[B)V" } : Jvm.MethodName) prog_34_method_94_code (3 : Nat) (Option.none : Option Jvm.ClassFile.FieldType)) ∈ lw_all := lw_g (lw_at lw_m3 66 rfl) rfl
theorem q605 : (Jvm.Cond.methodLink "java/lang/StringUTF16" (419 : Nat) ({ cls := "java/lang/String", name := "checkBoundsOffCount", desc := "(III)I" } : Jvm.MethodName)) ∈ lw_all := lw_g (lw_at lw_m3 67 rfl) rfl
theorem q606 : (Jvm.Cond.static ({ cls := "java/lang/String", name := "checkBoundsOffCount", desc := "(III)I" } : Jvm.MethodName)) ∈ lw_all := lw_g (lw_at lw_m3 68 rfl) rfl
theorem q607 : (Jvm.Cond.code ({ cls := "java/lang/String", name := "checkBoundsOffCount", desc := "(III)I" } : Jvm.MethodName) prog_30_method_157_code (3 : Nat) (Option.some Jvm.ClassFile.FieldType.int)) ∈ lw_all := lw_g (lw_at lw_m3 69 rfl) rfl
theorem q608 : (Jvm.Cond.methodLink "java/lang/String" (1065 : Nat) ({ cls := "jdk/internal/util/Preconditions", name := "checkFromIndexSize", desc := "(IIILjava/util/function/BiFunction;)I" } : Jvm.MethodName)) ∈ lw_all := lw_g (lw_at lw_m3 70 rfl) rfl
theorem q609 : (Jvm.Cond.static ({ cls := "jdk/internal/util/Preconditions", name := "checkFromIndexSize", desc := "(IIILjava/util/function/BiFunction;)I" } : Jvm.MethodName)) ∈ lw_all := lw_g (lw_at lw_m3 71 rfl) rfl
theorem q610 : (Jvm.Cond.code ({ cls := "jdk/internal/util/Preconditions", name := "checkFromIndexSize", desc := "(IIILjava/util/function/BiFunction;)I" } : Jvm.MethodName) prog_79_method_13_code (4 : Nat) (Option.some Jvm.ClassFile.FieldType.int)) ∈ lw_all := lw_g (lw_at lw_m3 72 rfl) rfl
theorem q611 : (Jvm.Cond.methodLink "java/lang/AbstractStringBuilder" (399 : Nat) ({ cls := "java/lang/String", name := "getBytes", desc := "([BIB)V" } : Jvm.MethodName)) ∈ lw_all := lw_g (lw_at lw_m3 73 rfl) rfl
theorem q612 : (Jvm.Cond.instanceMethod ({ cls := "java/lang/String", name := "getBytes", desc := "([BIB)V" } : Jvm.MethodName)) ∈ lw_all := lw_g (lw_at lw_m3 74 rfl) rfl
theorem q613 : (Jvm.Cond.selects "java/lang/String" ({ cls := "java/lang/String", name := "getBytes", desc := "([BIB)V" } : Jvm.MethodName) ({ cls := "java/lang/String", name := "getBytes", desc := "([BIB)V" } : Jvm.MethodName)) ∈ lw_all := lw_g (lw_at lw_m3 75 rfl) rfl
theorem q614 : (Jvm.Cond.code ({ cls := "java/lang/String", name := "getBytes", desc := "([BIB)V" } : Jvm.MethodName) prog_30_method_147_code (4 : Nat) (Option.none : Option Jvm.ClassFile.FieldType)) ∈ lw_all := lw_g (lw_at lw_m3 76 rfl) rfl
theorem q615 : (Jvm.Cond.methodLink "java/lang/String" (212 : Nat) ({ cls := "java/lang/System", name := "arraycopy", desc := "(Ljava/lang/Object;ILjava/lang/Object;II)V" } : Jvm.MethodName)) ∈ lw_all := lw_g (lw_at lw_m3 77 rfl) rfl
theorem q616 : (Jvm.Cond.methodLink "java/lang/String" (106 : Nat) ({ cls := "java/lang/StringLatin1", name := "inflate", desc := "([BI[BII)V" } : Jvm.MethodName)) ∈ lw_all := lw_g (lw_at lw_m3 78 rfl) rfl
theorem q617 : (Jvm.Cond.methodLink "java/lang/StringIndexOutOfBoundsException" (19 : Nat) ({ cls := "java/lang/StringBuilder", name := "append", desc := "(I)Ljava/lang/StringBuilder;" } : Jvm.MethodName)) ∈ lw_all := lw_g (lw_at lw_m3 79 rfl) rfl
theorem q618 : (Jvm.Cond.instanceMethod ({ cls := "java/lang/StringBuilder", name := "append", desc := "(I)Ljava/lang/StringBuilder;" } : Jvm.MethodName)) ∈ lw_all := lw_g (lw_at lw_m3 80 rfl) rfl
theorem q619 : (Jvm.Cond.selects "java/lang/StringBuilder" ({ cls := "java/lang/StringBuilder", name := "append", desc := "(I)Ljava/lang/StringBuilder;" } : Jvm.MethodName) ({ cls := "java/lang/StringBuilder", name := "append", desc := "(I)Ljava/lang/StringBuilder;" } : Jvm.MethodName)) ∈ lw_all := lw_g (lw_at lw_m3 81 rfl) rfl
theorem q620 : (Jvm.Cond.code ({ cls := "java/lang/StringBuilder", name := "append", desc := "(I)Ljava/lang/StringBuilder;" } : Jvm.MethodName) prog_31_method_15_code (2 : Nat) (Option.some (Jvm.ClassFile.FieldType.object "java/lang/StringBuilder"))) ∈ lw_all := lw_g (lw_at lw_m3 82 rfl) rfl
theorem q621 : (Jvm.Cond.methodLink "java/lang/StringBuilder" (53 : Nat) ({ cls := "java/lang/AbstractStringBuilder", name := "append", desc := "(I)Ljava/lang/AbstractStringBuilder;" } : Jvm.MethodName)) ∈ lw_all := lw_g (lw_at lw_m3 83 rfl) rfl
theorem q622 : (Jvm.Cond.instanceMethod ({ cls := "java/lang/AbstractStringBuilder", name := "append", desc := "(I)Ljava/lang/AbstractStringBuilder;" } : Jvm.MethodName)) ∈ lw_all := lw_g (lw_at lw_m3 84 rfl) rfl
theorem q623 : (Jvm.Cond.code ({ cls := "java/lang/AbstractStringBuilder", name := "append", desc := "(I)Ljava/lang/AbstractStringBuilder;" } : Jvm.MethodName) prog_13_method_32_code (4 : Nat) (Option.some (Jvm.ClassFile.FieldType.object "java/lang/AbstractStringBuilder"))) ∈ lw_all := lw_g (lw_at lw_m3 85 rfl) rfl
theorem q624 : (Jvm.Cond.methodLink "java/lang/AbstractStringBuilder" (245 : Nat) ({ cls := "java/lang/Integer", name := "stringSize", desc := "(I)I" } : Jvm.MethodName)) ∈ lw_all := lw_g (lw_at lw_m3 86 rfl) rfl
theorem q625 : (Jvm.Cond.static ({ cls := "java/lang/Integer", name := "stringSize", desc := "(I)I" } : Jvm.MethodName)) ∈ lw_all := lw_g (lw_at lw_m3 87 rfl) rfl
theorem q626 : (Jvm.Cond.code ({ cls := "java/lang/Integer", name := "stringSize", desc := "(I)I" } : Jvm.MethodName) prog_23_method_13_code (4 : Nat) (Option.some Jvm.ClassFile.FieldType.int)) ∈ lw_all := lw_g (lw_at lw_m3 88 rfl) rfl
theorem q627 : (Jvm.Cond.methodLink "java/lang/AbstractStringBuilder" (248 : Nat) ({ cls := "java/lang/Integer", name := "getChars", desc := "(II[B)I" } : Jvm.MethodName)) ∈ lw_all := lw_g (lw_at lw_m3 89 rfl) rfl
theorem q628 : (Jvm.Cond.static ({ cls := "java/lang/Integer", name := "getChars", desc := "(II[B)I" } : Jvm.MethodName)) ∈ lw_all := lw_g (lw_at lw_m3 90 rfl) rfl
theorem q629 : (Jvm.Cond.code ({ cls := "java/lang/Integer", name := "getChars", desc := "(II[B)I" } : Jvm.MethodName) prog_23_method_12_code (7 : Nat) (Option.some Jvm.ClassFile.FieldType.int)) ∈ lw_all := lw_g (lw_at lw_m3 91 rfl) rfl
theorem q630 : (Jvm.Cond.fieldLink "java/lang/Integer" (83 : Nat) "java/lang/Integer" "DigitOnes" "[B") ∈ lw_all := lw_g (lw_at lw_m3 92 rfl) rfl
theorem q631 : (Jvm.Cond.laysStatic "java/lang/Integer" "DigitOnes" "[B") ∈ lw_tbl := lw_at lw_m3 93 rfl
theorem q632 : (Jvm.Cond.fieldLink "java/lang/Integer" (87 : Nat) "java/lang/Integer" "DigitTens" "[B") ∈ lw_all := lw_g (lw_at lw_m3 94 rfl) rfl
theorem q633 : (Jvm.Cond.laysStatic "java/lang/Integer" "DigitTens" "[B") ∈ lw_tbl := lw_at lw_m3 95 rfl
theorem q634 : (Jvm.Cond.methodLink "java/lang/AbstractStringBuilder" (251 : Nat) ({ cls := "java/lang/StringUTF16", name := "getChars", desc := "(III[B)I" } : Jvm.MethodName)) ∈ lw_all := lw_g (lw_at lw_m3 96 rfl) rfl
theorem q635 : (Jvm.Cond.static ({ cls := "java/lang/StringUTF16", name := "getChars", desc := "(III[B)I" } : Jvm.MethodName)) ∈ lw_all := lw_g (lw_at lw_m3 97 rfl) rfl
theorem q636 : (Jvm.Cond.code ({ cls := "java/lang/StringUTF16", name := "getChars", desc := "(III[B)I" } : Jvm.MethodName) prog_34_method_77_code (5 : Nat) (Option.some Jvm.ClassFile.FieldType.int)) ∈ lw_all := lw_g (lw_at lw_m3 98 rfl) rfl
theorem q637 : (Jvm.Cond.methodLink "java/lang/StringUTF16" (393 : Nat) ({ cls := "java/lang/StringUTF16", name := "getChars", desc := "(II[B)I" } : Jvm.MethodName)) ∈ lw_all := lw_g (lw_at lw_m3 99 rfl) rfl
theorem q638 : (Jvm.Cond.static ({ cls := "java/lang/StringUTF16", name := "getChars", desc := "(II[B)I" } : Jvm.MethodName)) ∈ lw_all := lw_g (lw_at lw_m3 100 rfl) rfl
theorem q639 : (Jvm.Cond.code ({ cls := "java/lang/StringUTF16", name := "getChars", desc := "(II[B)I" } : Jvm.MethodName) prog_34_method_89_code (7 : Nat) (Option.some Jvm.ClassFile.FieldType.int)) ∈ lw_all := lw_g (lw_at lw_m3 101 rfl) rfl
theorem q640 : (Jvm.Cond.fieldLink "java/lang/StringUTF16" (403 : Nat) "java/lang/Integer" "DigitOnes" "[B") ∈ lw_all := lw_g (lw_at lw_m3 102 rfl) rfl
theorem q641 : (Jvm.Cond.fieldLink "java/lang/StringUTF16" (407 : Nat) "java/lang/Integer" "DigitTens" "[B") ∈ lw_all := lw_g (lw_at lw_m3 103 rfl) rfl
theorem q642 : (Jvm.Cond.methodLink "java/lang/StringIndexOutOfBoundsException" (22 : Nat) ({ cls := "java/lang/StringBuilder", name := "toString", desc := "()Ljava/lang/String;" } : Jvm.MethodName)) ∈ lw_all := lw_g (lw_at lw_m3 104 rfl) rfl
theorem q643 : (Jvm.Cond.instanceMethod ({ cls := "java/lang/StringBuilder", name := "toString", desc := "()Ljava/lang/String;" } : Jvm.MethodName)) ∈ lw_all := lw_g (lw_at lw_m3 105 rfl) rfl
theorem q644 : (Jvm.Cond.selects "java/lang/StringBuilder" ({ cls := "java/lang/StringBuilder", name := "toString", desc := "()Ljava/lang/String;" } : Jvm.MethodName) ({ cls := "java/lang/StringBuilder", name := "toString", desc := "()Ljava/lang/String;" } : Jvm.MethodName)) ∈ lw_all := lw_g (lw_at lw_m3 106 rfl) rfl
theorem q645 : (Jvm.Cond.code ({ cls := "java/lang/StringBuilder", name := "toString", desc := "()Ljava/lang/String;" } : Jvm.MethodName) prog_31_method_42_code (1 : Nat) (Option.some (Jvm.ClassFile.FieldType.object "java/lang/String"))) ∈ lw_all := lw_g (lw_at lw_m3 107 rfl) rfl
theorem q646 : (Jvm.Cond.classLink "java/lang/StringBuilder" (18 : Nat) "java/lang/String") ∈ lw_all := lw_g (lw_at lw_m3 108 rfl) rfl
theorem q647 : (Jvm.Cond.instantiable "java/lang/String" (4 : Nat)) ∈ lw_all := lw_g (lw_at lw_m3 109 rfl) rfl
theorem q648 : (Jvm.Cond.methodLink "java/lang/StringBuilder" (137 : Nat) ({ cls := "java/lang/String", name := "<init>", desc := "(Ljava/lang/StringBuilder;)V" } : Jvm.MethodName)) ∈ lw_all := lw_g (lw_at lw_m3 110 rfl) rfl
theorem q649 : (Jvm.Cond.instanceMethod ({ cls := "java/lang/String", name := "<init>", desc := "(Ljava/lang/StringBuilder;)V" } : Jvm.MethodName)) ∈ lw_all := lw_g (lw_at lw_m3 111 rfl) rfl
theorem q650 : (Jvm.Cond.code ({ cls := "java/lang/String", name := "<init>", desc := "(Ljava/lang/StringBuilder;)V" } : Jvm.MethodName) prog_30_method_53_code (2 : Nat) (Option.none : Option Jvm.ClassFile.FieldType)) ∈ lw_all := lw_g (lw_at lw_m3 112 rfl) rfl
theorem q651 : (Jvm.Cond.methodLink "java/lang/String" (489 : Nat) ({ cls := "java/lang/String", name := "<init>", desc := "(Ljava/lang/AbstractStringBuilder;Ljava/lang/Void;)V" } : Jvm.MethodName)) ∈ lw_all := lw_g (lw_at lw_m3 113 rfl) rfl
theorem q652 : (Jvm.Cond.instanceMethod ({ cls := "java/lang/String", name := "<init>", desc := "(Ljava/lang/AbstractStringBuilder;Ljava/lang/Void;)V" } : Jvm.MethodName)) ∈ lw_all := lw_g (lw_at lw_m3 114 rfl) rfl
theorem q653 : (Jvm.Cond.code ({ cls := "java/lang/String", name := "<init>", desc := "(Ljava/lang/AbstractStringBuilder;Ljava/lang/Void;)V" } : Jvm.MethodName) prog_30_method_150_code (5 : Nat) (Option.none : Option Jvm.ClassFile.FieldType)) ∈ lw_all := lw_g (lw_at lw_m3 115 rfl) rfl
theorem q654 : (Jvm.Cond.methodLink "java/lang/String" (1 : Nat) ({ cls := "java/lang/Object", name := "<init>", desc := "()V" } : Jvm.MethodName)) ∈ lw_all := lw_g (lw_at lw_m3 116 rfl) rfl
theorem q655 : (Jvm.Cond.methodLink "java/lang/String" (552 : Nat) ({ cls := "java/lang/AbstractStringBuilder", name := "getValue", desc := "()[B" } : Jvm.MethodName)) ∈ lw_all := lw_g (lw_at lw_m3 117 rfl) rfl
theorem q656 : (Jvm.Cond.instanceMethod ({ cls := "java/lang/AbstractStringBuilder", name := "getValue", desc := "()[B" } : Jvm.MethodName)) ∈ lw_all := lw_g (lw_at lw_m3 118 rfl) rfl
theorem q657 : (Jvm.Cond.sameMethod "java/lang/AbstractStringBuilder" "java/lang/AbstractStringBuilder" "getValue" "()[B") ∈ lw_all := lw_g (lw_at lw_m3 119 rfl) rfl
theorem q658 : (Jvm.Cond.selects "java/lang/StringBuilder" ({ cls := "java/lang/AbstractStringBuilder", name := "getValue", desc := "()[B" } : Jvm.MethodName) ({ cls := "java/lang/AbstractStringBuilder", name := "getValue", desc := "()[B" } : Jvm.MethodName)) ∈ lw_all := lw_g (lw_at lw_m3 120 rfl) rfl
theorem q659 : (Jvm.Cond.code ({ cls := "java/lang/AbstractStringBuilder", name := "getValue", desc := "()[B" } : Jvm.MethodName) prog_13_method_64_code (1 : Nat) (Option.some (Jvm.ClassFile.FieldType.array Jvm.ClassFile.FieldType.byte))) ∈ lw_all := lw_g (lw_at lw_m3 121 rfl) rfl
theorem q660 : (Jvm.Cond.methodLink "java/lang/String" (549 : Nat) ({ cls := "java/lang/AbstractStringBuilder", name := "length", desc := "()I" } : Jvm.MethodName)) ∈ lw_all := lw_g (lw_at lw_m3 122 rfl) rfl
theorem q661 : (Jvm.Cond.methodLink "java/lang/String" (1047 : Nat) ({ cls := "java/lang/AbstractStringBuilder", name := "isLatin1", desc := "()Z" } : Jvm.MethodName)) ∈ lw_all := lw_g (lw_at lw_m3 123 rfl) rfl
theorem q662 : (Jvm.Cond.methodLink "java/lang/String" (54 : Nat) ({ cls := "java/util/Arrays", name := "copyOfRange", desc := "([BII)[B" } : Jvm.MethodName)) ∈ lw_all := lw_g (lw_at lw_m3 124 rfl) rfl
theorem q663 : (Jvm.Cond.static ({ cls := "java/util/Arrays", name := "copyOfRange", desc := "([BII)[B" } : Jvm.MethodName)) ∈ lw_all := lw_g (lw_at lw_m3 125 rfl) rfl
theorem q664 : (Jvm.Cond.code ({ cls := "java/util/Arrays", name := "copyOfRange", desc := "([BII)[B" } : Jvm.MethodName) prog_47_method_132_code (3 : Nat) (Option.some (Jvm.ClassFile.FieldType.array Jvm.ClassFile.FieldType.byte))) ∈ lw_all := lw_g (lw_at lw_m3 126 rfl) rfl
theorem q665 : (Jvm.Cond.methodLink "java/util/Arrays" (339 : Nat) ({ cls := "java/util/Arrays", name := "copyOfRangeByte", desc := "([BII)[B" } : Jvm.MethodName)) ∈ lw_all := lw_g (lw_at lw_m3 127 rfl) rfl
theorem q666 : (Jvm.Cond.static ({ cls := "java/util/Arrays", name := "copyOfRangeByte", desc := "([BII)[B" } : Jvm.MethodName)) ∈ lw_all := lw_g (lw_at lw_m3 128 rfl) rfl
theorem q667 : (Jvm.Cond.code ({ cls := "java/util/Arrays", name := "copyOfRangeByte", desc := "([BII)[B" } : Jvm.MethodName) prog_47_method_133_code (5 : Nat) (Option.some (Jvm.ClassFile.FieldType.array Jvm.ClassFile.FieldType.byte))) ∈ lw_all := lw_g (lw_at lw_m3 129 rfl) rfl
theorem q668 : (Jvm.Cond.methodLink "java/util/Arrays" (343 : Nat) ({ cls := "java/util/Arrays", name := "checkLength", desc := "(II)V" } : Jvm.MethodName)) ∈ lw_all := lw_g (lw_at lw_m3 130 rfl) rfl
theorem q669 : (Jvm.Cond.static ({ cls := "java/util/Arrays", name := "checkLength", desc := "(II)V" } : Jvm.MethodName)) ∈ lw_all := lw_g (lw_at lw_m3 131 rfl) rfl
theorem q670 : (Jvm.Cond.code ({ cls := "java/util/Arrays", name := "checkLength", desc := "(II)V" } : Jvm.MethodName) prog_47_method_131_code (2 : Nat) (Option.none : Option Jvm.ClassFile.FieldType)) ∈ lw_all := lw_g (lw_at lw_m3 132 rfl) rfl
theorem q671 : (Jvm.Cond.classLink "java/util/Arrays" (43 : Nat) "java/lang/IllegalArgumentException") ∈ lw_all := lw_g (lw_at lw_m3 133 rfl) rfl
theorem q672 : (Jvm.Cond.classLink "java/util/Arrays" (45 : Nat) "java/lang/StringBuilder") ∈ lw_all := lw_g (lw_at lw_m3 134 rfl) rfl
theorem q673 : (Jvm.Cond.methodLink "java/util/Arrays" (47 : Nat) ({ cls := "java/lang/StringBuilder", name := "<init>", desc := "()V" } : Jvm.MethodName)) ∈ lw_all := lw_g (lw_at lw_m3 135 rfl) rfl
theorem q674 : (Jvm.Cond.methodLink "java/util/Arrays" (54 : Nat) ({ cls := "java/lang/StringBuilder", name := "append", desc := "(I)Ljava/lang/StringBuilder;" } : Jvm.MethodName)) ∈ lw_all := lw_g (lw_at lw_m3 136 rfl) rfl
theorem q675 : (Jvm.Cond.stringRef "java/util/Arrays" (337 : Nat) " > ") ∈ lw_tbl := lw_at lw_m3 137 rfl
theorem q676 : (Jvm.Cond.methodLink "java/util/Arrays" (50 : Nat) ({ cls := "java/lang/StringBuilder", name := "append", desc := "(Ljava/lang/String;)Ljava/lang/StringBuilder;" } : Jvm.MethodName)) ∈ lw_all := lw_g (lw_at lw_m3 138 rfl) rfl
theorem q677 : (Jvm.Cond.methodLink "java/util/Arrays" (61 : Nat) ({ cls := "java/lang/StringBuilder", name := "toString", desc := "()Ljava/lang/String;" } : Jvm.MethodName)) ∈ lw_all := lw_g (lw_at lw_m3 139 rfl) rfl
theorem q678 : (Jvm.Cond.methodLink "java/util/Arrays" (65 : Nat) ({ cls := "java/lang/IllegalArgumentException", name := "<init>", desc := "(Ljava/lang/String;)V" } : Jvm.MethodName)) ∈ lw_all := lw_g (lw_at lw_m3 140 rfl) rfl
theorem q679 : (Jvm.Cond.instanceMethod ({ cls := "java/lang/IllegalArgumentException", name := "<init>", desc := "(Ljava/lang/String;)V" } : Jvm.MethodName)) ∈ lw_all := lw_g (lw_at lw_m3 141 rfl) rfl
theorem q680 : (Jvm.Cond.code ({ cls := "java/lang/IllegalArgumentException", name := "<init>", desc := "(Ljava/lang/String;)V" } : Jvm.MethodName) prog_20_method_2_code (2 : Nat) (Option.none : Option Jvm.ClassFile.FieldType)) ∈ lw_all := lw_g (lw_at lw_m3 142 rfl) rfl
theorem q681 : (Jvm.Cond.methodLink "java/lang/IllegalArgumentException" (7 : Nat) ({ cls := "java/lang/RuntimeException", name := "<init>", desc := "(Ljava/lang/String;)V" } : Jvm.MethodName)) ∈ lw_all := lw_g (lw_at lw_m3 143 rfl) rfl
theorem q682 : (Jvm.Cond.instanceMethod ({ cls := "java/lang/RuntimeException", name := "<init>", desc := "(Ljava/lang/String;)V" } : Jvm.MethodName)) ∈ lw_all := lw_g (lw_at lw_m3 144 rfl) rfl
theorem q683 : (Jvm.Cond.code ({ cls := "java/lang/RuntimeException", name := "<init>", desc := "(Ljava/lang/String;)V" } : Jvm.MethodName) prog_29_method_2_code (2 : Nat) (Option.none : Option Jvm.ClassFile.FieldType)) ∈ lw_all := lw_g (lw_at lw_m3 145 rfl) rfl
theorem q684 : (Jvm.Cond.methodLink "java/lang/RuntimeException" (7 : Nat) ({ cls := "java/lang/Exception", name := "<init>", desc := "(Ljava/lang/String;)V" } : Jvm.MethodName)) ∈ lw_all := lw_g (lw_at lw_m3 146 rfl) rfl
theorem q685 : (Jvm.Cond.instanceMethod ({ cls := "java/lang/Exception", name := "<init>", desc := "(Ljava/lang/String;)V" } : Jvm.MethodName)) ∈ lw_all := lw_g (lw_at lw_m3 147 rfl) rfl
theorem q686 : (Jvm.Cond.code ({ cls := "java/lang/Exception", name := "<init>", desc := "(Ljava/lang/String;)V" } : Jvm.MethodName) prog_19_method_2_code (2 : Nat) (Option.none : Option Jvm.ClassFile.FieldType)) ∈ lw_all := lw_g (lw_at lw_m3 148 rfl) rfl
theorem q687 : (Jvm.Cond.methodLink "java/lang/Exception" (7 : Nat) ({ cls := "java/lang/Throwable", name := "<init>", desc := "(Ljava/lang/String;)V" } : Jvm.MethodName)) ∈ lw_all := lw_g (lw_at lw_m3 149 rfl) rfl
theorem q688 : (Jvm.Cond.instanceMethod ({ cls := "java/lang/Throwable", name := "<init>", desc := "(Ljava/lang/String;)V" } : Jvm.MethodName)) ∈ lw_all := lw_g (lw_at lw_m3 150 rfl) rfl
theorem q689 : (Jvm.Cond.code ({ cls := "java/lang/Throwable", name := "<init>", desc := "(Ljava/lang/String;)V" } : Jvm.MethodName) prog_36_method_2_code (2 : Nat) (Option.none : Option Jvm.ClassFile.FieldType)) ∈ lw_all := lw_g (lw_at lw_m3 151 rfl) rfl
theorem q690 : (Jvm.Cond.methodLink "java/lang/String" (1051 : Nat) ({ cls := "java/lang/StringUTF16", name := "compress", desc := "([BII)[B" } : Jvm.MethodName)) ∈ lw_all := lw_g (lw_at lw_m3 152 rfl) rfl
theorem q691 : (Jvm.Cond.static ({ cls := "java/lang/StringUTF16", name := "compress", desc := "([BII)[B" } : Jvm.MethodName)) ∈ lw_all := lw_g (lw_at lw_m3 153 rfl) rfl
theorem q692 : (Jvm.Cond.code ({ cls := "java/lang/StringUTF16", name := "compress", desc := "([BII)[B" } : Jvm.MethodName) prog_34_method_17_code (6 : Nat) (Option.some (Jvm.ClassFile.FieldType.array Jvm.ClassFile.FieldType.byte))) ∈ lw_all := lw_g (lw_at lw_m3 154 rfl) rfl
theorem q693 : (Jvm.Cond.methodLink "java/lang/StringUTF16" (123 : Nat) ({ cls := "java/lang/StringUTF16", name := "compress", desc := "([BI[BII)I" } : Jvm.MethodName)) ∈ lw_all := lw_g (lw_at lw_m3 155 rfl) rfl
theorem q694 : (Jvm.Cond.static ({ cls := "java/lang/StringUTF16", name := "compress", desc := "([BI[BII)I" } : Jvm.MethodName)) ∈ lw_all := lw_g (lw_at lw_m3 156 rfl) rfl
theorem q695 : (Jvm.Cond.code ({ cls := "java/lang/StringUTF16", name := "compress", desc := "([BI[BII)I" } : Jvm.MethodName) prog_34_method_22_code (7 : Nat) (Option.some Jvm.ClassFile.FieldType.int)) ∈ lw_all := lw_g (lw_at lw_m3 157 rfl) rfl
theorem q696 : (Jvm.Cond.methodLink "java/lang/StringUTF16" (71 : Nat) ({ cls := "java/lang/StringUTF16", name := "getChar", desc := "([BI)C" } : Jvm.MethodName)) ∈ lw_all := lw_g (lw_at lw_m3 158 rfl) rfl
theorem q697 : (Jvm.Cond.static ({ cls := "java/lang/StringUTF16", name := "getChar", desc := "([BI)C" } : Jvm.MethodName)) ∈ lw_all := lw_g (lw_at lw_m3 159 rfl) rfl
theorem q698 : (Jvm.Cond.code ({ cls := "java/lang/StringUTF16", name := "getChar", desc := "([BI)C" } : Jvm.MethodName) prog_34_method_5_code (2 : Nat) (Option.some Jvm.ClassFile.FieldType.char)) ∈ lw_all := lw_g (lw_at lw_m3 160 rfl) rfl
theorem q699 : (Jvm.Cond.methodLink "java/lang/StringUTF16" (126 : Nat) ({ cls := "java/util/Arrays", name := "copyOfRange", desc := "([BII)[B" } : Jvm.MethodName)) ∈ lw_all := lw_g (lw_at lw_m3 161 rfl) rfl
theorem q700 : (Jvm.Cond.methodLink "java/lang/String" (47 : Nat) ({ cls := "java/lang/StringUTF16", name := "coderFromArrayLen", desc := "([BI)B" } : Jvm.MethodName)) ∈ lw_all := lw_g (lw_at lw_m3 162 rfl) rfl
theorem q701 : (Jvm.Cond.static ({ cls := "java/lang/StringUTF16", name := "coderFromArrayLen", desc := "([BI)B" } : Jvm.MethodName)) ∈ lw_all := lw_g (lw_at lw_m3 163 rfl) rfl
theorem q702 : (Jvm.Cond.code ({ cls := "java/lang/StringUTF16", name := "coderFromArrayLen", desc := "([BI)B" } : Jvm.MethodName) prog_34_method_15_code (2 : Nat) (Option.some Jvm.ClassFile.FieldType.byte)) ∈ lw_all := lw_g (lw_at lw_m3 164 rfl) rfl
theorem q703 : (Jvm.Cond.fieldLink "java/lang/String" (9 : Nat) "java/lang/String" "value" "[B") ∈ lw_all := lw_g (lw_at lw_m3 165 rfl) rfl
theorem q704 : (Jvm.Cond.fieldLink "java/lang/String" (15 : Nat) "java/lang/String" "coder" "B") ∈ lw_all := lw_g (lw_at lw_m3 166 rfl) rfl
theorem q705 : (Jvm.Cond.laysFinal "java/lang/String" "java/lang/String" "value" "[B") ∈ lw_all := lw_g (lw_at lw_m3 167 rfl) rfl
theorem q706 : (Jvm.Cond.soleField "java/lang/String" "value") ∈ lw_all := lw_g (lw_at lw_m3 168 rfl) rfl
theorem q707 : (Jvm.Cond.laysFinal "java/lang/String" "java/lang/String" "coder" "B") ∈ lw_all := lw_g (lw_at lw_m3 169 rfl) rfl
theorem q708 : (Jvm.Cond.soleField "java/lang/String" "coder") ∈ lw_all := lw_g (lw_at lw_m3 170 rfl) rfl
theorem q709 : (Jvm.Cond.lays "java/lang/String" "java/lang/String" "hash" "I") ∈ lw_all := lw_g (lw_at lw_m3 171 rfl) rfl
theorem q710 : (Jvm.Cond.soleField "java/lang/String" "hash") ∈ lw_all := lw_g (lw_at lw_m3 172 rfl) rfl
theorem q711 : (Jvm.Cond.lays "java/lang/String" "java/lang/String" "hashIsZero" "Z") ∈ lw_all := lw_g (lw_at lw_m3 173 rfl) rfl
theorem q712 : (Jvm.Cond.soleField "java/lang/String" "hashIsZero") ∈ lw_all := lw_g (lw_at lw_m3 174 rfl) rfl
theorem q713 : (Jvm.Cond.superclass "java/lang/String" "java/lang/Object") ∈ lw_all := lw_g (lw_at lw_m3 175 rfl) rfl
theorem q714 : (Jvm.Cond.methodLink "java/lang/StringIndexOutOfBoundsException" (7 : Nat) ({ cls := "java/lang/IndexOutOfBoundsException", name := "<init>", desc := "(Ljava/lang/String;)V" } : Jvm.MethodName)) ∈ lw_all := lw_g (lw_at lw_m3 176 rfl) rfl
theorem q715 : (Jvm.Cond.instanceMethod ({ cls := "java/lang/IndexOutOfBoundsException", name := "<init>", desc := "(Ljava/lang/String;)V" } : Jvm.MethodName)) ∈ lw_all := lw_g (lw_at lw_m3 177 rfl) rfl
theorem q716 : (Jvm.Cond.code ({ cls := "java/lang/IndexOutOfBoundsException", name := "<init>", desc := "(Ljava/lang/String;)V" } : Jvm.MethodName) prog_22_method_2_code (2 : Nat) (Option.none : Option Jvm.ClassFile.FieldType)) ∈ lw_all := lw_g (lw_at lw_m3 178 rfl) rfl
theorem q717 : (Jvm.Cond.methodLink "java/lang/IndexOutOfBoundsException" (7 : Nat) ({ cls := "java/lang/RuntimeException", name := "<init>", desc := "(Ljava/lang/String;)V" } : Jvm.MethodName)) ∈ lw_all := lw_g (lw_at lw_m3 179 rfl) rfl
theorem q718 : (Jvm.Cond.lays "java/lang/StringIndexOutOfBoundsException" "java/lang/Throwable" "backtrace" "Ljava/lang/Object;") ∈ lw_all := lw_g (lw_at lw_m3 180 rfl) rfl
theorem q719 : (Jvm.Cond.lays "java/lang/StringIndexOutOfBoundsException" "java/lang/Throwable" "detailMessage" "Ljava/lang/String;") ∈ lw_all := lw_g (lw_at lw_m3 181 rfl) rfl
theorem q720 : (Jvm.Cond.lays "java/lang/StringIndexOutOfBoundsException" "java/lang/Throwable" "cause" "Ljava/lang/Throwable;") ∈ lw_all := lw_g (lw_at lw_m3 182 rfl) rfl
theorem q721 : (Jvm.Cond.lays "java/lang/StringIndexOutOfBoundsException" "java/lang/Throwable" "stackTrace" "[Ljava/lang/StackTraceElement;") ∈ lw_all := lw_g (lw_at lw_m3 183 rfl) rfl
theorem q722 : (Jvm.Cond.lays "java/lang/StringIndexOutOfBoundsException" "java/lang/Throwable" "depth" "I") ∈ lw_all := lw_g (lw_at lw_m3 184 rfl) rfl
theorem q723 : (Jvm.Cond.lays "java/lang/StringIndexOutOfBoundsException" "java/lang/Throwable" "suppressedExceptions" "Ljava/util/List;") ∈ lw_all := lw_g (lw_at lw_m3 185 rfl) rfl
theorem q724 : (Jvm.Cond.superclass "java/lang/StringIndexOutOfBoundsException" "java/lang/IndexOutOfBoundsException") ∈ lw_all := lw_g (lw_at lw_m3 186 rfl) rfl
theorem q725 : (Jvm.Cond.methodLink "java/lang/AbstractStringBuilder" (133 : Nat) ({ cls := "java/lang/StringLatin1", name := "fillNull", desc := "([BII)V" } : Jvm.MethodName)) ∈ lw_all := lw_g (lw_at lw_m3 187 rfl) rfl
theorem q726 : (Jvm.Cond.static ({ cls := "java/lang/StringLatin1", name := "fillNull", desc := "([BII)V" } : Jvm.MethodName)) ∈ lw_all := lw_g (lw_at lw_m3 188 rfl) rfl
theorem q727 : (Jvm.Cond.code ({ cls := "java/lang/StringLatin1", name := "fillNull", desc := "([BII)V" } : Jvm.MethodName) prog_33_method_48_code (3 : Nat) (Option.none : Option Jvm.ClassFile.FieldType)) ∈ lw_all := lw_g (lw_at lw_m3 189 rfl) rfl
theorem q728 : (Jvm.Cond.methodLink "java/lang/StringLatin1" (236 : Nat) ({ cls := "java/util/Arrays", name := "fill", desc := "([BIIB)V" } : Jvm.MethodName)) ∈ lw_all := lw_g (lw_at lw_m3 190 rfl) rfl
theorem q729 : (Jvm.Cond.static ({ cls := "java/util/Arrays", name := "fill", desc := "([BIIB)V" } : Jvm.MethodName)) ∈ lw_all := lw_g (lw_at lw_m3 191 rfl) rfl
theorem q730 : (Jvm.Cond.code ({ cls := "java/util/Arrays", name := "fill", desc := "([BIIB)V" } : Jvm.MethodName) prog_47_method_110_code (5 : Nat) (Option.none : Option Jvm.ClassFile.FieldType)) ∈ lw_all := lw_g (lw_at lw_m3 192 rfl) rfl
theorem q731 : (Jvm.Cond.methodLink "java/util/Arrays" (13 : Nat) ({ cls := "java/util/Arrays", name := "rangeCheck", desc := "(III)V" } : Jvm.MethodName)) ∈ lw_all := lw_g (lw_at lw_m3 193 rfl) rfl
theorem q732 : (Jvm.Cond.static ({ cls := "java/util/Arrays", name := "rangeCheck", desc := "(III)V" } : Jvm.MethodName)) ∈ lw_all := lw_g (lw_at lw_m3 194 rfl) rfl
theorem q733 : (Jvm.Cond.code ({ cls := "java/util/Arrays", name := "rangeCheck", desc := "(III)V" } : Jvm.MethodName) prog_47_method_30_code (3 : Nat) (Option.none : Option Jvm.ClassFile.FieldType)) ∈ lw_all := lw_g (lw_at lw_m3 195 rfl) rfl
theorem q734 : (Jvm.Cond.stringRef "java/util/Arrays" (48 : Nat) "fromIndex(") ∈ lw_tbl := lw_at lw_m3 196 rfl
theorem q735 : (Jvm.Cond.stringRef "java/util/Arrays" (57 : Nat) ") > toIndex(") ∈ lw_tbl := lw_at lw_m3 197 rfl
theorem q736 : (Jvm.Cond.stringRef "java/util/Arrays" (59 : Nat) ")") ∈ lw_tbl := lw_at lw_m3 198 rfl
theorem q737 : (Jvm.Cond.classLink "java/util/Arrays" (68 : Nat) "java/lang/ArrayIndexOutOfBoundsException") ∈ lw_all := lw_g (lw_at lw_m3 199 rfl) rfl
theorem q738 : (Jvm.Cond.instantiable "java/lang/ArrayIndexOutOfBoundsException" (6 : Nat)) ∈ lw_all := lw_g (lw_at lw_m3 200 rfl) rfl
theorem q739 : (Jvm.Cond.castable "java/lang/ArrayIndexOutOfBoundsException" "java/lang/ArrayIndexOutOfBoundsException") ∈ lw_tbl := lw_at lw_m3 201 rfl
theorem q740 : (Jvm.Cond.declares ({ cls := "java/lang/IndexOutOfBoundsException", name := "<init>", desc := "()V" } : Jvm.MethodName)) ∈ lw_tbl := lw_at lw_m3 202 rfl
theorem q741 : (Jvm.Cond.declares ({ cls := "java/lang/IndexOutOfBoundsException", name := "<init>", desc := "(Ljava/lang/String;)V" } : Jvm.MethodName)) ∈ lw_tbl := lw_at lw_m3 203 rfl
theorem q742 : (Jvm.Cond.selects "java/lang/ArrayIndexOutOfBoundsException" ({ cls := "java/lang/Throwable", name := "fillInStackTrace", desc := "(I)Ljava/lang/Throwable;" } : Jvm.MethodName) ({ cls := "java/lang/Throwable", name := "fillInStackTrace", desc := "(I)Ljava/lang/Throwable;" } : Jvm.MethodName)) ∈ lw_all := lw_g (lw_at lw_m3 204 rfl) rfl
theorem q743 : (Jvm.Cond.lays "java/lang/ArrayIndexOutOfBoundsException" "java/lang/Throwable" "cause" "Ljava/lang/Throwable;") ∈ lw_all := lw_g (lw_at lw_m3 205 rfl) rfl
theorem q744 : (Jvm.Cond.lays "java/lang/ArrayIndexOutOfBoundsException" "java/lang/Throwable" "stackTrace" "[Ljava/lang/StackTraceElement;") ∈ lw_all := lw_g (lw_at lw_m3 206 rfl) rfl
theorem q745 : (Jvm.Cond.lays "java/lang/ArrayIndexOutOfBoundsException" "java/lang/Throwable" "suppressedExceptions" "Ljava/util/List;") ∈ lw_all := lw_g (lw_at lw_m3 207 rfl) rfl
theorem q746 : (Jvm.Cond.lays "java/lang/ArrayIndexOutOfBoundsException" "java/lang/Throwable" "detailMessage" "Ljava/lang/String;") ∈ lw_all := lw_g (lw_at lw_m3 208 rfl) rfl
theorem q747 : (Jvm.Cond.lays "java/lang/ArrayIndexOutOfBoundsException" "java/lang/Throwable" "backtrace" "Ljava/lang/Object;") ∈ lw_all := lw_g (lw_at lw_m3 209 rfl) rfl
theorem q748 : (Jvm.Cond.methodLink "java/util/Arrays" (70 : Nat) ({ cls := "java/lang/ArrayIndexOutOfBoundsException", name := "<init>", desc := "(I)V" } : Jvm.MethodName)) ∈ lw_all := lw_g (lw_at lw_m3 210 rfl) rfl
theorem q749 : (Jvm.Cond.instanceMethod ({ cls := "java/lang/ArrayIndexOutOfBoundsException", name := "<init>", desc := "(I)V" } : Jvm.MethodName)) ∈ lw_all := lw_g (lw_at lw_m3 211 rfl) rfl
theorem q750 : (Jvm.Cond.code ({ cls := "java/lang/ArrayIndexOutOfBoundsException", name := "<init>", desc := "(I)V" } : Jvm.MethodName) prog_15_method_3_code (2 : Nat) (Option.none : Option Jvm.ClassFile.FieldType)) ∈ lw_all := lw_g (lw_at lw_m3 212 rfl) rfl
theorem q751 : (Jvm.Cond.classLink "java/lang/ArrayIndexOutOfBoundsException" (10 : Nat) "java/lang/StringBuilder") ∈ lw_all := lw_g (lw_at lw_m3 213 rfl) rfl
theorem q752 : (Jvm.Cond.methodLink "java/lang/ArrayIndexOutOfBoundsException" (12 : Nat) ({ cls := "java/lang/StringBuilder", name := "<init>", desc := "()V" } : Jvm.MethodName)) ∈ lw_all := lw_g (lw_at lw_m3 214 rfl) rfl
theorem q753 : (Jvm.Cond.stringRef "java/lang/ArrayIndexOutOfBoundsException" (13 : Nat) "Array index out of range: ") ∈ lw_tbl := lw_at lw_m3 215 rfl
theorem q754 : (Jvm.Cond.methodLink "java/lang/ArrayIndexOutOfBoundsException" (15 : Nat) ({ cls := "java/lang/StringBuilder", name := "append", desc := "(Ljava/lang/String;)Ljava/lang/StringBuilder;" } : Jvm.MethodName)) ∈ lw_all := lw_g (lw_at lw_m3 216 rfl) rfl
theorem q755 : (Jvm.Cond.methodLink "java/lang/ArrayIndexOutOfBoundsException" (19 : Nat) ({ cls := "java/lang/StringBuilder", name := "append", desc := "(I)Ljava/lang/StringBuilder;" } : Jvm.MethodName)) ∈ lw_all := lw_g (lw_at lw_m3 217 rfl) rfl
theorem q756 : (Jvm.Cond.methodLink "java/lang/ArrayIndexOutOfBoundsException" (22 : Nat) ({ cls := "java/lang/StringBuilder", name := "toString", desc := "()Ljava/lang/String;" } : Jvm.MethodName)) ∈ lw_all := lw_g (lw_at lw_m3 218 rfl) rfl
theorem q757 : (Jvm.Cond.methodLink "java/lang/ArrayIndexOutOfBoundsException" (7 : Nat) ({ cls := "java/lang/IndexOutOfBoundsException", name := "<init>", desc := "(Ljava/lang/String;)V" } : Jvm.MethodName)) ∈ lw_all := lw_g (lw_at lw_m3 219 rfl) rfl
theorem q758 : (Jvm.Cond.lays "java/lang/ArrayIndexOutOfBoundsException" "java/lang/Throwable" "depth" "I") ∈ lw_all := lw_g (lw_at lw_m3 220 rfl) rfl
theorem q759 : (Jvm.Cond.superclass "java/lang/ArrayIndexOutOfBoundsException" "java/lang/IndexOutOfBoundsException") ∈ lw_all := lw_g (lw_at lw_m3 221 rfl) rfl
theorem q760 : (Jvm.Cond.methodLink "java/lang/AbstractStringBuilder" (137 : Nat) ({ cls := "java/lang/StringUTF16", name := "fillNull", desc := "([BII)V" } : Jvm.MethodName)) ∈ lw_all := lw_g (lw_at lw_m3 222 rfl) rfl
theorem q761 : (Jvm.Cond.static ({ cls := "java/lang/StringUTF16", name := "fillNull", desc := "([BII)V" } : Jvm.MethodName)) ∈ lw_all := lw_g (lw_at lw_m3 223 rfl) rfl
theorem q762 : (Jvm.Cond.code ({ cls := "java/lang/StringUTF16", name := "fillNull", desc := "([BII)V" } : Jvm.MethodName) prog_34_method_70_code (3 : Nat) (Option.none : Option Jvm.ClassFile.FieldType)) ∈ lw_all := lw_g (lw_at lw_m3 224 rfl) rfl
theorem q763 : (Jvm.Cond.methodLink "java/lang/StringUTF16" (380 : Nat) ({ cls := "java/util/Arrays", name := "fill", desc := "([BIIB)V" } : Jvm.MethodName)) ∈ lw_all := lw_g (lw_at lw_m3 225 rfl) rfl
theorem q764 : (Jvm.Cond.methodLink "RiddlePostLaw" (207 : Nat) ({ cls := "RiddlePost", name := "firstError", desc := "()I" } : Jvm.MethodName)) ∈ lw_all := lw_g (lw_at lw_m3 226 rfl) rfl
theorem q765 : (Jvm.Cond.instanceMethod ({ cls := "RiddlePost", name := "firstError", desc := "()I" } : Jvm.MethodName)) ∈ lw_all := lw_g (lw_at lw_m3 227 rfl) rfl
theorem q766 : (Jvm.Cond.selects "RiddlePost" ({ cls := "RiddlePost", name := "firstError", desc := "()I" } : Jvm.MethodName) ({ cls := "RiddlePost", name := "firstError", desc := "()I" } : Jvm.MethodName)) ∈ lw_all := lw_g (lw_at lw_m3 228 rfl) rfl
theorem q767 : (Jvm.Cond.code ({ cls := "RiddlePost", name := "firstError", desc := "()I" } : Jvm.MethodName) prog_1_method_42_code (1 : Nat) (Option.some Jvm.ClassFile.FieldType.int)) ∈ lw_all := lw_g (lw_at lw_m3 229 rfl) rfl
theorem q768 : (Jvm.Cond.classLink "RiddlePost" (226 : Nat) "RiddlePost$Reader") ∈ lw_all := lw_g (lw_at lw_m3 230 rfl) rfl
theorem q769 : (Jvm.Cond.instantiable "RiddlePost$Reader" (4 : Nat)) ∈ lw_all := lw_g (lw_at lw_m3 231 rfl) rfl
theorem q770 : (Jvm.Cond.methodLink "RiddlePost" (228 : Nat) ({ cls := "RiddlePost$Reader", name := "<init>", desc := "(Ljava/lang/StringBuilder;)V" } : Jvm.MethodName)) ∈ lw_all := lw_g (lw_at lw_m3 232 rfl) rfl
theorem q771 : (Jvm.Cond.instanceMethod ({ cls := "RiddlePost$Reader", name := "<init>", desc := "(Ljava/lang/StringBuilder;)V" } : Jvm.MethodName)) ∈ lw_all := lw_g (lw_at lw_m3 233 rfl) rfl
theorem q772 : (Jvm.Cond.code ({ cls := "RiddlePost$Reader", name := "<init>", desc := "(Ljava/lang/StringBuilder;)V" } : Jvm.MethodName) prog_6_method_1_code (2 : Nat) (Option.none : Option Jvm.ClassFile.FieldType)) ∈ lw_all := lw_g (lw_at lw_m3 234 rfl) rfl
theorem q773 : (Jvm.Cond.methodLink "RiddlePost$Reader" (3 : Nat) ({ cls := "java/lang/Object", name := "<init>", desc := "()V" } : Jvm.MethodName)) ∈ lw_all := lw_g (lw_at lw_m3 235 rfl) rfl
theorem q774 : (Jvm.Cond.classLink "RiddlePost$Reader" (9 : Nat) "java/util/ArrayList") ∈ lw_all := lw_g (lw_at lw_m3 236 rfl) rfl
theorem q775 : (Jvm.Cond.methodLink "RiddlePost$Reader" (11 : Nat) ({ cls := "java/util/ArrayList", name := "<init>", desc := "()V" } : Jvm.MethodName)) ∈ lw_all := lw_g (lw_at lw_m3 237 rfl) rfl
theorem q776 : (Jvm.Cond.fieldLink "RiddlePost$Reader" (18 : Nat) "RiddlePost$Reader" "source" "Ljava/lang/StringBuilder;") ∈ lw_all := lw_g (lw_at lw_m3 238 rfl) rfl
theorem q777 : (Jvm.Cond.fieldLink "RiddlePost$Reader" (12 : Nat) "RiddlePost$Reader" "acts" "Ljava/util/ArrayList;") ∈ lw_all := lw_g (lw_at lw_m3 239 rfl) rfl
theorem q778 : (Jvm.Cond.fieldLinkNest "RiddlePost" (234 : Nat) "RiddlePost$Reader" "acts" "Ljava/util/ArrayList;" "RiddlePost") ∈ lw_tbl := lw_at lw_m4 0 rfl
theorem q779 : (Jvm.Cond.fieldLink "RiddlePost$Reader" (22 : Nat) "RiddlePost$Reader" "at" "I") ∈ lw_all := lw_g (lw_at lw_m4 1 rfl) rfl
theorem q780 : (Jvm.Cond.fieldLink "RiddlePost$Reader" (36 : Nat) "RiddlePost$Reader" "failed" "Z") ∈ lw_all := lw_g (lw_at lw_m4 2 rfl) rfl
theorem q781 : (Jvm.Cond.laysFinal "RiddlePost$Reader" "RiddlePost$Reader" "source" "Ljava/lang/StringBuilder;") ∈ lw_all := lw_g (lw_at lw_m4 3 rfl) rfl
theorem q782 : (Jvm.Cond.soleField "RiddlePost$Reader" "source") ∈ lw_all := lw_g (lw_at lw_m4 4 rfl) rfl
theorem q783 : (Jvm.Cond.laysFinal "RiddlePost$Reader" "RiddlePost$Reader" "acts" "Ljava/util/ArrayList;") ∈ lw_all := lw_g (lw_at lw_m4 5 rfl) rfl
theorem q784 : (Jvm.Cond.soleField "RiddlePost$Reader" "acts") ∈ lw_all := lw_g (lw_at lw_m4 6 rfl) rfl
theorem q785 : (Jvm.Cond.lays "RiddlePost$Reader" "RiddlePost$Reader" "at" "I") ∈ lw_all := lw_g (lw_at lw_m4 7 rfl) rfl
theorem q786 : (Jvm.Cond.soleField "RiddlePost$Reader" "at") ∈ lw_all := lw_g (lw_at lw_m4 8 rfl) rfl
theorem q787 : (Jvm.Cond.lays "RiddlePost$Reader" "RiddlePost$Reader" "failed" "Z") ∈ lw_all := lw_g (lw_at lw_m4 9 rfl) rfl
theorem q788 : (Jvm.Cond.soleField "RiddlePost$Reader" "failed") ∈ lw_all := lw_g (lw_at lw_m4 10 rfl) rfl
theorem q789 : (Jvm.Cond.superclass "RiddlePost$Reader" "java/lang/Object") ∈ lw_all := lw_g (lw_at lw_m4 11 rfl) rfl
theorem q790 : (Jvm.Cond.methodLink "RiddlePost" (231 : Nat) ({ cls := "RiddlePost$Reader", name := "read", desc := "()I" } : Jvm.MethodName)) ∈ lw_all := lw_g (lw_at lw_m4 12 rfl) rfl
theorem q791 : (Jvm.Cond.instanceMethod ({ cls := "RiddlePost$Reader", name := "read", desc := "()I" } : Jvm.MethodName)) ∈ lw_all := lw_g (lw_at lw_m4 13 rfl) rfl
theorem q792 : (Jvm.Cond.selects "RiddlePost$Reader" ({ cls := "RiddlePost$Reader", name := "read", desc := "()I" } : Jvm.MethodName) ({ cls := "RiddlePost$Reader", name := "read", desc := "()I" } : Jvm.MethodName)) ∈ lw_all := lw_g (lw_at lw_m4 14 rfl) rfl
theorem q793 : (Jvm.Cond.code ({ cls := "RiddlePost$Reader", name := "read", desc := "()I" } : Jvm.MethodName) prog_6_method_6_code (1 : Nat) (Option.some Jvm.ClassFile.FieldType.int)) ∈ lw_all := lw_g (lw_at lw_m4 15 rfl) rfl
theorem q794 : (Jvm.Cond.methodLink "RiddlePost$Reader" (61 : Nat) ({ cls := "RiddlePost$Reader", name := "act", desc := "()LRiddlePost$Act;" } : Jvm.MethodName)) ∈ lw_all := lw_g (lw_at lw_m4 16 rfl) rfl
theorem q795 : (Jvm.Cond.privateMethod ({ cls := "RiddlePost$Reader", name := "act", desc := "()LRiddlePost$Act;" } : Jvm.MethodName)) ∈ lw_tbl := lw_at lw_m4 17 rfl
theorem q796 : (Jvm.Cond.instanceMethod ({ cls := "RiddlePost$Reader", name := "act", desc := "()LRiddlePost$Act;" } : Jvm.MethodName)) ∈ lw_all := lw_g (lw_at lw_m4 18 rfl) rfl
theorem q797 : (Jvm.Cond.code ({ cls := "RiddlePost$Reader", name := "act", desc := "()LRiddlePost$Act;" } : Jvm.MethodName) prog_6_method_5_code (2 : Nat) (Option.some (Jvm.ClassFile.FieldType.object "RiddlePost$Act"))) ∈ lw_all := lw_g (lw_at lw_m4 19 rfl) rfl
theorem q798 : (Jvm.Cond.methodLink "RiddlePost$Reader" (40 : Nat) ({ cls := "RiddlePost$Reader", name := "here", desc := "()C" } : Jvm.MethodName)) ∈ lw_all := lw_g (lw_at lw_m4 20 rfl) rfl
theorem q799 : (Jvm.Cond.privateMethod ({ cls := "RiddlePost$Reader", name := "here", desc := "()C" } : Jvm.MethodName)) ∈ lw_tbl := lw_at lw_m4 21 rfl
theorem q800 : (Jvm.Cond.instanceMethod ({ cls := "RiddlePost$Reader", name := "here", desc := "()C" } : Jvm.MethodName)) ∈ lw_all := lw_g (lw_at lw_m4 22 rfl) rfl
theorem q801 : (Jvm.Cond.code ({ cls := "RiddlePost$Reader", name := "here", desc := "()C" } : Jvm.MethodName) prog_6_method_2_code (1 : Nat) (Option.some Jvm.ClassFile.FieldType.char)) ∈ lw_all := lw_g (lw_at lw_m4 23 rfl) rfl
theorem q802 : (Jvm.Cond.methodLink "RiddlePost$Reader" (26 : Nat) ({ cls := "java/lang/StringBuilder", name := "length", desc := "()I" } : Jvm.MethodName)) ∈ lw_all := lw_g (lw_at lw_m4 24 rfl) rfl
theorem q803 : (Jvm.Cond.methodLink "RiddlePost$Reader" (32 : Nat) ({ cls := "java/lang/StringBuilder", name := "charAt", desc := "(I)C" } : Jvm.MethodName)) ∈ lw_all := lw_g (lw_at lw_m4 25 rfl) rfl
theorem q804 : (Jvm.Cond.instanceMethod ({ cls := "java/lang/StringBuilder", name := "charAt", desc := "(I)C" } : Jvm.MethodName)) ∈ lw_all := lw_g (lw_at lw_m4 26 rfl) rfl
theorem q805 : (Jvm.Cond.selects "java/lang/StringBuilder" ({ cls := "java/lang/StringBuilder", name := "charAt", desc := "(I)C" } : Jvm.MethodName) ({ cls := "java/lang/StringBuilder", name := "charAt", desc := "(I)C" } : Jvm.MethodName)) ∈ lw_all := lw_g (lw_at lw_m4 27 rfl) rfl
theorem q806 : (Jvm.Cond.code ({ cls := "java/lang/StringBuilder", name := "charAt", desc := "(I)C" } : Jvm.MethodName) prog_31_method_88_code (2 : Nat) (Option.some Jvm.ClassFile.FieldType.char)) ∈ lw_all := lw_g (lw_at lw_m4 28 rfl) rfl
theorem q807 : (Jvm.Cond.methodLink "java/lang/StringBuilder" (329 : Nat) ({ cls := "java/lang/AbstractStringBuilder", name := "charAt", desc := "(I)C" } : Jvm.MethodName)) ∈ lw_all := lw_g (lw_at lw_m4 29 rfl) rfl
theorem q808 : (Jvm.Cond.instanceMethod ({ cls := "java/lang/AbstractStringBuilder", name := "charAt", desc := "(I)C" } : Jvm.MethodName)) ∈ lw_all := lw_g (lw_at lw_m4 30 rfl) rfl
theorem q809 : (Jvm.Cond.code ({ cls := "java/lang/AbstractStringBuilder", name := "charAt", desc := "(I)C" } : Jvm.MethodName) prog_13_method_14_code (5 : Nat) (Option.some Jvm.ClassFile.FieldType.char)) ∈ lw_all := lw_g (lw_at lw_m4 31 rfl) rfl
theorem q810 : (Jvm.Cond.methodLink "java/lang/AbstractStringBuilder" (138 : Nat) ({ cls := "java/lang/Math", name := "min", desc := "(II)I" } : Jvm.MethodName)) ∈ lw_all := lw_g (lw_at lw_m4 32 rfl) rfl
theorem q811 : (Jvm.Cond.methodLink "java/lang/AbstractStringBuilder" (144 : Nat) ({ cls := "java/lang/String", name := "checkIndex", desc := "(II)V" } : Jvm.MethodName)) ∈ lw_all := lw_g (lw_at lw_m4 33 rfl) rfl
theorem q812 : (Jvm.Cond.static ({ cls := "java/lang/String", name := "checkIndex", desc := "(II)V" } : Jvm.MethodName)) ∈ lw_all := lw_g (lw_at lw_m4 34 rfl) rfl
theorem q813 : (Jvm.Cond.code ({ cls := "java/lang/String", name := "checkIndex", desc := "(II)V" } : Jvm.MethodName) prog_30_method_155_code (2 : Nat) (Option.none : Option Jvm.ClassFile.FieldType)) ∈ lw_all := lw_g (lw_at lw_m4 35 rfl) rfl
theorem q814 : (Jvm.Cond.methodLink "java/lang/String" (1059 : Nat) ({ cls := "jdk/internal/util/Preconditions", name := "checkIndex", desc := "(IILjava/util/function/BiFunction;)I" } : Jvm.MethodName)) ∈ lw_all := lw_g (lw_at lw_m4 36 rfl) rfl
theorem q815 : (Jvm.Cond.static ({ cls := "jdk/internal/util/Preconditions", name := "checkIndex", desc := "(IILjava/util/function/BiFunction;)I" } : Jvm.MethodName)) ∈ lw_all := lw_g (lw_at lw_m4 37 rfl) rfl
theorem q816 : (Jvm.Cond.code ({ cls := "jdk/internal/util/Preconditions", name := "checkIndex", desc := "(IILjava/util/function/BiFunction;)I" } : Jvm.MethodName) prog_79_method_11_code (3 : Nat) (Option.some Jvm.ClassFile.FieldType.int)) ∈ lw_all := lw_g (lw_at lw_m4 38 rfl) rfl
theorem q817 : (Jvm.Cond.methodLink "java/lang/AbstractStringBuilder" (148 : Nat) ({ cls := "java/lang/StringUTF16", name := "getChar", desc := "([BI)C" } : Jvm.MethodName)) ∈ lw_all := lw_g (lw_at lw_m4 39 rfl) rfl
theorem q818 : (Jvm.Cond.methodLink "RiddlePost$Reader" (48 : Nat) ({ cls := "RiddlePost$Reader", name := "step", desc := "(Z)V" } : Jvm.MethodName)) ∈ lw_all := lw_g (lw_at lw_m4 40 rfl) rfl
theorem q819 : (Jvm.Cond.privateMethod ({ cls := "RiddlePost$Reader", name := "step", desc := "(Z)V" } : Jvm.MethodName)) ∈ lw_tbl := lw_at lw_m4 41 rfl
theorem q820 : (Jvm.Cond.instanceMethod ({ cls := "RiddlePost$Reader", name := "step", desc := "(Z)V" } : Jvm.MethodName)) ∈ lw_all := lw_g (lw_at lw_m4 42 rfl) rfl
theorem q821 : (Jvm.Cond.code ({ cls := "RiddlePost$Reader", name := "step", desc := "(Z)V" } : Jvm.MethodName) prog_6_method_3_code (2 : Nat) (Option.none : Option Jvm.ClassFile.FieldType)) ∈ lw_all := lw_g (lw_at lw_m4 43 rfl) rfl
theorem q822 : (Jvm.Cond.classLink "RiddlePost$Reader" (52 : Nat) "RiddlePost$Act") ∈ lw_all := lw_g (lw_at lw_m4 44 rfl) rfl
theorem q823 : (Jvm.Cond.instantiable "RiddlePost$Act" (2 : Nat)) ∈ lw_all := lw_g (lw_at lw_m4 45 rfl) rfl
theorem q824 : (Jvm.Cond.methodLink "RiddlePost$Reader" (54 : Nat) ({ cls := "RiddlePost$Reader", name := "number", desc := "(II)I" } : Jvm.MethodName)) ∈ lw_all := lw_g (lw_at lw_m4 46 rfl) rfl
theorem q825 : (Jvm.Cond.privateMethod ({ cls := "RiddlePost$Reader", name := "number", desc := "(II)I" } : Jvm.MethodName)) ∈ lw_tbl := lw_at lw_m4 47 rfl
theorem q826 : (Jvm.Cond.instanceMethod ({ cls := "RiddlePost$Reader", name := "number", desc := "(II)I" } : Jvm.MethodName)) ∈ lw_all := lw_g (lw_at lw_m4 48 rfl) rfl
theorem q827 : (Jvm.Cond.code ({ cls := "RiddlePost$Reader", name := "number", desc := "(II)I" } : Jvm.MethodName) prog_6_method_4_code (4 : Nat) (Option.some Jvm.ClassFile.FieldType.int)) ∈ lw_all := lw_g (lw_at lw_m4 49 rfl) rfl
theorem q828 : (Jvm.Cond.methodLinkNest "RiddlePost$Reader" (44 : Nat) ({ cls := "RiddlePost", name := "isWithin", desc := "(III)Z" } : Jvm.MethodName) "RiddlePost") ∈ lw_tbl := lw_at lw_m4 50 rfl
theorem q829 : (Jvm.Cond.static ({ cls := "RiddlePost", name := "isWithin", desc := "(III)Z" } : Jvm.MethodName)) ∈ lw_all := lw_g (lw_at lw_m4 51 rfl) rfl
theorem q830 : (Jvm.Cond.code ({ cls := "RiddlePost", name := "isWithin", desc := "(III)Z" } : Jvm.MethodName) prog_1_method_1_code (3 : Nat) (Option.some Jvm.ClassFile.FieldType.boolean)) ∈ lw_all := lw_g (lw_at lw_m4 52 rfl) rfl
theorem q831 : (Jvm.Cond.methodLink "RiddlePost$Reader" (58 : Nat) ({ cls := "RiddlePost$Act", name := "<init>", desc := "(CI)V" } : Jvm.MethodName)) ∈ lw_all := lw_g (lw_at lw_m4 53 rfl) rfl
theorem q832 : (Jvm.Cond.instanceMethod ({ cls := "RiddlePost$Act", name := "<init>", desc := "(CI)V" } : Jvm.MethodName)) ∈ lw_all := lw_g (lw_at lw_m4 54 rfl) rfl
theorem q833 : (Jvm.Cond.code ({ cls := "RiddlePost$Act", name := "<init>", desc := "(CI)V" } : Jvm.MethodName) prog_2_method_1_code (3 : Nat) (Option.none : Option Jvm.ClassFile.FieldType)) ∈ lw_all := lw_g (lw_at lw_m4 55 rfl) rfl
theorem q834 : (Jvm.Cond.methodLink "RiddlePost$Act" (1 : Nat) ({ cls := "java/lang/Object", name := "<init>", desc := "()V" } : Jvm.MethodName)) ∈ lw_all := lw_g (lw_at lw_m4 56 rfl) rfl
theorem q835 : (Jvm.Cond.fieldLink "RiddlePost$Act" (7 : Nat) "RiddlePost$Act" "sign" "C") ∈ lw_all := lw_g (lw_at lw_m4 57 rfl) rfl
theorem q836 : (Jvm.Cond.fieldLinkNest "RiddlePost" (251 : Nat) "RiddlePost$Act" "sign" "C" "RiddlePost") ∈ lw_tbl := lw_at lw_m4 58 rfl
theorem q837 : (Jvm.Cond.fieldLink "RiddlePost$Act" (13 : Nat) "RiddlePost$Act" "number" "I") ∈ lw_all := lw_g (lw_at lw_m4 59 rfl) rfl
theorem q838 : (Jvm.Cond.fieldLinkNest "RiddlePost" (255 : Nat) "RiddlePost$Act" "number" "I" "RiddlePost") ∈ lw_tbl := lw_at lw_m4 60 rfl
theorem q839 : (Jvm.Cond.laysFinal "RiddlePost$Act" "RiddlePost$Act" "sign" "C") ∈ lw_all := lw_g (lw_at lw_m4 61 rfl) rfl
theorem q840 : (Jvm.Cond.soleField "RiddlePost$Act" "sign") ∈ lw_all := lw_g (lw_at lw_m4 62 rfl) rfl
theorem q841 : (Jvm.Cond.laysFinal "RiddlePost$Act" "RiddlePost$Act" "number" "I") ∈ lw_all := lw_g (lw_at lw_m4 63 rfl) rfl
theorem q842 : (Jvm.Cond.soleField "RiddlePost$Act" "number") ∈ lw_all := lw_g (lw_at lw_m4 64 rfl) rfl
theorem q843 : (Jvm.Cond.superclass "RiddlePost$Act" "java/lang/Object") ∈ lw_all := lw_g (lw_at lw_m4 65 rfl) rfl
theorem q844 : (Jvm.Cond.methodLink "RiddlePost$Reader" (65 : Nat) ({ cls := "java/util/ArrayList", name := "add", desc := "(Ljava/lang/Object;)Z" } : Jvm.MethodName)) ∈ lw_all := lw_g (lw_at lw_m4 66 rfl) rfl
theorem q845 : (Jvm.Cond.instanceMethod ({ cls := "java/util/ArrayList", name := "add", desc := "(Ljava/lang/Object;)Z" } : Jvm.MethodName)) ∈ lw_all := lw_g (lw_at lw_m4 67 rfl) rfl
theorem q846 : (Jvm.Cond.selects "java/util/ArrayList" ({ cls := "java/util/ArrayList", name := "add", desc := "(Ljava/lang/Object;)Z" } : Jvm.MethodName) ({ cls := "java/util/ArrayList", name := "add", desc := "(Ljava/lang/Object;)Z" } : Jvm.MethodName)) ∈ lw_all := lw_g (lw_at lw_m4 68 rfl) rfl
theorem q847 : (Jvm.Cond.code ({ cls := "java/util/ArrayList", name := "add", desc := "(Ljava/lang/Object;)Z" } : Jvm.MethodName) prog_45_method_25_code (2 : Nat) (Option.some Jvm.ClassFile.FieldType.boolean)) ∈ lw_all := lw_g (lw_at lw_m4 69 rfl) rfl
theorem q848 : (Jvm.Cond.methodLink "java/util/ArrayList" (131 : Nat) ({ cls := "java/util/ArrayList", name := "add", desc := "(Ljava/lang/Object;[Ljava/lang/Object;I)V" } : Jvm.MethodName)) ∈ lw_all := lw_g (lw_at lw_m4 70 rfl) rfl
theorem q849 : (Jvm.Cond.privateMethod ({ cls := "java/util/ArrayList", name := "add", desc := "(Ljava/lang/Object;[Ljava/lang/Object;I)V" } : Jvm.MethodName)) ∈ lw_tbl := lw_at lw_m4 71 rfl
theorem q850 : (Jvm.Cond.instanceMethod ({ cls := "java/util/ArrayList", name := "add", desc := "(Ljava/lang/Object;[Ljava/lang/Object;I)V" } : Jvm.MethodName)) ∈ lw_all := lw_g (lw_at lw_m4 72 rfl) rfl
theorem q851 : (Jvm.Cond.code ({ cls := "java/util/ArrayList", name := "add", desc := "(Ljava/lang/Object;[Ljava/lang/Object;I)V" } : Jvm.MethodName) prog_45_method_24_code (4 : Nat) (Option.none : Option Jvm.ClassFile.FieldType)) ∈ lw_all := lw_g (lw_at lw_m4 73 rfl) rfl
theorem q852 : (Jvm.Cond.methodLink "java/util/ArrayList" (129 : Nat) ({ cls := "java/util/ArrayList", name := "grow", desc := "()[Ljava/lang/Object;" } : Jvm.MethodName)) ∈ lw_all := lw_g (lw_at lw_m4 74 rfl) rfl
theorem q853 : (Jvm.Cond.privateMethod ({ cls := "java/util/ArrayList", name := "grow", desc := "()[Ljava/lang/Object;" } : Jvm.MethodName)) ∈ lw_tbl := lw_at lw_m4 75 rfl
theorem q854 : (Jvm.Cond.instanceMethod ({ cls := "java/util/ArrayList", name := "grow", desc := "()[Ljava/lang/Object;" } : Jvm.MethodName)) ∈ lw_all := lw_g (lw_at lw_m4 76 rfl) rfl
theorem q855 : (Jvm.Cond.code ({ cls := "java/util/ArrayList", name := "grow", desc := "()[Ljava/lang/Object;" } : Jvm.MethodName) prog_45_method_7_code (1 : Nat) (Option.some (Jvm.ClassFile.FieldType.array (Jvm.ClassFile.FieldType.object "java/lang/Object")))) ∈ lw_all := lw_g (lw_at lw_m4 77 rfl) rfl
theorem q856 : (Jvm.Cond.methodLink "java/util/ArrayList" (69 : Nat) ({ cls := "java/util/ArrayList", name := "grow", desc := "(I)[Ljava/lang/Object;" } : Jvm.MethodName)) ∈ lw_all := lw_g (lw_at lw_m4 78 rfl) rfl
theorem q857 : (Jvm.Cond.privateMethod ({ cls := "java/util/ArrayList", name := "grow", desc := "(I)[Ljava/lang/Object;" } : Jvm.MethodName)) ∈ lw_tbl := lw_at lw_m4 79 rfl
theorem q858 : (Jvm.Cond.instanceMethod ({ cls := "java/util/ArrayList", name := "grow", desc := "(I)[Ljava/lang/Object;" } : Jvm.MethodName)) ∈ lw_all := lw_g (lw_at lw_m4 80 rfl) rfl
theorem q859 : (Jvm.Cond.code ({ cls := "java/util/ArrayList", name := "grow", desc := "(I)[Ljava/lang/Object;" } : Jvm.MethodName) prog_45_method_6_code (4 : Nat) (Option.some (Jvm.ClassFile.FieldType.array (Jvm.ClassFile.FieldType.object "java/lang/Object")))) ∈ lw_all := lw_g (lw_at lw_m4 81 rfl) rfl
theorem q860 : (Jvm.Cond.methodLink "java/util/ArrayList" (73 : Nat) ({ cls := "jdk/internal/util/ArraysSupport", name := "newLength", desc := "(III)I" } : Jvm.MethodName)) ∈ lw_all := lw_g (lw_at lw_m4 82 rfl) rfl
theorem q861 : (Jvm.Cond.methodLink "java/util/ArrayList" (66 : Nat) ({ cls := "java/util/Arrays", name := "copyOf", desc := "([Ljava/lang/Object;I)[Ljava/lang/Object;" } : Jvm.MethodName)) ∈ lw_all := lw_g (lw_at lw_m4 83 rfl) rfl
theorem q862 : (Jvm.Cond.static ({ cls := "java/util/Arrays", name := "copyOf", desc := "([Ljava/lang/Object;I)[Ljava/lang/Object;" } : Jvm.MethodName)) ∈ lw_all := lw_g (lw_at lw_m4 84 rfl) rfl
theorem q863 : (Jvm.Cond.code ({ cls := "java/util/Arrays", name := "copyOf", desc := "([Ljava/lang/Object;I)[Ljava/lang/Object;" } : Jvm.MethodName) prog_47_method_119_code (2 : Nat) (Option.some (Jvm.ClassFile.FieldType.array (Jvm.ClassFile.FieldType.object "java/lang/Object")))) ∈ lw_all := lw_g (lw_at lw_m4 85 rfl) rfl
theorem q864 : (Jvm.Cond.methodLink "java/util/Arrays" (86 : Nat) ({ cls := "java/lang/Object", name := "getClass", desc := "()Ljava/lang/Class;" } : Jvm.MethodName)) ∈ lw_all := lw_g (lw_at lw_m4 86 rfl) rfl
theorem q865 : (Jvm.Cond.instanceMethod ({ cls := "java/lang/Object", name := "getClass", desc := "()Ljava/lang/Class;" } : Jvm.MethodName)) ∈ lw_all := lw_g (lw_at lw_m4 87 rfl) rfl
theorem q866 : (Jvm.Cond.sameMethod "java/lang/Object" "java/lang/Object" "getClass" "()Ljava/lang/Class;") ∈ lw_all := lw_g (lw_at lw_m4 88 rfl) rfl
theorem q867 : (Jvm.Cond.selects "RiddlePost" ({ cls := "java/lang/Object", name := "getClass", desc := "()Ljava/lang/Class;" } : Jvm.MethodName) ({ cls := "java/lang/Object", name := "getClass", desc := "()Ljava/lang/Class;" } : Jvm.MethodName)) ∈ lw_all := lw_g (lw_at lw_m4 89 rfl) rfl
theorem q868 : (Jvm.Cond.selects "RiddlePost$Act" ({ cls := "java/lang/Object", name := "getClass", desc := "()Ljava/lang/Class;" } : Jvm.MethodName) ({ cls := "java/lang/Object", name := "getClass", desc := "()Ljava/lang/Class;" } : Jvm.MethodName)) ∈ lw_all := lw_g (lw_at lw_m4 90 rfl) rfl
theorem q869 : (Jvm.Cond.selects "RiddlePost$Memory" ({ cls := "java/lang/Object", name := "getClass", desc := "()Ljava/lang/Class;" } : Jvm.MethodName) ({ cls := "java/lang/Object", name := "getClass", desc := "()Ljava/lang/Class;" } : Jvm.MethodName)) ∈ lw_all := lw_g (lw_at lw_m4 91 rfl) rfl
theorem q870 : (Jvm.Cond.selects "RiddlePost$Note" ({ cls := "java/lang/Object", name := "getClass", desc := "()Ljava/lang/Class;" } : Jvm.MethodName) ({ cls := "java/lang/Object", name := "getClass", desc := "()Ljava/lang/Class;" } : Jvm.MethodName)) ∈ lw_all := lw_g (lw_at lw_m4 92 rfl) rfl
theorem q871 : (Jvm.Cond.selects "RiddlePost$Post" ({ cls := "java/lang/Object", name := "getClass", desc := "()Ljava/lang/Class;" } : Jvm.MethodName) ({ cls := "java/lang/Object", name := "getClass", desc := "()Ljava/lang/Class;" } : Jvm.MethodName)) ∈ lw_all := lw_g (lw_at lw_m4 93 rfl) rfl
theorem q872 : (Jvm.Cond.selects "RiddlePost$Reader" ({ cls := "java/lang/Object", name := "getClass", desc := "()Ljava/lang/Class;" } : Jvm.MethodName) ({ cls := "java/lang/Object", name := "getClass", desc := "()Ljava/lang/Class;" } : Jvm.MethodName)) ∈ lw_all := lw_g (lw_at lw_m4 94 rfl) rfl
theorem q873 : (Jvm.Cond.selects "RiddlePost$Sooner" ({ cls := "java/lang/Object", name := "getClass", desc := "()Ljava/lang/Class;" } : Jvm.MethodName) ({ cls := "java/lang/Object", name := "getClass", desc := "()Ljava/lang/Class;" } : Jvm.MethodName)) ∈ lw_all := lw_g (lw_at lw_m4 95 rfl) rfl
theorem q874 : (Jvm.Cond.selects "RiddlePost$Topic" ({ cls := "java/lang/Object", name := "getClass", desc := "()Ljava/lang/Class;" } : Jvm.MethodName) ({ cls := "java/lang/Object", name := "getClass", desc := "()Ljava/lang/Class;" } : Jvm.MethodName)) ∈ lw_all := lw_g (lw_at lw_m4 96 rfl) rfl
theorem q875 : (Jvm.Cond.selects "RiddlePost$Zones" ({ cls := "java/lang/Object", name := "getClass", desc := "()Ljava/lang/Class;" } : Jvm.MethodName) ({ cls := "java/lang/Object", name := "getClass", desc := "()Ljava/lang/Class;" } : Jvm.MethodName)) ∈ lw_all := lw_g (lw_at lw_m4 97 rfl) rfl
theorem q876 : (Jvm.Cond.selects "RiddlePostModel" ({ cls := "java/lang/Object", name := "getClass", desc := "()Ljava/lang/Class;" } : Jvm.MethodName) ({ cls := "java/lang/Object", name := "getClass", desc := "()Ljava/lang/Class;" } : Jvm.MethodName)) ∈ lw_all := lw_g (lw_at lw_m4 98 rfl) rfl
theorem q877 : (Jvm.Cond.selects "java/lang/ArrayIndexOutOfBoundsException" ({ cls := "java/lang/Object", name := "getClass", desc := "()Ljava/lang/Class;" } : Jvm.MethodName) ({ cls := "java/lang/Object", name := "getClass", desc := "()Ljava/lang/Class;" } : Jvm.MethodName)) ∈ lw_all := lw_g (lw_at lw_m4 99 rfl) rfl
theorem q878 : (Jvm.Cond.selects "java/lang/IllegalArgumentException" ({ cls := "java/lang/Object", name := "getClass", desc := "()Ljava/lang/Class;" } : Jvm.MethodName) ({ cls := "java/lang/Object", name := "getClass", desc := "()Ljava/lang/Class;" } : Jvm.MethodName)) ∈ lw_all := lw_g (lw_at lw_m4 100 rfl) rfl
theorem q879 : (Jvm.Cond.selects "java/lang/IllegalStateException" ({ cls := "java/lang/Object", name := "getClass", desc := "()Ljava/lang/Class;" } : Jvm.MethodName) ({ cls := "java/lang/Object", name := "getClass", desc := "()Ljava/lang/Class;" } : Jvm.MethodName)) ∈ lw_all := lw_g (lw_at lw_m4 101 rfl) rfl
theorem q880 : (Jvm.Cond.selects "java/lang/IndexOutOfBoundsException" ({ cls := "java/lang/Object", name := "getClass", desc := "()Ljava/lang/Class;" } : Jvm.MethodName) ({ cls := "java/lang/Object", name := "getClass", desc := "()Ljava/lang/Class;" } : Jvm.MethodName)) ∈ lw_all := lw_g (lw_at lw_m4 102 rfl) rfl
theorem q881 : (Jvm.Cond.selects "java/lang/Integer" ({ cls := "java/lang/Object", name := "getClass", desc := "()Ljava/lang/Class;" } : Jvm.MethodName) ({ cls := "java/lang/Object", name := "getClass", desc := "()Ljava/lang/Class;" } : Jvm.MethodName)) ∈ lw_all := lw_g (lw_at lw_m4 103 rfl) rfl
theorem q882 : (Jvm.Cond.selects "java/lang/String" ({ cls := "java/lang/Object", name := "getClass", desc := "()Ljava/lang/Class;" } : Jvm.MethodName) ({ cls := "java/lang/Object", name := "getClass", desc := "()Ljava/lang/Class;" } : Jvm.MethodName)) ∈ lw_all := lw_g (lw_at lw_m4 104 rfl) rfl
theorem q883 : (Jvm.Cond.selects "java/lang/StringBuilder" ({ cls := "java/lang/Object", name := "getClass", desc := "()Ljava/lang/Class;" } : Jvm.MethodName) ({ cls := "java/lang/Object", name := "getClass", desc := "()Ljava/lang/Class;" } : Jvm.MethodName)) ∈ lw_all := lw_g (lw_at lw_m4 105 rfl) rfl
theorem q884 : (Jvm.Cond.selects "java/lang/StringIndexOutOfBoundsException" ({ cls := "java/lang/Object", name := "getClass", desc := "()Ljava/lang/Class;" } : Jvm.MethodName) ({ cls := "java/lang/Object", name := "getClass", desc := "()Ljava/lang/Class;" } : Jvm.MethodName)) ∈ lw_all := lw_g (lw_at lw_m4 106 rfl) rfl
theorem q885 : (Jvm.Cond.selects "java/util/ArrayList" ({ cls := "java/lang/Object", name := "getClass", desc := "()Ljava/lang/Class;" } : Jvm.MethodName) ({ cls := "java/lang/Object", name := "getClass", desc := "()Ljava/lang/Class;" } : Jvm.MethodName)) ∈ lw_all := lw_g (lw_at lw_m4 107 rfl) rfl
theorem q886 : (Jvm.Cond.selects "java/util/ArrayList$Itr" ({ cls := "java/lang/Object", name := "getClass", desc := "()Ljava/lang/Class;" } : Jvm.MethodName) ({ cls := "java/lang/Object", name := "getClass", desc := "()Ljava/lang/Class;" } : Jvm.MethodName)) ∈ lw_all := lw_g (lw_at lw_m4 108 rfl) rfl
theorem q887 : (Jvm.Cond.selects "java/util/PriorityQueue" ({ cls := "java/lang/Object", name := "getClass", desc := "()Ljava/lang/Class;" } : Jvm.MethodName) ({ cls := "java/lang/Object", name := "getClass", desc := "()Ljava/lang/Class;" } : Jvm.MethodName)) ∈ lw_all := lw_g (lw_at lw_m4 109 rfl) rfl
theorem q888 : (Jvm.Cond.selects "java/util/PriorityQueue$Itr" ({ cls := "java/lang/Object", name := "getClass", desc := "()Ljava/lang/Class;" } : Jvm.MethodName) ({ cls := "java/lang/Object", name := "getClass", desc := "()Ljava/lang/Class;" } : Jvm.MethodName)) ∈ lw_all := lw_g (lw_at lw_m4 110 rfl) rfl
theorem q889 : (Jvm.Cond.selects "java/util/TreeMap" ({ cls := "java/lang/Object", name := "getClass", desc := "()Ljava/lang/Class;" } : Jvm.MethodName) ({ cls := "java/lang/Object", name := "getClass", desc := "()Ljava/lang/Class;" } : Jvm.MethodName)) ∈ lw_all := lw_g (lw_at lw_m4 111 rfl) rfl
theorem q890 : (Jvm.Cond.selects "java/util/TreeMap$Entry" ({ cls := "java/lang/Object", name := "getClass", desc := "()Ljava/lang/Class;" } : Jvm.MethodName) ({ cls := "java/lang/Object", name := "getClass", desc := "()Ljava/lang/Class;" } : Jvm.MethodName)) ∈ lw_all := lw_g (lw_at lw_m4 112 rfl) rfl
theorem q891 : (Jvm.Cond.selects "java/util/TreeMap$EntryIterator" ({ cls := "java/lang/Object", name := "getClass", desc := "()Ljava/lang/Class;" } : Jvm.MethodName) ({ cls := "java/lang/Object", name := "getClass", desc := "()Ljava/lang/Class;" } : Jvm.MethodName)) ∈ lw_all := lw_g (lw_at lw_m4 113 rfl) rfl
theorem q892 : (Jvm.Cond.selects "java/util/TreeMap$EntrySet" ({ cls := "java/lang/Object", name := "getClass", desc := "()Ljava/lang/Class;" } : Jvm.MethodName) ({ cls := "java/lang/Object", name := "getClass", desc := "()Ljava/lang/Class;" } : Jvm.MethodName)) ∈ lw_all := lw_g (lw_at lw_m4 114 rfl) rfl
theorem q893 : (Jvm.Cond.selects "java/util/TreeMap$KeyIterator" ({ cls := "java/lang/Object", name := "getClass", desc := "()Ljava/lang/Class;" } : Jvm.MethodName) ({ cls := "java/lang/Object", name := "getClass", desc := "()Ljava/lang/Class;" } : Jvm.MethodName)) ∈ lw_all := lw_g (lw_at lw_m4 115 rfl) rfl
theorem q894 : (Jvm.Cond.selects "java/util/TreeMap$KeySet" ({ cls := "java/lang/Object", name := "getClass", desc := "()Ljava/lang/Class;" } : Jvm.MethodName) ({ cls := "java/lang/Object", name := "getClass", desc := "()Ljava/lang/Class;" } : Jvm.MethodName)) ∈ lw_all := lw_g (lw_at lw_m4 116 rfl) rfl
theorem q895 : (Jvm.Cond.selects "java/util/TreeSet" ({ cls := "java/lang/Object", name := "getClass", desc := "()Ljava/lang/Class;" } : Jvm.MethodName) ({ cls := "java/lang/Object", name := "getClass", desc := "()Ljava/lang/Class;" } : Jvm.MethodName)) ∈ lw_all := lw_g (lw_at lw_m4 117 rfl) rfl
theorem q896 : (Jvm.Cond.selects "jdk/internal/misc/Unsafe" ({ cls := "java/lang/Object", name := "getClass", desc := "()Ljava/lang/Class;" } : Jvm.MethodName) ({ cls := "java/lang/Object", name := "getClass", desc := "()Ljava/lang/Class;" } : Jvm.MethodName)) ∈ lw_all := lw_g (lw_at lw_m4 118 rfl) rfl
theorem q897 : (Jvm.Cond.native ({ cls := "java/lang/Object", name := "getClass", desc := "()Ljava/lang/Class;" } : Jvm.MethodName)) ∈ lw_all := lw_g (lw_at lw_m4 119 rfl) rfl
theorem q898 : (Jvm.Cond.methodLink "java/util/Arrays" (300 : Nat) ({ cls := "java/util/Arrays", name := "copyOf", desc := "([Ljava/lang/Object;ILjava/lang/Class;)[Ljava/lang/Object;" } : Jvm.MethodName)) ∈ lw_all := lw_g (lw_at lw_m4 120 rfl) rfl
theorem q899 : (Jvm.Cond.static ({ cls := "java/util/Arrays", name := "copyOf", desc := "([Ljava/lang/Object;ILjava/lang/Class;)[Ljava/lang/Object;" } : Jvm.MethodName)) ∈ lw_all := lw_g (lw_at lw_m4 121 rfl) rfl
theorem q900 : (Jvm.Cond.code ({ cls := "java/util/Arrays", name := "copyOf", desc := "([Ljava/lang/Object;ILjava/lang/Class;)[Ljava/lang/Object;" } : Jvm.MethodName) prog_47_method_120_code (4 : Nat) (Option.some (Jvm.ClassFile.FieldType.array (Jvm.ClassFile.FieldType.object "java/lang/Object")))) ∈ lw_all := lw_g (lw_at lw_m4 122 rfl) rfl
theorem q901 : (Jvm.Cond.classLink "java/util/Arrays" (110 : Nat) "[Ljava/lang/Object;") ∈ lw_all := lw_g (lw_at lw_m4 123 rfl) rfl
theorem q902 : (Jvm.Cond.classLink "java/util/Arrays" (2 : Nat) "java/lang/Object") ∈ lw_all := lw_g (lw_at lw_m4 124 rfl) rfl
theorem q903 : (Jvm.Cond.methodLink "java/util/ArrayList" (79 : Nat) ({ cls := "java/lang/Math", name := "max", desc := "(II)I" } : Jvm.MethodName)) ∈ lw_all := lw_g (lw_at lw_m4 125 rfl) rfl
theorem q904 : (Jvm.Cond.classLink "java/util/ArrayList" (7 : Nat) "java/lang/Object") ∈ lw_all := lw_g (lw_at lw_m4 126 rfl) rfl
theorem q905 : (Jvm.Cond.methodLink "RiddlePostLaw" (218 : Nat) ({ cls := "RiddlePost", name := "digest", desc := "()J" } : Jvm.MethodName)) ∈ lw_all := lw_g (lw_at lw_m4 127 rfl) rfl
theorem q906 : (Jvm.Cond.instanceMethod ({ cls := "RiddlePost", name := "digest", desc := "()J" } : Jvm.MethodName)) ∈ lw_all := lw_g (lw_at lw_m4 128 rfl) rfl
theorem q907 : (Jvm.Cond.selects "RiddlePost" ({ cls := "RiddlePost", name := "digest", desc := "()J" } : Jvm.MethodName) ({ cls := "RiddlePost", name := "digest", desc := "()J" } : Jvm.MethodName)) ∈ lw_all := lw_g (lw_at lw_m4 129 rfl) rfl
theorem q908 : (Jvm.Cond.code ({ cls := "RiddlePost", name := "digest", desc := "()J" } : Jvm.MethodName) prog_1_method_45_code (7 : Nat) (Option.some Jvm.ClassFile.FieldType.long)) ∈ lw_all := lw_g (lw_at lw_m4 130 rfl) rfl
theorem q909 : (Jvm.Cond.constantLong "RiddlePost" (260 : Nat) (725 : Int64)) ∈ lw_all := lw_g (lw_at lw_m4 131 rfl) rfl
theorem q910 : (Jvm.Cond.methodLink "RiddlePost" (262 : Nat) ({ cls := "RiddlePost", name := "remembered", desc := "()I" } : Jvm.MethodName)) ∈ lw_all := lw_g (lw_at lw_m4 132 rfl) rfl
theorem q911 : (Jvm.Cond.methodLink "RiddlePost" (264 : Nat) ({ cls := "RiddlePost", name := "ticksUntilForgetting", desc := "()I" } : Jvm.MethodName)) ∈ lw_all := lw_g (lw_at lw_m4 133 rfl) rfl
theorem q912 : (Jvm.Cond.methodLink "RiddlePost" (267 : Nat) ({ cls := "RiddlePost", name := "add", desc := "(J[I)J" } : Jvm.MethodName)) ∈ lw_all := lw_g (lw_at lw_m4 134 rfl) rfl
theorem q913 : (Jvm.Cond.static ({ cls := "RiddlePost", name := "add", desc := "(J[I)J" } : Jvm.MethodName)) ∈ lw_all := lw_g (lw_at lw_m4 135 rfl) rfl
theorem q914 : (Jvm.Cond.code ({ cls := "RiddlePost", name := "add", desc := "(J[I)J" } : Jvm.MethodName) prog_1_method_44_code (6 : Nat) (Option.some Jvm.ClassFile.FieldType.long)) ∈ lw_all := lw_g (lw_at lw_m4 136 rfl) rfl
theorem q915 : (Jvm.Cond.constantLong "RiddlePost" (258 : Nat) (31 : Int64)) ∈ lw_all := lw_g (lw_at lw_m4 137 rfl) rfl
theorem q916 : (Jvm.Cond.methodLink "RiddlePost" (146 : Nat) ({ cls := "RiddlePost$Zones", name := "depth", desc := "(I)I" } : Jvm.MethodName)) ∈ lw_all := lw_g (lw_at lw_m4 138 rfl) rfl
theorem q917 : (Jvm.Cond.instanceMethod ({ cls := "RiddlePost$Zones", name := "depth", desc := "(I)I" } : Jvm.MethodName)) ∈ lw_all := lw_g (lw_at lw_m4 139 rfl) rfl
theorem q918 : (Jvm.Cond.selects "RiddlePost$Zones" ({ cls := "RiddlePost$Zones", name := "depth", desc := "(I)I" } : Jvm.MethodName) ({ cls := "RiddlePost$Zones", name := "depth", desc := "(I)I" } : Jvm.MethodName)) ∈ lw_all := lw_g (lw_at lw_m4 140 rfl) rfl
theorem q919 : (Jvm.Cond.code ({ cls := "RiddlePost$Zones", name := "depth", desc := "(I)I" } : Jvm.MethodName) prog_9_method_5_code (4 : Nat) (Option.some Jvm.ClassFile.FieldType.int)) ∈ lw_all := lw_g (lw_at lw_m4 141 rfl) rfl
theorem q920 : (Jvm.Cond.methodLink "RiddlePost" (270 : Nat) ({ cls := "RiddlePost", name := "referralLeft", desc := "(I)I" } : Jvm.MethodName)) ∈ lw_all := lw_g (lw_at lw_m4 142 rfl) rfl
theorem q921 : (Jvm.Cond.instanceMethod ({ cls := "RiddlePost", name := "referralLeft", desc := "(I)I" } : Jvm.MethodName)) ∈ lw_all := lw_g (lw_at lw_m4 143 rfl) rfl
theorem q922 : (Jvm.Cond.selects "RiddlePost" ({ cls := "RiddlePost", name := "referralLeft", desc := "(I)I" } : Jvm.MethodName) ({ cls := "RiddlePost", name := "referralLeft", desc := "(I)I" } : Jvm.MethodName)) ∈ lw_all := lw_g (lw_at lw_m4 144 rfl) rfl
theorem q923 : (Jvm.Cond.code ({ cls := "RiddlePost", name := "referralLeft", desc := "(I)I" } : Jvm.MethodName) prog_1_method_27_code (2 : Nat) (Option.some Jvm.ClassFile.FieldType.int)) ∈ lw_all := lw_g (lw_at lw_m4 145 rfl) rfl
theorem q924 : (Jvm.Cond.methodLink "RiddlePost" (99 : Nat) ({ cls := "RiddlePost", name := "checkZone", desc := "(I)V" } : Jvm.MethodName)) ∈ lw_all := lw_g (lw_at lw_m4 146 rfl) rfl
theorem q925 : (Jvm.Cond.static ({ cls := "RiddlePost", name := "checkZone", desc := "(I)V" } : Jvm.MethodName)) ∈ lw_all := lw_g (lw_at lw_m4 147 rfl) rfl
theorem q926 : (Jvm.Cond.code ({ cls := "RiddlePost", name := "checkZone", desc := "(I)V" } : Jvm.MethodName) prog_1_method_8_code (1 : Nat) (Option.none : Option Jvm.ClassFile.FieldType)) ∈ lw_all := lw_g (lw_at lw_m4 148 rfl) rfl
theorem q927 : (Jvm.Cond.methodLink "RiddlePost" (80 : Nat) ({ cls := "RiddlePost", name := "checkIndex", desc := "(II)V" } : Jvm.MethodName)) ∈ lw_all := lw_g (lw_at lw_m4 149 rfl) rfl
theorem q928 : (Jvm.Cond.static ({ cls := "RiddlePost", name := "checkIndex", desc := "(II)V" } : Jvm.MethodName)) ∈ lw_all := lw_g (lw_at lw_m4 150 rfl) rfl
theorem q929 : (Jvm.Cond.code ({ cls := "RiddlePost", name := "checkIndex", desc := "(II)V" } : Jvm.MethodName) prog_1_method_3_code (2 : Nat) (Option.none : Option Jvm.ClassFile.FieldType)) ∈ lw_all := lw_g (lw_at lw_m4 151 rfl) rfl
theorem q930 : (Jvm.Cond.methodLink "RiddlePost" (3 : Nat) ({ cls := "RiddlePost", name := "isWithin", desc := "(III)Z" } : Jvm.MethodName)) ∈ lw_all := lw_g (lw_at lw_m4 152 rfl) rfl
theorem q931 : (Jvm.Cond.classLink "RiddlePost" (13 : Nat) "java/lang/IndexOutOfBoundsException") ∈ lw_all := lw_g (lw_at lw_m4 153 rfl) rfl
theorem q932 : (Jvm.Cond.instantiable "java/lang/IndexOutOfBoundsException" (6 : Nat)) ∈ lw_all := lw_g (lw_at lw_m4 154 rfl) rfl
theorem q933 : (Jvm.Cond.castable "java/lang/IndexOutOfBoundsException" "java/lang/IndexOutOfBoundsException") ∈ lw_tbl := lw_at lw_m4 155 rfl
theorem q934 : (Jvm.Cond.selects "java/lang/IndexOutOfBoundsException" ({ cls := "java/lang/Throwable", name := "fillInStackTrace", desc := "(I)Ljava/lang/Throwable;" } : Jvm.MethodName) ({ cls := "java/lang/Throwable", name := "fillInStackTrace", desc := "(I)Ljava/lang/Throwable;" } : Jvm.MethodName)) ∈ lw_all := lw_g (lw_at lw_m4 156 rfl) rfl
theorem q935 : (Jvm.Cond.lays "java/lang/IndexOutOfBoundsException" "java/lang/Throwable" "cause" "Ljava/lang/Throwable;") ∈ lw_all := lw_g (lw_at lw_m4 157 rfl) rfl
theorem q936 : (Jvm.Cond.lays "java/lang/IndexOutOfBoundsException" "java/lang/Throwable" "stackTrace" "[Ljava/lang/StackTraceElement;") ∈ lw_all := lw_g (lw_at lw_m4 158 rfl) rfl
theorem q937 : (Jvm.Cond.lays "java/lang/IndexOutOfBoundsException" "java/lang/Throwable" "suppressedExceptions" "Ljava/util/List;") ∈ lw_all := lw_g (lw_at lw_m4 159 rfl) rfl
theorem q938 : (Jvm.Cond.lays "java/lang/IndexOutOfBoundsException" "java/lang/Throwable" "detailMessage" "Ljava/lang/String;") ∈ lw_all := lw_g (lw_at lw_m4 160 rfl) rfl
theorem q939 : (Jvm.Cond.lays "java/lang/IndexOutOfBoundsException" "java/lang/Throwable" "backtrace" "Ljava/lang/Object;") ∈ lw_all := lw_g (lw_at lw_m4 161 rfl) rfl
theorem q940 : (Jvm.Cond.methodLink "RiddlePost" (15 : Nat) ({ cls := "java/lang/IndexOutOfBoundsException", name := "<init>", desc := "()V" } : Jvm.MethodName)) ∈ lw_all := lw_g (lw_at lw_m4 162 rfl) rfl
theorem q941 : (Jvm.Cond.instanceMethod ({ cls := "java/lang/IndexOutOfBoundsException", name := "<init>", desc := "()V" } : Jvm.MethodName)) ∈ lw_all := lw_g (lw_at lw_m4 163 rfl) rfl
theorem q942 : (Jvm.Cond.code ({ cls := "java/lang/IndexOutOfBoundsException", name := "<init>", desc := "()V" } : Jvm.MethodName) prog_22_method_1_code (1 : Nat) (Option.none : Option Jvm.ClassFile.FieldType)) ∈ lw_all := lw_g (lw_at lw_m4 164 rfl) rfl
theorem q943 : (Jvm.Cond.methodLink "java/lang/IndexOutOfBoundsException" (1 : Nat) ({ cls := "java/lang/RuntimeException", name := "<init>", desc := "()V" } : Jvm.MethodName)) ∈ lw_all := lw_g (lw_at lw_m4 165 rfl) rfl
theorem q944 : (Jvm.Cond.lays "java/lang/IndexOutOfBoundsException" "java/lang/Throwable" "depth" "I") ∈ lw_all := lw_g (lw_at lw_m4 166 rfl) rfl
theorem q945 : (Jvm.Cond.superclass "java/lang/IndexOutOfBoundsException" "java/lang/RuntimeException") ∈ lw_all := lw_g (lw_at lw_m4 167 rfl) rfl
theorem q946 : (Jvm.Cond.methodLink "RiddlePost" (126 : Nat) ({ cls := "RiddlePost$Memory", name := "of", desc := "(ZI)LRiddlePost$Note;" } : Jvm.MethodName)) ∈ lw_all := lw_g (lw_at lw_m4 168 rfl) rfl
theorem q947 : (Jvm.Cond.instanceMethod ({ cls := "RiddlePost$Memory", name := "of", desc := "(ZI)LRiddlePost$Note;" } : Jvm.MethodName)) ∈ lw_all := lw_g (lw_at lw_m4 169 rfl) rfl
theorem q948 : (Jvm.Cond.selects "RiddlePost$Memory" ({ cls := "RiddlePost$Memory", name := "of", desc := "(ZI)LRiddlePost$Note;" } : Jvm.MethodName) ({ cls := "RiddlePost$Memory", name := "of", desc := "(ZI)LRiddlePost$Note;" } : Jvm.MethodName)) ∈ lw_all := lw_g (lw_at lw_m4 170 rfl) rfl
theorem q949 : (Jvm.Cond.code ({ cls := "RiddlePost$Memory", name := "of", desc := "(ZI)LRiddlePost$Note;" } : Jvm.MethodName) prog_3_method_4_code (3 : Nat) (Option.some (Jvm.ClassFile.FieldType.object "RiddlePost$Note"))) ∈ lw_all := lw_g (lw_at lw_m4 171 rfl) rfl
theorem q950 : (Jvm.Cond.classLink "RiddlePost$Memory" (58 : Nat) "RiddlePost$Topic") ∈ lw_all := lw_g (lw_at lw_m4 172 rfl) rfl
theorem q951 : (Jvm.Cond.instantiable "RiddlePost$Topic" (2 : Nat)) ∈ lw_all := lw_g (lw_at lw_m4 173 rfl) rfl
theorem q952 : (Jvm.Cond.methodLink "RiddlePost$Memory" (60 : Nat) ({ cls := "RiddlePost$Topic", name := "<init>", desc := "(ZI)V" } : Jvm.MethodName)) ∈ lw_all := lw_g (lw_at lw_m4 174 rfl) rfl
theorem q953 : (Jvm.Cond.instanceMethod ({ cls := "RiddlePost$Topic", name := "<init>", desc := "(ZI)V" } : Jvm.MethodName)) ∈ lw_all := lw_g (lw_at lw_m4 175 rfl) rfl
theorem q954 : (Jvm.Cond.code ({ cls := "RiddlePost$Topic", name := "<init>", desc := "(ZI)V" } : Jvm.MethodName) prog_8_method_1_code (3 : Nat) (Option.none : Option Jvm.ClassFile.FieldType)) ∈ lw_all := lw_g (lw_at lw_m4 176 rfl) rfl
theorem q955 : (Jvm.Cond.methodLink "RiddlePost$Topic" (1 : Nat) ({ cls := "java/lang/Object", name := "<init>", desc := "()V" } : Jvm.MethodName)) ∈ lw_all := lw_g (lw_at lw_m4 177 rfl) rfl
theorem q956 : (Jvm.Cond.fieldLink "RiddlePost$Topic" (7 : Nat) "RiddlePost$Topic" "isZone" "Z") ∈ lw_all := lw_g (lw_at lw_m4 178 rfl) rfl
theorem q957 : (Jvm.Cond.fieldLink "RiddlePost$Topic" (13 : Nat) "RiddlePost$Topic" "number" "I") ∈ lw_all := lw_g (lw_at lw_m4 179 rfl) rfl
theorem q958 : (Jvm.Cond.laysFinal "RiddlePost$Topic" "RiddlePost$Topic" "isZone" "Z") ∈ lw_all := lw_g (lw_at lw_m4 180 rfl) rfl
theorem q959 : (Jvm.Cond.soleField "RiddlePost$Topic" "isZone") ∈ lw_all := lw_g (lw_at lw_m4 181 rfl) rfl
theorem q960 : (Jvm.Cond.laysFinal "RiddlePost$Topic" "RiddlePost$Topic" "number" "I") ∈ lw_all := lw_g (lw_at lw_m4 182 rfl) rfl
theorem q961 : (Jvm.Cond.soleField "RiddlePost$Topic" "number") ∈ lw_all := lw_g (lw_at lw_m4 183 rfl) rfl
theorem q962 : (Jvm.Cond.superclass "RiddlePost$Topic" "java/lang/Object") ∈ lw_all := lw_g (lw_at lw_m4 184 rfl) rfl
theorem q963 : (Jvm.Cond.methodLink "RiddlePost$Memory" (63 : Nat) ({ cls := "java/util/TreeMap", name := "get", desc := "(Ljava/lang/Object;)Ljava/lang/Object;" } : Jvm.MethodName)) ∈ lw_all := lw_g (lw_at lw_m4 185 rfl) rfl
theorem q964 : (Jvm.Cond.instanceMethod ({ cls := "java/util/TreeMap", name := "get", desc := "(Ljava/lang/Object;)Ljava/lang/Object;" } : Jvm.MethodName)) ∈ lw_all := lw_g (lw_at lw_m4 186 rfl) rfl
theorem q965 : (Jvm.Cond.selects "java/util/TreeMap" ({ cls := "java/util/TreeMap", name := "get", desc := "(Ljava/lang/Object;)Ljava/lang/Object;" } : Jvm.MethodName) ({ cls := "java/util/TreeMap", name := "get", desc := "(Ljava/lang/Object;)Ljava/lang/Object;" } : Jvm.MethodName)) ∈ lw_all := lw_g (lw_at lw_m4 187 rfl) rfl
theorem q966 : (Jvm.Cond.code ({ cls := "java/util/TreeMap", name := "get", desc := "(Ljava/lang/Object;)Ljava/lang/Object;" } : Jvm.MethodName) prog_67_method_8_code (3 : Nat) (Option.some (Jvm.ClassFile.FieldType.object "java/lang/Object"))) ∈ lw_all := lw_g (lw_at lw_m4 188 rfl) rfl
theorem q967 : (Jvm.Cond.methodLink "java/util/TreeMap" (50 : Nat) ({ cls := "java/util/TreeMap", name := "getEntry", desc := "(Ljava/lang/Object;)Ljava/util/TreeMap$Entry;" } : Jvm.MethodName)) ∈ lw_all := lw_g (lw_at lw_m4 189 rfl) rfl
theorem q968 : (Jvm.Cond.instanceMethod ({ cls := "java/util/TreeMap", name := "getEntry", desc := "(Ljava/lang/Object;)Ljava/util/TreeMap$Entry;" } : Jvm.MethodName)) ∈ lw_all := lw_g (lw_at lw_m4 190 rfl) rfl
theorem q969 : (Jvm.Cond.selects "java/util/TreeMap" ({ cls := "java/util/TreeMap", name := "getEntry", desc := "(Ljava/lang/Object;)Ljava/util/TreeMap$Entry;" } : Jvm.MethodName) ({ cls := "java/util/TreeMap", name := "getEntry", desc := "(Ljava/lang/Object;)Ljava/util/TreeMap$Entry;" } : Jvm.MethodName)) ∈ lw_all := lw_g (lw_at lw_m4 191 rfl) rfl
theorem q970 : (Jvm.Cond.code ({ cls := "java/util/TreeMap", name := "getEntry", desc := "(Ljava/lang/Object;)Ljava/util/TreeMap$Entry;" } : Jvm.MethodName) prog_67_method_15_code (5 : Nat) (Option.some (Jvm.ClassFile.FieldType.object "java/util/TreeMap$Entry"))) ∈ lw_all := lw_g (lw_at lw_m4 192 rfl) rfl
theorem q971 : (Jvm.Cond.methodLink "java/util/TreeMap" (92 : Nat) ({ cls := "java/util/TreeMap", name := "getEntryUsingComparator", desc := "(Ljava/lang/Object;)Ljava/util/TreeMap$Entry;" } : Jvm.MethodName)) ∈ lw_all := lw_g (lw_at lw_m4 193 rfl) rfl
theorem q972 : (Jvm.Cond.instanceMethod ({ cls := "java/util/TreeMap", name := "getEntryUsingComparator", desc := "(Ljava/lang/Object;)Ljava/util/TreeMap$Entry;" } : Jvm.MethodName)) ∈ lw_all := lw_g (lw_at lw_m4 194 rfl) rfl
theorem q973 : (Jvm.Cond.selects "java/util/TreeMap" ({ cls := "java/util/TreeMap", name := "getEntryUsingComparator", desc := "(Ljava/lang/Object;)Ljava/util/TreeMap$Entry;" } : Jvm.MethodName) ({ cls := "java/util/TreeMap", name := "getEntryUsingComparator", desc := "(Ljava/lang/Object;)Ljava/util/TreeMap$Entry;" } : Jvm.MethodName)) ∈ lw_all := lw_g (lw_at lw_m4 195 rfl) rfl
theorem q974 : (Jvm.Cond.code ({ cls := "java/util/TreeMap", name := "getEntryUsingComparator", desc := "(Ljava/lang/Object;)Ljava/util/TreeMap$Entry;" } : Jvm.MethodName) prog_67_method_16_code (6 : Nat) (Option.some (Jvm.ClassFile.FieldType.object "java/util/TreeMap$Entry"))) ∈ lw_all := lw_g (lw_at lw_m4 196 rfl) rfl
theorem q975 : (Jvm.Cond.interfaceEntry "java/util/TreeMap" (117 : Nat)) ∈ lw_tbl := lw_at lw_m4 197 rfl
theorem q976 : (Jvm.Cond.methodLink "java/util/TreeMap" (117 : Nat) ({ cls := "java/util/Comparator", name := "compare", desc := "(Ljava/lang/Object;Ljava/lang/Object;)I" } : Jvm.MethodName)) ∈ lw_all := lw_g (lw_at lw_m4 198 rfl) rfl
theorem q977 : (Jvm.Cond.interfaceMethod "java/util/Comparator" "java/util/Comparator" "compare" "(Ljava/lang/Object;Ljava/lang/Object;)I") ∈ lw_tbl := lw_at lw_m4 199 rfl
theorem q978 : (Jvm.Cond.declares ({ cls := "java/util/Comparator", name := "compare", desc := "(Ljava/lang/Object;Ljava/lang/Object;)I" } : Jvm.MethodName)) ∈ lw_tbl := lw_at lw_m4 200 rfl
theorem q979 : (Jvm.Cond.castable "RiddlePost$Sooner" "java/util/Comparator") ∈ lw_tbl := lw_at lw_m4 201 rfl
theorem q980 : (Jvm.Cond.selects "RiddlePost$Sooner" ({ cls := "java/util/Comparator", name := "compare", desc := "(Ljava/lang/Object;Ljava/lang/Object;)I" } : Jvm.MethodName) ({ cls := "RiddlePost$Sooner", name := "compare", desc := "(Ljava/lang/Object;Ljava/lang/Object;)I" } : Jvm.MethodName)) ∈ lw_all := lw_g (lw_at lw_m4 202 rfl) rfl
theorem q981 : (Jvm.Cond.unhidden "RiddlePost$Sooner" "compare" "(Ljava/lang/Object;Ljava/lang/Object;)I") ∈ lw_tbl := lw_at lw_m4 203 rfl
theorem q982 : (Jvm.Cond.instanceMethod ({ cls := "RiddlePost$Sooner", name := "compare", desc := "(Ljava/lang/Object;Ljava/lang/Object;)I" } : Jvm.MethodName)) ∈ lw_all := lw_g (lw_at lw_m4 204 rfl) rfl
theorem q983 : (Jvm.Cond.publicMethod ({ cls := "RiddlePost$Sooner", name := "compare", desc := "(Ljava/lang/Object;Ljava/lang/Object;)I" } : Jvm.MethodName)) ∈ lw_tbl := lw_at lw_m4 205 rfl
theorem q984 : (Jvm.Cond.code ({ cls := "RiddlePost$Sooner", name := "compare", desc := "(Ljava/lang/Object;Ljava/lang/Object;)I" } : Jvm.MethodName) prog_7_method_3_code (3 : Nat) (Option.some Jvm.ClassFile.FieldType.int)) ∈ lw_all := lw_g (lw_at lw_m4 206 rfl) rfl
theorem q985 : (Jvm.Cond.classLink "RiddlePost$Sooner" (8 : Nat) "RiddlePost$Note") ∈ lw_all := lw_g (lw_at lw_m4 207 rfl) rfl
theorem q986 : (Jvm.Cond.methodLink "RiddlePost$Sooner" (29 : Nat) ({ cls := "RiddlePost$Sooner", name := "compare", desc := "(LRiddlePost$Note;LRiddlePost$Note;)I" } : Jvm.MethodName)) ∈ lw_all := lw_g (lw_at lw_m4 208 rfl) rfl
theorem q987 : (Jvm.Cond.instanceMethod ({ cls := "RiddlePost$Sooner", name := "compare", desc := "(LRiddlePost$Note;LRiddlePost$Note;)I" } : Jvm.MethodName)) ∈ lw_all := lw_g (lw_at lw_m4 209 rfl) rfl
theorem q988 : (Jvm.Cond.selects "RiddlePost$Sooner" ({ cls := "RiddlePost$Sooner", name := "compare", desc := "(LRiddlePost$Note;LRiddlePost$Note;)I" } : Jvm.MethodName) ({ cls := "RiddlePost$Sooner", name := "compare", desc := "(LRiddlePost$Note;LRiddlePost$Note;)I" } : Jvm.MethodName)) ∈ lw_all := lw_g (lw_at lw_m4 210 rfl) rfl
theorem q989 : (Jvm.Cond.code ({ cls := "RiddlePost$Sooner", name := "compare", desc := "(LRiddlePost$Note;LRiddlePost$Note;)I" } : Jvm.MethodName) prog_7_method_2_code (4 : Nat) (Option.some Jvm.ClassFile.FieldType.int)) ∈ lw_all := lw_g (lw_at lw_m4 211 rfl) rfl
theorem q990 : (Jvm.Cond.methodLink "RiddlePost$Sooner" (13 : Nat) ({ cls := "java/lang/Integer", name := "compare", desc := "(II)I" } : Jvm.MethodName)) ∈ lw_all := lw_g (lw_at lw_m4 212 rfl) rfl
theorem q991 : (Jvm.Cond.static ({ cls := "java/lang/Integer", name := "compare", desc := "(II)I" } : Jvm.MethodName)) ∈ lw_all := lw_g (lw_at lw_m4 213 rfl) rfl
theorem q992 : (Jvm.Cond.code ({ cls := "java/lang/Integer", name := "compare", desc := "(II)I" } : Jvm.MethodName) prog_23_method_40_code (2 : Nat) (Option.some Jvm.ClassFile.FieldType.int)) ∈ lw_all := lw_g (lw_at lw_m4 214 rfl) rfl
theorem q993 : (Jvm.Cond.methodLink "RiddlePost$Sooner" (23 : Nat) ({ cls := "RiddlePost$Topic", name := "compareTo", desc := "(LRiddlePost$Topic;)I" } : Jvm.MethodName)) ∈ lw_all := lw_g (lw_at lw_m4 215 rfl) rfl
theorem q994 : (Jvm.Cond.instanceMethod ({ cls := "RiddlePost$Topic", name := "compareTo", desc := "(LRiddlePost$Topic;)I" } : Jvm.MethodName)) ∈ lw_all := lw_g (lw_at lw_m4 216 rfl) rfl
theorem q995 : (Jvm.Cond.selects "RiddlePost$Topic" ({ cls := "RiddlePost$Topic", name := "compareTo", desc := "(LRiddlePost$Topic;)I" } : Jvm.MethodName) ({ cls := "RiddlePost$Topic", name := "compareTo", desc := "(LRiddlePost$Topic;)I" } : Jvm.MethodName)) ∈ lw_all := lw_g (lw_at lw_m4 217 rfl) rfl
theorem q996 : (Jvm.Cond.code ({ cls := "RiddlePost$Topic", name := "compareTo", desc := "(LRiddlePost$Topic;)I" } : Jvm.MethodName) prog_8_method_2_code (2 : Nat) (Option.some Jvm.ClassFile.FieldType.int)) ∈ lw_all := lw_g (lw_at lw_m4 218 rfl) rfl
theorem q997 : (Jvm.Cond.methodLink "RiddlePost$Topic" (17 : Nat) ({ cls := "java/lang/Integer", name := "compare", desc := "(II)I" } : Jvm.MethodName)) ∈ lw_all := lw_g (lw_at lw_m4 219 rfl) rfl
theorem q998 : (Jvm.Cond.methodLink "java/util/TreeMap" (95 : Nat) ({ cls := "java/util/Objects", name := "requireNonNull", desc := "(Ljava/lang/Object;)Ljava/lang/Object;" } : Jvm.MethodName)) ∈ lw_all := lw_g (lw_at lw_m4 220 rfl) rfl
theorem q999 : (Jvm.Cond.static ({ cls := "java/util/Objects", name := "requireNonNull", desc := "(Ljava/lang/Object;)Ljava/lang/Object;" } : Jvm.MethodName)) ∈ lw_all := lw_g (lw_at lw_m4 221 rfl) rfl
theorem q1000 : (Jvm.Cond.code ({ cls := "java/util/Objects", name := "requireNonNull", desc := "(Ljava/lang/Object;)Ljava/lang/Object;" } : Jvm.MethodName) prog_56_method_10_code (1 : Nat) (Option.some (Jvm.ClassFile.FieldType.object "java/lang/Object"))) ∈ lw_all := lw_g (lw_at lw_m4 222 rfl) rfl
theorem q1001 : (Jvm.Cond.classLink "java/util/TreeMap" (99 : Nat) "java/lang/Comparable") ∈ lw_all := lw_g (lw_at lw_m4 223 rfl) rfl
theorem q1002 : (Jvm.Cond.interfaceEntry "java/util/TreeMap" (107 : Nat)) ∈ lw_tbl := lw_at lw_m4 224 rfl
theorem q1003 : (Jvm.Cond.methodLink "java/util/TreeMap" (107 : Nat) ({ cls := "java/lang/Comparable", name := "compareTo", desc := "(Ljava/lang/Object;)I" } : Jvm.MethodName)) ∈ lw_all := lw_g (lw_at lw_m4 225 rfl) rfl
theorem q1004 : (Jvm.Cond.interfaceMethod "java/lang/Comparable" "java/lang/Comparable" "compareTo" "(Ljava/lang/Object;)I") ∈ lw_tbl := lw_at lw_m4 226 rfl
theorem q1005 : (Jvm.Cond.declares ({ cls := "java/lang/Comparable", name := "compareTo", desc := "(Ljava/lang/Object;)I" } : Jvm.MethodName)) ∈ lw_tbl := lw_at lw_m4 227 rfl
theorem q1006 : (Jvm.Cond.castable "RiddlePost$Topic" "java/lang/Comparable") ∈ lw_tbl := lw_at lw_m4 228 rfl
theorem q1007 : (Jvm.Cond.selects "RiddlePost$Topic" ({ cls := "java/lang/Comparable", name := "compareTo", desc := "(Ljava/lang/Object;)I" } : Jvm.MethodName) ({ cls := "RiddlePost$Topic", name := "compareTo", desc := "(Ljava/lang/Object;)I" } : Jvm.MethodName)) ∈ lw_all := lw_g (lw_at lw_m4 229 rfl) rfl
theorem q1008 : (Jvm.Cond.unhidden "RiddlePost$Topic" "compareTo" "(Ljava/lang/Object;)I") ∈ lw_tbl := lw_at lw_m4 230 rfl
theorem q1009 : (Jvm.Cond.instanceMethod ({ cls := "RiddlePost$Topic", name := "compareTo", desc := "(Ljava/lang/Object;)I" } : Jvm.MethodName)) ∈ lw_all := lw_g (lw_at lw_m4 231 rfl) rfl
theorem q1010 : (Jvm.Cond.publicMethod ({ cls := "RiddlePost$Topic", name := "compareTo", desc := "(Ljava/lang/Object;)I" } : Jvm.MethodName)) ∈ lw_tbl := lw_at lw_m4 232 rfl
theorem q1011 : (Jvm.Cond.code ({ cls := "RiddlePost$Topic", name := "compareTo", desc := "(Ljava/lang/Object;)I" } : Jvm.MethodName) prog_8_method_3_code (2 : Nat) (Option.some Jvm.ClassFile.FieldType.int)) ∈ lw_all := lw_g (lw_at lw_m4 233 rfl) rfl
theorem q1012 : (Jvm.Cond.classLink "RiddlePost$Topic" (8 : Nat) "RiddlePost$Topic") ∈ lw_all := lw_g (lw_at lw_m4 234 rfl) rfl
theorem q1013 : (Jvm.Cond.methodLink "RiddlePost$Topic" (23 : Nat) ({ cls := "RiddlePost$Topic", name := "compareTo", desc := "(LRiddlePost$Topic;)I" } : Jvm.MethodName)) ∈ lw_all := lw_g (lw_at lw_m4 235 rfl) rfl
theorem q1014 : (Jvm.Cond.castable "java/lang/Integer" "java/lang/Comparable") ∈ lw_tbl := lw_at lw_m4 236 rfl
theorem q1015 : (Jvm.Cond.selects "java/lang/Integer" ({ cls := "java/lang/Comparable", name := "compareTo", desc := "(Ljava/lang/Object;)I" } : Jvm.MethodName) ({ cls := "java/lang/Integer", name := "compareTo", desc := "(Ljava/lang/Object;)I" } : Jvm.MethodName)) ∈ lw_all := lw_g (lw_at lw_m4 237 rfl) rfl
theorem q1016 : (Jvm.Cond.unhidden "java/lang/Integer" "compareTo" "(Ljava/lang/Object;)I") ∈ lw_tbl := lw_at lw_m4 238 rfl
theorem q1017 : (Jvm.Cond.instanceMethod ({ cls := "java/lang/Integer", name := "compareTo", desc := "(Ljava/lang/Object;)I" } : Jvm.MethodName)) ∈ lw_all := lw_g (lw_at lw_m4 239 rfl) rfl
theorem q1018 : (Jvm.Cond.publicMethod ({ cls := "java/lang/Integer", name := "compareTo", desc := "(Ljava/lang/Object;)I" } : Jvm.MethodName)) ∈ lw_tbl := lw_at lw_m5 0 rfl
theorem q1019 : (Jvm.Cond.code ({ cls := "java/lang/Integer", name := "compareTo", desc := "(Ljava/lang/Object;)I" } : Jvm.MethodName) prog_23_method_63_code (2 : Nat) (Option.some Jvm.ClassFile.FieldType.int)) ∈ lw_all := lw_g (lw_at lw_m5 1 rfl) rfl
theorem q1020 : (Jvm.Cond.classLink "java/lang/Integer" (1 : Nat) "java/lang/Integer") ∈ lw_all := lw_g (lw_at lw_m5 2 rfl) rfl
theorem q1021 : (Jvm.Cond.methodLink "java/lang/Integer" (284 : Nat) ({ cls := "java/lang/Integer", name := "compareTo", desc := "(Ljava/lang/Integer;)I" } : Jvm.MethodName)) ∈ lw_all := lw_g (lw_at lw_m5 3 rfl) rfl
theorem q1022 : (Jvm.Cond.instanceMethod ({ cls := "java/lang/Integer", name := "compareTo", desc := "(Ljava/lang/Integer;)I" } : Jvm.MethodName)) ∈ lw_all := lw_g (lw_at lw_m5 4 rfl) rfl
theorem q1023 : (Jvm.Cond.selects "java/lang/Integer" ({ cls := "java/lang/Integer", name := "compareTo", desc := "(Ljava/lang/Integer;)I" } : Jvm.MethodName) ({ cls := "java/lang/Integer", name := "compareTo", desc := "(Ljava/lang/Integer;)I" } : Jvm.MethodName)) ∈ lw_all := lw_g (lw_at lw_m5 5 rfl) rfl
theorem q1024 : (Jvm.Cond.code ({ cls := "java/lang/Integer", name := "compareTo", desc := "(Ljava/lang/Integer;)I" } : Jvm.MethodName) prog_23_method_39_code (2 : Nat) (Option.some Jvm.ClassFile.FieldType.int)) ∈ lw_all := lw_g (lw_at lw_m5 6 rfl) rfl
theorem q1025 : (Jvm.Cond.methodLink "java/lang/Integer" (259 : Nat) ({ cls := "java/lang/Integer", name := "compare", desc := "(II)I" } : Jvm.MethodName)) ∈ lw_all := lw_g (lw_at lw_m5 7 rfl) rfl
theorem q1026 : (Jvm.Cond.castable "java/lang/String" "java/lang/Comparable") ∈ lw_tbl := lw_at lw_m5 8 rfl
theorem q1027 : (Jvm.Cond.selects "java/lang/String" ({ cls := "java/lang/Comparable", name := "compareTo", desc := "(Ljava/lang/Object;)I" } : Jvm.MethodName) ({ cls := "java/lang/String", name := "compareTo", desc := "(Ljava/lang/Object;)I" } : Jvm.MethodName)) ∈ lw_all := lw_g (lw_at lw_m5 9 rfl) rfl
theorem q1028 : (Jvm.Cond.unhidden "java/lang/String" "compareTo" "(Ljava/lang/Object;)I") ∈ lw_tbl := lw_at lw_m5 10 rfl
theorem q1029 : (Jvm.Cond.instanceMethod ({ cls := "java/lang/String", name := "compareTo", desc := "(Ljava/lang/Object;)I" } : Jvm.MethodName)) ∈ lw_all := lw_g (lw_at lw_m5 11 rfl) rfl
theorem q1030 : (Jvm.Cond.publicMethod ({ cls := "java/lang/String", name := "compareTo", desc := "(Ljava/lang/Object;)I" } : Jvm.MethodName)) ∈ lw_tbl := lw_at lw_m5 12 rfl
theorem q1031 : (Jvm.Cond.code ({ cls := "java/lang/String", name := "compareTo", desc := "(Ljava/lang/Object;)I" } : Jvm.MethodName) prog_30_method_162_code (2 : Nat) (Option.some Jvm.ClassFile.FieldType.int)) ∈ lw_all := lw_g (lw_at lw_m5 13 rfl) rfl
theorem q1032 : (Jvm.Cond.classLink "java/lang/String" (10 : Nat) "java/lang/String") ∈ lw_all := lw_g (lw_at lw_m5 14 rfl) rfl
theorem q1033 : (Jvm.Cond.methodLink "java/lang/String" (1084 : Nat) ({ cls := "java/lang/String", name := "compareTo", desc := "(Ljava/lang/String;)I" } : Jvm.MethodName)) ∈ lw_all := lw_g (lw_at lw_m5 15 rfl) rfl
theorem q1034 : (Jvm.Cond.instanceMethod ({ cls := "java/lang/String", name := "compareTo", desc := "(Ljava/lang/String;)I" } : Jvm.MethodName)) ∈ lw_all := lw_g (lw_at lw_m5 16 rfl) rfl
theorem q1035 : (Jvm.Cond.selects "java/lang/String" ({ cls := "java/lang/String", name := "compareTo", desc := "(Ljava/lang/String;)I" } : Jvm.MethodName) ({ cls := "java/lang/String", name := "compareTo", desc := "(Ljava/lang/String;)I" } : Jvm.MethodName)) ∈ lw_all := lw_g (lw_at lw_m5 17 rfl) rfl
theorem q1036 : (Jvm.Cond.code ({ cls := "java/lang/String", name := "compareTo", desc := "(Ljava/lang/String;)I" } : Jvm.MethodName) prog_30_method_71_code (5 : Nat) (Option.some Jvm.ClassFile.FieldType.int)) ∈ lw_all := lw_g (lw_at lw_m5 18 rfl) rfl
theorem q1037 : (Jvm.Cond.methodLink "java/lang/String" (586 : Nat) ({ cls := "java/lang/StringLatin1", name := "compareTo", desc := "([B[B)I" } : Jvm.MethodName)) ∈ lw_all := lw_g (lw_at lw_m5 19 rfl) rfl
theorem q1038 : (Jvm.Cond.static ({ cls := "java/lang/StringLatin1", name := "compareTo", desc := "([B[B)I" } : Jvm.MethodName)) ∈ lw_all := lw_g (lw_at lw_m5 20 rfl) rfl
theorem q1039 : (Jvm.Cond.code ({ cls := "java/lang/StringLatin1", name := "compareTo", desc := "([B[B)I" } : Jvm.MethodName) prog_33_method_14_code (4 : Nat) (Option.some Jvm.ClassFile.FieldType.int)) ∈ lw_all := lw_g (lw_at lw_m5 21 rfl) rfl
theorem q1040 : (Jvm.Cond.methodLink "java/lang/StringLatin1" (34 : Nat) ({ cls := "java/lang/StringLatin1", name := "compareTo", desc := "([B[BII)I" } : Jvm.MethodName)) ∈ lw_all := lw_g (lw_at lw_m5 22 rfl) rfl
theorem q1041 : (Jvm.Cond.static ({ cls := "java/lang/StringLatin1", name := "compareTo", desc := "([B[BII)I" } : Jvm.MethodName)) ∈ lw_all := lw_g (lw_at lw_m5 23 rfl) rfl
theorem q1042 : (Jvm.Cond.code ({ cls := "java/lang/StringLatin1", name := "compareTo", desc := "([B[BII)I" } : Jvm.MethodName) prog_33_method_15_code (6 : Nat) (Option.some Jvm.ClassFile.FieldType.int)) ∈ lw_all := lw_g (lw_at lw_m5 24 rfl) rfl
theorem q1043 : (Jvm.Cond.methodLink "java/lang/StringLatin1" (38 : Nat) ({ cls := "java/lang/Math", name := "min", desc := "(II)I" } : Jvm.MethodName)) ∈ lw_all := lw_g (lw_at lw_m5 25 rfl) rfl
theorem q1044 : (Jvm.Cond.methodLink "java/lang/StringLatin1" (44 : Nat) ({ cls := "jdk/internal/util/ArraysSupport", name := "mismatch", desc := "([B[BI)I" } : Jvm.MethodName)) ∈ lw_all := lw_g (lw_at lw_m5 26 rfl) rfl
theorem q1045 : (Jvm.Cond.static ({ cls := "jdk/internal/util/ArraysSupport", name := "mismatch", desc := "([B[BI)I" } : Jvm.MethodName)) ∈ lw_all := lw_g (lw_at lw_m5 27 rfl) rfl
theorem q1046 : (Jvm.Cond.code ({ cls := "jdk/internal/util/ArraysSupport", name := "mismatch", desc := "([B[BI)I" } : Jvm.MethodName) prog_78_method_13_code (4 : Nat) (Option.some Jvm.ClassFile.FieldType.int)) ∈ lw_all := lw_g (lw_at lw_m5 28 rfl) rfl
theorem q1047 : (Jvm.Cond.fieldLink "jdk/internal/util/ArraysSupport" (126 : Nat) "jdk/internal/misc/Unsafe" "ARRAY_BYTE_BASE_OFFSET" "I") ∈ lw_all := lw_g (lw_at lw_m5 29 rfl) rfl
theorem q1048 : (Jvm.Cond.laysStatic "jdk/internal/misc/Unsafe" "ARRAY_BYTE_BASE_OFFSET" "I") ∈ lw_tbl := lw_at lw_m5 30 rfl
theorem q1049 : (Jvm.Cond.fieldLink "jdk/internal/util/ArraysSupport" (129 : Nat) "jdk/internal/util/ArraysSupport" "LOG2_ARRAY_BYTE_INDEX_SCALE" "I") ∈ lw_all := lw_g (lw_at lw_m5 31 rfl) rfl
theorem q1050 : (Jvm.Cond.laysStatic "jdk/internal/util/ArraysSupport" "LOG2_ARRAY_BYTE_INDEX_SCALE" "I") ∈ lw_tbl := lw_at lw_m5 32 rfl
theorem q1051 : (Jvm.Cond.methodLink "jdk/internal/util/ArraysSupport" (122 : Nat) ({ cls := "jdk/internal/util/ArraysSupport", name := "vectorizedMismatch", desc := "(Ljava/lang/Object;JLjava/lang/Object;JII)I" } : Jvm.MethodName)) ∈ lw_all := lw_g (lw_at lw_m5 33 rfl) rfl
theorem q1052 : (Jvm.Cond.static ({ cls := "jdk/internal/util/ArraysSupport", name := "vectorizedMismatch", desc := "(Ljava/lang/Object;JLjava/lang/Object;JII)I" } : Jvm.MethodName)) ∈ lw_all := lw_g (lw_at lw_m5 34 rfl) rfl
theorem q1053 : (Jvm.Cond.code ({ cls := "jdk/internal/util/ArraysSupport", name := "vectorizedMismatch", desc := "(Ljava/lang/Object;JLjava/lang/Object;JII)I" } : Jvm.MethodName) prog_78_method_3_code (19 : Nat) (Option.some Jvm.ClassFile.FieldType.int)) ∈ lw_all := lw_g (lw_at lw_m5 35 rfl) rfl
theorem q1054 : (Jvm.Cond.fieldLink "jdk/internal/util/ArraysSupport" (20 : Nat) "jdk/internal/util/ArraysSupport" "LOG2_ARRAY_LONG_INDEX_SCALE" "I") ∈ lw_all := lw_g (lw_at lw_m5 36 rfl) rfl
theorem q1055 : (Jvm.Cond.laysStatic "jdk/internal/util/ArraysSupport" "LOG2_ARRAY_LONG_INDEX_SCALE" "I") ∈ lw_tbl := lw_at lw_m5 37 rfl
theorem q1056 : (Jvm.Cond.fieldLink "jdk/internal/util/ArraysSupport" (26 : Nat) "jdk/internal/util/ArraysSupport" "U" "Ljdk/internal/misc/Unsafe;") ∈ lw_all := lw_g (lw_at lw_m5 38 rfl) rfl
theorem q1057 : (Jvm.Cond.laysStatic "jdk/internal/util/ArraysSupport" "U" "Ljdk/internal/misc/Unsafe;") ∈ lw_tbl := lw_at lw_m5 39 rfl
theorem q1058 : (Jvm.Cond.methodLink "jdk/internal/util/ArraysSupport" (30 : Nat) ({ cls := "jdk/internal/misc/Unsafe", name := "getLongUnaligned", desc := "(Ljava/lang/Object;J)J" } : Jvm.MethodName)) ∈ lw_all := lw_g (lw_at lw_m5 40 rfl) rfl
theorem q1059 : (Jvm.Cond.instanceMethod ({ cls := "jdk/internal/misc/Unsafe", name := "getLongUnaligned", desc := "(Ljava/lang/Object;J)J" } : Jvm.MethodName)) ∈ lw_all := lw_g (lw_at lw_m5 41 rfl) rfl
theorem q1060 : (Jvm.Cond.selects "jdk/internal/misc/Unsafe" ({ cls := "jdk/internal/misc/Unsafe", name := "getLongUnaligned", desc := "(Ljava/lang/Object;J)J" } : Jvm.MethodName) ({ cls := "jdk/internal/misc/Unsafe", name := "getLongUnaligned", desc := "(Ljava/lang/Object;J)J" } : Jvm.MethodName)) ∈ lw_all := lw_g (lw_at lw_m5 42 rfl) rfl
theorem q1061 : (Jvm.Cond.code ({ cls := "jdk/internal/misc/Unsafe", name := "getLongUnaligned", desc := "(Ljava/lang/Object;J)J" } : Jvm.MethodName) prog_76_method_334_code (4 : Nat) (Option.some Jvm.ClassFile.FieldType.long)) ∈ lw_all := lw_g (lw_at lw_m5 43 rfl) rfl
theorem q1062 : (Jvm.Cond.constantLong "jdk/internal/misc/Unsafe" (696 : Nat) (7 : Int64)) ∈ lw_all := lw_g (lw_at lw_m5 44 rfl) rfl
theorem q1063 : (Jvm.Cond.methodLink "jdk/internal/misc/Unsafe" (27 : Nat) ({ cls := "jdk/internal/misc/Unsafe", name := "getLong", desc := "(Ljava/lang/Object;J)J" } : Jvm.MethodName)) ∈ lw_all := lw_g (lw_at lw_m5 45 rfl) rfl
theorem q1064 : (Jvm.Cond.instanceMethod ({ cls := "jdk/internal/misc/Unsafe", name := "getLong", desc := "(Ljava/lang/Object;J)J" } : Jvm.MethodName)) ∈ lw_all := lw_g (lw_at lw_m5 46 rfl) rfl
theorem q1065 : (Jvm.Cond.selects "jdk/internal/misc/Unsafe" ({ cls := "jdk/internal/misc/Unsafe", name := "getLong", desc := "(Ljava/lang/Object;J)J" } : Jvm.MethodName) ({ cls := "jdk/internal/misc/Unsafe", name := "getLong", desc := "(Ljava/lang/Object;J)J" } : Jvm.MethodName)) ∈ lw_all := lw_g (lw_at lw_m5 47 rfl) rfl
theorem q1066 : (Jvm.Cond.native ({ cls := "jdk/internal/misc/Unsafe", name := "getLong", desc := "(Ljava/lang/Object;J)J" } : Jvm.MethodName)) ∈ lw_all := lw_g (lw_at lw_m5 48 rfl) rfl
theorem q1067 : (Jvm.Cond.constantLong "jdk/internal/misc/Unsafe" (349 : Nat) (3 : Int64)) ∈ lw_all := lw_g (lw_at lw_m5 49 rfl) rfl
theorem q1068 : (Jvm.Cond.methodLink "jdk/internal/misc/Unsafe" (17 : Nat) ({ cls := "jdk/internal/misc/Unsafe", name := "getInt", desc := "(Ljava/lang/Object;J)I" } : Jvm.MethodName)) ∈ lw_all := lw_g (lw_at lw_m5 50 rfl) rfl
theorem q1069 : (Jvm.Cond.instanceMethod ({ cls := "jdk/internal/misc/Unsafe", name := "getInt", desc := "(Ljava/lang/Object;J)I" } : Jvm.MethodName)) ∈ lw_all := lw_g (lw_at lw_m5 51 rfl) rfl
theorem q1070 : (Jvm.Cond.selects "jdk/internal/misc/Unsafe" ({ cls := "jdk/internal/misc/Unsafe", name := "getInt", desc := "(Ljava/lang/Object;J)I" } : Jvm.MethodName) ({ cls := "jdk/internal/misc/Unsafe", name := "getInt", desc := "(Ljava/lang/Object;J)I" } : Jvm.MethodName)) ∈ lw_all := lw_g (lw_at lw_m5 52 rfl) rfl
theorem q1071 : (Jvm.Cond.native ({ cls := "jdk/internal/misc/Unsafe", name := "getInt", desc := "(Ljava/lang/Object;J)I" } : Jvm.MethodName)) ∈ lw_all := lw_g (lw_at lw_m5 53 rfl) rfl
theorem q1072 : (Jvm.Cond.constantLong "jdk/internal/misc/Unsafe" (205 : Nat) (4 : Int64)) ∈ lw_all := lw_g (lw_at lw_m5 54 rfl) rfl
theorem q1073 : (Jvm.Cond.methodLink "jdk/internal/misc/Unsafe" (698 : Nat) ({ cls := "jdk/internal/misc/Unsafe", name := "makeLong", desc := "(II)J" } : Jvm.MethodName)) ∈ lw_all := lw_g (lw_at lw_m5 55 rfl) rfl
theorem q1074 : (Jvm.Cond.static ({ cls := "jdk/internal/misc/Unsafe", name := "makeLong", desc := "(II)J" } : Jvm.MethodName)) ∈ lw_all := lw_g (lw_at lw_m5 56 rfl) rfl
theorem q1075 : (Jvm.Cond.code ({ cls := "jdk/internal/misc/Unsafe", name := "makeLong", desc := "(II)J" } : Jvm.MethodName) prog_76_method_353_code (2 : Nat) (Option.some Jvm.ClassFile.FieldType.long)) ∈ lw_all := lw_g (lw_at lw_m5 57 rfl) rfl
theorem q1076 : (Jvm.Cond.methodLink "jdk/internal/misc/Unsafe" (791 : Nat) ({ cls := "jdk/internal/misc/Unsafe", name := "toUnsignedLong", desc := "(I)J" } : Jvm.MethodName)) ∈ lw_all := lw_g (lw_at lw_m5 58 rfl) rfl
theorem q1077 : (Jvm.Cond.static ({ cls := "jdk/internal/misc/Unsafe", name := "toUnsignedLong", desc := "(I)J" } : Jvm.MethodName)) ∈ lw_all := lw_g (lw_at lw_m5 59 rfl) rfl
theorem q1078 : (Jvm.Cond.code ({ cls := "jdk/internal/misc/Unsafe", name := "toUnsignedLong", desc := "(I)J" } : Jvm.MethodName) prog_76_method_370_code (1 : Nat) (Option.some Jvm.ClassFile.FieldType.long)) ∈ lw_all := lw_g (lw_at lw_m5 60 rfl) rfl
theorem q1079 : (Jvm.Cond.constantLong "jdk/internal/misc/Unsafe" (812 : Nat) (4294967295 : Int64)) ∈ lw_all := lw_g (lw_at lw_m5 61 rfl) rfl
theorem q1080 : (Jvm.Cond.methodLink "jdk/internal/misc/Unsafe" (784 : Nat) ({ cls := "jdk/internal/misc/Unsafe", name := "pickPos", desc := "(II)I" } : Jvm.MethodName)) ∈ lw_all := lw_g (lw_at lw_m5 62 rfl) rfl
theorem q1081 : (Jvm.Cond.static ({ cls := "jdk/internal/misc/Unsafe", name := "pickPos", desc := "(II)I" } : Jvm.MethodName)) ∈ lw_all := lw_g (lw_at lw_m5 63 rfl) rfl
theorem q1082 : (Jvm.Cond.code ({ cls := "jdk/internal/misc/Unsafe", name := "pickPos", desc := "(II)I" } : Jvm.MethodName) prog_76_method_350_code (2 : Nat) (Option.some Jvm.ClassFile.FieldType.int)) ∈ lw_all := lw_g (lw_at lw_m5 64 rfl) rfl
theorem q1083 : (Jvm.Cond.fieldLink "jdk/internal/misc/Unsafe" (351 : Nat) "jdk/internal/misc/UnsafeConstants" "BIG_ENDIAN" "Z") ∈ lw_all := lw_g (lw_at lw_m5 65 rfl) rfl
theorem q1084 : (Jvm.Cond.laysStatic "jdk/internal/misc/UnsafeConstants" "BIG_ENDIAN" "Z") ∈ lw_tbl := lw_at lw_m5 66 rfl
theorem q1085 : (Jvm.Cond.methodLink "jdk/internal/misc/Unsafe" (47 : Nat) ({ cls := "jdk/internal/misc/Unsafe", name := "getShort", desc := "(Ljava/lang/Object;J)S" } : Jvm.MethodName)) ∈ lw_all := lw_g (lw_at lw_m5 67 rfl) rfl
theorem q1086 : (Jvm.Cond.instanceMethod ({ cls := "jdk/internal/misc/Unsafe", name := "getShort", desc := "(Ljava/lang/Object;J)S" } : Jvm.MethodName)) ∈ lw_all := lw_g (lw_at lw_m5 68 rfl) rfl
theorem q1087 : (Jvm.Cond.selects "jdk/internal/misc/Unsafe" ({ cls := "jdk/internal/misc/Unsafe", name := "getShort", desc := "(Ljava/lang/Object;J)S" } : Jvm.MethodName) ({ cls := "jdk/internal/misc/Unsafe", name := "getShort", desc := "(Ljava/lang/Object;J)S" } : Jvm.MethodName)) ∈ lw_all := lw_g (lw_at lw_m5 69 rfl) rfl
theorem q1088 : (Jvm.Cond.native ({ cls := "jdk/internal/misc/Unsafe", name := "getShort", desc := "(Ljava/lang/Object;J)S" } : Jvm.MethodName)) ∈ lw_all := lw_g (lw_at lw_m5 70 rfl) rfl
theorem q1089 : (Jvm.Cond.constantLong "jdk/internal/misc/Unsafe" (203 : Nat) (2 : Int64)) ∈ lw_all := lw_g (lw_at lw_m5 71 rfl) rfl
theorem q1090 : (Jvm.Cond.constantLong "jdk/internal/misc/Unsafe" (702 : Nat) (6 : Int64)) ∈ lw_all := lw_g (lw_at lw_m5 72 rfl) rfl
theorem q1091 : (Jvm.Cond.methodLink "jdk/internal/misc/Unsafe" (704 : Nat) ({ cls := "jdk/internal/misc/Unsafe", name := "makeLong", desc := "(SSSS)J" } : Jvm.MethodName)) ∈ lw_all := lw_g (lw_at lw_m5 73 rfl) rfl
theorem q1092 : (Jvm.Cond.static ({ cls := "jdk/internal/misc/Unsafe", name := "makeLong", desc := "(SSSS)J" } : Jvm.MethodName)) ∈ lw_all := lw_g (lw_at lw_m5 74 rfl) rfl
theorem q1093 : (Jvm.Cond.code ({ cls := "jdk/internal/misc/Unsafe", name := "makeLong", desc := "(SSSS)J" } : Jvm.MethodName) prog_76_method_352_code (4 : Nat) (Option.some Jvm.ClassFile.FieldType.long)) ∈ lw_all := lw_g (lw_at lw_m5 75 rfl) rfl
theorem q1094 : (Jvm.Cond.methodLink "jdk/internal/misc/Unsafe" (788 : Nat) ({ cls := "jdk/internal/misc/Unsafe", name := "toUnsignedLong", desc := "(S)J" } : Jvm.MethodName)) ∈ lw_all := lw_g (lw_at lw_m5 76 rfl) rfl
theorem q1095 : (Jvm.Cond.static ({ cls := "jdk/internal/misc/Unsafe", name := "toUnsignedLong", desc := "(S)J" } : Jvm.MethodName)) ∈ lw_all := lw_g (lw_at lw_m5 77 rfl) rfl
theorem q1096 : (Jvm.Cond.code ({ cls := "jdk/internal/misc/Unsafe", name := "toUnsignedLong", desc := "(S)J" } : Jvm.MethodName) prog_76_method_369_code (1 : Nat) (Option.some Jvm.ClassFile.FieldType.long)) ∈ lw_all := lw_g (lw_at lw_m5 78 rfl) rfl
theorem q1097 : (Jvm.Cond.constantLong "jdk/internal/misc/Unsafe" (810 : Nat) (65535 : Int64)) ∈ lw_all := lw_g (lw_at lw_m5 79 rfl) rfl
theorem q1098 : (Jvm.Cond.methodLink "jdk/internal/misc/Unsafe" (39 : Nat) ({ cls := "jdk/internal/misc/Unsafe", name := "getByte", desc := "(Ljava/lang/Object;J)B" } : Jvm.MethodName)) ∈ lw_all := lw_g (lw_at lw_m5 80 rfl) rfl
theorem q1099 : (Jvm.Cond.instanceMethod ({ cls := "jdk/internal/misc/Unsafe", name := "getByte", desc := "(Ljava/lang/Object;J)B" } : Jvm.MethodName)) ∈ lw_all := lw_g (lw_at lw_m5 81 rfl) rfl
theorem q1100 : (Jvm.Cond.selects "jdk/internal/misc/Unsafe" ({ cls := "jdk/internal/misc/Unsafe", name := "getByte", desc := "(Ljava/lang/Object;J)B" } : Jvm.MethodName) ({ cls := "jdk/internal/misc/Unsafe", name := "getByte", desc := "(Ljava/lang/Object;J)B" } : Jvm.MethodName)) ∈ lw_all := lw_g (lw_at lw_m5 82 rfl) rfl
theorem q1101 : (Jvm.Cond.native ({ cls := "jdk/internal/misc/Unsafe", name := "getByte", desc := "(Ljava/lang/Object;J)B" } : Jvm.MethodName)) ∈ lw_all := lw_g (lw_at lw_m5 83 rfl) rfl
theorem q1102 : (Jvm.Cond.constantLong "jdk/internal/misc/Unsafe" (707 : Nat) (5 : Int64)) ∈ lw_all := lw_g (lw_at lw_m5 84 rfl) rfl
theorem q1103 : (Jvm.Cond.methodLink "jdk/internal/misc/Unsafe" (709 : Nat) ({ cls := "jdk/internal/misc/Unsafe", name := "makeLong", desc := "(BBBBBBBB)J" } : Jvm.MethodName)) ∈ lw_all := lw_g (lw_at lw_m5 85 rfl) rfl
theorem q1104 : (Jvm.Cond.static ({ cls := "jdk/internal/misc/Unsafe", name := "makeLong", desc := "(BBBBBBBB)J" } : Jvm.MethodName)) ∈ lw_all := lw_g (lw_at lw_m5 86 rfl) rfl
theorem q1105 : (Jvm.Cond.code ({ cls := "jdk/internal/misc/Unsafe", name := "makeLong", desc := "(BBBBBBBB)J" } : Jvm.MethodName) prog_76_method_351_code (8 : Nat) (Option.some Jvm.ClassFile.FieldType.long)) ∈ lw_all := lw_g (lw_at lw_m5 87 rfl) rfl
theorem q1106 : (Jvm.Cond.methodLink "jdk/internal/misc/Unsafe" (781 : Nat) ({ cls := "jdk/internal/misc/Unsafe", name := "toUnsignedLong", desc := "(B)J" } : Jvm.MethodName)) ∈ lw_all := lw_g (lw_at lw_m5 88 rfl) rfl
theorem q1107 : (Jvm.Cond.static ({ cls := "jdk/internal/misc/Unsafe", name := "toUnsignedLong", desc := "(B)J" } : Jvm.MethodName)) ∈ lw_all := lw_g (lw_at lw_m5 89 rfl) rfl
theorem q1108 : (Jvm.Cond.code ({ cls := "jdk/internal/misc/Unsafe", name := "toUnsignedLong", desc := "(B)J" } : Jvm.MethodName) prog_76_method_368_code (1 : Nat) (Option.some Jvm.ClassFile.FieldType.long)) ∈ lw_all := lw_g (lw_at lw_m5 90 rfl) rfl
theorem q1109 : (Jvm.Cond.constantLong "jdk/internal/misc/Unsafe" (808 : Nat) (255 : Int64)) ∈ lw_all := lw_g (lw_at lw_m5 91 rfl) rfl
theorem q1110 : (Jvm.Cond.fieldLink "jdk/internal/util/ArraysSupport" (36 : Nat) "jdk/internal/util/ArraysSupport" "BIG_ENDIAN" "Z") ∈ lw_all := lw_g (lw_at lw_m5 92 rfl) rfl
theorem q1111 : (Jvm.Cond.laysStatic "jdk/internal/util/ArraysSupport" "BIG_ENDIAN" "Z") ∈ lw_tbl := lw_at lw_m5 93 rfl
theorem q1112 : (Jvm.Cond.methodLink "jdk/internal/util/ArraysSupport" (40 : Nat) ({ cls := "java/lang/Long", name := "numberOfLeadingZeros", desc := "(J)I" } : Jvm.MethodName)) ∈ lw_all := lw_g (lw_at lw_m5 94 rfl) rfl
theorem q1113 : (Jvm.Cond.static ({ cls := "java/lang/Long", name := "numberOfLeadingZeros", desc := "(J)I" } : Jvm.MethodName)) ∈ lw_all := lw_g (lw_at lw_m5 95 rfl) rfl
theorem q1114 : (Jvm.Cond.code ({ cls := "java/lang/Long", name := "numberOfLeadingZeros", desc := "(J)I" } : Jvm.MethodName) prog_26_method_48_code (3 : Nat) (Option.some Jvm.ClassFile.FieldType.int)) ∈ lw_all := lw_g (lw_at lw_m5 96 rfl) rfl
theorem q1115 : (Jvm.Cond.methodLink "java/lang/Long" (308 : Nat) ({ cls := "java/lang/Integer", name := "numberOfLeadingZeros", desc := "(I)I" } : Jvm.MethodName)) ∈ lw_all := lw_g (lw_at lw_m5 97 rfl) rfl
theorem q1116 : (Jvm.Cond.static ({ cls := "java/lang/Integer", name := "numberOfLeadingZeros", desc := "(I)I" } : Jvm.MethodName)) ∈ lw_all := lw_g (lw_at lw_m5 98 rfl) rfl
theorem q1117 : (Jvm.Cond.code ({ cls := "java/lang/Integer", name := "numberOfLeadingZeros", desc := "(I)I" } : Jvm.MethodName) prog_23_method_47_code (2 : Nat) (Option.some Jvm.ClassFile.FieldType.int)) ∈ lw_all := lw_g (lw_at lw_m5 99 rfl) rfl
theorem q1118 : (Jvm.Cond.constant "java/lang/Integer" (264 : Nat) (65536 : Int32)) ∈ lw_all := lw_g (lw_at lw_m5 100 rfl) rfl
theorem q1119 : (Jvm.Cond.fieldLink "jdk/internal/util/ArraysSupport" (46 : Nat) "jdk/internal/util/ArraysSupport" "LOG2_BYTE_BIT_SIZE" "I") ∈ lw_all := lw_g (lw_at lw_m5 101 rfl) rfl
theorem q1120 : (Jvm.Cond.laysStatic "jdk/internal/util/ArraysSupport" "LOG2_BYTE_BIT_SIZE" "I") ∈ lw_tbl := lw_at lw_m5 102 rfl
theorem q1121 : (Jvm.Cond.methodLink "jdk/internal/util/ArraysSupport" (49 : Nat) ({ cls := "java/lang/Long", name := "numberOfTrailingZeros", desc := "(J)I" } : Jvm.MethodName)) ∈ lw_all := lw_g (lw_at lw_m5 103 rfl) rfl
theorem q1122 : (Jvm.Cond.static ({ cls := "java/lang/Long", name := "numberOfTrailingZeros", desc := "(J)I" } : Jvm.MethodName)) ∈ lw_all := lw_g (lw_at lw_m5 104 rfl) rfl
theorem q1123 : (Jvm.Cond.code ({ cls := "java/lang/Long", name := "numberOfTrailingZeros", desc := "(J)I" } : Jvm.MethodName) prog_26_method_49_code (3 : Nat) (Option.some Jvm.ClassFile.FieldType.int)) ∈ lw_all := lw_g (lw_at lw_m5 105 rfl) rfl
theorem q1124 : (Jvm.Cond.methodLink "java/lang/Long" (311 : Nat) ({ cls := "java/lang/Integer", name := "numberOfTrailingZeros", desc := "(I)I" } : Jvm.MethodName)) ∈ lw_all := lw_g (lw_at lw_m5 106 rfl) rfl
theorem q1125 : (Jvm.Cond.static ({ cls := "java/lang/Integer", name := "numberOfTrailingZeros", desc := "(I)I" } : Jvm.MethodName)) ∈ lw_all := lw_g (lw_at lw_m5 107 rfl) rfl
theorem q1126 : (Jvm.Cond.code ({ cls := "java/lang/Integer", name := "numberOfTrailingZeros", desc := "(I)I" } : Jvm.MethodName) prog_23_method_48_code (2 : Nat) (Option.some Jvm.ClassFile.FieldType.int)) ∈ lw_all := lw_g (lw_at lw_m5 108 rfl) rfl
theorem q1127 : (Jvm.Cond.fieldLink "jdk/internal/util/ArraysSupport" (51 : Nat) "jdk/internal/util/ArraysSupport" "LOG2_ARRAY_INT_INDEX_SCALE" "I") ∈ lw_all := lw_g (lw_at lw_m5 109 rfl) rfl
theorem q1128 : (Jvm.Cond.laysStatic "jdk/internal/util/ArraysSupport" "LOG2_ARRAY_INT_INDEX_SCALE" "I") ∈ lw_tbl := lw_at lw_m5 110 rfl
theorem q1129 : (Jvm.Cond.methodLink "jdk/internal/util/ArraysSupport" (54 : Nat) ({ cls := "jdk/internal/misc/Unsafe", name := "getIntUnaligned", desc := "(Ljava/lang/Object;J)I" } : Jvm.MethodName)) ∈ lw_all := lw_g (lw_at lw_m5 111 rfl) rfl
theorem q1130 : (Jvm.Cond.instanceMethod ({ cls := "jdk/internal/misc/Unsafe", name := "getIntUnaligned", desc := "(Ljava/lang/Object;J)I" } : Jvm.MethodName)) ∈ lw_all := lw_g (lw_at lw_m5 112 rfl) rfl
theorem q1131 : (Jvm.Cond.selects "jdk/internal/misc/Unsafe" ({ cls := "jdk/internal/misc/Unsafe", name := "getIntUnaligned", desc := "(Ljava/lang/Object;J)I" } : Jvm.MethodName) ({ cls := "jdk/internal/misc/Unsafe", name := "getIntUnaligned", desc := "(Ljava/lang/Object;J)I" } : Jvm.MethodName)) ∈ lw_all := lw_g (lw_at lw_m5 113 rfl) rfl
theorem q1132 : (Jvm.Cond.code ({ cls := "jdk/internal/misc/Unsafe", name := "getIntUnaligned", desc := "(Ljava/lang/Object;J)I" } : Jvm.MethodName) prog_76_method_336_code (4 : Nat) (Option.some Jvm.ClassFile.FieldType.int)) ∈ lw_all := lw_g (lw_at lw_m5 114 rfl) rfl
theorem q1133 : (Jvm.Cond.methodLink "jdk/internal/misc/Unsafe" (719 : Nat) ({ cls := "jdk/internal/misc/Unsafe", name := "makeInt", desc := "(SS)I" } : Jvm.MethodName)) ∈ lw_all := lw_g (lw_at lw_m5 115 rfl) rfl
theorem q1134 : (Jvm.Cond.static ({ cls := "jdk/internal/misc/Unsafe", name := "makeInt", desc := "(SS)I" } : Jvm.MethodName)) ∈ lw_all := lw_g (lw_at lw_m5 116 rfl) rfl
theorem q1135 : (Jvm.Cond.code ({ cls := "jdk/internal/misc/Unsafe", name := "makeInt", desc := "(SS)I" } : Jvm.MethodName) prog_76_method_354_code (2 : Nat) (Option.some Jvm.ClassFile.FieldType.int)) ∈ lw_all := lw_g (lw_at lw_m5 117 rfl) rfl
theorem q1136 : (Jvm.Cond.methodLink "jdk/internal/misc/Unsafe" (792 : Nat) ({ cls := "jdk/internal/misc/Unsafe", name := "toUnsignedInt", desc := "(S)I" } : Jvm.MethodName)) ∈ lw_all := lw_g (lw_at lw_m5 118 rfl) rfl
theorem q1137 : (Jvm.Cond.static ({ cls := "jdk/internal/misc/Unsafe", name := "toUnsignedInt", desc := "(S)I" } : Jvm.MethodName)) ∈ lw_all := lw_g (lw_at lw_m5 119 rfl) rfl
theorem q1138 : (Jvm.Cond.code ({ cls := "jdk/internal/misc/Unsafe", name := "toUnsignedInt", desc := "(S)I" } : Jvm.MethodName) prog_76_method_367_code (1 : Nat) (Option.some Jvm.ClassFile.FieldType.int)) ∈ lw_all := lw_g (lw_at lw_m5 120 rfl) rfl
theorem q1139 : (Jvm.Cond.constant "jdk/internal/misc/Unsafe" (374 : Nat) (65535 : Int32)) ∈ lw_all := lw_g (lw_at lw_m5 121 rfl) rfl
theorem q1140 : (Jvm.Cond.methodLink "jdk/internal/misc/Unsafe" (723 : Nat) ({ cls := "jdk/internal/misc/Unsafe", name := "makeInt", desc := "(BBBB)I" } : Jvm.MethodName)) ∈ lw_all := lw_g (lw_at lw_m5 122 rfl) rfl
theorem q1141 : (Jvm.Cond.static ({ cls := "jdk/internal/misc/Unsafe", name := "makeInt", desc := "(BBBB)I" } : Jvm.MethodName)) ∈ lw_all := lw_g (lw_at lw_m5 123 rfl) rfl
theorem q1142 : (Jvm.Cond.code ({ cls := "jdk/internal/misc/Unsafe", name := "makeInt", desc := "(BBBB)I" } : Jvm.MethodName) prog_76_method_355_code (4 : Nat) (Option.some Jvm.ClassFile.FieldType.int)) ∈ lw_all := lw_g (lw_at lw_m5 124 rfl) rfl
theorem q1143 : (Jvm.Cond.methodLink "jdk/internal/misc/Unsafe" (796 : Nat) ({ cls := "jdk/internal/misc/Unsafe", name := "toUnsignedInt", desc := "(B)I" } : Jvm.MethodName)) ∈ lw_all := lw_g (lw_at lw_m5 125 rfl) rfl
theorem q1144 : (Jvm.Cond.static ({ cls := "jdk/internal/misc/Unsafe", name := "toUnsignedInt", desc := "(B)I" } : Jvm.MethodName)) ∈ lw_all := lw_g (lw_at lw_m5 126 rfl) rfl
theorem q1145 : (Jvm.Cond.code ({ cls := "jdk/internal/misc/Unsafe", name := "toUnsignedInt", desc := "(B)I" } : Jvm.MethodName) prog_76_method_366_code (1 : Nat) (Option.some Jvm.ClassFile.FieldType.int)) ∈ lw_all := lw_g (lw_at lw_m5 127 rfl) rfl
theorem q1146 : (Jvm.Cond.methodLink "jdk/internal/util/ArraysSupport" (58 : Nat) ({ cls := "java/lang/Integer", name := "numberOfLeadingZeros", desc := "(I)I" } : Jvm.MethodName)) ∈ lw_all := lw_g (lw_at lw_m5 128 rfl) rfl
theorem q1147 : (Jvm.Cond.methodLink "jdk/internal/util/ArraysSupport" (11 : Nat) ({ cls := "java/lang/Integer", name := "numberOfTrailingZeros", desc := "(I)I" } : Jvm.MethodName)) ∈ lw_all := lw_g (lw_at lw_m5 129 rfl) rfl
theorem q1148 : (Jvm.Cond.methodLink "java/lang/StringLatin1" (50 : Nat) ({ cls := "java/lang/StringLatin1", name := "getChar", desc := "([BI)C" } : Jvm.MethodName)) ∈ lw_all := lw_g (lw_at lw_m5 130 rfl) rfl
theorem q1149 : (Jvm.Cond.static ({ cls := "java/lang/StringLatin1", name := "getChar", desc := "([BI)C" } : Jvm.MethodName)) ∈ lw_all := lw_g (lw_at lw_m5 131 rfl) rfl
theorem q1150 : (Jvm.Cond.code ({ cls := "java/lang/StringLatin1", name := "getChar", desc := "([BI)C" } : Jvm.MethodName) prog_33_method_44_code (2 : Nat) (Option.some Jvm.ClassFile.FieldType.char)) ∈ lw_all := lw_g (lw_at lw_m5 132 rfl) rfl
theorem q1151 : (Jvm.Cond.methodLink "java/lang/String" (590 : Nat) ({ cls := "java/lang/StringUTF16", name := "compareTo", desc := "([B[B)I" } : Jvm.MethodName)) ∈ lw_all := lw_g (lw_at lw_m5 133 rfl) rfl
theorem q1152 : (Jvm.Cond.static ({ cls := "java/lang/StringUTF16", name := "compareTo", desc := "([B[B)I" } : Jvm.MethodName)) ∈ lw_all := lw_g (lw_at lw_m5 134 rfl) rfl
theorem q1153 : (Jvm.Cond.code ({ cls := "java/lang/StringUTF16", name := "compareTo", desc := "([B[B)I" } : Jvm.MethodName) prog_34_method_29_code (4 : Nat) (Option.some Jvm.ClassFile.FieldType.int)) ∈ lw_all := lw_g (lw_at lw_m5 135 rfl) rfl
theorem q1154 : (Jvm.Cond.methodLink "java/lang/StringUTF16" (176 : Nat) ({ cls := "java/lang/StringUTF16", name := "compareValues", desc := "([B[BII)I" } : Jvm.MethodName)) ∈ lw_all := lw_g (lw_at lw_m5 136 rfl) rfl
theorem q1155 : (Jvm.Cond.static ({ cls := "java/lang/StringUTF16", name := "compareValues", desc := "([B[BII)I" } : Jvm.MethodName)) ∈ lw_all := lw_g (lw_at lw_m5 137 rfl) rfl
theorem q1156 : (Jvm.Cond.code ({ cls := "java/lang/StringUTF16", name := "compareValues", desc := "([B[BII)I" } : Jvm.MethodName) prog_34_method_31_code (8 : Nat) (Option.some Jvm.ClassFile.FieldType.int)) ∈ lw_all := lw_g (lw_at lw_m5 138 rfl) rfl
theorem q1157 : (Jvm.Cond.methodLink "java/lang/StringUTF16" (183 : Nat) ({ cls := "java/lang/Math", name := "min", desc := "(II)I" } : Jvm.MethodName)) ∈ lw_all := lw_g (lw_at lw_m5 139 rfl) rfl
theorem q1158 : (Jvm.Cond.methodLink "java/lang/String" (591 : Nat) ({ cls := "java/lang/StringLatin1", name := "compareToUTF16", desc := "([B[B)I" } : Jvm.MethodName)) ∈ lw_all := lw_g (lw_at lw_m5 140 rfl) rfl
theorem q1159 : (Jvm.Cond.static ({ cls := "java/lang/StringLatin1", name := "compareToUTF16", desc := "([B[B)I" } : Jvm.MethodName)) ∈ lw_all := lw_g (lw_at lw_m5 141 rfl) rfl
theorem q1160 : (Jvm.Cond.code ({ cls := "java/lang/StringLatin1", name := "compareToUTF16", desc := "([B[B)I" } : Jvm.MethodName) prog_33_method_16_code (4 : Nat) (Option.some Jvm.ClassFile.FieldType.int)) ∈ lw_all := lw_g (lw_at lw_m5 142 rfl) rfl
theorem q1161 : (Jvm.Cond.methodLink "java/lang/StringLatin1" (54 : Nat) ({ cls := "java/lang/StringLatin1", name := "length", desc := "([B)I" } : Jvm.MethodName)) ∈ lw_all := lw_g (lw_at lw_m5 143 rfl) rfl
theorem q1162 : (Jvm.Cond.static ({ cls := "java/lang/StringLatin1", name := "length", desc := "([B)I" } : Jvm.MethodName)) ∈ lw_all := lw_g (lw_at lw_m5 144 rfl) rfl
theorem q1163 : (Jvm.Cond.code ({ cls := "java/lang/StringLatin1", name := "length", desc := "([B)I" } : Jvm.MethodName) prog_33_method_5_code (1 : Nat) (Option.some Jvm.ClassFile.FieldType.int)) ∈ lw_all := lw_g (lw_at lw_m5 145 rfl) rfl
theorem q1164 : (Jvm.Cond.methodLink "java/lang/StringLatin1" (58 : Nat) ({ cls := "java/lang/StringUTF16", name := "length", desc := "([B)I" } : Jvm.MethodName)) ∈ lw_all := lw_g (lw_at lw_m5 146 rfl) rfl
theorem q1165 : (Jvm.Cond.methodLink "java/lang/StringLatin1" (59 : Nat) ({ cls := "java/lang/StringLatin1", name := "compareToUTF16Values", desc := "([B[BII)I" } : Jvm.MethodName)) ∈ lw_all := lw_g (lw_at lw_m5 147 rfl) rfl
theorem q1166 : (Jvm.Cond.static ({ cls := "java/lang/StringLatin1", name := "compareToUTF16Values", desc := "([B[BII)I" } : Jvm.MethodName)) ∈ lw_all := lw_g (lw_at lw_m5 148 rfl) rfl
theorem q1167 : (Jvm.Cond.code ({ cls := "java/lang/StringLatin1", name := "compareToUTF16Values", desc := "([B[BII)I" } : Jvm.MethodName) prog_33_method_18_code (8 : Nat) (Option.some Jvm.ClassFile.FieldType.int)) ∈ lw_all := lw_g (lw_at lw_m5 149 rfl) rfl
theorem q1168 : (Jvm.Cond.methodLink "java/lang/StringLatin1" (65 : Nat) ({ cls := "java/lang/StringUTF16", name := "getChar", desc := "([BI)C" } : Jvm.MethodName)) ∈ lw_all := lw_g (lw_at lw_m5 150 rfl) rfl
theorem q1169 : (Jvm.Cond.methodLink "java/lang/String" (594 : Nat) ({ cls := "java/lang/StringUTF16", name := "compareToLatin1", desc := "([B[B)I" } : Jvm.MethodName)) ∈ lw_all := lw_g (lw_at lw_m5 151 rfl) rfl
theorem q1170 : (Jvm.Cond.static ({ cls := "java/lang/StringUTF16", name := "compareToLatin1", desc := "([B[B)I" } : Jvm.MethodName)) ∈ lw_all := lw_g (lw_at lw_m5 152 rfl) rfl
theorem q1171 : (Jvm.Cond.code ({ cls := "java/lang/StringUTF16", name := "compareToLatin1", desc := "([B[B)I" } : Jvm.MethodName) prog_34_method_32_code (2 : Nat) (Option.some Jvm.ClassFile.FieldType.int)) ∈ lw_all := lw_g (lw_at lw_m5 153 rfl) rfl
theorem q1172 : (Jvm.Cond.methodLink "java/lang/StringUTF16" (189 : Nat) ({ cls := "java/lang/StringLatin1", name := "compareToUTF16", desc := "([B[B)I" } : Jvm.MethodName)) ∈ lw_all := lw_g (lw_at lw_m5 154 rfl) rfl
theorem q1173 : (Jvm.Cond.castable "java/lang/StringBuilder" "java/lang/Comparable") ∈ lw_tbl := lw_at lw_m5 155 rfl
theorem q1174 : (Jvm.Cond.selects "java/lang/StringBuilder" ({ cls := "java/lang/Comparable", name := "compareTo", desc := "(Ljava/lang/Object;)I" } : Jvm.MethodName) ({ cls := "java/lang/StringBuilder", name := "compareTo", desc := "(Ljava/lang/Object;)I" } : Jvm.MethodName)) ∈ lw_all := lw_g (lw_at lw_m5 156 rfl) rfl
theorem q1175 : (Jvm.Cond.unhidden "java/lang/StringBuilder" "compareTo" "(Ljava/lang/Object;)I") ∈ lw_tbl := lw_at lw_m5 157 rfl
theorem q1176 : (Jvm.Cond.instanceMethod ({ cls := "java/lang/StringBuilder", name := "compareTo", desc := "(Ljava/lang/Object;)I" } : Jvm.MethodName)) ∈ lw_all := lw_g (lw_at lw_m5 158 rfl) rfl
theorem q1177 : (Jvm.Cond.publicMethod ({ cls := "java/lang/StringBuilder", name := "compareTo", desc := "(Ljava/lang/Object;)I" } : Jvm.MethodName)) ∈ lw_tbl := lw_at lw_m5 159 rfl
theorem q1178 : (Jvm.Cond.code ({ cls := "java/lang/StringBuilder", name := "compareTo", desc := "(Ljava/lang/Object;)I" } : Jvm.MethodName) prog_31_method_97_code (2 : Nat) (Option.some Jvm.ClassFile.FieldType.int)) ∈ lw_all := lw_g (lw_at lw_m5 160 rfl) rfl
theorem q1179 : (Jvm.Cond.classLink "java/lang/StringBuilder" (24 : Nat) "java/lang/StringBuilder") ∈ lw_all := lw_g (lw_at lw_m5 161 rfl) rfl
theorem q1180 : (Jvm.Cond.methodLink "java/lang/StringBuilder" (346 : Nat) ({ cls := "java/lang/StringBuilder", name := "compareTo", desc := "(Ljava/lang/StringBuilder;)I" } : Jvm.MethodName)) ∈ lw_all := lw_g (lw_at lw_m5 162 rfl) rfl
theorem q1181 : (Jvm.Cond.instanceMethod ({ cls := "java/lang/StringBuilder", name := "compareTo", desc := "(Ljava/lang/StringBuilder;)I" } : Jvm.MethodName)) ∈ lw_all := lw_g (lw_at lw_m5 163 rfl) rfl
theorem q1182 : (Jvm.Cond.selects "java/lang/StringBuilder" ({ cls := "java/lang/StringBuilder", name := "compareTo", desc := "(Ljava/lang/StringBuilder;)I" } : Jvm.MethodName) ({ cls := "java/lang/StringBuilder", name := "compareTo", desc := "(Ljava/lang/StringBuilder;)I" } : Jvm.MethodName)) ∈ lw_all := lw_g (lw_at lw_m5 164 rfl) rfl
theorem q1183 : (Jvm.Cond.code ({ cls := "java/lang/StringBuilder", name := "compareTo", desc := "(Ljava/lang/StringBuilder;)I" } : Jvm.MethodName) prog_31_method_5_code (2 : Nat) (Option.some Jvm.ClassFile.FieldType.int)) ∈ lw_all := lw_g (lw_at lw_m5 165 rfl) rfl
theorem q1184 : (Jvm.Cond.methodLink "java/lang/StringBuilder" (13 : Nat) ({ cls := "java/lang/AbstractStringBuilder", name := "compareTo", desc := "(Ljava/lang/AbstractStringBuilder;)I" } : Jvm.MethodName)) ∈ lw_all := lw_g (lw_at lw_m5 166 rfl) rfl
theorem q1185 : (Jvm.Cond.instanceMethod ({ cls := "java/lang/AbstractStringBuilder", name := "compareTo", desc := "(Ljava/lang/AbstractStringBuilder;)I" } : Jvm.MethodName)) ∈ lw_all := lw_g (lw_at lw_m5 167 rfl) rfl
theorem q1186 : (Jvm.Cond.code ({ cls := "java/lang/AbstractStringBuilder", name := "compareTo", desc := "(Ljava/lang/AbstractStringBuilder;)I" } : Jvm.MethodName) prog_13_method_5_code (6 : Nat) (Option.some Jvm.ClassFile.FieldType.int)) ∈ lw_all := lw_g (lw_at lw_m5 168 rfl) rfl
theorem q1187 : (Jvm.Cond.methodLink "java/lang/AbstractStringBuilder" (87 : Nat) ({ cls := "java/lang/StringLatin1", name := "compareTo", desc := "([B[BII)I" } : Jvm.MethodName)) ∈ lw_all := lw_g (lw_at lw_m5 169 rfl) rfl
theorem q1188 : (Jvm.Cond.methodLink "java/lang/AbstractStringBuilder" (93 : Nat) ({ cls := "java/lang/StringUTF16", name := "compareTo", desc := "([B[BII)I" } : Jvm.MethodName)) ∈ lw_all := lw_g (lw_at lw_m5 170 rfl) rfl
theorem q1189 : (Jvm.Cond.static ({ cls := "java/lang/StringUTF16", name := "compareTo", desc := "([B[BII)I" } : Jvm.MethodName)) ∈ lw_all := lw_g (lw_at lw_m5 171 rfl) rfl
theorem q1190 : (Jvm.Cond.code ({ cls := "java/lang/StringUTF16", name := "compareTo", desc := "([B[BII)I" } : Jvm.MethodName) prog_34_method_30_code (4 : Nat) (Option.some Jvm.ClassFile.FieldType.int)) ∈ lw_all := lw_g (lw_at lw_m5 172 rfl) rfl
theorem q1191 : (Jvm.Cond.methodLink "java/lang/StringUTF16" (180 : Nat) ({ cls := "java/lang/StringUTF16", name := "checkOffset", desc := "(I[B)V" } : Jvm.MethodName)) ∈ lw_all := lw_g (lw_at lw_m5 173 rfl) rfl
theorem q1192 : (Jvm.Cond.static ({ cls := "java/lang/StringUTF16", name := "checkOffset", desc := "(I[B)V" } : Jvm.MethodName)) ∈ lw_all := lw_g (lw_at lw_m5 174 rfl) rfl
theorem q1193 : (Jvm.Cond.code ({ cls := "java/lang/StringUTF16", name := "checkOffset", desc := "(I[B)V" } : Jvm.MethodName) prog_34_method_92_code (2 : Nat) (Option.none : Option Jvm.ClassFile.FieldType)) ∈ lw_all := lw_g (lw_at lw_m5 175 rfl) rfl
theorem q1194 : (Jvm.Cond.methodLink "java/lang/StringUTF16" (417 : Nat) ({ cls := "java/lang/String", name := "checkOffset", desc := "(II)V" } : Jvm.MethodName)) ∈ lw_all := lw_g (lw_at lw_m5 176 rfl) rfl
theorem q1195 : (Jvm.Cond.static ({ cls := "java/lang/String", name := "checkOffset", desc := "(II)V" } : Jvm.MethodName)) ∈ lw_all := lw_g (lw_at lw_m5 177 rfl) rfl
theorem q1196 : (Jvm.Cond.code ({ cls := "java/lang/String", name := "checkOffset", desc := "(II)V" } : Jvm.MethodName) prog_30_method_156_code (2 : Nat) (Option.none : Option Jvm.ClassFile.FieldType)) ∈ lw_all := lw_g (lw_at lw_m5 178 rfl) rfl
theorem q1197 : (Jvm.Cond.methodLink "java/lang/AbstractStringBuilder" (94 : Nat) ({ cls := "java/lang/StringLatin1", name := "compareToUTF16", desc := "([B[BII)I" } : Jvm.MethodName)) ∈ lw_all := lw_g (lw_at lw_m5 179 rfl) rfl
theorem q1198 : (Jvm.Cond.static ({ cls := "java/lang/StringLatin1", name := "compareToUTF16", desc := "([B[BII)I" } : Jvm.MethodName)) ∈ lw_all := lw_g (lw_at lw_m5 180 rfl) rfl
theorem q1199 : (Jvm.Cond.code ({ cls := "java/lang/StringLatin1", name := "compareToUTF16", desc := "([B[BII)I" } : Jvm.MethodName) prog_33_method_17_code (4 : Nat) (Option.some Jvm.ClassFile.FieldType.int)) ∈ lw_all := lw_g (lw_at lw_m5 181 rfl) rfl
theorem q1200 : (Jvm.Cond.methodLink "java/lang/StringLatin1" (62 : Nat) ({ cls := "java/lang/String", name := "checkOffset", desc := "(II)V" } : Jvm.MethodName)) ∈ lw_all := lw_g (lw_at lw_m5 182 rfl) rfl
theorem q1201 : (Jvm.Cond.methodLink "java/lang/AbstractStringBuilder" (97 : Nat) ({ cls := "java/lang/StringUTF16", name := "compareToLatin1", desc := "([B[BII)I" } : Jvm.MethodName)) ∈ lw_all := lw_g (lw_at lw_m5 183 rfl) rfl
theorem q1202 : (Jvm.Cond.static ({ cls := "java/lang/StringUTF16", name := "compareToLatin1", desc := "([B[BII)I" } : Jvm.MethodName)) ∈ lw_all := lw_g (lw_at lw_m5 184 rfl) rfl
theorem q1203 : (Jvm.Cond.code ({ cls := "java/lang/StringUTF16", name := "compareToLatin1", desc := "([B[BII)I" } : Jvm.MethodName) prog_34_method_33_code (4 : Nat) (Option.some Jvm.ClassFile.FieldType.int)) ∈ lw_all := lw_g (lw_at lw_m5 185 rfl) rfl
theorem q1204 : (Jvm.Cond.methodLink "java/lang/StringUTF16" (193 : Nat) ({ cls := "java/lang/StringLatin1", name := "compareToUTF16", desc := "([B[BII)I" } : Jvm.MethodName)) ∈ lw_all := lw_g (lw_at lw_m5 186 rfl) rfl
theorem q1205 : (Jvm.Cond.classLink "RiddlePost$Memory" (45 : Nat) "RiddlePost$Note") ∈ lw_all := lw_g (lw_at lw_m5 187 rfl) rfl
theorem q1206 : (Jvm.Cond.methodLink "RiddlePost" (204 : Nat) ({ cls := "RiddlePost$Post", name := "trial", desc := "()LRiddlePost$Post;" } : Jvm.MethodName)) ∈ lw_all := lw_g (lw_at lw_m5 188 rfl) rfl
theorem q1207 : (Jvm.Cond.instanceMethod ({ cls := "RiddlePost$Post", name := "trial", desc := "()LRiddlePost$Post;" } : Jvm.MethodName)) ∈ lw_all := lw_g (lw_at lw_m5 189 rfl) rfl
theorem q1208 : (Jvm.Cond.selects "RiddlePost$Post" ({ cls := "RiddlePost$Post", name := "trial", desc := "()LRiddlePost$Post;" } : Jvm.MethodName) ({ cls := "RiddlePost$Post", name := "trial", desc := "()LRiddlePost$Post;" } : Jvm.MethodName)) ∈ lw_all := lw_g (lw_at lw_m5 190 rfl) rfl
theorem q1209 : (Jvm.Cond.code ({ cls := "RiddlePost$Post", name := "trial", desc := "()LRiddlePost$Post;" } : Jvm.MethodName) prog_5_method_3_code (1 : Nat) (Option.some (Jvm.ClassFile.FieldType.object "RiddlePost$Post"))) ∈ lw_all := lw_g (lw_at lw_m5 191 rfl) rfl
theorem q1210 : (Jvm.Cond.methodLink "RiddlePost$Post" (29 : Nat) ({ cls := "RiddlePost$Post", name := "copy", desc := "(LRiddlePost$Zones;)LRiddlePost$Post;" } : Jvm.MethodName)) ∈ lw_all := lw_g (lw_at lw_m5 192 rfl) rfl
theorem q1211 : (Jvm.Cond.privateMethod ({ cls := "RiddlePost$Post", name := "copy", desc := "(LRiddlePost$Zones;)LRiddlePost$Post;" } : Jvm.MethodName)) ∈ lw_tbl := lw_at lw_m5 193 rfl
theorem q1212 : (Jvm.Cond.instanceMethod ({ cls := "RiddlePost$Post", name := "copy", desc := "(LRiddlePost$Zones;)LRiddlePost$Post;" } : Jvm.MethodName)) ∈ lw_all := lw_g (lw_at lw_m5 194 rfl) rfl
theorem q1213 : (Jvm.Cond.code ({ cls := "RiddlePost$Post", name := "copy", desc := "(LRiddlePost$Zones;)LRiddlePost$Post;" } : Jvm.MethodName) prog_5_method_4_code (4 : Nat) (Option.some (Jvm.ClassFile.FieldType.object "RiddlePost$Post"))) ∈ lw_all := lw_g (lw_at lw_m5 195 rfl) rfl
theorem q1214 : (Jvm.Cond.classLink "RiddlePost$Post" (10 : Nat) "RiddlePost$Post") ∈ lw_all := lw_g (lw_at lw_m5 196 rfl) rfl
theorem q1215 : (Jvm.Cond.methodLink "RiddlePost$Post" (32 : Nat) ({ cls := "RiddlePost$Memory", name := "copy", desc := "()LRiddlePost$Memory;" } : Jvm.MethodName)) ∈ lw_all := lw_g (lw_at lw_m5 197 rfl) rfl
theorem q1216 : (Jvm.Cond.instanceMethod ({ cls := "RiddlePost$Memory", name := "copy", desc := "()LRiddlePost$Memory;" } : Jvm.MethodName)) ∈ lw_all := lw_g (lw_at lw_m5 198 rfl) rfl
theorem q1217 : (Jvm.Cond.selects "RiddlePost$Memory" ({ cls := "RiddlePost$Memory", name := "copy", desc := "()LRiddlePost$Memory;" } : Jvm.MethodName) ({ cls := "RiddlePost$Memory", name := "copy", desc := "()LRiddlePost$Memory;" } : Jvm.MethodName)) ∈ lw_all := lw_g (lw_at lw_m5 199 rfl) rfl
theorem q1218 : (Jvm.Cond.code ({ cls := "RiddlePost$Memory", name := "copy", desc := "()LRiddlePost$Memory;" } : Jvm.MethodName) prog_3_method_2_code (2 : Nat) (Option.some (Jvm.ClassFile.FieldType.object "RiddlePost$Memory"))) ∈ lw_all := lw_g (lw_at lw_m5 200 rfl) rfl
theorem q1219 : (Jvm.Cond.classLink "RiddlePost$Memory" (11 : Nat) "RiddlePost$Memory") ∈ lw_all := lw_g (lw_at lw_m5 201 rfl) rfl
theorem q1220 : (Jvm.Cond.methodLink "RiddlePost$Memory" (28 : Nat) ({ cls := "RiddlePost$Memory", name := "<init>", desc := "()V" } : Jvm.MethodName)) ∈ lw_all := lw_g (lw_at lw_m5 202 rfl) rfl
theorem q1221 : (Jvm.Cond.methodLink "RiddlePost$Memory" (29 : Nat) ({ cls := "java/util/TreeMap", name := "putAll", desc := "(Ljava/util/Map;)V" } : Jvm.MethodName)) ∈ lw_all := lw_g (lw_at lw_m5 203 rfl) rfl
theorem q1222 : (Jvm.Cond.instanceMethod ({ cls := "java/util/TreeMap", name := "putAll", desc := "(Ljava/util/Map;)V" } : Jvm.MethodName)) ∈ lw_all := lw_g (lw_at lw_m5 204 rfl) rfl
theorem q1223 : (Jvm.Cond.selects "java/util/TreeMap" ({ cls := "java/util/TreeMap", name := "putAll", desc := "(Ljava/util/Map;)V" } : Jvm.MethodName) ({ cls := "java/util/TreeMap", name := "putAll", desc := "(Ljava/util/Map;)V" } : Jvm.MethodName)) ∈ lw_all := lw_g (lw_at lw_m5 205 rfl) rfl
theorem q1224 : (Jvm.Cond.codeWith ({ cls := "java/util/TreeMap", name := "putAll", desc := "(Ljava/util/Map;)V" } : Jvm.MethodName) prog_67_method_14_code (4 : Nat) (Option.none : Option Jvm.ClassFile.FieldType) [((54 : Nat), (72 : Nat), (75 : Nat), (46 : Nat)), ((54 : Nat), (72 : Nat), (75 : Nat), (48 : Nat))]) ∈ lw_all := lw_g (lw_at lw_m5 206 rfl) rfl
theorem q1225 : (Jvm.Cond.interfaceEntry "java/util/TreeMap" (82 : Nat)) ∈ lw_tbl := lw_at lw_m5 207 rfl
theorem q1226 : (Jvm.Cond.methodLink "java/util/TreeMap" (82 : Nat) ({ cls := "java/util/Map", name := "size", desc := "()I" } : Jvm.MethodName)) ∈ lw_all := lw_g (lw_at lw_m5 208 rfl) rfl
theorem q1227 : (Jvm.Cond.interfaceMethod "java/util/Map" "java/util/Map" "size" "()I") ∈ lw_tbl := lw_at lw_m5 209 rfl
theorem q1228 : (Jvm.Cond.declares ({ cls := "java/util/Map", name := "size", desc := "()I" } : Jvm.MethodName)) ∈ lw_tbl := lw_at lw_m5 210 rfl
theorem q1229 : (Jvm.Cond.castable "java/util/TreeMap" "java/util/Map") ∈ lw_tbl := lw_at lw_m5 211 rfl
theorem q1230 : (Jvm.Cond.selects "java/util/TreeMap" ({ cls := "java/util/Map", name := "size", desc := "()I" } : Jvm.MethodName) ({ cls := "java/util/TreeMap", name := "size", desc := "()I" } : Jvm.MethodName)) ∈ lw_all := lw_g (lw_at lw_m5 212 rfl) rfl
theorem q1231 : (Jvm.Cond.unhidden "java/util/TreeMap" "size" "()I") ∈ lw_tbl := lw_at lw_m5 213 rfl
theorem q1232 : (Jvm.Cond.publicMethod ({ cls := "java/util/TreeMap", name := "size", desc := "()I" } : Jvm.MethodName)) ∈ lw_tbl := lw_at lw_m5 214 rfl
theorem q1233 : (Jvm.Cond.classLink "java/util/TreeMap" (25 : Nat) "java/util/SortedMap") ∈ lw_all := lw_g (lw_at lw_m5 215 rfl) rfl
theorem q1234 : (Jvm.Cond.interfaceEntry "java/util/TreeMap" (24 : Nat)) ∈ lw_tbl := lw_at lw_m5 216 rfl
theorem q1235 : (Jvm.Cond.methodLink "java/util/TreeMap" (24 : Nat) ({ cls := "java/util/SortedMap", name := "comparator", desc := "()Ljava/util/Comparator;" } : Jvm.MethodName)) ∈ lw_all := lw_g (lw_at lw_m5 217 rfl) rfl
theorem q1236 : (Jvm.Cond.interfaceMethod "java/util/SortedMap" "java/util/SortedMap" "comparator" "()Ljava/util/Comparator;") ∈ lw_tbl := lw_at lw_m5 218 rfl
theorem q1237 : (Jvm.Cond.declares ({ cls := "java/util/SortedMap", name := "comparator", desc := "()Ljava/util/Comparator;" } : Jvm.MethodName)) ∈ lw_tbl := lw_at lw_m5 219 rfl
theorem q1238 : (Jvm.Cond.castable "java/util/TreeMap" "java/util/SortedMap") ∈ lw_tbl := lw_at lw_m5 220 rfl
theorem q1239 : (Jvm.Cond.selects "java/util/TreeMap" ({ cls := "java/util/SortedMap", name := "comparator", desc := "()Ljava/util/Comparator;" } : Jvm.MethodName) ({ cls := "java/util/TreeMap", name := "comparator", desc := "()Ljava/util/Comparator;" } : Jvm.MethodName)) ∈ lw_all := lw_g (lw_at lw_m5 221 rfl) rfl
theorem q1240 : (Jvm.Cond.unhidden "java/util/TreeMap" "comparator" "()Ljava/util/Comparator;") ∈ lw_tbl := lw_at lw_m5 222 rfl
theorem q1241 : (Jvm.Cond.instanceMethod ({ cls := "java/util/TreeMap", name := "comparator", desc := "()Ljava/util/Comparator;" } : Jvm.MethodName)) ∈ lw_all := lw_g (lw_at lw_m5 223 rfl) rfl
theorem q1242 : (Jvm.Cond.publicMethod ({ cls := "java/util/TreeMap", name := "comparator", desc := "()Ljava/util/Comparator;" } : Jvm.MethodName)) ∈ lw_tbl := lw_at lw_m5 224 rfl
theorem q1243 : (Jvm.Cond.code ({ cls := "java/util/TreeMap", name := "comparator", desc := "()Ljava/util/Comparator;" } : Jvm.MethodName) prog_67_method_9_code (1 : Nat) (Option.some (Jvm.ClassFile.FieldType.object "java/util/Comparator"))) ∈ lw_all := lw_g (lw_at lw_m5 225 rfl) rfl
theorem q1244 : (Jvm.Cond.methodLink "java/util/TreeMap" (85 : Nat) ({ cls := "java/util/Objects", name := "equals", desc := "(Ljava/lang/Object;Ljava/lang/Object;)Z" } : Jvm.MethodName)) ∈ lw_all := lw_g (lw_at lw_m5 226 rfl) rfl
theorem q1245 : (Jvm.Cond.static ({ cls := "java/util/Objects", name := "equals", desc := "(Ljava/lang/Object;Ljava/lang/Object;)Z" } : Jvm.MethodName)) ∈ lw_all := lw_g (lw_at lw_m5 227 rfl) rfl
theorem q1246 : (Jvm.Cond.code ({ cls := "java/util/Objects", name := "equals", desc := "(Ljava/lang/Object;Ljava/lang/Object;)Z" } : Jvm.MethodName) prog_56_method_2_code (2 : Nat) (Option.some Jvm.ClassFile.FieldType.boolean)) ∈ lw_all := lw_g (lw_at lw_m5 228 rfl) rfl
theorem q1247 : (Jvm.Cond.declares ({ cls := "java/lang/Object", name := "equals", desc := "(Ljava/lang/Object;)Z" } : Jvm.MethodName)) ∈ lw_tbl := lw_at lw_m5 229 rfl
theorem q1248 : (Jvm.Cond.methodLink "java/util/Objects" (14 : Nat) ({ cls := "java/lang/Object", name := "equals", desc := "(Ljava/lang/Object;)Z" } : Jvm.MethodName)) ∈ lw_all := lw_g (lw_at lw_m5 230 rfl) rfl
theorem q1249 : (Jvm.Cond.instanceMethod ({ cls := "java/lang/Object", name := "equals", desc := "(Ljava/lang/Object;)Z" } : Jvm.MethodName)) ∈ lw_all := lw_g (lw_at lw_m5 231 rfl) rfl
theorem q1250 : (Jvm.Cond.sameMethod "java/lang/Object" "java/lang/Object" "equals" "(Ljava/lang/Object;)Z") ∈ lw_all := lw_g (lw_at lw_m5 232 rfl) rfl
theorem q1251 : (Jvm.Cond.selects "RiddlePost" ({ cls := "java/lang/Object", name := "equals", desc := "(Ljava/lang/Object;)Z" } : Jvm.MethodName) ({ cls := "java/lang/Object", name := "equals", desc := "(Ljava/lang/Object;)Z" } : Jvm.MethodName)) ∈ lw_all := lw_g (lw_at lw_m5 233 rfl) rfl
theorem q1252 : (Jvm.Cond.selects "RiddlePost$Act" ({ cls := "java/lang/Object", name := "equals", desc := "(Ljava/lang/Object;)Z" } : Jvm.MethodName) ({ cls := "java/lang/Object", name := "equals", desc := "(Ljava/lang/Object;)Z" } : Jvm.MethodName)) ∈ lw_all := lw_g (lw_at lw_m5 234 rfl) rfl
theorem q1253 : (Jvm.Cond.selects "RiddlePost$Memory" ({ cls := "java/lang/Object", name := "equals", desc := "(Ljava/lang/Object;)Z" } : Jvm.MethodName) ({ cls := "java/lang/Object", name := "equals", desc := "(Ljava/lang/Object;)Z" } : Jvm.MethodName)) ∈ lw_all := lw_g (lw_at lw_m5 235 rfl) rfl
theorem q1254 : (Jvm.Cond.selects "RiddlePost$Note" ({ cls := "java/lang/Object", name := "equals", desc := "(Ljava/lang/Object;)Z" } : Jvm.MethodName) ({ cls := "java/lang/Object", name := "equals", desc := "(Ljava/lang/Object;)Z" } : Jvm.MethodName)) ∈ lw_all := lw_g (lw_at lw_m5 236 rfl) rfl
theorem q1255 : (Jvm.Cond.selects "RiddlePost$Post" ({ cls := "java/lang/Object", name := "equals", desc := "(Ljava/lang/Object;)Z" } : Jvm.MethodName) ({ cls := "java/lang/Object", name := "equals", desc := "(Ljava/lang/Object;)Z" } : Jvm.MethodName)) ∈ lw_all := lw_g (lw_at lw_m5 237 rfl) rfl
theorem q1256 : (Jvm.Cond.selects "RiddlePost$Reader" ({ cls := "java/lang/Object", name := "equals", desc := "(Ljava/lang/Object;)Z" } : Jvm.MethodName) ({ cls := "java/lang/Object", name := "equals", desc := "(Ljava/lang/Object;)Z" } : Jvm.MethodName)) ∈ lw_all := lw_g (lw_at lw_m5 238 rfl) rfl
theorem q1257 : (Jvm.Cond.selects "RiddlePost$Sooner" ({ cls := "java/lang/Object", name := "equals", desc := "(Ljava/lang/Object;)Z" } : Jvm.MethodName) ({ cls := "java/lang/Object", name := "equals", desc := "(Ljava/lang/Object;)Z" } : Jvm.MethodName)) ∈ lw_all := lw_g (lw_at lw_m5 239 rfl) rfl
theorem q1258 : (Jvm.Cond.selects "RiddlePost$Topic" ({ cls := "java/lang/Object", name := "equals", desc := "(Ljava/lang/Object;)Z" } : Jvm.MethodName) ({ cls := "java/lang/Object", name := "equals", desc := "(Ljava/lang/Object;)Z" } : Jvm.MethodName)) ∈ lw_all := lw_g (lw_at lw_m6 0 rfl) rfl
theorem q1259 : (Jvm.Cond.selects "RiddlePost$Zones" ({ cls := "java/lang/Object", name := "equals", desc := "(Ljava/lang/Object;)Z" } : Jvm.MethodName) ({ cls := "java/lang/Object", name := "equals", desc := "(Ljava/lang/Object;)Z" } : Jvm.MethodName)) ∈ lw_all := lw_g (lw_at lw_m6 1 rfl) rfl
theorem q1260 : (Jvm.Cond.selects "RiddlePostModel" ({ cls := "java/lang/Object", name := "equals", desc := "(Ljava/lang/Object;)Z" } : Jvm.MethodName) ({ cls := "java/lang/Object", name := "equals", desc := "(Ljava/lang/Object;)Z" } : Jvm.MethodName)) ∈ lw_all := lw_g (lw_at lw_m6 2 rfl) rfl
theorem q1261 : (Jvm.Cond.selects "java/lang/ArrayIndexOutOfBoundsException" ({ cls := "java/lang/Object", name := "equals", desc := "(Ljava/lang/Object;)Z" } : Jvm.MethodName) ({ cls := "java/lang/Object", name := "equals", desc := "(Ljava/lang/Object;)Z" } : Jvm.MethodName)) ∈ lw_all := lw_g (lw_at lw_m6 3 rfl) rfl
theorem q1262 : (Jvm.Cond.selects "java/lang/IllegalArgumentException" ({ cls := "java/lang/Object", name := "equals", desc := "(Ljava/lang/Object;)Z" } : Jvm.MethodName) ({ cls := "java/lang/Object", name := "equals", desc := "(Ljava/lang/Object;)Z" } : Jvm.MethodName)) ∈ lw_all := lw_g (lw_at lw_m6 4 rfl) rfl
theorem q1263 : (Jvm.Cond.selects "java/lang/IllegalStateException" ({ cls := "java/lang/Object", name := "equals", desc := "(Ljava/lang/Object;)Z" } : Jvm.MethodName) ({ cls := "java/lang/Object", name := "equals", desc := "(Ljava/lang/Object;)Z" } : Jvm.MethodName)) ∈ lw_all := lw_g (lw_at lw_m6 5 rfl) rfl
theorem q1264 : (Jvm.Cond.selects "java/lang/IndexOutOfBoundsException" ({ cls := "java/lang/Object", name := "equals", desc := "(Ljava/lang/Object;)Z" } : Jvm.MethodName) ({ cls := "java/lang/Object", name := "equals", desc := "(Ljava/lang/Object;)Z" } : Jvm.MethodName)) ∈ lw_all := lw_g (lw_at lw_m6 6 rfl) rfl
theorem q1265 : (Jvm.Cond.selects "java/lang/Integer" ({ cls := "java/lang/Object", name := "equals", desc := "(Ljava/lang/Object;)Z" } : Jvm.MethodName) ({ cls := "java/lang/Integer", name := "equals", desc := "(Ljava/lang/Object;)Z" } : Jvm.MethodName)) ∈ lw_all := lw_g (lw_at lw_m6 7 rfl) rfl
theorem q1266 : (Jvm.Cond.instanceMethod ({ cls := "java/lang/Integer", name := "equals", desc := "(Ljava/lang/Object;)Z" } : Jvm.MethodName)) ∈ lw_all := lw_g (lw_at lw_m6 8 rfl) rfl
theorem q1267 : (Jvm.Cond.code ({ cls := "java/lang/Integer", name := "equals", desc := "(Ljava/lang/Object;)Z" } : Jvm.MethodName) prog_23_method_34_code (2 : Nat) (Option.some Jvm.ClassFile.FieldType.boolean)) ∈ lw_all := lw_g (lw_at lw_m6 9 rfl) rfl
theorem q1268 : (Jvm.Cond.methodLink "java/lang/Integer" (211 : Nat) ({ cls := "java/lang/Integer", name := "intValue", desc := "()I" } : Jvm.MethodName)) ∈ lw_all := lw_g (lw_at lw_m6 10 rfl) rfl
theorem q1269 : (Jvm.Cond.instanceMethod ({ cls := "java/lang/Integer", name := "intValue", desc := "()I" } : Jvm.MethodName)) ∈ lw_all := lw_g (lw_at lw_m6 11 rfl) rfl
theorem q1270 : (Jvm.Cond.selects "java/lang/Integer" ({ cls := "java/lang/Integer", name := "intValue", desc := "()I" } : Jvm.MethodName) ({ cls := "java/lang/Integer", name := "intValue", desc := "()I" } : Jvm.MethodName)) ∈ lw_all := lw_g (lw_at lw_m6 12 rfl) rfl
theorem q1271 : (Jvm.Cond.code ({ cls := "java/lang/Integer", name := "intValue", desc := "()I" } : Jvm.MethodName) prog_23_method_27_code (1 : Nat) (Option.some Jvm.ClassFile.FieldType.int)) ∈ lw_all := lw_g (lw_at lw_m6 13 rfl) rfl
theorem q1272 : (Jvm.Cond.selects "java/lang/String" ({ cls := "java/lang/Object", name := "equals", desc := "(Ljava/lang/Object;)Z" } : Jvm.MethodName) ({ cls := "java/lang/String", name := "equals", desc := "(Ljava/lang/Object;)Z" } : Jvm.MethodName)) ∈ lw_all := lw_g (lw_at lw_m6 14 rfl) rfl
theorem q1273 : (Jvm.Cond.instanceMethod ({ cls := "java/lang/String", name := "equals", desc := "(Ljava/lang/Object;)Z" } : Jvm.MethodName)) ∈ lw_all := lw_g (lw_at lw_m6 15 rfl) rfl
theorem q1274 : (Jvm.Cond.code ({ cls := "java/lang/String", name := "equals", desc := "(Ljava/lang/Object;)Z" } : Jvm.MethodName) prog_30_method_66_code (3 : Nat) (Option.some Jvm.ClassFile.FieldType.boolean)) ∈ lw_all := lw_g (lw_at lw_m6 16 rfl) rfl
theorem q1275 : (Jvm.Cond.methodLink "java/lang/String" (541 : Nat) ({ cls := "java/lang/StringLatin1", name := "equals", desc := "([B[B)Z" } : Jvm.MethodName)) ∈ lw_all := lw_g (lw_at lw_m6 17 rfl) rfl
theorem q1276 : (Jvm.Cond.static ({ cls := "java/lang/StringLatin1", name := "equals", desc := "([B[B)Z" } : Jvm.MethodName)) ∈ lw_all := lw_g (lw_at lw_m6 18 rfl) rfl
theorem q1277 : (Jvm.Cond.code ({ cls := "java/lang/StringLatin1", name := "equals", desc := "([B[B)Z" } : Jvm.MethodName) prog_33_method_13_code (3 : Nat) (Option.some Jvm.ClassFile.FieldType.boolean)) ∈ lw_all := lw_g (lw_at lw_m6 19 rfl) rfl
theorem q1278 : (Jvm.Cond.selects "java/lang/StringBuilder" ({ cls := "java/lang/Object", name := "equals", desc := "(Ljava/lang/Object;)Z" } : Jvm.MethodName) ({ cls := "java/lang/Object", name := "equals", desc := "(Ljava/lang/Object;)Z" } : Jvm.MethodName)) ∈ lw_all := lw_g (lw_at lw_m6 20 rfl) rfl
theorem q1279 : (Jvm.Cond.selects "java/lang/StringIndexOutOfBoundsException" ({ cls := "java/lang/Object", name := "equals", desc := "(Ljava/lang/Object;)Z" } : Jvm.MethodName) ({ cls := "java/lang/Object", name := "equals", desc := "(Ljava/lang/Object;)Z" } : Jvm.MethodName)) ∈ lw_all := lw_g (lw_at lw_m6 21 rfl) rfl
theorem q1280 : (Jvm.Cond.selects "jdk/internal/misc/Unsafe" ({ cls := "java/lang/Object", name := "equals", desc := "(Ljava/lang/Object;)Z" } : Jvm.MethodName) ({ cls := "java/lang/Object", name := "equals", desc := "(Ljava/lang/Object;)Z" } : Jvm.MethodName)) ∈ lw_all := lw_g (lw_at lw_m6 22 rfl) rfl
theorem q1281 : (Jvm.Cond.code ({ cls := "java/lang/Object", name := "equals", desc := "(Ljava/lang/Object;)Z" } : Jvm.MethodName) object_method_4_code (2 : Nat) (Option.some Jvm.ClassFile.FieldType.boolean)) ∈ lw_all := lw_g (lw_at lw_m6 23 rfl) rfl
theorem q1282 : (Jvm.Cond.interfaceEntry "java/util/TreeMap" (90 : Nat)) ∈ lw_tbl := lw_at lw_m6 24 rfl
theorem q1283 : (Jvm.Cond.methodLink "java/util/TreeMap" (90 : Nat) ({ cls := "java/util/Map", name := "entrySet", desc := "()Ljava/util/Set;" } : Jvm.MethodName)) ∈ lw_all := lw_g (lw_at lw_m6 25 rfl) rfl
theorem q1284 : (Jvm.Cond.interfaceMethod "java/util/Map" "java/util/Map" "entrySet" "()Ljava/util/Set;") ∈ lw_tbl := lw_at lw_m6 26 rfl
theorem q1285 : (Jvm.Cond.declares ({ cls := "java/util/Map", name := "entrySet", desc := "()Ljava/util/Set;" } : Jvm.MethodName)) ∈ lw_tbl := lw_at lw_m6 27 rfl
theorem q1286 : (Jvm.Cond.selects "java/util/TreeMap" ({ cls := "java/util/Map", name := "entrySet", desc := "()Ljava/util/Set;" } : Jvm.MethodName) ({ cls := "java/util/TreeMap", name := "entrySet", desc := "()Ljava/util/Set;" } : Jvm.MethodName)) ∈ lw_all := lw_g (lw_at lw_m6 28 rfl) rfl
theorem q1287 : (Jvm.Cond.unhidden "java/util/TreeMap" "entrySet" "()Ljava/util/Set;") ∈ lw_tbl := lw_at lw_m6 29 rfl
theorem q1288 : (Jvm.Cond.instanceMethod ({ cls := "java/util/TreeMap", name := "entrySet", desc := "()Ljava/util/Set;" } : Jvm.MethodName)) ∈ lw_all := lw_g (lw_at lw_m6 30 rfl) rfl
theorem q1289 : (Jvm.Cond.publicMethod ({ cls := "java/util/TreeMap", name := "entrySet", desc := "()Ljava/util/Set;" } : Jvm.MethodName)) ∈ lw_tbl := lw_at lw_m6 31 rfl
theorem q1290 : (Jvm.Cond.code ({ cls := "java/util/TreeMap", name := "entrySet", desc := "()Ljava/util/Set;" } : Jvm.MethodName) prog_67_method_53_code (2 : Nat) (Option.some (Jvm.ClassFile.FieldType.object "java/util/Set"))) ∈ lw_all := lw_g (lw_at lw_m6 32 rfl) rfl
theorem q1291 : (Jvm.Cond.classLink "java/util/TreeMap" (242 : Nat) "java/util/TreeMap$EntrySet") ∈ lw_all := lw_g (lw_at lw_m6 33 rfl) rfl
theorem q1292 : (Jvm.Cond.instantiable "java/util/TreeMap$EntrySet" (1 : Nat)) ∈ lw_all := lw_g (lw_at lw_m6 34 rfl) rfl
theorem q1293 : (Jvm.Cond.methodLink "java/util/TreeMap" (244 : Nat) ({ cls := "java/util/TreeMap$EntrySet", name := "<init>", desc := "(Ljava/util/TreeMap;)V" } : Jvm.MethodName)) ∈ lw_all := lw_g (lw_at lw_m6 35 rfl) rfl
theorem q1294 : (Jvm.Cond.instanceMethod ({ cls := "java/util/TreeMap$EntrySet", name := "<init>", desc := "(Ljava/util/TreeMap;)V" } : Jvm.MethodName)) ∈ lw_all := lw_g (lw_at lw_m6 36 rfl) rfl
theorem q1295 : (Jvm.Cond.code ({ cls := "java/util/TreeMap$EntrySet", name := "<init>", desc := "(Ljava/util/TreeMap;)V" } : Jvm.MethodName) prog_70_method_1_code (2 : Nat) (Option.none : Option Jvm.ClassFile.FieldType)) ∈ lw_all := lw_g (lw_at lw_m6 37 rfl) rfl
theorem q1296 : (Jvm.Cond.methodLink "java/util/TreeMap$EntrySet" (7 : Nat) ({ cls := "java/util/AbstractSet", name := "<init>", desc := "()V" } : Jvm.MethodName)) ∈ lw_all := lw_g (lw_at lw_m6 38 rfl) rfl
theorem q1297 : (Jvm.Cond.instanceMethod ({ cls := "java/util/AbstractSet", name := "<init>", desc := "()V" } : Jvm.MethodName)) ∈ lw_all := lw_g (lw_at lw_m6 39 rfl) rfl
theorem q1298 : (Jvm.Cond.code ({ cls := "java/util/AbstractSet", name := "<init>", desc := "()V" } : Jvm.MethodName) prog_43_method_1_code (1 : Nat) (Option.none : Option Jvm.ClassFile.FieldType)) ∈ lw_all := lw_g (lw_at lw_m6 40 rfl) rfl
theorem q1299 : (Jvm.Cond.methodLink "java/util/AbstractSet" (1 : Nat) ({ cls := "java/util/AbstractCollection", name := "<init>", desc := "()V" } : Jvm.MethodName)) ∈ lw_all := lw_g (lw_at lw_m6 41 rfl) rfl
theorem q1300 : (Jvm.Cond.fieldLink "java/util/TreeMap$EntrySet" (1 : Nat) "java/util/TreeMap$EntrySet" "this$0" "Ljava/util/TreeMap;") ∈ lw_all := lw_g (lw_at lw_m6 42 rfl) rfl
theorem q1301 : (Jvm.Cond.laysFinal "java/util/TreeMap$EntrySet" "java/util/TreeMap$EntrySet" "this$0" "Ljava/util/TreeMap;") ∈ lw_all := lw_g (lw_at lw_m6 43 rfl) rfl
theorem q1302 : (Jvm.Cond.soleField "java/util/TreeMap$EntrySet" "this$0") ∈ lw_all := lw_g (lw_at lw_m6 44 rfl) rfl
theorem q1303 : (Jvm.Cond.superclass "java/util/TreeMap$EntrySet" "java/util/AbstractSet") ∈ lw_all := lw_g (lw_at lw_m6 45 rfl) rfl
theorem q1304 : (Jvm.Cond.interfaceEntry "java/util/TreeMap" (36 : Nat)) ∈ lw_tbl := lw_at lw_m6 46 rfl
theorem q1305 : (Jvm.Cond.methodLink "java/util/TreeMap" (36 : Nat) ({ cls := "java/util/Set", name := "iterator", desc := "()Ljava/util/Iterator;" } : Jvm.MethodName)) ∈ lw_all := lw_g (lw_at lw_m6 47 rfl) rfl
theorem q1306 : (Jvm.Cond.interfaceMethod "java/util/Set" "java/util/Set" "iterator" "()Ljava/util/Iterator;") ∈ lw_tbl := lw_at lw_m6 48 rfl
theorem q1307 : (Jvm.Cond.declares ({ cls := "java/util/Set", name := "iterator", desc := "()Ljava/util/Iterator;" } : Jvm.MethodName)) ∈ lw_tbl := lw_at lw_m6 49 rfl
theorem q1308 : (Jvm.Cond.castable "java/util/TreeMap$EntrySet" "java/util/Set") ∈ lw_tbl := lw_at lw_m6 50 rfl
theorem q1309 : (Jvm.Cond.selects "java/util/TreeMap$EntrySet" ({ cls := "java/util/Set", name := "iterator", desc := "()Ljava/util/Iterator;" } : Jvm.MethodName) ({ cls := "java/util/TreeMap$EntrySet", name := "iterator", desc := "()Ljava/util/Iterator;" } : Jvm.MethodName)) ∈ lw_all := lw_g (lw_at lw_m6 51 rfl) rfl
theorem q1310 : (Jvm.Cond.unhidden "java/util/TreeMap$EntrySet" "iterator" "()Ljava/util/Iterator;") ∈ lw_tbl := lw_at lw_m6 52 rfl
theorem q1311 : (Jvm.Cond.instanceMethod ({ cls := "java/util/TreeMap$EntrySet", name := "iterator", desc := "()Ljava/util/Iterator;" } : Jvm.MethodName)) ∈ lw_all := lw_g (lw_at lw_m6 53 rfl) rfl
theorem q1312 : (Jvm.Cond.publicMethod ({ cls := "java/util/TreeMap$EntrySet", name := "iterator", desc := "()Ljava/util/Iterator;" } : Jvm.MethodName)) ∈ lw_tbl := lw_at lw_m6 54 rfl
theorem q1313 : (Jvm.Cond.code ({ cls := "java/util/TreeMap$EntrySet", name := "iterator", desc := "()Ljava/util/Iterator;" } : Jvm.MethodName) prog_70_method_2_code (1 : Nat) (Option.some (Jvm.ClassFile.FieldType.object "java/util/Iterator"))) ∈ lw_all := lw_g (lw_at lw_m6 55 rfl) rfl
theorem q1314 : (Jvm.Cond.classLink "java/util/TreeMap$EntrySet" (13 : Nat) "java/util/TreeMap$EntryIterator") ∈ lw_all := lw_g (lw_at lw_m6 56 rfl) rfl
theorem q1315 : (Jvm.Cond.instantiable "java/util/TreeMap$EntryIterator" (4 : Nat)) ∈ lw_all := lw_g (lw_at lw_m6 57 rfl) rfl
theorem q1316 : (Jvm.Cond.methodLink "java/util/TreeMap$EntrySet" (15 : Nat) ({ cls := "java/util/TreeMap", name := "getFirstEntry", desc := "()Ljava/util/TreeMap$Entry;" } : Jvm.MethodName)) ∈ lw_all := lw_g (lw_at lw_m6 58 rfl) rfl
theorem q1317 : (Jvm.Cond.instanceMethod ({ cls := "java/util/TreeMap", name := "getFirstEntry", desc := "()Ljava/util/TreeMap$Entry;" } : Jvm.MethodName)) ∈ lw_all := lw_g (lw_at lw_m6 59 rfl) rfl
theorem q1318 : (Jvm.Cond.selects "java/util/TreeMap" ({ cls := "java/util/TreeMap", name := "getFirstEntry", desc := "()Ljava/util/TreeMap$Entry;" } : Jvm.MethodName) ({ cls := "java/util/TreeMap", name := "getFirstEntry", desc := "()Ljava/util/TreeMap$Entry;" } : Jvm.MethodName)) ∈ lw_all := lw_g (lw_at lw_m6 60 rfl) rfl
theorem q1319 : (Jvm.Cond.code ({ cls := "java/util/TreeMap", name := "getFirstEntry", desc := "()Ljava/util/TreeMap$Entry;" } : Jvm.MethodName) prog_67_method_72_code (2 : Nat) (Option.some (Jvm.ClassFile.FieldType.object "java/util/TreeMap$Entry"))) ∈ lw_all := lw_g (lw_at lw_m6 61 rfl) rfl
theorem q1320 : (Jvm.Cond.methodLink "java/util/TreeMap$EntrySet" (21 : Nat) ({ cls := "java/util/TreeMap$EntryIterator", name := "<init>", desc := "(Ljava/util/TreeMap;Ljava/util/TreeMap$Entry;)V" } : Jvm.MethodName)) ∈ lw_all := lw_g (lw_at lw_m6 62 rfl) rfl
theorem q1321 : (Jvm.Cond.instanceMethod ({ cls := "java/util/TreeMap$EntryIterator", name := "<init>", desc := "(Ljava/util/TreeMap;Ljava/util/TreeMap$Entry;)V" } : Jvm.MethodName)) ∈ lw_all := lw_g (lw_at lw_m6 63 rfl) rfl
theorem q1322 : (Jvm.Cond.code ({ cls := "java/util/TreeMap$EntryIterator", name := "<init>", desc := "(Ljava/util/TreeMap;Ljava/util/TreeMap$Entry;)V" } : Jvm.MethodName) prog_69_method_1_code (3 : Nat) (Option.none : Option Jvm.ClassFile.FieldType)) ∈ lw_all := lw_g (lw_at lw_m6 64 rfl) rfl
theorem q1323 : (Jvm.Cond.methodLink "java/util/TreeMap$EntryIterator" (1 : Nat) ({ cls := "java/util/TreeMap$PrivateEntryIterator", name := "<init>", desc := "(Ljava/util/TreeMap;Ljava/util/TreeMap$Entry;)V" } : Jvm.MethodName)) ∈ lw_all := lw_g (lw_at lw_m6 65 rfl) rfl
theorem q1324 : (Jvm.Cond.instanceMethod ({ cls := "java/util/TreeMap$PrivateEntryIterator", name := "<init>", desc := "(Ljava/util/TreeMap;Ljava/util/TreeMap$Entry;)V" } : Jvm.MethodName)) ∈ lw_all := lw_g (lw_at lw_m6 66 rfl) rfl
theorem q1325 : (Jvm.Cond.code ({ cls := "java/util/TreeMap$PrivateEntryIterator", name := "<init>", desc := "(Ljava/util/TreeMap;Ljava/util/TreeMap$Entry;)V" } : Jvm.MethodName) prog_74_method_1_code (3 : Nat) (Option.none : Option Jvm.ClassFile.FieldType)) ∈ lw_all := lw_g (lw_at lw_m6 67 rfl) rfl
theorem q1326 : (Jvm.Cond.methodLink "java/util/TreeMap$PrivateEntryIterator" (7 : Nat) ({ cls := "java/lang/Object", name := "<init>", desc := "()V" } : Jvm.MethodName)) ∈ lw_all := lw_g (lw_at lw_m6 68 rfl) rfl
theorem q1327 : (Jvm.Cond.fieldLink "java/util/TreeMap$PrivateEntryIterator" (26 : Nat) "java/util/TreeMap$PrivateEntryIterator" "next" "Ljava/util/TreeMap$Entry;") ∈ lw_all := lw_g (lw_at lw_m6 69 rfl) rfl
theorem q1328 : (Jvm.Cond.fieldLink "java/util/TreeMap$PrivateEntryIterator" (22 : Nat) "java/util/TreeMap$PrivateEntryIterator" "lastReturned" "Ljava/util/TreeMap$Entry;") ∈ lw_all := lw_g (lw_at lw_m6 70 rfl) rfl
theorem q1329 : (Jvm.Cond.fieldLink "java/util/TreeMap$PrivateEntryIterator" (19 : Nat) "java/util/TreeMap$PrivateEntryIterator" "expectedModCount" "I") ∈ lw_all := lw_g (lw_at lw_m6 71 rfl) rfl
theorem q1330 : (Jvm.Cond.fieldLink "java/util/TreeMap$PrivateEntryIterator" (1 : Nat) "java/util/TreeMap$PrivateEntryIterator" "this$0" "Ljava/util/TreeMap;") ∈ lw_all := lw_g (lw_at lw_m6 72 rfl) rfl
theorem q1331 : (Jvm.Cond.lays "java/util/TreeMap$EntryIterator" "java/util/TreeMap$PrivateEntryIterator" "next" "Ljava/util/TreeMap$Entry;") ∈ lw_all := lw_g (lw_at lw_m6 73 rfl) rfl
theorem q1332 : (Jvm.Cond.soleField "java/util/TreeMap$PrivateEntryIterator" "next") ∈ lw_all := lw_g (lw_at lw_m6 74 rfl) rfl
theorem q1333 : (Jvm.Cond.lays "java/util/TreeMap$EntryIterator" "java/util/TreeMap$PrivateEntryIterator" "lastReturned" "Ljava/util/TreeMap$Entry;") ∈ lw_all := lw_g (lw_at lw_m6 75 rfl) rfl
theorem q1334 : (Jvm.Cond.soleField "java/util/TreeMap$PrivateEntryIterator" "lastReturned") ∈ lw_all := lw_g (lw_at lw_m6 76 rfl) rfl
theorem q1335 : (Jvm.Cond.lays "java/util/TreeMap$EntryIterator" "java/util/TreeMap$PrivateEntryIterator" "expectedModCount" "I") ∈ lw_all := lw_g (lw_at lw_m6 77 rfl) rfl
theorem q1336 : (Jvm.Cond.soleField "java/util/TreeMap$PrivateEntryIterator" "expectedModCount") ∈ lw_all := lw_g (lw_at lw_m6 78 rfl) rfl
theorem q1337 : (Jvm.Cond.laysFinal "java/util/TreeMap$EntryIterator" "java/util/TreeMap$PrivateEntryIterator" "this$0" "Ljava/util/TreeMap;") ∈ lw_all := lw_g (lw_at lw_m6 79 rfl) rfl
theorem q1338 : (Jvm.Cond.soleField "java/util/TreeMap$PrivateEntryIterator" "this$0") ∈ lw_all := lw_g (lw_at lw_m6 80 rfl) rfl
theorem q1339 : (Jvm.Cond.superclass "java/util/TreeMap$EntryIterator" "java/util/TreeMap$PrivateEntryIterator") ∈ lw_all := lw_g (lw_at lw_m6 81 rfl) rfl
theorem q1340 : (Jvm.Cond.castable "java/util/TreeMap$KeySet" "java/util/Set") ∈ lw_tbl := lw_at lw_m6 82 rfl
theorem q1341 : (Jvm.Cond.selects "java/util/TreeMap$KeySet" ({ cls := "java/util/Set", name := "iterator", desc := "()Ljava/util/Iterator;" } : Jvm.MethodName) ({ cls := "java/util/TreeMap$KeySet", name := "iterator", desc := "()Ljava/util/Iterator;" } : Jvm.MethodName)) ∈ lw_all := lw_g (lw_at lw_m6 83 rfl) rfl
theorem q1342 : (Jvm.Cond.unhidden "java/util/TreeMap$KeySet" "iterator" "()Ljava/util/Iterator;") ∈ lw_tbl := lw_at lw_m6 84 rfl
theorem q1343 : (Jvm.Cond.instanceMethod ({ cls := "java/util/TreeMap$KeySet", name := "iterator", desc := "()Ljava/util/Iterator;" } : Jvm.MethodName)) ∈ lw_all := lw_g (lw_at lw_m6 85 rfl) rfl
theorem q1344 : (Jvm.Cond.publicMethod ({ cls := "java/util/TreeMap$KeySet", name := "iterator", desc := "()Ljava/util/Iterator;" } : Jvm.MethodName)) ∈ lw_tbl := lw_at lw_m6 86 rfl
theorem q1345 : (Jvm.Cond.code ({ cls := "java/util/TreeMap$KeySet", name := "iterator", desc := "()Ljava/util/Iterator;" } : Jvm.MethodName) prog_72_method_2_code (1 : Nat) (Option.some (Jvm.ClassFile.FieldType.object "java/util/Iterator"))) ∈ lw_all := lw_g (lw_at lw_m6 87 rfl) rfl
theorem q1346 : (Jvm.Cond.classLink "java/util/TreeMap$KeySet" (13 : Nat) "java/util/TreeMap") ∈ lw_all := lw_g (lw_at lw_m6 88 rfl) rfl
theorem q1347 : (Jvm.Cond.methodLink "java/util/TreeMap$KeySet" (15 : Nat) ({ cls := "java/util/TreeMap", name := "keyIterator", desc := "()Ljava/util/Iterator;" } : Jvm.MethodName)) ∈ lw_all := lw_g (lw_at lw_m6 89 rfl) rfl
theorem q1348 : (Jvm.Cond.instanceMethod ({ cls := "java/util/TreeMap", name := "keyIterator", desc := "()Ljava/util/Iterator;" } : Jvm.MethodName)) ∈ lw_all := lw_g (lw_at lw_m6 90 rfl) rfl
theorem q1349 : (Jvm.Cond.selects "java/util/TreeMap" ({ cls := "java/util/TreeMap", name := "keyIterator", desc := "()Ljava/util/Iterator;" } : Jvm.MethodName) ({ cls := "java/util/TreeMap", name := "keyIterator", desc := "()Ljava/util/Iterator;" } : Jvm.MethodName)) ∈ lw_all := lw_g (lw_at lw_m6 91 rfl) rfl
theorem q1350 : (Jvm.Cond.code ({ cls := "java/util/TreeMap", name := "keyIterator", desc := "()Ljava/util/Iterator;" } : Jvm.MethodName) prog_67_method_65_code (1 : Nat) (Option.some (Jvm.ClassFile.FieldType.object "java/util/Iterator"))) ∈ lw_all := lw_g (lw_at lw_m6 92 rfl) rfl
theorem q1351 : (Jvm.Cond.classLink "java/util/TreeMap" (269 : Nat) "java/util/TreeMap$KeyIterator") ∈ lw_all := lw_g (lw_at lw_m6 93 rfl) rfl
theorem q1352 : (Jvm.Cond.instantiable "java/util/TreeMap$KeyIterator" (4 : Nat)) ∈ lw_all := lw_g (lw_at lw_m6 94 rfl) rfl
theorem q1353 : (Jvm.Cond.methodLink "java/util/TreeMap" (54 : Nat) ({ cls := "java/util/TreeMap", name := "getFirstEntry", desc := "()Ljava/util/TreeMap$Entry;" } : Jvm.MethodName)) ∈ lw_all := lw_g (lw_at lw_m6 95 rfl) rfl
theorem q1354 : (Jvm.Cond.methodLink "java/util/TreeMap" (271 : Nat) ({ cls := "java/util/TreeMap$KeyIterator", name := "<init>", desc := "(Ljava/util/TreeMap;Ljava/util/TreeMap$Entry;)V" } : Jvm.MethodName)) ∈ lw_all := lw_g (lw_at lw_m6 96 rfl) rfl
theorem q1355 : (Jvm.Cond.instanceMethod ({ cls := "java/util/TreeMap$KeyIterator", name := "<init>", desc := "(Ljava/util/TreeMap;Ljava/util/TreeMap$Entry;)V" } : Jvm.MethodName)) ∈ lw_all := lw_g (lw_at lw_m6 97 rfl) rfl
theorem q1356 : (Jvm.Cond.code ({ cls := "java/util/TreeMap$KeyIterator", name := "<init>", desc := "(Ljava/util/TreeMap;Ljava/util/TreeMap$Entry;)V" } : Jvm.MethodName) prog_71_method_1_code (3 : Nat) (Option.none : Option Jvm.ClassFile.FieldType)) ∈ lw_all := lw_g (lw_at lw_m6 98 rfl) rfl
theorem q1357 : (Jvm.Cond.methodLink "java/util/TreeMap$KeyIterator" (1 : Nat) ({ cls := "java/util/TreeMap$PrivateEntryIterator", name := "<init>", desc := "(Ljava/util/TreeMap;Ljava/util/TreeMap$Entry;)V" } : Jvm.MethodName)) ∈ lw_all := lw_g (lw_at lw_m6 99 rfl) rfl
theorem q1358 : (Jvm.Cond.lays "java/util/TreeMap$KeyIterator" "java/util/TreeMap$PrivateEntryIterator" "next" "Ljava/util/TreeMap$Entry;") ∈ lw_all := lw_g (lw_at lw_m6 100 rfl) rfl
theorem q1359 : (Jvm.Cond.lays "java/util/TreeMap$KeyIterator" "java/util/TreeMap$PrivateEntryIterator" "lastReturned" "Ljava/util/TreeMap$Entry;") ∈ lw_all := lw_g (lw_at lw_m6 101 rfl) rfl
theorem q1360 : (Jvm.Cond.lays "java/util/TreeMap$KeyIterator" "java/util/TreeMap$PrivateEntryIterator" "expectedModCount" "I") ∈ lw_all := lw_g (lw_at lw_m6 102 rfl) rfl
theorem q1361 : (Jvm.Cond.laysFinal "java/util/TreeMap$KeyIterator" "java/util/TreeMap$PrivateEntryIterator" "this$0" "Ljava/util/TreeMap;") ∈ lw_all := lw_g (lw_at lw_m6 103 rfl) rfl
theorem q1362 : (Jvm.Cond.superclass "java/util/TreeMap$KeyIterator" "java/util/TreeMap$PrivateEntryIterator") ∈ lw_all := lw_g (lw_at lw_m6 104 rfl) rfl
theorem q1363 : (Jvm.Cond.classLink "java/util/TreeMap$KeySet" (19 : Nat) "java/util/TreeMap$NavigableSubMap") ∈ lw_all := lw_g (lw_at lw_m6 105 rfl) rfl
theorem q1364 : (Jvm.Cond.methodLink "java/util/TreeMap$KeySet" (21 : Nat) ({ cls := "java/util/TreeMap$NavigableSubMap", name := "keyIterator", desc := "()Ljava/util/Iterator;" } : Jvm.MethodName)) ∈ lw_all := lw_g (lw_at lw_m6 106 rfl) rfl
theorem q1365 : (Jvm.Cond.declares ({ cls := "java/util/TreeMap$NavigableSubMap", name := "keyIterator", desc := "()Ljava/util/Iterator;" } : Jvm.MethodName)) ∈ lw_tbl := lw_at lw_m6 107 rfl
theorem q1366 : (Jvm.Cond.selects "java/util/TreeMap$NavigableSubMap" ({ cls := "java/util/TreeMap$NavigableSubMap", name := "keyIterator", desc := "()Ljava/util/Iterator;" } : Jvm.MethodName) ({ cls := "java/util/TreeMap$NavigableSubMap", name := "keyIterator", desc := "()Ljava/util/Iterator;" } : Jvm.MethodName)) ∈ lw_all := lw_g (lw_at lw_m6 108 rfl) rfl
theorem q1367 : (Jvm.Cond.castable "java/util/TreeSet" "java/util/Set") ∈ lw_tbl := lw_at lw_m6 109 rfl
theorem q1368 : (Jvm.Cond.selects "java/util/TreeSet" ({ cls := "java/util/Set", name := "iterator", desc := "()Ljava/util/Iterator;" } : Jvm.MethodName) ({ cls := "java/util/TreeSet", name := "iterator", desc := "()Ljava/util/Iterator;" } : Jvm.MethodName)) ∈ lw_all := lw_g (lw_at lw_m6 110 rfl) rfl
theorem q1369 : (Jvm.Cond.unhidden "java/util/TreeSet" "iterator" "()Ljava/util/Iterator;") ∈ lw_tbl := lw_at lw_m6 111 rfl
theorem q1370 : (Jvm.Cond.instanceMethod ({ cls := "java/util/TreeSet", name := "iterator", desc := "()Ljava/util/Iterator;" } : Jvm.MethodName)) ∈ lw_all := lw_g (lw_at lw_m6 112 rfl) rfl
theorem q1371 : (Jvm.Cond.publicMethod ({ cls := "java/util/TreeSet", name := "iterator", desc := "()Ljava/util/Iterator;" } : Jvm.MethodName)) ∈ lw_tbl := lw_at lw_m6 113 rfl
theorem q1372 : (Jvm.Cond.code ({ cls := "java/util/TreeSet", name := "iterator", desc := "()Ljava/util/Iterator;" } : Jvm.MethodName) prog_75_method_6_code (1 : Nat) (Option.some (Jvm.ClassFile.FieldType.object "java/util/Iterator"))) ∈ lw_all := lw_g (lw_at lw_m6 114 rfl) rfl
theorem q1373 : (Jvm.Cond.interfaceEntry "java/util/TreeSet" (34 : Nat)) ∈ lw_tbl := lw_at lw_m6 115 rfl
theorem q1374 : (Jvm.Cond.methodLink "java/util/TreeSet" (34 : Nat) ({ cls := "java/util/NavigableMap", name := "navigableKeySet", desc := "()Ljava/util/NavigableSet;" } : Jvm.MethodName)) ∈ lw_all := lw_g (lw_at lw_m6 116 rfl) rfl
theorem q1375 : (Jvm.Cond.interfaceMethod "java/util/NavigableMap" "java/util/NavigableMap" "navigableKeySet" "()Ljava/util/NavigableSet;") ∈ lw_tbl := lw_at lw_m6 117 rfl
theorem q1376 : (Jvm.Cond.declares ({ cls := "java/util/NavigableMap", name := "navigableKeySet", desc := "()Ljava/util/NavigableSet;" } : Jvm.MethodName)) ∈ lw_tbl := lw_at lw_m6 118 rfl
theorem q1377 : (Jvm.Cond.castable "java/util/TreeMap" "java/util/NavigableMap") ∈ lw_tbl := lw_at lw_m6 119 rfl
theorem q1378 : (Jvm.Cond.selects "java/util/TreeMap" ({ cls := "java/util/NavigableMap", name := "navigableKeySet", desc := "()Ljava/util/NavigableSet;" } : Jvm.MethodName) ({ cls := "java/util/TreeMap", name := "navigableKeySet", desc := "()Ljava/util/NavigableSet;" } : Jvm.MethodName)) ∈ lw_all := lw_g (lw_at lw_m6 120 rfl) rfl
theorem q1379 : (Jvm.Cond.unhidden "java/util/TreeMap" "navigableKeySet" "()Ljava/util/NavigableSet;") ∈ lw_tbl := lw_at lw_m6 121 rfl
theorem q1380 : (Jvm.Cond.instanceMethod ({ cls := "java/util/TreeMap", name := "navigableKeySet", desc := "()Ljava/util/NavigableSet;" } : Jvm.MethodName)) ∈ lw_all := lw_g (lw_at lw_m6 122 rfl) rfl
theorem q1381 : (Jvm.Cond.publicMethod ({ cls := "java/util/TreeMap", name := "navigableKeySet", desc := "()Ljava/util/NavigableSet;" } : Jvm.MethodName)) ∈ lw_tbl := lw_at lw_m6 123 rfl
theorem q1382 : (Jvm.Cond.code ({ cls := "java/util/TreeMap", name := "navigableKeySet", desc := "()Ljava/util/NavigableSet;" } : Jvm.MethodName) prog_67_method_50_code (2 : Nat) (Option.some (Jvm.ClassFile.FieldType.object "java/util/NavigableSet"))) ∈ lw_all := lw_g (lw_at lw_m6 124 rfl) rfl
theorem q1383 : (Jvm.Cond.classLink "java/util/TreeMap" (222 : Nat) "java/util/TreeMap$KeySet") ∈ lw_all := lw_g (lw_at lw_m6 125 rfl) rfl
theorem q1384 : (Jvm.Cond.instantiable "java/util/TreeMap$KeySet" (1 : Nat)) ∈ lw_all := lw_g (lw_at lw_m6 126 rfl) rfl
theorem q1385 : (Jvm.Cond.methodLink "java/util/TreeMap" (224 : Nat) ({ cls := "java/util/TreeMap$KeySet", name := "<init>", desc := "(Ljava/util/NavigableMap;)V" } : Jvm.MethodName)) ∈ lw_all := lw_g (lw_at lw_m6 127 rfl) rfl
theorem q1386 : (Jvm.Cond.instanceMethod ({ cls := "java/util/TreeMap$KeySet", name := "<init>", desc := "(Ljava/util/NavigableMap;)V" } : Jvm.MethodName)) ∈ lw_all := lw_g (lw_at lw_m6 128 rfl) rfl
theorem q1387 : (Jvm.Cond.code ({ cls := "java/util/TreeMap$KeySet", name := "<init>", desc := "(Ljava/util/NavigableMap;)V" } : Jvm.MethodName) prog_72_method_1_code (2 : Nat) (Option.none : Option Jvm.ClassFile.FieldType)) ∈ lw_all := lw_g (lw_at lw_m6 129 rfl) rfl
theorem q1388 : (Jvm.Cond.methodLink "java/util/TreeMap$KeySet" (1 : Nat) ({ cls := "java/util/AbstractSet", name := "<init>", desc := "()V" } : Jvm.MethodName)) ∈ lw_all := lw_g (lw_at lw_m6 130 rfl) rfl
theorem q1389 : (Jvm.Cond.fieldLink "java/util/TreeMap$KeySet" (7 : Nat) "java/util/TreeMap$KeySet" "m" "Ljava/util/NavigableMap;") ∈ lw_all := lw_g (lw_at lw_m6 131 rfl) rfl
theorem q1390 : (Jvm.Cond.laysFinal "java/util/TreeMap$KeySet" "java/util/TreeMap$KeySet" "m" "Ljava/util/NavigableMap;") ∈ lw_all := lw_g (lw_at lw_m6 132 rfl) rfl
theorem q1391 : (Jvm.Cond.soleField "java/util/TreeMap$KeySet" "m") ∈ lw_all := lw_g (lw_at lw_m6 133 rfl) rfl
theorem q1392 : (Jvm.Cond.superclass "java/util/TreeMap$KeySet" "java/util/AbstractSet") ∈ lw_all := lw_g (lw_at lw_m6 134 rfl) rfl
theorem q1393 : (Jvm.Cond.interfaceEntry "java/util/TreeSet" (40 : Nat)) ∈ lw_tbl := lw_at lw_m6 135 rfl
theorem q1394 : (Jvm.Cond.methodLink "java/util/TreeSet" (40 : Nat) ({ cls := "java/util/NavigableSet", name := "iterator", desc := "()Ljava/util/Iterator;" } : Jvm.MethodName)) ∈ lw_all := lw_g (lw_at lw_m6 136 rfl) rfl
theorem q1395 : (Jvm.Cond.interfaceMethod "java/util/NavigableSet" "java/util/NavigableSet" "iterator" "()Ljava/util/Iterator;") ∈ lw_tbl := lw_at lw_m6 137 rfl
theorem q1396 : (Jvm.Cond.declares ({ cls := "java/util/NavigableSet", name := "iterator", desc := "()Ljava/util/Iterator;" } : Jvm.MethodName)) ∈ lw_tbl := lw_at lw_m6 138 rfl
theorem q1397 : (Jvm.Cond.castable "java/util/TreeMap$KeySet" "java/util/NavigableSet") ∈ lw_tbl := lw_at lw_m6 139 rfl
theorem q1398 : (Jvm.Cond.selects "java/util/TreeMap$KeySet" ({ cls := "java/util/NavigableSet", name := "iterator", desc := "()Ljava/util/Iterator;" } : Jvm.MethodName) ({ cls := "java/util/TreeMap$KeySet", name := "iterator", desc := "()Ljava/util/Iterator;" } : Jvm.MethodName)) ∈ lw_all := lw_g (lw_at lw_m6 140 rfl) rfl
theorem q1399 : (Jvm.Cond.castable "java/util/TreeSet" "java/util/NavigableSet") ∈ lw_tbl := lw_at lw_m6 141 rfl
theorem q1400 : (Jvm.Cond.selects "java/util/TreeSet" ({ cls := "java/util/NavigableSet", name := "iterator", desc := "()Ljava/util/Iterator;" } : Jvm.MethodName) ({ cls := "java/util/TreeSet", name := "iterator", desc := "()Ljava/util/Iterator;" } : Jvm.MethodName)) ∈ lw_all := lw_g (lw_at lw_m6 142 rfl) rfl
theorem q1401 : (Jvm.Cond.methodLink "java/util/TreeMap" (42 : Nat) ({ cls := "java/util/TreeMap", name := "buildFromSorted", desc := "(ILjava/util/Iterator;Ljava/io/ObjectInputStream;Ljava/lang/Object;)V" } : Jvm.MethodName)) ∈ lw_all := lw_g (lw_at lw_m6 143 rfl) rfl
theorem q1402 : (Jvm.Cond.privateMethod ({ cls := "java/util/TreeMap", name := "buildFromSorted", desc := "(ILjava/util/Iterator;Ljava/io/ObjectInputStream;Ljava/lang/Object;)V" } : Jvm.MethodName)) ∈ lw_tbl := lw_at lw_m6 144 rfl
theorem q1403 : (Jvm.Cond.instanceMethod ({ cls := "java/util/TreeMap", name := "buildFromSorted", desc := "(ILjava/util/Iterator;Ljava/io/ObjectInputStream;Ljava/lang/Object;)V" } : Jvm.MethodName)) ∈ lw_all := lw_g (lw_at lw_m6 145 rfl) rfl
theorem q1404 : (Jvm.Cond.code ({ cls := "java/util/TreeMap", name := "buildFromSorted", desc := "(ILjava/util/Iterator;Ljava/io/ObjectInputStream;Ljava/lang/Object;)V" } : Jvm.MethodName) prog_67_method_90_code (5 : Nat) (Option.none : Option Jvm.ClassFile.FieldType)) ∈ lw_all := lw_g (lw_at lw_m6 146 rfl) rfl
theorem q1405 : (Jvm.Cond.methodLink "java/util/TreeMap" (362 : Nat) ({ cls := "java/util/TreeMap", name := "computeRedLevel", desc := "(I)I" } : Jvm.MethodName)) ∈ lw_all := lw_g (lw_at lw_m6 147 rfl) rfl
theorem q1406 : (Jvm.Cond.static ({ cls := "java/util/TreeMap", name := "computeRedLevel", desc := "(I)I" } : Jvm.MethodName)) ∈ lw_all := lw_g (lw_at lw_m6 148 rfl) rfl
theorem q1407 : (Jvm.Cond.code ({ cls := "java/util/TreeMap", name := "computeRedLevel", desc := "(I)I" } : Jvm.MethodName) prog_67_method_92_code (1 : Nat) (Option.some Jvm.ClassFile.FieldType.int)) ∈ lw_all := lw_g (lw_at lw_m6 149 rfl) rfl
theorem q1408 : (Jvm.Cond.methodLink "java/util/TreeMap" (372 : Nat) ({ cls := "java/lang/Integer", name := "numberOfLeadingZeros", desc := "(I)I" } : Jvm.MethodName)) ∈ lw_all := lw_g (lw_at lw_m6 150 rfl) rfl
theorem q1409 : (Jvm.Cond.methodLink "java/util/TreeMap" (366 : Nat) ({ cls := "java/util/TreeMap", name := "buildFromSorted", desc := "(IIIILjava/util/Iterator;Ljava/io/ObjectInputStream;Ljava/lang/Object;)Ljava/util/TreeMap$Entry;" } : Jvm.MethodName)) ∈ lw_all := lw_g (lw_at lw_m6 151 rfl) rfl
theorem q1410 : (Jvm.Cond.privateMethod ({ cls := "java/util/TreeMap", name := "buildFromSorted", desc := "(IIIILjava/util/Iterator;Ljava/io/ObjectInputStream;Ljava/lang/Object;)Ljava/util/TreeMap$Entry;" } : Jvm.MethodName)) ∈ lw_tbl := lw_at lw_m6 152 rfl
theorem q1411 : (Jvm.Cond.instanceMethod ({ cls := "java/util/TreeMap", name := "buildFromSorted", desc := "(IIIILjava/util/Iterator;Ljava/io/ObjectInputStream;Ljava/lang/Object;)Ljava/util/TreeMap$Entry;" } : Jvm.MethodName)) ∈ lw_all := lw_g (lw_at lw_m6 153 rfl) rfl
theorem q1412 : (Jvm.Cond.code ({ cls := "java/util/TreeMap", name := "buildFromSorted", desc := "(IIIILjava/util/Iterator;Ljava/io/ObjectInputStream;Ljava/lang/Object;)Ljava/util/TreeMap$Entry;" } : Jvm.MethodName) prog_67_method_91_code (14 : Nat) (Option.some (Jvm.ClassFile.FieldType.object "java/util/TreeMap$Entry"))) ∈ lw_all := lw_g (lw_at lw_m6 154 rfl) rfl
theorem q1413 : (Jvm.Cond.interfaceEntry "java/util/TreeMap" (335 : Nat)) ∈ lw_tbl := lw_at lw_m6 155 rfl
theorem q1414 : (Jvm.Cond.methodLink "java/util/TreeMap" (335 : Nat) ({ cls := "java/util/Iterator", name := "next", desc := "()Ljava/lang/Object;" } : Jvm.MethodName)) ∈ lw_all := lw_g (lw_at lw_m6 156 rfl) rfl
theorem q1415 : (Jvm.Cond.interfaceMethod "java/util/Iterator" "java/util/Iterator" "next" "()Ljava/lang/Object;") ∈ lw_tbl := lw_at lw_m6 157 rfl
theorem q1416 : (Jvm.Cond.declares ({ cls := "java/util/Iterator", name := "next", desc := "()Ljava/lang/Object;" } : Jvm.MethodName)) ∈ lw_tbl := lw_at lw_m6 158 rfl
theorem q1417 : (Jvm.Cond.castable "java/util/ArrayList$Itr" "java/util/Iterator") ∈ lw_tbl := lw_at lw_m6 159 rfl
theorem q1418 : (Jvm.Cond.selects "java/util/ArrayList$Itr" ({ cls := "java/util/Iterator", name := "next", desc := "()Ljava/lang/Object;" } : Jvm.MethodName) ({ cls := "java/util/ArrayList$Itr", name := "next", desc := "()Ljava/lang/Object;" } : Jvm.MethodName)) ∈ lw_all := lw_g (lw_at lw_m6 160 rfl) rfl
theorem q1419 : (Jvm.Cond.unhidden "java/util/ArrayList$Itr" "next" "()Ljava/lang/Object;") ∈ lw_tbl := lw_at lw_m6 161 rfl
theorem q1420 : (Jvm.Cond.instanceMethod ({ cls := "java/util/ArrayList$Itr", name := "next", desc := "()Ljava/lang/Object;" } : Jvm.MethodName)) ∈ lw_all := lw_g (lw_at lw_m6 162 rfl) rfl
theorem q1421 : (Jvm.Cond.publicMethod ({ cls := "java/util/ArrayList$Itr", name := "next", desc := "()Ljava/lang/Object;" } : Jvm.MethodName)) ∈ lw_tbl := lw_at lw_m6 163 rfl
theorem q1422 : (Jvm.Cond.code ({ cls := "java/util/ArrayList$Itr", name := "next", desc := "()Ljava/lang/Object;" } : Jvm.MethodName) prog_46_method_3_code (3 : Nat) (Option.some (Jvm.ClassFile.FieldType.object "java/lang/Object"))) ∈ lw_all := lw_g (lw_at lw_m6 164 rfl) rfl
theorem q1423 : (Jvm.Cond.methodLink "java/util/ArrayList$Itr" (31 : Nat) ({ cls := "java/util/ArrayList$Itr", name := "checkForComodification", desc := "()V" } : Jvm.MethodName)) ∈ lw_all := lw_g (lw_at lw_m6 165 rfl) rfl
theorem q1424 : (Jvm.Cond.instanceMethod ({ cls := "java/util/ArrayList$Itr", name := "checkForComodification", desc := "()V" } : Jvm.MethodName)) ∈ lw_all := lw_g (lw_at lw_m6 166 rfl) rfl
theorem q1425 : (Jvm.Cond.selects "java/util/ArrayList$Itr" ({ cls := "java/util/ArrayList$Itr", name := "checkForComodification", desc := "()V" } : Jvm.MethodName) ({ cls := "java/util/ArrayList$Itr", name := "checkForComodification", desc := "()V" } : Jvm.MethodName)) ∈ lw_all := lw_g (lw_at lw_m6 167 rfl) rfl
theorem q1426 : (Jvm.Cond.code ({ cls := "java/util/ArrayList$Itr", name := "checkForComodification", desc := "()V" } : Jvm.MethodName) prog_46_method_6_code (1 : Nat) (Option.none : Option Jvm.ClassFile.FieldType)) ∈ lw_all := lw_g (lw_at lw_m6 168 rfl) rfl
theorem q1427 : (Jvm.Cond.castable "java/util/PriorityQueue$Itr" "java/util/Iterator") ∈ lw_tbl := lw_at lw_m6 169 rfl
theorem q1428 : (Jvm.Cond.selects "java/util/PriorityQueue$Itr" ({ cls := "java/util/Iterator", name := "next", desc := "()Ljava/lang/Object;" } : Jvm.MethodName) ({ cls := "java/util/PriorityQueue$Itr", name := "next", desc := "()Ljava/lang/Object;" } : Jvm.MethodName)) ∈ lw_all := lw_g (lw_at lw_m6 170 rfl) rfl
theorem q1429 : (Jvm.Cond.unhidden "java/util/PriorityQueue$Itr" "next" "()Ljava/lang/Object;") ∈ lw_tbl := lw_at lw_m6 171 rfl
theorem q1430 : (Jvm.Cond.instanceMethod ({ cls := "java/util/PriorityQueue$Itr", name := "next", desc := "()Ljava/lang/Object;" } : Jvm.MethodName)) ∈ lw_all := lw_g (lw_at lw_m6 172 rfl) rfl
theorem q1431 : (Jvm.Cond.publicMethod ({ cls := "java/util/PriorityQueue$Itr", name := "next", desc := "()Ljava/lang/Object;" } : Jvm.MethodName)) ∈ lw_tbl := lw_at lw_m6 173 rfl
theorem q1432 : (Jvm.Cond.code ({ cls := "java/util/PriorityQueue$Itr", name := "next", desc := "()Ljava/lang/Object;" } : Jvm.MethodName) prog_58_method_3_code (1 : Nat) (Option.some (Jvm.ClassFile.FieldType.object "java/lang/Object"))) ∈ lw_all := lw_g (lw_at lw_m6 174 rfl) rfl
theorem q1433 : (Jvm.Cond.methodLink "java/util/PriorityQueue$Itr" (48 : Nat) ({ cls := "java/util/ArrayDeque", name := "poll", desc := "()Ljava/lang/Object;" } : Jvm.MethodName)) ∈ lw_all := lw_g (lw_at lw_m6 175 rfl) rfl
theorem q1434 : (Jvm.Cond.instanceMethod ({ cls := "java/util/ArrayDeque", name := "poll", desc := "()Ljava/lang/Object;" } : Jvm.MethodName)) ∈ lw_all := lw_g (lw_at lw_m6 176 rfl) rfl
theorem q1435 : (Jvm.Cond.selects "java/util/ArrayDeque" ({ cls := "java/util/ArrayDeque", name := "poll", desc := "()Ljava/lang/Object;" } : Jvm.MethodName) ({ cls := "java/util/ArrayDeque", name := "poll", desc := "()Ljava/lang/Object;" } : Jvm.MethodName)) ∈ lw_all := lw_g (lw_at lw_m6 177 rfl) rfl
theorem q1436 : (Jvm.Cond.code ({ cls := "java/util/ArrayDeque", name := "poll", desc := "()Ljava/lang/Object;" } : Jvm.MethodName) prog_44_method_31_code (1 : Nat) (Option.some (Jvm.ClassFile.FieldType.object "java/lang/Object"))) ∈ lw_all := lw_g (lw_at lw_m6 178 rfl) rfl
theorem q1437 : (Jvm.Cond.methodLink "java/util/ArrayDeque" (93 : Nat) ({ cls := "java/util/ArrayDeque", name := "pollFirst", desc := "()Ljava/lang/Object;" } : Jvm.MethodName)) ∈ lw_all := lw_g (lw_at lw_m6 179 rfl) rfl
theorem q1438 : (Jvm.Cond.instanceMethod ({ cls := "java/util/ArrayDeque", name := "pollFirst", desc := "()Ljava/lang/Object;" } : Jvm.MethodName)) ∈ lw_all := lw_g (lw_at lw_m6 180 rfl) rfl
theorem q1439 : (Jvm.Cond.selects "java/util/ArrayDeque" ({ cls := "java/util/ArrayDeque", name := "pollFirst", desc := "()Ljava/lang/Object;" } : Jvm.MethodName) ({ cls := "java/util/ArrayDeque", name := "pollFirst", desc := "()Ljava/lang/Object;" } : Jvm.MethodName)) ∈ lw_all := lw_g (lw_at lw_m6 181 rfl) rfl
theorem q1440 : (Jvm.Cond.code ({ cls := "java/util/ArrayDeque", name := "pollFirst", desc := "()Ljava/lang/Object;" } : Jvm.MethodName) prog_44_method_20_code (4 : Nat) (Option.some (Jvm.ClassFile.FieldType.object "java/lang/Object"))) ∈ lw_all := lw_g (lw_at lw_m6 182 rfl) rfl
theorem q1441 : (Jvm.Cond.methodLink "java/util/ArrayDeque" (103 : Nat) ({ cls := "java/util/ArrayDeque", name := "elementAt", desc := "([Ljava/lang/Object;I)Ljava/lang/Object;" } : Jvm.MethodName)) ∈ lw_all := lw_g (lw_at lw_m6 183 rfl) rfl
theorem q1442 : (Jvm.Cond.static ({ cls := "java/util/ArrayDeque", name := "elementAt", desc := "([Ljava/lang/Object;I)Ljava/lang/Object;" } : Jvm.MethodName)) ∈ lw_all := lw_g (lw_at lw_m6 184 rfl) rfl
theorem q1443 : (Jvm.Cond.code ({ cls := "java/util/ArrayDeque", name := "elementAt", desc := "([Ljava/lang/Object;I)Ljava/lang/Object;" } : Jvm.MethodName) prog_44_method_10_code (2 : Nat) (Option.some (Jvm.ClassFile.FieldType.object "java/lang/Object"))) ∈ lw_all := lw_g (lw_at lw_m6 185 rfl) rfl
theorem q1444 : (Jvm.Cond.methodLink "java/util/ArrayDeque" (74 : Nat) ({ cls := "java/util/ArrayDeque", name := "inc", desc := "(II)I" } : Jvm.MethodName)) ∈ lw_all := lw_g (lw_at lw_m6 186 rfl) rfl
theorem q1445 : (Jvm.Cond.static ({ cls := "java/util/ArrayDeque", name := "inc", desc := "(II)I" } : Jvm.MethodName)) ∈ lw_all := lw_g (lw_at lw_m6 187 rfl) rfl
theorem q1446 : (Jvm.Cond.code ({ cls := "java/util/ArrayDeque", name := "inc", desc := "(II)I" } : Jvm.MethodName) prog_44_method_6_code (2 : Nat) (Option.some Jvm.ClassFile.FieldType.int)) ∈ lw_all := lw_g (lw_at lw_m6 188 rfl) rfl
theorem q1447 : (Jvm.Cond.castable "java/util/TreeMap$EntryIterator" "java/util/Iterator") ∈ lw_tbl := lw_at lw_m6 189 rfl
theorem q1448 : (Jvm.Cond.selects "java/util/TreeMap$EntryIterator" ({ cls := "java/util/Iterator", name := "next", desc := "()Ljava/lang/Object;" } : Jvm.MethodName) ({ cls := "java/util/TreeMap$EntryIterator", name := "next", desc := "()Ljava/lang/Object;" } : Jvm.MethodName)) ∈ lw_all := lw_g (lw_at lw_m6 190 rfl) rfl
theorem q1449 : (Jvm.Cond.unhidden "java/util/TreeMap$EntryIterator" "next" "()Ljava/lang/Object;") ∈ lw_tbl := lw_at lw_m6 191 rfl
theorem q1450 : (Jvm.Cond.instanceMethod ({ cls := "java/util/TreeMap$EntryIterator", name := "next", desc := "()Ljava/lang/Object;" } : Jvm.MethodName)) ∈ lw_all := lw_g (lw_at lw_m6 192 rfl) rfl
theorem q1451 : (Jvm.Cond.publicMethod ({ cls := "java/util/TreeMap$EntryIterator", name := "next", desc := "()Ljava/lang/Object;" } : Jvm.MethodName)) ∈ lw_tbl := lw_at lw_m6 193 rfl
theorem q1452 : (Jvm.Cond.code ({ cls := "java/util/TreeMap$EntryIterator", name := "next", desc := "()Ljava/lang/Object;" } : Jvm.MethodName) prog_69_method_3_code (1 : Nat) (Option.some (Jvm.ClassFile.FieldType.object "java/lang/Object"))) ∈ lw_all := lw_g (lw_at lw_m6 194 rfl) rfl
theorem q1453 : (Jvm.Cond.methodLink "java/util/TreeMap$EntryIterator" (13 : Nat) ({ cls := "java/util/TreeMap$EntryIterator", name := "next", desc := "()Ljava/util/Map$Entry;" } : Jvm.MethodName)) ∈ lw_all := lw_g (lw_at lw_m6 195 rfl) rfl
theorem q1454 : (Jvm.Cond.instanceMethod ({ cls := "java/util/TreeMap$EntryIterator", name := "next", desc := "()Ljava/util/Map$Entry;" } : Jvm.MethodName)) ∈ lw_all := lw_g (lw_at lw_m6 196 rfl) rfl
theorem q1455 : (Jvm.Cond.selects "java/util/TreeMap$EntryIterator" ({ cls := "java/util/TreeMap$EntryIterator", name := "next", desc := "()Ljava/util/Map$Entry;" } : Jvm.MethodName) ({ cls := "java/util/TreeMap$EntryIterator", name := "next", desc := "()Ljava/util/Map$Entry;" } : Jvm.MethodName)) ∈ lw_all := lw_g (lw_at lw_m6 197 rfl) rfl
theorem q1456 : (Jvm.Cond.code ({ cls := "java/util/TreeMap$EntryIterator", name := "next", desc := "()Ljava/util/Map$Entry;" } : Jvm.MethodName) prog_69_method_2_code (1 : Nat) (Option.some (Jvm.ClassFile.FieldType.object "java/util/Map$Entry"))) ∈ lw_all := lw_g (lw_at lw_m6 198 rfl) rfl
theorem q1457 : (Jvm.Cond.methodLink "java/util/TreeMap$EntryIterator" (7 : Nat) ({ cls := "java/util/TreeMap$EntryIterator", name := "nextEntry", desc := "()Ljava/util/TreeMap$Entry;" } : Jvm.MethodName)) ∈ lw_all := lw_g (lw_at lw_m6 199 rfl) rfl
theorem q1458 : (Jvm.Cond.sameMethod "java/util/TreeMap$EntryIterator" "java/util/TreeMap$PrivateEntryIterator" "nextEntry" "()Ljava/util/TreeMap$Entry;") ∈ lw_all := lw_g (lw_at lw_m6 200 rfl) rfl
theorem q1459 : (Jvm.Cond.declares ({ cls := "java/util/TreeMap$PrivateEntryIterator", name := "nextEntry", desc := "()Ljava/util/TreeMap$Entry;" } : Jvm.MethodName)) ∈ lw_tbl := lw_at lw_m6 201 rfl
theorem q1460 : (Jvm.Cond.selects "java/util/TreeMap$EntryIterator" ({ cls := "java/util/TreeMap$EntryIterator", name := "nextEntry", desc := "()Ljava/util/TreeMap$Entry;" } : Jvm.MethodName) ({ cls := "java/util/TreeMap$PrivateEntryIterator", name := "nextEntry", desc := "()Ljava/util/TreeMap$Entry;" } : Jvm.MethodName)) ∈ lw_all := lw_g (lw_at lw_m6 202 rfl) rfl
theorem q1461 : (Jvm.Cond.instanceMethod ({ cls := "java/util/TreeMap$PrivateEntryIterator", name := "nextEntry", desc := "()Ljava/util/TreeMap$Entry;" } : Jvm.MethodName)) ∈ lw_all := lw_g (lw_at lw_m6 203 rfl) rfl
theorem q1462 : (Jvm.Cond.code ({ cls := "java/util/TreeMap$PrivateEntryIterator", name := "nextEntry", desc := "()Ljava/util/TreeMap$Entry;" } : Jvm.MethodName) prog_74_method_3_code (2 : Nat) (Option.some (Jvm.ClassFile.FieldType.object "java/util/TreeMap$Entry"))) ∈ lw_all := lw_g (lw_at lw_m6 204 rfl) rfl
theorem q1463 : (Jvm.Cond.methodLink "java/util/TreeMap$PrivateEntryIterator" (35 : Nat) ({ cls := "java/util/TreeMap", name := "successor", desc := "(Ljava/util/TreeMap$Entry;)Ljava/util/TreeMap$Entry;" } : Jvm.MethodName)) ∈ lw_all := lw_g (lw_at lw_m6 205 rfl) rfl
theorem q1464 : (Jvm.Cond.static ({ cls := "java/util/TreeMap", name := "successor", desc := "(Ljava/util/TreeMap$Entry;)Ljava/util/TreeMap$Entry;" } : Jvm.MethodName)) ∈ lw_all := lw_g (lw_at lw_m6 206 rfl) rfl
theorem q1465 : (Jvm.Cond.code ({ cls := "java/util/TreeMap", name := "successor", desc := "(Ljava/util/TreeMap$Entry;)Ljava/util/TreeMap$Entry;" } : Jvm.MethodName) prog_67_method_74_code (3 : Nat) (Option.some (Jvm.ClassFile.FieldType.object "java/util/TreeMap$Entry"))) ∈ lw_all := lw_g (lw_at lw_m6 207 rfl) rfl
theorem q1466 : (Jvm.Cond.castable "java/util/TreeMap$KeyIterator" "java/util/Iterator") ∈ lw_tbl := lw_at lw_m6 208 rfl
theorem q1467 : (Jvm.Cond.selects "java/util/TreeMap$KeyIterator" ({ cls := "java/util/Iterator", name := "next", desc := "()Ljava/lang/Object;" } : Jvm.MethodName) ({ cls := "java/util/TreeMap$KeyIterator", name := "next", desc := "()Ljava/lang/Object;" } : Jvm.MethodName)) ∈ lw_all := lw_g (lw_at lw_m6 209 rfl) rfl
theorem q1468 : (Jvm.Cond.unhidden "java/util/TreeMap$KeyIterator" "next" "()Ljava/lang/Object;") ∈ lw_tbl := lw_at lw_m6 210 rfl
theorem q1469 : (Jvm.Cond.instanceMethod ({ cls := "java/util/TreeMap$KeyIterator", name := "next", desc := "()Ljava/lang/Object;" } : Jvm.MethodName)) ∈ lw_all := lw_g (lw_at lw_m6 211 rfl) rfl
theorem q1470 : (Jvm.Cond.publicMethod ({ cls := "java/util/TreeMap$KeyIterator", name := "next", desc := "()Ljava/lang/Object;" } : Jvm.MethodName)) ∈ lw_tbl := lw_at lw_m6 212 rfl
theorem q1471 : (Jvm.Cond.code ({ cls := "java/util/TreeMap$KeyIterator", name := "next", desc := "()Ljava/lang/Object;" } : Jvm.MethodName) prog_71_method_2_code (1 : Nat) (Option.some (Jvm.ClassFile.FieldType.object "java/lang/Object"))) ∈ lw_all := lw_g (lw_at lw_m6 213 rfl) rfl
theorem q1472 : (Jvm.Cond.methodLink "java/util/TreeMap$KeyIterator" (7 : Nat) ({ cls := "java/util/TreeMap$KeyIterator", name := "nextEntry", desc := "()Ljava/util/TreeMap$Entry;" } : Jvm.MethodName)) ∈ lw_all := lw_g (lw_at lw_m6 214 rfl) rfl
theorem q1473 : (Jvm.Cond.sameMethod "java/util/TreeMap$KeyIterator" "java/util/TreeMap$PrivateEntryIterator" "nextEntry" "()Ljava/util/TreeMap$Entry;") ∈ lw_all := lw_g (lw_at lw_m6 215 rfl) rfl
theorem q1474 : (Jvm.Cond.selects "java/util/TreeMap$KeyIterator" ({ cls := "java/util/TreeMap$KeyIterator", name := "nextEntry", desc := "()Ljava/util/TreeMap$Entry;" } : Jvm.MethodName) ({ cls := "java/util/TreeMap$PrivateEntryIterator", name := "nextEntry", desc := "()Ljava/util/TreeMap$Entry;" } : Jvm.MethodName)) ∈ lw_all := lw_g (lw_at lw_m6 216 rfl) rfl
theorem q1475 : (Jvm.Cond.classLink "java/util/TreeMap" (338 : Nat) "java/util/Map$Entry") ∈ lw_all := lw_g (lw_at lw_m6 217 rfl) rfl
theorem q1476 : (Jvm.Cond.interfaceEntry "java/util/TreeMap" (340 : Nat)) ∈ lw_tbl := lw_at lw_m6 218 rfl
theorem q1477 : (Jvm.Cond.methodLink "java/util/TreeMap" (340 : Nat) ({ cls := "java/util/Map$Entry", name := "getKey", desc := "()Ljava/lang/Object;" } : Jvm.MethodName)) ∈ lw_all := lw_g (lw_at lw_m6 219 rfl) rfl
theorem q1478 : (Jvm.Cond.interfaceMethod "java/util/Map$Entry" "java/util/Map$Entry" "getKey" "()Ljava/lang/Object;") ∈ lw_tbl := lw_at lw_m6 220 rfl
theorem q1479 : (Jvm.Cond.declares ({ cls := "java/util/Map$Entry", name := "getKey", desc := "()Ljava/lang/Object;" } : Jvm.MethodName)) ∈ lw_tbl := lw_at lw_m6 221 rfl
theorem q1480 : (Jvm.Cond.castable "java/util/TreeMap$Entry" "java/util/Map$Entry") ∈ lw_tbl := lw_at lw_m6 222 rfl
theorem q1481 : (Jvm.Cond.selects "java/util/TreeMap$Entry" ({ cls := "java/util/Map$Entry", name := "getKey", desc := "()Ljava/lang/Object;" } : Jvm.MethodName) ({ cls := "java/util/TreeMap$Entry", name := "getKey", desc := "()Ljava/lang/Object;" } : Jvm.MethodName)) ∈ lw_all := lw_g (lw_at lw_m6 223 rfl) rfl
theorem q1482 : (Jvm.Cond.unhidden "java/util/TreeMap$Entry" "getKey" "()Ljava/lang/Object;") ∈ lw_tbl := lw_at lw_m6 224 rfl
theorem q1483 : (Jvm.Cond.instanceMethod ({ cls := "java/util/TreeMap$Entry", name := "getKey", desc := "()Ljava/lang/Object;" } : Jvm.MethodName)) ∈ lw_all := lw_g (lw_at lw_m6 225 rfl) rfl
theorem q1484 : (Jvm.Cond.publicMethod ({ cls := "java/util/TreeMap$Entry", name := "getKey", desc := "()Ljava/lang/Object;" } : Jvm.MethodName)) ∈ lw_tbl := lw_at lw_m6 226 rfl
theorem q1485 : (Jvm.Cond.code ({ cls := "java/util/TreeMap$Entry", name := "getKey", desc := "()Ljava/lang/Object;" } : Jvm.MethodName) prog_68_method_2_code (1 : Nat) (Option.some (Jvm.ClassFile.FieldType.object "java/lang/Object"))) ∈ lw_all := lw_g (lw_at lw_m6 227 rfl) rfl
theorem q1486 : (Jvm.Cond.interfaceEntry "java/util/TreeMap" (347 : Nat)) ∈ lw_tbl := lw_at lw_m6 228 rfl
theorem q1487 : (Jvm.Cond.methodLink "java/util/TreeMap" (347 : Nat) ({ cls := "java/util/Map$Entry", name := "getValue", desc := "()Ljava/lang/Object;" } : Jvm.MethodName)) ∈ lw_all := lw_g (lw_at lw_m6 229 rfl) rfl
theorem q1488 : (Jvm.Cond.interfaceMethod "java/util/Map$Entry" "java/util/Map$Entry" "getValue" "()Ljava/lang/Object;") ∈ lw_tbl := lw_at lw_m6 230 rfl
theorem q1489 : (Jvm.Cond.declares ({ cls := "java/util/Map$Entry", name := "getValue", desc := "()Ljava/lang/Object;" } : Jvm.MethodName)) ∈ lw_tbl := lw_at lw_m6 231 rfl
theorem q1490 : (Jvm.Cond.selects "java/util/TreeMap$Entry" ({ cls := "java/util/Map$Entry", name := "getValue", desc := "()Ljava/lang/Object;" } : Jvm.MethodName) ({ cls := "java/util/TreeMap$Entry", name := "getValue", desc := "()Ljava/lang/Object;" } : Jvm.MethodName)) ∈ lw_all := lw_g (lw_at lw_m6 232 rfl) rfl
theorem q1491 : (Jvm.Cond.unhidden "java/util/TreeMap$Entry" "getValue" "()Ljava/lang/Object;") ∈ lw_tbl := lw_at lw_m6 233 rfl
theorem q1492 : (Jvm.Cond.instanceMethod ({ cls := "java/util/TreeMap$Entry", name := "getValue", desc := "()Ljava/lang/Object;" } : Jvm.MethodName)) ∈ lw_all := lw_g (lw_at lw_m6 234 rfl) rfl
theorem q1493 : (Jvm.Cond.publicMethod ({ cls := "java/util/TreeMap$Entry", name := "getValue", desc := "()Ljava/lang/Object;" } : Jvm.MethodName)) ∈ lw_tbl := lw_at lw_m6 235 rfl
theorem q1494 : (Jvm.Cond.code ({ cls := "java/util/TreeMap$Entry", name := "getValue", desc := "()Ljava/lang/Object;" } : Jvm.MethodName) prog_68_method_3_code (1 : Nat) (Option.some (Jvm.ClassFile.FieldType.object "java/lang/Object"))) ∈ lw_all := lw_g (lw_at lw_m6 236 rfl) rfl
theorem q1495 : (Jvm.Cond.classLink "java/util/TreeMap" (59 : Nat) "java/util/TreeMap$Entry") ∈ lw_all := lw_g (lw_at lw_m6 237 rfl) rfl
theorem q1496 : (Jvm.Cond.instantiable "java/util/TreeMap$Entry" (6 : Nat)) ∈ lw_all := lw_g (lw_at lw_m6 238 rfl) rfl
theorem q1497 : (Jvm.Cond.methodLink "java/util/TreeMap" (167 : Nat) ({ cls := "java/util/TreeMap$Entry", name := "<init>", desc := "(Ljava/lang/Object;Ljava/lang/Object;Ljava/util/TreeMap$Entry;)V" } : Jvm.MethodName)) ∈ lw_all := lw_g (lw_at lw_m6 239 rfl) rfl
theorem q1498 : (Jvm.Cond.instanceMethod ({ cls := "java/util/TreeMap$Entry", name := "<init>", desc := "(Ljava/lang/Object;Ljava/lang/Object;Ljava/util/TreeMap$Entry;)V" } : Jvm.MethodName)) ∈ lw_all := lw_g (lw_at lw_m7 0 rfl) rfl
theorem q1499 : (Jvm.Cond.code ({ cls := "java/util/TreeMap$Entry", name := "<init>", desc := "(Ljava/lang/Object;Ljava/lang/Object;Ljava/util/TreeMap$Entry;)V" } : Jvm.MethodName) prog_68_method_1_code (4 : Nat) (Option.none : Option Jvm.ClassFile.FieldType)) ∈ lw_all := lw_g (lw_at lw_m7 1 rfl) rfl
theorem q1500 : (Jvm.Cond.methodLink "java/util/TreeMap$Entry" (3 : Nat) ({ cls := "java/lang/Object", name := "<init>", desc := "()V" } : Jvm.MethodName)) ∈ lw_all := lw_g (lw_at lw_m7 2 rfl) rfl
theorem q1501 : (Jvm.Cond.fieldLink "java/util/TreeMap$Entry" (15 : Nat) "java/util/TreeMap$Entry" "key" "Ljava/lang/Object;") ∈ lw_all := lw_g (lw_at lw_m7 3 rfl) rfl
theorem q1502 : (Jvm.Cond.fieldLink "java/util/TreeMap$KeyIterator" (13 : Nat) "java/util/TreeMap$Entry" "key" "Ljava/lang/Object;") ∈ lw_all := lw_g (lw_at lw_m7 4 rfl) rfl
theorem q1503 : (Jvm.Cond.fieldLink "java/util/TreeMap" (105 : Nat) "java/util/TreeMap$Entry" "key" "Ljava/lang/Object;") ∈ lw_all := lw_g (lw_at lw_m7 5 rfl) rfl
theorem q1504 : (Jvm.Cond.fieldLink "java/util/TreeMap$Entry" (19 : Nat) "java/util/TreeMap$Entry" "value" "Ljava/lang/Object;") ∈ lw_all := lw_g (lw_at lw_m7 6 rfl) rfl
theorem q1505 : (Jvm.Cond.fieldLink "java/util/TreeMap" (58 : Nat) "java/util/TreeMap$Entry" "value" "Ljava/lang/Object;") ∈ lw_all := lw_g (lw_at lw_m7 7 rfl) rfl
theorem q1506 : (Jvm.Cond.fieldLink "java/util/TreeMap" (111 : Nat) "java/util/TreeMap$Entry" "left" "Ljava/util/TreeMap$Entry;") ∈ lw_all := lw_g (lw_at lw_m7 8 rfl) rfl
theorem q1507 : (Jvm.Cond.fieldLink "java/util/TreeMap" (114 : Nat) "java/util/TreeMap$Entry" "right" "Ljava/util/TreeMap$Entry;") ∈ lw_all := lw_g (lw_at lw_m7 9 rfl) rfl
theorem q1508 : (Jvm.Cond.fieldLink "java/util/TreeMap$Entry" (22 : Nat) "java/util/TreeMap$Entry" "parent" "Ljava/util/TreeMap$Entry;") ∈ lw_all := lw_g (lw_at lw_m7 10 rfl) rfl
theorem q1509 : (Jvm.Cond.fieldLink "java/util/TreeMap" (124 : Nat) "java/util/TreeMap$Entry" "parent" "Ljava/util/TreeMap$Entry;") ∈ lw_all := lw_g (lw_at lw_m7 11 rfl) rfl
theorem q1510 : (Jvm.Cond.fieldLink "java/util/TreeMap$Entry" (9 : Nat) "java/util/TreeMap$Entry" "color" "Z") ∈ lw_all := lw_g (lw_at lw_m7 12 rfl) rfl
theorem q1511 : (Jvm.Cond.fieldLink "java/util/TreeMap" (290 : Nat) "java/util/TreeMap$Entry" "color" "Z") ∈ lw_all := lw_g (lw_at lw_m7 13 rfl) rfl
theorem q1512 : (Jvm.Cond.lays "java/util/TreeMap$Entry" "java/util/TreeMap$Entry" "key" "Ljava/lang/Object;") ∈ lw_all := lw_g (lw_at lw_m7 14 rfl) rfl
theorem q1513 : (Jvm.Cond.soleField "java/util/TreeMap$Entry" "key") ∈ lw_all := lw_g (lw_at lw_m7 15 rfl) rfl
theorem q1514 : (Jvm.Cond.lays "java/util/TreeMap$Entry" "java/util/TreeMap$Entry" "value" "Ljava/lang/Object;") ∈ lw_all := lw_g (lw_at lw_m7 16 rfl) rfl
theorem q1515 : (Jvm.Cond.soleField "java/util/TreeMap$Entry" "value") ∈ lw_all := lw_g (lw_at lw_m7 17 rfl) rfl
theorem q1516 : (Jvm.Cond.lays "java/util/TreeMap$Entry" "java/util/TreeMap$Entry" "left" "Ljava/util/TreeMap$Entry;") ∈ lw_all := lw_g (lw_at lw_m7 18 rfl) rfl
theorem q1517 : (Jvm.Cond.soleField "java/util/TreeMap$Entry" "left") ∈ lw_all := lw_g (lw_at lw_m7 19 rfl) rfl
theorem q1518 : (Jvm.Cond.lays "java/util/TreeMap$Entry" "java/util/TreeMap$Entry" "right" "Ljava/util/TreeMap$Entry;") ∈ lw_all := lw_g (lw_at lw_m7 20 rfl) rfl
theorem q1519 : (Jvm.Cond.soleField "java/util/TreeMap$Entry" "right") ∈ lw_all := lw_g (lw_at lw_m7 21 rfl) rfl
theorem q1520 : (Jvm.Cond.lays "java/util/TreeMap$Entry" "java/util/TreeMap$Entry" "parent" "Ljava/util/TreeMap$Entry;") ∈ lw_all := lw_g (lw_at lw_m7 22 rfl) rfl
theorem q1521 : (Jvm.Cond.soleField "java/util/TreeMap$Entry" "parent") ∈ lw_all := lw_g (lw_at lw_m7 23 rfl) rfl
theorem q1522 : (Jvm.Cond.lays "java/util/TreeMap$Entry" "java/util/TreeMap$Entry" "color" "Z") ∈ lw_all := lw_g (lw_at lw_m7 24 rfl) rfl
theorem q1523 : (Jvm.Cond.soleField "java/util/TreeMap$Entry" "color") ∈ lw_all := lw_g (lw_at lw_m7 25 rfl) rfl
theorem q1524 : (Jvm.Cond.superclass "java/util/TreeMap$Entry" "java/lang/Object") ∈ lw_all := lw_g (lw_at lw_m7 26 rfl) rfl
theorem q1525 : (Jvm.Cond.methodLink "java/util/TreeMap" (91 : Nat) ({ cls := "java/util/AbstractMap", name := "putAll", desc := "(Ljava/util/Map;)V" } : Jvm.MethodName)) ∈ lw_all := lw_g (lw_at lw_m7 27 rfl) rfl
theorem q1526 : (Jvm.Cond.instanceMethod ({ cls := "java/util/AbstractMap", name := "putAll", desc := "(Ljava/util/Map;)V" } : Jvm.MethodName)) ∈ lw_all := lw_g (lw_at lw_m7 28 rfl) rfl
theorem q1527 : (Jvm.Cond.code ({ cls := "java/util/AbstractMap", name := "putAll", desc := "(Ljava/util/Map;)V" } : Jvm.MethodName) prog_41_method_9_code (4 : Nat) (Option.none : Option Jvm.ClassFile.FieldType)) ∈ lw_all := lw_g (lw_at lw_m7 29 rfl) rfl
theorem q1528 : (Jvm.Cond.interfaceEntry "java/util/AbstractMap" (52 : Nat)) ∈ lw_tbl := lw_at lw_m7 30 rfl
theorem q1529 : (Jvm.Cond.methodLink "java/util/AbstractMap" (52 : Nat) ({ cls := "java/util/Map", name := "entrySet", desc := "()Ljava/util/Set;" } : Jvm.MethodName)) ∈ lw_all := lw_g (lw_at lw_m7 31 rfl) rfl
theorem q1530 : (Jvm.Cond.interfaceEntry "java/util/AbstractMap" (20 : Nat)) ∈ lw_tbl := lw_at lw_m7 32 rfl
theorem q1531 : (Jvm.Cond.methodLink "java/util/AbstractMap" (20 : Nat) ({ cls := "java/util/Set", name := "iterator", desc := "()Ljava/util/Iterator;" } : Jvm.MethodName)) ∈ lw_all := lw_g (lw_at lw_m7 33 rfl) rfl
theorem q1532 : (Jvm.Cond.interfaceEntry "java/util/AbstractMap" (24 : Nat)) ∈ lw_tbl := lw_at lw_m7 34 rfl
theorem q1533 : (Jvm.Cond.methodLink "java/util/AbstractMap" (24 : Nat) ({ cls := "java/util/Iterator", name := "hasNext", desc := "()Z" } : Jvm.MethodName)) ∈ lw_all := lw_g (lw_at lw_m7 35 rfl) rfl
theorem q1534 : (Jvm.Cond.interfaceMethod "java/util/Iterator" "java/util/Iterator" "hasNext" "()Z") ∈ lw_tbl := lw_at lw_m7 36 rfl
theorem q1535 : (Jvm.Cond.declares ({ cls := "java/util/Iterator", name := "hasNext", desc := "()Z" } : Jvm.MethodName)) ∈ lw_tbl := lw_at lw_m7 37 rfl
theorem q1536 : (Jvm.Cond.selects "java/util/ArrayList$Itr" ({ cls := "java/util/Iterator", name := "hasNext", desc := "()Z" } : Jvm.MethodName) ({ cls := "java/util/ArrayList$Itr", name := "hasNext", desc := "()Z" } : Jvm.MethodName)) ∈ lw_all := lw_g (lw_at lw_m7 38 rfl) rfl
theorem q1537 : (Jvm.Cond.unhidden "java/util/ArrayList$Itr" "hasNext" "()Z") ∈ lw_tbl := lw_at lw_m7 39 rfl
theorem q1538 : (Jvm.Cond.instanceMethod ({ cls := "java/util/ArrayList$Itr", name := "hasNext", desc := "()Z" } : Jvm.MethodName)) ∈ lw_all := lw_g (lw_at lw_m7 40 rfl) rfl
theorem q1539 : (Jvm.Cond.publicMethod ({ cls := "java/util/ArrayList$Itr", name := "hasNext", desc := "()Z" } : Jvm.MethodName)) ∈ lw_tbl := lw_at lw_m7 41 rfl
theorem q1540 : (Jvm.Cond.code ({ cls := "java/util/ArrayList$Itr", name := "hasNext", desc := "()Z" } : Jvm.MethodName) prog_46_method_2_code (1 : Nat) (Option.some Jvm.ClassFile.FieldType.boolean)) ∈ lw_all := lw_g (lw_at lw_m7 42 rfl) rfl
theorem q1541 : (Jvm.Cond.selects "java/util/PriorityQueue$Itr" ({ cls := "java/util/Iterator", name := "hasNext", desc := "()Z" } : Jvm.MethodName) ({ cls := "java/util/PriorityQueue$Itr", name := "hasNext", desc := "()Z" } : Jvm.MethodName)) ∈ lw_all := lw_g (lw_at lw_m7 43 rfl) rfl
theorem q1542 : (Jvm.Cond.unhidden "java/util/PriorityQueue$Itr" "hasNext" "()Z") ∈ lw_tbl := lw_at lw_m7 44 rfl
theorem q1543 : (Jvm.Cond.instanceMethod ({ cls := "java/util/PriorityQueue$Itr", name := "hasNext", desc := "()Z" } : Jvm.MethodName)) ∈ lw_all := lw_g (lw_at lw_m7 45 rfl) rfl
theorem q1544 : (Jvm.Cond.publicMethod ({ cls := "java/util/PriorityQueue$Itr", name := "hasNext", desc := "()Z" } : Jvm.MethodName)) ∈ lw_tbl := lw_at lw_m7 46 rfl
theorem q1545 : (Jvm.Cond.code ({ cls := "java/util/PriorityQueue$Itr", name := "hasNext", desc := "()Z" } : Jvm.MethodName) prog_58_method_2_code (1 : Nat) (Option.some Jvm.ClassFile.FieldType.boolean)) ∈ lw_all := lw_g (lw_at lw_m7 47 rfl) rfl
theorem q1546 : (Jvm.Cond.methodLink "java/util/PriorityQueue$Itr" (35 : Nat) ({ cls := "java/util/ArrayDeque", name := "isEmpty", desc := "()Z" } : Jvm.MethodName)) ∈ lw_all := lw_g (lw_at lw_m7 48 rfl) rfl
theorem q1547 : (Jvm.Cond.instanceMethod ({ cls := "java/util/ArrayDeque", name := "isEmpty", desc := "()Z" } : Jvm.MethodName)) ∈ lw_all := lw_g (lw_at lw_m7 49 rfl) rfl
theorem q1548 : (Jvm.Cond.selects "java/util/ArrayDeque" ({ cls := "java/util/ArrayDeque", name := "isEmpty", desc := "()Z" } : Jvm.MethodName) ({ cls := "java/util/ArrayDeque", name := "isEmpty", desc := "()Z" } : Jvm.MethodName)) ∈ lw_all := lw_g (lw_at lw_m7 50 rfl) rfl
theorem q1549 : (Jvm.Cond.code ({ cls := "java/util/ArrayDeque", name := "isEmpty", desc := "()Z" } : Jvm.MethodName) prog_44_method_38_code (1 : Nat) (Option.some Jvm.ClassFile.FieldType.boolean)) ∈ lw_all := lw_g (lw_at lw_m7 51 rfl) rfl
theorem q1550 : (Jvm.Cond.selects "java/util/TreeMap$EntryIterator" ({ cls := "java/util/Iterator", name := "hasNext", desc := "()Z" } : Jvm.MethodName) ({ cls := "java/util/TreeMap$PrivateEntryIterator", name := "hasNext", desc := "()Z" } : Jvm.MethodName)) ∈ lw_all := lw_g (lw_at lw_m7 52 rfl) rfl
theorem q1551 : (Jvm.Cond.unhidden "java/util/TreeMap$EntryIterator" "hasNext" "()Z") ∈ lw_tbl := lw_at lw_m7 53 rfl
theorem q1552 : (Jvm.Cond.instanceMethod ({ cls := "java/util/TreeMap$PrivateEntryIterator", name := "hasNext", desc := "()Z" } : Jvm.MethodName)) ∈ lw_all := lw_g (lw_at lw_m7 54 rfl) rfl
theorem q1553 : (Jvm.Cond.publicMethod ({ cls := "java/util/TreeMap$PrivateEntryIterator", name := "hasNext", desc := "()Z" } : Jvm.MethodName)) ∈ lw_tbl := lw_at lw_m7 55 rfl
theorem q1554 : (Jvm.Cond.code ({ cls := "java/util/TreeMap$PrivateEntryIterator", name := "hasNext", desc := "()Z" } : Jvm.MethodName) prog_74_method_2_code (1 : Nat) (Option.some Jvm.ClassFile.FieldType.boolean)) ∈ lw_all := lw_g (lw_at lw_m7 56 rfl) rfl
theorem q1555 : (Jvm.Cond.selects "java/util/TreeMap$KeyIterator" ({ cls := "java/util/Iterator", name := "hasNext", desc := "()Z" } : Jvm.MethodName) ({ cls := "java/util/TreeMap$PrivateEntryIterator", name := "hasNext", desc := "()Z" } : Jvm.MethodName)) ∈ lw_all := lw_g (lw_at lw_m7 57 rfl) rfl
theorem q1556 : (Jvm.Cond.unhidden "java/util/TreeMap$KeyIterator" "hasNext" "()Z") ∈ lw_tbl := lw_at lw_m7 58 rfl
theorem q1557 : (Jvm.Cond.interfaceEntry "java/util/AbstractMap" (30 : Nat)) ∈ lw_tbl := lw_at lw_m7 59 rfl
theorem q1558 : (Jvm.Cond.methodLink "java/util/AbstractMap" (30 : Nat) ({ cls := "java/util/Iterator", name := "next", desc := "()Ljava/lang/Object;" } : Jvm.MethodName)) ∈ lw_all := lw_g (lw_at lw_m7 60 rfl) rfl
theorem q1559 : (Jvm.Cond.classLink "java/util/AbstractMap" (34 : Nat) "java/util/Map$Entry") ∈ lw_all := lw_g (lw_at lw_m7 61 rfl) rfl
theorem q1560 : (Jvm.Cond.interfaceEntry "java/util/AbstractMap" (43 : Nat)) ∈ lw_tbl := lw_at lw_m7 62 rfl
theorem q1561 : (Jvm.Cond.methodLink "java/util/AbstractMap" (43 : Nat) ({ cls := "java/util/Map$Entry", name := "getKey", desc := "()Ljava/lang/Object;" } : Jvm.MethodName)) ∈ lw_all := lw_g (lw_at lw_m7 63 rfl) rfl
theorem q1562 : (Jvm.Cond.interfaceEntry "java/util/AbstractMap" (36 : Nat)) ∈ lw_tbl := lw_at lw_m7 64 rfl
theorem q1563 : (Jvm.Cond.methodLink "java/util/AbstractMap" (36 : Nat) ({ cls := "java/util/Map$Entry", name := "getValue", desc := "()Ljava/lang/Object;" } : Jvm.MethodName)) ∈ lw_all := lw_g (lw_at lw_m7 65 rfl) rfl
theorem q1564 : (Jvm.Cond.methodLink "java/util/AbstractMap" (55 : Nat) ({ cls := "java/util/AbstractMap", name := "put", desc := "(Ljava/lang/Object;Ljava/lang/Object;)Ljava/lang/Object;" } : Jvm.MethodName)) ∈ lw_all := lw_g (lw_at lw_m7 66 rfl) rfl
theorem q1565 : (Jvm.Cond.instanceMethod ({ cls := "java/util/AbstractMap", name := "put", desc := "(Ljava/lang/Object;Ljava/lang/Object;)Ljava/lang/Object;" } : Jvm.MethodName)) ∈ lw_all := lw_g (lw_at lw_m7 67 rfl) rfl
theorem q1566 : (Jvm.Cond.sameMethod "java/util/AbstractMap" "java/util/AbstractMap" "put" "(Ljava/lang/Object;Ljava/lang/Object;)Ljava/lang/Object;") ∈ lw_all := lw_g (lw_at lw_m7 68 rfl) rfl
theorem q1567 : (Jvm.Cond.selects "java/util/TreeMap" ({ cls := "java/util/AbstractMap", name := "put", desc := "(Ljava/lang/Object;Ljava/lang/Object;)Ljava/lang/Object;" } : Jvm.MethodName) ({ cls := "java/util/TreeMap", name := "put", desc := "(Ljava/lang/Object;Ljava/lang/Object;)Ljava/lang/Object;" } : Jvm.MethodName)) ∈ lw_all := lw_g (lw_at lw_m7 69 rfl) rfl
theorem q1568 : (Jvm.Cond.instanceMethod ({ cls := "java/util/TreeMap", name := "put", desc := "(Ljava/lang/Object;Ljava/lang/Object;)Ljava/lang/Object;" } : Jvm.MethodName)) ∈ lw_all := lw_g (lw_at lw_m7 70 rfl) rfl
theorem q1569 : (Jvm.Cond.code ({ cls := "java/util/TreeMap", name := "put", desc := "(Ljava/lang/Object;Ljava/lang/Object;)Ljava/lang/Object;" } : Jvm.MethodName) prog_67_method_21_code (3 : Nat) (Option.some (Jvm.ClassFile.FieldType.object "java/lang/Object"))) ∈ lw_all := lw_g (lw_at lw_m7 71 rfl) rfl
theorem q1570 : (Jvm.Cond.methodLink "java/util/TreeMap" (127 : Nat) ({ cls := "java/util/TreeMap", name := "put", desc := "(Ljava/lang/Object;Ljava/lang/Object;Z)Ljava/lang/Object;" } : Jvm.MethodName)) ∈ lw_all := lw_g (lw_at lw_m7 72 rfl) rfl
theorem q1571 : (Jvm.Cond.privateMethod ({ cls := "java/util/TreeMap", name := "put", desc := "(Ljava/lang/Object;Ljava/lang/Object;Z)Ljava/lang/Object;" } : Jvm.MethodName)) ∈ lw_tbl := lw_at lw_m7 73 rfl
theorem q1572 : (Jvm.Cond.instanceMethod ({ cls := "java/util/TreeMap", name := "put", desc := "(Ljava/lang/Object;Ljava/lang/Object;Z)Ljava/lang/Object;" } : Jvm.MethodName)) ∈ lw_all := lw_g (lw_at lw_m7 74 rfl) rfl
theorem q1573 : (Jvm.Cond.code ({ cls := "java/util/TreeMap", name := "put", desc := "(Ljava/lang/Object;Ljava/lang/Object;Z)Ljava/lang/Object;" } : Jvm.MethodName) prog_67_method_31_code (10 : Nat) (Option.some (Jvm.ClassFile.FieldType.object "java/lang/Object"))) ∈ lw_all := lw_g (lw_at lw_m7 75 rfl) rfl
theorem q1574 : (Jvm.Cond.methodLink "java/util/TreeMap" (135 : Nat) ({ cls := "java/util/TreeMap", name := "addEntryToEmptyMap", desc := "(Ljava/lang/Object;Ljava/lang/Object;)V" } : Jvm.MethodName)) ∈ lw_all := lw_g (lw_at lw_m7 76 rfl) rfl
theorem q1575 : (Jvm.Cond.privateMethod ({ cls := "java/util/TreeMap", name := "addEntryToEmptyMap", desc := "(Ljava/lang/Object;Ljava/lang/Object;)V" } : Jvm.MethodName)) ∈ lw_tbl := lw_at lw_m7 77 rfl
theorem q1576 : (Jvm.Cond.instanceMethod ({ cls := "java/util/TreeMap", name := "addEntryToEmptyMap", desc := "(Ljava/lang/Object;Ljava/lang/Object;)V" } : Jvm.MethodName)) ∈ lw_all := lw_g (lw_at lw_m7 78 rfl) rfl
theorem q1577 : (Jvm.Cond.code ({ cls := "java/util/TreeMap", name := "addEntryToEmptyMap", desc := "(Ljava/lang/Object;Ljava/lang/Object;)V" } : Jvm.MethodName) prog_67_method_30_code (3 : Nat) (Option.none : Option Jvm.ClassFile.FieldType)) ∈ lw_all := lw_g (lw_at lw_m7 79 rfl) rfl
theorem q1578 : (Jvm.Cond.methodLink "java/util/TreeMap" (123 : Nat) ({ cls := "java/util/TreeMap", name := "compare", desc := "(Ljava/lang/Object;Ljava/lang/Object;)I" } : Jvm.MethodName)) ∈ lw_all := lw_g (lw_at lw_m7 80 rfl) rfl
theorem q1579 : (Jvm.Cond.instanceMethod ({ cls := "java/util/TreeMap", name := "compare", desc := "(Ljava/lang/Object;Ljava/lang/Object;)I" } : Jvm.MethodName)) ∈ lw_all := lw_g (lw_at lw_m7 81 rfl) rfl
theorem q1580 : (Jvm.Cond.selects "java/util/TreeMap" ({ cls := "java/util/TreeMap", name := "compare", desc := "(Ljava/lang/Object;Ljava/lang/Object;)I" } : Jvm.MethodName) ({ cls := "java/util/TreeMap", name := "compare", desc := "(Ljava/lang/Object;Ljava/lang/Object;)I" } : Jvm.MethodName)) ∈ lw_all := lw_g (lw_at lw_m7 82 rfl) rfl
theorem q1581 : (Jvm.Cond.code ({ cls := "java/util/TreeMap", name := "compare", desc := "(Ljava/lang/Object;Ljava/lang/Object;)I" } : Jvm.MethodName) prog_67_method_67_code (3 : Nat) (Option.some Jvm.ClassFile.FieldType.int)) ∈ lw_all := lw_g (lw_at lw_m7 83 rfl) rfl
theorem q1582 : (Jvm.Cond.methodLink "java/util/TreeMap" (139 : Nat) ({ cls := "java/util/TreeMap", name := "addEntry", desc := "(Ljava/lang/Object;Ljava/lang/Object;Ljava/util/TreeMap$Entry;Z)V" } : Jvm.MethodName)) ∈ lw_all := lw_g (lw_at lw_m7 84 rfl) rfl
theorem q1583 : (Jvm.Cond.privateMethod ({ cls := "java/util/TreeMap", name := "addEntry", desc := "(Ljava/lang/Object;Ljava/lang/Object;Ljava/util/TreeMap$Entry;Z)V" } : Jvm.MethodName)) ∈ lw_tbl := lw_at lw_m7 85 rfl
theorem q1584 : (Jvm.Cond.instanceMethod ({ cls := "java/util/TreeMap", name := "addEntry", desc := "(Ljava/lang/Object;Ljava/lang/Object;Ljava/util/TreeMap$Entry;Z)V" } : Jvm.MethodName)) ∈ lw_all := lw_g (lw_at lw_m7 86 rfl) rfl
theorem q1585 : (Jvm.Cond.code ({ cls := "java/util/TreeMap", name := "addEntry", desc := "(Ljava/lang/Object;Ljava/lang/Object;Ljava/util/TreeMap$Entry;Z)V" } : Jvm.MethodName) prog_67_method_29_code (6 : Nat) (Option.none : Option Jvm.ClassFile.FieldType)) ∈ lw_all := lw_g (lw_at lw_m7 87 rfl) rfl
theorem q1586 : (Jvm.Cond.methodLink "java/util/TreeMap" (170 : Nat) ({ cls := "java/util/TreeMap", name := "fixAfterInsertion", desc := "(Ljava/util/TreeMap$Entry;)V" } : Jvm.MethodName)) ∈ lw_all := lw_g (lw_at lw_m7 88 rfl) rfl
theorem q1587 : (Jvm.Cond.privateMethod ({ cls := "java/util/TreeMap", name := "fixAfterInsertion", desc := "(Ljava/util/TreeMap$Entry;)V" } : Jvm.MethodName)) ∈ lw_tbl := lw_at lw_m7 89 rfl
theorem q1588 : (Jvm.Cond.instanceMethod ({ cls := "java/util/TreeMap", name := "fixAfterInsertion", desc := "(Ljava/util/TreeMap$Entry;)V" } : Jvm.MethodName)) ∈ lw_all := lw_g (lw_at lw_m7 90 rfl) rfl
theorem q1589 : (Jvm.Cond.code ({ cls := "java/util/TreeMap", name := "fixAfterInsertion", desc := "(Ljava/util/TreeMap$Entry;)V" } : Jvm.MethodName) prog_67_method_83_code (3 : Nat) (Option.none : Option Jvm.ClassFile.FieldType)) ∈ lw_all := lw_g (lw_at lw_m7 91 rfl) rfl
theorem q1590 : (Jvm.Cond.methodLink "java/util/TreeMap" (294 : Nat) ({ cls := "java/util/TreeMap", name := "parentOf", desc := "(Ljava/util/TreeMap$Entry;)Ljava/util/TreeMap$Entry;" } : Jvm.MethodName)) ∈ lw_all := lw_g (lw_at lw_m7 92 rfl) rfl
theorem q1591 : (Jvm.Cond.static ({ cls := "java/util/TreeMap", name := "parentOf", desc := "(Ljava/util/TreeMap$Entry;)Ljava/util/TreeMap$Entry;" } : Jvm.MethodName)) ∈ lw_all := lw_g (lw_at lw_m7 93 rfl) rfl
theorem q1592 : (Jvm.Cond.code ({ cls := "java/util/TreeMap", name := "parentOf", desc := "(Ljava/util/TreeMap$Entry;)Ljava/util/TreeMap$Entry;" } : Jvm.MethodName) prog_67_method_77_code (1 : Nat) (Option.some (Jvm.ClassFile.FieldType.object "java/util/TreeMap$Entry"))) ∈ lw_all := lw_g (lw_at lw_m7 94 rfl) rfl
theorem q1593 : (Jvm.Cond.methodLink "java/util/TreeMap" (297 : Nat) ({ cls := "java/util/TreeMap", name := "leftOf", desc := "(Ljava/util/TreeMap$Entry;)Ljava/util/TreeMap$Entry;" } : Jvm.MethodName)) ∈ lw_all := lw_g (lw_at lw_m7 95 rfl) rfl
theorem q1594 : (Jvm.Cond.static ({ cls := "java/util/TreeMap", name := "leftOf", desc := "(Ljava/util/TreeMap$Entry;)Ljava/util/TreeMap$Entry;" } : Jvm.MethodName)) ∈ lw_all := lw_g (lw_at lw_m7 96 rfl) rfl
theorem q1595 : (Jvm.Cond.code ({ cls := "java/util/TreeMap", name := "leftOf", desc := "(Ljava/util/TreeMap$Entry;)Ljava/util/TreeMap$Entry;" } : Jvm.MethodName) prog_67_method_79_code (1 : Nat) (Option.some (Jvm.ClassFile.FieldType.object "java/util/TreeMap$Entry"))) ∈ lw_all := lw_g (lw_at lw_m7 97 rfl) rfl
theorem q1596 : (Jvm.Cond.methodLink "java/util/TreeMap" (300 : Nat) ({ cls := "java/util/TreeMap", name := "rightOf", desc := "(Ljava/util/TreeMap$Entry;)Ljava/util/TreeMap$Entry;" } : Jvm.MethodName)) ∈ lw_all := lw_g (lw_at lw_m7 98 rfl) rfl
theorem q1597 : (Jvm.Cond.static ({ cls := "java/util/TreeMap", name := "rightOf", desc := "(Ljava/util/TreeMap$Entry;)Ljava/util/TreeMap$Entry;" } : Jvm.MethodName)) ∈ lw_all := lw_g (lw_at lw_m7 99 rfl) rfl
theorem q1598 : (Jvm.Cond.code ({ cls := "java/util/TreeMap", name := "rightOf", desc := "(Ljava/util/TreeMap$Entry;)Ljava/util/TreeMap$Entry;" } : Jvm.MethodName) prog_67_method_80_code (1 : Nat) (Option.some (Jvm.ClassFile.FieldType.object "java/util/TreeMap$Entry"))) ∈ lw_all := lw_g (lw_at lw_m7 100 rfl) rfl
theorem q1599 : (Jvm.Cond.methodLink "java/util/TreeMap" (303 : Nat) ({ cls := "java/util/TreeMap", name := "colorOf", desc := "(Ljava/util/TreeMap$Entry;)Z" } : Jvm.MethodName)) ∈ lw_all := lw_g (lw_at lw_m7 101 rfl) rfl
theorem q1600 : (Jvm.Cond.static ({ cls := "java/util/TreeMap", name := "colorOf", desc := "(Ljava/util/TreeMap$Entry;)Z" } : Jvm.MethodName)) ∈ lw_all := lw_g (lw_at lw_m7 102 rfl) rfl
theorem q1601 : (Jvm.Cond.code ({ cls := "java/util/TreeMap", name := "colorOf", desc := "(Ljava/util/TreeMap$Entry;)Z" } : Jvm.MethodName) prog_67_method_76_code (1 : Nat) (Option.some Jvm.ClassFile.FieldType.boolean)) ∈ lw_all := lw_g (lw_at lw_m7 103 rfl) rfl
theorem q1602 : (Jvm.Cond.methodLink "java/util/TreeMap" (307 : Nat) ({ cls := "java/util/TreeMap", name := "setColor", desc := "(Ljava/util/TreeMap$Entry;Z)V" } : Jvm.MethodName)) ∈ lw_all := lw_g (lw_at lw_m7 104 rfl) rfl
theorem q1603 : (Jvm.Cond.static ({ cls := "java/util/TreeMap", name := "setColor", desc := "(Ljava/util/TreeMap$Entry;Z)V" } : Jvm.MethodName)) ∈ lw_all := lw_g (lw_at lw_m7 105 rfl) rfl
theorem q1604 : (Jvm.Cond.code ({ cls := "java/util/TreeMap", name := "setColor", desc := "(Ljava/util/TreeMap$Entry;Z)V" } : Jvm.MethodName) prog_67_method_78_code (2 : Nat) (Option.none : Option Jvm.ClassFile.FieldType)) ∈ lw_all := lw_g (lw_at lw_m7 106 rfl) rfl
theorem q1605 : (Jvm.Cond.methodLink "java/util/TreeMap" (311 : Nat) ({ cls := "java/util/TreeMap", name := "rotateLeft", desc := "(Ljava/util/TreeMap$Entry;)V" } : Jvm.MethodName)) ∈ lw_all := lw_g (lw_at lw_m7 107 rfl) rfl
theorem q1606 : (Jvm.Cond.privateMethod ({ cls := "java/util/TreeMap", name := "rotateLeft", desc := "(Ljava/util/TreeMap$Entry;)V" } : Jvm.MethodName)) ∈ lw_tbl := lw_at lw_m7 108 rfl
theorem q1607 : (Jvm.Cond.instanceMethod ({ cls := "java/util/TreeMap", name := "rotateLeft", desc := "(Ljava/util/TreeMap$Entry;)V" } : Jvm.MethodName)) ∈ lw_all := lw_g (lw_at lw_m7 109 rfl) rfl
theorem q1608 : (Jvm.Cond.code ({ cls := "java/util/TreeMap", name := "rotateLeft", desc := "(Ljava/util/TreeMap$Entry;)V" } : Jvm.MethodName) prog_67_method_81_code (3 : Nat) (Option.none : Option Jvm.ClassFile.FieldType)) ∈ lw_all := lw_g (lw_at lw_m7 110 rfl) rfl
theorem q1609 : (Jvm.Cond.methodLink "java/util/TreeMap" (314 : Nat) ({ cls := "java/util/TreeMap", name := "rotateRight", desc := "(Ljava/util/TreeMap$Entry;)V" } : Jvm.MethodName)) ∈ lw_all := lw_g (lw_at lw_m7 111 rfl) rfl
theorem q1610 : (Jvm.Cond.privateMethod ({ cls := "java/util/TreeMap", name := "rotateRight", desc := "(Ljava/util/TreeMap$Entry;)V" } : Jvm.MethodName)) ∈ lw_tbl := lw_at lw_m7 112 rfl
theorem q1611 : (Jvm.Cond.instanceMethod ({ cls := "java/util/TreeMap", name := "rotateRight", desc := "(Ljava/util/TreeMap$Entry;)V" } : Jvm.MethodName)) ∈ lw_all := lw_g (lw_at lw_m7 113 rfl) rfl
theorem q1612 : (Jvm.Cond.code ({ cls := "java/util/TreeMap", name := "rotateRight", desc := "(Ljava/util/TreeMap$Entry;)V" } : Jvm.MethodName) prog_67_method_82_code (3 : Nat) (Option.none : Option Jvm.ClassFile.FieldType)) ∈ lw_all := lw_g (lw_at lw_m7 114 rfl) rfl
theorem q1613 : (Jvm.Cond.declares ({ cls := "java/util/AbstractMap", name := "put", desc := "(Ljava/lang/Object;Ljava/lang/Object;)Ljava/lang/Object;" } : Jvm.MethodName)) ∈ lw_tbl := lw_at lw_m7 115 rfl
theorem q1614 : (Jvm.Cond.methodLink "RiddlePost$Memory" (33 : Nat) ({ cls := "java/util/PriorityQueue", name := "addAll", desc := "(Ljava/util/Collection;)Z" } : Jvm.MethodName)) ∈ lw_all := lw_g (lw_at lw_m7 116 rfl) rfl
theorem q1615 : (Jvm.Cond.sameMethod "java/util/PriorityQueue" "java/util/AbstractQueue" "addAll" "(Ljava/util/Collection;)Z") ∈ lw_all := lw_g (lw_at lw_m7 117 rfl) rfl
theorem q1616 : (Jvm.Cond.declares ({ cls := "java/util/AbstractQueue", name := "addAll", desc := "(Ljava/util/Collection;)Z" } : Jvm.MethodName)) ∈ lw_tbl := lw_at lw_m7 118 rfl
theorem q1617 : (Jvm.Cond.selects "java/util/PriorityQueue" ({ cls := "java/util/PriorityQueue", name := "addAll", desc := "(Ljava/util/Collection;)Z" } : Jvm.MethodName) ({ cls := "java/util/AbstractQueue", name := "addAll", desc := "(Ljava/util/Collection;)Z" } : Jvm.MethodName)) ∈ lw_all := lw_g (lw_at lw_m7 119 rfl) rfl
theorem q1618 : (Jvm.Cond.instanceMethod ({ cls := "java/util/AbstractQueue", name := "addAll", desc := "(Ljava/util/Collection;)Z" } : Jvm.MethodName)) ∈ lw_all := lw_g (lw_at lw_m7 120 rfl) rfl
theorem q1619 : (Jvm.Cond.code ({ cls := "java/util/AbstractQueue", name := "addAll", desc := "(Ljava/util/Collection;)Z" } : Jvm.MethodName) prog_42_method_6_code (5 : Nat) (Option.some Jvm.ClassFile.FieldType.boolean)) ∈ lw_all := lw_g (lw_at lw_m7 121 rfl) rfl
theorem q1620 : (Jvm.Cond.classLink "java/util/AbstractQueue" (33 : Nat) "java/lang/IllegalArgumentException") ∈ lw_all := lw_g (lw_at lw_m7 122 rfl) rfl
theorem q1621 : (Jvm.Cond.methodLink "java/util/AbstractQueue" (35 : Nat) ({ cls := "java/lang/IllegalArgumentException", name := "<init>", desc := "()V" } : Jvm.MethodName)) ∈ lw_all := lw_g (lw_at lw_m7 123 rfl) rfl
theorem q1622 : (Jvm.Cond.interfaceEntry "java/util/AbstractQueue" (36 : Nat)) ∈ lw_tbl := lw_at lw_m7 124 rfl
theorem q1623 : (Jvm.Cond.methodLink "java/util/AbstractQueue" (36 : Nat) ({ cls := "java/util/Collection", name := "iterator", desc := "()Ljava/util/Iterator;" } : Jvm.MethodName)) ∈ lw_all := lw_g (lw_at lw_m7 125 rfl) rfl
theorem q1624 : (Jvm.Cond.interfaceMethod "java/util/Collection" "java/util/Collection" "iterator" "()Ljava/util/Iterator;") ∈ lw_tbl := lw_at lw_m7 126 rfl
theorem q1625 : (Jvm.Cond.declares ({ cls := "java/util/Collection", name := "iterator", desc := "()Ljava/util/Iterator;" } : Jvm.MethodName)) ∈ lw_tbl := lw_at lw_m7 127 rfl
theorem q1626 : (Jvm.Cond.castable "java/util/ArrayList" "java/util/Collection") ∈ lw_tbl := lw_at lw_m7 128 rfl
theorem q1627 : (Jvm.Cond.selects "java/util/ArrayList" ({ cls := "java/util/Collection", name := "iterator", desc := "()Ljava/util/Iterator;" } : Jvm.MethodName) ({ cls := "java/util/ArrayList", name := "iterator", desc := "()Ljava/util/Iterator;" } : Jvm.MethodName)) ∈ lw_all := lw_g (lw_at lw_m7 129 rfl) rfl
theorem q1628 : (Jvm.Cond.unhidden "java/util/ArrayList" "iterator" "()Ljava/util/Iterator;") ∈ lw_tbl := lw_at lw_m7 130 rfl
theorem q1629 : (Jvm.Cond.instanceMethod ({ cls := "java/util/ArrayList", name := "iterator", desc := "()Ljava/util/Iterator;" } : Jvm.MethodName)) ∈ lw_all := lw_g (lw_at lw_m7 131 rfl) rfl
theorem q1630 : (Jvm.Cond.publicMethod ({ cls := "java/util/ArrayList", name := "iterator", desc := "()Ljava/util/Iterator;" } : Jvm.MethodName)) ∈ lw_tbl := lw_at lw_m7 132 rfl
theorem q1631 : (Jvm.Cond.code ({ cls := "java/util/ArrayList", name := "iterator", desc := "()Ljava/util/Iterator;" } : Jvm.MethodName) prog_45_method_55_code (1 : Nat) (Option.some (Jvm.ClassFile.FieldType.object "java/util/Iterator"))) ∈ lw_all := lw_g (lw_at lw_m7 133 rfl) rfl
theorem q1632 : (Jvm.Cond.classLink "java/util/ArrayList" (267 : Nat) "java/util/ArrayList$Itr") ∈ lw_all := lw_g (lw_at lw_m7 134 rfl) rfl
theorem q1633 : (Jvm.Cond.instantiable "java/util/ArrayList$Itr" (4 : Nat)) ∈ lw_all := lw_g (lw_at lw_m7 135 rfl) rfl
theorem q1634 : (Jvm.Cond.methodLink "java/util/ArrayList" (269 : Nat) ({ cls := "java/util/ArrayList$Itr", name := "<init>", desc := "(Ljava/util/ArrayList;)V" } : Jvm.MethodName)) ∈ lw_all := lw_g (lw_at lw_m7 136 rfl) rfl
theorem q1635 : (Jvm.Cond.instanceMethod ({ cls := "java/util/ArrayList$Itr", name := "<init>", desc := "(Ljava/util/ArrayList;)V" } : Jvm.MethodName)) ∈ lw_all := lw_g (lw_at lw_m7 137 rfl) rfl
theorem q1636 : (Jvm.Cond.code ({ cls := "java/util/ArrayList$Itr", name := "<init>", desc := "(Ljava/util/ArrayList;)V" } : Jvm.MethodName) prog_46_method_1_code (2 : Nat) (Option.none : Option Jvm.ClassFile.FieldType)) ∈ lw_all := lw_g (lw_at lw_m7 138 rfl) rfl
theorem q1637 : (Jvm.Cond.methodLink "java/util/ArrayList$Itr" (7 : Nat) ({ cls := "java/lang/Object", name := "<init>", desc := "()V" } : Jvm.MethodName)) ∈ lw_all := lw_g (lw_at lw_m7 139 rfl) rfl
theorem q1638 : (Jvm.Cond.fieldLink "java/util/ArrayList$Itr" (25 : Nat) "java/util/ArrayList$Itr" "cursor" "I") ∈ lw_all := lw_g (lw_at lw_m7 140 rfl) rfl
theorem q1639 : (Jvm.Cond.fieldLink "java/util/ArrayList$Itr" (13 : Nat) "java/util/ArrayList$Itr" "lastRet" "I") ∈ lw_all := lw_g (lw_at lw_m7 141 rfl) rfl
theorem q1640 : (Jvm.Cond.fieldLink "java/util/ArrayList$Itr" (22 : Nat) "java/util/ArrayList$Itr" "expectedModCount" "I") ∈ lw_all := lw_g (lw_at lw_m7 142 rfl) rfl
theorem q1641 : (Jvm.Cond.fieldLink "java/util/ArrayList$Itr" (1 : Nat) "java/util/ArrayList$Itr" "this$0" "Ljava/util/ArrayList;") ∈ lw_all := lw_g (lw_at lw_m7 143 rfl) rfl
theorem q1642 : (Jvm.Cond.lays "java/util/ArrayList$Itr" "java/util/ArrayList$Itr" "cursor" "I") ∈ lw_all := lw_g (lw_at lw_m7 144 rfl) rfl
theorem q1643 : (Jvm.Cond.soleField "java/util/ArrayList$Itr" "cursor") ∈ lw_all := lw_g (lw_at lw_m7 145 rfl) rfl
theorem q1644 : (Jvm.Cond.lays "java/util/ArrayList$Itr" "java/util/ArrayList$Itr" "lastRet" "I") ∈ lw_all := lw_g (lw_at lw_m7 146 rfl) rfl
theorem q1645 : (Jvm.Cond.soleField "java/util/ArrayList$Itr" "lastRet") ∈ lw_all := lw_g (lw_at lw_m7 147 rfl) rfl
theorem q1646 : (Jvm.Cond.lays "java/util/ArrayList$Itr" "java/util/ArrayList$Itr" "expectedModCount" "I") ∈ lw_all := lw_g (lw_at lw_m7 148 rfl) rfl
theorem q1647 : (Jvm.Cond.soleField "java/util/ArrayList$Itr" "expectedModCount") ∈ lw_all := lw_g (lw_at lw_m7 149 rfl) rfl
theorem q1648 : (Jvm.Cond.laysFinal "java/util/ArrayList$Itr" "java/util/ArrayList$Itr" "this$0" "Ljava/util/ArrayList;") ∈ lw_all := lw_g (lw_at lw_m7 150 rfl) rfl
theorem q1649 : (Jvm.Cond.soleField "java/util/ArrayList$Itr" "this$0") ∈ lw_all := lw_g (lw_at lw_m7 151 rfl) rfl
theorem q1650 : (Jvm.Cond.superclass "java/util/ArrayList$Itr" "java/lang/Object") ∈ lw_all := lw_g (lw_at lw_m7 152 rfl) rfl
theorem q1651 : (Jvm.Cond.castable "java/util/PriorityQueue" "java/util/Collection") ∈ lw_tbl := lw_at lw_m7 153 rfl
theorem q1652 : (Jvm.Cond.selects "java/util/PriorityQueue" ({ cls := "java/util/Collection", name := "iterator", desc := "()Ljava/util/Iterator;" } : Jvm.MethodName) ({ cls := "java/util/PriorityQueue", name := "iterator", desc := "()Ljava/util/Iterator;" } : Jvm.MethodName)) ∈ lw_all := lw_g (lw_at lw_m7 154 rfl) rfl
theorem q1653 : (Jvm.Cond.unhidden "java/util/PriorityQueue" "iterator" "()Ljava/util/Iterator;") ∈ lw_tbl := lw_at lw_m7 155 rfl
theorem q1654 : (Jvm.Cond.instanceMethod ({ cls := "java/util/PriorityQueue", name := "iterator", desc := "()Ljava/util/Iterator;" } : Jvm.MethodName)) ∈ lw_all := lw_g (lw_at lw_m7 156 rfl) rfl
theorem q1655 : (Jvm.Cond.publicMethod ({ cls := "java/util/PriorityQueue", name := "iterator", desc := "()Ljava/util/Iterator;" } : Jvm.MethodName)) ∈ lw_tbl := lw_at lw_m7 157 rfl
theorem q1656 : (Jvm.Cond.code ({ cls := "java/util/PriorityQueue", name := "iterator", desc := "()Ljava/util/Iterator;" } : Jvm.MethodName) prog_57_method_22_code (1 : Nat) (Option.some (Jvm.ClassFile.FieldType.object "java/util/Iterator"))) ∈ lw_all := lw_g (lw_at lw_m7 158 rfl) rfl
theorem q1657 : (Jvm.Cond.classLink "java/util/PriorityQueue" (121 : Nat) "java/util/PriorityQueue$Itr") ∈ lw_all := lw_g (lw_at lw_m7 159 rfl) rfl
theorem q1658 : (Jvm.Cond.instantiable "java/util/PriorityQueue$Itr" (6 : Nat)) ∈ lw_all := lw_g (lw_at lw_m7 160 rfl) rfl
theorem q1659 : (Jvm.Cond.methodLink "java/util/PriorityQueue" (123 : Nat) ({ cls := "java/util/PriorityQueue$Itr", name := "<init>", desc := "(Ljava/util/PriorityQueue;)V" } : Jvm.MethodName)) ∈ lw_all := lw_g (lw_at lw_m7 161 rfl) rfl
theorem q1660 : (Jvm.Cond.instanceMethod ({ cls := "java/util/PriorityQueue$Itr", name := "<init>", desc := "(Ljava/util/PriorityQueue;)V" } : Jvm.MethodName)) ∈ lw_all := lw_g (lw_at lw_m7 162 rfl) rfl
theorem q1661 : (Jvm.Cond.code ({ cls := "java/util/PriorityQueue$Itr", name := "<init>", desc := "(Ljava/util/PriorityQueue;)V" } : Jvm.MethodName) prog_58_method_1_code (2 : Nat) (Option.none : Option Jvm.ClassFile.FieldType)) ∈ lw_all := lw_g (lw_at lw_m7 163 rfl) rfl
theorem q1662 : (Jvm.Cond.methodLink "java/util/PriorityQueue$Itr" (7 : Nat) ({ cls := "java/lang/Object", name := "<init>", desc := "()V" } : Jvm.MethodName)) ∈ lw_all := lw_g (lw_at lw_m7 164 rfl) rfl
theorem q1663 : (Jvm.Cond.fieldLink "java/util/PriorityQueue$Itr" (25 : Nat) "java/util/PriorityQueue$Itr" "cursor" "I") ∈ lw_all := lw_g (lw_at lw_m7 165 rfl) rfl
theorem q1664 : (Jvm.Cond.fieldLink "java/util/PriorityQueue$Itr" (13 : Nat) "java/util/PriorityQueue$Itr" "lastRet" "I") ∈ lw_all := lw_g (lw_at lw_m7 166 rfl) rfl
theorem q1665 : (Jvm.Cond.fieldLink "java/util/PriorityQueue$Itr" (31 : Nat) "java/util/PriorityQueue$Itr" "forgetMeNot" "Ljava/util/ArrayDeque;") ∈ lw_all := lw_g (lw_at lw_m7 167 rfl) rfl
theorem q1666 : (Jvm.Cond.fieldLink "java/util/PriorityQueue$Itr" (52 : Nat) "java/util/PriorityQueue$Itr" "lastRetElt" "Ljava/lang/Object;") ∈ lw_all := lw_g (lw_at lw_m7 168 rfl) rfl
theorem q1667 : (Jvm.Cond.fieldLink "java/util/PriorityQueue$Itr" (22 : Nat) "java/util/PriorityQueue$Itr" "expectedModCount" "I") ∈ lw_all := lw_g (lw_at lw_m7 169 rfl) rfl
theorem q1668 : (Jvm.Cond.fieldLink "java/util/PriorityQueue$Itr" (1 : Nat) "java/util/PriorityQueue$Itr" "this$0" "Ljava/util/PriorityQueue;") ∈ lw_all := lw_g (lw_at lw_m7 170 rfl) rfl
theorem q1669 : (Jvm.Cond.lays "java/util/PriorityQueue$Itr" "java/util/PriorityQueue$Itr" "cursor" "I") ∈ lw_all := lw_g (lw_at lw_m7 171 rfl) rfl
theorem q1670 : (Jvm.Cond.soleField "java/util/PriorityQueue$Itr" "cursor") ∈ lw_all := lw_g (lw_at lw_m7 172 rfl) rfl
theorem q1671 : (Jvm.Cond.lays "java/util/PriorityQueue$Itr" "java/util/PriorityQueue$Itr" "lastRet" "I") ∈ lw_all := lw_g (lw_at lw_m7 173 rfl) rfl
theorem q1672 : (Jvm.Cond.soleField "java/util/PriorityQueue$Itr" "lastRet") ∈ lw_all := lw_g (lw_at lw_m7 174 rfl) rfl
theorem q1673 : (Jvm.Cond.lays "java/util/PriorityQueue$Itr" "java/util/PriorityQueue$Itr" "forgetMeNot" "Ljava/util/ArrayDeque;") ∈ lw_all := lw_g (lw_at lw_m7 175 rfl) rfl
theorem q1674 : (Jvm.Cond.soleField "java/util/PriorityQueue$Itr" "forgetMeNot") ∈ lw_all := lw_g (lw_at lw_m7 176 rfl) rfl
theorem q1675 : (Jvm.Cond.lays "java/util/PriorityQueue$Itr" "java/util/PriorityQueue$Itr" "lastRetElt" "Ljava/lang/Object;") ∈ lw_all := lw_g (lw_at lw_m7 177 rfl) rfl
theorem q1676 : (Jvm.Cond.soleField "java/util/PriorityQueue$Itr" "lastRetElt") ∈ lw_all := lw_g (lw_at lw_m7 178 rfl) rfl
theorem q1677 : (Jvm.Cond.lays "java/util/PriorityQueue$Itr" "java/util/PriorityQueue$Itr" "expectedModCount" "I") ∈ lw_all := lw_g (lw_at lw_m7 179 rfl) rfl
theorem q1678 : (Jvm.Cond.soleField "java/util/PriorityQueue$Itr" "expectedModCount") ∈ lw_all := lw_g (lw_at lw_m7 180 rfl) rfl
theorem q1679 : (Jvm.Cond.laysFinal "java/util/PriorityQueue$Itr" "java/util/PriorityQueue$Itr" "this$0" "Ljava/util/PriorityQueue;") ∈ lw_all := lw_g (lw_at lw_m7 181 rfl) rfl
theorem q1680 : (Jvm.Cond.soleField "java/util/PriorityQueue$Itr" "this$0") ∈ lw_all := lw_g (lw_at lw_m7 182 rfl) rfl
theorem q1681 : (Jvm.Cond.superclass "java/util/PriorityQueue$Itr" "java/lang/Object") ∈ lw_all := lw_g (lw_at lw_m7 183 rfl) rfl
theorem q1682 : (Jvm.Cond.castable "java/util/TreeMap$EntrySet" "java/util/Collection") ∈ lw_tbl := lw_at lw_m7 184 rfl
theorem q1683 : (Jvm.Cond.selects "java/util/TreeMap$EntrySet" ({ cls := "java/util/Collection", name := "iterator", desc := "()Ljava/util/Iterator;" } : Jvm.MethodName) ({ cls := "java/util/TreeMap$EntrySet", name := "iterator", desc := "()Ljava/util/Iterator;" } : Jvm.MethodName)) ∈ lw_all := lw_g (lw_at lw_m7 185 rfl) rfl
theorem q1684 : (Jvm.Cond.castable "java/util/TreeMap$KeySet" "java/util/Collection") ∈ lw_tbl := lw_at lw_m7 186 rfl
theorem q1685 : (Jvm.Cond.selects "java/util/TreeMap$KeySet" ({ cls := "java/util/Collection", name := "iterator", desc := "()Ljava/util/Iterator;" } : Jvm.MethodName) ({ cls := "java/util/TreeMap$KeySet", name := "iterator", desc := "()Ljava/util/Iterator;" } : Jvm.MethodName)) ∈ lw_all := lw_g (lw_at lw_m7 187 rfl) rfl
theorem q1686 : (Jvm.Cond.castable "java/util/TreeSet" "java/util/Collection") ∈ lw_tbl := lw_at lw_m7 188 rfl
theorem q1687 : (Jvm.Cond.selects "java/util/TreeSet" ({ cls := "java/util/Collection", name := "iterator", desc := "()Ljava/util/Iterator;" } : Jvm.MethodName) ({ cls := "java/util/TreeSet", name := "iterator", desc := "()Ljava/util/Iterator;" } : Jvm.MethodName)) ∈ lw_all := lw_g (lw_at lw_m7 189 rfl) rfl
theorem q1688 : (Jvm.Cond.interfaceEntry "java/util/AbstractQueue" (42 : Nat)) ∈ lw_tbl := lw_at lw_m7 190 rfl
theorem q1689 : (Jvm.Cond.methodLink "java/util/AbstractQueue" (42 : Nat) ({ cls := "java/util/Iterator", name := "hasNext", desc := "()Z" } : Jvm.MethodName)) ∈ lw_all := lw_g (lw_at lw_m7 191 rfl) rfl
theorem q1690 : (Jvm.Cond.interfaceEntry "java/util/AbstractQueue" (48 : Nat)) ∈ lw_tbl := lw_at lw_m7 192 rfl
theorem q1691 : (Jvm.Cond.methodLink "java/util/AbstractQueue" (48 : Nat) ({ cls := "java/util/Iterator", name := "next", desc := "()Ljava/lang/Object;" } : Jvm.MethodName)) ∈ lw_all := lw_g (lw_at lw_m7 193 rfl) rfl
theorem q1692 : (Jvm.Cond.methodLink "java/util/AbstractQueue" (51 : Nat) ({ cls := "java/util/AbstractQueue", name := "add", desc := "(Ljava/lang/Object;)Z" } : Jvm.MethodName)) ∈ lw_all := lw_g (lw_at lw_m7 194 rfl) rfl
theorem q1693 : (Jvm.Cond.instanceMethod ({ cls := "java/util/AbstractQueue", name := "add", desc := "(Ljava/lang/Object;)Z" } : Jvm.MethodName)) ∈ lw_all := lw_g (lw_at lw_m7 195 rfl) rfl
theorem q1694 : (Jvm.Cond.sameMethod "java/util/AbstractQueue" "java/util/AbstractQueue" "add" "(Ljava/lang/Object;)Z") ∈ lw_all := lw_g (lw_at lw_m7 196 rfl) rfl
theorem q1695 : (Jvm.Cond.selects "java/util/PriorityQueue" ({ cls := "java/util/AbstractQueue", name := "add", desc := "(Ljava/lang/Object;)Z" } : Jvm.MethodName) ({ cls := "java/util/PriorityQueue", name := "add", desc := "(Ljava/lang/Object;)Z" } : Jvm.MethodName)) ∈ lw_all := lw_g (lw_at lw_m7 197 rfl) rfl
theorem q1696 : (Jvm.Cond.instanceMethod ({ cls := "java/util/PriorityQueue", name := "add", desc := "(Ljava/lang/Object;)Z" } : Jvm.MethodName)) ∈ lw_all := lw_g (lw_at lw_m7 198 rfl) rfl
theorem q1697 : (Jvm.Cond.code ({ cls := "java/util/PriorityQueue", name := "add", desc := "(Ljava/lang/Object;)Z" } : Jvm.MethodName) prog_57_method_13_code (2 : Nat) (Option.some Jvm.ClassFile.FieldType.boolean)) ∈ lw_all := lw_g (lw_at lw_m7 199 rfl) rfl
theorem q1698 : (Jvm.Cond.methodLink "java/util/PriorityQueue" (89 : Nat) ({ cls := "java/util/PriorityQueue", name := "offer", desc := "(Ljava/lang/Object;)Z" } : Jvm.MethodName)) ∈ lw_all := lw_g (lw_at lw_m7 200 rfl) rfl
theorem q1699 : (Jvm.Cond.instanceMethod ({ cls := "java/util/PriorityQueue", name := "offer", desc := "(Ljava/lang/Object;)Z" } : Jvm.MethodName)) ∈ lw_all := lw_g (lw_at lw_m7 201 rfl) rfl
theorem q1700 : (Jvm.Cond.selects "java/util/PriorityQueue" ({ cls := "java/util/PriorityQueue", name := "offer", desc := "(Ljava/lang/Object;)Z" } : Jvm.MethodName) ({ cls := "java/util/PriorityQueue", name := "offer", desc := "(Ljava/lang/Object;)Z" } : Jvm.MethodName)) ∈ lw_all := lw_g (lw_at lw_m7 202 rfl) rfl
theorem q1701 : (Jvm.Cond.code ({ cls := "java/util/PriorityQueue", name := "offer", desc := "(Ljava/lang/Object;)Z" } : Jvm.MethodName) prog_57_method_14_code (3 : Nat) (Option.some Jvm.ClassFile.FieldType.boolean)) ∈ lw_all := lw_g (lw_at lw_m7 203 rfl) rfl
theorem q1702 : (Jvm.Cond.methodLink "java/util/PriorityQueue" (96 : Nat) ({ cls := "java/util/PriorityQueue", name := "grow", desc := "(I)V" } : Jvm.MethodName)) ∈ lw_all := lw_g (lw_at lw_m7 204 rfl) rfl
theorem q1703 : (Jvm.Cond.privateMethod ({ cls := "java/util/PriorityQueue", name := "grow", desc := "(I)V" } : Jvm.MethodName)) ∈ lw_tbl := lw_at lw_m7 205 rfl
theorem q1704 : (Jvm.Cond.instanceMethod ({ cls := "java/util/PriorityQueue", name := "grow", desc := "(I)V" } : Jvm.MethodName)) ∈ lw_all := lw_g (lw_at lw_m7 206 rfl) rfl
theorem q1705 : (Jvm.Cond.code ({ cls := "java/util/PriorityQueue", name := "grow", desc := "(I)V" } : Jvm.MethodName) prog_57_method_12_code (4 : Nat) (Option.none : Option Jvm.ClassFile.FieldType)) ∈ lw_all := lw_g (lw_at lw_m7 207 rfl) rfl
theorem q1706 : (Jvm.Cond.methodLink "java/util/PriorityQueue" (80 : Nat) ({ cls := "jdk/internal/util/ArraysSupport", name := "newLength", desc := "(III)I" } : Jvm.MethodName)) ∈ lw_all := lw_g (lw_at lw_m7 208 rfl) rfl
theorem q1707 : (Jvm.Cond.methodLink "java/util/PriorityQueue" (86 : Nat) ({ cls := "java/util/Arrays", name := "copyOf", desc := "([Ljava/lang/Object;I)[Ljava/lang/Object;" } : Jvm.MethodName)) ∈ lw_all := lw_g (lw_at lw_m7 209 rfl) rfl
theorem q1708 : (Jvm.Cond.methodLink "java/util/PriorityQueue" (100 : Nat) ({ cls := "java/util/PriorityQueue", name := "siftUp", desc := "(ILjava/lang/Object;)V" } : Jvm.MethodName)) ∈ lw_all := lw_g (lw_at lw_m7 210 rfl) rfl
theorem q1709 : (Jvm.Cond.privateMethod ({ cls := "java/util/PriorityQueue", name := "siftUp", desc := "(ILjava/lang/Object;)V" } : Jvm.MethodName)) ∈ lw_tbl := lw_at lw_m7 211 rfl
theorem q1710 : (Jvm.Cond.instanceMethod ({ cls := "java/util/PriorityQueue", name := "siftUp", desc := "(ILjava/lang/Object;)V" } : Jvm.MethodName)) ∈ lw_all := lw_g (lw_at lw_m7 212 rfl) rfl
theorem q1711 : (Jvm.Cond.code ({ cls := "java/util/PriorityQueue", name := "siftUp", desc := "(ILjava/lang/Object;)V" } : Jvm.MethodName) prog_57_method_27_code (3 : Nat) (Option.none : Option Jvm.ClassFile.FieldType)) ∈ lw_all := lw_g (lw_at lw_m7 213 rfl) rfl
theorem q1712 : (Jvm.Cond.methodLink "java/util/PriorityQueue" (136 : Nat) ({ cls := "java/util/PriorityQueue", name := "siftUpUsingComparator", desc := "(ILjava/lang/Object;[Ljava/lang/Object;Ljava/util/Comparator;)V" } : Jvm.MethodName)) ∈ lw_all := lw_g (lw_at lw_m7 214 rfl) rfl
theorem q1713 : (Jvm.Cond.static ({ cls := "java/util/PriorityQueue", name := "siftUpUsingComparator", desc := "(ILjava/lang/Object;[Ljava/lang/Object;Ljava/util/Comparator;)V" } : Jvm.MethodName)) ∈ lw_all := lw_g (lw_at lw_m7 215 rfl) rfl
theorem q1714 : (Jvm.Cond.code ({ cls := "java/util/PriorityQueue", name := "siftUpUsingComparator", desc := "(ILjava/lang/Object;[Ljava/lang/Object;Ljava/util/Comparator;)V" } : Jvm.MethodName) prog_57_method_29_code (6 : Nat) (Option.none : Option Jvm.ClassFile.FieldType)) ∈ lw_all := lw_g (lw_at lw_m7 216 rfl) rfl
theorem q1715 : (Jvm.Cond.interfaceEntry "java/util/PriorityQueue" (149 : Nat)) ∈ lw_tbl := lw_at lw_m7 217 rfl
theorem q1716 : (Jvm.Cond.methodLink "java/util/PriorityQueue" (149 : Nat) ({ cls := "java/util/Comparator", name := "compare", desc := "(Ljava/lang/Object;Ljava/lang/Object;)I" } : Jvm.MethodName)) ∈ lw_all := lw_g (lw_at lw_m7 218 rfl) rfl
theorem q1717 : (Jvm.Cond.methodLink "java/util/PriorityQueue" (140 : Nat) ({ cls := "java/util/PriorityQueue", name := "siftUpComparable", desc := "(ILjava/lang/Object;[Ljava/lang/Object;)V" } : Jvm.MethodName)) ∈ lw_all := lw_g (lw_at lw_m7 219 rfl) rfl
theorem q1718 : (Jvm.Cond.static ({ cls := "java/util/PriorityQueue", name := "siftUpComparable", desc := "(ILjava/lang/Object;[Ljava/lang/Object;)V" } : Jvm.MethodName)) ∈ lw_all := lw_g (lw_at lw_m7 220 rfl) rfl
theorem q1719 : (Jvm.Cond.code ({ cls := "java/util/PriorityQueue", name := "siftUpComparable", desc := "(ILjava/lang/Object;[Ljava/lang/Object;)V" } : Jvm.MethodName) prog_57_method_28_code (6 : Nat) (Option.none : Option Jvm.ClassFile.FieldType)) ∈ lw_all := lw_g (lw_at lw_m7 221 rfl) rfl
theorem q1720 : (Jvm.Cond.classLink "java/util/PriorityQueue" (144 : Nat) "java/lang/Comparable") ∈ lw_all := lw_g (lw_at lw_m7 222 rfl) rfl
theorem q1721 : (Jvm.Cond.interfaceEntry "java/util/PriorityQueue" (146 : Nat)) ∈ lw_tbl := lw_at lw_m7 223 rfl
theorem q1722 : (Jvm.Cond.methodLink "java/util/PriorityQueue" (146 : Nat) ({ cls := "java/lang/Comparable", name := "compareTo", desc := "(Ljava/lang/Object;)I" } : Jvm.MethodName)) ∈ lw_all := lw_g (lw_at lw_m7 224 rfl) rfl
theorem q1723 : (Jvm.Cond.declares ({ cls := "java/util/AbstractQueue", name := "add", desc := "(Ljava/lang/Object;)Z" } : Jvm.MethodName)) ∈ lw_tbl := lw_at lw_m7 225 rfl
theorem q1724 : (Jvm.Cond.methodLink "RiddlePost$Post" (37 : Nat) ({ cls := "RiddlePost$Post", name := "<init>", desc := "(LRiddlePost$Zones;LRiddlePost$Memory;)V" } : Jvm.MethodName)) ∈ lw_all := lw_g (lw_at lw_m7 226 rfl) rfl
theorem q1725 : (Jvm.Cond.methodLink "RiddlePost" (118 : Nat) ({ cls := "RiddlePost$Post", name := "solve", desc := "(I)I" } : Jvm.MethodName)) ∈ lw_all := lw_g (lw_at lw_m7 227 rfl) rfl
theorem q1726 : (Jvm.Cond.instanceMethod ({ cls := "RiddlePost$Post", name := "solve", desc := "(I)I" } : Jvm.MethodName)) ∈ lw_all := lw_g (lw_at lw_m7 228 rfl) rfl
theorem q1727 : (Jvm.Cond.selects "RiddlePost$Post" ({ cls := "RiddlePost$Post", name := "solve", desc := "(I)I" } : Jvm.MethodName) ({ cls := "RiddlePost$Post", name := "solve", desc := "(I)I" } : Jvm.MethodName)) ∈ lw_all := lw_g (lw_at lw_m7 229 rfl) rfl
theorem q1728 : (Jvm.Cond.code ({ cls := "RiddlePost$Post", name := "solve", desc := "(I)I" } : Jvm.MethodName) prog_5_method_8_code (5 : Nat) (Option.some Jvm.ClassFile.FieldType.int)) ∈ lw_all := lw_g (lw_at lw_m7 230 rfl) rfl
theorem q1729 : (Jvm.Cond.methodLink "RiddlePost$Post" (108 : Nat) ({ cls := "RiddlePost$Post", name := "reply", desc := "(I)LRiddlePost$Note;" } : Jvm.MethodName)) ∈ lw_all := lw_g (lw_at lw_m7 231 rfl) rfl
theorem q1730 : (Jvm.Cond.privateMethod ({ cls := "RiddlePost$Post", name := "reply", desc := "(I)LRiddlePost$Note;" } : Jvm.MethodName)) ∈ lw_tbl := lw_at lw_m7 232 rfl
theorem q1731 : (Jvm.Cond.instanceMethod ({ cls := "RiddlePost$Post", name := "reply", desc := "(I)LRiddlePost$Note;" } : Jvm.MethodName)) ∈ lw_all := lw_g (lw_at lw_m7 233 rfl) rfl
theorem q1732 : (Jvm.Cond.code ({ cls := "RiddlePost$Post", name := "reply", desc := "(I)LRiddlePost$Note;" } : Jvm.MethodName) prog_5_method_7_code (3 : Nat) (Option.some (Jvm.ClassFile.FieldType.object "RiddlePost$Note"))) ∈ lw_all := lw_g (lw_at lw_m7 234 rfl) rfl
theorem q1733 : (Jvm.Cond.methodLink "RiddlePost$Post" (54 : Nat) ({ cls := "RiddlePost$Memory", name := "of", desc := "(ZI)LRiddlePost$Note;" } : Jvm.MethodName)) ∈ lw_all := lw_g (lw_at lw_m7 235 rfl) rfl
theorem q1734 : (Jvm.Cond.methodLink "RiddlePost$Post" (104 : Nat) ({ cls := "RiddlePost$Post", name := "ask", desc := "(I)LRiddlePost$Note;" } : Jvm.MethodName)) ∈ lw_all := lw_g (lw_at lw_m7 236 rfl) rfl
theorem q1735 : (Jvm.Cond.privateMethod ({ cls := "RiddlePost$Post", name := "ask", desc := "(I)LRiddlePost$Note;" } : Jvm.MethodName)) ∈ lw_tbl := lw_at lw_m7 237 rfl
theorem q1736 : (Jvm.Cond.instanceMethod ({ cls := "RiddlePost$Post", name := "ask", desc := "(I)LRiddlePost$Note;" } : Jvm.MethodName)) ∈ lw_all := lw_g (lw_at lw_m7 238 rfl) rfl
theorem q1737 : (Jvm.Cond.code ({ cls := "RiddlePost$Post", name := "ask", desc := "(I)LRiddlePost$Note;" } : Jvm.MethodName) prog_5_method_6_code (7 : Nat) (Option.some (Jvm.ClassFile.FieldType.object "RiddlePost$Note"))) ∈ lw_all := lw_g (lw_at lw_m7 239 rfl) rfl
theorem q1738 : (Jvm.Cond.methodLink "RiddlePost$Post" (50 : Nat) ({ cls := "RiddlePost$Zones", name := "way", desc := "(I)Ljava/util/TreeSet;" } : Jvm.MethodName)) ∈ lw_all := lw_g (lw_at lw_m8 0 rfl) rfl
theorem q1739 : (Jvm.Cond.instanceMethod ({ cls := "RiddlePost$Zones", name := "way", desc := "(I)Ljava/util/TreeSet;" } : Jvm.MethodName)) ∈ lw_all := lw_g (lw_at lw_m8 1 rfl) rfl
theorem q1740 : (Jvm.Cond.selects "RiddlePost$Zones" ({ cls := "RiddlePost$Zones", name := "way", desc := "(I)Ljava/util/TreeSet;" } : Jvm.MethodName) ({ cls := "RiddlePost$Zones", name := "way", desc := "(I)Ljava/util/TreeSet;" } : Jvm.MethodName)) ∈ lw_all := lw_g (lw_at lw_m8 2 rfl) rfl
theorem q1741 : (Jvm.Cond.code ({ cls := "RiddlePost$Zones", name := "way", desc := "(I)Ljava/util/TreeSet;" } : Jvm.MethodName) prog_9_method_6_code (4 : Nat) (Option.some (Jvm.ClassFile.FieldType.object "java/util/TreeSet"))) ∈ lw_all := lw_g (lw_at lw_m8 3 rfl) rfl
theorem q1742 : (Jvm.Cond.classLink "RiddlePost$Zones" (31 : Nat) "java/util/TreeSet") ∈ lw_all := lw_g (lw_at lw_m8 4 rfl) rfl
theorem q1743 : (Jvm.Cond.instantiable "java/util/TreeSet" (1 : Nat)) ∈ lw_all := lw_g (lw_at lw_m8 5 rfl) rfl
theorem q1744 : (Jvm.Cond.methodLink "RiddlePost$Zones" (33 : Nat) ({ cls := "java/util/TreeSet", name := "<init>", desc := "()V" } : Jvm.MethodName)) ∈ lw_all := lw_g (lw_at lw_m8 6 rfl) rfl
theorem q1745 : (Jvm.Cond.instanceMethod ({ cls := "java/util/TreeSet", name := "<init>", desc := "()V" } : Jvm.MethodName)) ∈ lw_all := lw_g (lw_at lw_m8 7 rfl) rfl
theorem q1746 : (Jvm.Cond.code ({ cls := "java/util/TreeSet", name := "<init>", desc := "()V" } : Jvm.MethodName) prog_75_method_2_code (1 : Nat) (Option.none : Option Jvm.ClassFile.FieldType)) ∈ lw_all := lw_g (lw_at lw_m8 8 rfl) rfl
theorem q1747 : (Jvm.Cond.classLink "java/util/TreeSet" (13 : Nat) "java/util/TreeMap") ∈ lw_all := lw_g (lw_at lw_m8 9 rfl) rfl
theorem q1748 : (Jvm.Cond.methodLink "java/util/TreeSet" (15 : Nat) ({ cls := "java/util/TreeMap", name := "<init>", desc := "()V" } : Jvm.MethodName)) ∈ lw_all := lw_g (lw_at lw_m8 10 rfl) rfl
theorem q1749 : (Jvm.Cond.methodLink "java/util/TreeSet" (16 : Nat) ({ cls := "java/util/TreeSet", name := "<init>", desc := "(Ljava/util/NavigableMap;)V" } : Jvm.MethodName)) ∈ lw_all := lw_g (lw_at lw_m8 11 rfl) rfl
theorem q1750 : (Jvm.Cond.instanceMethod ({ cls := "java/util/TreeSet", name := "<init>", desc := "(Ljava/util/NavigableMap;)V" } : Jvm.MethodName)) ∈ lw_all := lw_g (lw_at lw_m8 12 rfl) rfl
theorem q1751 : (Jvm.Cond.code ({ cls := "java/util/TreeSet", name := "<init>", desc := "(Ljava/util/NavigableMap;)V" } : Jvm.MethodName) prog_75_method_1_code (2 : Nat) (Option.none : Option Jvm.ClassFile.FieldType)) ∈ lw_all := lw_g (lw_at lw_m8 13 rfl) rfl
theorem q1752 : (Jvm.Cond.methodLink "java/util/TreeSet" (1 : Nat) ({ cls := "java/util/AbstractSet", name := "<init>", desc := "()V" } : Jvm.MethodName)) ∈ lw_all := lw_g (lw_at lw_m8 14 rfl) rfl
theorem q1753 : (Jvm.Cond.fieldLink "java/util/TreeSet" (7 : Nat) "java/util/TreeSet" "m" "Ljava/util/NavigableMap;") ∈ lw_all := lw_g (lw_at lw_m8 15 rfl) rfl
theorem q1754 : (Jvm.Cond.lays "java/util/TreeSet" "java/util/TreeSet" "m" "Ljava/util/NavigableMap;") ∈ lw_all := lw_g (lw_at lw_m8 16 rfl) rfl
theorem q1755 : (Jvm.Cond.soleField "java/util/TreeSet" "m") ∈ lw_all := lw_g (lw_at lw_m8 17 rfl) rfl
theorem q1756 : (Jvm.Cond.superclass "java/util/TreeSet" "java/util/AbstractSet") ∈ lw_all := lw_g (lw_at lw_m8 18 rfl) rfl
theorem q1757 : (Jvm.Cond.methodLink "RiddlePost$Zones" (34 : Nat) ({ cls := "java/lang/Integer", name := "valueOf", desc := "(I)Ljava/lang/Integer;" } : Jvm.MethodName)) ∈ lw_all := lw_g (lw_at lw_m8 19 rfl) rfl
theorem q1758 : (Jvm.Cond.static ({ cls := "java/lang/Integer", name := "valueOf", desc := "(I)Ljava/lang/Integer;" } : Jvm.MethodName)) ∈ lw_all := lw_g (lw_at lw_m8 20 rfl) rfl
theorem q1759 : (Jvm.Cond.code ({ cls := "java/lang/Integer", name := "valueOf", desc := "(I)Ljava/lang/Integer;" } : Jvm.MethodName) prog_23_method_22_code (1 : Nat) (Option.some (Jvm.ClassFile.FieldType.object "java/lang/Integer"))) ∈ lw_all := lw_g (lw_at lw_m8 21 rfl) rfl
theorem q1760 : (Jvm.Cond.fieldLink "java/lang/Integer" (191 : Nat) "java/lang/Integer$IntegerCache" "high" "I") ∈ lw_all := lw_g (lw_at lw_m8 22 rfl) rfl
theorem q1761 : (Jvm.Cond.laysStatic "java/lang/Integer$IntegerCache" "high" "I") ∈ lw_tbl := lw_at lw_m8 23 rfl
theorem q1762 : (Jvm.Cond.fieldLink "java/lang/Integer" (195 : Nat) "java/lang/Integer$IntegerCache" "cache" "[Ljava/lang/Integer;") ∈ lw_all := lw_g (lw_at lw_m8 24 rfl) rfl
theorem q1763 : (Jvm.Cond.laysStatic "java/lang/Integer$IntegerCache" "cache" "[Ljava/lang/Integer;") ∈ lw_tbl := lw_at lw_m8 25 rfl
theorem q1764 : (Jvm.Cond.instantiable "java/lang/Integer" (1 : Nat)) ∈ lw_all := lw_g (lw_at lw_m8 26 rfl) rfl
theorem q1765 : (Jvm.Cond.methodLink "java/lang/Integer" (199 : Nat) ({ cls := "java/lang/Integer", name := "<init>", desc := "(I)V" } : Jvm.MethodName)) ∈ lw_all := lw_g (lw_at lw_m8 27 rfl) rfl
theorem q1766 : (Jvm.Cond.instanceMethod ({ cls := "java/lang/Integer", name := "<init>", desc := "(I)V" } : Jvm.MethodName)) ∈ lw_all := lw_g (lw_at lw_m8 28 rfl) rfl
theorem q1767 : (Jvm.Cond.code ({ cls := "java/lang/Integer", name := "<init>", desc := "(I)V" } : Jvm.MethodName) prog_23_method_23_code (2 : Nat) (Option.none : Option Jvm.ClassFile.FieldType)) ∈ lw_all := lw_g (lw_at lw_m8 29 rfl) rfl
theorem q1768 : (Jvm.Cond.methodLink "java/lang/Integer" (202 : Nat) ({ cls := "java/lang/Number", name := "<init>", desc := "()V" } : Jvm.MethodName)) ∈ lw_all := lw_g (lw_at lw_m8 30 rfl) rfl
theorem q1769 : (Jvm.Cond.instanceMethod ({ cls := "java/lang/Number", name := "<init>", desc := "()V" } : Jvm.MethodName)) ∈ lw_all := lw_g (lw_at lw_m8 31 rfl) rfl
theorem q1770 : (Jvm.Cond.code ({ cls := "java/lang/Number", name := "<init>", desc := "()V" } : Jvm.MethodName) prog_28_method_1_code (1 : Nat) (Option.none : Option Jvm.ClassFile.FieldType)) ∈ lw_all := lw_g (lw_at lw_m8 32 rfl) rfl
theorem q1771 : (Jvm.Cond.methodLink "java/lang/Number" (1 : Nat) ({ cls := "java/lang/Object", name := "<init>", desc := "()V" } : Jvm.MethodName)) ∈ lw_all := lw_g (lw_at lw_m8 33 rfl) rfl
theorem q1772 : (Jvm.Cond.fieldLink "java/lang/Integer" (205 : Nat) "java/lang/Integer" "value" "I") ∈ lw_all := lw_g (lw_at lw_m8 34 rfl) rfl
theorem q1773 : (Jvm.Cond.laysFinal "java/lang/Integer" "java/lang/Integer" "value" "I") ∈ lw_all := lw_g (lw_at lw_m8 35 rfl) rfl
theorem q1774 : (Jvm.Cond.soleField "java/lang/Integer" "value") ∈ lw_all := lw_g (lw_at lw_m8 36 rfl) rfl
theorem q1775 : (Jvm.Cond.superclass "java/lang/Integer" "java/lang/Number") ∈ lw_all := lw_g (lw_at lw_m8 37 rfl) rfl
theorem q1776 : (Jvm.Cond.methodLink "RiddlePost$Zones" (40 : Nat) ({ cls := "java/util/TreeSet", name := "add", desc := "(Ljava/lang/Object;)Z" } : Jvm.MethodName)) ∈ lw_all := lw_g (lw_at lw_m8 38 rfl) rfl
theorem q1777 : (Jvm.Cond.instanceMethod ({ cls := "java/util/TreeSet", name := "add", desc := "(Ljava/lang/Object;)Z" } : Jvm.MethodName)) ∈ lw_all := lw_g (lw_at lw_m8 39 rfl) rfl
theorem q1778 : (Jvm.Cond.selects "java/util/TreeSet" ({ cls := "java/util/TreeSet", name := "add", desc := "(Ljava/lang/Object;)Z" } : Jvm.MethodName) ({ cls := "java/util/TreeSet", name := "add", desc := "(Ljava/lang/Object;)Z" } : Jvm.MethodName)) ∈ lw_all := lw_g (lw_at lw_m8 40 rfl) rfl
theorem q1779 : (Jvm.Cond.code ({ cls := "java/util/TreeSet", name := "add", desc := "(Ljava/lang/Object;)Z" } : Jvm.MethodName) prog_75_method_12_code (2 : Nat) (Option.some Jvm.ClassFile.FieldType.boolean)) ∈ lw_all := lw_g (lw_at lw_m8 41 rfl) rfl
theorem q1780 : (Jvm.Cond.fieldLink "java/util/TreeSet" (65 : Nat) "java/util/TreeSet" "PRESENT" "Ljava/lang/Object;") ∈ lw_all := lw_g (lw_at lw_m8 42 rfl) rfl
theorem q1781 : (Jvm.Cond.laysStatic "java/util/TreeSet" "PRESENT" "Ljava/lang/Object;") ∈ lw_tbl := lw_at lw_m8 43 rfl
theorem q1782 : (Jvm.Cond.interfaceEntry "java/util/TreeSet" (69 : Nat)) ∈ lw_tbl := lw_at lw_m8 44 rfl
theorem q1783 : (Jvm.Cond.publicMethod ({ cls := "java/util/Map", name := "put", desc := "(Ljava/lang/Object;Ljava/lang/Object;)Ljava/lang/Object;" } : Jvm.MethodName)) ∈ lw_tbl := lw_at lw_m8 45 rfl
theorem q1784 : (Jvm.Cond.declares ({ cls := "java/util/Map", name := "put", desc := "(Ljava/lang/Object;Ljava/lang/Object;)Ljava/lang/Object;" } : Jvm.MethodName)) ∈ lw_tbl := lw_at lw_m8 46 rfl
theorem q1785 : (Jvm.Cond.selects "java/util/TreeMap" ({ cls := "java/util/Map", name := "put", desc := "(Ljava/lang/Object;Ljava/lang/Object;)Ljava/lang/Object;" } : Jvm.MethodName) ({ cls := "java/util/TreeMap", name := "put", desc := "(Ljava/lang/Object;Ljava/lang/Object;)Ljava/lang/Object;" } : Jvm.MethodName)) ∈ lw_all := lw_g (lw_at lw_m8 47 rfl) rfl
theorem q1786 : (Jvm.Cond.unhidden "java/util/TreeMap" "put" "(Ljava/lang/Object;Ljava/lang/Object;)Ljava/lang/Object;") ∈ lw_tbl := lw_at lw_m8 48 rfl
theorem q1787 : (Jvm.Cond.publicMethod ({ cls := "java/util/TreeMap", name := "put", desc := "(Ljava/lang/Object;Ljava/lang/Object;)Ljava/lang/Object;" } : Jvm.MethodName)) ∈ lw_tbl := lw_at lw_m8 49 rfl
theorem q1788 : (Jvm.Cond.methodLink "RiddlePost$Post" (61 : Nat) ({ cls := "java/util/TreeSet", name := "iterator", desc := "()Ljava/util/Iterator;" } : Jvm.MethodName)) ∈ lw_all := lw_g (lw_at lw_m8 50 rfl) rfl
theorem q1789 : (Jvm.Cond.interfaceEntry "RiddlePost$Post" (67 : Nat)) ∈ lw_tbl := lw_at lw_m8 51 rfl
theorem q1790 : (Jvm.Cond.methodLink "RiddlePost$Post" (67 : Nat) ({ cls := "java/util/Iterator", name := "hasNext", desc := "()Z" } : Jvm.MethodName)) ∈ lw_all := lw_g (lw_at lw_m8 52 rfl) rfl
theorem q1791 : (Jvm.Cond.interfaceEntry "RiddlePost$Post" (73 : Nat)) ∈ lw_tbl := lw_at lw_m8 53 rfl
theorem q1792 : (Jvm.Cond.methodLink "RiddlePost$Post" (73 : Nat) ({ cls := "java/util/Iterator", name := "next", desc := "()Ljava/lang/Object;" } : Jvm.MethodName)) ∈ lw_all := lw_g (lw_at lw_m8 54 rfl) rfl
theorem q1793 : (Jvm.Cond.classLink "RiddlePost$Post" (77 : Nat) "java/lang/Integer") ∈ lw_all := lw_g (lw_at lw_m8 55 rfl) rfl
theorem q1794 : (Jvm.Cond.methodLink "RiddlePost$Post" (79 : Nat) ({ cls := "java/lang/Integer", name := "intValue", desc := "()I" } : Jvm.MethodName)) ∈ lw_all := lw_g (lw_at lw_m8 56 rfl) rfl
theorem q1795 : (Jvm.Cond.classLink "RiddlePost$Post" (83 : Nat) "RiddlePost$Note") ∈ lw_all := lw_g (lw_at lw_m8 57 rfl) rfl
theorem q1796 : (Jvm.Cond.instantiable "RiddlePost$Note" (4 : Nat)) ∈ lw_all := lw_g (lw_at lw_m8 58 rfl) rfl
theorem q1797 : (Jvm.Cond.classLink "RiddlePost$Post" (85 : Nat) "RiddlePost$Topic") ∈ lw_all := lw_g (lw_at lw_m8 59 rfl) rfl
theorem q1798 : (Jvm.Cond.methodLink "RiddlePost$Post" (87 : Nat) ({ cls := "RiddlePost$Topic", name := "<init>", desc := "(ZI)V" } : Jvm.MethodName)) ∈ lw_all := lw_g (lw_at lw_m8 60 rfl) rfl
theorem q1799 : (Jvm.Cond.methodLink "RiddlePost$Post" (93 : Nat) ({ cls := "RiddlePost$Note", name := "<init>", desc := "(LRiddlePost$Topic;III)V" } : Jvm.MethodName)) ∈ lw_all := lw_g (lw_at lw_m8 61 rfl) rfl
theorem q1800 : (Jvm.Cond.instanceMethod ({ cls := "RiddlePost$Note", name := "<init>", desc := "(LRiddlePost$Topic;III)V" } : Jvm.MethodName)) ∈ lw_all := lw_g (lw_at lw_m8 62 rfl) rfl
theorem q1801 : (Jvm.Cond.code ({ cls := "RiddlePost$Note", name := "<init>", desc := "(LRiddlePost$Topic;III)V" } : Jvm.MethodName) prog_4_method_1_code (5 : Nat) (Option.none : Option Jvm.ClassFile.FieldType)) ∈ lw_all := lw_g (lw_at lw_m8 63 rfl) rfl
theorem q1802 : (Jvm.Cond.methodLink "RiddlePost$Note" (1 : Nat) ({ cls := "java/lang/Object", name := "<init>", desc := "()V" } : Jvm.MethodName)) ∈ lw_all := lw_g (lw_at lw_m8 64 rfl) rfl
theorem q1803 : (Jvm.Cond.fieldLink "RiddlePost$Note" (7 : Nat) "RiddlePost$Note" "topic" "LRiddlePost$Topic;") ∈ lw_all := lw_g (lw_at lw_m8 65 rfl) rfl
theorem q1804 : (Jvm.Cond.fieldLinkNest "RiddlePost$Sooner" (19 : Nat) "RiddlePost$Note" "topic" "LRiddlePost$Topic;" "RiddlePost") ∈ lw_tbl := lw_at lw_m8 66 rfl
theorem q1805 : (Jvm.Cond.fieldLinkNest "RiddlePost$Memory" (44 : Nat) "RiddlePost$Note" "topic" "LRiddlePost$Topic;" "RiddlePost") ∈ lw_tbl := lw_at lw_m8 67 rfl
theorem q1806 : (Jvm.Cond.fieldLink "RiddlePost$Note" (13 : Nat) "RiddlePost$Note" "kind" "I") ∈ lw_all := lw_g (lw_at lw_m8 68 rfl) rfl
theorem q1807 : (Jvm.Cond.fieldLinkNest "RiddlePost$Post" (110 : Nat) "RiddlePost$Note" "kind" "I" "RiddlePost") ∈ lw_tbl := lw_at lw_m8 69 rfl
theorem q1808 : (Jvm.Cond.fieldLinkNest "RiddlePost" (134 : Nat) "RiddlePost$Note" "kind" "I" "RiddlePost") ∈ lw_tbl := lw_at lw_m8 70 rfl
theorem q1809 : (Jvm.Cond.fieldLink "RiddlePost$Note" (17 : Nat) "RiddlePost$Note" "value" "I") ∈ lw_all := lw_g (lw_at lw_m8 71 rfl) rfl
theorem q1810 : (Jvm.Cond.fieldLinkNest "RiddlePost$Post" (113 : Nat) "RiddlePost$Note" "value" "I" "RiddlePost") ∈ lw_tbl := lw_at lw_m8 72 rfl
theorem q1811 : (Jvm.Cond.fieldLinkNest "RiddlePost" (189 : Nat) "RiddlePost$Note" "value" "I" "RiddlePost") ∈ lw_tbl := lw_at lw_m8 73 rfl
theorem q1812 : (Jvm.Cond.fieldLink "RiddlePost$Note" (20 : Nat) "RiddlePost$Note" "end" "I") ∈ lw_all := lw_g (lw_at lw_m8 74 rfl) rfl
theorem q1813 : (Jvm.Cond.fieldLinkNest "RiddlePost$Sooner" (7 : Nat) "RiddlePost$Note" "end" "I" "RiddlePost") ∈ lw_tbl := lw_at lw_m8 75 rfl
theorem q1814 : (Jvm.Cond.fieldLinkNest "RiddlePost$Memory" (80 : Nat) "RiddlePost$Note" "end" "I" "RiddlePost") ∈ lw_tbl := lw_at lw_m8 76 rfl
theorem q1815 : (Jvm.Cond.fieldLinkNest "RiddlePost" (155 : Nat) "RiddlePost$Note" "end" "I" "RiddlePost") ∈ lw_tbl := lw_at lw_m8 77 rfl
theorem q1816 : (Jvm.Cond.laysFinal "RiddlePost$Note" "RiddlePost$Note" "topic" "LRiddlePost$Topic;") ∈ lw_all := lw_g (lw_at lw_m8 78 rfl) rfl
theorem q1817 : (Jvm.Cond.soleField "RiddlePost$Note" "topic") ∈ lw_all := lw_g (lw_at lw_m8 79 rfl) rfl
theorem q1818 : (Jvm.Cond.laysFinal "RiddlePost$Note" "RiddlePost$Note" "kind" "I") ∈ lw_all := lw_g (lw_at lw_m8 80 rfl) rfl
theorem q1819 : (Jvm.Cond.soleField "RiddlePost$Note" "kind") ∈ lw_all := lw_g (lw_at lw_m8 81 rfl) rfl
theorem q1820 : (Jvm.Cond.laysFinal "RiddlePost$Note" "RiddlePost$Note" "value" "I") ∈ lw_all := lw_g (lw_at lw_m8 82 rfl) rfl
theorem q1821 : (Jvm.Cond.soleField "RiddlePost$Note" "value") ∈ lw_all := lw_g (lw_at lw_m8 83 rfl) rfl
theorem q1822 : (Jvm.Cond.laysFinal "RiddlePost$Note" "RiddlePost$Note" "end" "I") ∈ lw_all := lw_g (lw_at lw_m8 84 rfl) rfl
theorem q1823 : (Jvm.Cond.soleField "RiddlePost$Note" "end") ∈ lw_all := lw_g (lw_at lw_m8 85 rfl) rfl
theorem q1824 : (Jvm.Cond.superclass "RiddlePost$Note" "java/lang/Object") ∈ lw_all := lw_g (lw_at lw_m8 86 rfl) rfl
theorem q1825 : (Jvm.Cond.methodLink "RiddlePost$Post" (96 : Nat) ({ cls := "RiddlePost$Memory", name := "remember", desc := "(LRiddlePost$Note;)V" } : Jvm.MethodName)) ∈ lw_all := lw_g (lw_at lw_m8 87 rfl) rfl
theorem q1826 : (Jvm.Cond.instanceMethod ({ cls := "RiddlePost$Memory", name := "remember", desc := "(LRiddlePost$Note;)V" } : Jvm.MethodName)) ∈ lw_all := lw_g (lw_at lw_m8 88 rfl) rfl
theorem q1827 : (Jvm.Cond.selects "RiddlePost$Memory" ({ cls := "RiddlePost$Memory", name := "remember", desc := "(LRiddlePost$Note;)V" } : Jvm.MethodName) ({ cls := "RiddlePost$Memory", name := "remember", desc := "(LRiddlePost$Note;)V" } : Jvm.MethodName)) ∈ lw_all := lw_g (lw_at lw_m8 89 rfl) rfl
theorem q1828 : (Jvm.Cond.code ({ cls := "RiddlePost$Memory", name := "remember", desc := "(LRiddlePost$Note;)V" } : Jvm.MethodName) prog_3_method_3_code (2 : Nat) (Option.none : Option Jvm.ClassFile.FieldType)) ∈ lw_all := lw_g (lw_at lw_m8 90 rfl) rfl
theorem q1829 : (Jvm.Cond.methodLink "RiddlePost$Memory" (50 : Nat) ({ cls := "java/util/TreeMap", name := "put", desc := "(Ljava/lang/Object;Ljava/lang/Object;)Ljava/lang/Object;" } : Jvm.MethodName)) ∈ lw_all := lw_g (lw_at lw_m8 91 rfl) rfl
theorem q1830 : (Jvm.Cond.methodLink "RiddlePost$Memory" (54 : Nat) ({ cls := "java/util/PriorityQueue", name := "add", desc := "(Ljava/lang/Object;)Z" } : Jvm.MethodName)) ∈ lw_all := lw_g (lw_at lw_m8 92 rfl) rfl
theorem q1831 : (Jvm.Cond.methodLink "RiddlePost$Post" (100 : Nat) ({ cls := "RiddlePost$Zones", name := "reply", desc := "(II)LRiddlePost$Note;" } : Jvm.MethodName)) ∈ lw_all := lw_g (lw_at lw_m8 93 rfl) rfl
theorem q1832 : (Jvm.Cond.instanceMethod ({ cls := "RiddlePost$Zones", name := "reply", desc := "(II)LRiddlePost$Note;" } : Jvm.MethodName)) ∈ lw_all := lw_g (lw_at lw_m8 94 rfl) rfl
theorem q1833 : (Jvm.Cond.selects "RiddlePost$Zones" ({ cls := "RiddlePost$Zones", name := "reply", desc := "(II)LRiddlePost$Note;" } : Jvm.MethodName) ({ cls := "RiddlePost$Zones", name := "reply", desc := "(II)LRiddlePost$Note;" } : Jvm.MethodName)) ∈ lw_all := lw_g (lw_at lw_m8 95 rfl) rfl
theorem q1834 : (Jvm.Cond.code ({ cls := "RiddlePost$Zones", name := "reply", desc := "(II)LRiddlePost$Note;" } : Jvm.MethodName) prog_9_method_7_code (5 : Nat) (Option.some (Jvm.ClassFile.FieldType.object "RiddlePost$Note"))) ∈ lw_all := lw_g (lw_at lw_m8 96 rfl) rfl
theorem q1835 : (Jvm.Cond.classLink "RiddlePost$Zones" (44 : Nat) "RiddlePost$Note") ∈ lw_all := lw_g (lw_at lw_m8 97 rfl) rfl
theorem q1836 : (Jvm.Cond.classLink "RiddlePost$Zones" (46 : Nat) "RiddlePost$Topic") ∈ lw_all := lw_g (lw_at lw_m8 98 rfl) rfl
theorem q1837 : (Jvm.Cond.methodLink "RiddlePost$Zones" (48 : Nat) ({ cls := "RiddlePost$Topic", name := "<init>", desc := "(ZI)V" } : Jvm.MethodName)) ∈ lw_all := lw_g (lw_at lw_m8 99 rfl) rfl
theorem q1838 : (Jvm.Cond.methodLink "RiddlePost$Zones" (51 : Nat) ({ cls := "RiddlePost$Note", name := "<init>", desc := "(LRiddlePost$Topic;III)V" } : Jvm.MethodName)) ∈ lw_all := lw_g (lw_at lw_m8 100 rfl) rfl
theorem q1839 : (Jvm.Cond.methodLink "RiddlePost" (152 : Nat) ({ cls := "RiddlePost$Zones", name := "truth", desc := "(I)I" } : Jvm.MethodName)) ∈ lw_all := lw_g (lw_at lw_m8 101 rfl) rfl
theorem q1840 : (Jvm.Cond.instanceMethod ({ cls := "RiddlePost$Zones", name := "truth", desc := "(I)I" } : Jvm.MethodName)) ∈ lw_all := lw_g (lw_at lw_m8 102 rfl) rfl
theorem q1841 : (Jvm.Cond.selects "RiddlePost$Zones" ({ cls := "RiddlePost$Zones", name := "truth", desc := "(I)I" } : Jvm.MethodName) ({ cls := "RiddlePost$Zones", name := "truth", desc := "(I)I" } : Jvm.MethodName)) ∈ lw_all := lw_g (lw_at lw_m8 103 rfl) rfl
theorem q1842 : (Jvm.Cond.code ({ cls := "RiddlePost$Zones", name := "truth", desc := "(I)I" } : Jvm.MethodName) prog_9_method_8_code (4 : Nat) (Option.some Jvm.ClassFile.FieldType.int)) ∈ lw_all := lw_g (lw_at lw_m8 104 rfl) rfl
theorem q1843 : (Jvm.Cond.methodLink "RiddlePost" (273 : Nat) ({ cls := "RiddlePost", name := "rememberedOf", desc := "(I)I" } : Jvm.MethodName)) ∈ lw_all := lw_g (lw_at lw_m8 105 rfl) rfl
theorem q1844 : (Jvm.Cond.instanceMethod ({ cls := "RiddlePost", name := "rememberedOf", desc := "(I)I" } : Jvm.MethodName)) ∈ lw_all := lw_g (lw_at lw_m8 106 rfl) rfl
theorem q1845 : (Jvm.Cond.selects "RiddlePost" ({ cls := "RiddlePost", name := "rememberedOf", desc := "(I)I" } : Jvm.MethodName) ({ cls := "RiddlePost", name := "rememberedOf", desc := "(I)I" } : Jvm.MethodName)) ∈ lw_all := lw_g (lw_at lw_m8 107 rfl) rfl
theorem q1846 : (Jvm.Cond.code ({ cls := "RiddlePost", name := "rememberedOf", desc := "(I)I" } : Jvm.MethodName) prog_1_method_24_code (3 : Nat) (Option.some Jvm.ClassFile.FieldType.int)) ∈ lw_all := lw_g (lw_at lw_m8 108 rfl) rfl
theorem q1847 : (Jvm.Cond.methodLink "RiddlePost" (108 : Nat) ({ cls := "RiddlePost", name := "checkRiddle", desc := "(I)V" } : Jvm.MethodName)) ∈ lw_all := lw_g (lw_at lw_m8 109 rfl) rfl
theorem q1848 : (Jvm.Cond.static ({ cls := "RiddlePost", name := "checkRiddle", desc := "(I)V" } : Jvm.MethodName)) ∈ lw_all := lw_g (lw_at lw_m8 110 rfl) rfl
theorem q1849 : (Jvm.Cond.code ({ cls := "RiddlePost", name := "checkRiddle", desc := "(I)V" } : Jvm.MethodName) prog_1_method_9_code (1 : Nat) (Option.none : Option Jvm.ClassFile.FieldType)) ∈ lw_all := lw_g (lw_at lw_m8 111 rfl) rfl
theorem q1850 : (Jvm.Cond.methodLink "RiddlePost" (276 : Nat) ({ cls := "RiddlePost", name := "ticksLeftOf", desc := "(I)I" } : Jvm.MethodName)) ∈ lw_all := lw_g (lw_at lw_m8 112 rfl) rfl
theorem q1851 : (Jvm.Cond.instanceMethod ({ cls := "RiddlePost", name := "ticksLeftOf", desc := "(I)I" } : Jvm.MethodName)) ∈ lw_all := lw_g (lw_at lw_m8 113 rfl) rfl
theorem q1852 : (Jvm.Cond.selects "RiddlePost" ({ cls := "RiddlePost", name := "ticksLeftOf", desc := "(I)I" } : Jvm.MethodName) ({ cls := "RiddlePost", name := "ticksLeftOf", desc := "(I)I" } : Jvm.MethodName)) ∈ lw_all := lw_g (lw_at lw_m8 114 rfl) rfl
theorem q1853 : (Jvm.Cond.code ({ cls := "RiddlePost", name := "ticksLeftOf", desc := "(I)I" } : Jvm.MethodName) prog_1_method_26_code (2 : Nat) (Option.some Jvm.ClassFile.FieldType.int)) ∈ lw_all := lw_g (lw_at lw_m8 115 rfl) rfl
theorem q1854 : (Jvm.Cond.methodLink "RiddlePost" (279 : Nat) ({ cls := "RiddlePost", name := "isOutOfDate", desc := "(I)Z" } : Jvm.MethodName)) ∈ lw_all := lw_g (lw_at lw_m8 116 rfl) rfl
theorem q1855 : (Jvm.Cond.instanceMethod ({ cls := "RiddlePost", name := "isOutOfDate", desc := "(I)Z" } : Jvm.MethodName)) ∈ lw_all := lw_g (lw_at lw_m8 117 rfl) rfl
theorem q1856 : (Jvm.Cond.selects "RiddlePost" ({ cls := "RiddlePost", name := "isOutOfDate", desc := "(I)Z" } : Jvm.MethodName) ({ cls := "RiddlePost", name := "isOutOfDate", desc := "(I)Z" } : Jvm.MethodName)) ∈ lw_all := lw_g (lw_at lw_m8 118 rfl) rfl
theorem q1857 : (Jvm.Cond.code ({ cls := "RiddlePost", name := "isOutOfDate", desc := "(I)Z" } : Jvm.MethodName) prog_1_method_31_code (4 : Nat) (Option.some Jvm.ClassFile.FieldType.boolean)) ∈ lw_all := lw_g (lw_at lw_m8 119 rfl) rfl
theorem q1858 : (Jvm.Cond.methodLink "RiddlePost" (185 : Nat) ({ cls := "RiddlePost$Zones", name := "reply", desc := "(II)LRiddlePost$Note;" } : Jvm.MethodName)) ∈ lw_all := lw_g (lw_at lw_m8 120 rfl) rfl
theorem q1859 : (Jvm.Cond.methodLink "RiddlePostLaw" (96 : Nat) ({ cls := "RiddlePostLaw", name := "setParent", desc := "(LRiddlePost;II[J)I" } : Jvm.MethodName)) ∈ lw_all := lw_g (lw_at lw_m8 121 rfl) rfl
theorem q1860 : (Jvm.Cond.static ({ cls := "RiddlePostLaw", name := "setParent", desc := "(LRiddlePost;II[J)I" } : Jvm.MethodName)) ∈ lw_all := lw_g (lw_at lw_m8 122 rfl) rfl
theorem q1861 : (Jvm.Cond.codeWith ({ cls := "RiddlePostLaw", name := "setParent", desc := "(LRiddlePost;II[J)I" } : Jvm.MethodName) method_3_code (5 : Nat) (Option.some Jvm.ClassFile.FieldType.int) [((0 : Nat), (10 : Nat), (13 : Nat), (13 : Nat)), ((0 : Nat), (10 : Nat), (17 : Nat), (15 : Nat))]) ∈ lw_all := lw_g (lw_at lw_m8 123 rfl) rfl
theorem q1862 : (Jvm.Cond.classLink "RiddlePostLaw" (13 : Nat) "java/lang/IndexOutOfBoundsException") ∈ lw_all := lw_g (lw_at lw_m8 124 rfl) rfl
theorem q1863 : (Jvm.Cond.instanceMethod ({ cls := "java/lang/ArrayIndexOutOfBoundsException", name := "<init>", desc := "(Ljava/lang/String;)V" } : Jvm.MethodName)) ∈ lw_all := lw_g (lw_at lw_m8 125 rfl) rfl
theorem q1864 : (Jvm.Cond.code ({ cls := "java/lang/ArrayIndexOutOfBoundsException", name := "<init>", desc := "(Ljava/lang/String;)V" } : Jvm.MethodName) prog_15_method_2_code (2 : Nat) (Option.none : Option Jvm.ClassFile.FieldType)) ∈ lw_all := lw_g (lw_at lw_m8 126 rfl) rfl
theorem q1865 : (Jvm.Cond.classLink "RiddlePostLaw" (15 : Nat) "java/lang/IllegalArgumentException") ∈ lw_all := lw_g (lw_at lw_m8 127 rfl) rfl
theorem q1866 : (Jvm.Cond.methodLink "RiddlePostLaw" (7 : Nat) ({ cls := "RiddlePost", name := "setParent", desc := "(II)I" } : Jvm.MethodName)) ∈ lw_all := lw_g (lw_at lw_m8 128 rfl) rfl
theorem q1867 : (Jvm.Cond.instanceMethod ({ cls := "RiddlePost", name := "setParent", desc := "(II)I" } : Jvm.MethodName)) ∈ lw_all := lw_g (lw_at lw_m8 129 rfl) rfl
theorem q1868 : (Jvm.Cond.selects "RiddlePost" ({ cls := "RiddlePost", name := "setParent", desc := "(II)I" } : Jvm.MethodName) ({ cls := "RiddlePost", name := "setParent", desc := "(II)I" } : Jvm.MethodName)) ∈ lw_all := lw_g (lw_at lw_m8 130 rfl) rfl
theorem q1869 : (Jvm.Cond.code ({ cls := "RiddlePost", name := "setParent", desc := "(II)I" } : Jvm.MethodName) prog_1_method_10_code (4 : Nat) (Option.some Jvm.ClassFile.FieldType.int)) ∈ lw_all := lw_g (lw_at lw_m8 131 rfl) rfl
theorem q1870 : (Jvm.Cond.methodLink "RiddlePost" (84 : Nat) ({ cls := "RiddlePost", name := "checkRange", desc := "(III)V" } : Jvm.MethodName)) ∈ lw_all := lw_g (lw_at lw_m8 132 rfl) rfl
theorem q1871 : (Jvm.Cond.static ({ cls := "RiddlePost", name := "checkRange", desc := "(III)V" } : Jvm.MethodName)) ∈ lw_all := lw_g (lw_at lw_m8 133 rfl) rfl
theorem q1872 : (Jvm.Cond.code ({ cls := "RiddlePost", name := "checkRange", desc := "(III)V" } : Jvm.MethodName) prog_1_method_2_code (3 : Nat) (Option.none : Option Jvm.ClassFile.FieldType)) ∈ lw_all := lw_g (lw_at lw_m8 134 rfl) rfl
theorem q1873 : (Jvm.Cond.classLink "RiddlePost" (7 : Nat) "java/lang/IllegalArgumentException") ∈ lw_all := lw_g (lw_at lw_m8 135 rfl) rfl
theorem q1874 : (Jvm.Cond.methodLink "RiddlePost" (9 : Nat) ({ cls := "java/lang/IllegalArgumentException", name := "<init>", desc := "()V" } : Jvm.MethodName)) ∈ lw_all := lw_g (lw_at lw_m8 136 rfl) rfl
theorem q1875 : (Jvm.Cond.methodLink "RiddlePost" (88 : Nat) ({ cls := "RiddlePost", name := "save", desc := "()V" } : Jvm.MethodName)) ∈ lw_all := lw_g (lw_at lw_m8 137 rfl) rfl
theorem q1876 : (Jvm.Cond.privateMethod ({ cls := "RiddlePost", name := "save", desc := "()V" } : Jvm.MethodName)) ∈ lw_tbl := lw_at lw_m8 138 rfl
theorem q1877 : (Jvm.Cond.instanceMethod ({ cls := "RiddlePost", name := "save", desc := "()V" } : Jvm.MethodName)) ∈ lw_all := lw_g (lw_at lw_m8 139 rfl) rfl
theorem q1878 : (Jvm.Cond.code ({ cls := "RiddlePost", name := "save", desc := "()V" } : Jvm.MethodName) prog_1_method_6_code (1 : Nat) (Option.none : Option Jvm.ClassFile.FieldType)) ∈ lw_all := lw_g (lw_at lw_m8 140 rfl) rfl
theorem q1879 : (Jvm.Cond.methodLink "RiddlePost" (56 : Nat) ({ cls := "java/util/ArrayList", name := "size", desc := "()I" } : Jvm.MethodName)) ∈ lw_all := lw_g (lw_at lw_m8 141 rfl) rfl
theorem q1880 : (Jvm.Cond.instanceMethod ({ cls := "java/util/ArrayList", name := "size", desc := "()I" } : Jvm.MethodName)) ∈ lw_all := lw_g (lw_at lw_m8 142 rfl) rfl
theorem q1881 : (Jvm.Cond.selects "java/util/ArrayList" ({ cls := "java/util/ArrayList", name := "size", desc := "()I" } : Jvm.MethodName) ({ cls := "java/util/ArrayList", name := "size", desc := "()I" } : Jvm.MethodName)) ∈ lw_all := lw_g (lw_at lw_m8 143 rfl) rfl
theorem q1882 : (Jvm.Cond.code ({ cls := "java/util/ArrayList", name := "size", desc := "()I" } : Jvm.MethodName) prog_45_method_8_code (1 : Nat) (Option.some Jvm.ClassFile.FieldType.int)) ∈ lw_all := lw_g (lw_at lw_m8 144 rfl) rfl
theorem q1883 : (Jvm.Cond.methodLink "RiddlePost" (60 : Nat) ({ cls := "java/util/ArrayList", name := "remove", desc := "(I)Ljava/lang/Object;" } : Jvm.MethodName)) ∈ lw_all := lw_g (lw_at lw_m8 145 rfl) rfl
theorem q1884 : (Jvm.Cond.instanceMethod ({ cls := "java/util/ArrayList", name := "remove", desc := "(I)Ljava/lang/Object;" } : Jvm.MethodName)) ∈ lw_all := lw_g (lw_at lw_m8 146 rfl) rfl
theorem q1885 : (Jvm.Cond.selects "java/util/ArrayList" ({ cls := "java/util/ArrayList", name := "remove", desc := "(I)Ljava/lang/Object;" } : Jvm.MethodName) ({ cls := "java/util/ArrayList", name := "remove", desc := "(I)Ljava/lang/Object;" } : Jvm.MethodName)) ∈ lw_all := lw_g (lw_at lw_m8 147 rfl) rfl
theorem q1886 : (Jvm.Cond.code ({ cls := "java/util/ArrayList", name := "remove", desc := "(I)Ljava/lang/Object;" } : Jvm.MethodName) prog_45_method_29_code (4 : Nat) (Option.some (Jvm.ClassFile.FieldType.object "java/lang/Object"))) ∈ lw_all := lw_g (lw_at lw_m8 148 rfl) rfl
theorem q1887 : (Jvm.Cond.methodLink "java/util/ArrayList" (118 : Nat) ({ cls := "java/util/Objects", name := "checkIndex", desc := "(II)I" } : Jvm.MethodName)) ∈ lw_all := lw_g (lw_at lw_m8 149 rfl) rfl
theorem q1888 : (Jvm.Cond.static ({ cls := "java/util/Objects", name := "checkIndex", desc := "(II)I" } : Jvm.MethodName)) ∈ lw_all := lw_g (lw_at lw_m8 150 rfl) rfl
theorem q1889 : (Jvm.Cond.code ({ cls := "java/util/Objects", name := "checkIndex", desc := "(II)I" } : Jvm.MethodName) prog_56_method_17_code (2 : Nat) (Option.some Jvm.ClassFile.FieldType.int)) ∈ lw_all := lw_g (lw_at lw_m8 151 rfl) rfl
theorem q1890 : (Jvm.Cond.methodLink "java/util/Objects" (105 : Nat) ({ cls := "jdk/internal/util/Preconditions", name := "checkIndex", desc := "(IILjava/util/function/BiFunction;)I" } : Jvm.MethodName)) ∈ lw_all := lw_g (lw_at lw_m8 152 rfl) rfl
theorem q1891 : (Jvm.Cond.methodLink "java/util/ArrayList" (144 : Nat) ({ cls := "java/util/ArrayList", name := "fastRemove", desc := "([Ljava/lang/Object;I)V" } : Jvm.MethodName)) ∈ lw_all := lw_g (lw_at lw_m8 153 rfl) rfl
theorem q1892 : (Jvm.Cond.privateMethod ({ cls := "java/util/ArrayList", name := "fastRemove", desc := "([Ljava/lang/Object;I)V" } : Jvm.MethodName)) ∈ lw_tbl := lw_at lw_m8 154 rfl
theorem q1893 : (Jvm.Cond.instanceMethod ({ cls := "java/util/ArrayList", name := "fastRemove", desc := "([Ljava/lang/Object;I)V" } : Jvm.MethodName)) ∈ lw_all := lw_g (lw_at lw_m8 155 rfl) rfl
theorem q1894 : (Jvm.Cond.code ({ cls := "java/util/ArrayList", name := "fastRemove", desc := "([Ljava/lang/Object;I)V" } : Jvm.MethodName) prog_45_method_39_code (4 : Nat) (Option.none : Option Jvm.ClassFile.FieldType)) ∈ lw_all := lw_g (lw_at lw_m8 156 rfl) rfl
theorem q1895 : (Jvm.Cond.methodLink "java/util/ArrayList" (112 : Nat) ({ cls := "java/lang/System", name := "arraycopy", desc := "(Ljava/lang/Object;ILjava/lang/Object;II)V" } : Jvm.MethodName)) ∈ lw_all := lw_g (lw_at lw_m8 157 rfl) rfl
theorem q1896 : (Jvm.Cond.methodLink "RiddlePost" (64 : Nat) ({ cls := "RiddlePost$Post", name := "copy", desc := "()LRiddlePost$Post;" } : Jvm.MethodName)) ∈ lw_all := lw_g (lw_at lw_m8 158 rfl) rfl
theorem q1897 : (Jvm.Cond.instanceMethod ({ cls := "RiddlePost$Post", name := "copy", desc := "()LRiddlePost$Post;" } : Jvm.MethodName)) ∈ lw_all := lw_g (lw_at lw_m8 159 rfl) rfl
theorem q1898 : (Jvm.Cond.selects "RiddlePost$Post" ({ cls := "RiddlePost$Post", name := "copy", desc := "()LRiddlePost$Post;" } : Jvm.MethodName) ({ cls := "RiddlePost$Post", name := "copy", desc := "()LRiddlePost$Post;" } : Jvm.MethodName)) ∈ lw_all := lw_g (lw_at lw_m8 160 rfl) rfl
theorem q1899 : (Jvm.Cond.code ({ cls := "RiddlePost$Post", name := "copy", desc := "()LRiddlePost$Post;" } : Jvm.MethodName) prog_5_method_2_code (1 : Nat) (Option.some (Jvm.ClassFile.FieldType.object "RiddlePost$Post"))) ∈ lw_all := lw_g (lw_at lw_m8 161 rfl) rfl
theorem q1900 : (Jvm.Cond.methodLink "RiddlePost$Post" (23 : Nat) ({ cls := "RiddlePost$Zones", name := "copy", desc := "()LRiddlePost$Zones;" } : Jvm.MethodName)) ∈ lw_all := lw_g (lw_at lw_m8 162 rfl) rfl
theorem q1901 : (Jvm.Cond.instanceMethod ({ cls := "RiddlePost$Zones", name := "copy", desc := "()LRiddlePost$Zones;" } : Jvm.MethodName)) ∈ lw_all := lw_g (lw_at lw_m8 163 rfl) rfl
theorem q1902 : (Jvm.Cond.selects "RiddlePost$Zones" ({ cls := "RiddlePost$Zones", name := "copy", desc := "()LRiddlePost$Zones;" } : Jvm.MethodName) ({ cls := "RiddlePost$Zones", name := "copy", desc := "()LRiddlePost$Zones;" } : Jvm.MethodName)) ∈ lw_all := lw_g (lw_at lw_m8 164 rfl) rfl
theorem q1903 : (Jvm.Cond.code ({ cls := "RiddlePost$Zones", name := "copy", desc := "()LRiddlePost$Zones;" } : Jvm.MethodName) prog_9_method_3_code (3 : Nat) (Option.some (Jvm.ClassFile.FieldType.object "RiddlePost$Zones"))) ∈ lw_all := lw_g (lw_at lw_m8 165 rfl) rfl
theorem q1904 : (Jvm.Cond.methodLink "RiddlePost" (68 : Nat) ({ cls := "java/util/ArrayList", name := "add", desc := "(Ljava/lang/Object;)Z" } : Jvm.MethodName)) ∈ lw_all := lw_g (lw_at lw_m8 166 rfl) rfl
theorem q1905 : (Jvm.Cond.methodLink "RiddlePostLaw" (105 : Nat) ({ cls := "RiddlePostLaw", name := "setAges", desc := "(LRiddlePost;III[J)I" } : Jvm.MethodName)) ∈ lw_all := lw_g (lw_at lw_m8 167 rfl) rfl
theorem q1906 : (Jvm.Cond.static ({ cls := "RiddlePostLaw", name := "setAges", desc := "(LRiddlePost;III[J)I" } : Jvm.MethodName)) ∈ lw_all := lw_g (lw_at lw_m8 168 rfl) rfl
theorem q1907 : (Jvm.Cond.codeWith ({ cls := "RiddlePostLaw", name := "setAges", desc := "(LRiddlePost;III[J)I" } : Jvm.MethodName) method_4_code (6 : Nat) (Option.some Jvm.ClassFile.FieldType.int) [((0 : Nat), (12 : Nat), (15 : Nat), (13 : Nat)), ((0 : Nat), (12 : Nat), (19 : Nat), (15 : Nat))]) ∈ lw_all := lw_g (lw_at lw_m8 169 rfl) rfl
theorem q1908 : (Jvm.Cond.methodLink "RiddlePostLaw" (17 : Nat) ({ cls := "RiddlePost", name := "setAges", desc := "(III)I" } : Jvm.MethodName)) ∈ lw_all := lw_g (lw_at lw_m8 170 rfl) rfl
theorem q1909 : (Jvm.Cond.instanceMethod ({ cls := "RiddlePost", name := "setAges", desc := "(III)I" } : Jvm.MethodName)) ∈ lw_all := lw_g (lw_at lw_m8 171 rfl) rfl
theorem q1910 : (Jvm.Cond.selects "RiddlePost" ({ cls := "RiddlePost", name := "setAges", desc := "(III)I" } : Jvm.MethodName) ({ cls := "RiddlePost", name := "setAges", desc := "(III)I" } : Jvm.MethodName)) ∈ lw_all := lw_g (lw_at lw_m8 172 rfl) rfl
theorem q1911 : (Jvm.Cond.code ({ cls := "RiddlePost", name := "setAges", desc := "(III)I" } : Jvm.MethodName) prog_1_method_11_code (5 : Nat) (Option.some Jvm.ClassFile.FieldType.int)) ∈ lw_all := lw_g (lw_at lw_m8 173 rfl) rfl
theorem q1912 : (Jvm.Cond.methodLink "RiddlePostLaw" (109 : Nat) ({ cls := "RiddlePostLaw", name := "setAnswer", desc := "(LRiddlePost;III[J)I" } : Jvm.MethodName)) ∈ lw_all := lw_g (lw_at lw_m8 174 rfl) rfl
theorem q1913 : (Jvm.Cond.static ({ cls := "RiddlePostLaw", name := "setAnswer", desc := "(LRiddlePost;III[J)I" } : Jvm.MethodName)) ∈ lw_all := lw_g (lw_at lw_m8 175 rfl) rfl
theorem q1914 : (Jvm.Cond.codeWith ({ cls := "RiddlePostLaw", name := "setAnswer", desc := "(LRiddlePost;III[J)I" } : Jvm.MethodName) method_5_code (6 : Nat) (Option.some Jvm.ClassFile.FieldType.int) [((0 : Nat), (12 : Nat), (15 : Nat), (13 : Nat)), ((0 : Nat), (12 : Nat), (19 : Nat), (15 : Nat))]) ∈ lw_all := lw_g (lw_at lw_m8 176 rfl) rfl
theorem q1915 : (Jvm.Cond.methodLink "RiddlePostLaw" (21 : Nat) ({ cls := "RiddlePost", name := "setAnswer", desc := "(III)I" } : Jvm.MethodName)) ∈ lw_all := lw_g (lw_at lw_m8 177 rfl) rfl
theorem q1916 : (Jvm.Cond.instanceMethod ({ cls := "RiddlePost", name := "setAnswer", desc := "(III)I" } : Jvm.MethodName)) ∈ lw_all := lw_g (lw_at lw_m8 178 rfl) rfl
theorem q1917 : (Jvm.Cond.selects "RiddlePost" ({ cls := "RiddlePost", name := "setAnswer", desc := "(III)I" } : Jvm.MethodName) ({ cls := "RiddlePost", name := "setAnswer", desc := "(III)I" } : Jvm.MethodName)) ∈ lw_all := lw_g (lw_at lw_m8 179 rfl) rfl
theorem q1918 : (Jvm.Cond.code ({ cls := "RiddlePost", name := "setAnswer", desc := "(III)I" } : Jvm.MethodName) prog_1_method_12_code (4 : Nat) (Option.some Jvm.ClassFile.FieldType.int)) ∈ lw_all := lw_g (lw_at lw_m8 180 rfl) rfl
theorem q1919 : (Jvm.Cond.methodLink "RiddlePost" (111 : Nat) ({ cls := "RiddlePost$Zones", name := "set", desc := "(IIII)I" } : Jvm.MethodName)) ∈ lw_all := lw_g (lw_at lw_m8 181 rfl) rfl
theorem q1920 : (Jvm.Cond.instanceMethod ({ cls := "RiddlePost$Zones", name := "set", desc := "(IIII)I" } : Jvm.MethodName)) ∈ lw_all := lw_g (lw_at lw_m8 182 rfl) rfl
theorem q1921 : (Jvm.Cond.selects "RiddlePost$Zones" ({ cls := "RiddlePost$Zones", name := "set", desc := "(IIII)I" } : Jvm.MethodName) ({ cls := "RiddlePost$Zones", name := "set", desc := "(IIII)I" } : Jvm.MethodName)) ∈ lw_all := lw_g (lw_at lw_m8 183 rfl) rfl
theorem q1922 : (Jvm.Cond.code ({ cls := "RiddlePost$Zones", name := "set", desc := "(IIII)I" } : Jvm.MethodName) prog_9_method_4_code (6 : Nat) (Option.some Jvm.ClassFile.FieldType.int)) ∈ lw_all := lw_g (lw_at lw_m8 184 rfl) rfl
theorem q1923 : (Jvm.Cond.methodLink "RiddlePostLaw" (112 : Nat) ({ cls := "RiddlePostLaw", name := "setReference", desc := "(LRiddlePost;III[J)I" } : Jvm.MethodName)) ∈ lw_all := lw_g (lw_at lw_m8 185 rfl) rfl
theorem q1924 : (Jvm.Cond.static ({ cls := "RiddlePostLaw", name := "setReference", desc := "(LRiddlePost;III[J)I" } : Jvm.MethodName)) ∈ lw_all := lw_g (lw_at lw_m8 186 rfl) rfl
theorem q1925 : (Jvm.Cond.codeWith ({ cls := "RiddlePostLaw", name := "setReference", desc := "(LRiddlePost;III[J)I" } : Jvm.MethodName) method_6_code (6 : Nat) (Option.some Jvm.ClassFile.FieldType.int) [((0 : Nat), (12 : Nat), (15 : Nat), (13 : Nat)), ((0 : Nat), (12 : Nat), (19 : Nat), (15 : Nat))]) ∈ lw_all := lw_g (lw_at lw_m8 187 rfl) rfl
theorem q1926 : (Jvm.Cond.methodLink "RiddlePostLaw" (24 : Nat) ({ cls := "RiddlePost", name := "setReference", desc := "(III)I" } : Jvm.MethodName)) ∈ lw_all := lw_g (lw_at lw_m8 188 rfl) rfl
theorem q1927 : (Jvm.Cond.instanceMethod ({ cls := "RiddlePost", name := "setReference", desc := "(III)I" } : Jvm.MethodName)) ∈ lw_all := lw_g (lw_at lw_m8 189 rfl) rfl
theorem q1928 : (Jvm.Cond.selects "RiddlePost" ({ cls := "RiddlePost", name := "setReference", desc := "(III)I" } : Jvm.MethodName) ({ cls := "RiddlePost", name := "setReference", desc := "(III)I" } : Jvm.MethodName)) ∈ lw_all := lw_g (lw_at lw_m8 190 rfl) rfl
theorem q1929 : (Jvm.Cond.code ({ cls := "RiddlePost", name := "setReference", desc := "(III)I" } : Jvm.MethodName) prog_1_method_13_code (4 : Nat) (Option.some Jvm.ClassFile.FieldType.int)) ∈ lw_all := lw_g (lw_at lw_m8 191 rfl) rfl
theorem q1930 : (Jvm.Cond.methodLink "RiddlePostLaw" (115 : Nat) ({ cls := "RiddlePostLaw", name := "takeAway", desc := "(LRiddlePost;I[J)I" } : Jvm.MethodName)) ∈ lw_all := lw_g (lw_at lw_m8 192 rfl) rfl
theorem q1931 : (Jvm.Cond.static ({ cls := "RiddlePostLaw", name := "takeAway", desc := "(LRiddlePost;I[J)I" } : Jvm.MethodName)) ∈ lw_all := lw_g (lw_at lw_m8 193 rfl) rfl
theorem q1932 : (Jvm.Cond.codeWith ({ cls := "RiddlePostLaw", name := "takeAway", desc := "(LRiddlePost;I[J)I" } : Jvm.MethodName) method_7_code (4 : Nat) (Option.some Jvm.ClassFile.FieldType.int) [((0 : Nat), (9 : Nat), (12 : Nat), (13 : Nat)), ((0 : Nat), (9 : Nat), (15 : Nat), (31 : Nat))]) ∈ lw_all := lw_g (lw_at lw_m8 194 rfl) rfl
theorem q1933 : (Jvm.Cond.classLink "RiddlePostLaw" (31 : Nat) "java/lang/IllegalStateException") ∈ lw_all := lw_g (lw_at lw_m8 195 rfl) rfl
theorem q1934 : (Jvm.Cond.methodLink "RiddlePostLaw" (27 : Nat) ({ cls := "RiddlePost", name := "takeAway", desc := "(I)I" } : Jvm.MethodName)) ∈ lw_all := lw_g (lw_at lw_m8 196 rfl) rfl
theorem q1935 : (Jvm.Cond.instanceMethod ({ cls := "RiddlePost", name := "takeAway", desc := "(I)I" } : Jvm.MethodName)) ∈ lw_all := lw_g (lw_at lw_m8 197 rfl) rfl
theorem q1936 : (Jvm.Cond.selects "RiddlePost" ({ cls := "RiddlePost", name := "takeAway", desc := "(I)I" } : Jvm.MethodName) ({ cls := "RiddlePost", name := "takeAway", desc := "(I)I" } : Jvm.MethodName)) ∈ lw_all := lw_g (lw_at lw_m8 198 rfl) rfl
theorem q1937 : (Jvm.Cond.code ({ cls := "RiddlePost", name := "takeAway", desc := "(I)I" } : Jvm.MethodName) prog_1_method_14_code (2 : Nat) (Option.some Jvm.ClassFile.FieldType.int)) ∈ lw_all := lw_g (lw_at lw_m8 199 rfl) rfl
theorem q1938 : (Jvm.Cond.methodLink "RiddlePost" (76 : Nat) ({ cls := "RiddlePost", name := "checkState", desc := "(Z)V" } : Jvm.MethodName)) ∈ lw_all := lw_g (lw_at lw_m8 200 rfl) rfl
theorem q1939 : (Jvm.Cond.static ({ cls := "RiddlePost", name := "checkState", desc := "(Z)V" } : Jvm.MethodName)) ∈ lw_all := lw_g (lw_at lw_m8 201 rfl) rfl
theorem q1940 : (Jvm.Cond.code ({ cls := "RiddlePost", name := "checkState", desc := "(Z)V" } : Jvm.MethodName) prog_1_method_4_code (1 : Nat) (Option.none : Option Jvm.ClassFile.FieldType)) ∈ lw_all := lw_g (lw_at lw_m8 202 rfl) rfl
theorem q1941 : (Jvm.Cond.classLink "RiddlePost" (16 : Nat) "java/lang/IllegalStateException") ∈ lw_all := lw_g (lw_at lw_m8 203 rfl) rfl
theorem q1942 : (Jvm.Cond.instantiable "java/lang/IllegalStateException" (6 : Nat)) ∈ lw_all := lw_g (lw_at lw_m8 204 rfl) rfl
theorem q1943 : (Jvm.Cond.castable "java/lang/IllegalStateException" "java/lang/IllegalStateException") ∈ lw_tbl := lw_at lw_m8 205 rfl
theorem q1944 : (Jvm.Cond.selects "java/lang/IllegalStateException" ({ cls := "java/lang/Throwable", name := "fillInStackTrace", desc := "(I)Ljava/lang/Throwable;" } : Jvm.MethodName) ({ cls := "java/lang/Throwable", name := "fillInStackTrace", desc := "(I)Ljava/lang/Throwable;" } : Jvm.MethodName)) ∈ lw_all := lw_g (lw_at lw_m8 206 rfl) rfl
theorem q1945 : (Jvm.Cond.lays "java/lang/IllegalStateException" "java/lang/Throwable" "cause" "Ljava/lang/Throwable;") ∈ lw_all := lw_g (lw_at lw_m8 207 rfl) rfl
theorem q1946 : (Jvm.Cond.lays "java/lang/IllegalStateException" "java/lang/Throwable" "stackTrace" "[Ljava/lang/StackTraceElement;") ∈ lw_all := lw_g (lw_at lw_m8 208 rfl) rfl
theorem q1947 : (Jvm.Cond.lays "java/lang/IllegalStateException" "java/lang/Throwable" "suppressedExceptions" "Ljava/util/List;") ∈ lw_all := lw_g (lw_at lw_m8 209 rfl) rfl
theorem q1948 : (Jvm.Cond.lays "java/lang/IllegalStateException" "java/lang/Throwable" "detailMessage" "Ljava/lang/String;") ∈ lw_all := lw_g (lw_at lw_m8 210 rfl) rfl
theorem q1949 : (Jvm.Cond.lays "java/lang/IllegalStateException" "java/lang/Throwable" "backtrace" "Ljava/lang/Object;") ∈ lw_all := lw_g (lw_at lw_m8 211 rfl) rfl
theorem q1950 : (Jvm.Cond.methodLink "RiddlePost" (18 : Nat) ({ cls := "java/lang/IllegalStateException", name := "<init>", desc := "()V" } : Jvm.MethodName)) ∈ lw_all := lw_g (lw_at lw_m8 212 rfl) rfl
theorem q1951 : (Jvm.Cond.instanceMethod ({ cls := "java/lang/IllegalStateException", name := "<init>", desc := "()V" } : Jvm.MethodName)) ∈ lw_all := lw_g (lw_at lw_m8 213 rfl) rfl
theorem q1952 : (Jvm.Cond.code ({ cls := "java/lang/IllegalStateException", name := "<init>", desc := "()V" } : Jvm.MethodName) prog_21_method_1_code (1 : Nat) (Option.none : Option Jvm.ClassFile.FieldType)) ∈ lw_all := lw_g (lw_at lw_m8 214 rfl) rfl
theorem q1953 : (Jvm.Cond.methodLink "java/lang/IllegalStateException" (1 : Nat) ({ cls := "java/lang/RuntimeException", name := "<init>", desc := "()V" } : Jvm.MethodName)) ∈ lw_all := lw_g (lw_at lw_m8 215 rfl) rfl
theorem q1954 : (Jvm.Cond.lays "java/lang/IllegalStateException" "java/lang/Throwable" "depth" "I") ∈ lw_all := lw_g (lw_at lw_m8 216 rfl) rfl
theorem q1955 : (Jvm.Cond.superclass "java/lang/IllegalStateException" "java/lang/RuntimeException") ∈ lw_all := lw_g (lw_at lw_m8 217 rfl) rfl
theorem q1956 : (Jvm.Cond.methodLink "RiddlePostLaw" (119 : Nat) ({ cls := "RiddlePostLaw", name := "solve", desc := "(LRiddlePost;I[J)I" } : Jvm.MethodName)) ∈ lw_all := lw_g (lw_at lw_m8 218 rfl) rfl
theorem q1957 : (Jvm.Cond.static ({ cls := "RiddlePostLaw", name := "solve", desc := "(LRiddlePost;I[J)I" } : Jvm.MethodName)) ∈ lw_all := lw_g (lw_at lw_m8 219 rfl) rfl
theorem q1958 : (Jvm.Cond.codeWith ({ cls := "RiddlePostLaw", name := "solve", desc := "(LRiddlePost;I[J)I" } : Jvm.MethodName) method_8_code (4 : Nat) (Option.some Jvm.ClassFile.FieldType.int) [((0 : Nat), (9 : Nat), (12 : Nat), (13 : Nat))]) ∈ lw_all := lw_g (lw_at lw_m8 220 rfl) rfl
theorem q1959 : (Jvm.Cond.methodLink "RiddlePostLaw" (33 : Nat) ({ cls := "RiddlePost", name := "solve", desc := "(I)I" } : Jvm.MethodName)) ∈ lw_all := lw_g (lw_at lw_m8 221 rfl) rfl
theorem q1960 : (Jvm.Cond.instanceMethod ({ cls := "RiddlePost", name := "solve", desc := "(I)I" } : Jvm.MethodName)) ∈ lw_all := lw_g (lw_at lw_m8 222 rfl) rfl
theorem q1961 : (Jvm.Cond.selects "RiddlePost" ({ cls := "RiddlePost", name := "solve", desc := "(I)I" } : Jvm.MethodName) ({ cls := "RiddlePost", name := "solve", desc := "(I)I" } : Jvm.MethodName)) ∈ lw_all := lw_g (lw_at lw_m8 223 rfl) rfl
theorem q1962 : (Jvm.Cond.code ({ cls := "RiddlePost", name := "solve", desc := "(I)I" } : Jvm.MethodName) prog_1_method_15_code (2 : Nat) (Option.some Jvm.ClassFile.FieldType.int)) ∈ lw_all := lw_g (lw_at lw_m8 224 rfl) rfl
theorem q1963 : (Jvm.Cond.methodLink "RiddlePostLaw" (122 : Nat) ({ cls := "RiddlePostLaw", name := "forget", desc := "(LRiddlePost;I[J)I" } : Jvm.MethodName)) ∈ lw_all := lw_g (lw_at lw_m8 225 rfl) rfl
theorem q1964 : (Jvm.Cond.static ({ cls := "RiddlePostLaw", name := "forget", desc := "(LRiddlePost;I[J)I" } : Jvm.MethodName)) ∈ lw_all := lw_g (lw_at lw_m8 226 rfl) rfl
theorem q1965 : (Jvm.Cond.codeWith ({ cls := "RiddlePostLaw", name := "forget", desc := "(LRiddlePost;I[J)I" } : Jvm.MethodName) method_9_code (4 : Nat) (Option.some Jvm.ClassFile.FieldType.int) [((0 : Nat), (9 : Nat), (12 : Nat), (13 : Nat)), ((0 : Nat), (9 : Nat), (15 : Nat), (31 : Nat))]) ∈ lw_all := lw_g (lw_at lw_m8 227 rfl) rfl
theorem q1966 : (Jvm.Cond.methodLink "RiddlePostLaw" (36 : Nat) ({ cls := "RiddlePost", name := "forget", desc := "(I)I" } : Jvm.MethodName)) ∈ lw_all := lw_g (lw_at lw_m8 228 rfl) rfl
theorem q1967 : (Jvm.Cond.instanceMethod ({ cls := "RiddlePost", name := "forget", desc := "(I)I" } : Jvm.MethodName)) ∈ lw_all := lw_g (lw_at lw_m8 229 rfl) rfl
theorem q1968 : (Jvm.Cond.selects "RiddlePost" ({ cls := "RiddlePost", name := "forget", desc := "(I)I" } : Jvm.MethodName) ({ cls := "RiddlePost", name := "forget", desc := "(I)I" } : Jvm.MethodName)) ∈ lw_all := lw_g (lw_at lw_m8 230 rfl) rfl
theorem q1969 : (Jvm.Cond.code ({ cls := "RiddlePost", name := "forget", desc := "(I)I" } : Jvm.MethodName) prog_1_method_16_code (3 : Nat) (Option.some Jvm.ClassFile.FieldType.int)) ∈ lw_all := lw_g (lw_at lw_m8 231 rfl) rfl
theorem q1970 : (Jvm.Cond.methodLink "RiddlePost" (130 : Nat) ({ cls := "RiddlePost$Memory", name := "forget", desc := "(LRiddlePost$Note;)V" } : Jvm.MethodName)) ∈ lw_all := lw_g (lw_at lw_m8 232 rfl) rfl
theorem q1971 : (Jvm.Cond.instanceMethod ({ cls := "RiddlePost$Memory", name := "forget", desc := "(LRiddlePost$Note;)V" } : Jvm.MethodName)) ∈ lw_all := lw_g (lw_at lw_m8 233 rfl) rfl
theorem q1972 : (Jvm.Cond.selects "RiddlePost$Memory" ({ cls := "RiddlePost$Memory", name := "forget", desc := "(LRiddlePost$Note;)V" } : Jvm.MethodName) ({ cls := "RiddlePost$Memory", name := "forget", desc := "(LRiddlePost$Note;)V" } : Jvm.MethodName)) ∈ lw_all := lw_g (lw_at lw_m8 234 rfl) rfl
theorem q1973 : (Jvm.Cond.code ({ cls := "RiddlePost$Memory", name := "forget", desc := "(LRiddlePost$Note;)V" } : Jvm.MethodName) prog_3_method_5_code (2 : Nat) (Option.none : Option Jvm.ClassFile.FieldType)) ∈ lw_all := lw_g (lw_at lw_m8 235 rfl) rfl
theorem q1974 : (Jvm.Cond.methodLink "RiddlePost$Memory" (67 : Nat) ({ cls := "java/util/TreeMap", name := "remove", desc := "(Ljava/lang/Object;)Ljava/lang/Object;" } : Jvm.MethodName)) ∈ lw_all := lw_g (lw_at lw_m8 236 rfl) rfl
theorem q1975 : (Jvm.Cond.instanceMethod ({ cls := "java/util/TreeMap", name := "remove", desc := "(Ljava/lang/Object;)Ljava/lang/Object;" } : Jvm.MethodName)) ∈ lw_all := lw_g (lw_at lw_m8 237 rfl) rfl
theorem q1976 : (Jvm.Cond.selects "java/util/TreeMap" ({ cls := "java/util/TreeMap", name := "remove", desc := "(Ljava/lang/Object;)Ljava/lang/Object;" } : Jvm.MethodName) ({ cls := "java/util/TreeMap", name := "remove", desc := "(Ljava/lang/Object;)Ljava/lang/Object;" } : Jvm.MethodName)) ∈ lw_all := lw_g (lw_at lw_m8 238 rfl) rfl
theorem q1977 : (Jvm.Cond.code ({ cls := "java/util/TreeMap", name := "remove", desc := "(Ljava/lang/Object;)Ljava/lang/Object;" } : Jvm.MethodName) prog_67_method_34_code (4 : Nat) (Option.some (Jvm.ClassFile.FieldType.object "java/lang/Object"))) ∈ lw_all := lw_g (lw_at lw_m8 239 rfl) rfl
theorem q1978 : (Jvm.Cond.methodLink "java/util/TreeMap" (174 : Nat) ({ cls := "java/util/TreeMap", name := "deleteEntry", desc := "(Ljava/util/TreeMap$Entry;)V" } : Jvm.MethodName)) ∈ lw_all := lw_g (lw_at lw_m9 0 rfl) rfl
theorem q1979 : (Jvm.Cond.privateMethod ({ cls := "java/util/TreeMap", name := "deleteEntry", desc := "(Ljava/util/TreeMap$Entry;)V" } : Jvm.MethodName)) ∈ lw_tbl := lw_at lw_m9 1 rfl
theorem q1980 : (Jvm.Cond.instanceMethod ({ cls := "java/util/TreeMap", name := "deleteEntry", desc := "(Ljava/util/TreeMap$Entry;)V" } : Jvm.MethodName)) ∈ lw_all := lw_g (lw_at lw_m9 2 rfl) rfl
theorem q1981 : (Jvm.Cond.code ({ cls := "java/util/TreeMap", name := "deleteEntry", desc := "(Ljava/util/TreeMap$Entry;)V" } : Jvm.MethodName) prog_67_method_84_code (3 : Nat) (Option.none : Option Jvm.ClassFile.FieldType)) ∈ lw_all := lw_g (lw_at lw_m9 3 rfl) rfl
theorem q1982 : (Jvm.Cond.methodLink "java/util/TreeMap" (68 : Nat) ({ cls := "java/util/TreeMap", name := "successor", desc := "(Ljava/util/TreeMap$Entry;)Ljava/util/TreeMap$Entry;" } : Jvm.MethodName)) ∈ lw_all := lw_g (lw_at lw_m9 4 rfl) rfl
theorem q1983 : (Jvm.Cond.methodLink "java/util/TreeMap" (317 : Nat) ({ cls := "java/util/TreeMap", name := "fixAfterDeletion", desc := "(Ljava/util/TreeMap$Entry;)V" } : Jvm.MethodName)) ∈ lw_all := lw_g (lw_at lw_m9 5 rfl) rfl
theorem q1984 : (Jvm.Cond.privateMethod ({ cls := "java/util/TreeMap", name := "fixAfterDeletion", desc := "(Ljava/util/TreeMap$Entry;)V" } : Jvm.MethodName)) ∈ lw_tbl := lw_at lw_m9 6 rfl
theorem q1985 : (Jvm.Cond.instanceMethod ({ cls := "java/util/TreeMap", name := "fixAfterDeletion", desc := "(Ljava/util/TreeMap$Entry;)V" } : Jvm.MethodName)) ∈ lw_all := lw_g (lw_at lw_m9 7 rfl) rfl
theorem q1986 : (Jvm.Cond.code ({ cls := "java/util/TreeMap", name := "fixAfterDeletion", desc := "(Ljava/util/TreeMap$Entry;)V" } : Jvm.MethodName) prog_67_method_85_code (3 : Nat) (Option.none : Option Jvm.ClassFile.FieldType)) ∈ lw_all := lw_g (lw_at lw_m9 8 rfl) rfl
theorem q1987 : (Jvm.Cond.methodLink "RiddlePost$Memory" (70 : Nat) ({ cls := "java/util/PriorityQueue", name := "remove", desc := "(Ljava/lang/Object;)Z" } : Jvm.MethodName)) ∈ lw_all := lw_g (lw_at lw_m9 9 rfl) rfl
theorem q1988 : (Jvm.Cond.instanceMethod ({ cls := "java/util/PriorityQueue", name := "remove", desc := "(Ljava/lang/Object;)Z" } : Jvm.MethodName)) ∈ lw_all := lw_g (lw_at lw_m9 10 rfl) rfl
theorem q1989 : (Jvm.Cond.selects "java/util/PriorityQueue" ({ cls := "java/util/PriorityQueue", name := "remove", desc := "(Ljava/lang/Object;)Z" } : Jvm.MethodName) ({ cls := "java/util/PriorityQueue", name := "remove", desc := "(Ljava/lang/Object;)Z" } : Jvm.MethodName)) ∈ lw_all := lw_g (lw_at lw_m9 11 rfl) rfl
theorem q1990 : (Jvm.Cond.code ({ cls := "java/util/PriorityQueue", name := "remove", desc := "(Ljava/lang/Object;)Z" } : Jvm.MethodName) prog_57_method_17_code (3 : Nat) (Option.some Jvm.ClassFile.FieldType.boolean)) ∈ lw_all := lw_g (lw_at lw_m9 12 rfl) rfl
theorem q1991 : (Jvm.Cond.methodLink "java/util/PriorityQueue" (107 : Nat) ({ cls := "java/util/PriorityQueue", name := "indexOf", desc := "(Ljava/lang/Object;)I" } : Jvm.MethodName)) ∈ lw_all := lw_g (lw_at lw_m9 13 rfl) rfl
theorem q1992 : (Jvm.Cond.privateMethod ({ cls := "java/util/PriorityQueue", name := "indexOf", desc := "(Ljava/lang/Object;)I" } : Jvm.MethodName)) ∈ lw_tbl := lw_at lw_m9 14 rfl
theorem q1993 : (Jvm.Cond.instanceMethod ({ cls := "java/util/PriorityQueue", name := "indexOf", desc := "(Ljava/lang/Object;)I" } : Jvm.MethodName)) ∈ lw_all := lw_g (lw_at lw_m9 15 rfl) rfl
theorem q1994 : (Jvm.Cond.code ({ cls := "java/util/PriorityQueue", name := "indexOf", desc := "(Ljava/lang/Object;)I" } : Jvm.MethodName) prog_57_method_16_code (5 : Nat) (Option.some Jvm.ClassFile.FieldType.int)) ∈ lw_all := lw_g (lw_at lw_m9 16 rfl) rfl
theorem q1995 : (Jvm.Cond.methodLink "java/util/PriorityQueue" (104 : Nat) ({ cls := "java/lang/Object", name := "equals", desc := "(Ljava/lang/Object;)Z" } : Jvm.MethodName)) ∈ lw_all := lw_g (lw_at lw_m9 17 rfl) rfl
theorem q1996 : (Jvm.Cond.methodLink "java/util/PriorityQueue" (111 : Nat) ({ cls := "java/util/PriorityQueue", name := "removeAt", desc := "(I)Ljava/lang/Object;" } : Jvm.MethodName)) ∈ lw_all := lw_g (lw_at lw_m9 18 rfl) rfl
theorem q1997 : (Jvm.Cond.instanceMethod ({ cls := "java/util/PriorityQueue", name := "removeAt", desc := "(I)Ljava/lang/Object;" } : Jvm.MethodName)) ∈ lw_all := lw_g (lw_at lw_m9 19 rfl) rfl
theorem q1998 : (Jvm.Cond.selects "java/util/PriorityQueue" ({ cls := "java/util/PriorityQueue", name := "removeAt", desc := "(I)Ljava/lang/Object;" } : Jvm.MethodName) ({ cls := "java/util/PriorityQueue", name := "removeAt", desc := "(I)Ljava/lang/Object;" } : Jvm.MethodName)) ∈ lw_all := lw_g (lw_at lw_m9 20 rfl) rfl
theorem q1999 : (Jvm.Cond.code ({ cls := "java/util/PriorityQueue", name := "removeAt", desc := "(I)Ljava/lang/Object;" } : Jvm.MethodName) prog_57_method_26_code (5 : Nat) (Option.some (Jvm.ClassFile.FieldType.object "java/lang/Object"))) ∈ lw_all := lw_g (lw_at lw_m9 21 rfl) rfl
theorem q2000 : (Jvm.Cond.methodLink "java/util/PriorityQueue" (133 : Nat) ({ cls := "java/util/PriorityQueue", name := "siftDown", desc := "(ILjava/lang/Object;)V" } : Jvm.MethodName)) ∈ lw_all := lw_g (lw_at lw_m9 22 rfl) rfl
theorem q2001 : (Jvm.Cond.privateMethod ({ cls := "java/util/PriorityQueue", name := "siftDown", desc := "(ILjava/lang/Object;)V" } : Jvm.MethodName)) ∈ lw_tbl := lw_at lw_m9 23 rfl
theorem q2002 : (Jvm.Cond.instanceMethod ({ cls := "java/util/PriorityQueue", name := "siftDown", desc := "(ILjava/lang/Object;)V" } : Jvm.MethodName)) ∈ lw_all := lw_g (lw_at lw_m9 24 rfl) rfl
theorem q2003 : (Jvm.Cond.code ({ cls := "java/util/PriorityQueue", name := "siftDown", desc := "(ILjava/lang/Object;)V" } : Jvm.MethodName) prog_57_method_30_code (3 : Nat) (Option.none : Option Jvm.ClassFile.FieldType)) ∈ lw_all := lw_g (lw_at lw_m9 25 rfl) rfl
theorem q2004 : (Jvm.Cond.methodLink "java/util/PriorityQueue" (129 : Nat) ({ cls := "java/util/PriorityQueue", name := "siftDownUsingComparator", desc := "(ILjava/lang/Object;[Ljava/lang/Object;ILjava/util/Comparator;)V" } : Jvm.MethodName)) ∈ lw_all := lw_g (lw_at lw_m9 26 rfl) rfl
theorem q2005 : (Jvm.Cond.static ({ cls := "java/util/PriorityQueue", name := "siftDownUsingComparator", desc := "(ILjava/lang/Object;[Ljava/lang/Object;ILjava/util/Comparator;)V" } : Jvm.MethodName)) ∈ lw_all := lw_g (lw_at lw_m9 27 rfl) rfl
theorem q2006 : (Jvm.Cond.code ({ cls := "java/util/PriorityQueue", name := "siftDownUsingComparator", desc := "(ILjava/lang/Object;[Ljava/lang/Object;ILjava/util/Comparator;)V" } : Jvm.MethodName) prog_57_method_32_code (9 : Nat) (Option.none : Option Jvm.ClassFile.FieldType)) ∈ lw_all := lw_g (lw_at lw_m9 28 rfl) rfl
theorem q2007 : (Jvm.Cond.methodLink "java/util/PriorityQueue" (125 : Nat) ({ cls := "java/util/PriorityQueue", name := "siftDownComparable", desc := "(ILjava/lang/Object;[Ljava/lang/Object;I)V" } : Jvm.MethodName)) ∈ lw_all := lw_g (lw_at lw_m9 29 rfl) rfl
theorem q2008 : (Jvm.Cond.static ({ cls := "java/util/PriorityQueue", name := "siftDownComparable", desc := "(ILjava/lang/Object;[Ljava/lang/Object;I)V" } : Jvm.MethodName)) ∈ lw_all := lw_g (lw_at lw_m9 30 rfl) rfl
theorem q2009 : (Jvm.Cond.code ({ cls := "java/util/PriorityQueue", name := "siftDownComparable", desc := "(ILjava/lang/Object;[Ljava/lang/Object;I)V" } : Jvm.MethodName) prog_57_method_31_code (9 : Nat) (Option.none : Option Jvm.ClassFile.FieldType)) ∈ lw_all := lw_g (lw_at lw_m9 31 rfl) rfl
theorem q2010 : (Jvm.Cond.methodLink "RiddlePostLaw" (125 : Nat) ({ cls := "RiddlePostLaw", name := "pass", desc := "(LRiddlePost;I[J)I" } : Jvm.MethodName)) ∈ lw_all := lw_g (lw_at lw_m9 32 rfl) rfl
theorem q2011 : (Jvm.Cond.static ({ cls := "RiddlePostLaw", name := "pass", desc := "(LRiddlePost;I[J)I" } : Jvm.MethodName)) ∈ lw_all := lw_g (lw_at lw_m9 33 rfl) rfl
theorem q2012 : (Jvm.Cond.codeWith ({ cls := "RiddlePostLaw", name := "pass", desc := "(LRiddlePost;I[J)I" } : Jvm.MethodName) method_10_code (4 : Nat) (Option.some Jvm.ClassFile.FieldType.int) [((0 : Nat), (9 : Nat), (12 : Nat), (15 : Nat)), ((0 : Nat), (9 : Nat), (15 : Nat), (31 : Nat))]) ∈ lw_all := lw_g (lw_at lw_m9 34 rfl) rfl
theorem q2013 : (Jvm.Cond.methodLink "RiddlePostLaw" (39 : Nat) ({ cls := "RiddlePost", name := "pass", desc := "(I)I" } : Jvm.MethodName)) ∈ lw_all := lw_g (lw_at lw_m9 35 rfl) rfl
theorem q2014 : (Jvm.Cond.instanceMethod ({ cls := "RiddlePost", name := "pass", desc := "(I)I" } : Jvm.MethodName)) ∈ lw_all := lw_g (lw_at lw_m9 36 rfl) rfl
theorem q2015 : (Jvm.Cond.selects "RiddlePost" ({ cls := "RiddlePost", name := "pass", desc := "(I)I" } : Jvm.MethodName) ({ cls := "RiddlePost", name := "pass", desc := "(I)I" } : Jvm.MethodName)) ∈ lw_all := lw_g (lw_at lw_m9 37 rfl) rfl
theorem q2016 : (Jvm.Cond.code ({ cls := "RiddlePost", name := "pass", desc := "(I)I" } : Jvm.MethodName) prog_1_method_17_code (2 : Nat) (Option.some Jvm.ClassFile.FieldType.int)) ∈ lw_all := lw_g (lw_at lw_m9 38 rfl) rfl
theorem q2017 : (Jvm.Cond.methodLink "RiddlePost" (143 : Nat) ({ cls := "RiddlePost$Post", name := "pass", desc := "(I)I" } : Jvm.MethodName)) ∈ lw_all := lw_g (lw_at lw_m9 39 rfl) rfl
theorem q2018 : (Jvm.Cond.instanceMethod ({ cls := "RiddlePost$Post", name := "pass", desc := "(I)I" } : Jvm.MethodName)) ∈ lw_all := lw_g (lw_at lw_m9 40 rfl) rfl
theorem q2019 : (Jvm.Cond.selects "RiddlePost$Post" ({ cls := "RiddlePost$Post", name := "pass", desc := "(I)I" } : Jvm.MethodName) ({ cls := "RiddlePost$Post", name := "pass", desc := "(I)I" } : Jvm.MethodName)) ∈ lw_all := lw_g (lw_at lw_m9 41 rfl) rfl
theorem q2020 : (Jvm.Cond.code ({ cls := "RiddlePost$Post", name := "pass", desc := "(I)I" } : Jvm.MethodName) prog_5_method_9_code (4 : Nat) (Option.some Jvm.ClassFile.FieldType.int)) ∈ lw_all := lw_g (lw_at lw_m9 42 rfl) rfl
theorem q2021 : (Jvm.Cond.methodLink "RiddlePost$Post" (116 : Nat) ({ cls := "RiddlePost$Memory", name := "end", desc := "(I)I" } : Jvm.MethodName)) ∈ lw_all := lw_g (lw_at lw_m9 43 rfl) rfl
theorem q2022 : (Jvm.Cond.instanceMethod ({ cls := "RiddlePost$Memory", name := "end", desc := "(I)I" } : Jvm.MethodName)) ∈ lw_all := lw_g (lw_at lw_m9 44 rfl) rfl
theorem q2023 : (Jvm.Cond.selects "RiddlePost$Memory" ({ cls := "RiddlePost$Memory", name := "end", desc := "(I)I" } : Jvm.MethodName) ({ cls := "RiddlePost$Memory", name := "end", desc := "(I)I" } : Jvm.MethodName)) ∈ lw_all := lw_g (lw_at lw_m9 45 rfl) rfl
theorem q2024 : (Jvm.Cond.code ({ cls := "RiddlePost$Memory", name := "end", desc := "(I)I" } : Jvm.MethodName) prog_3_method_6_code (3 : Nat) (Option.some Jvm.ClassFile.FieldType.int)) ∈ lw_all := lw_g (lw_at lw_m9 46 rfl) rfl
theorem q2025 : (Jvm.Cond.methodLink "RiddlePost$Memory" (72 : Nat) ({ cls := "java/util/PriorityQueue", name := "isEmpty", desc := "()Z" } : Jvm.MethodName)) ∈ lw_all := lw_g (lw_at lw_m9 47 rfl) rfl
theorem q2026 : (Jvm.Cond.sameMethod "java/util/PriorityQueue" "java/util/AbstractCollection" "isEmpty" "()Z") ∈ lw_all := lw_g (lw_at lw_m9 48 rfl) rfl
theorem q2027 : (Jvm.Cond.declares ({ cls := "java/util/AbstractCollection", name := "isEmpty", desc := "()Z" } : Jvm.MethodName)) ∈ lw_tbl := lw_at lw_m9 49 rfl
theorem q2028 : (Jvm.Cond.selects "java/util/PriorityQueue" ({ cls := "java/util/PriorityQueue", name := "isEmpty", desc := "()Z" } : Jvm.MethodName) ({ cls := "java/util/AbstractCollection", name := "isEmpty", desc := "()Z" } : Jvm.MethodName)) ∈ lw_all := lw_g (lw_at lw_m9 50 rfl) rfl
theorem q2029 : (Jvm.Cond.instanceMethod ({ cls := "java/util/AbstractCollection", name := "isEmpty", desc := "()Z" } : Jvm.MethodName)) ∈ lw_all := lw_g (lw_at lw_m9 51 rfl) rfl
theorem q2030 : (Jvm.Cond.code ({ cls := "java/util/AbstractCollection", name := "isEmpty", desc := "()Z" } : Jvm.MethodName) prog_39_method_4_code (1 : Nat) (Option.some Jvm.ClassFile.FieldType.boolean)) ∈ lw_all := lw_g (lw_at lw_m9 52 rfl) rfl
theorem q2031 : (Jvm.Cond.methodLink "java/util/AbstractCollection" (7 : Nat) ({ cls := "java/util/AbstractCollection", name := "size", desc := "()I" } : Jvm.MethodName)) ∈ lw_all := lw_g (lw_at lw_m9 53 rfl) rfl
theorem q2032 : (Jvm.Cond.declares ({ cls := "java/util/AbstractCollection", name := "size", desc := "()I" } : Jvm.MethodName)) ∈ lw_tbl := lw_at lw_m9 54 rfl
theorem q2033 : (Jvm.Cond.sameMethod "java/util/AbstractCollection" "java/util/AbstractCollection" "size" "()I") ∈ lw_all := lw_g (lw_at lw_m9 55 rfl) rfl
theorem q2034 : (Jvm.Cond.selects "java/util/ArrayList" ({ cls := "java/util/AbstractCollection", name := "size", desc := "()I" } : Jvm.MethodName) ({ cls := "java/util/ArrayList", name := "size", desc := "()I" } : Jvm.MethodName)) ∈ lw_all := lw_g (lw_at lw_m9 56 rfl) rfl
theorem q2035 : (Jvm.Cond.selects "java/util/PriorityQueue" ({ cls := "java/util/AbstractCollection", name := "size", desc := "()I" } : Jvm.MethodName) ({ cls := "java/util/PriorityQueue", name := "size", desc := "()I" } : Jvm.MethodName)) ∈ lw_all := lw_g (lw_at lw_m9 57 rfl) rfl
theorem q2036 : (Jvm.Cond.instanceMethod ({ cls := "java/util/PriorityQueue", name := "size", desc := "()I" } : Jvm.MethodName)) ∈ lw_all := lw_g (lw_at lw_m9 58 rfl) rfl
theorem q2037 : (Jvm.Cond.code ({ cls := "java/util/PriorityQueue", name := "size", desc := "()I" } : Jvm.MethodName) prog_57_method_23_code (1 : Nat) (Option.some Jvm.ClassFile.FieldType.int)) ∈ lw_all := lw_g (lw_at lw_m9 59 rfl) rfl
theorem q2038 : (Jvm.Cond.selects "java/util/TreeMap$EntrySet" ({ cls := "java/util/AbstractCollection", name := "size", desc := "()I" } : Jvm.MethodName) ({ cls := "java/util/TreeMap$EntrySet", name := "size", desc := "()I" } : Jvm.MethodName)) ∈ lw_all := lw_g (lw_at lw_m9 60 rfl) rfl
theorem q2039 : (Jvm.Cond.instanceMethod ({ cls := "java/util/TreeMap$EntrySet", name := "size", desc := "()I" } : Jvm.MethodName)) ∈ lw_all := lw_g (lw_at lw_m9 61 rfl) rfl
theorem q2040 : (Jvm.Cond.code ({ cls := "java/util/TreeMap$EntrySet", name := "size", desc := "()I" } : Jvm.MethodName) prog_70_method_5_code (1 : Nat) (Option.some Jvm.ClassFile.FieldType.int)) ∈ lw_all := lw_g (lw_at lw_m9 62 rfl) rfl
theorem q2041 : (Jvm.Cond.methodLink "java/util/TreeMap$EntrySet" (48 : Nat) ({ cls := "java/util/TreeMap", name := "size", desc := "()I" } : Jvm.MethodName)) ∈ lw_all := lw_g (lw_at lw_m9 63 rfl) rfl
theorem q2042 : (Jvm.Cond.selects "java/util/TreeMap$KeySet" ({ cls := "java/util/AbstractCollection", name := "size", desc := "()I" } : Jvm.MethodName) ({ cls := "java/util/TreeMap$KeySet", name := "size", desc := "()I" } : Jvm.MethodName)) ∈ lw_all := lw_g (lw_at lw_m9 64 rfl) rfl
theorem q2043 : (Jvm.Cond.instanceMethod ({ cls := "java/util/TreeMap$KeySet", name := "size", desc := "()I" } : Jvm.MethodName)) ∈ lw_all := lw_g (lw_at lw_m9 65 rfl) rfl
theorem q2044 : (Jvm.Cond.code ({ cls := "java/util/TreeMap$KeySet", name := "size", desc := "()I" } : Jvm.MethodName) prog_72_method_4_code (1 : Nat) (Option.some Jvm.ClassFile.FieldType.int)) ∈ lw_all := lw_g (lw_at lw_m9 66 rfl) rfl
theorem q2045 : (Jvm.Cond.interfaceEntry "java/util/TreeMap$KeySet" (26 : Nat)) ∈ lw_tbl := lw_at lw_m9 67 rfl
theorem q2046 : (Jvm.Cond.publicMethod ({ cls := "java/util/Map", name := "size", desc := "()I" } : Jvm.MethodName)) ∈ lw_tbl := lw_at lw_m9 68 rfl
theorem q2047 : (Jvm.Cond.selects "java/util/TreeSet" ({ cls := "java/util/AbstractCollection", name := "size", desc := "()I" } : Jvm.MethodName) ({ cls := "java/util/TreeSet", name := "size", desc := "()I" } : Jvm.MethodName)) ∈ lw_all := lw_g (lw_at lw_m9 69 rfl) rfl
theorem q2048 : (Jvm.Cond.instanceMethod ({ cls := "java/util/TreeSet", name := "size", desc := "()I" } : Jvm.MethodName)) ∈ lw_all := lw_g (lw_at lw_m9 70 rfl) rfl
theorem q2049 : (Jvm.Cond.code ({ cls := "java/util/TreeSet", name := "size", desc := "()I" } : Jvm.MethodName) prog_75_method_9_code (1 : Nat) (Option.some Jvm.ClassFile.FieldType.int)) ∈ lw_all := lw_g (lw_at lw_m9 71 rfl) rfl
theorem q2050 : (Jvm.Cond.interfaceEntry "java/util/TreeSet" (53 : Nat)) ∈ lw_tbl := lw_at lw_m9 72 rfl
theorem q2051 : (Jvm.Cond.methodLink "RiddlePost$Memory" (76 : Nat) ({ cls := "java/util/PriorityQueue", name := "peek", desc := "()Ljava/lang/Object;" } : Jvm.MethodName)) ∈ lw_all := lw_g (lw_at lw_m9 73 rfl) rfl
theorem q2052 : (Jvm.Cond.methodLink "RiddlePost$Memory" (83 : Nat) ({ cls := "java/util/PriorityQueue", name := "poll", desc := "()Ljava/lang/Object;" } : Jvm.MethodName)) ∈ lw_all := lw_g (lw_at lw_m9 74 rfl) rfl
theorem q2053 : (Jvm.Cond.instanceMethod ({ cls := "java/util/PriorityQueue", name := "poll", desc := "()Ljava/lang/Object;" } : Jvm.MethodName)) ∈ lw_all := lw_g (lw_at lw_m9 75 rfl) rfl
theorem q2054 : (Jvm.Cond.selects "java/util/PriorityQueue" ({ cls := "java/util/PriorityQueue", name := "poll", desc := "()Ljava/lang/Object;" } : Jvm.MethodName) ({ cls := "java/util/PriorityQueue", name := "poll", desc := "()Ljava/lang/Object;" } : Jvm.MethodName)) ∈ lw_all := lw_g (lw_at lw_m9 76 rfl) rfl
theorem q2055 : (Jvm.Cond.code ({ cls := "java/util/PriorityQueue", name := "poll", desc := "()Ljava/lang/Object;" } : Jvm.MethodName) prog_57_method_25_code (6 : Nat) (Option.some (Jvm.ClassFile.FieldType.object "java/lang/Object"))) ∈ lw_all := lw_g (lw_at lw_m9 77 rfl) rfl
theorem q2056 : (Jvm.Cond.methodLink "RiddlePostLaw" (132 : Nat) ({ cls := "RiddlePostLaw", name := "parentOf", desc := "(LRiddlePost;I[J)I" } : Jvm.MethodName)) ∈ lw_all := lw_g (lw_at lw_m9 78 rfl) rfl
theorem q2057 : (Jvm.Cond.static ({ cls := "RiddlePostLaw", name := "parentOf", desc := "(LRiddlePost;I[J)I" } : Jvm.MethodName)) ∈ lw_all := lw_g (lw_at lw_m9 79 rfl) rfl
theorem q2058 : (Jvm.Cond.codeWith ({ cls := "RiddlePostLaw", name := "parentOf", desc := "(LRiddlePost;I[J)I" } : Jvm.MethodName) method_11_code (4 : Nat) (Option.some Jvm.ClassFile.FieldType.int) [((0 : Nat), (9 : Nat), (12 : Nat), (13 : Nat))]) ∈ lw_all := lw_g (lw_at lw_m9 80 rfl) rfl
theorem q2059 : (Jvm.Cond.methodLink "RiddlePostLaw" (42 : Nat) ({ cls := "RiddlePost", name := "parentOf", desc := "(I)I" } : Jvm.MethodName)) ∈ lw_all := lw_g (lw_at lw_m9 81 rfl) rfl
theorem q2060 : (Jvm.Cond.instanceMethod ({ cls := "RiddlePost", name := "parentOf", desc := "(I)I" } : Jvm.MethodName)) ∈ lw_all := lw_g (lw_at lw_m9 82 rfl) rfl
theorem q2061 : (Jvm.Cond.selects "RiddlePost" ({ cls := "RiddlePost", name := "parentOf", desc := "(I)I" } : Jvm.MethodName) ({ cls := "RiddlePost", name := "parentOf", desc := "(I)I" } : Jvm.MethodName)) ∈ lw_all := lw_g (lw_at lw_m9 83 rfl) rfl
theorem q2062 : (Jvm.Cond.code ({ cls := "RiddlePost", name := "parentOf", desc := "(I)I" } : Jvm.MethodName) prog_1_method_19_code (2 : Nat) (Option.some Jvm.ClassFile.FieldType.int)) ∈ lw_all := lw_g (lw_at lw_m9 84 rfl) rfl
theorem q2063 : (Jvm.Cond.methodLink "RiddlePostLaw" (135 : Nat) ({ cls := "RiddlePostLaw", name := "depthOf", desc := "(LRiddlePost;I[J)I" } : Jvm.MethodName)) ∈ lw_all := lw_g (lw_at lw_m9 85 rfl) rfl
theorem q2064 : (Jvm.Cond.static ({ cls := "RiddlePostLaw", name := "depthOf", desc := "(LRiddlePost;I[J)I" } : Jvm.MethodName)) ∈ lw_all := lw_g (lw_at lw_m9 86 rfl) rfl
theorem q2065 : (Jvm.Cond.codeWith ({ cls := "RiddlePostLaw", name := "depthOf", desc := "(LRiddlePost;I[J)I" } : Jvm.MethodName) method_12_code (4 : Nat) (Option.some Jvm.ClassFile.FieldType.int) [((0 : Nat), (9 : Nat), (12 : Nat), (13 : Nat))]) ∈ lw_all := lw_g (lw_at lw_m9 87 rfl) rfl
theorem q2066 : (Jvm.Cond.methodLink "RiddlePostLaw" (45 : Nat) ({ cls := "RiddlePost", name := "depthOf", desc := "(I)I" } : Jvm.MethodName)) ∈ lw_all := lw_g (lw_at lw_m9 88 rfl) rfl
theorem q2067 : (Jvm.Cond.instanceMethod ({ cls := "RiddlePost", name := "depthOf", desc := "(I)I" } : Jvm.MethodName)) ∈ lw_all := lw_g (lw_at lw_m9 89 rfl) rfl
theorem q2068 : (Jvm.Cond.selects "RiddlePost" ({ cls := "RiddlePost", name := "depthOf", desc := "(I)I" } : Jvm.MethodName) ({ cls := "RiddlePost", name := "depthOf", desc := "(I)I" } : Jvm.MethodName)) ∈ lw_all := lw_g (lw_at lw_m9 90 rfl) rfl
theorem q2069 : (Jvm.Cond.code ({ cls := "RiddlePost", name := "depthOf", desc := "(I)I" } : Jvm.MethodName) prog_1_method_20_code (2 : Nat) (Option.some Jvm.ClassFile.FieldType.int)) ∈ lw_all := lw_g (lw_at lw_m9 91 rfl) rfl
theorem q2070 : (Jvm.Cond.methodLink "RiddlePostLaw" (138 : Nat) ({ cls := "RiddlePostLaw", name := "kindOf", desc := "(LRiddlePost;I[J)I" } : Jvm.MethodName)) ∈ lw_all := lw_g (lw_at lw_m9 92 rfl) rfl
theorem q2071 : (Jvm.Cond.static ({ cls := "RiddlePostLaw", name := "kindOf", desc := "(LRiddlePost;I[J)I" } : Jvm.MethodName)) ∈ lw_all := lw_g (lw_at lw_m9 93 rfl) rfl
theorem q2072 : (Jvm.Cond.codeWith ({ cls := "RiddlePostLaw", name := "kindOf", desc := "(LRiddlePost;I[J)I" } : Jvm.MethodName) method_13_code (4 : Nat) (Option.some Jvm.ClassFile.FieldType.int) [((0 : Nat), (9 : Nat), (12 : Nat), (13 : Nat))]) ∈ lw_all := lw_g (lw_at lw_m9 94 rfl) rfl
theorem q2073 : (Jvm.Cond.methodLink "RiddlePostLaw" (48 : Nat) ({ cls := "RiddlePost", name := "kindOf", desc := "(I)I" } : Jvm.MethodName)) ∈ lw_all := lw_g (lw_at lw_m9 95 rfl) rfl
theorem q2074 : (Jvm.Cond.instanceMethod ({ cls := "RiddlePost", name := "kindOf", desc := "(I)I" } : Jvm.MethodName)) ∈ lw_all := lw_g (lw_at lw_m9 96 rfl) rfl
theorem q2075 : (Jvm.Cond.selects "RiddlePost" ({ cls := "RiddlePost", name := "kindOf", desc := "(I)I" } : Jvm.MethodName) ({ cls := "RiddlePost", name := "kindOf", desc := "(I)I" } : Jvm.MethodName)) ∈ lw_all := lw_g (lw_at lw_m9 97 rfl) rfl
theorem q2076 : (Jvm.Cond.code ({ cls := "RiddlePost", name := "kindOf", desc := "(I)I" } : Jvm.MethodName) prog_1_method_21_code (2 : Nat) (Option.some Jvm.ClassFile.FieldType.int)) ∈ lw_all := lw_g (lw_at lw_m9 98 rfl) rfl
theorem q2077 : (Jvm.Cond.methodLink "RiddlePostLaw" (141 : Nat) ({ cls := "RiddlePostLaw", name := "valueOf", desc := "(LRiddlePost;I[J)I" } : Jvm.MethodName)) ∈ lw_all := lw_g (lw_at lw_m9 99 rfl) rfl
theorem q2078 : (Jvm.Cond.static ({ cls := "RiddlePostLaw", name := "valueOf", desc := "(LRiddlePost;I[J)I" } : Jvm.MethodName)) ∈ lw_all := lw_g (lw_at lw_m9 100 rfl) rfl
theorem q2079 : (Jvm.Cond.codeWith ({ cls := "RiddlePostLaw", name := "valueOf", desc := "(LRiddlePost;I[J)I" } : Jvm.MethodName) method_14_code (4 : Nat) (Option.some Jvm.ClassFile.FieldType.int) [((0 : Nat), (9 : Nat), (12 : Nat), (13 : Nat))]) ∈ lw_all := lw_g (lw_at lw_m9 101 rfl) rfl
theorem q2080 : (Jvm.Cond.methodLink "RiddlePostLaw" (51 : Nat) ({ cls := "RiddlePost", name := "valueOf", desc := "(I)I" } : Jvm.MethodName)) ∈ lw_all := lw_g (lw_at lw_m9 102 rfl) rfl
theorem q2081 : (Jvm.Cond.instanceMethod ({ cls := "RiddlePost", name := "valueOf", desc := "(I)I" } : Jvm.MethodName)) ∈ lw_all := lw_g (lw_at lw_m9 103 rfl) rfl
theorem q2082 : (Jvm.Cond.selects "RiddlePost" ({ cls := "RiddlePost", name := "valueOf", desc := "(I)I" } : Jvm.MethodName) ({ cls := "RiddlePost", name := "valueOf", desc := "(I)I" } : Jvm.MethodName)) ∈ lw_all := lw_g (lw_at lw_m9 104 rfl) rfl
theorem q2083 : (Jvm.Cond.code ({ cls := "RiddlePost", name := "valueOf", desc := "(I)I" } : Jvm.MethodName) prog_1_method_22_code (2 : Nat) (Option.some Jvm.ClassFile.FieldType.int)) ∈ lw_all := lw_g (lw_at lw_m9 105 rfl) rfl
theorem q2084 : (Jvm.Cond.methodLink "RiddlePostLaw" (144 : Nat) ({ cls := "RiddlePostLaw", name := "truthOf", desc := "(LRiddlePost;I[J)I" } : Jvm.MethodName)) ∈ lw_all := lw_g (lw_at lw_m9 106 rfl) rfl
theorem q2085 : (Jvm.Cond.static ({ cls := "RiddlePostLaw", name := "truthOf", desc := "(LRiddlePost;I[J)I" } : Jvm.MethodName)) ∈ lw_all := lw_g (lw_at lw_m9 107 rfl) rfl
theorem q2086 : (Jvm.Cond.codeWith ({ cls := "RiddlePostLaw", name := "truthOf", desc := "(LRiddlePost;I[J)I" } : Jvm.MethodName) method_15_code (4 : Nat) (Option.some Jvm.ClassFile.FieldType.int) [((0 : Nat), (9 : Nat), (12 : Nat), (13 : Nat))]) ∈ lw_all := lw_g (lw_at lw_m9 108 rfl) rfl
theorem q2087 : (Jvm.Cond.methodLink "RiddlePostLaw" (54 : Nat) ({ cls := "RiddlePost", name := "truthOf", desc := "(I)I" } : Jvm.MethodName)) ∈ lw_all := lw_g (lw_at lw_m9 109 rfl) rfl
theorem q2088 : (Jvm.Cond.instanceMethod ({ cls := "RiddlePost", name := "truthOf", desc := "(I)I" } : Jvm.MethodName)) ∈ lw_all := lw_g (lw_at lw_m9 110 rfl) rfl
theorem q2089 : (Jvm.Cond.selects "RiddlePost" ({ cls := "RiddlePost", name := "truthOf", desc := "(I)I" } : Jvm.MethodName) ({ cls := "RiddlePost", name := "truthOf", desc := "(I)I" } : Jvm.MethodName)) ∈ lw_all := lw_g (lw_at lw_m9 111 rfl) rfl
theorem q2090 : (Jvm.Cond.code ({ cls := "RiddlePost", name := "truthOf", desc := "(I)I" } : Jvm.MethodName) prog_1_method_23_code (2 : Nat) (Option.some Jvm.ClassFile.FieldType.int)) ∈ lw_all := lw_g (lw_at lw_m9 112 rfl) rfl
theorem q2091 : (Jvm.Cond.methodLink "RiddlePostLaw" (147 : Nat) ({ cls := "RiddlePostLaw", name := "rememberedOf", desc := "(LRiddlePost;I[J)I" } : Jvm.MethodName)) ∈ lw_all := lw_g (lw_at lw_m9 113 rfl) rfl
theorem q2092 : (Jvm.Cond.static ({ cls := "RiddlePostLaw", name := "rememberedOf", desc := "(LRiddlePost;I[J)I" } : Jvm.MethodName)) ∈ lw_all := lw_g (lw_at lw_m9 114 rfl) rfl
theorem q2093 : (Jvm.Cond.codeWith ({ cls := "RiddlePostLaw", name := "rememberedOf", desc := "(LRiddlePost;I[J)I" } : Jvm.MethodName) method_16_code (4 : Nat) (Option.some Jvm.ClassFile.FieldType.int) [((0 : Nat), (9 : Nat), (12 : Nat), (13 : Nat))]) ∈ lw_all := lw_g (lw_at lw_m9 115 rfl) rfl
theorem q2094 : (Jvm.Cond.methodLink "RiddlePostLaw" (57 : Nat) ({ cls := "RiddlePost", name := "rememberedOf", desc := "(I)I" } : Jvm.MethodName)) ∈ lw_all := lw_g (lw_at lw_m9 116 rfl) rfl
theorem q2095 : (Jvm.Cond.methodLink "RiddlePostLaw" (150 : Nat) ({ cls := "RiddlePostLaw", name := "ticksLeftOf", desc := "(LRiddlePost;I[J)I" } : Jvm.MethodName)) ∈ lw_all := lw_g (lw_at lw_m9 117 rfl) rfl
theorem q2096 : (Jvm.Cond.static ({ cls := "RiddlePostLaw", name := "ticksLeftOf", desc := "(LRiddlePost;I[J)I" } : Jvm.MethodName)) ∈ lw_all := lw_g (lw_at lw_m9 118 rfl) rfl
theorem q2097 : (Jvm.Cond.codeWith ({ cls := "RiddlePostLaw", name := "ticksLeftOf", desc := "(LRiddlePost;I[J)I" } : Jvm.MethodName) method_17_code (4 : Nat) (Option.some Jvm.ClassFile.FieldType.int) [((0 : Nat), (9 : Nat), (12 : Nat), (13 : Nat))]) ∈ lw_all := lw_g (lw_at lw_m9 119 rfl) rfl
theorem q2098 : (Jvm.Cond.methodLink "RiddlePostLaw" (60 : Nat) ({ cls := "RiddlePost", name := "ticksLeftOf", desc := "(I)I" } : Jvm.MethodName)) ∈ lw_all := lw_g (lw_at lw_m9 120 rfl) rfl
theorem q2099 : (Jvm.Cond.methodLink "RiddlePostLaw" (153 : Nat) ({ cls := "RiddlePostLaw", name := "referralLeft", desc := "(LRiddlePost;I[J)I" } : Jvm.MethodName)) ∈ lw_all := lw_g (lw_at lw_m9 121 rfl) rfl
theorem q2100 : (Jvm.Cond.static ({ cls := "RiddlePostLaw", name := "referralLeft", desc := "(LRiddlePost;I[J)I" } : Jvm.MethodName)) ∈ lw_all := lw_g (lw_at lw_m9 122 rfl) rfl
theorem q2101 : (Jvm.Cond.codeWith ({ cls := "RiddlePostLaw", name := "referralLeft", desc := "(LRiddlePost;I[J)I" } : Jvm.MethodName) method_18_code (4 : Nat) (Option.some Jvm.ClassFile.FieldType.int) [((0 : Nat), (9 : Nat), (12 : Nat), (13 : Nat))]) ∈ lw_all := lw_g (lw_at lw_m9 123 rfl) rfl
theorem q2102 : (Jvm.Cond.methodLink "RiddlePostLaw" (63 : Nat) ({ cls := "RiddlePost", name := "referralLeft", desc := "(I)I" } : Jvm.MethodName)) ∈ lw_all := lw_g (lw_at lw_m9 124 rfl) rfl
theorem q2103 : (Jvm.Cond.methodLink "RiddlePostLaw" (168 : Nat) ({ cls := "RiddlePostLaw", name := "isOutOfDate", desc := "(LRiddlePost;I[J)I" } : Jvm.MethodName)) ∈ lw_all := lw_g (lw_at lw_m9 125 rfl) rfl
theorem q2104 : (Jvm.Cond.static ({ cls := "RiddlePostLaw", name := "isOutOfDate", desc := "(LRiddlePost;I[J)I" } : Jvm.MethodName)) ∈ lw_all := lw_g (lw_at lw_m9 126 rfl) rfl
theorem q2105 : (Jvm.Cond.codeWith ({ cls := "RiddlePostLaw", name := "isOutOfDate", desc := "(LRiddlePost;I[J)I" } : Jvm.MethodName) method_19_code (4 : Nat) (Option.some Jvm.ClassFile.FieldType.int) [((0 : Nat), (16 : Nat), (19 : Nat), (13 : Nat))]) ∈ lw_all := lw_g (lw_at lw_m9 127 rfl) rfl
theorem q2106 : (Jvm.Cond.methodLink "RiddlePostLaw" (66 : Nat) ({ cls := "RiddlePost", name := "isOutOfDate", desc := "(I)Z" } : Jvm.MethodName)) ∈ lw_all := lw_g (lw_at lw_m9 128 rfl) rfl
theorem q2107 : (Jvm.Cond.methodLink "RiddlePostLaw" (183 : Nat) ({ cls := "RiddlePostLaw", name := "questionsTo", desc := "(LRiddlePost;I[J)I" } : Jvm.MethodName)) ∈ lw_all := lw_g (lw_at lw_m9 129 rfl) rfl
theorem q2108 : (Jvm.Cond.static ({ cls := "RiddlePostLaw", name := "questionsTo", desc := "(LRiddlePost;I[J)I" } : Jvm.MethodName)) ∈ lw_all := lw_g (lw_at lw_m9 130 rfl) rfl
theorem q2109 : (Jvm.Cond.codeWith ({ cls := "RiddlePostLaw", name := "questionsTo", desc := "(LRiddlePost;I[J)I" } : Jvm.MethodName) method_20_code (4 : Nat) (Option.some Jvm.ClassFile.FieldType.int) [((0 : Nat), (9 : Nat), (12 : Nat), (13 : Nat))]) ∈ lw_all := lw_g (lw_at lw_m9 131 rfl) rfl
theorem q2110 : (Jvm.Cond.methodLink "RiddlePostLaw" (70 : Nat) ({ cls := "RiddlePost", name := "questionsTo", desc := "(I)I" } : Jvm.MethodName)) ∈ lw_all := lw_g (lw_at lw_m9 132 rfl) rfl
theorem q2111 : (Jvm.Cond.instanceMethod ({ cls := "RiddlePost", name := "questionsTo", desc := "(I)I" } : Jvm.MethodName)) ∈ lw_all := lw_g (lw_at lw_m9 133 rfl) rfl
theorem q2112 : (Jvm.Cond.selects "RiddlePost" ({ cls := "RiddlePost", name := "questionsTo", desc := "(I)I" } : Jvm.MethodName) ({ cls := "RiddlePost", name := "questionsTo", desc := "(I)I" } : Jvm.MethodName)) ∈ lw_all := lw_g (lw_at lw_m9 134 rfl) rfl
theorem q2113 : (Jvm.Cond.code ({ cls := "RiddlePost", name := "questionsTo", desc := "(I)I" } : Jvm.MethodName) prog_1_method_35_code (2 : Nat) (Option.some Jvm.ClassFile.FieldType.int)) ∈ lw_all := lw_g (lw_at lw_m9 135 rfl) rfl
theorem q2114 : (Jvm.Cond.methodLink "RiddlePostLaw" (191 : Nat) ({ cls := "RiddlePostLaw", name := "wouldSolve", desc := "(LRiddlePost;I[J)I" } : Jvm.MethodName)) ∈ lw_all := lw_g (lw_at lw_m9 136 rfl) rfl
theorem q2115 : (Jvm.Cond.static ({ cls := "RiddlePostLaw", name := "wouldSolve", desc := "(LRiddlePost;I[J)I" } : Jvm.MethodName)) ∈ lw_all := lw_g (lw_at lw_m9 137 rfl) rfl
theorem q2116 : (Jvm.Cond.codeWith ({ cls := "RiddlePostLaw", name := "wouldSolve", desc := "(LRiddlePost;I[J)I" } : Jvm.MethodName) method_21_code (4 : Nat) (Option.some Jvm.ClassFile.FieldType.int) [((0 : Nat), (9 : Nat), (12 : Nat), (13 : Nat))]) ∈ lw_all := lw_g (lw_at lw_m9 138 rfl) rfl
theorem q2117 : (Jvm.Cond.methodLink "RiddlePostLaw" (73 : Nat) ({ cls := "RiddlePost", name := "wouldSolve", desc := "(I)I" } : Jvm.MethodName)) ∈ lw_all := lw_g (lw_at lw_m9 139 rfl) rfl
theorem q2118 : (Jvm.Cond.instanceMethod ({ cls := "RiddlePost", name := "wouldSolve", desc := "(I)I" } : Jvm.MethodName)) ∈ lw_all := lw_g (lw_at lw_m9 140 rfl) rfl
theorem q2119 : (Jvm.Cond.selects "RiddlePost" ({ cls := "RiddlePost", name := "wouldSolve", desc := "(I)I" } : Jvm.MethodName) ({ cls := "RiddlePost", name := "wouldSolve", desc := "(I)I" } : Jvm.MethodName)) ∈ lw_all := lw_g (lw_at lw_m9 141 rfl) rfl
theorem q2120 : (Jvm.Cond.code ({ cls := "RiddlePost", name := "wouldSolve", desc := "(I)I" } : Jvm.MethodName) prog_1_method_37_code (2 : Nat) (Option.some Jvm.ClassFile.FieldType.int)) ∈ lw_all := lw_g (lw_at lw_m9 142 rfl) rfl
theorem q2121 : (Jvm.Cond.methodLink "RiddlePostLaw" (194 : Nat) ({ cls := "RiddlePostLaw", name := "costOf", desc := "(LRiddlePost;I[J)I" } : Jvm.MethodName)) ∈ lw_all := lw_g (lw_at lw_m9 143 rfl) rfl
theorem q2122 : (Jvm.Cond.static ({ cls := "RiddlePostLaw", name := "costOf", desc := "(LRiddlePost;I[J)I" } : Jvm.MethodName)) ∈ lw_all := lw_g (lw_at lw_m9 144 rfl) rfl
theorem q2123 : (Jvm.Cond.codeWith ({ cls := "RiddlePostLaw", name := "costOf", desc := "(LRiddlePost;I[J)I" } : Jvm.MethodName) method_22_code (4 : Nat) (Option.some Jvm.ClassFile.FieldType.int) [((0 : Nat), (9 : Nat), (12 : Nat), (13 : Nat))]) ∈ lw_all := lw_g (lw_at lw_m9 145 rfl) rfl
theorem q2124 : (Jvm.Cond.methodLink "RiddlePostLaw" (76 : Nat) ({ cls := "RiddlePost", name := "costOf", desc := "(I)I" } : Jvm.MethodName)) ∈ lw_all := lw_g (lw_at lw_m9 146 rfl) rfl
theorem q2125 : (Jvm.Cond.instanceMethod ({ cls := "RiddlePost", name := "costOf", desc := "(I)I" } : Jvm.MethodName)) ∈ lw_all := lw_g (lw_at lw_m9 147 rfl) rfl
theorem q2126 : (Jvm.Cond.selects "RiddlePost" ({ cls := "RiddlePost", name := "costOf", desc := "(I)I" } : Jvm.MethodName) ({ cls := "RiddlePost", name := "costOf", desc := "(I)I" } : Jvm.MethodName)) ∈ lw_all := lw_g (lw_at lw_m9 148 rfl) rfl
theorem q2127 : (Jvm.Cond.code ({ cls := "RiddlePost", name := "costOf", desc := "(I)I" } : Jvm.MethodName) prog_1_method_38_code (3 : Nat) (Option.some Jvm.ClassFile.FieldType.int)) ∈ lw_all := lw_g (lw_at lw_m9 149 rfl) rfl
theorem q2128 : (Jvm.Cond.methodLink "RiddlePostLaw" (197 : Nat) ({ cls := "RiddlePostLaw", name := "ticksUntilTruth", desc := "(LRiddlePost;I[J)I" } : Jvm.MethodName)) ∈ lw_all := lw_g (lw_at lw_m9 150 rfl) rfl
theorem q2129 : (Jvm.Cond.static ({ cls := "RiddlePostLaw", name := "ticksUntilTruth", desc := "(LRiddlePost;I[J)I" } : Jvm.MethodName)) ∈ lw_all := lw_g (lw_at lw_m9 151 rfl) rfl
theorem q2130 : (Jvm.Cond.codeWith ({ cls := "RiddlePostLaw", name := "ticksUntilTruth", desc := "(LRiddlePost;I[J)I" } : Jvm.MethodName) method_23_code (4 : Nat) (Option.some Jvm.ClassFile.FieldType.int) [((0 : Nat), (9 : Nat), (12 : Nat), (13 : Nat))]) ∈ lw_all := lw_g (lw_at lw_m9 152 rfl) rfl
theorem q2131 : (Jvm.Cond.methodLink "RiddlePostLaw" (79 : Nat) ({ cls := "RiddlePost", name := "ticksUntilTruth", desc := "(I)I" } : Jvm.MethodName)) ∈ lw_all := lw_g (lw_at lw_m9 153 rfl) rfl
theorem q2132 : (Jvm.Cond.instanceMethod ({ cls := "RiddlePost", name := "ticksUntilTruth", desc := "(I)I" } : Jvm.MethodName)) ∈ lw_all := lw_g (lw_at lw_m9 154 rfl) rfl
theorem q2133 : (Jvm.Cond.selects "RiddlePost" ({ cls := "RiddlePost", name := "ticksUntilTruth", desc := "(I)I" } : Jvm.MethodName) ({ cls := "RiddlePost", name := "ticksUntilTruth", desc := "(I)I" } : Jvm.MethodName)) ∈ lw_all := lw_g (lw_at lw_m9 155 rfl) rfl
theorem q2134 : (Jvm.Cond.code ({ cls := "RiddlePost", name := "ticksUntilTruth", desc := "(I)I" } : Jvm.MethodName) prog_1_method_39_code (4 : Nat) (Option.some Jvm.ClassFile.FieldType.int)) ∈ lw_all := lw_g (lw_at lw_m9 156 rfl) rfl
theorem q2135 : (Jvm.Cond.methodLink "RiddlePost" (207 : Nat) ({ cls := "RiddlePost", name := "truthOf", desc := "(I)I" } : Jvm.MethodName)) ∈ lw_all := lw_g (lw_at lw_m9 157 rfl) rfl
theorem q2136 : (Jvm.Cond.methodLink "RiddlePost" (210 : Nat) ({ cls := "java/lang/Math", name := "max", desc := "(II)I" } : Jvm.MethodName)) ∈ lw_all := lw_g (lw_at lw_m9 158 rfl) rfl
theorem q2137 : (Jvm.Cond.methodLink "RiddlePostLaw" (200 : Nat) ({ cls := "RiddlePostLaw", name := "append", desc := "(LRiddlePost;I[J)I" } : Jvm.MethodName)) ∈ lw_all := lw_g (lw_at lw_m9 159 rfl) rfl
theorem q2138 : (Jvm.Cond.static ({ cls := "RiddlePostLaw", name := "append", desc := "(LRiddlePost;I[J)I" } : Jvm.MethodName)) ∈ lw_all := lw_g (lw_at lw_m9 160 rfl) rfl
theorem q2139 : (Jvm.Cond.codeWith ({ cls := "RiddlePostLaw", name := "append", desc := "(LRiddlePost;I[J)I" } : Jvm.MethodName) method_24_code (4 : Nat) (Option.some Jvm.ClassFile.FieldType.int) [((0 : Nat), (9 : Nat), (12 : Nat), (15 : Nat)), ((0 : Nat), (9 : Nat), (15 : Nat), (31 : Nat))]) ∈ lw_all := lw_g (lw_at lw_m9 161 rfl) rfl
theorem q2140 : (Jvm.Cond.methodLink "RiddlePostLaw" (82 : Nat) ({ cls := "RiddlePost", name := "append", desc := "(I)I" } : Jvm.MethodName)) ∈ lw_all := lw_g (lw_at lw_m9 162 rfl) rfl
theorem q2141 : (Jvm.Cond.instanceMethod ({ cls := "RiddlePost", name := "append", desc := "(I)I" } : Jvm.MethodName)) ∈ lw_all := lw_g (lw_at lw_m9 163 rfl) rfl
theorem q2142 : (Jvm.Cond.selects "RiddlePost" ({ cls := "RiddlePost", name := "append", desc := "(I)I" } : Jvm.MethodName) ({ cls := "RiddlePost", name := "append", desc := "(I)I" } : Jvm.MethodName)) ∈ lw_all := lw_g (lw_at lw_m9 164 rfl) rfl
theorem q2143 : (Jvm.Cond.code ({ cls := "RiddlePost", name := "append", desc := "(I)I" } : Jvm.MethodName) prog_1_method_40_code (2 : Nat) (Option.some Jvm.ClassFile.FieldType.int)) ∈ lw_all := lw_g (lw_at lw_m9 165 rfl) rfl
theorem q2144 : (Jvm.Cond.methodLink "RiddlePost" (219 : Nat) ({ cls := "java/lang/StringBuilder", name := "append", desc := "(C)Ljava/lang/StringBuilder;" } : Jvm.MethodName)) ∈ lw_all := lw_g (lw_at lw_m9 166 rfl) rfl
theorem q2145 : (Jvm.Cond.instanceMethod ({ cls := "java/lang/StringBuilder", name := "append", desc := "(C)Ljava/lang/StringBuilder;" } : Jvm.MethodName)) ∈ lw_all := lw_g (lw_at lw_m9 167 rfl) rfl
theorem q2146 : (Jvm.Cond.selects "java/lang/StringBuilder" ({ cls := "java/lang/StringBuilder", name := "append", desc := "(C)Ljava/lang/StringBuilder;" } : Jvm.MethodName) ({ cls := "java/lang/StringBuilder", name := "append", desc := "(C)Ljava/lang/StringBuilder;" } : Jvm.MethodName)) ∈ lw_all := lw_g (lw_at lw_m9 168 rfl) rfl
theorem q2147 : (Jvm.Cond.code ({ cls := "java/lang/StringBuilder", name := "append", desc := "(C)Ljava/lang/StringBuilder;" } : Jvm.MethodName) prog_31_method_14_code (2 : Nat) (Option.some (Jvm.ClassFile.FieldType.object "java/lang/StringBuilder"))) ∈ lw_all := lw_g (lw_at lw_m9 169 rfl) rfl
theorem q2148 : (Jvm.Cond.methodLink "java/lang/StringBuilder" (50 : Nat) ({ cls := "java/lang/AbstractStringBuilder", name := "append", desc := "(C)Ljava/lang/AbstractStringBuilder;" } : Jvm.MethodName)) ∈ lw_all := lw_g (lw_at lw_m9 170 rfl) rfl
theorem q2149 : (Jvm.Cond.instanceMethod ({ cls := "java/lang/AbstractStringBuilder", name := "append", desc := "(C)Ljava/lang/AbstractStringBuilder;" } : Jvm.MethodName)) ∈ lw_all := lw_g (lw_at lw_m9 171 rfl) rfl
theorem q2150 : (Jvm.Cond.code ({ cls := "java/lang/AbstractStringBuilder", name := "append", desc := "(C)Ljava/lang/AbstractStringBuilder;" } : Jvm.MethodName) prog_13_method_31_code (2 : Nat) (Option.some (Jvm.ClassFile.FieldType.object "java/lang/AbstractStringBuilder"))) ∈ lw_all := lw_g (lw_at lw_m9 172 rfl) rfl
theorem q2151 : (Jvm.Cond.methodLink "java/lang/AbstractStringBuilder" (191 : Nat) ({ cls := "java/lang/StringLatin1", name := "canEncode", desc := "(C)Z" } : Jvm.MethodName)) ∈ lw_all := lw_g (lw_at lw_m9 173 rfl) rfl
theorem q2152 : (Jvm.Cond.static ({ cls := "java/lang/StringLatin1", name := "canEncode", desc := "(C)Z" } : Jvm.MethodName)) ∈ lw_all := lw_g (lw_at lw_m9 174 rfl) rfl
theorem q2153 : (Jvm.Cond.code ({ cls := "java/lang/StringLatin1", name := "canEncode", desc := "(C)Z" } : Jvm.MethodName) prog_33_method_3_code (1 : Nat) (Option.some Jvm.ClassFile.FieldType.boolean)) ∈ lw_all := lw_g (lw_at lw_m9 175 rfl) rfl
theorem q2154 : (Jvm.Cond.methodLink "java/lang/AbstractStringBuilder" (197 : Nat) ({ cls := "java/lang/StringUTF16", name := "putCharSB", desc := "([BII)V" } : Jvm.MethodName)) ∈ lw_all := lw_g (lw_at lw_m9 176 rfl) rfl
theorem q2155 : (Jvm.Cond.static ({ cls := "java/lang/StringUTF16", name := "putCharSB", desc := "([BII)V" } : Jvm.MethodName)) ∈ lw_all := lw_g (lw_at lw_m9 177 rfl) rfl
theorem q2156 : (Jvm.Cond.code ({ cls := "java/lang/StringUTF16", name := "putCharSB", desc := "([BII)V" } : Jvm.MethodName) prog_34_method_71_code (3 : Nat) (Option.none : Option Jvm.ClassFile.FieldType)) ∈ lw_all := lw_g (lw_at lw_m9 178 rfl) rfl
theorem q2157 : (Jvm.Cond.methodLink "java/lang/StringUTF16" (67 : Nat) ({ cls := "java/lang/StringUTF16", name := "checkIndex", desc := "(I[B)V" } : Jvm.MethodName)) ∈ lw_all := lw_g (lw_at lw_m9 179 rfl) rfl
theorem q2158 : (Jvm.Cond.static ({ cls := "java/lang/StringUTF16", name := "checkIndex", desc := "(I[B)V" } : Jvm.MethodName)) ∈ lw_all := lw_g (lw_at lw_m9 180 rfl) rfl
theorem q2159 : (Jvm.Cond.code ({ cls := "java/lang/StringUTF16", name := "checkIndex", desc := "(I[B)V" } : Jvm.MethodName) prog_34_method_91_code (2 : Nat) (Option.none : Option Jvm.ClassFile.FieldType)) ∈ lw_all := lw_g (lw_at lw_m9 181 rfl) rfl
theorem q2160 : (Jvm.Cond.methodLink "java/lang/StringUTF16" (414 : Nat) ({ cls := "java/lang/String", name := "checkIndex", desc := "(II)V" } : Jvm.MethodName)) ∈ lw_all := lw_g (lw_at lw_m9 182 rfl) rfl
theorem q2161 : (Jvm.Cond.methodLink "RiddlePostLaw" (211 : Nat) ({ cls := "RiddlePostLaw", name := "runActs", desc := "(LRiddlePost;[J)I" } : Jvm.MethodName)) ∈ lw_all := lw_g (lw_at lw_m9 183 rfl) rfl
theorem q2162 : (Jvm.Cond.static ({ cls := "RiddlePostLaw", name := "runActs", desc := "(LRiddlePost;[J)I" } : Jvm.MethodName)) ∈ lw_all := lw_g (lw_at lw_m9 184 rfl) rfl
theorem q2163 : (Jvm.Cond.codeWith ({ cls := "RiddlePostLaw", name := "runActs", desc := "(LRiddlePost;[J)I" } : Jvm.MethodName) method_25_code (3 : Nat) (Option.some Jvm.ClassFile.FieldType.int) [((0 : Nat), (8 : Nat), (11 : Nat), (31 : Nat))]) ∈ lw_all := lw_g (lw_at lw_m9 185 rfl) rfl
theorem q2164 : (Jvm.Cond.methodLink "RiddlePostLaw" (85 : Nat) ({ cls := "RiddlePost", name := "runActs", desc := "()I" } : Jvm.MethodName)) ∈ lw_all := lw_g (lw_at lw_m9 186 rfl) rfl
theorem q2165 : (Jvm.Cond.instanceMethod ({ cls := "RiddlePost", name := "runActs", desc := "()I" } : Jvm.MethodName)) ∈ lw_all := lw_g (lw_at lw_m9 187 rfl) rfl
theorem q2166 : (Jvm.Cond.selects "RiddlePost" ({ cls := "RiddlePost", name := "runActs", desc := "()I" } : Jvm.MethodName) ({ cls := "RiddlePost", name := "runActs", desc := "()I" } : Jvm.MethodName)) ∈ lw_all := lw_g (lw_at lw_m9 188 rfl) rfl
theorem q2167 : (Jvm.Cond.code ({ cls := "RiddlePost", name := "runActs", desc := "()I" } : Jvm.MethodName) prog_1_method_43_code (5 : Nat) (Option.some Jvm.ClassFile.FieldType.int)) ∈ lw_all := lw_g (lw_at lw_m9 189 rfl) rfl
theorem q2168 : (Jvm.Cond.methodLink "RiddlePost" (237 : Nat) ({ cls := "java/util/ArrayList", name := "iterator", desc := "()Ljava/util/Iterator;" } : Jvm.MethodName)) ∈ lw_all := lw_g (lw_at lw_m9 190 rfl) rfl
theorem q2169 : (Jvm.Cond.interfaceEntry "RiddlePost" (241 : Nat)) ∈ lw_tbl := lw_at lw_m9 191 rfl
theorem q2170 : (Jvm.Cond.methodLink "RiddlePost" (241 : Nat) ({ cls := "java/util/Iterator", name := "hasNext", desc := "()Z" } : Jvm.MethodName)) ∈ lw_all := lw_g (lw_at lw_m9 192 rfl) rfl
theorem q2171 : (Jvm.Cond.interfaceEntry "RiddlePost" (246 : Nat)) ∈ lw_tbl := lw_at lw_m9 193 rfl
theorem q2172 : (Jvm.Cond.methodLink "RiddlePost" (246 : Nat) ({ cls := "java/util/Iterator", name := "next", desc := "()Ljava/lang/Object;" } : Jvm.MethodName)) ∈ lw_all := lw_g (lw_at lw_m9 194 rfl) rfl
theorem q2173 : (Jvm.Cond.classLink "RiddlePost" (249 : Nat) "RiddlePost$Act") ∈ lw_all := lw_g (lw_at lw_m9 195 rfl) rfl
theorem q2174 : (Jvm.Cond.methodLink "RiddlePostLaw" (215 : Nat) ({ cls := "RiddlePostLaw", name := "undo", desc := "(LRiddlePost;[J)I" } : Jvm.MethodName)) ∈ lw_all := lw_g (lw_at lw_m9 196 rfl) rfl
theorem q2175 : (Jvm.Cond.static ({ cls := "RiddlePostLaw", name := "undo", desc := "(LRiddlePost;[J)I" } : Jvm.MethodName)) ∈ lw_all := lw_g (lw_at lw_m9 197 rfl) rfl
theorem q2176 : (Jvm.Cond.codeWith ({ cls := "RiddlePostLaw", name := "undo", desc := "(LRiddlePost;[J)I" } : Jvm.MethodName) method_26_code (3 : Nat) (Option.some Jvm.ClassFile.FieldType.int) [((0 : Nat), (8 : Nat), (11 : Nat), (31 : Nat))]) ∈ lw_all := lw_g (lw_at lw_m9 198 rfl) rfl
theorem q2177 : (Jvm.Cond.methodLink "RiddlePostLaw" (89 : Nat) ({ cls := "RiddlePost", name := "undo", desc := "()I" } : Jvm.MethodName)) ∈ lw_all := lw_g (lw_at lw_m9 199 rfl) rfl
theorem q2178 : (Jvm.Cond.instanceMethod ({ cls := "RiddlePost", name := "undo", desc := "()I" } : Jvm.MethodName)) ∈ lw_all := lw_g (lw_at lw_m9 200 rfl) rfl
theorem q2179 : (Jvm.Cond.selects "RiddlePost" ({ cls := "RiddlePost", name := "undo", desc := "()I" } : Jvm.MethodName) ({ cls := "RiddlePost", name := "undo", desc := "()I" } : Jvm.MethodName)) ∈ lw_all := lw_g (lw_at lw_m9 201 rfl) rfl
theorem q2180 : (Jvm.Cond.code ({ cls := "RiddlePost", name := "undo", desc := "()I" } : Jvm.MethodName) prog_1_method_7_code (1 : Nat) (Option.some Jvm.ClassFile.FieldType.int)) ∈ lw_all := lw_g (lw_at lw_m9 202 rfl) rfl
theorem q2181 : (Jvm.Cond.methodLink "RiddlePost" (72 : Nat) ({ cls := "java/util/ArrayList", name := "isEmpty", desc := "()Z" } : Jvm.MethodName)) ∈ lw_all := lw_g (lw_at lw_m9 203 rfl) rfl
theorem q2182 : (Jvm.Cond.instanceMethod ({ cls := "java/util/ArrayList", name := "isEmpty", desc := "()Z" } : Jvm.MethodName)) ∈ lw_all := lw_g (lw_at lw_m9 204 rfl) rfl
theorem q2183 : (Jvm.Cond.selects "java/util/ArrayList" ({ cls := "java/util/ArrayList", name := "isEmpty", desc := "()Z" } : Jvm.MethodName) ({ cls := "java/util/ArrayList", name := "isEmpty", desc := "()Z" } : Jvm.MethodName)) ∈ lw_all := lw_g (lw_at lw_m9 205 rfl) rfl
theorem q2184 : (Jvm.Cond.code ({ cls := "java/util/ArrayList", name := "isEmpty", desc := "()Z" } : Jvm.MethodName) prog_45_method_9_code (1 : Nat) (Option.some Jvm.ClassFile.FieldType.boolean)) ∈ lw_all := lw_g (lw_at lw_m9 206 rfl) rfl
theorem q2185 : (Jvm.Cond.classLink "RiddlePostLaw" (93 : Nat) "RiddlePostModel") ∈ lw_all := lw_g (lw_at lw_m9 207 rfl) rfl
theorem q2186 : (Jvm.Cond.instantiable "RiddlePostModel" (11 : Nat)) ∈ lw_all := lw_g (lw_at lw_m9 208 rfl) rfl
theorem q2187 : (Jvm.Cond.methodLink "RiddlePostLaw" (95 : Nat) ({ cls := "RiddlePostModel", name := "<init>", desc := "()V" } : Jvm.MethodName)) ∈ lw_all := lw_g (lw_at lw_m9 209 rfl) rfl
theorem q2188 : (Jvm.Cond.instanceMethod ({ cls := "RiddlePostModel", name := "<init>", desc := "()V" } : Jvm.MethodName)) ∈ lw_all := lw_g (lw_at lw_m9 210 rfl) rfl
theorem q2189 : (Jvm.Cond.code ({ cls := "RiddlePostModel", name := "<init>", desc := "()V" } : Jvm.MethodName) prog_11_method_1_code (2 : Nat) (Option.none : Option Jvm.ClassFile.FieldType)) ∈ lw_all := lw_g (lw_at lw_m9 211 rfl) rfl
theorem q2190 : (Jvm.Cond.methodLink "RiddlePostModel" (1 : Nat) ({ cls := "java/lang/Object", name := "<init>", desc := "()V" } : Jvm.MethodName)) ∈ lw_all := lw_g (lw_at lw_m9 212 rfl) rfl
theorem q2191 : (Jvm.Cond.methodLink "RiddlePostModel" (25 : Nat) ({ cls := "RiddlePostModel", name := "putsZone", desc := "(III)V" } : Jvm.MethodName)) ∈ lw_all := lw_g (lw_at lw_m9 213 rfl) rfl
theorem q2192 : (Jvm.Cond.privateMethod ({ cls := "RiddlePostModel", name := "putsZone", desc := "(III)V" } : Jvm.MethodName)) ∈ lw_tbl := lw_at lw_m9 214 rfl
theorem q2193 : (Jvm.Cond.instanceMethod ({ cls := "RiddlePostModel", name := "putsZone", desc := "(III)V" } : Jvm.MethodName)) ∈ lw_all := lw_g (lw_at lw_m9 215 rfl) rfl
theorem q2194 : (Jvm.Cond.code ({ cls := "RiddlePostModel", name := "putsZone", desc := "(III)V" } : Jvm.MethodName) prog_11_method_10_code (4 : Nat) (Option.none : Option Jvm.ClassFile.FieldType)) ∈ lw_all := lw_g (lw_at lw_m9 216 rfl) rfl
theorem q2195 : (Jvm.Cond.methodLink "RiddlePostModel" (29 : Nat) ({ cls := "RiddlePostModel", name := "puts", desc := "(III)V" } : Jvm.MethodName)) ∈ lw_all := lw_g (lw_at lw_m9 217 rfl) rfl
theorem q2196 : (Jvm.Cond.privateMethod ({ cls := "RiddlePostModel", name := "puts", desc := "(III)V" } : Jvm.MethodName)) ∈ lw_tbl := lw_at lw_m9 218 rfl
theorem q2197 : (Jvm.Cond.instanceMethod ({ cls := "RiddlePostModel", name := "puts", desc := "(III)V" } : Jvm.MethodName)) ∈ lw_all := lw_g (lw_at lw_m9 219 rfl) rfl
theorem q2198 : (Jvm.Cond.code ({ cls := "RiddlePostModel", name := "puts", desc := "(III)V" } : Jvm.MethodName) prog_11_method_12_code (4 : Nat) (Option.none : Option Jvm.ClassFile.FieldType)) ∈ lw_all := lw_g (lw_at lw_m9 220 rfl) rfl
theorem q2199 : (Jvm.Cond.fieldLink "RiddlePostModel" (32 : Nat) "RiddlePostModel" "thrown" "I") ∈ lw_all := lw_g (lw_at lw_m9 221 rfl) rfl
theorem q2200 : (Jvm.Cond.fieldLink "RiddlePostModel" (7 : Nat) "RiddlePostModel" "state" "[I") ∈ lw_all := lw_g (lw_at lw_m9 222 rfl) rfl
theorem q2201 : (Jvm.Cond.fieldLink "RiddlePostModel" (13 : Nat) "RiddlePostModel" "history" "[I") ∈ lw_all := lw_g (lw_at lw_m9 223 rfl) rfl
theorem q2202 : (Jvm.Cond.fieldLink "RiddlePostModel" (36 : Nat) "RiddlePostModel" "recorded" "I") ∈ lw_all := lw_g (lw_at lw_m9 224 rfl) rfl
theorem q2203 : (Jvm.Cond.fieldLink "RiddlePostModel" (16 : Nat) "RiddlePostModel" "kept" "[I") ∈ lw_all := lw_g (lw_at lw_m9 225 rfl) rfl
theorem q2204 : (Jvm.Cond.fieldLink "RiddlePostModel" (19 : Nat) "RiddlePostModel" "text" "[I") ∈ lw_all := lw_g (lw_at lw_m9 226 rfl) rfl
theorem q2205 : (Jvm.Cond.fieldLink "RiddlePostModel" (134 : Nat) "RiddlePostModel" "textLength" "I") ∈ lw_all := lw_g (lw_at lw_m9 227 rfl) rfl
theorem q2206 : (Jvm.Cond.fieldLink "RiddlePostModel" (22 : Nat) "RiddlePostModel" "way" "[I") ∈ lw_all := lw_g (lw_at lw_m9 228 rfl) rfl
theorem q2207 : (Jvm.Cond.fieldLink "RiddlePostModel" (137 : Nat) "RiddlePostModel" "at" "I") ∈ lw_all := lw_g (lw_at lw_m9 229 rfl) rfl
theorem q2208 : (Jvm.Cond.fieldLink "RiddlePostModel" (147 : Nat) "RiddlePostModel" "kind" "I") ∈ lw_all := lw_g (lw_at lw_m9 230 rfl) rfl
theorem q2209 : (Jvm.Cond.fieldLink "RiddlePostModel" (144 : Nat) "RiddlePostModel" "number" "I") ∈ lw_all := lw_g (lw_at lw_m9 231 rfl) rfl
theorem q2210 : (Jvm.Cond.lays "RiddlePostModel" "RiddlePostModel" "thrown" "I") ∈ lw_all := lw_g (lw_at lw_m9 232 rfl) rfl
theorem q2211 : (Jvm.Cond.soleField "RiddlePostModel" "thrown") ∈ lw_all := lw_g (lw_at lw_m9 233 rfl) rfl
theorem q2212 : (Jvm.Cond.laysFinal "RiddlePostModel" "RiddlePostModel" "state" "[I") ∈ lw_all := lw_g (lw_at lw_m9 234 rfl) rfl
theorem q2213 : (Jvm.Cond.soleField "RiddlePostModel" "state") ∈ lw_all := lw_g (lw_at lw_m9 235 rfl) rfl
theorem q2214 : (Jvm.Cond.laysFinal "RiddlePostModel" "RiddlePostModel" "history" "[I") ∈ lw_all := lw_g (lw_at lw_m9 236 rfl) rfl
theorem q2215 : (Jvm.Cond.soleField "RiddlePostModel" "history") ∈ lw_all := lw_g (lw_at lw_m9 237 rfl) rfl
theorem q2216 : (Jvm.Cond.lays "RiddlePostModel" "RiddlePostModel" "recorded" "I") ∈ lw_all := lw_g (lw_at lw_m9 238 rfl) rfl
theorem q2217 : (Jvm.Cond.soleField "RiddlePostModel" "recorded") ∈ lw_all := lw_g (lw_at lw_m9 239 rfl) rfl
theorem q2218 : (Jvm.Cond.laysFinal "RiddlePostModel" "RiddlePostModel" "kept" "[I") ∈ lw_all := lw_g (lw_at lw_m10 0 rfl) rfl
theorem q2219 : (Jvm.Cond.soleField "RiddlePostModel" "kept") ∈ lw_all := lw_g (lw_at lw_m10 1 rfl) rfl
theorem q2220 : (Jvm.Cond.laysFinal "RiddlePostModel" "RiddlePostModel" "text" "[I") ∈ lw_all := lw_g (lw_at lw_m10 2 rfl) rfl
theorem q2221 : (Jvm.Cond.soleField "RiddlePostModel" "text") ∈ lw_all := lw_g (lw_at lw_m10 3 rfl) rfl
theorem q2222 : (Jvm.Cond.lays "RiddlePostModel" "RiddlePostModel" "textLength" "I") ∈ lw_all := lw_g (lw_at lw_m10 4 rfl) rfl
theorem q2223 : (Jvm.Cond.soleField "RiddlePostModel" "textLength") ∈ lw_all := lw_g (lw_at lw_m10 5 rfl) rfl
theorem q2224 : (Jvm.Cond.laysFinal "RiddlePostModel" "RiddlePostModel" "way" "[I") ∈ lw_all := lw_g (lw_at lw_m10 6 rfl) rfl
theorem q2225 : (Jvm.Cond.soleField "RiddlePostModel" "way") ∈ lw_all := lw_g (lw_at lw_m10 7 rfl) rfl
theorem q2226 : (Jvm.Cond.lays "RiddlePostModel" "RiddlePostModel" "at" "I") ∈ lw_all := lw_g (lw_at lw_m10 8 rfl) rfl
theorem q2227 : (Jvm.Cond.soleField "RiddlePostModel" "at") ∈ lw_all := lw_g (lw_at lw_m10 9 rfl) rfl
theorem q2228 : (Jvm.Cond.lays "RiddlePostModel" "RiddlePostModel" "kind" "I") ∈ lw_all := lw_g (lw_at lw_m10 10 rfl) rfl
theorem q2229 : (Jvm.Cond.soleField "RiddlePostModel" "kind") ∈ lw_all := lw_g (lw_at lw_m10 11 rfl) rfl
theorem q2230 : (Jvm.Cond.lays "RiddlePostModel" "RiddlePostModel" "number" "I") ∈ lw_all := lw_g (lw_at lw_m10 12 rfl) rfl
theorem q2231 : (Jvm.Cond.soleField "RiddlePostModel" "number") ∈ lw_all := lw_g (lw_at lw_m10 13 rfl) rfl
theorem q2232 : (Jvm.Cond.superclass "RiddlePostModel" "java/lang/Object") ∈ lw_all := lw_g (lw_at lw_m10 14 rfl) rfl
theorem q2233 : (Jvm.Cond.methodLink "RiddlePostLaw" (102 : Nat) ({ cls := "RiddlePostModel", name := "thrown", desc := "()I" } : Jvm.MethodName)) ∈ lw_all := lw_g (lw_at lw_m10 15 rfl) rfl
theorem q2234 : (Jvm.Cond.instanceMethod ({ cls := "RiddlePostModel", name := "thrown", desc := "()I" } : Jvm.MethodName)) ∈ lw_all := lw_g (lw_at lw_m10 16 rfl) rfl
theorem q2235 : (Jvm.Cond.selects "RiddlePostModel" ({ cls := "RiddlePostModel", name := "thrown", desc := "()I" } : Jvm.MethodName) ({ cls := "RiddlePostModel", name := "thrown", desc := "()I" } : Jvm.MethodName)) ∈ lw_all := lw_g (lw_at lw_m10 17 rfl) rfl
theorem q2236 : (Jvm.Cond.code ({ cls := "RiddlePostModel", name := "thrown", desc := "()I" } : Jvm.MethodName) prog_11_method_2_code (1 : Nat) (Option.some Jvm.ClassFile.FieldType.int)) ∈ lw_all := lw_g (lw_at lw_m10 18 rfl) rfl
theorem q2237 : (Jvm.Cond.methodLink "RiddlePostLaw" (101 : Nat) ({ cls := "RiddlePostModel", name := "setParent", desc := "(II)I" } : Jvm.MethodName)) ∈ lw_all := lw_g (lw_at lw_m10 19 rfl) rfl
theorem q2238 : (Jvm.Cond.instanceMethod ({ cls := "RiddlePostModel", name := "setParent", desc := "(II)I" } : Jvm.MethodName)) ∈ lw_all := lw_g (lw_at lw_m10 20 rfl) rfl
theorem q2239 : (Jvm.Cond.selects "RiddlePostModel" ({ cls := "RiddlePostModel", name := "setParent", desc := "(II)I" } : Jvm.MethodName) ({ cls := "RiddlePostModel", name := "setParent", desc := "(II)I" } : Jvm.MethodName)) ∈ lw_all := lw_g (lw_at lw_m10 21 rfl) rfl
theorem q2240 : (Jvm.Cond.code ({ cls := "RiddlePostModel", name := "setParent", desc := "(II)I" } : Jvm.MethodName) prog_11_method_13_code (4 : Nat) (Option.some Jvm.ClassFile.FieldType.int)) ∈ lw_all := lw_g (lw_at lw_m10 22 rfl) rfl
theorem q2241 : (Jvm.Cond.methodLink "RiddlePostModel" (43 : Nat) ({ cls := "RiddlePostModel", name := "within", desc := "(III)Z" } : Jvm.MethodName)) ∈ lw_all := lw_g (lw_at lw_m10 23 rfl) rfl
theorem q2242 : (Jvm.Cond.static ({ cls := "RiddlePostModel", name := "within", desc := "(III)Z" } : Jvm.MethodName)) ∈ lw_all := lw_g (lw_at lw_m10 24 rfl) rfl
theorem q2243 : (Jvm.Cond.code ({ cls := "RiddlePostModel", name := "within", desc := "(III)Z" } : Jvm.MethodName) prog_11_method_3_code (3 : Nat) (Option.some Jvm.ClassFile.FieldType.boolean)) ∈ lw_all := lw_g (lw_at lw_m10 25 rfl) rfl
theorem q2244 : (Jvm.Cond.methodLink "RiddlePostModel" (47 : Nat) ({ cls := "RiddlePostModel", name := "record", desc := "()V" } : Jvm.MethodName)) ∈ lw_all := lw_g (lw_at lw_m10 26 rfl) rfl
theorem q2245 : (Jvm.Cond.privateMethod ({ cls := "RiddlePostModel", name := "record", desc := "()V" } : Jvm.MethodName)) ∈ lw_tbl := lw_at lw_m10 27 rfl
theorem q2246 : (Jvm.Cond.instanceMethod ({ cls := "RiddlePostModel", name := "record", desc := "()V" } : Jvm.MethodName)) ∈ lw_all := lw_g (lw_at lw_m10 28 rfl) rfl
theorem q2247 : (Jvm.Cond.code ({ cls := "RiddlePostModel", name := "record", desc := "()V" } : Jvm.MethodName) prog_11_method_5_code (2 : Nat) (Option.none : Option Jvm.ClassFile.FieldType)) ∈ lw_all := lw_g (lw_at lw_m10 29 rfl) rfl
theorem q2248 : (Jvm.Cond.methodLink "RiddlePostModel" (39 : Nat) ({ cls := "RiddlePostModel", name := "lays", desc := "([II[II)V" } : Jvm.MethodName)) ∈ lw_all := lw_g (lw_at lw_m10 30 rfl) rfl
theorem q2249 : (Jvm.Cond.static ({ cls := "RiddlePostModel", name := "lays", desc := "([II[II)V" } : Jvm.MethodName)) ∈ lw_all := lw_g (lw_at lw_m10 31 rfl) rfl
theorem q2250 : (Jvm.Cond.code ({ cls := "RiddlePostModel", name := "lays", desc := "([II[II)V" } : Jvm.MethodName) prog_11_method_4_code (5 : Nat) (Option.none : Option Jvm.ClassFile.FieldType)) ∈ lw_all := lw_g (lw_at lw_m10 32 rfl) rfl
theorem q2251 : (Jvm.Cond.methodLink "RiddlePostModel" (50 : Nat) ({ cls := "RiddlePostModel", name := "ofZone", desc := "(II)I" } : Jvm.MethodName)) ∈ lw_all := lw_g (lw_at lw_m10 33 rfl) rfl
theorem q2252 : (Jvm.Cond.privateMethod ({ cls := "RiddlePostModel", name := "ofZone", desc := "(II)I" } : Jvm.MethodName)) ∈ lw_tbl := lw_at lw_m10 34 rfl
theorem q2253 : (Jvm.Cond.instanceMethod ({ cls := "RiddlePostModel", name := "ofZone", desc := "(II)I" } : Jvm.MethodName)) ∈ lw_all := lw_g (lw_at lw_m10 35 rfl) rfl
theorem q2254 : (Jvm.Cond.code ({ cls := "RiddlePostModel", name := "ofZone", desc := "(II)I" } : Jvm.MethodName) prog_11_method_9_code (3 : Nat) (Option.some Jvm.ClassFile.FieldType.int)) ∈ lw_all := lw_g (lw_at lw_m10 36 rfl) rfl
theorem q2255 : (Jvm.Cond.methodLink "RiddlePostLaw" (108 : Nat) ({ cls := "RiddlePostModel", name := "setAges", desc := "(III)I" } : Jvm.MethodName)) ∈ lw_all := lw_g (lw_at lw_m10 37 rfl) rfl
theorem q2256 : (Jvm.Cond.instanceMethod ({ cls := "RiddlePostModel", name := "setAges", desc := "(III)I" } : Jvm.MethodName)) ∈ lw_all := lw_g (lw_at lw_m10 38 rfl) rfl
theorem q2257 : (Jvm.Cond.selects "RiddlePostModel" ({ cls := "RiddlePostModel", name := "setAges", desc := "(III)I" } : Jvm.MethodName) ({ cls := "RiddlePostModel", name := "setAges", desc := "(III)I" } : Jvm.MethodName)) ∈ lw_all := lw_g (lw_at lw_m10 39 rfl) rfl
theorem q2258 : (Jvm.Cond.code ({ cls := "RiddlePostModel", name := "setAges", desc := "(III)I" } : Jvm.MethodName) prog_11_method_14_code (5 : Nat) (Option.some Jvm.ClassFile.FieldType.int)) ∈ lw_all := lw_g (lw_at lw_m10 40 rfl) rfl
theorem q2259 : (Jvm.Cond.methodLink "RiddlePostModel" (54 : Nat) ({ cls := "RiddlePostModel", name := "isZone", desc := "(I)Z" } : Jvm.MethodName)) ∈ lw_all := lw_g (lw_at lw_m10 41 rfl) rfl
theorem q2260 : (Jvm.Cond.static ({ cls := "RiddlePostModel", name := "isZone", desc := "(I)Z" } : Jvm.MethodName)) ∈ lw_all := lw_g (lw_at lw_m10 42 rfl) rfl
theorem q2261 : (Jvm.Cond.code ({ cls := "RiddlePostModel", name := "isZone", desc := "(I)Z" } : Jvm.MethodName) prog_11_method_6_code (1 : Nat) (Option.some Jvm.ClassFile.FieldType.boolean)) ∈ lw_all := lw_g (lw_at lw_m10 43 rfl) rfl
theorem q2262 : (Jvm.Cond.methodLink "RiddlePostModel" (58 : Nat) ({ cls := "RiddlePostModel", name := "isAge", desc := "(I)Z" } : Jvm.MethodName)) ∈ lw_all := lw_g (lw_at lw_m10 44 rfl) rfl
theorem q2263 : (Jvm.Cond.static ({ cls := "RiddlePostModel", name := "isAge", desc := "(I)Z" } : Jvm.MethodName)) ∈ lw_all := lw_g (lw_at lw_m10 45 rfl) rfl
theorem q2264 : (Jvm.Cond.code ({ cls := "RiddlePostModel", name := "isAge", desc := "(I)Z" } : Jvm.MethodName) prog_11_method_8_code (1 : Nat) (Option.some Jvm.ClassFile.FieldType.boolean)) ∈ lw_all := lw_g (lw_at lw_m10 46 rfl) rfl
theorem q2265 : (Jvm.Cond.methodLink "RiddlePostLaw" (111 : Nat) ({ cls := "RiddlePostModel", name := "setAnswer", desc := "(III)I" } : Jvm.MethodName)) ∈ lw_all := lw_g (lw_at lw_m10 47 rfl) rfl
theorem q2266 : (Jvm.Cond.instanceMethod ({ cls := "RiddlePostModel", name := "setAnswer", desc := "(III)I" } : Jvm.MethodName)) ∈ lw_all := lw_g (lw_at lw_m10 48 rfl) rfl
theorem q2267 : (Jvm.Cond.selects "RiddlePostModel" ({ cls := "RiddlePostModel", name := "setAnswer", desc := "(III)I" } : Jvm.MethodName) ({ cls := "RiddlePostModel", name := "setAnswer", desc := "(III)I" } : Jvm.MethodName)) ∈ lw_all := lw_g (lw_at lw_m10 49 rfl) rfl
theorem q2268 : (Jvm.Cond.code ({ cls := "RiddlePostModel", name := "setAnswer", desc := "(III)I" } : Jvm.MethodName) prog_11_method_16_code (4 : Nat) (Option.some Jvm.ClassFile.FieldType.int)) ∈ lw_all := lw_g (lw_at lw_m10 50 rfl) rfl
theorem q2269 : (Jvm.Cond.methodLink "RiddlePostModel" (64 : Nat) ({ cls := "RiddlePostModel", name := "isRiddle", desc := "(I)Z" } : Jvm.MethodName)) ∈ lw_all := lw_g (lw_at lw_m10 51 rfl) rfl
theorem q2270 : (Jvm.Cond.static ({ cls := "RiddlePostModel", name := "isRiddle", desc := "(I)Z" } : Jvm.MethodName)) ∈ lw_all := lw_g (lw_at lw_m10 52 rfl) rfl
theorem q2271 : (Jvm.Cond.code ({ cls := "RiddlePostModel", name := "isRiddle", desc := "(I)Z" } : Jvm.MethodName) prog_11_method_7_code (1 : Nat) (Option.some Jvm.ClassFile.FieldType.boolean)) ∈ lw_all := lw_g (lw_at lw_m10 53 rfl) rfl
theorem q2272 : (Jvm.Cond.methodLink "RiddlePostModel" (67 : Nat) ({ cls := "RiddlePostModel", name := "gives", desc := "(IIII)I" } : Jvm.MethodName)) ∈ lw_all := lw_g (lw_at lw_m10 54 rfl) rfl
theorem q2273 : (Jvm.Cond.privateMethod ({ cls := "RiddlePostModel", name := "gives", desc := "(IIII)I" } : Jvm.MethodName)) ∈ lw_tbl := lw_at lw_m10 55 rfl
theorem q2274 : (Jvm.Cond.instanceMethod ({ cls := "RiddlePostModel", name := "gives", desc := "(IIII)I" } : Jvm.MethodName)) ∈ lw_all := lw_g (lw_at lw_m10 56 rfl) rfl
theorem q2275 : (Jvm.Cond.code ({ cls := "RiddlePostModel", name := "gives", desc := "(IIII)I" } : Jvm.MethodName) prog_11_method_15_code (6 : Nat) (Option.some Jvm.ClassFile.FieldType.int)) ∈ lw_all := lw_g (lw_at lw_m10 57 rfl) rfl
theorem q2276 : (Jvm.Cond.methodLink "RiddlePostModel" (61 : Nat) ({ cls := "RiddlePostModel", name := "of", desc := "(II)I" } : Jvm.MethodName)) ∈ lw_all := lw_g (lw_at lw_m10 58 rfl) rfl
theorem q2277 : (Jvm.Cond.privateMethod ({ cls := "RiddlePostModel", name := "of", desc := "(II)I" } : Jvm.MethodName)) ∈ lw_tbl := lw_at lw_m10 59 rfl
theorem q2278 : (Jvm.Cond.instanceMethod ({ cls := "RiddlePostModel", name := "of", desc := "(II)I" } : Jvm.MethodName)) ∈ lw_all := lw_g (lw_at lw_m10 60 rfl) rfl
theorem q2279 : (Jvm.Cond.code ({ cls := "RiddlePostModel", name := "of", desc := "(II)I" } : Jvm.MethodName) prog_11_method_11_code (3 : Nat) (Option.some Jvm.ClassFile.FieldType.int)) ∈ lw_all := lw_g (lw_at lw_m10 61 rfl) rfl
theorem q2280 : (Jvm.Cond.methodLink "RiddlePostLaw" (114 : Nat) ({ cls := "RiddlePostModel", name := "setReference", desc := "(III)I" } : Jvm.MethodName)) ∈ lw_all := lw_g (lw_at lw_m10 62 rfl) rfl
theorem q2281 : (Jvm.Cond.instanceMethod ({ cls := "RiddlePostModel", name := "setReference", desc := "(III)I" } : Jvm.MethodName)) ∈ lw_all := lw_g (lw_at lw_m10 63 rfl) rfl
theorem q2282 : (Jvm.Cond.selects "RiddlePostModel" ({ cls := "RiddlePostModel", name := "setReference", desc := "(III)I" } : Jvm.MethodName) ({ cls := "RiddlePostModel", name := "setReference", desc := "(III)I" } : Jvm.MethodName)) ∈ lw_all := lw_g (lw_at lw_m10 64 rfl) rfl
theorem q2283 : (Jvm.Cond.code ({ cls := "RiddlePostModel", name := "setReference", desc := "(III)I" } : Jvm.MethodName) prog_11_method_17_code (4 : Nat) (Option.some Jvm.ClassFile.FieldType.int)) ∈ lw_all := lw_g (lw_at lw_m10 65 rfl) rfl
theorem q2284 : (Jvm.Cond.methodLink "RiddlePostLaw" (118 : Nat) ({ cls := "RiddlePostModel", name := "takeAway", desc := "(I)I" } : Jvm.MethodName)) ∈ lw_all := lw_g (lw_at lw_m10 66 rfl) rfl
theorem q2285 : (Jvm.Cond.instanceMethod ({ cls := "RiddlePostModel", name := "takeAway", desc := "(I)I" } : Jvm.MethodName)) ∈ lw_all := lw_g (lw_at lw_m10 67 rfl) rfl
theorem q2286 : (Jvm.Cond.selects "RiddlePostModel" ({ cls := "RiddlePostModel", name := "takeAway", desc := "(I)I" } : Jvm.MethodName) ({ cls := "RiddlePostModel", name := "takeAway", desc := "(I)I" } : Jvm.MethodName)) ∈ lw_all := lw_g (lw_at lw_m10 68 rfl) rfl
theorem q2287 : (Jvm.Cond.code ({ cls := "RiddlePostModel", name := "takeAway", desc := "(I)I" } : Jvm.MethodName) prog_11_method_18_code (2 : Nat) (Option.some Jvm.ClassFile.FieldType.int)) ∈ lw_all := lw_g (lw_at lw_m10 69 rfl) rfl
theorem q2288 : (Jvm.Cond.methodLink "RiddlePostLaw" (121 : Nat) ({ cls := "RiddlePostModel", name := "solve", desc := "(I)I" } : Jvm.MethodName)) ∈ lw_all := lw_g (lw_at lw_m10 70 rfl) rfl
theorem q2289 : (Jvm.Cond.instanceMethod ({ cls := "RiddlePostModel", name := "solve", desc := "(I)I" } : Jvm.MethodName)) ∈ lw_all := lw_g (lw_at lw_m10 71 rfl) rfl
theorem q2290 : (Jvm.Cond.selects "RiddlePostModel" ({ cls := "RiddlePostModel", name := "solve", desc := "(I)I" } : Jvm.MethodName) ({ cls := "RiddlePostModel", name := "solve", desc := "(I)I" } : Jvm.MethodName)) ∈ lw_all := lw_g (lw_at lw_m10 72 rfl) rfl
theorem q2291 : (Jvm.Cond.code ({ cls := "RiddlePostModel", name := "solve", desc := "(I)I" } : Jvm.MethodName) prog_11_method_24_code (2 : Nat) (Option.some Jvm.ClassFile.FieldType.int)) ∈ lw_all := lw_g (lw_at lw_m10 73 rfl) rfl
theorem q2292 : (Jvm.Cond.methodLink "RiddlePostModel" (85 : Nat) ({ cls := "RiddlePostModel", name := "solvesFirst", desc := "(I)I" } : Jvm.MethodName)) ∈ lw_all := lw_g (lw_at lw_m10 74 rfl) rfl
theorem q2293 : (Jvm.Cond.privateMethod ({ cls := "RiddlePostModel", name := "solvesFirst", desc := "(I)I" } : Jvm.MethodName)) ∈ lw_tbl := lw_at lw_m10 75 rfl
theorem q2294 : (Jvm.Cond.instanceMethod ({ cls := "RiddlePostModel", name := "solvesFirst", desc := "(I)I" } : Jvm.MethodName)) ∈ lw_all := lw_g (lw_at lw_m10 76 rfl) rfl
theorem q2295 : (Jvm.Cond.code ({ cls := "RiddlePostModel", name := "solvesFirst", desc := "(I)I" } : Jvm.MethodName) prog_11_method_23_code (2 : Nat) (Option.some Jvm.ClassFile.FieldType.int)) ∈ lw_all := lw_g (lw_at lw_m10 77 rfl) rfl
theorem q2296 : (Jvm.Cond.methodLink "RiddlePostModel" (81 : Nat) ({ cls := "RiddlePostModel", name := "solves", desc := "(I)I" } : Jvm.MethodName)) ∈ lw_all := lw_g (lw_at lw_m10 78 rfl) rfl
theorem q2297 : (Jvm.Cond.privateMethod ({ cls := "RiddlePostModel", name := "solves", desc := "(I)I" } : Jvm.MethodName)) ∈ lw_tbl := lw_at lw_m10 79 rfl
theorem q2298 : (Jvm.Cond.instanceMethod ({ cls := "RiddlePostModel", name := "solves", desc := "(I)I" } : Jvm.MethodName)) ∈ lw_all := lw_g (lw_at lw_m10 80 rfl) rfl
theorem q2299 : (Jvm.Cond.code ({ cls := "RiddlePostModel", name := "solves", desc := "(I)I" } : Jvm.MethodName) prog_11_method_22_code (4 : Nat) (Option.some Jvm.ClassFile.FieldType.int)) ∈ lw_all := lw_g (lw_at lw_m10 81 rfl) rfl
theorem q2300 : (Jvm.Cond.methodLink "RiddlePostModel" (78 : Nat) ({ cls := "RiddlePostModel", name := "asks", desc := "(I)V" } : Jvm.MethodName)) ∈ lw_all := lw_g (lw_at lw_m10 82 rfl) rfl
theorem q2301 : (Jvm.Cond.privateMethod ({ cls := "RiddlePostModel", name := "asks", desc := "(I)V" } : Jvm.MethodName)) ∈ lw_tbl := lw_at lw_m10 83 rfl
theorem q2302 : (Jvm.Cond.instanceMethod ({ cls := "RiddlePostModel", name := "asks", desc := "(I)V" } : Jvm.MethodName)) ∈ lw_all := lw_g (lw_at lw_m10 84 rfl) rfl
theorem q2303 : (Jvm.Cond.code ({ cls := "RiddlePostModel", name := "asks", desc := "(I)V" } : Jvm.MethodName) prog_11_method_21_code (4 : Nat) (Option.none : Option Jvm.ClassFile.FieldType)) ∈ lw_all := lw_g (lw_at lw_m10 85 rfl) rfl
theorem q2304 : (Jvm.Cond.methodLink "RiddlePostModel" (75 : Nat) ({ cls := "RiddlePostModel", name := "comesTo", desc := "(I)V" } : Jvm.MethodName)) ∈ lw_all := lw_g (lw_at lw_m10 86 rfl) rfl
theorem q2305 : (Jvm.Cond.privateMethod ({ cls := "RiddlePostModel", name := "comesTo", desc := "(I)V" } : Jvm.MethodName)) ∈ lw_tbl := lw_at lw_m10 87 rfl
theorem q2306 : (Jvm.Cond.instanceMethod ({ cls := "RiddlePostModel", name := "comesTo", desc := "(I)V" } : Jvm.MethodName)) ∈ lw_all := lw_g (lw_at lw_m10 88 rfl) rfl
theorem q2307 : (Jvm.Cond.code ({ cls := "RiddlePostModel", name := "comesTo", desc := "(I)V" } : Jvm.MethodName) prog_11_method_20_code (5 : Nat) (Option.none : Option Jvm.ClassFile.FieldType)) ∈ lw_all := lw_g (lw_at lw_m10 89 rfl) rfl
theorem q2308 : (Jvm.Cond.methodLink "RiddlePostModel" (71 : Nat) ({ cls := "RiddlePostModel", name := "costs", desc := "(I)V" } : Jvm.MethodName)) ∈ lw_all := lw_g (lw_at lw_m10 90 rfl) rfl
theorem q2309 : (Jvm.Cond.privateMethod ({ cls := "RiddlePostModel", name := "costs", desc := "(I)V" } : Jvm.MethodName)) ∈ lw_tbl := lw_at lw_m10 91 rfl
theorem q2310 : (Jvm.Cond.instanceMethod ({ cls := "RiddlePostModel", name := "costs", desc := "(I)V" } : Jvm.MethodName)) ∈ lw_all := lw_g (lw_at lw_m10 92 rfl) rfl
theorem q2311 : (Jvm.Cond.code ({ cls := "RiddlePostModel", name := "costs", desc := "(I)V" } : Jvm.MethodName) prog_11_method_19_code (2 : Nat) (Option.none : Option Jvm.ClassFile.FieldType)) ∈ lw_all := lw_g (lw_at lw_m10 93 rfl) rfl
theorem q2312 : (Jvm.Cond.methodLink "RiddlePostLaw" (124 : Nat) ({ cls := "RiddlePostModel", name := "forget", desc := "(I)I" } : Jvm.MethodName)) ∈ lw_all := lw_g (lw_at lw_m10 94 rfl) rfl
theorem q2313 : (Jvm.Cond.instanceMethod ({ cls := "RiddlePostModel", name := "forget", desc := "(I)I" } : Jvm.MethodName)) ∈ lw_all := lw_g (lw_at lw_m10 95 rfl) rfl
theorem q2314 : (Jvm.Cond.selects "RiddlePostModel" ({ cls := "RiddlePostModel", name := "forget", desc := "(I)I" } : Jvm.MethodName) ({ cls := "RiddlePostModel", name := "forget", desc := "(I)I" } : Jvm.MethodName)) ∈ lw_all := lw_g (lw_at lw_m10 96 rfl) rfl
theorem q2315 : (Jvm.Cond.code ({ cls := "RiddlePostModel", name := "forget", desc := "(I)I" } : Jvm.MethodName) prog_11_method_26_code (3 : Nat) (Option.some Jvm.ClassFile.FieldType.int)) ∈ lw_all := lw_g (lw_at lw_m10 97 rfl) rfl
theorem q2316 : (Jvm.Cond.methodLink "RiddlePostModel" (88 : Nat) ({ cls := "RiddlePostModel", name := "forgets", desc := "(I)V" } : Jvm.MethodName)) ∈ lw_all := lw_g (lw_at lw_m10 98 rfl) rfl
theorem q2317 : (Jvm.Cond.privateMethod ({ cls := "RiddlePostModel", name := "forgets", desc := "(I)V" } : Jvm.MethodName)) ∈ lw_tbl := lw_at lw_m10 99 rfl
theorem q2318 : (Jvm.Cond.instanceMethod ({ cls := "RiddlePostModel", name := "forgets", desc := "(I)V" } : Jvm.MethodName)) ∈ lw_all := lw_g (lw_at lw_m10 100 rfl) rfl
theorem q2319 : (Jvm.Cond.code ({ cls := "RiddlePostModel", name := "forgets", desc := "(I)V" } : Jvm.MethodName) prog_11_method_25_code (2 : Nat) (Option.none : Option Jvm.ClassFile.FieldType)) ∈ lw_all := lw_g (lw_at lw_m10 101 rfl) rfl
theorem q2320 : (Jvm.Cond.methodLink "RiddlePostLaw" (127 : Nat) ({ cls := "RiddlePostModel", name := "pass", desc := "(I)I" } : Jvm.MethodName)) ∈ lw_all := lw_g (lw_at lw_m10 102 rfl) rfl
theorem q2321 : (Jvm.Cond.instanceMethod ({ cls := "RiddlePostModel", name := "pass", desc := "(I)I" } : Jvm.MethodName)) ∈ lw_all := lw_g (lw_at lw_m10 103 rfl) rfl
theorem q2322 : (Jvm.Cond.selects "RiddlePostModel" ({ cls := "RiddlePostModel", name := "pass", desc := "(I)I" } : Jvm.MethodName) ({ cls := "RiddlePostModel", name := "pass", desc := "(I)I" } : Jvm.MethodName)) ∈ lw_all := lw_g (lw_at lw_m10 104 rfl) rfl
theorem q2323 : (Jvm.Cond.code ({ cls := "RiddlePostModel", name := "pass", desc := "(I)I" } : Jvm.MethodName) prog_11_method_28_code (2 : Nat) (Option.some Jvm.ClassFile.FieldType.int)) ∈ lw_all := lw_g (lw_at lw_m10 105 rfl) rfl
theorem q2324 : (Jvm.Cond.methodLink "RiddlePostModel" (91 : Nat) ({ cls := "RiddlePostModel", name := "passes", desc := "(I)I" } : Jvm.MethodName)) ∈ lw_all := lw_g (lw_at lw_m10 106 rfl) rfl
theorem q2325 : (Jvm.Cond.privateMethod ({ cls := "RiddlePostModel", name := "passes", desc := "(I)I" } : Jvm.MethodName)) ∈ lw_tbl := lw_at lw_m10 107 rfl
theorem q2326 : (Jvm.Cond.instanceMethod ({ cls := "RiddlePostModel", name := "passes", desc := "(I)I" } : Jvm.MethodName)) ∈ lw_all := lw_g (lw_at lw_m10 108 rfl) rfl
theorem q2327 : (Jvm.Cond.code ({ cls := "RiddlePostModel", name := "passes", desc := "(I)I" } : Jvm.MethodName) prog_11_method_27_code (4 : Nat) (Option.some Jvm.ClassFile.FieldType.int)) ∈ lw_all := lw_g (lw_at lw_m10 109 rfl) rfl
theorem q2328 : (Jvm.Cond.methodLink "RiddlePostLaw" (131 : Nat) ({ cls := "RiddlePostModel", name := "time", desc := "()I" } : Jvm.MethodName)) ∈ lw_all := lw_g (lw_at lw_m10 110 rfl) rfl
theorem q2329 : (Jvm.Cond.instanceMethod ({ cls := "RiddlePostModel", name := "time", desc := "()I" } : Jvm.MethodName)) ∈ lw_all := lw_g (lw_at lw_m10 111 rfl) rfl
theorem q2330 : (Jvm.Cond.selects "RiddlePostModel" ({ cls := "RiddlePostModel", name := "time", desc := "()I" } : Jvm.MethodName) ({ cls := "RiddlePostModel", name := "time", desc := "()I" } : Jvm.MethodName)) ∈ lw_all := lw_g (lw_at lw_m10 112 rfl) rfl
theorem q2331 : (Jvm.Cond.code ({ cls := "RiddlePostModel", name := "time", desc := "()I" } : Jvm.MethodName) prog_11_method_30_code (1 : Nat) (Option.some Jvm.ClassFile.FieldType.int)) ∈ lw_all := lw_g (lw_at lw_m10 113 rfl) rfl
theorem q2332 : (Jvm.Cond.methodLink "RiddlePostModel" (94 : Nat) ({ cls := "RiddlePostModel", name := "tells", desc := "(I)I" } : Jvm.MethodName)) ∈ lw_all := lw_g (lw_at lw_m10 114 rfl) rfl
theorem q2333 : (Jvm.Cond.privateMethod ({ cls := "RiddlePostModel", name := "tells", desc := "(I)I" } : Jvm.MethodName)) ∈ lw_tbl := lw_at lw_m10 115 rfl
theorem q2334 : (Jvm.Cond.instanceMethod ({ cls := "RiddlePostModel", name := "tells", desc := "(I)I" } : Jvm.MethodName)) ∈ lw_all := lw_g (lw_at lw_m10 116 rfl) rfl
theorem q2335 : (Jvm.Cond.code ({ cls := "RiddlePostModel", name := "tells", desc := "(I)I" } : Jvm.MethodName) prog_11_method_29_code (2 : Nat) (Option.some Jvm.ClassFile.FieldType.int)) ∈ lw_all := lw_g (lw_at lw_m10 117 rfl) rfl
theorem q2336 : (Jvm.Cond.methodLink "RiddlePostLaw" (134 : Nat) ({ cls := "RiddlePostModel", name := "parentOf", desc := "(I)I" } : Jvm.MethodName)) ∈ lw_all := lw_g (lw_at lw_m10 118 rfl) rfl
theorem q2337 : (Jvm.Cond.instanceMethod ({ cls := "RiddlePostModel", name := "parentOf", desc := "(I)I" } : Jvm.MethodName)) ∈ lw_all := lw_g (lw_at lw_m10 119 rfl) rfl
theorem q2338 : (Jvm.Cond.selects "RiddlePostModel" ({ cls := "RiddlePostModel", name := "parentOf", desc := "(I)I" } : Jvm.MethodName) ({ cls := "RiddlePostModel", name := "parentOf", desc := "(I)I" } : Jvm.MethodName)) ∈ lw_all := lw_g (lw_at lw_m10 120 rfl) rfl
theorem q2339 : (Jvm.Cond.code ({ cls := "RiddlePostModel", name := "parentOf", desc := "(I)I" } : Jvm.MethodName) prog_11_method_32_code (2 : Nat) (Option.some Jvm.ClassFile.FieldType.int)) ∈ lw_all := lw_g (lw_at lw_m10 121 rfl) rfl
theorem q2340 : (Jvm.Cond.methodLink "RiddlePostModel" (97 : Nat) ({ cls := "RiddlePostModel", name := "tellsZone", desc := "(II)I" } : Jvm.MethodName)) ∈ lw_all := lw_g (lw_at lw_m10 122 rfl) rfl
theorem q2341 : (Jvm.Cond.privateMethod ({ cls := "RiddlePostModel", name := "tellsZone", desc := "(II)I" } : Jvm.MethodName)) ∈ lw_tbl := lw_at lw_m10 123 rfl
theorem q2342 : (Jvm.Cond.instanceMethod ({ cls := "RiddlePostModel", name := "tellsZone", desc := "(II)I" } : Jvm.MethodName)) ∈ lw_all := lw_g (lw_at lw_m10 124 rfl) rfl
theorem q2343 : (Jvm.Cond.code ({ cls := "RiddlePostModel", name := "tellsZone", desc := "(II)I" } : Jvm.MethodName) prog_11_method_31_code (3 : Nat) (Option.some Jvm.ClassFile.FieldType.int)) ∈ lw_all := lw_g (lw_at lw_m10 125 rfl) rfl
theorem q2344 : (Jvm.Cond.methodLink "RiddlePostLaw" (137 : Nat) ({ cls := "RiddlePostModel", name := "depthOf", desc := "(I)I" } : Jvm.MethodName)) ∈ lw_all := lw_g (lw_at lw_m10 126 rfl) rfl
theorem q2345 : (Jvm.Cond.instanceMethod ({ cls := "RiddlePostModel", name := "depthOf", desc := "(I)I" } : Jvm.MethodName)) ∈ lw_all := lw_g (lw_at lw_m10 127 rfl) rfl
theorem q2346 : (Jvm.Cond.selects "RiddlePostModel" ({ cls := "RiddlePostModel", name := "depthOf", desc := "(I)I" } : Jvm.MethodName) ({ cls := "RiddlePostModel", name := "depthOf", desc := "(I)I" } : Jvm.MethodName)) ∈ lw_all := lw_g (lw_at lw_m10 128 rfl) rfl
theorem q2347 : (Jvm.Cond.code ({ cls := "RiddlePostModel", name := "depthOf", desc := "(I)I" } : Jvm.MethodName) prog_11_method_34_code (2 : Nat) (Option.some Jvm.ClassFile.FieldType.int)) ∈ lw_all := lw_g (lw_at lw_m10 129 rfl) rfl
theorem q2348 : (Jvm.Cond.methodLink "RiddlePostModel" (100 : Nat) ({ cls := "RiddlePostModel", name := "depth", desc := "(I)I" } : Jvm.MethodName)) ∈ lw_all := lw_g (lw_at lw_m10 130 rfl) rfl
theorem q2349 : (Jvm.Cond.privateMethod ({ cls := "RiddlePostModel", name := "depth", desc := "(I)I" } : Jvm.MethodName)) ∈ lw_tbl := lw_at lw_m10 131 rfl
theorem q2350 : (Jvm.Cond.instanceMethod ({ cls := "RiddlePostModel", name := "depth", desc := "(I)I" } : Jvm.MethodName)) ∈ lw_all := lw_g (lw_at lw_m10 132 rfl) rfl
theorem q2351 : (Jvm.Cond.code ({ cls := "RiddlePostModel", name := "depth", desc := "(I)I" } : Jvm.MethodName) prog_11_method_33_code (4 : Nat) (Option.some Jvm.ClassFile.FieldType.int)) ∈ lw_all := lw_g (lw_at lw_m10 133 rfl) rfl
theorem q2352 : (Jvm.Cond.methodLink "RiddlePostLaw" (140 : Nat) ({ cls := "RiddlePostModel", name := "kindOf", desc := "(I)I" } : Jvm.MethodName)) ∈ lw_all := lw_g (lw_at lw_m10 134 rfl) rfl
theorem q2353 : (Jvm.Cond.instanceMethod ({ cls := "RiddlePostModel", name := "kindOf", desc := "(I)I" } : Jvm.MethodName)) ∈ lw_all := lw_g (lw_at lw_m10 135 rfl) rfl
theorem q2354 : (Jvm.Cond.selects "RiddlePostModel" ({ cls := "RiddlePostModel", name := "kindOf", desc := "(I)I" } : Jvm.MethodName) ({ cls := "RiddlePostModel", name := "kindOf", desc := "(I)I" } : Jvm.MethodName)) ∈ lw_all := lw_g (lw_at lw_m10 136 rfl) rfl
theorem q2355 : (Jvm.Cond.code ({ cls := "RiddlePostModel", name := "kindOf", desc := "(I)I" } : Jvm.MethodName) prog_11_method_36_code (2 : Nat) (Option.some Jvm.ClassFile.FieldType.int)) ∈ lw_all := lw_g (lw_at lw_m10 137 rfl) rfl
theorem q2356 : (Jvm.Cond.methodLink "RiddlePostModel" (103 : Nat) ({ cls := "RiddlePostModel", name := "tellsRiddle", desc := "(II)I" } : Jvm.MethodName)) ∈ lw_all := lw_g (lw_at lw_m10 138 rfl) rfl
theorem q2357 : (Jvm.Cond.privateMethod ({ cls := "RiddlePostModel", name := "tellsRiddle", desc := "(II)I" } : Jvm.MethodName)) ∈ lw_tbl := lw_at lw_m10 139 rfl
theorem q2358 : (Jvm.Cond.instanceMethod ({ cls := "RiddlePostModel", name := "tellsRiddle", desc := "(II)I" } : Jvm.MethodName)) ∈ lw_all := lw_g (lw_at lw_m10 140 rfl) rfl
theorem q2359 : (Jvm.Cond.code ({ cls := "RiddlePostModel", name := "tellsRiddle", desc := "(II)I" } : Jvm.MethodName) prog_11_method_35_code (3 : Nat) (Option.some Jvm.ClassFile.FieldType.int)) ∈ lw_all := lw_g (lw_at lw_m10 141 rfl) rfl
theorem q2360 : (Jvm.Cond.methodLink "RiddlePostLaw" (143 : Nat) ({ cls := "RiddlePostModel", name := "valueOf", desc := "(I)I" } : Jvm.MethodName)) ∈ lw_all := lw_g (lw_at lw_m10 142 rfl) rfl
theorem q2361 : (Jvm.Cond.instanceMethod ({ cls := "RiddlePostModel", name := "valueOf", desc := "(I)I" } : Jvm.MethodName)) ∈ lw_all := lw_g (lw_at lw_m10 143 rfl) rfl
theorem q2362 : (Jvm.Cond.selects "RiddlePostModel" ({ cls := "RiddlePostModel", name := "valueOf", desc := "(I)I" } : Jvm.MethodName) ({ cls := "RiddlePostModel", name := "valueOf", desc := "(I)I" } : Jvm.MethodName)) ∈ lw_all := lw_g (lw_at lw_m10 144 rfl) rfl
theorem q2363 : (Jvm.Cond.code ({ cls := "RiddlePostModel", name := "valueOf", desc := "(I)I" } : Jvm.MethodName) prog_11_method_37_code (2 : Nat) (Option.some Jvm.ClassFile.FieldType.int)) ∈ lw_all := lw_g (lw_at lw_m10 145 rfl) rfl
theorem q2364 : (Jvm.Cond.methodLink "RiddlePostLaw" (146 : Nat) ({ cls := "RiddlePostModel", name := "truthOf", desc := "(I)I" } : Jvm.MethodName)) ∈ lw_all := lw_g (lw_at lw_m10 146 rfl) rfl
theorem q2365 : (Jvm.Cond.instanceMethod ({ cls := "RiddlePostModel", name := "truthOf", desc := "(I)I" } : Jvm.MethodName)) ∈ lw_all := lw_g (lw_at lw_m10 147 rfl) rfl
theorem q2366 : (Jvm.Cond.selects "RiddlePostModel" ({ cls := "RiddlePostModel", name := "truthOf", desc := "(I)I" } : Jvm.MethodName) ({ cls := "RiddlePostModel", name := "truthOf", desc := "(I)I" } : Jvm.MethodName)) ∈ lw_all := lw_g (lw_at lw_m10 148 rfl) rfl
theorem q2367 : (Jvm.Cond.code ({ cls := "RiddlePostModel", name := "truthOf", desc := "(I)I" } : Jvm.MethodName) prog_11_method_39_code (2 : Nat) (Option.some Jvm.ClassFile.FieldType.int)) ∈ lw_all := lw_g (lw_at lw_m10 149 rfl) rfl
theorem q2368 : (Jvm.Cond.methodLink "RiddlePostModel" (106 : Nat) ({ cls := "RiddlePostModel", name := "truth", desc := "(I)I" } : Jvm.MethodName)) ∈ lw_all := lw_g (lw_at lw_m10 150 rfl) rfl
theorem q2369 : (Jvm.Cond.privateMethod ({ cls := "RiddlePostModel", name := "truth", desc := "(I)I" } : Jvm.MethodName)) ∈ lw_tbl := lw_at lw_m10 151 rfl
theorem q2370 : (Jvm.Cond.instanceMethod ({ cls := "RiddlePostModel", name := "truth", desc := "(I)I" } : Jvm.MethodName)) ∈ lw_all := lw_g (lw_at lw_m10 152 rfl) rfl
theorem q2371 : (Jvm.Cond.code ({ cls := "RiddlePostModel", name := "truth", desc := "(I)I" } : Jvm.MethodName) prog_11_method_38_code (4 : Nat) (Option.some Jvm.ClassFile.FieldType.int)) ∈ lw_all := lw_g (lw_at lw_m10 153 rfl) rfl
theorem q2372 : (Jvm.Cond.methodLink "RiddlePostLaw" (149 : Nat) ({ cls := "RiddlePostModel", name := "rememberedOf", desc := "(I)I" } : Jvm.MethodName)) ∈ lw_all := lw_g (lw_at lw_m10 154 rfl) rfl
theorem q2373 : (Jvm.Cond.instanceMethod ({ cls := "RiddlePostModel", name := "rememberedOf", desc := "(I)I" } : Jvm.MethodName)) ∈ lw_all := lw_g (lw_at lw_m10 155 rfl) rfl
theorem q2374 : (Jvm.Cond.selects "RiddlePostModel" ({ cls := "RiddlePostModel", name := "rememberedOf", desc := "(I)I" } : Jvm.MethodName) ({ cls := "RiddlePostModel", name := "rememberedOf", desc := "(I)I" } : Jvm.MethodName)) ∈ lw_all := lw_g (lw_at lw_m10 156 rfl) rfl
theorem q2375 : (Jvm.Cond.code ({ cls := "RiddlePostModel", name := "rememberedOf", desc := "(I)I" } : Jvm.MethodName) prog_11_method_40_code (2 : Nat) (Option.some Jvm.ClassFile.FieldType.int)) ∈ lw_all := lw_g (lw_at lw_m10 157 rfl) rfl
theorem q2376 : (Jvm.Cond.methodLink "RiddlePostLaw" (152 : Nat) ({ cls := "RiddlePostModel", name := "ticksLeftOf", desc := "(I)I" } : Jvm.MethodName)) ∈ lw_all := lw_g (lw_at lw_m10 158 rfl) rfl
theorem q2377 : (Jvm.Cond.instanceMethod ({ cls := "RiddlePostModel", name := "ticksLeftOf", desc := "(I)I" } : Jvm.MethodName)) ∈ lw_all := lw_g (lw_at lw_m10 159 rfl) rfl
theorem q2378 : (Jvm.Cond.selects "RiddlePostModel" ({ cls := "RiddlePostModel", name := "ticksLeftOf", desc := "(I)I" } : Jvm.MethodName) ({ cls := "RiddlePostModel", name := "ticksLeftOf", desc := "(I)I" } : Jvm.MethodName)) ∈ lw_all := lw_g (lw_at lw_m10 160 rfl) rfl
theorem q2379 : (Jvm.Cond.code ({ cls := "RiddlePostModel", name := "ticksLeftOf", desc := "(I)I" } : Jvm.MethodName) prog_11_method_42_code (2 : Nat) (Option.some Jvm.ClassFile.FieldType.int)) ∈ lw_all := lw_g (lw_at lw_m10 161 rfl) rfl
theorem q2380 : (Jvm.Cond.methodLink "RiddlePostModel" (109 : Nat) ({ cls := "RiddlePostModel", name := "leftUntil", desc := "(I)I" } : Jvm.MethodName)) ∈ lw_all := lw_g (lw_at lw_m10 162 rfl) rfl
theorem q2381 : (Jvm.Cond.privateMethod ({ cls := "RiddlePostModel", name := "leftUntil", desc := "(I)I" } : Jvm.MethodName)) ∈ lw_tbl := lw_at lw_m10 163 rfl
theorem q2382 : (Jvm.Cond.instanceMethod ({ cls := "RiddlePostModel", name := "leftUntil", desc := "(I)I" } : Jvm.MethodName)) ∈ lw_all := lw_g (lw_at lw_m10 164 rfl) rfl
theorem q2383 : (Jvm.Cond.code ({ cls := "RiddlePostModel", name := "leftUntil", desc := "(I)I" } : Jvm.MethodName) prog_11_method_41_code (2 : Nat) (Option.some Jvm.ClassFile.FieldType.int)) ∈ lw_all := lw_g (lw_at lw_m10 165 rfl) rfl
theorem q2384 : (Jvm.Cond.methodLink "RiddlePostLaw" (155 : Nat) ({ cls := "RiddlePostModel", name := "referralLeft", desc := "(I)I" } : Jvm.MethodName)) ∈ lw_all := lw_g (lw_at lw_m10 166 rfl) rfl
theorem q2385 : (Jvm.Cond.instanceMethod ({ cls := "RiddlePostModel", name := "referralLeft", desc := "(I)I" } : Jvm.MethodName)) ∈ lw_all := lw_g (lw_at lw_m10 167 rfl) rfl
theorem q2386 : (Jvm.Cond.selects "RiddlePostModel" ({ cls := "RiddlePostModel", name := "referralLeft", desc := "(I)I" } : Jvm.MethodName) ({ cls := "RiddlePostModel", name := "referralLeft", desc := "(I)I" } : Jvm.MethodName)) ∈ lw_all := lw_g (lw_at lw_m10 168 rfl) rfl
theorem q2387 : (Jvm.Cond.code ({ cls := "RiddlePostModel", name := "referralLeft", desc := "(I)I" } : Jvm.MethodName) prog_11_method_43_code (2 : Nat) (Option.some Jvm.ClassFile.FieldType.int)) ∈ lw_all := lw_g (lw_at lw_m10 169 rfl) rfl
theorem q2388 : (Jvm.Cond.methodLink "RiddlePostLaw" (159 : Nat) ({ cls := "RiddlePostModel", name := "remembered", desc := "()I" } : Jvm.MethodName)) ∈ lw_all := lw_g (lw_at lw_m10 170 rfl) rfl
theorem q2389 : (Jvm.Cond.instanceMethod ({ cls := "RiddlePostModel", name := "remembered", desc := "()I" } : Jvm.MethodName)) ∈ lw_all := lw_g (lw_at lw_m10 171 rfl) rfl
theorem q2390 : (Jvm.Cond.selects "RiddlePostModel" ({ cls := "RiddlePostModel", name := "remembered", desc := "()I" } : Jvm.MethodName) ({ cls := "RiddlePostModel", name := "remembered", desc := "()I" } : Jvm.MethodName)) ∈ lw_all := lw_g (lw_at lw_m10 172 rfl) rfl
theorem q2391 : (Jvm.Cond.code ({ cls := "RiddlePostModel", name := "remembered", desc := "()I" } : Jvm.MethodName) prog_11_method_45_code (1 : Nat) (Option.some Jvm.ClassFile.FieldType.int)) ∈ lw_all := lw_g (lw_at lw_m10 173 rfl) rfl
theorem q2392 : (Jvm.Cond.methodLink "RiddlePostModel" (112 : Nat) ({ cls := "RiddlePostModel", name := "memories", desc := "()I" } : Jvm.MethodName)) ∈ lw_all := lw_g (lw_at lw_m10 174 rfl) rfl
theorem q2393 : (Jvm.Cond.privateMethod ({ cls := "RiddlePostModel", name := "memories", desc := "()I" } : Jvm.MethodName)) ∈ lw_tbl := lw_at lw_m10 175 rfl
theorem q2394 : (Jvm.Cond.instanceMethod ({ cls := "RiddlePostModel", name := "memories", desc := "()I" } : Jvm.MethodName)) ∈ lw_all := lw_g (lw_at lw_m10 176 rfl) rfl
theorem q2395 : (Jvm.Cond.code ({ cls := "RiddlePostModel", name := "memories", desc := "()I" } : Jvm.MethodName) prog_11_method_44_code (3 : Nat) (Option.some Jvm.ClassFile.FieldType.int)) ∈ lw_all := lw_g (lw_at lw_m10 177 rfl) rfl
theorem q2396 : (Jvm.Cond.methodLink "RiddlePostLaw" (163 : Nat) ({ cls := "RiddlePostModel", name := "rememberedByAccount", desc := "()I" } : Jvm.MethodName)) ∈ lw_all := lw_g (lw_at lw_m10 178 rfl) rfl
theorem q2397 : (Jvm.Cond.instanceMethod ({ cls := "RiddlePostModel", name := "rememberedByAccount", desc := "()I" } : Jvm.MethodName)) ∈ lw_all := lw_g (lw_at lw_m10 179 rfl) rfl
theorem q2398 : (Jvm.Cond.selects "RiddlePostModel" ({ cls := "RiddlePostModel", name := "rememberedByAccount", desc := "()I" } : Jvm.MethodName) ({ cls := "RiddlePostModel", name := "rememberedByAccount", desc := "()I" } : Jvm.MethodName)) ∈ lw_all := lw_g (lw_at lw_m10 180 rfl) rfl
theorem q2399 : (Jvm.Cond.code ({ cls := "RiddlePostModel", name := "rememberedByAccount", desc := "()I" } : Jvm.MethodName) prog_11_method_46_code (1 : Nat) (Option.some Jvm.ClassFile.FieldType.int)) ∈ lw_all := lw_g (lw_at lw_m10 181 rfl) rfl
theorem q2400 : (Jvm.Cond.methodLink "RiddlePostLaw" (167 : Nat) ({ cls := "RiddlePostModel", name := "ticksUntilForgetting", desc := "()I" } : Jvm.MethodName)) ∈ lw_all := lw_g (lw_at lw_m10 182 rfl) rfl
theorem q2401 : (Jvm.Cond.instanceMethod ({ cls := "RiddlePostModel", name := "ticksUntilForgetting", desc := "()I" } : Jvm.MethodName)) ∈ lw_all := lw_g (lw_at lw_m10 183 rfl) rfl
theorem q2402 : (Jvm.Cond.selects "RiddlePostModel" ({ cls := "RiddlePostModel", name := "ticksUntilForgetting", desc := "()I" } : Jvm.MethodName) ({ cls := "RiddlePostModel", name := "ticksUntilForgetting", desc := "()I" } : Jvm.MethodName)) ∈ lw_all := lw_g (lw_at lw_m10 184 rfl) rfl
theorem q2403 : (Jvm.Cond.code ({ cls := "RiddlePostModel", name := "ticksUntilForgetting", desc := "()I" } : Jvm.MethodName) prog_11_method_49_code (1 : Nat) (Option.some Jvm.ClassFile.FieldType.int)) ∈ lw_all := lw_g (lw_at lw_m10 185 rfl) rfl
theorem q2404 : (Jvm.Cond.methodLink "RiddlePostModel" (119 : Nat) ({ cls := "RiddlePostModel", name := "untilForgetting", desc := "()I" } : Jvm.MethodName)) ∈ lw_all := lw_g (lw_at lw_m10 186 rfl) rfl
theorem q2405 : (Jvm.Cond.privateMethod ({ cls := "RiddlePostModel", name := "untilForgetting", desc := "()I" } : Jvm.MethodName)) ∈ lw_tbl := lw_at lw_m10 187 rfl
theorem q2406 : (Jvm.Cond.instanceMethod ({ cls := "RiddlePostModel", name := "untilForgetting", desc := "()I" } : Jvm.MethodName)) ∈ lw_all := lw_g (lw_at lw_m10 188 rfl) rfl
theorem q2407 : (Jvm.Cond.code ({ cls := "RiddlePostModel", name := "untilForgetting", desc := "()I" } : Jvm.MethodName) prog_11_method_48_code (3 : Nat) (Option.some Jvm.ClassFile.FieldType.int)) ∈ lw_all := lw_g (lw_at lw_m10 189 rfl) rfl
theorem q2408 : (Jvm.Cond.methodLink "RiddlePostModel" (116 : Nat) ({ cls := "RiddlePostModel", name := "sooner", desc := "(II)I" } : Jvm.MethodName)) ∈ lw_all := lw_g (lw_at lw_m10 190 rfl) rfl
theorem q2409 : (Jvm.Cond.static ({ cls := "RiddlePostModel", name := "sooner", desc := "(II)I" } : Jvm.MethodName)) ∈ lw_all := lw_g (lw_at lw_m10 191 rfl) rfl
theorem q2410 : (Jvm.Cond.code ({ cls := "RiddlePostModel", name := "sooner", desc := "(II)I" } : Jvm.MethodName) prog_11_method_47_code (2 : Nat) (Option.some Jvm.ClassFile.FieldType.int)) ∈ lw_all := lw_g (lw_at lw_m10 192 rfl) rfl
theorem q2411 : (Jvm.Cond.methodLink "RiddlePostLaw" (170 : Nat) ({ cls := "RiddlePostModel", name := "isOutOfDate", desc := "(I)Z" } : Jvm.MethodName)) ∈ lw_all := lw_g (lw_at lw_m10 193 rfl) rfl
theorem q2412 : (Jvm.Cond.instanceMethod ({ cls := "RiddlePostModel", name := "isOutOfDate", desc := "(I)Z" } : Jvm.MethodName)) ∈ lw_all := lw_g (lw_at lw_m10 194 rfl) rfl
theorem q2413 : (Jvm.Cond.selects "RiddlePostModel" ({ cls := "RiddlePostModel", name := "isOutOfDate", desc := "(I)Z" } : Jvm.MethodName) ({ cls := "RiddlePostModel", name := "isOutOfDate", desc := "(I)Z" } : Jvm.MethodName)) ∈ lw_all := lw_g (lw_at lw_m10 195 rfl) rfl
theorem q2414 : (Jvm.Cond.code ({ cls := "RiddlePostModel", name := "isOutOfDate", desc := "(I)Z" } : Jvm.MethodName) prog_11_method_51_code (2 : Nat) (Option.some Jvm.ClassFile.FieldType.boolean)) ∈ lw_all := lw_g (lw_at lw_m10 196 rfl) rfl
theorem q2415 : (Jvm.Cond.methodLink "RiddlePostModel" (122 : Nat) ({ cls := "RiddlePostModel", name := "isOld", desc := "(I)Z" } : Jvm.MethodName)) ∈ lw_all := lw_g (lw_at lw_m10 197 rfl) rfl
theorem q2416 : (Jvm.Cond.privateMethod ({ cls := "RiddlePostModel", name := "isOld", desc := "(I)Z" } : Jvm.MethodName)) ∈ lw_tbl := lw_at lw_m10 198 rfl
theorem q2417 : (Jvm.Cond.instanceMethod ({ cls := "RiddlePostModel", name := "isOld", desc := "(I)Z" } : Jvm.MethodName)) ∈ lw_all := lw_g (lw_at lw_m10 199 rfl) rfl
theorem q2418 : (Jvm.Cond.code ({ cls := "RiddlePostModel", name := "isOld", desc := "(I)Z" } : Jvm.MethodName) prog_11_method_50_code (4 : Nat) (Option.some Jvm.ClassFile.FieldType.boolean)) ∈ lw_all := lw_g (lw_at lw_m10 200 rfl) rfl
theorem q2419 : (Jvm.Cond.methodLink "RiddlePostLaw" (174 : Nat) ({ cls := "RiddlePostModel", name := "solved", desc := "()I" } : Jvm.MethodName)) ∈ lw_all := lw_g (lw_at lw_m10 201 rfl) rfl
theorem q2420 : (Jvm.Cond.instanceMethod ({ cls := "RiddlePostModel", name := "solved", desc := "()I" } : Jvm.MethodName)) ∈ lw_all := lw_g (lw_at lw_m10 202 rfl) rfl
theorem q2421 : (Jvm.Cond.selects "RiddlePostModel" ({ cls := "RiddlePostModel", name := "solved", desc := "()I" } : Jvm.MethodName) ({ cls := "RiddlePostModel", name := "solved", desc := "()I" } : Jvm.MethodName)) ∈ lw_all := lw_g (lw_at lw_m10 203 rfl) rfl
theorem q2422 : (Jvm.Cond.code ({ cls := "RiddlePostModel", name := "solved", desc := "()I" } : Jvm.MethodName) prog_11_method_52_code (1 : Nat) (Option.some Jvm.ClassFile.FieldType.int)) ∈ lw_all := lw_g (lw_at lw_m10 204 rfl) rfl
theorem q2423 : (Jvm.Cond.methodLink "RiddlePostLaw" (178 : Nat) ({ cls := "RiddlePostModel", name := "questions", desc := "()I" } : Jvm.MethodName)) ∈ lw_all := lw_g (lw_at lw_m10 205 rfl) rfl
theorem q2424 : (Jvm.Cond.instanceMethod ({ cls := "RiddlePostModel", name := "questions", desc := "()I" } : Jvm.MethodName)) ∈ lw_all := lw_g (lw_at lw_m10 206 rfl) rfl
theorem q2425 : (Jvm.Cond.selects "RiddlePostModel" ({ cls := "RiddlePostModel", name := "questions", desc := "()I" } : Jvm.MethodName) ({ cls := "RiddlePostModel", name := "questions", desc := "()I" } : Jvm.MethodName)) ∈ lw_all := lw_g (lw_at lw_m10 207 rfl) rfl
theorem q2426 : (Jvm.Cond.code ({ cls := "RiddlePostModel", name := "questions", desc := "()I" } : Jvm.MethodName) prog_11_method_53_code (1 : Nat) (Option.some Jvm.ClassFile.FieldType.int)) ∈ lw_all := lw_g (lw_at lw_m10 208 rfl) rfl
theorem q2427 : (Jvm.Cond.methodLink "RiddlePostLaw" (182 : Nat) ({ cls := "RiddlePostModel", name := "hits", desc := "()I" } : Jvm.MethodName)) ∈ lw_all := lw_g (lw_at lw_m10 209 rfl) rfl
theorem q2428 : (Jvm.Cond.instanceMethod ({ cls := "RiddlePostModel", name := "hits", desc := "()I" } : Jvm.MethodName)) ∈ lw_all := lw_g (lw_at lw_m10 210 rfl) rfl
theorem q2429 : (Jvm.Cond.selects "RiddlePostModel" ({ cls := "RiddlePostModel", name := "hits", desc := "()I" } : Jvm.MethodName) ({ cls := "RiddlePostModel", name := "hits", desc := "()I" } : Jvm.MethodName)) ∈ lw_all := lw_g (lw_at lw_m10 211 rfl) rfl
theorem q2430 : (Jvm.Cond.code ({ cls := "RiddlePostModel", name := "hits", desc := "()I" } : Jvm.MethodName) prog_11_method_54_code (1 : Nat) (Option.some Jvm.ClassFile.FieldType.int)) ∈ lw_all := lw_g (lw_at lw_m10 212 rfl) rfl
theorem q2431 : (Jvm.Cond.methodLink "RiddlePostLaw" (185 : Nat) ({ cls := "RiddlePostModel", name := "questionsTo", desc := "(I)I" } : Jvm.MethodName)) ∈ lw_all := lw_g (lw_at lw_m10 213 rfl) rfl
theorem q2432 : (Jvm.Cond.instanceMethod ({ cls := "RiddlePostModel", name := "questionsTo", desc := "(I)I" } : Jvm.MethodName)) ∈ lw_all := lw_g (lw_at lw_m10 214 rfl) rfl
theorem q2433 : (Jvm.Cond.selects "RiddlePostModel" ({ cls := "RiddlePostModel", name := "questionsTo", desc := "(I)I" } : Jvm.MethodName) ({ cls := "RiddlePostModel", name := "questionsTo", desc := "(I)I" } : Jvm.MethodName)) ∈ lw_all := lw_g (lw_at lw_m10 215 rfl) rfl
theorem q2434 : (Jvm.Cond.code ({ cls := "RiddlePostModel", name := "questionsTo", desc := "(I)I" } : Jvm.MethodName) prog_11_method_55_code (2 : Nat) (Option.some Jvm.ClassFile.FieldType.int)) ∈ lw_all := lw_g (lw_at lw_m10 216 rfl) rfl
theorem q2435 : (Jvm.Cond.methodLink "RiddlePostLaw" (190 : Nat) ({ cls := "RiddlePostModel", name := "meanQuestions", desc := "()D" } : Jvm.MethodName)) ∈ lw_all := lw_g (lw_at lw_m10 217 rfl) rfl
theorem q2436 : (Jvm.Cond.instanceMethod ({ cls := "RiddlePostModel", name := "meanQuestions", desc := "()D" } : Jvm.MethodName)) ∈ lw_all := lw_g (lw_at lw_m10 218 rfl) rfl
theorem q2437 : (Jvm.Cond.selects "RiddlePostModel" ({ cls := "RiddlePostModel", name := "meanQuestions", desc := "()D" } : Jvm.MethodName) ({ cls := "RiddlePostModel", name := "meanQuestions", desc := "()D" } : Jvm.MethodName)) ∈ lw_all := lw_g (lw_at lw_m10 219 rfl) rfl
theorem q2438 : (Jvm.Cond.code ({ cls := "RiddlePostModel", name := "meanQuestions", desc := "()D" } : Jvm.MethodName) prog_11_method_56_code (1 : Nat) (Option.some Jvm.ClassFile.FieldType.double)) ∈ lw_all := lw_g (lw_at lw_m10 220 rfl) rfl
theorem q2439 : (Jvm.Cond.methodLink "RiddlePostLaw" (193 : Nat) ({ cls := "RiddlePostModel", name := "wouldSolve", desc := "(I)I" } : Jvm.MethodName)) ∈ lw_all := lw_g (lw_at lw_m10 221 rfl) rfl
theorem q2440 : (Jvm.Cond.instanceMethod ({ cls := "RiddlePostModel", name := "wouldSolve", desc := "(I)I" } : Jvm.MethodName)) ∈ lw_all := lw_g (lw_at lw_m10 222 rfl) rfl
theorem q2441 : (Jvm.Cond.selects "RiddlePostModel" ({ cls := "RiddlePostModel", name := "wouldSolve", desc := "(I)I" } : Jvm.MethodName) ({ cls := "RiddlePostModel", name := "wouldSolve", desc := "(I)I" } : Jvm.MethodName)) ∈ lw_all := lw_g (lw_at lw_m10 223 rfl) rfl
theorem q2442 : (Jvm.Cond.code ({ cls := "RiddlePostModel", name := "wouldSolve", desc := "(I)I" } : Jvm.MethodName) prog_11_method_58_code (2 : Nat) (Option.some Jvm.ClassFile.FieldType.int)) ∈ lw_all := lw_g (lw_at lw_m10 224 rfl) rfl
theorem q2443 : (Jvm.Cond.methodLink "RiddlePostModel" (125 : Nat) ({ cls := "RiddlePostModel", name := "would", desc := "(I)I" } : Jvm.MethodName)) ∈ lw_all := lw_g (lw_at lw_m10 225 rfl) rfl
theorem q2444 : (Jvm.Cond.privateMethod ({ cls := "RiddlePostModel", name := "would", desc := "(I)I" } : Jvm.MethodName)) ∈ lw_tbl := lw_at lw_m10 226 rfl
theorem q2445 : (Jvm.Cond.instanceMethod ({ cls := "RiddlePostModel", name := "would", desc := "(I)I" } : Jvm.MethodName)) ∈ lw_all := lw_g (lw_at lw_m10 227 rfl) rfl
theorem q2446 : (Jvm.Cond.code ({ cls := "RiddlePostModel", name := "would", desc := "(I)I" } : Jvm.MethodName) prog_11_method_57_code (3 : Nat) (Option.some Jvm.ClassFile.FieldType.int)) ∈ lw_all := lw_g (lw_at lw_m10 228 rfl) rfl
theorem q2447 : (Jvm.Cond.methodLink "RiddlePostLaw" (196 : Nat) ({ cls := "RiddlePostModel", name := "costOf", desc := "(I)I" } : Jvm.MethodName)) ∈ lw_all := lw_g (lw_at lw_m10 229 rfl) rfl
theorem q2448 : (Jvm.Cond.instanceMethod ({ cls := "RiddlePostModel", name := "costOf", desc := "(I)I" } : Jvm.MethodName)) ∈ lw_all := lw_g (lw_at lw_m10 230 rfl) rfl
theorem q2449 : (Jvm.Cond.selects "RiddlePostModel" ({ cls := "RiddlePostModel", name := "costOf", desc := "(I)I" } : Jvm.MethodName) ({ cls := "RiddlePostModel", name := "costOf", desc := "(I)I" } : Jvm.MethodName)) ∈ lw_all := lw_g (lw_at lw_m10 231 rfl) rfl
theorem q2450 : (Jvm.Cond.code ({ cls := "RiddlePostModel", name := "costOf", desc := "(I)I" } : Jvm.MethodName) prog_11_method_60_code (2 : Nat) (Option.some Jvm.ClassFile.FieldType.int)) ∈ lw_all := lw_g (lw_at lw_m10 232 rfl) rfl
theorem q2451 : (Jvm.Cond.methodLink "RiddlePostModel" (128 : Nat) ({ cls := "RiddlePostModel", name := "cost", desc := "(I)I" } : Jvm.MethodName)) ∈ lw_all := lw_g (lw_at lw_m10 233 rfl) rfl
theorem q2452 : (Jvm.Cond.privateMethod ({ cls := "RiddlePostModel", name := "cost", desc := "(I)I" } : Jvm.MethodName)) ∈ lw_tbl := lw_at lw_m10 234 rfl
theorem q2453 : (Jvm.Cond.instanceMethod ({ cls := "RiddlePostModel", name := "cost", desc := "(I)I" } : Jvm.MethodName)) ∈ lw_all := lw_g (lw_at lw_m10 235 rfl) rfl
theorem q2454 : (Jvm.Cond.code ({ cls := "RiddlePostModel", name := "cost", desc := "(I)I" } : Jvm.MethodName) prog_11_method_59_code (3 : Nat) (Option.some Jvm.ClassFile.FieldType.int)) ∈ lw_all := lw_g (lw_at lw_m10 236 rfl) rfl
theorem q2455 : (Jvm.Cond.methodLink "RiddlePostLaw" (199 : Nat) ({ cls := "RiddlePostModel", name := "ticksUntilTruth", desc := "(I)I" } : Jvm.MethodName)) ∈ lw_all := lw_g (lw_at lw_m10 237 rfl) rfl
theorem q2456 : (Jvm.Cond.instanceMethod ({ cls := "RiddlePostModel", name := "ticksUntilTruth", desc := "(I)I" } : Jvm.MethodName)) ∈ lw_all := lw_g (lw_at lw_m10 238 rfl) rfl
theorem q2457 : (Jvm.Cond.selects "RiddlePostModel" ({ cls := "RiddlePostModel", name := "ticksUntilTruth", desc := "(I)I" } : Jvm.MethodName) ({ cls := "RiddlePostModel", name := "ticksUntilTruth", desc := "(I)I" } : Jvm.MethodName)) ∈ lw_all := lw_g (lw_at lw_m10 239 rfl) rfl
theorem q2458 : (Jvm.Cond.code ({ cls := "RiddlePostModel", name := "ticksUntilTruth", desc := "(I)I" } : Jvm.MethodName) prog_11_method_61_code (4 : Nat) (Option.some Jvm.ClassFile.FieldType.int)) ∈ lw_all := lw_g (lw_at lw_m11 0 rfl) rfl
theorem q2459 : (Jvm.Cond.methodLink "RiddlePostModel" (131 : Nat) ({ cls := "RiddlePostModel", name := "wouldIn", desc := "(II)I" } : Jvm.MethodName)) ∈ lw_all := lw_g (lw_at lw_m11 1 rfl) rfl
theorem q2460 : (Jvm.Cond.privateMethod ({ cls := "RiddlePostModel", name := "wouldIn", desc := "(II)I" } : Jvm.MethodName)) ∈ lw_tbl := lw_at lw_m11 2 rfl
theorem q2461 : (Jvm.Cond.instanceMethod ({ cls := "RiddlePostModel", name := "wouldIn", desc := "(II)I" } : Jvm.MethodName)) ∈ lw_all := lw_g (lw_at lw_m11 3 rfl) rfl
theorem q2462 : (Jvm.Cond.code ({ cls := "RiddlePostModel", name := "wouldIn", desc := "(II)I" } : Jvm.MethodName) prog_11_method_62_code (4 : Nat) (Option.some Jvm.ClassFile.FieldType.int)) ∈ lw_all := lw_g (lw_at lw_m11 4 rfl) rfl
theorem q2463 : (Jvm.Cond.methodLink "RiddlePostLaw" (202 : Nat) ({ cls := "RiddlePostModel", name := "append", desc := "(I)I" } : Jvm.MethodName)) ∈ lw_all := lw_g (lw_at lw_m11 5 rfl) rfl
theorem q2464 : (Jvm.Cond.instanceMethod ({ cls := "RiddlePostModel", name := "append", desc := "(I)I" } : Jvm.MethodName)) ∈ lw_all := lw_g (lw_at lw_m11 6 rfl) rfl
theorem q2465 : (Jvm.Cond.selects "RiddlePostModel" ({ cls := "RiddlePostModel", name := "append", desc := "(I)I" } : Jvm.MethodName) ({ cls := "RiddlePostModel", name := "append", desc := "(I)I" } : Jvm.MethodName)) ∈ lw_all := lw_g (lw_at lw_m11 7 rfl) rfl
theorem q2466 : (Jvm.Cond.code ({ cls := "RiddlePostModel", name := "append", desc := "(I)I" } : Jvm.MethodName) prog_11_method_63_code (2 : Nat) (Option.some Jvm.ClassFile.FieldType.int)) ∈ lw_all := lw_g (lw_at lw_m11 8 rfl) rfl
theorem q2467 : (Jvm.Cond.methodLink "RiddlePostLaw" (206 : Nat) ({ cls := "RiddlePostModel", name := "clearText", desc := "()I" } : Jvm.MethodName)) ∈ lw_all := lw_g (lw_at lw_m11 9 rfl) rfl
theorem q2468 : (Jvm.Cond.instanceMethod ({ cls := "RiddlePostModel", name := "clearText", desc := "()I" } : Jvm.MethodName)) ∈ lw_all := lw_g (lw_at lw_m11 10 rfl) rfl
theorem q2469 : (Jvm.Cond.selects "RiddlePostModel" ({ cls := "RiddlePostModel", name := "clearText", desc := "()I" } : Jvm.MethodName) ({ cls := "RiddlePostModel", name := "clearText", desc := "()I" } : Jvm.MethodName)) ∈ lw_all := lw_g (lw_at lw_m11 11 rfl) rfl
theorem q2470 : (Jvm.Cond.code ({ cls := "RiddlePostModel", name := "clearText", desc := "()I" } : Jvm.MethodName) prog_11_method_64_code (2 : Nat) (Option.some Jvm.ClassFile.FieldType.int)) ∈ lw_all := lw_g (lw_at lw_m11 12 rfl) rfl
theorem q2471 : (Jvm.Cond.methodLink "RiddlePostLaw" (210 : Nat) ({ cls := "RiddlePostModel", name := "firstError", desc := "()I" } : Jvm.MethodName)) ∈ lw_all := lw_g (lw_at lw_m11 13 rfl) rfl
theorem q2472 : (Jvm.Cond.instanceMethod ({ cls := "RiddlePostModel", name := "firstError", desc := "()I" } : Jvm.MethodName)) ∈ lw_all := lw_g (lw_at lw_m11 14 rfl) rfl
theorem q2473 : (Jvm.Cond.selects "RiddlePostModel" ({ cls := "RiddlePostModel", name := "firstError", desc := "()I" } : Jvm.MethodName) ({ cls := "RiddlePostModel", name := "firstError", desc := "()I" } : Jvm.MethodName)) ∈ lw_all := lw_g (lw_at lw_m11 15 rfl) rfl
theorem q2474 : (Jvm.Cond.code ({ cls := "RiddlePostModel", name := "firstError", desc := "()I" } : Jvm.MethodName) prog_11_method_69_code (1 : Nat) (Option.some Jvm.ClassFile.FieldType.int)) ∈ lw_all := lw_g (lw_at lw_m11 16 rfl) rfl
theorem q2475 : (Jvm.Cond.methodLink "RiddlePostModel" (157 : Nat) ({ cls := "RiddlePostModel", name := "findError", desc := "()I" } : Jvm.MethodName)) ∈ lw_all := lw_g (lw_at lw_m11 17 rfl) rfl
theorem q2476 : (Jvm.Cond.privateMethod ({ cls := "RiddlePostModel", name := "findError", desc := "()I" } : Jvm.MethodName)) ∈ lw_tbl := lw_at lw_m11 18 rfl
theorem q2477 : (Jvm.Cond.instanceMethod ({ cls := "RiddlePostModel", name := "findError", desc := "()I" } : Jvm.MethodName)) ∈ lw_all := lw_g (lw_at lw_m11 19 rfl) rfl
theorem q2478 : (Jvm.Cond.code ({ cls := "RiddlePostModel", name := "findError", desc := "()I" } : Jvm.MethodName) prog_11_method_68_code (1 : Nat) (Option.some Jvm.ClassFile.FieldType.int)) ∈ lw_all := lw_g (lw_at lw_m11 20 rfl) rfl
theorem q2479 : (Jvm.Cond.methodLink "RiddlePostModel" (153 : Nat) ({ cls := "RiddlePostModel", name := "readsAct", desc := "()Z" } : Jvm.MethodName)) ∈ lw_all := lw_g (lw_at lw_m11 21 rfl) rfl
theorem q2480 : (Jvm.Cond.privateMethod ({ cls := "RiddlePostModel", name := "readsAct", desc := "()Z" } : Jvm.MethodName)) ∈ lw_tbl := lw_at lw_m11 22 rfl
theorem q2481 : (Jvm.Cond.instanceMethod ({ cls := "RiddlePostModel", name := "readsAct", desc := "()Z" } : Jvm.MethodName)) ∈ lw_all := lw_g (lw_at lw_m11 23 rfl) rfl
theorem q2482 : (Jvm.Cond.code ({ cls := "RiddlePostModel", name := "readsAct", desc := "()Z" } : Jvm.MethodName) prog_11_method_67_code (1 : Nat) (Option.some Jvm.ClassFile.FieldType.boolean)) ∈ lw_all := lw_g (lw_at lw_m11 24 rfl) rfl
theorem q2483 : (Jvm.Cond.methodLink "RiddlePostModel" (140 : Nat) ({ cls := "RiddlePostModel", name := "accepts", desc := "(II)Z" } : Jvm.MethodName)) ∈ lw_all := lw_g (lw_at lw_m11 25 rfl) rfl
theorem q2484 : (Jvm.Cond.privateMethod ({ cls := "RiddlePostModel", name := "accepts", desc := "(II)Z" } : Jvm.MethodName)) ∈ lw_tbl := lw_at lw_m11 26 rfl
theorem q2485 : (Jvm.Cond.instanceMethod ({ cls := "RiddlePostModel", name := "accepts", desc := "(II)Z" } : Jvm.MethodName)) ∈ lw_all := lw_g (lw_at lw_m11 27 rfl) rfl
theorem q2486 : (Jvm.Cond.code ({ cls := "RiddlePostModel", name := "accepts", desc := "(II)Z" } : Jvm.MethodName) prog_11_method_65_code (4 : Nat) (Option.some Jvm.ClassFile.FieldType.boolean)) ∈ lw_all := lw_g (lw_at lw_m11 28 rfl) rfl
theorem q2487 : (Jvm.Cond.methodLink "RiddlePostModel" (150 : Nat) ({ cls := "RiddlePostModel", name := "readsNumber", desc := "(II)Z" } : Jvm.MethodName)) ∈ lw_all := lw_g (lw_at lw_m11 29 rfl) rfl
theorem q2488 : (Jvm.Cond.privateMethod ({ cls := "RiddlePostModel", name := "readsNumber", desc := "(II)Z" } : Jvm.MethodName)) ∈ lw_tbl := lw_at lw_m11 30 rfl
theorem q2489 : (Jvm.Cond.instanceMethod ({ cls := "RiddlePostModel", name := "readsNumber", desc := "(II)Z" } : Jvm.MethodName)) ∈ lw_all := lw_g (lw_at lw_m11 31 rfl) rfl
theorem q2490 : (Jvm.Cond.code ({ cls := "RiddlePostModel", name := "readsNumber", desc := "(II)Z" } : Jvm.MethodName) prog_11_method_66_code (3 : Nat) (Option.some Jvm.ClassFile.FieldType.boolean)) ∈ lw_all := lw_g (lw_at lw_m11 32 rfl) rfl
theorem q2491 : (Jvm.Cond.methodLink "RiddlePostLaw" (214 : Nat) ({ cls := "RiddlePostModel", name := "runActs", desc := "()I" } : Jvm.MethodName)) ∈ lw_all := lw_g (lw_at lw_m11 33 rfl) rfl
theorem q2492 : (Jvm.Cond.instanceMethod ({ cls := "RiddlePostModel", name := "runActs", desc := "()I" } : Jvm.MethodName)) ∈ lw_all := lw_g (lw_at lw_m11 34 rfl) rfl
theorem q2493 : (Jvm.Cond.selects "RiddlePostModel" ({ cls := "RiddlePostModel", name := "runActs", desc := "()I" } : Jvm.MethodName) ({ cls := "RiddlePostModel", name := "runActs", desc := "()I" } : Jvm.MethodName)) ∈ lw_all := lw_g (lw_at lw_m11 35 rfl) rfl
theorem q2494 : (Jvm.Cond.code ({ cls := "RiddlePostModel", name := "runActs", desc := "()I" } : Jvm.MethodName) prog_11_method_71_code (3 : Nat) (Option.some Jvm.ClassFile.FieldType.int)) ∈ lw_all := lw_g (lw_at lw_m11 36 rfl) rfl
theorem q2495 : (Jvm.Cond.methodLink "RiddlePostModel" (160 : Nat) ({ cls := "RiddlePostModel", name := "happens", desc := "()Z" } : Jvm.MethodName)) ∈ lw_all := lw_g (lw_at lw_m11 37 rfl) rfl
theorem q2496 : (Jvm.Cond.privateMethod ({ cls := "RiddlePostModel", name := "happens", desc := "()Z" } : Jvm.MethodName)) ∈ lw_tbl := lw_at lw_m11 38 rfl
theorem q2497 : (Jvm.Cond.instanceMethod ({ cls := "RiddlePostModel", name := "happens", desc := "()Z" } : Jvm.MethodName)) ∈ lw_all := lw_g (lw_at lw_m11 39 rfl) rfl
theorem q2498 : (Jvm.Cond.code ({ cls := "RiddlePostModel", name := "happens", desc := "()Z" } : Jvm.MethodName) prog_11_method_70_code (2 : Nat) (Option.some Jvm.ClassFile.FieldType.boolean)) ∈ lw_all := lw_g (lw_at lw_m11 40 rfl) rfl
theorem q2499 : (Jvm.Cond.methodLink "RiddlePostLaw" (217 : Nat) ({ cls := "RiddlePostModel", name := "undo", desc := "()I" } : Jvm.MethodName)) ∈ lw_all := lw_g (lw_at lw_m11 41 rfl) rfl
theorem q2500 : (Jvm.Cond.instanceMethod ({ cls := "RiddlePostModel", name := "undo", desc := "()I" } : Jvm.MethodName)) ∈ lw_all := lw_g (lw_at lw_m11 42 rfl) rfl
theorem q2501 : (Jvm.Cond.selects "RiddlePostModel" ({ cls := "RiddlePostModel", name := "undo", desc := "()I" } : Jvm.MethodName) ({ cls := "RiddlePostModel", name := "undo", desc := "()I" } : Jvm.MethodName)) ∈ lw_all := lw_g (lw_at lw_m11 43 rfl) rfl
theorem q2502 : (Jvm.Cond.code ({ cls := "RiddlePostModel", name := "undo", desc := "()I" } : Jvm.MethodName) prog_11_method_72_code (1 : Nat) (Option.some Jvm.ClassFile.FieldType.int)) ∈ lw_all := lw_g (lw_at lw_m11 44 rfl) rfl
theorem q2503 : (Jvm.Cond.methodLink "RiddlePostLaw" (222 : Nat) ({ cls := "RiddlePostModel", name := "digest", desc := "()J" } : Jvm.MethodName)) ∈ lw_all := lw_g (lw_at lw_m11 45 rfl) rfl
theorem q2504 : (Jvm.Cond.instanceMethod ({ cls := "RiddlePostModel", name := "digest", desc := "()J" } : Jvm.MethodName)) ∈ lw_all := lw_g (lw_at lw_m11 46 rfl) rfl
theorem q2505 : (Jvm.Cond.selects "RiddlePostModel" ({ cls := "RiddlePostModel", name := "digest", desc := "()J" } : Jvm.MethodName) ({ cls := "RiddlePostModel", name := "digest", desc := "()J" } : Jvm.MethodName)) ∈ lw_all := lw_g (lw_at lw_m11 47 rfl) rfl
theorem q2506 : (Jvm.Cond.code ({ cls := "RiddlePostModel", name := "digest", desc := "()J" } : Jvm.MethodName) prog_11_method_73_code (4 : Nat) (Option.some Jvm.ClassFile.FieldType.long)) ∈ lw_all := lw_g (lw_at lw_m11 48 rfl) rfl
theorem q2507 : (Jvm.Cond.constantLong "RiddlePostModel" (163 : Nat) (725 : Int64)) ∈ lw_all := lw_g (lw_at lw_m11 49 rfl) rfl
theorem q2508 : (Jvm.Cond.constantLong "RiddlePostModel" (165 : Nat) (31 : Int64)) ∈ lw_all := lw_g (lw_at lw_m11 50 rfl) rfl
theorem q2509 : (Jvm.Cond.arrayClass Jvm.ClassFile.FieldType.long) ∈ lw_all := lw_g (lw_at lw_m11 51 rfl) rfl
theorem q2510 : (Jvm.Cond.sameMethod "java/lang/Throwable" "java/lang/Throwable" "fillInStackTrace" "(I)Ljava/lang/Throwable;") ∈ lw_all := lw_g (lw_at lw_m11 52 rfl) rfl
theorem q2511 : (Jvm.Cond.sameMethod "java/lang/AbstractStringBuilder" "java/lang/AbstractStringBuilder" "length" "()I") ∈ lw_all := lw_g (lw_at lw_m11 53 rfl) rfl
theorem q2512 : (Jvm.Cond.sameMethod "java/lang/AbstractStringBuilder" "java/lang/AbstractStringBuilder" "setLength" "(I)V") ∈ lw_all := lw_g (lw_at lw_m11 54 rfl) rfl
theorem q2513 : (Jvm.Cond.sameMethod "java/lang/AbstractStringBuilder" "java/lang/AbstractStringBuilder" "append" "(Ljava/lang/String;)Ljava/lang/AbstractStringBuilder;") ∈ lw_all := lw_g (lw_at lw_m11 55 rfl) rfl
theorem q2514 : (Jvm.Cond.sameMethod "java/lang/AbstractStringBuilder" "java/lang/AbstractStringBuilder" "appendNull" "()Ljava/lang/AbstractStringBuilder;") ∈ lw_all := lw_g (lw_at lw_m11 56 rfl) rfl
theorem q2515 : (Jvm.Cond.sameMethod "java/lang/AbstractStringBuilder" "java/lang/AbstractStringBuilder" "ensureCapacityInternal" "(I)V") ∈ lw_all := lw_g (lw_at lw_m11 57 rfl) rfl
theorem q2516 : (Jvm.Cond.sameMethod "java/lang/AbstractStringBuilder" "java/lang/AbstractStringBuilder" "newCapacity" "(I)I") ∈ lw_all := lw_g (lw_at lw_m11 58 rfl) rfl
theorem q2517 : (Jvm.Cond.sameMethod "java/lang/AbstractStringBuilder" "java/lang/AbstractStringBuilder" "putStringAt" "(ILjava/lang/String;)V") ∈ lw_all := lw_g (lw_at lw_m11 59 rfl) rfl
theorem q2518 : (Jvm.Cond.sameMethod "java/lang/AbstractStringBuilder" "java/lang/AbstractStringBuilder" "inflateIfNeededFor" "(Ljava/lang/String;)V") ∈ lw_all := lw_g (lw_at lw_m11 60 rfl) rfl
theorem q2519 : (Jvm.Cond.sameMethod "java/lang/AbstractStringBuilder" "java/lang/AbstractStringBuilder" "inflate" "()V") ∈ lw_all := lw_g (lw_at lw_m11 61 rfl) rfl
theorem q2520 : (Jvm.Cond.sameMethod "java/lang/AbstractStringBuilder" "java/lang/AbstractStringBuilder" "append" "(I)Ljava/lang/AbstractStringBuilder;") ∈ lw_all := lw_g (lw_at lw_m11 62 rfl) rfl
theorem q2521 : (Jvm.Cond.selects "java/lang/StringBuilder" ({ cls := "java/lang/AbstractStringBuilder", name := "length", desc := "()I" } : Jvm.MethodName) ({ cls := "java/lang/StringBuilder", name := "length", desc := "()I" } : Jvm.MethodName)) ∈ lw_all := lw_g (lw_at lw_m11 63 rfl) rfl
theorem q2522 : (Jvm.Cond.sameMethod "java/lang/AbstractStringBuilder" "java/lang/AbstractStringBuilder" "charAt" "(I)C") ∈ lw_all := lw_g (lw_at lw_m11 64 rfl) rfl
theorem q2523 : (Jvm.Cond.sameMethod "java/lang/AbstractStringBuilder" "java/lang/AbstractStringBuilder" "compareTo" "(Ljava/lang/AbstractStringBuilder;)I") ∈ lw_all := lw_g (lw_at lw_m11 65 rfl) rfl
theorem q2524 : (Jvm.Cond.sameMethod "java/util/AbstractMap" "java/util/AbstractMap" "putAll" "(Ljava/util/Map;)V") ∈ lw_all := lw_g (lw_at lw_m11 66 rfl) rfl
theorem q2525 : (Jvm.Cond.selects "java/util/TreeSet" ({ cls := "java/util/TreeSet", name := "iterator", desc := "()Ljava/util/Iterator;" } : Jvm.MethodName) ({ cls := "java/util/TreeSet", name := "iterator", desc := "()Ljava/util/Iterator;" } : Jvm.MethodName)) ∈ lw_all := lw_g (lw_at lw_m11 67 rfl) rfl
theorem q2526 : (Jvm.Cond.selects "java/util/TreeMap" ({ cls := "java/util/TreeMap", name := "put", desc := "(Ljava/lang/Object;Ljava/lang/Object;)Ljava/lang/Object;" } : Jvm.MethodName) ({ cls := "java/util/TreeMap", name := "put", desc := "(Ljava/lang/Object;Ljava/lang/Object;)Ljava/lang/Object;" } : Jvm.MethodName)) ∈ lw_all := lw_g (lw_at lw_m11 68 rfl) rfl
theorem q2527 : (Jvm.Cond.selects "java/util/PriorityQueue" ({ cls := "java/util/PriorityQueue", name := "add", desc := "(Ljava/lang/Object;)Z" } : Jvm.MethodName) ({ cls := "java/util/PriorityQueue", name := "add", desc := "(Ljava/lang/Object;)Z" } : Jvm.MethodName)) ∈ lw_all := lw_g (lw_at lw_m11 69 rfl) rfl
theorem q2528 : (Jvm.Cond.sameMethod "java/lang/AbstractStringBuilder" "java/lang/AbstractStringBuilder" "append" "(C)Ljava/lang/AbstractStringBuilder;") ∈ lw_all := lw_g (lw_at lw_m11 70 rfl) rfl
theorem q2529 : (Jvm.Cond.selects "java/util/ArrayList" ({ cls := "java/util/ArrayList", name := "iterator", desc := "()Ljava/util/Iterator;" } : Jvm.MethodName) ({ cls := "java/util/ArrayList", name := "iterator", desc := "()Ljava/util/Iterator;" } : Jvm.MethodName)) ∈ lw_all := lw_g (lw_at lw_m11 71 rfl) rfl
theorem q2530 : (Jvm.Cond.initialized "java/lang/Object") ∈ lw_all := lw_g (lw_at lw_m11 72 rfl) rfl
theorem q2531 : (Jvm.Cond.castable "java/lang/ArrayIndexOutOfBoundsException" "java/lang/IndexOutOfBoundsException") ∈ lw_tbl := lw_at lw_m11 73 rfl
theorem q2532 : (Jvm.Cond.castable "java/lang/StringIndexOutOfBoundsException" "java/lang/IndexOutOfBoundsException") ∈ lw_tbl := lw_at lw_m11 74 rfl
theorem q2533 : (Jvm.Cond.selects "java/lang/Object" ({ cls := "java/lang/Object", name := "equals", desc := "(Ljava/lang/Object;)Z" } : Jvm.MethodName) ({ cls := "java/lang/Object", name := "equals", desc := "(Ljava/lang/Object;)Z" } : Jvm.MethodName)) ∈ lw_all := lw_g (lw_at lw_m11 75 rfl) rfl
theorem q2534 : (Jvm.Cond.castable "RiddlePost" "java/lang/Object") ∈ lw_tbl := lw_at lw_m11 76 rfl
theorem q2535 : (Jvm.Cond.castable "RiddlePost$Post" "java/lang/Object") ∈ lw_tbl := lw_at lw_m11 77 rfl
theorem q2536 : (Jvm.Cond.castable "RiddlePost$Zones" "java/lang/Object") ∈ lw_tbl := lw_at lw_m11 78 rfl
theorem q2537 : (Jvm.Cond.castable "RiddlePost$Memory" "java/lang/Object") ∈ lw_tbl := lw_at lw_m11 79 rfl
theorem q2538 : (Jvm.Cond.castable "java/util/TreeMap" "java/lang/Object") ∈ lw_tbl := lw_at lw_m11 80 rfl
theorem q2539 : (Jvm.Cond.castable "java/util/PriorityQueue" "java/lang/Object") ∈ lw_tbl := lw_at lw_m11 81 rfl
theorem q2540 : (Jvm.Cond.castable "RiddlePost$Sooner" "java/lang/Object") ∈ lw_tbl := lw_at lw_m11 82 rfl
theorem q2541 : (Jvm.Cond.castable "java/lang/IllegalArgumentException" "java/lang/Object") ∈ lw_tbl := lw_at lw_m11 83 rfl
theorem q2542 : (Jvm.Cond.castable "java/util/ArrayList" "java/lang/Object") ∈ lw_tbl := lw_at lw_m11 84 rfl
theorem q2543 : (Jvm.Cond.castable "java/lang/StringBuilder" "java/lang/Object") ∈ lw_tbl := lw_at lw_m11 85 rfl
theorem q2544 : (Jvm.Cond.castable "RiddlePostModel" "java/lang/Object") ∈ lw_tbl := lw_at lw_m11 86 rfl
theorem q2545 : (Jvm.Cond.castable "java/lang/ArrayIndexOutOfBoundsException" "java/lang/Object") ∈ lw_tbl := lw_at lw_m11 87 rfl
theorem q2546 : (Jvm.Cond.castable "java/lang/IndexOutOfBoundsException" "java/lang/Object") ∈ lw_tbl := lw_at lw_m11 88 rfl
theorem q2547 : (Jvm.Cond.castable "java/util/TreeMap$EntrySet" "java/lang/Object") ∈ lw_tbl := lw_at lw_m11 89 rfl
theorem q2548 : (Jvm.Cond.castable "java/util/TreeMap$EntryIterator" "java/lang/Object") ∈ lw_tbl := lw_at lw_m11 90 rfl
theorem q2549 : (Jvm.Cond.castable "java/util/TreeMap$Entry" "java/lang/Object") ∈ lw_tbl := lw_at lw_m11 91 rfl
theorem q2550 : (Jvm.Cond.castable "jdk/internal/misc/Unsafe" "java/lang/Object") ∈ lw_tbl := lw_at lw_m11 92 rfl
theorem q2551 : (Jvm.Cond.castable "java/util/ArrayList$Itr" "java/lang/Object") ∈ lw_tbl := lw_at lw_m11 93 rfl
theorem q2552 : (Jvm.Cond.castable "java/util/PriorityQueue$Itr" "java/lang/Object") ∈ lw_tbl := lw_at lw_m11 94 rfl
theorem q2553 : (Jvm.Cond.castable "java/lang/IllegalStateException" "java/lang/Object") ∈ lw_tbl := lw_at lw_m11 95 rfl
theorem q2554 : (Jvm.Cond.castable "RiddlePost$Topic" "java/lang/Object") ∈ lw_tbl := lw_at lw_m11 96 rfl
theorem q2555 : (Jvm.Cond.castable "java/util/TreeSet" "java/lang/Object") ∈ lw_tbl := lw_at lw_m11 97 rfl
theorem q2556 : (Jvm.Cond.castable "java/lang/Integer" "java/lang/Object") ∈ lw_tbl := lw_at lw_m11 98 rfl
theorem q2557 : (Jvm.Cond.castable "java/util/TreeMap$KeySet" "java/lang/Object") ∈ lw_tbl := lw_at lw_m11 99 rfl
theorem q2558 : (Jvm.Cond.castable "java/util/TreeMap$KeyIterator" "java/lang/Object") ∈ lw_tbl := lw_at lw_m11 100 rfl
theorem q2559 : (Jvm.Cond.castable "RiddlePost$Note" "java/lang/Object") ∈ lw_tbl := lw_at lw_m11 101 rfl
theorem q2560 : (Jvm.Cond.castable "java/lang/StringIndexOutOfBoundsException" "java/lang/Object") ∈ lw_tbl := lw_at lw_m11 102 rfl
theorem q2561 : (Jvm.Cond.castable "java/lang/String" "java/lang/Object") ∈ lw_tbl := lw_at lw_m11 103 rfl
theorem q2562 : (Jvm.Cond.castable "RiddlePost$Reader" "java/lang/Object") ∈ lw_tbl := lw_at lw_m11 104 rfl
theorem q2563 : (Jvm.Cond.castable "RiddlePost$Act" "java/lang/Object") ∈ lw_tbl := lw_at lw_m11 105 rfl
theorem q2564 : (Jvm.Cond.castable "java/lang/Throwable" "java/lang/Object") ∈ lw_tbl := lw_at lw_m11 106 rfl
theorem q2565 : (Jvm.Cond.sameMethod "[Ljava/lang/Object;" "java/lang/Object" "getClass" "()Ljava/lang/Class;") ∈ lw_all := lw_g (lw_at lw_m11 107 rfl) rfl
theorem q2566 : (Jvm.Cond.selects "[Ljava/lang/Object;" ({ cls := "java/lang/Object", name := "getClass", desc := "()Ljava/lang/Class;" } : Jvm.MethodName) ({ cls := "java/lang/Object", name := "getClass", desc := "()Ljava/lang/Class;" } : Jvm.MethodName)) ∈ lw_all := lw_g (lw_at lw_m11 108 rfl) rfl
theorem q2567 : (Jvm.Cond.declares ({ cls := "java/lang/Object", name := "getClass", desc := "()Ljava/lang/Class;" } : Jvm.MethodName)) ∈ lw_tbl := lw_at lw_m11 109 rfl
theorem q2568 : (Jvm.Cond.castable "[I" "java/lang/Object") ∈ lw_tbl := lw_at lw_m11 110 rfl
theorem q2569 : (Jvm.Cond.castable "[Ljava/lang/Object;" "java/lang/Object") ∈ lw_tbl := lw_at lw_m11 111 rfl
theorem q2570 : (Jvm.Cond.castable "[B" "java/lang/Object") ∈ lw_tbl := lw_at lw_m11 112 rfl
theorem q2571 : (Jvm.Cond.castable "[J" "java/lang/Object") ∈ lw_tbl := lw_at lw_m11 113 rfl
theorem q2572 : (Jvm.Cond.fieldLink "java/util/ArrayDeque" (3 : Nat) "java/util/ArrayDeque" "elements" "[Ljava/lang/Object;") ∈ lw_all := lw_g (lw_at lw_m11 114 rfl) rfl
theorem q2573 : (Jvm.Cond.fieldLink "java/util/ArrayDeque" (24 : Nat) "java/util/ArrayDeque" "head" "I") ∈ lw_all := lw_g (lw_at lw_m11 115 rfl) rfl
theorem q2574 : (Jvm.Cond.fieldLink "java/util/ArrayDeque" (20 : Nat) "java/util/ArrayDeque" "tail" "I") ∈ lw_all := lw_g (lw_at lw_m11 116 rfl) rfl
theorem in_J1 : ∀ w ∈ wsJ10, w ∈ lw_all := lw_in wsJ10 [194, 196, 180, 182, 184, 186, 188, 190, 192] (by decide +kernel) (by decide +kernel)
theorem in_J10 : ∀ w ∈ wsJ100, w ∈ lw_all := lw_in wsJ100 [374, 370, 372] (by decide +kernel) (by decide +kernel)
theorem in_J12 : ∀ w ∈ wsJ120, w ∈ lw_all := lw_in wsJ120 [400, 402, 404, 406] (by decide +kernel) (by decide +kernel)
theorem in_J13 : ∀ w ∈ wsJ130, w ∈ lw_all := lw_in wsJ130 [705, 707, 709, 711] (by decide +kernel) (by decide +kernel)
theorem in_J15 : ∀ w ∈ wsJ150, w ∈ lw_all := lw_in wsJ150 [935, 936, 937, 938, 939, 944] (by decide +kernel) (by decide +kernel)
theorem in_J16 : ∀ w ∈ wsJ160, w ∈ lw_all := lw_in wsJ160 [743, 744, 745, 746, 747, 758] (by decide +kernel) (by decide +kernel)
theorem in_J21 : ∀ w ∈ wsJ210, w ∈ lw_all := lw_in wsJ210 [1301] (by decide +kernel) (by decide +kernel)
theorem in_J23 : ∀ w ∈ wsJ230, w ∈ lw_all := lw_in wsJ230 [1331, 1333, 1335, 1337] (by decide +kernel) (by decide +kernel)
theorem in_J24 : ∀ w ∈ wsJ240, w ∈ lw_all := lw_in wsJ240 [1358, 1359, 1360, 1361] (by decide +kernel) (by decide +kernel)
theorem in_J25 : ∀ w ∈ wsJ250, w ∈ lw_all := lw_in wsJ250 [1390] (by decide +kernel) (by decide +kernel)
theorem in_J27 : ∀ w ∈ wsJ270, w ∈ lw_all := lw_in wsJ270 [1773] (by decide +kernel) (by decide +kernel)
theorem in_J29 : ∀ w ∈ wsJ290, w ∈ lw_all := lw_in wsJ290 [1512, 1514, 1516, 1518, 1520, 1522] (by decide +kernel) (by decide +kernel)
theorem in_J34 : ∀ w ∈ wsJ340, w ∈ lw_all := lw_in wsJ340 [1642, 1644, 1646, 1648] (by decide +kernel) (by decide +kernel)
theorem in_J35 : ∀ w ∈ wsJ350, w ∈ lw_all := lw_in wsJ350 [1669, 1671, 1673, 1675, 1677, 1679] (by decide +kernel) (by decide +kernel)
theorem in_J37 : ∀ w ∈ wsJ370, w ∈ lw_all := lw_in wsJ370 [1945, 1946, 1947, 1948, 1949, 1954] (by decide +kernel) (by decide +kernel)
theorem in_J38 : ∀ w ∈ wsJ380, w ∈ lw_all := lw_in wsJ380 [1754] (by decide +kernel) (by decide +kernel)
theorem in_J39 : ∀ w ∈ wsJ390, w ∈ lw_all := lw_in wsJ390 [718, 719, 720, 721, 722, 723] (by decide +kernel) (by decide +kernel)
theorem in_J4 : ∀ w ∈ wsJ40, w ∈ lw_all := lw_in wsJ40 [296, 298, 300, 302] (by decide +kernel) (by decide +kernel)
theorem in_J5 : ∀ w ∈ wsJ50, w ∈ lw_all := lw_in wsJ50 [233, 235, 237, 239, 241] (by decide +kernel) (by decide +kernel)
theorem in_J8 : ∀ w ∈ wsJ80, w ∈ lw_all := lw_in wsJ80 [232, 234, 236, 238, 240, 283] (by decide +kernel) (by decide +kernel)
theorem in_X1 : ∀ w ∈ wsX10, w ∈ lw_all := lw_in wsX10 [413, 415, 417] (by decide +kernel) (by decide +kernel)
theorem in_X10 : ∀ w ∈ wsX100, w ∈ lw_all := lw_in wsX100 [839, 841] (by decide +kernel) (by decide +kernel)
theorem in_X2 : ∀ w ∈ wsX20, w ∈ lw_all := lw_in wsX20 [338, 340, 342, 344, 346, 348] (by decide +kernel) (by decide +kernel)
theorem in_X3 : ∀ w ∈ wsX30, w ∈ lw_all := lw_in wsX30 [144, 146, 148, 150, 152, 154] (by decide +kernel) (by decide +kernel)
theorem in_X4 : ∀ w ∈ wsX40, w ∈ lw_all := lw_in wsX40 [313, 315, 317, 319] (by decide +kernel) (by decide +kernel)
theorem in_X6 : ∀ w ∈ wsX60, w ∈ lw_all := lw_in wsX60 [2210, 2212, 2214, 2216, 2218, 2220, 2222, 2224, 2226, 2228, 2230] (by decide +kernel) (by decide +kernel)
theorem in_X7 : ∀ w ∈ wsX70, w ∈ lw_all := lw_in wsX70 [958, 960] (by decide +kernel) (by decide +kernel)
theorem in_X8 : ∀ w ∈ wsX80, w ∈ lw_all := lw_in wsX80 [1816, 1818, 1820, 1822] (by decide +kernel) (by decide +kernel)
theorem in_X9 : ∀ w ∈ wsX90, w ∈ lw_all := lw_in wsX90 [781, 783, 785, 787] (by decide +kernel) (by decide +kernel)
