/-! the classes by tag, array kinds, interface rows, statics -/
set_option maxRecDepth 100000
def TZ : u_T := fun _ => ("", "", "", false)
def vcl : List vw_C := [(RX1, TX1, 3), (RX2, TX2, 6), (RX3, TX3, 6), (RX4, TX4, 4), (RX5, TZ, 0), (RX6, TX6, 11), (RX7, TX7, 2), (RX8, TX8, 4), (RX9, TX9, 4), (RX10, TX10, 2), (RJ1, TJ1, 9), (RJ4, TJ4, 4), (RJ10, TJ10, 3), (RJ12, TJ12, 4), (RJ21, TJ21, 1), (RJ23, TJ23, 4), (RJ24, TJ24, 4), (RJ25, TJ25, 1), (RJ29, TJ29, 6), (RJ34, TJ34, 4), (RJ35, TJ35, 6), (RJ38, TJ38, 1), (RJ27, TJ27, 1)]
def vct (c : Nat) : Nat → FieldType := match c with
  | 0 => tyX1
  | 1 => tyX2
  | 2 => tyX3
  | 3 => tyX4
  | 5 => tyX6
  | 6 => tyX7
  | 7 => tyX8
  | 8 => tyX9
  | 9 => tyX10
  | 10 => tyJ1
  | 11 => tyJ4
  | 12 => tyJ10
  | 13 => tyJ12
  | 14 => tyJ21
  | 15 => tyJ23
  | 16 => tyJ24
  | 17 => tyJ25
  | 18 => tyJ29
  | 19 => tyJ34
  | 20 => tyJ35
  | 21 => tyJ38
  | 22 => tyJ27
  | _ => fun _ => .int
theorem in_TZ : ∀ w ∈ u_ws RX5 TZ 0, w ∈ lw_all := fun w h => by cases h
theorem vcl_in : ∀ (c : Nat) (q : vw_C), vcl[c]? = some q → ∀ w ∈ u_ws q.1 q.2.1 q.2.2, w ∈ lw_all := by
  intro c q hq
  match c, hq with
  | 0, hq => cases hq; exact in_X1
  | 1, hq => cases hq; exact in_X2
  | 2, hq => cases hq; exact in_X3
  | 3, hq => cases hq; exact in_X4
  | 4, hq => cases hq; exact in_TZ
  | 5, hq => cases hq; exact in_X6
  | 6, hq => cases hq; exact in_X7
  | 7, hq => cases hq; exact in_X8
  | 8, hq => cases hq; exact in_X9
  | 9, hq => cases hq; exact in_X10
  | 10, hq => cases hq; exact in_J1
  | 11, hq => cases hq; exact in_J4
  | 12, hq => cases hq; exact in_J10
  | 13, hq => cases hq; exact in_J12
  | 14, hq => cases hq; exact in_J21
  | 15, hq => cases hq; exact in_J23
  | 16, hq => cases hq; exact in_J24
  | 17, hq => cases hq; exact in_J25
  | 18, hq => cases hq; exact in_J29
  | 19, hq => cases hq; exact in_J34
  | 20, hq => cases hq; exact in_J35
  | 21, hq => cases hq; exact in_J38
  | 22, hq => cases hq; exact in_J27
  | c + 23, hq => simp [vcl] at hq
theorem vcl_ty : ∀ (c : Nat) (q : vw_C), vcl[c]? = some q → ∀ k, k < q.2.2 → parseFieldDescriptor (q.2.1 k).2.2.1 = some (vct c k) := by
  intro c q hq
  match c, hq with
  | 0, hq => cases hq; exact tyX1_ok
  | 1, hq => cases hq; exact tyX2_ok
  | 2, hq => cases hq; exact tyX3_ok
  | 3, hq => cases hq; exact tyX4_ok
  | 4, hq => cases hq; exact fun k hk => absurd hk (Nat.not_lt_zero k)
  | 5, hq => cases hq; exact tyX6_ok
  | 6, hq => cases hq; exact tyX7_ok
  | 7, hq => cases hq; exact tyX8_ok
  | 8, hq => cases hq; exact tyX9_ok
  | 9, hq => cases hq; exact tyX10_ok
  | 10, hq => cases hq; exact tyJ1_ok
  | 11, hq => cases hq; exact tyJ4_ok
  | 12, hq => cases hq; exact tyJ10_ok
  | 13, hq => cases hq; exact tyJ12_ok
  | 14, hq => cases hq; exact tyJ21_ok
  | 15, hq => cases hq; exact tyJ23_ok
  | 16, hq => cases hq; exact tyJ24_ok
  | 17, hq => cases hq; exact tyJ25_ok
  | 18, hq => cases hq; exact tyJ29_ok
  | 19, hq => cases hq; exact tyJ34_ok
  | 20, hq => cases hq; exact tyJ35_ok
  | 21, hq => cases hq; exact tyJ38_ok
  | 22, hq => cases hq; exact tyJ27_ok
  | c + 23, hq => simp [vcl] at hq
theorem vcl_nm : ∀ (c : Nat) (q : vw_C), vcl[c]? = some q → ∀ a, a < q.2.2 → ∀ b, b < q.2.2 → a ≠ b → (q.2.1 a).2.1 ≠ (q.2.1 b).2.1 := by
  intro c q hq
  match c, hq with
  | 0, hq => cases hq; exact nmX1
  | 1, hq => cases hq; exact nmX2
  | 2, hq => cases hq; exact nmX3
  | 3, hq => cases hq; exact nmX4
  | 4, hq => cases hq; exact fun a ha => absurd ha (Nat.not_lt_zero a)
  | 5, hq => cases hq; exact nmX6
  | 6, hq => cases hq; exact nmX7
  | 7, hq => cases hq; exact nmX8
  | 8, hq => cases hq; exact nmX9
  | 9, hq => cases hq; exact nmX10
  | 10, hq => cases hq; exact nmJ1
  | 11, hq => cases hq; exact nmJ4
  | 12, hq => cases hq; exact nmJ10
  | 13, hq => cases hq; exact nmJ12
  | 14, hq => cases hq; exact nmJ21
  | 15, hq => cases hq; exact nmJ23
  | 16, hq => cases hq; exact nmJ24
  | 17, hq => cases hq; exact nmJ25
  | 18, hq => cases hq; exact nmJ29
  | 19, hq => cases hq; exact nmJ34
  | 20, hq => cases hq; exact nmJ35
  | 21, hq => cases hq; exact nmJ38
  | 22, hq => cases hq; exact nmJ27
  | c + 23, hq => simp [vcl] at hq
def vty (t : Nat) : Option FieldType := match t with
  | 100 => some .int
  | 101 => some .long
  | 102 => some .byte
  | 103 => some (.object "java/lang/Object")
  | 104 => some (.object "java/lang/Integer")
  | 105 => some .int
  | 106 => some (.object "java/lang/Object")
  | _ => none
/-- the calls through interfaces: the receiver's class, the interface's method, the method that runs -/
def vfw : List (String × MethodName × MethodName) := [("RiddlePost$Topic", ⟨"java/lang/Comparable", "compareTo", "(Ljava/lang/Object;)I"⟩, ⟨"RiddlePost$Topic", "compareTo", "(Ljava/lang/Object;)I"⟩),
  ("java/lang/Integer", ⟨"java/lang/Comparable", "compareTo", "(Ljava/lang/Object;)I"⟩, ⟨"java/lang/Integer", "compareTo", "(Ljava/lang/Object;)I"⟩),
  ("RiddlePost$Sooner", ⟨"java/util/Comparator", "compare", "(Ljava/lang/Object;Ljava/lang/Object;)I"⟩, ⟨"RiddlePost$Sooner", "compare", "(Ljava/lang/Object;Ljava/lang/Object;)I"⟩),
  ("java/util/TreeMap", ⟨"java/util/Map", "size", "()I"⟩, ⟨"java/util/TreeMap", "size", "()I"⟩),
  ("java/util/TreeMap", ⟨"java/util/SortedMap", "comparator", "()Ljava/util/Comparator;"⟩, ⟨"java/util/TreeMap", "comparator", "()Ljava/util/Comparator;"⟩),
  ("java/util/TreeMap", ⟨"java/util/Map", "entrySet", "()Ljava/util/Set;"⟩, ⟨"java/util/TreeMap", "entrySet", "()Ljava/util/Set;"⟩),
  ("java/util/TreeMap$EntrySet", ⟨"java/util/Set", "iterator", "()Ljava/util/Iterator;"⟩, ⟨"java/util/TreeMap$EntrySet", "iterator", "()Ljava/util/Iterator;"⟩),
  ("java/util/TreeMap", ⟨"java/util/NavigableMap", "navigableKeySet", "()Ljava/util/NavigableSet;"⟩, ⟨"java/util/TreeMap", "navigableKeySet", "()Ljava/util/NavigableSet;"⟩),
  ("java/util/TreeMap$KeySet", ⟨"java/util/NavigableSet", "iterator", "()Ljava/util/Iterator;"⟩, ⟨"java/util/TreeMap$KeySet", "iterator", "()Ljava/util/Iterator;"⟩),
  ("java/util/ArrayList$Itr", ⟨"java/util/Iterator", "next", "()Ljava/lang/Object;"⟩, ⟨"java/util/ArrayList$Itr", "next", "()Ljava/lang/Object;"⟩),
  ("java/util/PriorityQueue$Itr", ⟨"java/util/Iterator", "next", "()Ljava/lang/Object;"⟩, ⟨"java/util/PriorityQueue$Itr", "next", "()Ljava/lang/Object;"⟩),
  ("java/util/TreeMap$EntryIterator", ⟨"java/util/Iterator", "next", "()Ljava/lang/Object;"⟩, ⟨"java/util/TreeMap$EntryIterator", "next", "()Ljava/lang/Object;"⟩),
  ("java/util/TreeMap$KeyIterator", ⟨"java/util/Iterator", "next", "()Ljava/lang/Object;"⟩, ⟨"java/util/TreeMap$KeyIterator", "next", "()Ljava/lang/Object;"⟩),
  ("java/util/ArrayList$Itr", ⟨"java/util/Iterator", "hasNext", "()Z"⟩, ⟨"java/util/ArrayList$Itr", "hasNext", "()Z"⟩),
  ("java/util/PriorityQueue$Itr", ⟨"java/util/Iterator", "hasNext", "()Z"⟩, ⟨"java/util/PriorityQueue$Itr", "hasNext", "()Z"⟩),
  ("java/util/TreeMap$EntryIterator", ⟨"java/util/Iterator", "hasNext", "()Z"⟩, ⟨"java/util/TreeMap$PrivateEntryIterator", "hasNext", "()Z"⟩),
  ("java/util/TreeMap$KeyIterator", ⟨"java/util/Iterator", "hasNext", "()Z"⟩, ⟨"java/util/TreeMap$PrivateEntryIterator", "hasNext", "()Z"⟩),
  ("java/util/TreeMap$Entry", ⟨"java/util/Map$Entry", "getKey", "()Ljava/lang/Object;"⟩, ⟨"java/util/TreeMap$Entry", "getKey", "()Ljava/lang/Object;"⟩),
  ("java/util/TreeMap$Entry", ⟨"java/util/Map$Entry", "getValue", "()Ljava/lang/Object;"⟩, ⟨"java/util/TreeMap$Entry", "getValue", "()Ljava/lang/Object;"⟩),
  ("java/util/PriorityQueue", ⟨"java/util/Collection", "iterator", "()Ljava/util/Iterator;"⟩, ⟨"java/util/PriorityQueue", "iterator", "()Ljava/util/Iterator;"⟩)]
theorem vfw_no : ∀ z ∈ vfw, z.2.1.cls ≠ "java/lang/invoke/MethodHandle" ∧ z.2.1.cls ≠ "java/lang/invoke/VarHandle" := by decide +kernel
/-- statics read: class, name, descriptor, what it holds (by the places of some cells) -/
def vst : List (String × String × String × ((Nat → Nat) → (Int32 ⊕ Option Nat) ⊕ (Int64 ⊕ UInt64))) := [
  ("java/lang/Integer$IntegerCache", "high", "I", fun _ => .inl (.inl 127)),
  ("java/lang/Integer$IntegerCache", "cache", "[Ljava/lang/Integer;", fun S => .inl (.inr (some (S 256)))),
  ("java/util/TreeSet", "PRESENT", "Ljava/lang/Object;", fun S => .inl (.inr (some (S 257)))),
  ("java/util/ArrayList", "DEFAULTCAPACITY_EMPTY_ELEMENTDATA", "[Ljava/lang/Object;", fun S => .inl (.inr (some (S 258)))),
  ("java/lang/String", "COMPACT_STRINGS", "Z", fun _ => .inl (.inl 1))]
/-- pairs of classes that don't cast -/
def vnc : List (String × String) := [("java/lang/IllegalArgumentException", "java/lang/IndexOutOfBoundsException"), ("java/lang/IllegalStateException", "java/lang/IndexOutOfBoundsException"), ("java/lang/IllegalStateException", "java/lang/IllegalArgumentException")]
