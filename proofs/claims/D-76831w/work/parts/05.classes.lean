/-! CLASSES by number, their fields, arrays by tag (printed by gen/classes.py) -/
set_option maxRecDepth 100000
def hv_ft : List (List (String × String × String × Bool)) := [
  [("HallOfClaims", "sorts", "[LHallOfClaims$Plain;", true), ("HallOfClaims", "hall", "LHallOfClaims$Hall;", true), ("HallOfClaims", "imaged", "LHallOfClaims$Hall;", true), ("HallOfClaims", "mind", "LHallOfClaims$Hall;", true), ("HallOfClaims", "frame", "LHallOfClaims$Frame;", true), ("HallOfClaims", "labels", "LHallOfClaims$Labels;", true), ("HallOfClaims", "shelf", "LHallOfClaims$Shelf;", true), ("HallOfClaims", "game", "LHallOfClaims$Game;", true), ("HallOfClaims", "hasImage", "Z", false), ("HallOfClaims", "row", "[B", true), ("HallOfClaims", "rowMany", "I", false), ("HallOfClaims", "letters", "[C", true), ("HallOfClaims", "letterMany", "I", false), ("HallOfClaims", "refused", "[I", true), ("HallOfClaims", "tallies", "[LHallOfClaims$Tally;", true), ("HallOfClaims", "speaking", "Ljava/util/TreeMap;", true)],
  [],
  [],
  [],
  [],
  [],
  [],
  [("HallOfClaims$Hall", "came", "I", false), ("HallOfClaims$Hall", "heard", "I", false), ("HallOfClaims$Hall", "mode", "I", false), ("HallOfClaims$Hall", "sorts", "[LHallOfClaims$Plain;", true), ("HallOfClaims$Hall", "figures", "[I", true), ("HallOfClaims$Hall", "speakers", "[I", true), ("HallOfClaims$Hall", "attacks", "[I", true), ("HallOfClaims$Hall", "supports", "[I", true)],
  [("HallOfClaims$Frame", "h", "LHallOfClaims$Hall;", false), ("HallOfClaims$Frame", "heard", "I", false), ("HallOfClaims$Frame", "hit", "[I", true), ("HallOfClaims$Frame", "led", "[I", true), ("HallOfClaims$Frame", "defeats", "[I", true), ("HallOfClaims$Frame", "defeaters", "[I", true), ("HallOfClaims$Frame", "waiting", "[LHallOfClaims$Waiting;", true), ("HallOfClaims$Frame", "queue", "Ljava/util/PriorityQueue;", true), ("HallOfClaims$Frame", "order", "[I", true), ("HallOfClaims$Frame", "inMany", "I", false), ("HallOfClaims$Frame", "in", "I", false), ("HallOfClaims$Frame", "out", "I", false)],
  [("java/util/PriorityQueue", "queue", "[Ljava/lang/Object;", false), ("java/util/PriorityQueue", "size", "I", false), ("java/util/PriorityQueue", "comparator", "Ljava/util/Comparator;", true), ("java/util/PriorityQueue", "modCount", "I", false)],
  [("HallOfClaims$Waiting", "claim", "I", true), ("HallOfClaims$Waiting", "figure", "I", false)],
  [("HallOfClaims$Labels", "f", "LHallOfClaims$Frame;", true), ("HallOfClaims$Labels", "label", "[I", true), ("HallOfClaims$Labels", "found", "[I", true), ("HallOfClaims$Labels", "many", "I", false)],
  [("HallOfClaims$Shelf", "ready", "[LHallOfClaims$Found;", true), ("HallOfClaims$Shelf", "sets", "Ljava/util/TreeSet;", true)],
  [("java/util/TreeSet", "m", "Ljava/util/NavigableMap;", false)],
  [],
  [("java/util/AbstractMap", "keySet", "Ljava/util/Set;", false), ("java/util/AbstractMap", "values", "Ljava/util/Collection;", false), ("java/util/TreeMap", "comparator", "Ljava/util/Comparator;", true), ("java/util/TreeMap", "root", "Ljava/util/TreeMap$Entry;", false), ("java/util/TreeMap", "size", "I", false), ("java/util/TreeMap", "modCount", "I", false), ("java/util/TreeMap", "entrySet", "Ljava/util/TreeMap$EntrySet;", false), ("java/util/TreeMap", "navigableKeySet", "Ljava/util/TreeMap$KeySet;", false), ("java/util/TreeMap", "descendingMap", "Ljava/util/NavigableMap;", false)],
  [("HallOfClaims$Found", "bits", "I", false)],
  [("HallOfClaims$Game", "f", "LHallOfClaims$Frame;", false), ("HallOfClaims$Game", "depth", "[I", true), ("HallOfClaims$Game", "trees", "[J", true)],
  [("HallOfClaims$Tally", "many", "I", false), ("HallOfClaims$Tally", "in", "I", false), ("HallOfClaims$Tally", "figure", "I", false)],
  [("java/lang/Throwable", "backtrace", "Ljava/lang/Object;", false), ("HallOfClaims$Refused", "number", "I", true)],
  [("HallOfClaims$Reader", "size", "I", true), ("HallOfClaims$Reader", "at", "I", false), ("HallOfClaims$Reader", "this$0", "LHallOfClaims;", true)],
  [("java/lang/Throwable", "backtrace", "Ljava/lang/Object;", false), ("HallOfClaims$Fault", "told", "I", true)],
  [("HallOfClaims$Told", "start", "I", true), ("HallOfClaims$ClaimTold", "kind", "I", true), ("HallOfClaims$ClaimTold", "figure", "I", true), ("HallOfClaims$ClaimTold", "speaker", "I", true), ("HallOfClaims$ClaimTold", "this$0", "LHallOfClaims;", true)],
  [("HallOfClaims$Told", "start", "I", true), ("HallOfClaims$ModeTold", "mode", "I", true)],
  [("HallOfClaims$Told", "start", "I", true), ("HallOfClaims$KindTold", "claim", "I", true), ("HallOfClaims$KindTold", "kind", "I", true), ("HallOfClaims$KindTold", "figure", "I", true), ("HallOfClaims$KindTold", "this$0", "LHallOfClaims;", true)],
  [("HallOfClaims$Told", "start", "I", true), ("HallOfClaims$TurnTold", "claim", "I", true)],
  [("HallOfClaims$Told", "start", "I", true), ("HallOfClaims$RowTold", "claims", "[I", true), ("HallOfClaims$RowTold", "supports", "[Z", true), ("HallOfClaims$RowTold", "many", "I", false)],
  [("java/util/TreeMap$Entry", "key", "Ljava/lang/Object;", false), ("java/util/TreeMap$Entry", "value", "Ljava/lang/Object;", false), ("java/util/TreeMap$Entry", "left", "Ljava/util/TreeMap$Entry;", false), ("java/util/TreeMap$Entry", "right", "Ljava/util/TreeMap$Entry;", false), ("java/util/TreeMap$Entry", "parent", "Ljava/util/TreeMap$Entry;", false), ("java/util/TreeMap$Entry", "color", "Z", false)],
  [("java/util/TreeMap$KeySet", "m", "Ljava/util/NavigableMap;", true)],
  [("java/util/TreeMap$PrivateEntryIterator", "next", "Ljava/util/TreeMap$Entry;", false), ("java/util/TreeMap$PrivateEntryIterator", "lastReturned", "Ljava/util/TreeMap$Entry;", false), ("java/util/TreeMap$PrivateEntryIterator", "expectedModCount", "I", false), ("java/util/TreeMap$PrivateEntryIterator", "this$0", "Ljava/util/TreeMap;", true)],
  [("java/lang/Integer", "value", "I", true)],
  [("java/util/TreeMap$EntrySet", "this$0", "Ljava/util/TreeMap;", true)],
  [("java/util/TreeMap$PrivateEntryIterator", "next", "Ljava/util/TreeMap$Entry;", false), ("java/util/TreeMap$PrivateEntryIterator", "lastReturned", "Ljava/util/TreeMap$Entry;", false), ("java/util/TreeMap$PrivateEntryIterator", "expectedModCount", "I", false), ("java/util/TreeMap$PrivateEntryIterator", "this$0", "Ljava/util/TreeMap;", true)],
  [("HallOfClaimsModel", "w", "[I", true), ("HallOfClaimsModel", "kept", "[I", true), ("HallOfClaimsModel", "laid", "[I", true), ("HallOfClaimsModel", "hasImage", "Z", false), ("HallOfClaimsModel", "refusals", "[I", true), ("HallOfClaimsModel", "row", "[I", true), ("HallOfClaimsModel", "rows", "I", false), ("HallOfClaimsModel", "letters", "[I", true), ("HallOfClaimsModel", "lettered", "I", false), ("HallOfClaimsModel", "hit", "[I", true), ("HallOfClaimsModel", "lead", "[I", true), ("HallOfClaimsModel", "defeat", "[I", true), ("HallOfClaimsModel", "defeater", "[I", true), ("HallOfClaimsModel", "ins", "I", false), ("HallOfClaimsModel", "outs", "I", false), ("HallOfClaimsModel", "order", "[I", true), ("HallOfClaimsModel", "ordered", "I", false), ("HallOfClaimsModel", "is", "[Z", true), ("HallOfClaimsModel", "was", "[Z", true), ("HallOfClaimsModel", "reading", "I", false), ("HallOfClaimsModel", "isWell", "Z", false), ("HallOfClaimsModel", "depths", "[I", true), ("HallOfClaimsModel", "ways", "[J", true), ("HallOfClaimsModel", "z", "I", false)]]
def hv_fy : List (List FieldType) := [
  [.array (.object "HallOfClaims$Plain"), .object "HallOfClaims$Hall", .object "HallOfClaims$Hall", .object "HallOfClaims$Hall", .object "HallOfClaims$Frame", .object "HallOfClaims$Labels", .object "HallOfClaims$Shelf", .object "HallOfClaims$Game", .boolean, .array .byte, .int, .array .char, .int, .array .int, .array (.object "HallOfClaims$Tally"), .object "java/util/TreeMap"],
  [],
  [],
  [],
  [],
  [],
  [],
  [.int, .int, .int, .array (.object "HallOfClaims$Plain"), .array .int, .array .int, .array .int, .array .int],
  [.object "HallOfClaims$Hall", .int, .array .int, .array .int, .array .int, .array .int, .array (.object "HallOfClaims$Waiting"), .object "java/util/PriorityQueue", .array .int, .int, .int, .int],
  [.array (.object "java/lang/Object"), .int, .object "java/util/Comparator", .int],
  [.int, .int],
  [.object "HallOfClaims$Frame", .array .int, .array .int, .int],
  [.array (.object "HallOfClaims$Found"), .object "java/util/TreeSet"],
  [.object "java/util/NavigableMap"],
  [],
  [.object "java/util/Set", .object "java/util/Collection", .object "java/util/Comparator", .object "java/util/TreeMap$Entry", .int, .int, .object "java/util/TreeMap$EntrySet", .object "java/util/TreeMap$KeySet", .object "java/util/NavigableMap"],
  [.int],
  [.object "HallOfClaims$Frame", .array .int, .array .long],
  [.int, .int, .int],
  [.object "java/lang/Object", .int],
  [.int, .int, .object "HallOfClaims"],
  [.object "java/lang/Object", .int],
  [.int, .int, .int, .int, .object "HallOfClaims"],
  [.int, .int],
  [.int, .int, .int, .int, .object "HallOfClaims"],
  [.int, .int],
  [.int, .array .int, .array .boolean, .int],
  [.object "java/lang/Object", .object "java/lang/Object", .object "java/util/TreeMap$Entry", .object "java/util/TreeMap$Entry", .object "java/util/TreeMap$Entry", .boolean],
  [.object "java/util/NavigableMap"],
  [.object "java/util/TreeMap$Entry", .object "java/util/TreeMap$Entry", .int, .object "java/util/TreeMap"],
  [.int],
  [.object "java/util/TreeMap"],
  [.object "java/util/TreeMap$Entry", .object "java/util/TreeMap$Entry", .int, .object "java/util/TreeMap"],
  [.array .int, .array .int, .array .int, .boolean, .array .int, .array .int, .int, .array .int, .int, .array .int, .array .int, .array .int, .array .int, .int, .int, .array .int, .int, .array .boolean, .array .boolean, .int, .boolean, .array .int, .array .long, .int]]
def hv_T (c : Nat) : u_T := fun k => (hv_ft.getD c []).getD k ("", "", "", false)
def hv_Y (c : Nat) : Nat → FieldType := fun k => (hv_fy.getD c []).getD k .int
def hv_cl : List vw_C := [("HallOfClaims", hv_T 0, 16), ("HallOfClaims$Weak", hv_T 1, 0), ("HallOfClaims$Firm", hv_T 2, 0), ("HallOfClaims$Fact", hv_T 3, 0), ("HallOfClaims$Doubt", hv_T 4, 0), ("HallOfClaims$Aside", hv_T 5, 0), ("HallOfClaims$Plain", hv_T 6, 0), ("HallOfClaims$Hall", hv_T 7, 8), ("HallOfClaims$Frame", hv_T 8, 12), ("java/util/PriorityQueue", hv_T 9, 4), ("HallOfClaims$Waiting", hv_T 10, 2), ("HallOfClaims$Labels", hv_T 11, 4), ("HallOfClaims$Shelf", hv_T 12, 2), ("java/util/TreeSet", hv_T 13, 1), ("HallOfClaims$BySize", hv_T 14, 0), ("java/util/TreeMap", hv_T 15, 9), ("HallOfClaims$Found", hv_T 16, 1), ("HallOfClaims$Game", hv_T 17, 3), ("HallOfClaims$Tally", hv_T 18, 3), ("HallOfClaims$Refused", hv_T 19, 2), ("HallOfClaims$Reader", hv_T 20, 3), ("HallOfClaims$Fault", hv_T 21, 2), ("HallOfClaims$ClaimTold", hv_T 22, 5), ("HallOfClaims$ModeTold", hv_T 23, 2), ("HallOfClaims$KindTold", hv_T 24, 5), ("HallOfClaims$TurnTold", hv_T 25, 2), ("HallOfClaims$RowTold", hv_T 26, 4), ("java/util/TreeMap$Entry", hv_T 27, 6), ("java/util/TreeMap$KeySet", hv_T 28, 1), ("java/util/TreeMap$KeyIterator", hv_T 29, 4), ("java/lang/Integer", hv_T 30, 1), ("java/util/TreeMap$EntrySet", hv_T 31, 1), ("java/util/TreeMap$EntryIterator", hv_T 32, 4), ("HallOfClaimsModel", hv_T 33, 24)]
def hv_szs : List Nat := [16, 0, 0, 0, 0, 0, 0, 8, 12, 4, 2, 4, 2, 1, 0, 9, 1, 3, 3, 7, 3, 7, 5, 2, 5, 2, 4, 6, 1, 4, 1, 1, 4, 24]
def hv_sz (c : Nat) : Nat := hv_szs.getD c 0
/-- what is known of each class -/
def hv_kc (c : Nat) (q : vw_C) : Prop := q.2.1 = hv_T c ∧ (∀ w ∈ u_ws q.1 (hv_T c) q.2.2, w ∈ lw_all) ∧ (∀ k, k < q.2.2 → parseFieldDescriptor ((hv_T c) k).2.2.1 = some (hv_Y c k)) ∧ (∀ a, a < q.2.2 → ∀ b, b < q.2.2 → a ≠ b → ((hv_T c) a).2.1 ≠ ((hv_T c) b).2.1) ∧ Cond.instantiable q.1 (hv_sz c) ∈ lw_all ∧ Cond.initialized q.1 ∈ lw_all
theorem hv_kc0 : hv_kc 0 ("HallOfClaims", hv_T 0, 16) := ⟨rfl, lw_in _ [561, 563, 565, 567, 569, 571, 573, 575, 577, 579, 581, 583, 585, 587, 589, 591] (by decide +kernel) (by decide +kernel), by decide +kernel, by decide +kernel, lw_g (lw_at lw_m1 53 rfl) rfl, lw_g (lw_at lw_m1 1 rfl) rfl⟩
theorem hv_kc1 : hv_kc 1 ("HallOfClaims$Weak", hv_T 1, 0) := ⟨rfl, lw_in _ [] (by decide +kernel) (by decide +kernel), by decide +kernel, by decide +kernel, lw_g (lw_at lw_m1 66 rfl) rfl, lw_g (lw_at lw_m1 3 rfl) rfl⟩
theorem hv_kc2 : hv_kc 2 ("HallOfClaims$Firm", hv_T 2, 0) := ⟨rfl, lw_in _ [] (by decide +kernel) (by decide +kernel), by decide +kernel, by decide +kernel, lw_g (lw_at lw_m1 76 rfl) rfl, lw_g (lw_at lw_m1 4 rfl) rfl⟩
theorem hv_kc3 : hv_kc 3 ("HallOfClaims$Fact", hv_T 3, 0) := ⟨rfl, lw_in _ [] (by decide +kernel) (by decide +kernel), by decide +kernel, by decide +kernel, lw_g (lw_at lw_m1 83 rfl) rfl, lw_g (lw_at lw_m1 5 rfl) rfl⟩
theorem hv_kc4 : hv_kc 4 ("HallOfClaims$Doubt", hv_T 4, 0) := ⟨rfl, lw_in _ [] (by decide +kernel) (by decide +kernel), by decide +kernel, by decide +kernel, lw_g (lw_at lw_m1 90 rfl) rfl, lw_g (lw_at lw_m1 6 rfl) rfl⟩
theorem hv_kc5 : hv_kc 5 ("HallOfClaims$Aside", hv_T 5, 0) := ⟨rfl, lw_in _ [] (by decide +kernel) (by decide +kernel), by decide +kernel, by decide +kernel, lw_g (lw_at lw_m1 97 rfl) rfl, lw_g (lw_at lw_m1 7 rfl) rfl⟩
theorem hv_kc6 : hv_kc 6 ("HallOfClaims$Plain", hv_T 6, 0) := ⟨rfl, lw_in _ [] (by decide +kernel) (by decide +kernel), by decide +kernel, by decide +kernel, lw_g (lw_at lw_m1 103 rfl) rfl, lw_g (lw_at lw_m1 2 rfl) rfl⟩
theorem hv_kc7 : hv_kc 7 ("HallOfClaims$Hall", hv_T 7, 8) := ⟨rfl, lw_in _ [270, 272, 274, 276, 278, 280, 282, 284] (by decide +kernel) (by decide +kernel), by decide +kernel, by decide +kernel, lw_g (lw_at lw_m1 107 rfl) rfl, lw_g (lw_at lw_m1 8 rfl) rfl⟩
theorem hv_kc8 : hv_kc 8 ("HallOfClaims$Frame", hv_T 8, 12) := ⟨rfl, lw_in _ [365, 367, 369, 371, 373, 375, 377, 379, 381, 383, 385, 387] (by decide +kernel) (by decide +kernel), by decide +kernel, by decide +kernel, lw_g (lw_at lw_m1 163 rfl) rfl, lw_g (lw_at lw_m1 9 rfl) rfl⟩
theorem hv_kc9 : hv_kc 9 ("java/util/PriorityQueue", hv_T 9, 4) := ⟨rfl, lw_in _ [317, 319, 321, 323] (by decide +kernel) (by decide +kernel), by decide +kernel, by decide +kernel, lw_g (lw_at lw_m1 171 rfl) rfl, lw_g (lw_at lw_m1 12 rfl) rfl⟩
theorem hv_kc10 : hv_kc 10 ("HallOfClaims$Waiting", hv_T 10, 2) := ⟨rfl, lw_in _ [335, 337] (by decide +kernel) (by decide +kernel), by decide +kernel, by decide +kernel, lw_g (lw_at lw_m1 200 rfl) rfl, lw_g (lw_at lw_m1 13 rfl) rfl⟩
theorem hv_kc11 : hv_kc 11 ("HallOfClaims$Labels", hv_T 11, 4) := ⟨rfl, lw_in _ [402, 404, 406, 408] (by decide +kernel) (by decide +kernel), by decide +kernel, by decide +kernel, lw_g (lw_at lw_m2 25 rfl) rfl, lw_g (lw_at lw_m1 14 rfl) rfl⟩
theorem hv_kc12 : hv_kc 12 ("HallOfClaims$Shelf", hv_T 12, 2) := ⟨rfl, lw_in _ [491, 493] (by decide +kernel) (by decide +kernel), by decide +kernel, by decide +kernel, lw_g (lw_at lw_m2 46 rfl) rfl, lw_g (lw_at lw_m1 15 rfl) rfl⟩
theorem hv_kc13 : hv_kc 13 ("java/util/TreeSet", hv_T 13, 1) := ⟨rfl, lw_in _ [474] (by decide +kernel) (by decide +kernel), by decide +kernel, by decide +kernel, lw_g (lw_at lw_m2 54 rfl) rfl, lw_g (lw_at lw_m1 17 rfl) rfl⟩
theorem hv_kc14 : hv_kc 14 ("HallOfClaims$BySize", hv_T 14, 0) := ⟨rfl, lw_in _ [] (by decide +kernel) (by decide +kernel), by decide +kernel, by decide +kernel, lw_g (lw_at lw_m2 56 rfl) rfl, lw_g (lw_at lw_m1 18 rfl) rfl⟩
theorem hv_kc15 : hv_kc 15 ("java/util/TreeMap", hv_T 15, 9) := ⟨rfl, lw_in _ [461, 463, 447, 449, 451, 453, 455, 457, 459] (by decide +kernel) (by decide +kernel), by decide +kernel, by decide +kernel, lw_g (lw_at lw_m2 66 rfl) rfl, lw_g (lw_at lw_m1 20 rfl) rfl⟩
theorem hv_kc16 : hv_kc 16 ("HallOfClaims$Found", hv_T 16, 1) := ⟨rfl, lw_in _ [485] (by decide +kernel) (by decide +kernel), by decide +kernel, by decide +kernel, lw_g (lw_at lw_m2 111 rfl) rfl, lw_g (lw_at lw_m1 21 rfl) rfl⟩
theorem hv_kc17 : hv_kc 17 ("HallOfClaims$Game", hv_T 17, 3) := ⟨rfl, lw_in _ [507, 509, 511] (by decide +kernel) (by decide +kernel), by decide +kernel, by decide +kernel, lw_g (lw_at lw_m2 131 rfl) rfl, lw_g (lw_at lw_m1 22 rfl) rfl⟩
theorem hv_kc18 : hv_kc 18 ("HallOfClaims$Tally", hv_T 18, 3) := ⟨rfl, lw_in _ [528, 530, 532] (by decide +kernel) (by decide +kernel), by decide +kernel, by decide +kernel, lw_g (lw_at lw_m2 151 rfl) rfl, lw_g (lw_at lw_m1 23 rfl) rfl⟩
theorem hv_kc19 : hv_kc 19 ("HallOfClaims$Refused", hv_T 19, 2) := ⟨rfl, lw_in _ [642, 681] (by decide +kernel) (by decide +kernel), by decide +kernel, by decide +kernel, lw_g (lw_at lw_m3 17 rfl) rfl, lw_g (lw_at lw_m1 29 rfl) rfl⟩
theorem hv_kc20 : hv_kc 20 ("HallOfClaims$Reader", hv_T 20, 3) := ⟨rfl, lw_in _ [706, 708, 710] (by decide +kernel) (by decide +kernel), by decide +kernel, by decide +kernel, lw_g (lw_at lw_m3 90 rfl) rfl, lw_g (lw_at lw_m1 30 rfl) rfl⟩
theorem hv_kc21 : hv_kc 21 ("HallOfClaims$Fault", hv_T 21, 2) := ⟨rfl, lw_in _ [748, 754] (by decide +kernel) (by decide +kernel), by decide +kernel, by decide +kernel, lw_g (lw_at lw_m3 135 rfl) rfl, lw_g (lw_at lw_m1 31 rfl) rfl⟩
theorem hv_kc22 : hv_kc 22 ("HallOfClaims$ClaimTold", hv_T 22, 5) := ⟨rfl, lw_in _ [781, 773, 775, 777, 779] (by decide +kernel) (by decide +kernel), by decide +kernel, by decide +kernel, lw_g (lw_at lw_m3 153 rfl) rfl, lw_g (lw_at lw_m1 33 rfl) rfl⟩
theorem hv_kc23 : hv_kc 23 ("HallOfClaims$ModeTold", hv_T 23, 2) := ⟨rfl, lw_in _ [793, 791] (by decide +kernel) (by decide +kernel), by decide +kernel, by decide +kernel, lw_g (lw_at lw_m3 179 rfl) rfl, lw_g (lw_at lw_m1 34 rfl) rfl⟩
theorem hv_kc24 : hv_kc 24 ("HallOfClaims$KindTold", hv_T 24, 5) := ⟨rfl, lw_in _ [827, 819, 821, 823, 825] (by decide +kernel) (by decide +kernel), by decide +kernel, by decide +kernel, lw_g (lw_at lw_m3 204 rfl) rfl, lw_g (lw_at lw_m1 35 rfl) rfl⟩
theorem hv_kc25 : hv_kc 25 ("HallOfClaims$TurnTold", hv_T 25, 2) := ⟨rfl, lw_in _ [838, 836] (by decide +kernel) (by decide +kernel), by decide +kernel, by decide +kernel, lw_g (lw_at lw_m3 224 rfl) rfl, lw_g (lw_at lw_m1 36 rfl) rfl⟩
theorem hv_kc26 : hv_kc 26 ("HallOfClaims$RowTold", hv_T 26, 4) := ⟨rfl, lw_in _ [859, 853, 855, 857] (by decide +kernel) (by decide +kernel), by decide +kernel, by decide +kernel, lw_g (lw_at lw_m3 239 rfl) rfl, lw_g (lw_at lw_m1 37 rfl) rfl⟩
theorem hv_kc27 : hv_kc 27 ("java/util/TreeMap$Entry", hv_T 27, 6) := ⟨rfl, lw_in _ [1334, 1336, 1338, 1340, 1342, 1344] (by decide +kernel) (by decide +kernel), by decide +kernel, by decide +kernel, lw_g (lw_at lw_m5 232 rfl) rfl, lw_g (lw_at lw_m1 44 rfl) rfl⟩
theorem hv_kc28 : hv_kc 28 ("java/util/TreeMap$KeySet", hv_T 28, 1) := ⟨rfl, lw_in _ [1447] (by decide +kernel) (by decide +kernel), by decide +kernel, by decide +kernel, lw_g (lw_at lw_m6 115 rfl) rfl, lw_g (lw_at lw_m1 46 rfl) rfl⟩
theorem hv_kc29 : hv_kc 29 ("java/util/TreeMap$KeyIterator", hv_T 29, 4) := ⟨rfl, lw_in _ [1482, 1484, 1486, 1488] (by decide +kernel) (by decide +kernel), by decide +kernel, by decide +kernel, lw_g (lw_at lw_m6 140 rfl) rfl, lw_g (lw_at lw_m1 48 rfl) rfl⟩
theorem hv_kc30 : hv_kc 30 ("java/lang/Integer", hv_T 30, 1) := ⟨rfl, lw_in _ [1708] (by decide +kernel) (by decide +kernel), by decide +kernel, by decide +kernel, lw_g (lw_at lw_m7 133 rfl) rfl, lw_g (lw_at lw_m1 43 rfl) rfl⟩
theorem hv_kc31 : hv_kc 31 ("java/util/TreeMap$EntrySet", hv_T 31, 1) := ⟨rfl, lw_in _ [1741] (by decide +kernel) (by decide +kernel), by decide +kernel, by decide +kernel, lw_g (lw_at lw_m7 169 rfl) rfl, lw_g (lw_at lw_m1 49 rfl) rfl⟩
theorem hv_kc32 : hv_kc 32 ("java/util/TreeMap$EntryIterator", hv_T 32, 4) := ⟨rfl, lw_in _ [1761, 1762, 1763, 1764] (by decide +kernel) (by decide +kernel), by decide +kernel, by decide +kernel, lw_g (lw_at lw_m7 189 rfl) rfl, lw_g (lw_at lw_m1 51 rfl) rfl⟩
theorem hv_kc33 : hv_kc 33 ("HallOfClaimsModel", hv_T 33, 24) := ⟨rfl, lw_in _ [1986, 1988, 1990, 1992, 1994, 1996, 1998, 2000, 2002, 2004, 2006, 2008, 2010, 2012, 2014, 2016, 2018, 2020, 2022, 2024, 2026, 2028, 2030, 2032] (by decide +kernel) (by decide +kernel), by decide +kernel, by decide +kernel, lw_g (lw_at lw_m8 151 rfl) rfl, lw_g (lw_at lw_m1 24 rfl) rfl⟩
theorem hv_known (c : Nat) (q : vw_C) (h : hv_cl[c]? = some q) : hv_kc c q := by
  match c, h with
  | 0, h => cases h; exact hv_kc0
  | 1, h => cases h; exact hv_kc1
  | 2, h => cases h; exact hv_kc2
  | 3, h => cases h; exact hv_kc3
  | 4, h => cases h; exact hv_kc4
  | 5, h => cases h; exact hv_kc5
  | 6, h => cases h; exact hv_kc6
  | 7, h => cases h; exact hv_kc7
  | 8, h => cases h; exact hv_kc8
  | 9, h => cases h; exact hv_kc9
  | 10, h => cases h; exact hv_kc10
  | 11, h => cases h; exact hv_kc11
  | 12, h => cases h; exact hv_kc12
  | 13, h => cases h; exact hv_kc13
  | 14, h => cases h; exact hv_kc14
  | 15, h => cases h; exact hv_kc15
  | 16, h => cases h; exact hv_kc16
  | 17, h => cases h; exact hv_kc17
  | 18, h => cases h; exact hv_kc18
  | 19, h => cases h; exact hv_kc19
  | 20, h => cases h; exact hv_kc20
  | 21, h => cases h; exact hv_kc21
  | 22, h => cases h; exact hv_kc22
  | 23, h => cases h; exact hv_kc23
  | 24, h => cases h; exact hv_kc24
  | 25, h => cases h; exact hv_kc25
  | 26, h => cases h; exact hv_kc26
  | 27, h => cases h; exact hv_kc27
  | 28, h => cases h; exact hv_kc28
  | 29, h => cases h; exact hv_kc29
  | 30, h => cases h; exact hv_kc30
  | 31, h => cases h; exact hv_kc31
  | 32, h => cases h; exact hv_kc32
  | 33, h => cases h; exact hv_kc33
  | c + 34, h => simp [hv_cl] at h
def hv_tys : List FieldType := [.int, .long, .byte, .char, .boolean, .object "HallOfClaims$Plain", .object "HallOfClaims$Waiting", .object "java/lang/Object", .object "HallOfClaims$Found", .object "HallOfClaims$Tally", .object "HallOfClaims$Told"]
def hv_tyl (aC : Nat → ClassId) : List (ClassId × FieldType) := [(aC 0, .int), (aC 1, .long), (aC 2, .byte), (aC 3, .char), (aC 4, .boolean), (aC 5, .object "HallOfClaims$Plain"), (aC 6, .object "HallOfClaims$Waiting"), (aC 7, .object "java/lang/Object"), (aC 8, .object "HallOfClaims$Found"), (aC 9, .object "HallOfClaims$Tally"), (aC 10, .object "HallOfClaims$Told")]
theorem hv_tyl_at (aC : Nat → ClassId) (t : Nat) (ty : FieldType) (h : hv_tys[t]? = some ty) : (hv_tyl aC)[t]? = some (aC t, ty) := by
  match t, h with
  | 0, h => cases h; rfl
  | 1, h => cases h; rfl
  | 2, h => cases h; rfl
  | 3, h => cases h; rfl
  | 4, h => cases h; rfl
  | 5, h => cases h; rfl
  | 6, h => cases h; rfl
  | 7, h => cases h; rfl
  | 8, h => cases h; rfl
  | 9, h => cases h; rfl
  | 10, h => cases h; rfl
  | t + 11, h => simp [hv_tys] at h
