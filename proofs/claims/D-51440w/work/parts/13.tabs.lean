/-! TABLES of the toy calculus (printed by tools/tabs.py): classes in order, the fields numbered over all classes, array types -/
def CL : List vw_C := [(RX1, TX1, 9), (RX2, TX2, 17), (RX3, TX3, 3), (RX4, TX4, 2), (RX5, TX5, 53), (RX6, TX6, 9), (RX7, TX7, 8), (RX8, TX8, 4), (RX9, TX9, 7), (RX10, TX10, 4), (RX11, TX11, 2), (RJ1, TJ1, 8), (RJ4, TJ4, 1), (RJ5, TJ5, 12), (RJ7, TJ7, 3), (RJ9, TJ9, 1), (RJ13, TJ13, 4), (RJ21, TJ21, 4), (RJ23, TJ23, 4), (RJ24, TJ24, 6)]
def FL : Nat → List Nat := fun c => match c with
  | 0 => [0, 1, 2, 3, 4, 5, 6, 7, 8]
  | 1 => [9, 10, 11, 12, 13, 14, 15, 16, 17, 18, 19, 20, 21, 22, 23, 24, 25]
  | 2 => [26, 27, 28]
  | 3 => [29, 30]
  | 4 => [31, 32, 33, 34, 35, 36, 37, 38, 39, 40, 41, 42, 43, 44, 45, 46, 47, 48, 49, 50, 51, 52, 53, 54, 55, 56, 57, 58, 59, 60, 61, 62, 63, 64, 65, 66, 67, 68, 69, 70, 71, 72, 73, 74, 75, 76, 77, 78, 79, 80, 81, 82, 83]
  | 5 => [84, 85, 86, 87, 88, 89, 90, 91, 92]
  | 6 => [93, 94, 95, 96, 97, 98, 99, 100]
  | 7 => [101, 102, 103, 104]
  | 8 => [105, 106, 107, 108, 109, 110, 111]
  | 9 => [112, 113, 114, 115]
  | 10 => [116, 117]
  | 11 => [118, 119, 120, 121, 122, 123, 124, 125]
  | 12 => [126]
  | 13 => [118, 119, 120, 121, 122, 123, 124, 125, 127, 128, 129, 130]
  | 14 => [131, 132, 133]
  | 15 => [134]
  | 16 => [135, 136, 137, 138]
  | 17 => [139, 140, 141, 142]
  | 18 => [143, 144, 145, 146]
  | 19 => [143, 144, 145, 146, 147, 148]
  | _ => []
/-- fields by number: declaring class, name, descriptor, final -/
def FT : List (String × String × String × Bool) := [("CrossbarExchange", "buffer", "[B", true), ("CrossbarExchange", "buffered", "I", false), ("CrossbarExchange", "errorCode", "I", false), ("CrossbarExchange", "errorPosition", "I", false), ("CrossbarExchange", "output", "Ljava/lang/String;", false), ("CrossbarExchange", "now", "LCrossbarExchange$Exchange;", false), ("CrossbarExchange", "before", "[LCrossbarExchange$Exchange;", true), ("CrossbarExchange", "saved", "[LCrossbarExchange$Exchange;", true), ("CrossbarExchange", "befores", "I", false), ("CrossbarExchange$Exchange", "switches", "I", true), ("CrossbarExchange$Exchange", "lines", "I", true), ("CrossbarExchange$Exchange", "middles", "I", true), ("CrossbarExchange$Exchange", "calls", "[LCrossbarExchange$Call;", true), ("CrossbarExchange$Exchange", "talks", "[LCrossbarExchange$Call;", true), ("CrossbarExchange$Exchange", "carried", "Ljava/util/HashMap;", true), ("CrossbarExchange$Exchange", "cut", "Ljava/util/HashSet;", true), ("CrossbarExchange$Exchange", "names", "Ljava/util/LinkedHashMap;", true), ("CrossbarExchange$Exchange", "groups", "Ljava/util/List;", true), ("CrossbarExchange$Exchange", "waiting", "Ljava/util/List;", true), ("CrossbarExchange$Exchange", "accounts", "[I", true), ("CrossbarExchange$Exchange", "probe", "LCrossbarExchange$Spot;", true), ("CrossbarExchange$Exchange", "begun", "I", false), ("CrossbarExchange$Exchange", "tick", "I", false), ("CrossbarExchange$Exchange", "mode", "I", false), ("CrossbarExchange$Exchange", "hunt", "I", false), ("CrossbarExchange$Exchange", "latest", "I", false), ("CrossbarExchange$Spot", "middle", "I", false), ("CrossbarExchange$Spot", "number", "I", false), ("CrossbarExchange$Spot", "isTo", "Z", false), ("CrossbarExchange$Group", "name", "Ljava/lang/String;", true), ("CrossbarExchange$Group", "members", "Ljava/util/List;", true), ("CrossbarExchangeModel", "code", "I", false), ("CrossbarExchangeModel", "input", "[B", true), ("CrossbarExchangeModel", "inputLength", "I", false), ("CrossbarExchangeModel", "error", "I", false), ("CrossbarExchangeModel", "position", "I", false), ("CrossbarExchangeModel", "out", "[B", true), ("CrossbarExchangeModel", "outLength", "I", false), ("CrossbarExchangeModel", "switches", "I", false), ("CrossbarExchangeModel", "lines", "I", false), ("CrossbarExchangeModel", "middles", "I", false), ("CrossbarExchangeModel", "cutSet", "I", false), ("CrossbarExchangeModel", "mode", "I", false), ("CrossbarExchangeModel", "hunt", "I", false), ("CrossbarExchangeModel", "tick", "I", false), ("CrossbarExchangeModel", "latest", "I", false), ("CrossbarExchangeModel", "begun", "I", false), ("CrossbarExchangeModel", "calls", "I", false), ("CrossbarExchangeModel", "number", "[I", true), ("CrossbarExchangeModel", "caller", "[I", true), ("CrossbarExchangeModel", "callee", "[I", true), ("CrossbarExchangeModel", "middle", "[I", true), ("CrossbarExchangeModel", "began", "[I", true), ("CrossbarExchangeModel", "lasts", "[I", true), ("CrossbarExchangeModel", "moved", "[I", true), ("CrossbarExchangeModel", "waiters", "I", false), ("CrossbarExchangeModel", "waiter", "[I", true), ("CrossbarExchangeModel", "waitsFor", "[I", true), ("CrossbarExchangeModel", "waitLasts", "[I", true), ("CrossbarExchangeModel", "waitsSince", "[I", true), ("CrossbarExchangeModel", "groups", "I", false), ("CrossbarExchangeModel", "nameLength", "[I", true), ("CrossbarExchangeModel", "nameBytes", "[I", true), ("CrossbarExchangeModel", "memberCount", "[I", true), ("CrossbarExchangeModel", "members", "[I", true), ("CrossbarExchangeModel", "accounts", "[I", true), ("CrossbarExchangeModel", "images", "[I", true), ("CrossbarExchangeModel", "oldest", "I", false), ("CrossbarExchangeModel", "undoable", "I", false), ("CrossbarExchangeModel", "inSlot", "[Z", true), ("CrossbarExchangeModel", "links", "[I", true), ("CrossbarExchangeModel", "trial", "[I", true), ("CrossbarExchangeModel", "chainSize", "I", false), ("CrossbarExchangeModel", "chainP", "I", false), ("CrossbarExchangeModel", "chainQ", "I", false), ("CrossbarExchangeModel", "chainIsFirst", "Z", false), ("CrossbarExchangeModel", "before", "[I", true), ("CrossbarExchangeModel", "at", "I", false), ("CrossbarExchangeModel", "start", "I", false), ("CrossbarExchangeModel", "kind", "I", false), ("CrossbarExchangeModel", "length", "I", false), ("CrossbarExchangeModel", "value", "I", false), ("CrossbarExchangeModel", "told", "[I", true), ("CrossbarExchangeModel", "place", "I", false), ("CrossbarExchange$Reader", "bytes", "[B", true), ("CrossbarExchange$Reader", "length", "I", true), ("CrossbarExchange$Reader", "exchange", "LCrossbarExchange$Exchange;", false), ("CrossbarExchange$Reader", "to", "I", false), ("CrossbarExchange$Reader", "from", "I", false), ("CrossbarExchange$Reader", "kind", "I", false), ("CrossbarExchange$Reader", "number", "I", false), ("CrossbarExchange$Reader", "word", "Ljava/lang/String;", false), ("CrossbarExchange$Reader", "told", "I", false), ("java/lang/Throwable", "cause", "Ljava/lang/Throwable;", false), ("java/lang/Throwable", "stackTrace", "[Ljava/lang/StackTraceElement;", false), ("java/lang/Throwable", "suppressedExceptions", "Ljava/util/List;", false), ("java/lang/Throwable", "detailMessage", "Ljava/lang/String;", false), ("java/lang/Throwable", "backtrace", "Ljava/lang/Object;", false), ("java/lang/Throwable", "depth", "I", false), ("CrossbarExchange$Fault", "code", "I", true), ("CrossbarExchange$Fault", "position", "I", true), ("CrossbarExchange$Path", "middle", "I", true), ("CrossbarExchange$Path", "p", "I", true), ("CrossbarExchange$Path", "q", "I", true), ("CrossbarExchange$Path", "chain", "Ljava/util/List;", true), ("CrossbarExchange$Call", "number", "I", true), ("CrossbarExchange$Call", "caller", "I", true), ("CrossbarExchange$Call", "callee", "I", true), ("CrossbarExchange$Call", "began", "I", true), ("CrossbarExchange$Call", "lasts", "I", true), ("CrossbarExchange$Call", "middle", "I", false), ("CrossbarExchange$Call", "moved", "I", false), ("CrossbarExchange$Waiter", "caller", "I", true), ("CrossbarExchange$Waiter", "group", "I", true), ("CrossbarExchange$Waiter", "lasts", "I", true), ("CrossbarExchange$Waiter", "since", "I", true), ("CrossbarExchange$Trial", "was", "LCrossbarExchange$Exchange;", true), ("CrossbarExchange$Trial", "this$0", "LCrossbarExchange;", true), ("java/util/AbstractMap", "keySet", "Ljava/util/Set;", false), ("java/util/AbstractMap", "values", "Ljava/util/Collection;", false), ("java/util/HashMap", "table", "[Ljava/util/HashMap$Node;", false), ("java/util/HashMap", "entrySet", "Ljava/util/Set;", false), ("java/util/HashMap", "size", "I", false), ("java/util/HashMap", "modCount", "I", false), ("java/util/HashMap", "threshold", "I", false), ("java/util/HashMap", "loadFactor", "F", true), ("java/util/HashSet", "map", "Ljava/util/HashMap;", false), ("java/util/LinkedHashMap", "head", "Ljava/util/LinkedHashMap$Entry;", false), ("java/util/LinkedHashMap", "tail", "Ljava/util/LinkedHashMap$Entry;", false), ("java/util/LinkedHashMap", "accessOrder", "Z", true), ("java/util/LinkedHashMap", "putMode", "I", false), ("java/util/AbstractList", "modCount", "I", false), ("java/util/ArrayList", "elementData", "[Ljava/lang/Object;", false), ("java/util/ArrayList", "size", "I", false), ("java/lang/Integer", "value", "I", true), ("java/lang/String", "value", "[B", true), ("java/lang/String", "coder", "B", true), ("java/lang/String", "hash", "I", false), ("java/lang/String", "hashIsZero", "Z", false), ("java/lang/AbstractStringBuilder", "value", "[B", false), ("java/lang/AbstractStringBuilder", "coder", "B", false), ("java/lang/AbstractStringBuilder", "maybeLatin1", "Z", false), ("java/lang/AbstractStringBuilder", "count", "I", false), ("java/util/HashMap$Node", "hash", "I", true), ("java/util/HashMap$Node", "key", "Ljava/lang/Object;", true), ("java/util/HashMap$Node", "value", "Ljava/lang/Object;", false), ("java/util/HashMap$Node", "next", "Ljava/util/HashMap$Node;", false), ("java/util/LinkedHashMap$Entry", "before", "Ljava/util/LinkedHashMap$Entry;", false), ("java/util/LinkedHashMap$Entry", "after", "Ljava/util/LinkedHashMap$Entry;", false)]
/-- fields by number: 0 a number, 1 a reference, 2 a float -/
def FY : List Nat := [1, 0, 0, 0, 1, 1, 1, 1, 0, 0, 0, 0, 1, 1, 1, 1, 1, 1, 1, 1, 1, 0, 0, 0, 0, 0, 0, 0, 0, 1, 1, 0, 1, 0, 0, 0, 1, 0, 0, 0, 0, 0, 0, 0, 0, 0, 0, 0, 1, 1, 1, 1, 1, 1, 1, 0, 1, 1, 1, 1, 0, 1, 1, 1, 1, 1, 1, 0, 0, 1, 1, 1, 0, 0, 0, 0, 1, 0, 0, 0, 0, 0, 1, 0, 1, 0, 1, 0, 0, 0, 0, 1, 0, 1, 1, 1, 1, 1, 0, 0, 0, 0, 0, 0, 1, 0, 0, 0, 0, 0, 0, 0, 0, 0, 0, 0, 1, 1, 1, 1, 1, 1, 0, 0, 0, 2, 1, 1, 1, 0, 0, 0, 1, 0, 0, 1, 0, 0, 0, 1, 0, 0, 0, 0, 1, 1, 1, 1, 1]
def fy (f : Nat) : Nat := FY.getD f 0
def AT : List FieldType := [.int, .byte, .boolean, .long, .char, .object "CrossbarExchange$Call", .object "CrossbarExchange$Exchange", .object "java/lang/Object", .object "java/lang/String", .object "java/util/HashMap$Node", .object "java/lang/Integer"]
/-- array types: 0 numbers, 1 references, 2 longs -/
def ay (t : Nat) : Nat := if t = 3 then 2 else if 5 ≤ t then 1 else 0
def XL : List String := ["java/lang/IllegalArgumentException", "java/lang/IndexOutOfBoundsException", "java/lang/IllegalStateException"]
/-- String constants: class, entry, text, number of the constant -/
def STL : List (String × Nat × String × Nat) := [("CrossbarExchange", 17, "", 0), ("CrossbarExchange", 41, "desk", 1), ("CrossbarExchange$Reader", 9, "", 2), ("CrossbarExchange$Reader", 112, "exchange", 3), ("CrossbarExchange$Reader", 125, "group", 4), ("CrossbarExchange$Reader", 189, "call", 5), ("CrossbarExchange$Reader", 191, "dial", 6), ("CrossbarExchange$Reader", 193, "hang", 7), ("CrossbarExchange$Reader", 195, "tick", 8), ("CrossbarExchange$Reader", 197, "cut", 9), ("CrossbarExchange$Reader", 199, "mend", 10), ("CrossbarExchange$Reader", 201, "mode", 11), ("CrossbarExchange$Reader", 203, "hunt", 12), ("CrossbarExchange$Reader", 205, "pack", 13), ("CrossbarExchange$Reader", 184, "for", 14), ("CrossbarExchange$Reader", 236, "plain", 15), ("CrossbarExchange$Reader", 238, "chains", 16), ("CrossbarExchange$Reader", 249, "low", 17), ("CrossbarExchange$Reader", 251, "packed", 18), ("CrossbarExchange$Reader", 253, "round", 19)]
/-- statics: class, name, descriptor, a number or the number of a constant -/
def SVL : List (String × String × String × (Int ⊕ Nat)) := [("java/util/ArrayList", "DEFAULTCAPACITY_EMPTY_ELEMENTDATA", "[Ljava/lang/Object;", .inr 100), ("java/util/ArrayList", "EMPTY_ELEMENTDATA", "[Ljava/lang/Object;", .inr 101), ("java/util/HashSet", "PRESENT", "Ljava/lang/Object;", .inr 102), ("java/lang/Integer$IntegerCache", "cache", "[Ljava/lang/Integer;", .inr 103), ("java/lang/Integer$IntegerCache", "high", "I", .inl 127), ("java/lang/String", "COMPACT_STRINGS", "Z", .inl 1), ("java/lang/Integer", "DigitOnes", "[B", .inr 104), ("java/lang/Integer", "DigitTens", "[B", .inr 105), ("java/lang/Throwable", "UNASSIGNED_STACK", "[Ljava/lang/StackTraceElement;", .inr 106), ("java/lang/Throwable", "SUPPRESSED_SENTINEL", "Ljava/util/List;", .inr 107), ("jdk/internal/util/Preconditions", "SIOOBE_FORMATTER", "Ljava/util/function/BiFunction;", .inr 108)]
/-- classes that are not castable -/
def NCL : List (String × String) := [("java/lang/IllegalArgumentException", "java/lang/IndexOutOfBoundsException"), ("java/lang/IllegalArgumentException", "java/lang/IllegalStateException"), ("java/lang/IndexOutOfBoundsException", "java/lang/IllegalArgumentException"), ("java/lang/IndexOutOfBoundsException", "java/lang/IllegalStateException"), ("java/lang/IllegalStateException", "java/lang/IllegalArgumentException"), ("java/lang/IllegalStateException", "java/lang/IndexOutOfBoundsException"), ("java/util/HashMap$Node", "java/util/HashMap$TreeNode"), ("java/util/LinkedHashMap$Entry", "java/util/HashMap$TreeNode")]
theorem FT_all : (List.range 20).all (fun c => match CL[c]? with | none => true | some r => decide ((FL c).map (fun f => FT[f]?) = (List.range r.2.2).map (fun j => some (r.2.1 j)))) = true := by decide +kernel
theorem FT_ok {c j f : Nat} {r : vw_C} (hr : CL[c]? = some r) (hf : (FL c)[j]? = some f) : j < r.2.2 ∧ FT[f]? = some (r.2.1 j) := by
  have hc : c < 20 := (List.getElem?_eq_some_iff.mp hr).1
  have h := List.all_eq_true.mp FT_all c (List.mem_range.mpr hc)
  rw [hr] at h
  have h := of_decide_eq_true h
  have h1 : ((FL c).map (fun f => FT[f]?))[j]? = some FT[f]? := by rw [List.getElem?_map, hf]; rfl
  rw [h, List.getElem?_map] at h1
  by_cases hj : j < r.2.2
  · rw [List.getElem?_range hj] at h1
    exact ⟨hj, (Option.some.inj h1).symm⟩
  · rw [List.getElem?_eq_none (by simpa using Nat.le_of_not_lt hj)] at h1
    cases h1
theorem FL_all : (List.range 20).all (fun c => match CL[c]? with | none => true | some r => (FL c).length == r.2.2) = true := by decide +kernel
theorem FL_len {c : Nat} {r : vw_C} (hr : CL[c]? = some r) : (FL c).length = r.2.2 := by
  have hc : c < 20 := (List.getElem?_eq_some_iff.mp hr).1
  have h := List.all_eq_true.mp FL_all c (List.mem_range.mpr hc)
  rw [hr] at h
  exact eq_of_beq h
theorem FT_inj : ∀ c, c < 20 → (FL c).Nodup := by decide +kernel
theorem CL_in : ∀ r ∈ CL, ∀ w ∈ u_ws r.1 r.2.1 r.2.2, w ∈ lw_all := by
  intro r hr
  simp only [CL, List.mem_cons, List.not_mem_nil, or_false] at hr
  rcases hr with e | e | e | e | e | e | e | e | e | e | e | e | e | e | e | e | e | e | e | e
  · rw [e]; exact in_X1
  · rw [e]; exact in_X2
  · rw [e]; exact in_X3
  · rw [e]; exact in_X4
  · rw [e]; exact in_X5
  · rw [e]; exact in_X6
  · rw [e]; exact in_X7
  · rw [e]; exact in_X8
  · rw [e]; exact in_X9
  · rw [e]; exact in_X10
  · rw [e]; exact in_X11
  · rw [e]; exact in_J1
  · rw [e]; exact in_J4
  · rw [e]; exact in_J5
  · rw [e]; exact in_J7
  · rw [e]; exact in_J9
  · rw [e]; exact in_J13
  · rw [e]; exact in_J21
  · rw [e]; exact in_J23
  · rw [e]; exact in_J24
theorem CL_nm : ∀ r ∈ CL, ∀ a, a < r.2.2 → ∀ b, b < r.2.2 → a ≠ b → (r.2.1 a).2.1 ≠ (r.2.1 b).2.1 := by
  intro r hr
  simp only [CL, List.mem_cons, List.not_mem_nil, or_false] at hr
  rcases hr with e | e | e | e | e | e | e | e | e | e | e | e | e | e | e | e | e | e | e | e
  · rw [e]; exact nmX1
  · rw [e]; exact nmX2
  · rw [e]; exact nmX3
  · rw [e]; exact nmX4
  · rw [e]; exact nmX5
  · rw [e]; exact nmX6
  · rw [e]; exact nmX7
  · rw [e]; exact nmX8
  · rw [e]; exact nmX9
  · rw [e]; exact nmX10
  · rw [e]; exact nmX11
  · rw [e]; exact nmJ1
  · rw [e]; exact nmJ4
  · rw [e]; exact nmJ5
  · rw [e]; exact nmJ7
  · rw [e]; exact nmJ9
  · rw [e]; exact nmJ13
  · rw [e]; exact nmJ21
  · rw [e]; exact nmJ23
  · rw [e]; exact nmJ24
theorem CL_ty : ∀ r ∈ CL, ∃ ty : Nat → FieldType, ∀ k, k < r.2.2 → parseFieldDescriptor (r.2.1 k).2.2.1 = some (ty k) := by
  intro r hr
  simp only [CL, List.mem_cons, List.not_mem_nil, or_false] at hr
  rcases hr with e | e | e | e | e | e | e | e | e | e | e | e | e | e | e | e | e | e | e | e
  · rw [e]; exact ⟨tyX1, tyX1_ok⟩
  · rw [e]; exact ⟨tyX2, tyX2_ok⟩
  · rw [e]; exact ⟨tyX3, tyX3_ok⟩
  · rw [e]; exact ⟨tyX4, tyX4_ok⟩
  · rw [e]; exact ⟨tyX5, tyX5_ok⟩
  · rw [e]; exact ⟨tyX6, tyX6_ok⟩
  · rw [e]; exact ⟨tyX7, tyX7_ok⟩
  · rw [e]; exact ⟨tyX8, tyX8_ok⟩
  · rw [e]; exact ⟨tyX9, tyX9_ok⟩
  · rw [e]; exact ⟨tyX10, tyX10_ok⟩
  · rw [e]; exact ⟨tyX11, tyX11_ok⟩
  · rw [e]; exact ⟨tyJ1, tyJ1_ok⟩
  · rw [e]; exact ⟨tyJ4, tyJ4_ok⟩
  · rw [e]; exact ⟨tyJ5, tyJ5_ok⟩
  · rw [e]; exact ⟨tyJ7, tyJ7_ok⟩
  · rw [e]; exact ⟨tyJ9, tyJ9_ok⟩
  · rw [e]; exact ⟨tyJ13, tyJ13_ok⟩
  · rw [e]; exact ⟨tyJ21, tyJ21_ok⟩
  · rw [e]; exact ⟨tyJ23, tyJ23_ok⟩
  · rw [e]; exact ⟨tyJ24, tyJ24_ok⟩
