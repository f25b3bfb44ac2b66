set_option maxRecDepth 100000
/-- the classes by their tags -/
def zcl : List vw_C := [(RX1, TX1, 11), (RX2, TX2, 10), (RX3, TX3, 2), (RX4, TX4, 4), (RX5, TX5, 20), (RX6, TX6, 9), (RX7, TX7, 7), (RX8, TX8, 1), (RX9, TX9, 2), (RX10, TX10, 2), (RX11, TX11, 2), (RX12, TX12, 7), (RJ1, TJ1, 8), (RJ2, TJ2, 12), (RJ5, TJ5, 1), (RJ6, TJ6, 3), (RJ8, TJ8, 4), (RJ9, TJ9, 4), (RJ12, TJ12, 3), (RJ13, TJ13, 2), (RJ15, TJ15, 4), (RJ17, TJ17, 5), (RJ18, TJ18, 1), (RJ19, TJ19, 2), (RJ21, TJ21, 5), (RJ22, TJ22, 5), (RJ24, TJ24, 1), (RJ37, TJ37, 3), (RJ40, TJ40, 4), (RJ41, TJ41, 6), (RJ28, TJ28, 0), (RJ29, TJ29, 0), (RJ34, TJ34, 0), (RJ39, TJ39, 0), (RJ44, TJ44, 0), (RJ47, TJ47, 0)]
def zta (t : Nat) : Option FieldType := if t < 200 then none else match t with
  | 200 => some (.int)
  | 201 => some (.boolean)
  | 202 => some (.long)
  | 203 => some (.double)
  | 204 => some (.byte)
  | 205 => some (.object "java/lang/Object")
  | 206 => some (.object "java/util/HashMap$Node")
  | 207 => some (.object "FloatingDock$Charge")
  | 208 => some (.object "FloatingDock$GapFinder")
  | 209 => some (.object "FloatingDock$Packer")
  | 210 => some (.object "FloatingDock$Operation")
  | 211 => some (.object "java/lang/String")
  | 212 => some (.object "java/lang/Integer")
  | _ => none
def zla (t : Nat) : Bool := decide (300 ≤ t ∧ t < 330)
def zlf (t : Nat) : String := match t with
  | 300 => "FloatingDock$Charge"
  | 301 => "FloatingDock$Charge"
  | 302 => "FloatingDock$Charge"
  | 303 => "FloatingDock$GapFinder"
  | 304 => "FloatingDock$GapFinder"
  | 305 => "FloatingDock$Packer"
  | 306 => "FloatingDock$Packer"
  | 307 => "FloatingDock$Operation"
  | 308 => "FloatingDock$Operation"
  | 309 => "FloatingDock$Operation"
  | 310 => "FloatingDock$Operation"
  | 311 => "FloatingDock$Operation"
  | 312 => "FloatingDock$Operation"
  | 313 => "FloatingDock$Operation"
  | 314 => "FloatingDock$Operation"
  | 315 => "FloatingDock$Operation"
  | 316 => "FloatingDock$Operation"
  | 317 => "FloatingDock$Operation"
  | 318 => "FloatingDock$Operation"
  | 319 => "FloatingDock$Operation"
  | 320 => "FloatingDock$Operation"
  | 321 => "FloatingDock$Operation"
  | 322 => "FloatingDock$Operation"
  | 323 => "FloatingDock$Operation"
  | 324 => "FloatingDock$Operation"
  | 325 => "FloatingDock$Operation"
  | 326 => "FloatingDock$Operation"
  | 327 => "FloatingDock$Operation"
  | 328 => "FloatingDock$Operation"
  | 329 => "FloatingDock$Operation"
  | _ => ""
def zSh : Cond → MethodName × Nat × Nat × Lambda.Shape
  | .lambdaSite x pc ix σ => (x, pc, ix, σ)
  | _ => (⟨"", "", ""⟩, 0, 0, default)
def zls (t : Nat) : Option (MethodName × Nat × Nat × Lambda.Shape) := if t < 300 then none else match t with
  | 300 => some (zSh siteWord_1_1)
  | 301 => some (zSh siteWord_1_2)
  | 302 => some (zSh siteWord_1_3)
  | 303 => some (zSh siteWord_1_4)
  | 304 => some (zSh siteWord_1_5)
  | 305 => some (zSh siteWord_1_6)
  | 306 => some (zSh siteWord_1_7)
  | 307 => some (zSh siteWord_1_8)
  | 308 => some (zSh siteWord_1_9)
  | 309 => some (zSh siteWord_1_10)
  | 310 => some (zSh siteWord_1_11)
  | 311 => some (zSh siteWord_1_12)
  | 312 => some (zSh siteWord_1_13)
  | 313 => some (zSh siteWord_1_14)
  | 314 => some (zSh siteWord_1_15)
  | 315 => some (zSh siteWord_1_16)
  | 316 => some (zSh siteWord_1_17)
  | 317 => some (zSh siteWord_1_18)
  | 318 => some (zSh siteWord_1_19)
  | 319 => some (zSh siteWord_1_20)
  | 320 => some (zSh siteWord_1_21)
  | 321 => some (zSh siteWord_1_22)
  | 322 => some (zSh siteWord_1_23)
  | 323 => some (zSh siteWord_1_24)
  | 324 => some (zSh siteWord_1_25)
  | 325 => some (zSh siteWord_1_26)
  | 326 => some (zSh siteWord_1_27)
  | 327 => some (zSh siteWord_1_28)
  | 328 => some (zSh siteWord_1_29)
  | 329 => some (zSh siteWord_1_30)
  | _ => none
theorem zls_la {t : Nat} (h : zla t = true) : ∃ q, zls t = some q ∧ q.2.2.2.iface = zlf t := by
  have h1 : 300 ≤ t ∧ t < 330 := of_decide_eq_true h
  have key : ((List.range 30).all fun i => (zls (300 + i)).any fun q => q.2.2.2.iface == zlf (300 + i)) = true := by decide +kernel
  have h2 := List.all_eq_true.mp key (t - 300) (List.mem_range.mpr (by omega))
  rw [show 300 + (t - 300) = t by omega] at h2
  cases hq : zls t with
  | none => rw [hq] at h2; cases h2
  | some q =>
    rw [hq] at h2
    exact ⟨q, rfl, by simpa using h2⟩
def zstat : List (String × String × String × (Int32 ⊕ Nat ⊕ Nat)) := [("java/lang/Integer$IntegerCache", "high", "I", .inl 127), ("java/lang/Integer$IntegerCache", "cache", "[Ljava/lang/Integer;", .inr (.inl 0)), ("java/lang/Integer", "DigitOnes", "[B", .inr (.inl 1)), ("java/lang/Integer", "DigitTens", "[B", .inr (.inl 2)), ("java/util/ArrayList", "EMPTY_ELEMENTDATA", "[Ljava/lang/Object;", .inr (.inl 3)), ("java/util/ArrayList", "DEFAULTCAPACITY_EMPTY_ELEMENTDATA", "[Ljava/lang/Object;", .inr (.inl 4)), ("java/util/HashSet", "PRESENT", "Ljava/lang/Object;", .inr (.inl 5)), ("java/lang/String", "COMPACT_STRINGS", "Z", .inl 1), ("java/util/BitSet", "$assertionsDisabled", "Z", .inl 1), ("java/lang/Throwable", "UNASSIGNED_STACK", "[Ljava/lang/StackTraceElement;", .inr (.inr 7)), ("java/lang/Throwable", "SUPPRESSED_SENTINEL", "Ljava/util/List;", .inr (.inr 8)), ("jdk/internal/util/Preconditions", "SIOOBE_FORMATTER", "Ljava/util/function/BiFunction;", .inr (.inr 6))]
def zstr : List (String × Nat × String × Nat) := [("FloatingDock", 48, "", 10), ("FloatingDock$Ship", 70, "!", 11), ("FloatingDock$Ship", 79, "", 12), ("FloatingDock$Parser", 113, "ship ", 13), ("FloatingDock$Parser", 115, "enter ", 14), ("FloatingDock$Parser", 91, "leave ", 15), ("FloatingDock$Parser", 97, "clean ", 16), ("FloatingDock$Parser", 99, "stop ", 17), ("FloatingDock$Parser", 117, "open", 18), ("FloatingDock$Parser", 119, "close", 19), ("FloatingDock$Parser", 121, "pump ", 20), ("FloatingDock$Parser", 101, "pass ", 21), ("FloatingDock$Parser", 103, "block ", 22), ("FloatingDock$Parser", 123, "unblock ", 23), ("FloatingDock$Parser", 125, "pay ", 24), ("FloatingDockModel", 253, "ship enter leave clean stop openclosepump pass block unblock pay ", 25)]
def znc : List (String × String) := [("FloatingDock$Refusal", "FloatingDock$SyntaxError"), ("FloatingDock$Refusal", "java/lang/ArithmeticException"), ("FloatingDock$Refusal", "java/lang/IllegalArgumentException"), ("FloatingDock$Refusal", "java/lang/IllegalStateException"), ("FloatingDock$Refusal", "java/lang/IndexOutOfBoundsException"), ("FloatingDock$Refusal", "java/lang/UnsupportedOperationException"), ("FloatingDock$Refusal", "java/util/NoSuchElementException"), ("FloatingDock$SyntaxError", "FloatingDock$Refusal"), ("FloatingDock$SyntaxError", "java/lang/ArithmeticException"), ("FloatingDock$SyntaxError", "java/lang/IllegalArgumentException"), ("FloatingDock$SyntaxError", "java/lang/IllegalStateException"), ("FloatingDock$SyntaxError", "java/lang/IndexOutOfBoundsException"), ("FloatingDock$SyntaxError", "java/lang/UnsupportedOperationException"), ("FloatingDock$SyntaxError", "java/util/NoSuchElementException"), ("java/lang/ArithmeticException", "FloatingDock$Refusal"), ("java/lang/ArithmeticException", "FloatingDock$SyntaxError"), ("java/lang/ArithmeticException", "java/lang/IllegalArgumentException"), ("java/lang/ArithmeticException", "java/lang/IllegalStateException"), ("java/lang/ArithmeticException", "java/lang/IndexOutOfBoundsException"), ("java/lang/ArithmeticException", "java/lang/UnsupportedOperationException"), ("java/lang/ArithmeticException", "java/util/NoSuchElementException"), ("java/lang/IllegalArgumentException", "FloatingDock$Refusal"), ("java/lang/IllegalArgumentException", "FloatingDock$SyntaxError"), ("java/lang/IllegalArgumentException", "java/lang/ArithmeticException"), ("java/lang/IllegalArgumentException", "java/lang/IllegalStateException"), ("java/lang/IllegalArgumentException", "java/lang/IndexOutOfBoundsException"), ("java/lang/IllegalArgumentException", "java/lang/UnsupportedOperationException"), ("java/lang/IllegalArgumentException", "java/util/NoSuchElementException"), ("java/lang/IllegalStateException", "FloatingDock$Refusal"), ("java/lang/IllegalStateException", "FloatingDock$SyntaxError"), ("java/lang/IllegalStateException", "java/lang/ArithmeticException"), ("java/lang/IllegalStateException", "java/lang/IllegalArgumentException"), ("java/lang/IllegalStateException", "java/lang/IndexOutOfBoundsException"), ("java/lang/IllegalStateException", "java/lang/UnsupportedOperationException"), ("java/lang/IllegalStateException", "java/util/NoSuchElementException"), ("java/lang/IndexOutOfBoundsException", "FloatingDock$Refusal"), ("java/lang/IndexOutOfBoundsException", "FloatingDock$SyntaxError"), ("java/lang/IndexOutOfBoundsException", "java/lang/ArithmeticException"), ("java/lang/IndexOutOfBoundsException", "java/lang/IllegalArgumentException"), ("java/lang/IndexOutOfBoundsException", "java/lang/IllegalStateException"), ("java/lang/IndexOutOfBoundsException", "java/lang/UnsupportedOperationException"), ("java/lang/IndexOutOfBoundsException", "java/util/NoSuchElementException"), ("java/lang/UnsupportedOperationException", "FloatingDock$Refusal"), ("java/lang/UnsupportedOperationException", "FloatingDock$SyntaxError"), ("java/lang/UnsupportedOperationException", "java/lang/ArithmeticException"), ("java/lang/UnsupportedOperationException", "java/lang/IllegalArgumentException"), ("java/lang/UnsupportedOperationException", "java/lang/IllegalStateException"), ("java/lang/UnsupportedOperationException", "java/lang/IndexOutOfBoundsException"), ("java/lang/UnsupportedOperationException", "java/util/NoSuchElementException"), ("java/util/NoSuchElementException", "FloatingDock$Refusal"), ("java/util/NoSuchElementException", "FloatingDock$SyntaxError"), ("java/util/NoSuchElementException", "java/lang/ArithmeticException"), ("java/util/NoSuchElementException", "java/lang/IllegalArgumentException"), ("java/util/NoSuchElementException", "java/lang/IllegalStateException"), ("java/util/NoSuchElementException", "java/lang/IndexOutOfBoundsException"), ("java/util/NoSuchElementException", "java/lang/UnsupportedOperationException"), ("java/util/HashMap$Node", "java/util/HashMap$TreeNode"), ("java/util/LinkedHashMap$Entry", "java/util/HashMap$TreeNode")]
def zfw : List (String × MethodName × MethodName) := [("java/util/LinkedHashMap$LinkedValueIterator", ⟨"java/util/Iterator", "hasNext", "()Z"⟩, ⟨"java/util/LinkedHashMap$LinkedHashIterator", "hasNext", "()Z"⟩), ("java/util/LinkedHashMap$LinkedValueIterator", ⟨"java/util/Iterator", "next", "()Ljava/lang/Object;"⟩, ⟨"java/util/LinkedHashMap$LinkedValueIterator", "next", "()Ljava/lang/Object;"⟩), ("java/util/LinkedHashMap$LinkedKeyIterator", ⟨"java/util/Iterator", "hasNext", "()Z"⟩, ⟨"java/util/LinkedHashMap$LinkedHashIterator", "hasNext", "()Z"⟩), ("java/util/LinkedHashMap$LinkedKeyIterator", ⟨"java/util/Iterator", "next", "()Ljava/lang/Object;"⟩, ⟨"java/util/LinkedHashMap$LinkedKeyIterator", "next", "()Ljava/lang/Object;"⟩), ("java/util/HashMap$KeyIterator", ⟨"java/util/Iterator", "hasNext", "()Z"⟩, ⟨"java/util/HashMap$HashIterator", "hasNext", "()Z"⟩), ("java/util/HashMap$KeyIterator", ⟨"java/util/Iterator", "next", "()Ljava/lang/Object;"⟩, ⟨"java/util/HashMap$KeyIterator", "next", "()Ljava/lang/Object;"⟩), ("java/util/ArrayList$Itr", ⟨"java/util/Iterator", "hasNext", "()Z"⟩, ⟨"java/util/ArrayList$Itr", "hasNext", "()Z"⟩), ("java/util/ArrayList$Itr", ⟨"java/util/Iterator", "next", "()Ljava/lang/Object;"⟩, ⟨"java/util/ArrayList$Itr", "next", "()Ljava/lang/Object;"⟩), ("FloatingDock$Stretch$1", ⟨"java/util/Iterator", "hasNext", "()Z"⟩, ⟨"FloatingDock$Stretch$1", "hasNext", "()Z"⟩), ("FloatingDock$Stretch$1", ⟨"java/util/Iterator", "next", "()Ljava/lang/Object;"⟩, ⟨"FloatingDock$Stretch$1", "next", "()Ljava/lang/Object;"⟩), ("java/util/LinkedHashMap$LinkedValues", ⟨"java/util/Collection", "iterator", "()Ljava/util/Iterator;"⟩, ⟨"java/util/LinkedHashMap$LinkedValues", "iterator", "()Ljava/util/Iterator;"⟩), ("java/util/LinkedHashMap$LinkedKeySet", ⟨"java/util/Set", "iterator", "()Ljava/util/Iterator;"⟩, ⟨"java/util/LinkedHashMap$LinkedKeySet", "iterator", "()Ljava/util/Iterator;"⟩), ("java/util/HashMap$KeySet", ⟨"java/util/Set", "iterator", "()Ljava/util/Iterator;"⟩, ⟨"java/util/HashMap$KeySet", "iterator", "()Ljava/util/Iterator;"⟩)]
def zif : List MethodName := [⟨"FloatingDock$Charge", "coins", "(LFloatingDock$Ship;II)I"⟩, ⟨"FloatingDock$GapFinder", "find", "(LFloatingDock$Yard;I)I"⟩, ⟨"FloatingDock$Operation", "apply", "(LFloatingDock$Yard;)I"⟩, ⟨"FloatingDock$Packer", "most", "(LFloatingDock$Yard;)I"⟩]
theorem zif_ok : ∀ x ∈ zif, x.cls ≠ "java/lang/invoke/MethodHandle" ∧ x.cls ≠ "java/lang/invoke/VarHandle" := by decide +kernel
theorem zfw_ok : ∀ q ∈ zfw, q.2.1.cls ≠ "java/lang/invoke/MethodHandle" ∧ q.2.1.cls ≠ "java/lang/invoke/VarHandle" := by decide +kernel
def zwk : Cond → Bool
  | .castable _ _ => true
  | .declares _ => true
  | .methodLinkNest _ _ _ _ => true
  | .fieldLinkNest _ _ _ _ _ _ => true
  | .publicMethod _ => true
  | .privateMethod _ => true
  | .arrayOver (.object _) => true
  | _ => false
theorem zcl_lt {t : Nat} {q : vw_C} (h : zcl[t]? = some q) : t < 200 := Nat.lt_of_lt_of_le (List.getElem?_eq_some_iff.mp h).1 (by decide)
theorem zcl_ta {t : Nat} {q : vw_C} (h : zcl[t]? = some q) : zta t = none := by
  unfold zta
  rw [if_pos (zcl_lt h)]
theorem zcl_la {t : Nat} {q : vw_C} (h : zcl[t]? = some q) : zla t = false := by
  have h1 := zcl_lt h
  unfold zla
  simp only [decide_eq_false_iff_not]
  omega
theorem zla_ta {t : Nat} (h : zla t = true) : zta t = none := by
  unfold zla at h
  simp only [decide_eq_true_eq] at h
  unfold zta
  rw [if_neg (by omega)]
  split <;> first | omega | rfl
