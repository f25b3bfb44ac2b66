set_option maxRecDepth 100000
/-! java/util/AbstractMap -/
def RJ0 : String := "java/util/AbstractMap"
abbrev cJ0_init : ByteArray := prog_50_method_1_code
def yJ0_init : MethodName := ⟨RJ0, "<init>", "()V"⟩
theorem q97 : (Jvm.Cond.initialized "java/util/AbstractMap") ∈ lw_all := lw_g (lw_at lw_m1 3 rfl) rfl
theorem q187 : (Jvm.Cond.instanceMethod ({ cls := "java/util/AbstractMap", name := "<init>", desc := "()V" } : Jvm.MethodName)) ∈ lw_all := lw_g (lw_at lw_m1 93 rfl) rfl
theorem q188 : (Jvm.Cond.code ({ cls := "java/util/AbstractMap", name := "<init>", desc := "()V" } : Jvm.MethodName) prog_50_method_1_code (1 : Nat) (Option.none : Option Jvm.ClassFile.FieldType)) ∈ lw_all := lw_g (lw_at lw_m1 94 rfl) rfl
theorem q189 : (Jvm.Cond.methodLink "java/util/AbstractMap" (1 : Nat) ({ cls := "java/lang/Object", name := "<init>", desc := "()V" } : Jvm.MethodName)) ∈ lw_all := lw_g (lw_at lw_m1 95 rfl) rfl
theorem q235 : (Jvm.Cond.soleField "java/util/AbstractMap" "keySet") ∈ lw_all := lw_g (lw_at lw_m1 141 rfl) rfl
theorem q237 : (Jvm.Cond.soleField "java/util/AbstractMap" "values") ∈ lw_all := lw_g (lw_at lw_m1 143 rfl) rfl

/-! java/util/HashMap -/
def RJ1 : String := "java/util/HashMap"
def TJ1 : u_T := fun k => match k with
  | 0 => ("java/util/AbstractMap", "keySet", "Ljava/util/Set;", false)
  | 1 => ("java/util/AbstractMap", "values", "Ljava/util/Collection;", false)
  | 2 => ("java/util/HashMap", "table", "[Ljava/util/HashMap$Node;", false)
  | 3 => ("java/util/HashMap", "entrySet", "Ljava/util/Set;", false)
  | 4 => ("java/util/HashMap", "size", "I", false)
  | 5 => ("java/util/HashMap", "modCount", "I", false)
  | 6 => ("java/util/HashMap", "threshold", "I", false)
  | _ => ("java/util/HashMap", "loadFactor", "F", true)
def tyJ1 : Nat → FieldType := fun k => match k with
  | 0 => .object "java/util/Set"
  | 1 => .object "java/util/Collection"
  | 2 => .array (.object "java/util/HashMap$Node")
  | 3 => .object "java/util/Set"
  | 4 => .int
  | 5 => .int
  | 6 => .int
  | _ => .float
abbrev wsJ10 : List Cond := u_ws RJ1 TJ1 8
theorem nmJ1 : ∀ a, a < 8 → ∀ b, b < 8 → a ≠ b → (TJ1 a).2.1 ≠ (TJ1 b).2.1 := by decide +kernel
theorem tyJ1_ok : ∀ k, k < 8 → parseFieldDescriptor (TJ1 k).2.2.1 = some (tyJ1 k) := by decide +kernel
abbrev cJ1_init : ByteArray := prog_60_method_7_code
def yJ1_init : MethodName := ⟨RJ1, "<init>", "()V"⟩
abbrev cJ1_keySet : ByteArray := prog_60_method_24_code
def yJ1_keySet : MethodName := ⟨RJ1, "keySet", "()Ljava/util/Set;"⟩
abbrev cJ1_size : ByteArray := prog_60_method_10_code
def yJ1_size : MethodName := ⟨RJ1, "size", "()I"⟩
abbrev cJ1_containsKey : ByteArray := prog_60_method_14_code
def yJ1_containsKey : MethodName := ⟨RJ1, "containsKey", "(Ljava/lang/Object;)Z"⟩
abbrev cJ1_getNode : ByteArray := prog_60_method_13_code
def yJ1_getNode : MethodName := ⟨RJ1, "getNode", "(Ljava/lang/Object;)Ljava/util/HashMap$Node;"⟩
abbrev cJ1_hash : ByteArray := prog_60_method_1_code
def yJ1_hash : MethodName := ⟨RJ1, "hash", "(Ljava/lang/Object;)I"⟩
abbrev cJ1_comparableClassFor : ByteArray := prog_60_method_2_code
def yJ1_comparableClassFor : MethodName := ⟨RJ1, "comparableClassFor", "(Ljava/lang/Object;)Ljava/lang/Class;"⟩
abbrev cJ1_compareComparables : ByteArray := prog_60_method_3_code
def yJ1_compareComparables : MethodName := ⟨RJ1, "compareComparables", "(Ljava/lang/Class;Ljava/lang/Object;Ljava/lang/Object;)I"⟩
abbrev cJ1_put : ByteArray := prog_60_method_15_code
def yJ1_put : MethodName := ⟨RJ1, "put", "(Ljava/lang/Object;Ljava/lang/Object;)Ljava/lang/Object;"⟩
abbrev cJ1_putVal : ByteArray := prog_60_method_16_code
def yJ1_putVal : MethodName := ⟨RJ1, "putVal", "(ILjava/lang/Object;Ljava/lang/Object;ZZ)Ljava/lang/Object;"⟩
abbrev cJ1_resize : ByteArray := prog_60_method_17_code
def yJ1_resize : MethodName := ⟨RJ1, "resize", "()[Ljava/util/HashMap$Node;"⟩
abbrev cJ1_replacementNode : ByteArray := prog_60_method_47_code
def yJ1_replacementNode : MethodName := ⟨RJ1, "replacementNode", "(Ljava/util/HashMap$Node;Ljava/util/HashMap$Node;)Ljava/util/HashMap$Node;"⟩
abbrev cJ1_newNode : ByteArray := prog_60_method_46_code
def yJ1_newNode : MethodName := ⟨RJ1, "newNode", "(ILjava/lang/Object;Ljava/lang/Object;Ljava/util/HashMap$Node;)Ljava/util/HashMap$Node;"⟩
abbrev cJ1_newTreeNode : ByteArray := prog_60_method_48_code
def yJ1_newTreeNode : MethodName := ⟨RJ1, "newTreeNode", "(ILjava/lang/Object;Ljava/lang/Object;Ljava/util/HashMap$Node;)Ljava/util/HashMap$TreeNode;"⟩
abbrev cJ1_treeifyBin : ByteArray := prog_60_method_18_code
def yJ1_treeifyBin : MethodName := ⟨RJ1, "treeifyBin", "([Ljava/util/HashMap$Node;I)V"⟩
abbrev cJ1_replacementTreeNode : ByteArray := prog_60_method_49_code
def yJ1_replacementTreeNode : MethodName := ⟨RJ1, "replacementTreeNode", "(Ljava/util/HashMap$Node;Ljava/util/HashMap$Node;)Ljava/util/HashMap$TreeNode;"⟩
abbrev cJ1_afterNodeAccess : ByteArray := prog_60_method_51_code
def yJ1_afterNodeAccess : MethodName := ⟨RJ1, "afterNodeAccess", "(Ljava/util/HashMap$Node;)V"⟩
abbrev cJ1_afterNodeInsertion : ByteArray := prog_60_method_52_code
def yJ1_afterNodeInsertion : MethodName := ⟨RJ1, "afterNodeInsertion", "(Z)V"⟩
abbrev cJ1_remove : ByteArray := prog_60_method_20_code
def yJ1_remove : MethodName := ⟨RJ1, "remove", "(Ljava/lang/Object;)Ljava/lang/Object;"⟩
abbrev cJ1_removeNode : ByteArray := prog_60_method_21_code
def yJ1_removeNode : MethodName := ⟨RJ1, "removeNode", "(ILjava/lang/Object;Ljava/lang/Object;ZZ)Ljava/util/HashMap$Node;"⟩
abbrev cJ1_afterNodeRemoval : ByteArray := prog_60_method_53_code
def yJ1_afterNodeRemoval : MethodName := ⟨RJ1, "afterNodeRemoval", "(Ljava/util/HashMap$Node;)V"⟩
abbrev cJ1_isEmpty : ByteArray := prog_60_method_11_code
def yJ1_isEmpty : MethodName := ⟨RJ1, "isEmpty", "()Z"⟩
theorem q98 : (Jvm.Cond.initialized "java/util/HashMap") ∈ lw_all := lw_g (lw_at lw_m1 4 rfl) rfl
theorem q184 : (Jvm.Cond.instanceMethod ({ cls := "java/util/HashMap", name := "<init>", desc := "()V" } : Jvm.MethodName)) ∈ lw_all := lw_g (lw_at lw_m1 90 rfl) rfl
theorem q185 : (Jvm.Cond.code ({ cls := "java/util/HashMap", name := "<init>", desc := "()V" } : Jvm.MethodName) prog_60_method_7_code (1 : Nat) (Option.none : Option Jvm.ClassFile.FieldType)) ∈ lw_all := lw_g (lw_at lw_m1 91 rfl) rfl
theorem q186 : (Jvm.Cond.methodLink "java/util/HashMap" (43 : Nat) ({ cls := "java/util/AbstractMap", name := "<init>", desc := "()V" } : Jvm.MethodName)) ∈ lw_all := lw_g (lw_at lw_m1 92 rfl) rfl
theorem q190 : (Jvm.Cond.constantFloat "java/util/HashMap" (92 : Nat) (1061158912 : UInt32)) ∈ lw_all := lw_g (lw_at lw_m1 96 rfl) rfl
theorem q198 : (Jvm.Cond.fieldLink "java/util/HashMap" (105 : Nat) "java/util/HashMap" "table" "[Ljava/util/HashMap$Node;") ∈ lw_all := lw_g (lw_at lw_m1 104 rfl) rfl
theorem q200 : (Jvm.Cond.fieldLink "java/util/HashMap" (156 : Nat) "java/util/HashMap" "size" "I") ∈ lw_all := lw_g (lw_at lw_m1 106 rfl) rfl
theorem q205 : (Jvm.Cond.fieldLink "java/util/HashMap" (202 : Nat) "java/util/HashMap" "modCount" "I") ∈ lw_all := lw_g (lw_at lw_m1 111 rfl) rfl
theorem q206 : (Jvm.Cond.fieldLink "java/util/HashMap" (88 : Nat) "java/util/HashMap" "threshold" "I") ∈ lw_all := lw_g (lw_at lw_m1 112 rfl) rfl
theorem q207 : (Jvm.Cond.fieldLink "java/util/HashMap" (81 : Nat) "java/util/HashMap" "loadFactor" "F") ∈ lw_all := lw_g (lw_at lw_m1 113 rfl) rfl
theorem q208 : (Jvm.Cond.fieldLink "java/util/HashMap" (239 : Nat) "java/util/HashMap" "keySet" "Ljava/util/Set;") ∈ lw_all := lw_g (lw_at lw_m1 114 rfl) rfl
theorem q209 : (Jvm.Cond.sameField "java/util/HashMap" "java/util/AbstractMap" "keySet" "Ljava/util/Set;") ∈ lw_all := lw_g (lw_at lw_m1 115 rfl) rfl
theorem q223 : (Jvm.Cond.soleField "java/util/HashMap" "table") ∈ lw_all := lw_g (lw_at lw_m1 129 rfl) rfl
theorem q225 : (Jvm.Cond.soleField "java/util/HashMap" "entrySet") ∈ lw_all := lw_g (lw_at lw_m1 131 rfl) rfl
theorem q227 : (Jvm.Cond.soleField "java/util/HashMap" "size") ∈ lw_all := lw_g (lw_at lw_m1 133 rfl) rfl
theorem q229 : (Jvm.Cond.soleField "java/util/HashMap" "modCount") ∈ lw_all := lw_g (lw_at lw_m1 135 rfl) rfl
theorem q231 : (Jvm.Cond.soleField "java/util/HashMap" "threshold") ∈ lw_all := lw_g (lw_at lw_m1 137 rfl) rfl
theorem q233 : (Jvm.Cond.soleField "java/util/HashMap" "loadFactor") ∈ lw_all := lw_g (lw_at lw_m1 139 rfl) rfl
theorem q252 : (Jvm.Cond.instantiable "java/util/HashMap" (8 : Nat)) ∈ lw_all := lw_g (lw_at lw_m1 158 rfl) rfl
theorem q254 : (Jvm.Cond.lays "java/util/HashMap" "java/util/HashMap" "table" "[Ljava/util/HashMap$Node;") ∈ lw_all := lw_g (lw_at lw_m1 160 rfl) rfl
theorem q255 : (Jvm.Cond.lays "java/util/HashMap" "java/util/HashMap" "entrySet" "Ljava/util/Set;") ∈ lw_all := lw_g (lw_at lw_m1 161 rfl) rfl
theorem q256 : (Jvm.Cond.lays "java/util/HashMap" "java/util/HashMap" "size" "I") ∈ lw_all := lw_g (lw_at lw_m1 162 rfl) rfl
theorem q257 : (Jvm.Cond.lays "java/util/HashMap" "java/util/HashMap" "modCount" "I") ∈ lw_all := lw_g (lw_at lw_m1 163 rfl) rfl
theorem q258 : (Jvm.Cond.lays "java/util/HashMap" "java/util/HashMap" "threshold" "I") ∈ lw_all := lw_g (lw_at lw_m1 164 rfl) rfl
theorem q259 : (Jvm.Cond.laysFinal "java/util/HashMap" "java/util/HashMap" "loadFactor" "F") ∈ lw_all := lw_g (lw_at lw_m1 165 rfl) rfl
theorem q260 : (Jvm.Cond.lays "java/util/HashMap" "java/util/AbstractMap" "keySet" "Ljava/util/Set;") ∈ lw_all := lw_g (lw_at lw_m1 166 rfl) rfl
theorem q261 : (Jvm.Cond.lays "java/util/HashMap" "java/util/AbstractMap" "values" "Ljava/util/Collection;") ∈ lw_all := lw_g (lw_at lw_m1 167 rfl) rfl
theorem q262 : (Jvm.Cond.superclass "java/util/HashMap" "java/util/AbstractMap") ∈ lw_all := lw_g (lw_at lw_m1 168 rfl) rfl
theorem q534 : (Jvm.Cond.instanceMethod ({ cls := "java/util/HashMap", name := "keySet", desc := "()Ljava/util/Set;" } : Jvm.MethodName)) ∈ lw_all := lw_g (lw_at lw_m2 200 rfl) rfl
theorem q535 : (Jvm.Cond.selects "java/util/HashMap" ({ cls := "java/util/HashMap", name := "keySet", desc := "()Ljava/util/Set;" } : Jvm.MethodName) ({ cls := "java/util/HashMap", name := "keySet", desc := "()Ljava/util/Set;" } : Jvm.MethodName)) ∈ lw_all := lw_g (lw_at lw_m2 201 rfl) rfl
theorem q536 : (Jvm.Cond.sameMethod "java/util/HashMap" "java/util/HashMap" "keySet" "()Ljava/util/Set;") ∈ lw_all := lw_g (lw_at lw_m2 202 rfl) rfl
theorem q558 : (Jvm.Cond.code ({ cls := "java/util/HashMap", name := "keySet", desc := "()Ljava/util/Set;" } : Jvm.MethodName) prog_60_method_24_code (2 : Nat) (Option.some (Jvm.ClassFile.FieldType.object "java/util/Set"))) ∈ lw_all := lw_g (lw_at lw_m2 224 rfl) rfl
theorem q559 : (Jvm.Cond.classLink "java/util/HashMap" (243 : Nat) "java/util/HashMap$KeySet") ∈ lw_all := lw_g (lw_at lw_m2 225 rfl) rfl
theorem q561 : (Jvm.Cond.methodLink "java/util/HashMap" (245 : Nat) ({ cls := "java/util/HashMap$KeySet", name := "<init>", desc := "(Ljava/util/HashMap;)V" } : Jvm.MethodName)) ∈ lw_all := lw_g (lw_at lw_m2 227 rfl) rfl
theorem q1264 : (Jvm.Cond.selects "java/util/HashMap" ({ cls := "java/lang/Object", name := "getClass", desc := "()Ljava/lang/Class;" } : Jvm.MethodName) ({ cls := "java/lang/Object", name := "getClass", desc := "()Ljava/lang/Class;" } : Jvm.MethodName)) ∈ lw_all := lw_g (lw_at lw_m5 210 rfl) rfl
theorem q1424 : (Jvm.Cond.declares ({ cls := "java/util/HashMap", name := "size", desc := "()I" } : Jvm.MethodName)) ∈ lw_tbl := lw_at lw_m6 130 rfl
theorem q1426 : (Jvm.Cond.instanceMethod ({ cls := "java/util/HashMap", name := "size", desc := "()I" } : Jvm.MethodName)) ∈ lw_all := lw_g (lw_at lw_m6 132 rfl) rfl
theorem q1427 : (Jvm.Cond.code ({ cls := "java/util/HashMap", name := "size", desc := "()I" } : Jvm.MethodName) prog_60_method_10_code (1 : Nat) (Option.some Jvm.ClassFile.FieldType.int)) ∈ lw_all := lw_g (lw_at lw_m6 133 rfl) rfl
theorem q1541 : (Jvm.Cond.instanceMethod ({ cls := "java/util/HashMap", name := "containsKey", desc := "(Ljava/lang/Object;)Z" } : Jvm.MethodName)) ∈ lw_all := lw_g (lw_at lw_m7 7 rfl) rfl
theorem q1542 : (Jvm.Cond.selects "java/util/HashMap" ({ cls := "java/util/HashMap", name := "containsKey", desc := "(Ljava/lang/Object;)Z" } : Jvm.MethodName) ({ cls := "java/util/HashMap", name := "containsKey", desc := "(Ljava/lang/Object;)Z" } : Jvm.MethodName)) ∈ lw_all := lw_g (lw_at lw_m7 8 rfl) rfl
theorem q1543 : (Jvm.Cond.sameMethod "java/util/HashMap" "java/util/HashMap" "containsKey" "(Ljava/lang/Object;)Z") ∈ lw_all := lw_g (lw_at lw_m7 9 rfl) rfl
theorem q1545 : (Jvm.Cond.code ({ cls := "java/util/HashMap", name := "containsKey", desc := "(Ljava/lang/Object;)Z" } : Jvm.MethodName) prog_60_method_14_code (2 : Nat) (Option.some Jvm.ClassFile.FieldType.boolean)) ∈ lw_all := lw_g (lw_at lw_m7 11 rfl) rfl
theorem q1546 : (Jvm.Cond.methodLink "java/util/HashMap" (158 : Nat) ({ cls := "java/util/HashMap", name := "getNode", desc := "(Ljava/lang/Object;)Ljava/util/HashMap$Node;" } : Jvm.MethodName)) ∈ lw_all := lw_g (lw_at lw_m7 12 rfl) rfl
theorem q1547 : (Jvm.Cond.instanceMethod ({ cls := "java/util/HashMap", name := "getNode", desc := "(Ljava/lang/Object;)Ljava/util/HashMap$Node;" } : Jvm.MethodName)) ∈ lw_all := lw_g (lw_at lw_m7 13 rfl) rfl
theorem q1548 : (Jvm.Cond.selects "java/util/HashMap" ({ cls := "java/util/HashMap", name := "getNode", desc := "(Ljava/lang/Object;)Ljava/util/HashMap$Node;" } : Jvm.MethodName) ({ cls := "java/util/HashMap", name := "getNode", desc := "(Ljava/lang/Object;)Ljava/util/HashMap$Node;" } : Jvm.MethodName)) ∈ lw_all := lw_g (lw_at lw_m7 14 rfl) rfl
theorem q1549 : (Jvm.Cond.sameMethod "java/util/HashMap" "java/util/HashMap" "getNode" "(Ljava/lang/Object;)Ljava/util/HashMap$Node;") ∈ lw_all := lw_g (lw_at lw_m7 15 rfl) rfl
theorem q1551 : (Jvm.Cond.code ({ cls := "java/util/HashMap", name := "getNode", desc := "(Ljava/lang/Object;)Ljava/util/HashMap$Node;" } : Jvm.MethodName) prog_60_method_13_code (8 : Nat) (Option.some (Jvm.ClassFile.FieldType.object "java/util/HashMap$Node"))) ∈ lw_all := lw_g (lw_at lw_m7 17 rfl) rfl
theorem q1552 : (Jvm.Cond.methodLink "java/util/HashMap" (149 : Nat) ({ cls := "java/util/HashMap", name := "hash", desc := "(Ljava/lang/Object;)I" } : Jvm.MethodName)) ∈ lw_all := lw_g (lw_at lw_m7 18 rfl) rfl
theorem q1553 : (Jvm.Cond.static ({ cls := "java/util/HashMap", name := "hash", desc := "(Ljava/lang/Object;)I" } : Jvm.MethodName)) ∈ lw_all := lw_g (lw_at lw_m7 19 rfl) rfl
theorem q1554 : (Jvm.Cond.code ({ cls := "java/util/HashMap", name := "hash", desc := "(Ljava/lang/Object;)I" } : Jvm.MethodName) prog_60_method_1_code (2 : Nat) (Option.some Jvm.ClassFile.FieldType.int)) ∈ lw_all := lw_g (lw_at lw_m7 20 rfl) rfl
theorem q1556 : (Jvm.Cond.methodLink "java/util/HashMap" (1 : Nat) ({ cls := "java/lang/Object", name := "hashCode", desc := "()I" } : Jvm.MethodName)) ∈ lw_all := lw_g (lw_at lw_m7 22 rfl) rfl
theorem q1651 : (Jvm.Cond.methodLink "java/util/HashMap" (173 : Nat) ({ cls := "java/lang/Object", name := "equals", desc := "(Ljava/lang/Object;)Z" } : Jvm.MethodName)) ∈ lw_all := lw_g (lw_at lw_m7 117 rfl) rfl
theorem q1694 : (Jvm.Cond.classLink "java/util/HashMap" (180 : Nat) "java/util/HashMap$TreeNode") ∈ lw_all := lw_g (lw_at lw_m7 160 rfl) rfl
theorem q1695 : (Jvm.Cond.methodLink "java/util/HashMap" (182 : Nat) ({ cls := "java/util/HashMap$TreeNode", name := "getTreeNode", desc := "(ILjava/lang/Object;)Ljava/util/HashMap$TreeNode;" } : Jvm.MethodName)) ∈ lw_all := lw_g (lw_at lw_m7 161 rfl) rfl
theorem q1709 : (Jvm.Cond.static ({ cls := "java/util/HashMap", name := "comparableClassFor", desc := "(Ljava/lang/Object;)Ljava/lang/Class;" } : Jvm.MethodName)) ∈ lw_all := lw_g (lw_at lw_m7 175 rfl) rfl
theorem q1710 : (Jvm.Cond.code ({ cls := "java/util/HashMap", name := "comparableClassFor", desc := "(Ljava/lang/Object;)Ljava/lang/Class;" } : Jvm.MethodName) prog_60_method_2_code (9 : Nat) (Option.some (Jvm.ClassFile.FieldType.object "java/lang/Class"))) ∈ lw_all := lw_g (lw_at lw_m7 176 rfl) rfl
theorem q1711 : (Jvm.Cond.classLink "java/util/HashMap" (7 : Nat) "java/lang/Comparable") ∈ lw_all := lw_g (lw_at lw_m7 177 rfl) rfl
theorem q1712 : (Jvm.Cond.methodLink "java/util/HashMap" (9 : Nat) ({ cls := "java/lang/Object", name := "getClass", desc := "()Ljava/lang/Class;" } : Jvm.MethodName)) ∈ lw_all := lw_g (lw_at lw_m7 178 rfl) rfl
theorem q1713 : (Jvm.Cond.classLink "java/util/HashMap" (13 : Nat) "java/lang/String") ∈ lw_all := lw_g (lw_at lw_m7 179 rfl) rfl
theorem q1715 : (Jvm.Cond.static ({ cls := "java/util/HashMap", name := "compareComparables", desc := "(Ljava/lang/Class;Ljava/lang/Object;Ljava/lang/Object;)I" } : Jvm.MethodName)) ∈ lw_all := lw_g (lw_at lw_m7 181 rfl) rfl
theorem q1716 : (Jvm.Cond.code ({ cls := "java/util/HashMap", name := "compareComparables", desc := "(Ljava/lang/Class;Ljava/lang/Object;Ljava/lang/Object;)I" } : Jvm.MethodName) prog_60_method_3_code (3 : Nat) (Option.some Jvm.ClassFile.FieldType.int)) ∈ lw_all := lw_g (lw_at lw_m7 182 rfl) rfl
theorem q1717 : (Jvm.Cond.interfaceEntry "java/util/HashMap" (30 : Nat)) ∈ lw_tbl := lw_at lw_m7 183 rfl
theorem q1718 : (Jvm.Cond.methodLink "java/util/HashMap" (30 : Nat) ({ cls := "java/lang/Comparable", name := "compareTo", desc := "(Ljava/lang/Object;)I" } : Jvm.MethodName)) ∈ lw_all := lw_g (lw_at lw_m7 184 rfl) rfl
theorem q2048 : (Jvm.Cond.declares ({ cls := "java/util/HashMap", name := "put", desc := "(Ljava/lang/Object;Ljava/lang/Object;)Ljava/lang/Object;" } : Jvm.MethodName)) ∈ lw_tbl := lw_at lw_m9 34 rfl
theorem q2050 : (Jvm.Cond.instanceMethod ({ cls := "java/util/HashMap", name := "put", desc := "(Ljava/lang/Object;Ljava/lang/Object;)Ljava/lang/Object;" } : Jvm.MethodName)) ∈ lw_all := lw_g (lw_at lw_m9 36 rfl) rfl
theorem q2051 : (Jvm.Cond.code ({ cls := "java/util/HashMap", name := "put", desc := "(Ljava/lang/Object;Ljava/lang/Object;)Ljava/lang/Object;" } : Jvm.MethodName) prog_60_method_15_code (3 : Nat) (Option.some (Jvm.ClassFile.FieldType.object "java/lang/Object"))) ∈ lw_all := lw_g (lw_at lw_m9 37 rfl) rfl
theorem q2052 : (Jvm.Cond.methodLink "java/util/HashMap" (152 : Nat) ({ cls := "java/util/HashMap", name := "putVal", desc := "(ILjava/lang/Object;Ljava/lang/Object;ZZ)Ljava/lang/Object;" } : Jvm.MethodName)) ∈ lw_all := lw_g (lw_at lw_m9 38 rfl) rfl
theorem q2053 : (Jvm.Cond.instanceMethod ({ cls := "java/util/HashMap", name := "putVal", desc := "(ILjava/lang/Object;Ljava/lang/Object;ZZ)Ljava/lang/Object;" } : Jvm.MethodName)) ∈ lw_all := lw_g (lw_at lw_m9 39 rfl) rfl
theorem q2054 : (Jvm.Cond.selects "java/util/HashMap" ({ cls := "java/util/HashMap", name := "putVal", desc := "(ILjava/lang/Object;Ljava/lang/Object;ZZ)Ljava/lang/Object;" } : Jvm.MethodName) ({ cls := "java/util/HashMap", name := "putVal", desc := "(ILjava/lang/Object;Ljava/lang/Object;ZZ)Ljava/lang/Object;" } : Jvm.MethodName)) ∈ lw_all := lw_g (lw_at lw_m9 40 rfl) rfl
theorem q2055 : (Jvm.Cond.sameMethod "java/util/HashMap" "java/util/HashMap" "putVal" "(ILjava/lang/Object;Ljava/lang/Object;ZZ)Ljava/lang/Object;") ∈ lw_all := lw_g (lw_at lw_m9 41 rfl) rfl
theorem q2057 : (Jvm.Cond.code ({ cls := "java/util/HashMap", name := "putVal", desc := "(ILjava/lang/Object;Ljava/lang/Object;ZZ)Ljava/lang/Object;" } : Jvm.MethodName) prog_60_method_16_code (13 : Nat) (Option.some (Jvm.ClassFile.FieldType.object "java/lang/Object"))) ∈ lw_all := lw_g (lw_at lw_m9 43 rfl) rfl
theorem q2058 : (Jvm.Cond.methodLink "java/util/HashMap" (117 : Nat) ({ cls := "java/util/HashMap", name := "resize", desc := "()[Ljava/util/HashMap$Node;" } : Jvm.MethodName)) ∈ lw_all := lw_g (lw_at lw_m9 44 rfl) rfl
theorem q2059 : (Jvm.Cond.instanceMethod ({ cls := "java/util/HashMap", name := "resize", desc := "()[Ljava/util/HashMap$Node;" } : Jvm.MethodName)) ∈ lw_all := lw_g (lw_at lw_m9 45 rfl) rfl
theorem q2060 : (Jvm.Cond.selects "java/util/HashMap" ({ cls := "java/util/HashMap", name := "resize", desc := "()[Ljava/util/HashMap$Node;" } : Jvm.MethodName) ({ cls := "java/util/HashMap", name := "resize", desc := "()[Ljava/util/HashMap$Node;" } : Jvm.MethodName)) ∈ lw_all := lw_g (lw_at lw_m9 46 rfl) rfl
theorem q2061 : (Jvm.Cond.sameMethod "java/util/HashMap" "java/util/HashMap" "resize" "()[Ljava/util/HashMap$Node;") ∈ lw_all := lw_g (lw_at lw_m9 47 rfl) rfl
theorem q2063 : (Jvm.Cond.code ({ cls := "java/util/HashMap", name := "resize", desc := "()[Ljava/util/HashMap$Node;" } : Jvm.MethodName) prog_60_method_17_code (14 : Nat) (Option.some (Jvm.ClassFile.FieldType.array (Jvm.ClassFile.FieldType.object "java/util/HashMap$Node")))) ∈ lw_all := lw_g (lw_at lw_m9 49 rfl) rfl
theorem q2064 : (Jvm.Cond.constant "java/util/HashMap" (42 : Nat) (1073741824 : Int32)) ∈ lw_all := lw_g (lw_at lw_m9 50 rfl) rfl
theorem q2065 : (Jvm.Cond.constant "java/util/HashMap" (209 : Nat) (2147483647 : Int32)) ∈ lw_all := lw_g (lw_at lw_m9 51 rfl) rfl
theorem q2066 : (Jvm.Cond.constantFloat "java/util/HashMap" (210 : Nat) (1317011456 : UInt32)) ∈ lw_all := lw_g (lw_at lw_m9 52 rfl) rfl
theorem q2067 : (Jvm.Cond.classLink "java/util/HashMap" (163 : Nat) "java/util/HashMap$Node") ∈ lw_all := lw_g (lw_at lw_m9 53 rfl) rfl
theorem q2069 : (Jvm.Cond.methodLink "java/util/HashMap" (211 : Nat) ({ cls := "java/util/HashMap$TreeNode", name := "split", desc := "(Ljava/util/HashMap;[Ljava/util/HashMap$Node;II)V" } : Jvm.MethodName)) ∈ lw_all := lw_g (lw_at lw_m9 55 rfl) rfl
theorem q2079 : (Jvm.Cond.instanceMethod ({ cls := "java/util/HashMap", name := "replacementNode", desc := "(Ljava/util/HashMap$Node;Ljava/util/HashMap$Node;)Ljava/util/HashMap$Node;" } : Jvm.MethodName)) ∈ lw_all := lw_g (lw_at lw_m9 65 rfl) rfl
theorem q2080 : (Jvm.Cond.selects "java/util/HashMap" ({ cls := "java/util/HashMap", name := "replacementNode", desc := "(Ljava/util/HashMap$Node;Ljava/util/HashMap$Node;)Ljava/util/HashMap$Node;" } : Jvm.MethodName) ({ cls := "java/util/HashMap", name := "replacementNode", desc := "(Ljava/util/HashMap$Node;Ljava/util/HashMap$Node;)Ljava/util/HashMap$Node;" } : Jvm.MethodName)) ∈ lw_all := lw_g (lw_at lw_m9 66 rfl) rfl
theorem q2081 : (Jvm.Cond.sameMethod "java/util/HashMap" "java/util/HashMap" "replacementNode" "(Ljava/util/HashMap$Node;Ljava/util/HashMap$Node;)Ljava/util/HashMap$Node;") ∈ lw_all := lw_g (lw_at lw_m9 67 rfl) rfl
theorem q2103 : (Jvm.Cond.fieldLink "java/util/HashMap" (168 : Nat) "java/util/HashMap$Node" "hash" "I") ∈ lw_all := lw_g (lw_at lw_m9 89 rfl) rfl
theorem q2110 : (Jvm.Cond.fieldLink "java/util/HashMap" (170 : Nat) "java/util/HashMap$Node" "key" "Ljava/lang/Object;") ∈ lw_all := lw_g (lw_at lw_m9 96 rfl) rfl
theorem q2115 : (Jvm.Cond.fieldLink "java/util/HashMap" (162 : Nat) "java/util/HashMap$Node" "value" "Ljava/lang/Object;") ∈ lw_all := lw_g (lw_at lw_m9 101 rfl) rfl
theorem q2122 : (Jvm.Cond.fieldLink "java/util/HashMap" (177 : Nat) "java/util/HashMap$Node" "next" "Ljava/util/HashMap$Node;") ∈ lw_all := lw_g (lw_at lw_m9 108 rfl) rfl
theorem q2123 : (Jvm.Cond.fieldLink "java/util/HashMap" (223 : Nat) "java/util/HashMap$TreeNode" "next" "Ljava/util/HashMap$Node;") ∈ lw_all := lw_g (lw_at lw_m9 109 rfl) rfl
theorem q2141 : (Jvm.Cond.code ({ cls := "java/util/HashMap", name := "replacementNode", desc := "(Ljava/util/HashMap$Node;Ljava/util/HashMap$Node;)Ljava/util/HashMap$Node;" } : Jvm.MethodName) prog_60_method_47_code (3 : Nat) (Option.some (Jvm.ClassFile.FieldType.object "java/util/HashMap$Node"))) ∈ lw_all := lw_g (lw_at lw_m9 127 rfl) rfl
theorem q2143 : (Jvm.Cond.methodLink "java/util/HashMap" (375 : Nat) ({ cls := "java/util/HashMap$Node", name := "<init>", desc := "(ILjava/lang/Object;Ljava/lang/Object;Ljava/util/HashMap$Node;)V" } : Jvm.MethodName)) ∈ lw_all := lw_g (lw_at lw_m9 129 rfl) rfl
theorem q2167 : (Jvm.Cond.methodLink "java/util/HashMap" (186 : Nat) ({ cls := "java/util/HashMap", name := "newNode", desc := "(ILjava/lang/Object;Ljava/lang/Object;Ljava/util/HashMap$Node;)Ljava/util/HashMap$Node;" } : Jvm.MethodName)) ∈ lw_all := lw_g (lw_at lw_m9 153 rfl) rfl
theorem q2168 : (Jvm.Cond.instanceMethod ({ cls := "java/util/HashMap", name := "newNode", desc := "(ILjava/lang/Object;Ljava/lang/Object;Ljava/util/HashMap$Node;)Ljava/util/HashMap$Node;" } : Jvm.MethodName)) ∈ lw_all := lw_g (lw_at lw_m9 154 rfl) rfl
theorem q2169 : (Jvm.Cond.selects "java/util/HashMap" ({ cls := "java/util/HashMap", name := "newNode", desc := "(ILjava/lang/Object;Ljava/lang/Object;Ljava/util/HashMap$Node;)Ljava/util/HashMap$Node;" } : Jvm.MethodName) ({ cls := "java/util/HashMap", name := "newNode", desc := "(ILjava/lang/Object;Ljava/lang/Object;Ljava/util/HashMap$Node;)Ljava/util/HashMap$Node;" } : Jvm.MethodName)) ∈ lw_all := lw_g (lw_at lw_m9 155 rfl) rfl
theorem q2170 : (Jvm.Cond.sameMethod "java/util/HashMap" "java/util/HashMap" "newNode" "(ILjava/lang/Object;Ljava/lang/Object;Ljava/util/HashMap$Node;)Ljava/util/HashMap$Node;") ∈ lw_all := lw_g (lw_at lw_m9 156 rfl) rfl
theorem q2178 : (Jvm.Cond.code ({ cls := "java/util/HashMap", name := "newNode", desc := "(ILjava/lang/Object;Ljava/lang/Object;Ljava/util/HashMap$Node;)Ljava/util/HashMap$Node;" } : Jvm.MethodName) prog_60_method_46_code (5 : Nat) (Option.some (Jvm.ClassFile.FieldType.object "java/util/HashMap$Node"))) ∈ lw_all := lw_g (lw_at lw_m9 164 rfl) rfl
theorem q2179 : (Jvm.Cond.methodLink "java/util/HashMap" (190 : Nat) ({ cls := "java/util/HashMap$TreeNode", name := "putTreeVal", desc := "(Ljava/util/HashMap;[Ljava/util/HashMap$Node;ILjava/lang/Object;Ljava/lang/Object;)Ljava/util/HashMap$TreeNode;" } : Jvm.MethodName)) ∈ lw_all := lw_g (lw_at lw_m9 165 rfl) rfl
theorem q2184 : (Jvm.Cond.instanceMethod ({ cls := "java/util/HashMap", name := "newTreeNode", desc := "(ILjava/lang/Object;Ljava/lang/Object;Ljava/util/HashMap$Node;)Ljava/util/HashMap$TreeNode;" } : Jvm.MethodName)) ∈ lw_all := lw_g (lw_at lw_m9 170 rfl) rfl
theorem q2185 : (Jvm.Cond.selects "java/util/HashMap" ({ cls := "java/util/HashMap", name := "newTreeNode", desc := "(ILjava/lang/Object;Ljava/lang/Object;Ljava/util/HashMap$Node;)Ljava/util/HashMap$TreeNode;" } : Jvm.MethodName) ({ cls := "java/util/HashMap", name := "newTreeNode", desc := "(ILjava/lang/Object;Ljava/lang/Object;Ljava/util/HashMap$Node;)Ljava/util/HashMap$TreeNode;" } : Jvm.MethodName)) ∈ lw_all := lw_g (lw_at lw_m9 171 rfl) rfl
theorem q2186 : (Jvm.Cond.sameMethod "java/util/HashMap" "java/util/HashMap" "newTreeNode" "(ILjava/lang/Object;Ljava/lang/Object;Ljava/util/HashMap$Node;)Ljava/util/HashMap$TreeNode;") ∈ lw_all := lw_g (lw_at lw_m9 172 rfl) rfl
theorem q2200 : (Jvm.Cond.fieldLink "java/util/HashMap" (219 : Nat) "java/util/HashMap$TreeNode" "prev" "Ljava/util/HashMap$TreeNode;") ∈ lw_all := lw_g (lw_at lw_m9 186 rfl) rfl
theorem q2219 : (Jvm.Cond.code ({ cls := "java/util/HashMap", name := "newTreeNode", desc := "(ILjava/lang/Object;Ljava/lang/Object;Ljava/util/HashMap$Node;)Ljava/util/HashMap$TreeNode;" } : Jvm.MethodName) prog_60_method_48_code (5 : Nat) (Option.some (Jvm.ClassFile.FieldType.object "java/util/HashMap$TreeNode"))) ∈ lw_all := lw_g (lw_at lw_m9 205 rfl) rfl
theorem q2220 : (Jvm.Cond.methodLink "java/util/HashMap" (378 : Nat) ({ cls := "java/util/HashMap$TreeNode", name := "<init>", desc := "(ILjava/lang/Object;Ljava/lang/Object;Ljava/util/HashMap$Node;)V" } : Jvm.MethodName)) ∈ lw_all := lw_g (lw_at lw_m9 206 rfl) rfl
theorem q2221 : (Jvm.Cond.methodLink "java/util/HashMap" (194 : Nat) ({ cls := "java/util/HashMap", name := "treeifyBin", desc := "([Ljava/util/HashMap$Node;I)V" } : Jvm.MethodName)) ∈ lw_all := lw_g (lw_at lw_m9 207 rfl) rfl
theorem q2222 : (Jvm.Cond.instanceMethod ({ cls := "java/util/HashMap", name := "treeifyBin", desc := "([Ljava/util/HashMap$Node;I)V" } : Jvm.MethodName)) ∈ lw_all := lw_g (lw_at lw_m9 208 rfl) rfl
theorem q2223 : (Jvm.Cond.selects "java/util/HashMap" ({ cls := "java/util/HashMap", name := "treeifyBin", desc := "([Ljava/util/HashMap$Node;I)V" } : Jvm.MethodName) ({ cls := "java/util/HashMap", name := "treeifyBin", desc := "([Ljava/util/HashMap$Node;I)V" } : Jvm.MethodName)) ∈ lw_all := lw_g (lw_at lw_m9 209 rfl) rfl
theorem q2224 : (Jvm.Cond.sameMethod "java/util/HashMap" "java/util/HashMap" "treeifyBin" "([Ljava/util/HashMap$Node;I)V") ∈ lw_all := lw_g (lw_at lw_m9 210 rfl) rfl
theorem q2226 : (Jvm.Cond.code ({ cls := "java/util/HashMap", name := "treeifyBin", desc := "([Ljava/util/HashMap$Node;I)V" } : Jvm.MethodName) prog_60_method_18_code (9 : Nat) (Option.none : Option Jvm.ClassFile.FieldType)) ∈ lw_all := lw_g (lw_at lw_m9 212 rfl) rfl
theorem q2227 : (Jvm.Cond.methodLink "java/util/HashMap" (215 : Nat) ({ cls := "java/util/HashMap", name := "replacementTreeNode", desc := "(Ljava/util/HashMap$Node;Ljava/util/HashMap$Node;)Ljava/util/HashMap$TreeNode;" } : Jvm.MethodName)) ∈ lw_all := lw_g (lw_at lw_m9 213 rfl) rfl
theorem q2228 : (Jvm.Cond.instanceMethod ({ cls := "java/util/HashMap", name := "replacementTreeNode", desc := "(Ljava/util/HashMap$Node;Ljava/util/HashMap$Node;)Ljava/util/HashMap$TreeNode;" } : Jvm.MethodName)) ∈ lw_all := lw_g (lw_at lw_m9 214 rfl) rfl
theorem q2229 : (Jvm.Cond.selects "java/util/HashMap" ({ cls := "java/util/HashMap", name := "replacementTreeNode", desc := "(Ljava/util/HashMap$Node;Ljava/util/HashMap$Node;)Ljava/util/HashMap$TreeNode;" } : Jvm.MethodName) ({ cls := "java/util/HashMap", name := "replacementTreeNode", desc := "(Ljava/util/HashMap$Node;Ljava/util/HashMap$Node;)Ljava/util/HashMap$TreeNode;" } : Jvm.MethodName)) ∈ lw_all := lw_g (lw_at lw_m9 215 rfl) rfl
theorem q2230 : (Jvm.Cond.sameMethod "java/util/HashMap" "java/util/HashMap" "replacementTreeNode" "(Ljava/util/HashMap$Node;Ljava/util/HashMap$Node;)Ljava/util/HashMap$TreeNode;") ∈ lw_all := lw_g (lw_at lw_m9 216 rfl) rfl
theorem q2234 : (Jvm.Cond.code ({ cls := "java/util/HashMap", name := "replacementTreeNode", desc := "(Ljava/util/HashMap$Node;Ljava/util/HashMap$Node;)Ljava/util/HashMap$TreeNode;" } : Jvm.MethodName) prog_60_method_49_code (3 : Nat) (Option.some (Jvm.ClassFile.FieldType.object "java/util/HashMap$TreeNode"))) ∈ lw_all := lw_g (lw_at lw_m9 220 rfl) rfl
theorem q2235 : (Jvm.Cond.methodLink "java/util/HashMap" (224 : Nat) ({ cls := "java/util/HashMap$TreeNode", name := "treeify", desc := "([Ljava/util/HashMap$Node;)V" } : Jvm.MethodName)) ∈ lw_all := lw_g (lw_at lw_m9 221 rfl) rfl
theorem q2236 : (Jvm.Cond.methodLink "java/util/HashMap" (198 : Nat) ({ cls := "java/util/HashMap", name := "afterNodeAccess", desc := "(Ljava/util/HashMap$Node;)V" } : Jvm.MethodName)) ∈ lw_all := lw_g (lw_at lw_m9 222 rfl) rfl
theorem q2237 : (Jvm.Cond.instanceMethod ({ cls := "java/util/HashMap", name := "afterNodeAccess", desc := "(Ljava/util/HashMap$Node;)V" } : Jvm.MethodName)) ∈ lw_all := lw_g (lw_at lw_m9 223 rfl) rfl
theorem q2238 : (Jvm.Cond.selects "java/util/HashMap" ({ cls := "java/util/HashMap", name := "afterNodeAccess", desc := "(Ljava/util/HashMap$Node;)V" } : Jvm.MethodName) ({ cls := "java/util/HashMap", name := "afterNodeAccess", desc := "(Ljava/util/HashMap$Node;)V" } : Jvm.MethodName)) ∈ lw_all := lw_g (lw_at lw_m9 224 rfl) rfl
theorem q2239 : (Jvm.Cond.sameMethod "java/util/HashMap" "java/util/HashMap" "afterNodeAccess" "(Ljava/util/HashMap$Node;)V") ∈ lw_all := lw_g (lw_at lw_m9 225 rfl) rfl
theorem q2243 : (Jvm.Cond.code ({ cls := "java/util/HashMap", name := "afterNodeAccess", desc := "(Ljava/util/HashMap$Node;)V" } : Jvm.MethodName) prog_60_method_51_code (2 : Nat) (Option.none : Option Jvm.ClassFile.FieldType)) ∈ lw_all := lw_g (lw_at lw_m9 229 rfl) rfl
theorem q2244 : (Jvm.Cond.methodLink "java/util/HashMap" (205 : Nat) ({ cls := "java/util/HashMap", name := "afterNodeInsertion", desc := "(Z)V" } : Jvm.MethodName)) ∈ lw_all := lw_g (lw_at lw_m9 230 rfl) rfl
theorem q2245 : (Jvm.Cond.instanceMethod ({ cls := "java/util/HashMap", name := "afterNodeInsertion", desc := "(Z)V" } : Jvm.MethodName)) ∈ lw_all := lw_g (lw_at lw_m9 231 rfl) rfl
theorem q2246 : (Jvm.Cond.selects "java/util/HashMap" ({ cls := "java/util/HashMap", name := "afterNodeInsertion", desc := "(Z)V" } : Jvm.MethodName) ({ cls := "java/util/HashMap", name := "afterNodeInsertion", desc := "(Z)V" } : Jvm.MethodName)) ∈ lw_all := lw_g (lw_at lw_m9 232 rfl) rfl
theorem q2247 : (Jvm.Cond.sameMethod "java/util/HashMap" "java/util/HashMap" "afterNodeInsertion" "(Z)V") ∈ lw_all := lw_g (lw_at lw_m9 233 rfl) rfl
theorem q2255 : (Jvm.Cond.code ({ cls := "java/util/HashMap", name := "afterNodeInsertion", desc := "(Z)V" } : Jvm.MethodName) prog_60_method_52_code (2 : Nat) (Option.none : Option Jvm.ClassFile.FieldType)) ∈ lw_all := lw_g (lw_at lw_m10 1 rfl) rfl
theorem q2392 : (Jvm.Cond.declares ({ cls := "java/util/HashMap", name := "containsKey", desc := "(Ljava/lang/Object;)Z" } : Jvm.MethodName)) ∈ lw_tbl := lw_at lw_m10 138 rfl
theorem q2405 : (Jvm.Cond.declares ({ cls := "java/util/HashMap", name := "getNode", desc := "(Ljava/lang/Object;)Ljava/util/HashMap$Node;" } : Jvm.MethodName)) ∈ lw_tbl := lw_at lw_m10 151 rfl
theorem q2410 : (Jvm.Cond.declares ({ cls := "java/util/HashMap", name := "remove", desc := "(Ljava/lang/Object;)Ljava/lang/Object;" } : Jvm.MethodName)) ∈ lw_tbl := lw_at lw_m10 156 rfl
theorem q2412 : (Jvm.Cond.instanceMethod ({ cls := "java/util/HashMap", name := "remove", desc := "(Ljava/lang/Object;)Ljava/lang/Object;" } : Jvm.MethodName)) ∈ lw_all := lw_g (lw_at lw_m10 158 rfl) rfl
theorem q2413 : (Jvm.Cond.code ({ cls := "java/util/HashMap", name := "remove", desc := "(Ljava/lang/Object;)Ljava/lang/Object;" } : Jvm.MethodName) prog_60_method_20_code (3 : Nat) (Option.some (Jvm.ClassFile.FieldType.object "java/lang/Object"))) ∈ lw_all := lw_g (lw_at lw_m10 159 rfl) rfl
theorem q2414 : (Jvm.Cond.methodLink "java/util/HashMap" (228 : Nat) ({ cls := "java/util/HashMap", name := "removeNode", desc := "(ILjava/lang/Object;Ljava/lang/Object;ZZ)Ljava/util/HashMap$Node;" } : Jvm.MethodName)) ∈ lw_all := lw_g (lw_at lw_m10 160 rfl) rfl
theorem q2415 : (Jvm.Cond.instanceMethod ({ cls := "java/util/HashMap", name := "removeNode", desc := "(ILjava/lang/Object;Ljava/lang/Object;ZZ)Ljava/util/HashMap$Node;" } : Jvm.MethodName)) ∈ lw_all := lw_g (lw_at lw_m10 161 rfl) rfl
theorem q2416 : (Jvm.Cond.selects "java/util/HashMap" ({ cls := "java/util/HashMap", name := "removeNode", desc := "(ILjava/lang/Object;Ljava/lang/Object;ZZ)Ljava/util/HashMap$Node;" } : Jvm.MethodName) ({ cls := "java/util/HashMap", name := "removeNode", desc := "(ILjava/lang/Object;Ljava/lang/Object;ZZ)Ljava/util/HashMap$Node;" } : Jvm.MethodName)) ∈ lw_all := lw_g (lw_at lw_m10 162 rfl) rfl
theorem q2417 : (Jvm.Cond.sameMethod "java/util/HashMap" "java/util/HashMap" "removeNode" "(ILjava/lang/Object;Ljava/lang/Object;ZZ)Ljava/util/HashMap$Node;") ∈ lw_all := lw_g (lw_at lw_m10 163 rfl) rfl
theorem q2419 : (Jvm.Cond.code ({ cls := "java/util/HashMap", name := "removeNode", desc := "(ILjava/lang/Object;Ljava/lang/Object;ZZ)Ljava/util/HashMap$Node;" } : Jvm.MethodName) prog_60_method_21_code (14 : Nat) (Option.some (Jvm.ClassFile.FieldType.object "java/util/HashMap$Node"))) ∈ lw_all := lw_g (lw_at lw_m10 165 rfl) rfl
theorem q2420 : (Jvm.Cond.methodLink "java/util/HashMap" (232 : Nat) ({ cls := "java/util/HashMap$TreeNode", name := "removeTreeNode", desc := "(Ljava/util/HashMap;[Ljava/util/HashMap$Node;Z)V" } : Jvm.MethodName)) ∈ lw_all := lw_g (lw_at lw_m10 166 rfl) rfl
theorem q2427 : (Jvm.Cond.methodLink "java/util/HashMap" (236 : Nat) ({ cls := "java/util/HashMap", name := "afterNodeRemoval", desc := "(Ljava/util/HashMap$Node;)V" } : Jvm.MethodName)) ∈ lw_all := lw_g (lw_at lw_m10 173 rfl) rfl
theorem q2428 : (Jvm.Cond.instanceMethod ({ cls := "java/util/HashMap", name := "afterNodeRemoval", desc := "(Ljava/util/HashMap$Node;)V" } : Jvm.MethodName)) ∈ lw_all := lw_g (lw_at lw_m10 174 rfl) rfl
theorem q2429 : (Jvm.Cond.selects "java/util/HashMap" ({ cls := "java/util/HashMap", name := "afterNodeRemoval", desc := "(Ljava/util/HashMap$Node;)V" } : Jvm.MethodName) ({ cls := "java/util/HashMap", name := "afterNodeRemoval", desc := "(Ljava/util/HashMap$Node;)V" } : Jvm.MethodName)) ∈ lw_all := lw_g (lw_at lw_m10 175 rfl) rfl
theorem q2430 : (Jvm.Cond.sameMethod "java/util/HashMap" "java/util/HashMap" "afterNodeRemoval" "(Ljava/util/HashMap$Node;)V") ∈ lw_all := lw_g (lw_at lw_m10 176 rfl) rfl
theorem q2434 : (Jvm.Cond.code ({ cls := "java/util/HashMap", name := "afterNodeRemoval", desc := "(Ljava/util/HashMap$Node;)V" } : Jvm.MethodName) prog_60_method_53_code (2 : Nat) (Option.none : Option Jvm.ClassFile.FieldType)) ∈ lw_all := lw_g (lw_at lw_m10 180 rfl) rfl
theorem q3191 : (Jvm.Cond.declares ({ cls := "java/util/HashMap", name := "isEmpty", desc := "()Z" } : Jvm.MethodName)) ∈ lw_tbl := lw_at lw_m13 217 rfl
theorem q3193 : (Jvm.Cond.instanceMethod ({ cls := "java/util/HashMap", name := "isEmpty", desc := "()Z" } : Jvm.MethodName)) ∈ lw_all := lw_g (lw_at lw_m13 219 rfl) rfl
theorem q3194 : (Jvm.Cond.code ({ cls := "java/util/HashMap", name := "isEmpty", desc := "()Z" } : Jvm.MethodName) prog_60_method_11_code (1 : Nat) (Option.some Jvm.ClassFile.FieldType.boolean)) ∈ lw_all := lw_g (lw_at lw_m13 220 rfl) rfl
theorem q3766 : (Jvm.Cond.sameMethod "java/util/HashMap" "java/util/HashMap" "put" "(Ljava/lang/Object;Ljava/lang/Object;)Ljava/lang/Object;") ∈ lw_all := lw_g (lw_at lw_m16 72 rfl) rfl
theorem q3767 : (Jvm.Cond.selects "java/util/HashMap" ({ cls := "java/util/HashMap", name := "put", desc := "(Ljava/lang/Object;Ljava/lang/Object;)Ljava/lang/Object;" } : Jvm.MethodName) ({ cls := "java/util/HashMap", name := "put", desc := "(Ljava/lang/Object;Ljava/lang/Object;)Ljava/lang/Object;" } : Jvm.MethodName)) ∈ lw_all := lw_g (lw_at lw_m16 73 rfl) rfl
theorem q3771 : (Jvm.Cond.sameMethod "java/util/HashMap" "java/util/HashMap" "size" "()I") ∈ lw_all := lw_g (lw_at lw_m16 77 rfl) rfl
theorem q3772 : (Jvm.Cond.selects "java/util/HashMap" ({ cls := "java/util/HashMap", name := "size", desc := "()I" } : Jvm.MethodName) ({ cls := "java/util/HashMap", name := "size", desc := "()I" } : Jvm.MethodName)) ∈ lw_all := lw_g (lw_at lw_m16 78 rfl) rfl
theorem q3774 : (Jvm.Cond.sameMethod "java/util/HashMap" "java/util/HashMap" "remove" "(Ljava/lang/Object;)Ljava/lang/Object;") ∈ lw_all := lw_g (lw_at lw_m16 80 rfl) rfl
theorem q3775 : (Jvm.Cond.selects "java/util/HashMap" ({ cls := "java/util/HashMap", name := "remove", desc := "(Ljava/lang/Object;)Ljava/lang/Object;" } : Jvm.MethodName) ({ cls := "java/util/HashMap", name := "remove", desc := "(Ljava/lang/Object;)Ljava/lang/Object;" } : Jvm.MethodName)) ∈ lw_all := lw_g (lw_at lw_m16 81 rfl) rfl
theorem q3801 : (Jvm.Cond.castable "java/util/HashMap" "java/lang/Object") ∈ lw_tbl := lw_at lw_m16 107 rfl
theorem in_J1 : ∀ w ∈ wsJ10, w ∈ lw_all := lw_in wsJ10 [260, 261, 254, 255, 256, 257, 258, 259] (by decide +kernel) (by decide +kernel)

/-! java/util/LinkedHashMap -/
def RJ2 : String := "java/util/LinkedHashMap"
def TJ2 : u_T := fun k => match k with
  | 0 => ("java/util/AbstractMap", "keySet", "Ljava/util/Set;", false)
  | 1 => ("java/util/AbstractMap", "values", "Ljava/util/Collection;", false)
  | 2 => ("java/util/HashMap", "table", "[Ljava/util/HashMap$Node;", false)
  | 3 => ("java/util/HashMap", "entrySet", "Ljava/util/Set;", false)
  | 4 => ("java/util/HashMap", "size", "I", false)
  | 5 => ("java/util/HashMap", "modCount", "I", false)
  | 6 => ("java/util/HashMap", "threshold", "I", false)
  | 7 => ("java/util/HashMap", "loadFactor", "F", true)
  | 8 => ("java/util/LinkedHashMap", "head", "Ljava/util/LinkedHashMap$Entry;", false)
  | 9 => ("java/util/LinkedHashMap", "tail", "Ljava/util/LinkedHashMap$Entry;", false)
  | 10 => ("java/util/LinkedHashMap", "accessOrder", "Z", true)
  | _ => ("java/util/LinkedHashMap", "putMode", "I", false)
def tyJ2 : Nat → FieldType := fun k => match k with
  | 0 => .object "java/util/Set"
  | 1 => .object "java/util/Collection"
  | 2 => .array (.object "java/util/HashMap$Node")
  | 3 => .object "java/util/Set"
  | 4 => .int
  | 5 => .int
  | 6 => .int
  | 7 => .float
  | 8 => .object "java/util/LinkedHashMap$Entry"
  | 9 => .object "java/util/LinkedHashMap$Entry"
  | 10 => .boolean
  | _ => .int
abbrev wsJ20 : List Cond := u_ws RJ2 TJ2 12
theorem nmJ2 : ∀ a, a < 12 → ∀ b, b < 12 → a ≠ b → (TJ2 a).2.1 ≠ (TJ2 b).2.1 := by decide +kernel
theorem tyJ2_ok : ∀ k, k < 12 → parseFieldDescriptor (TJ2 k).2.2.1 = some (tyJ2 k) := by decide +kernel
abbrev cJ2_init : ByteArray := prog_68_method_16_code
def yJ2_init : MethodName := ⟨RJ2, "<init>", "()V"⟩
abbrev cJ2_values : ByteArray := prog_68_method_30_code
def yJ2_values : MethodName := ⟨RJ2, "values", "()Ljava/util/Collection;"⟩
abbrev cJ2_sequencedValues : ByteArray := prog_68_method_31_code
def yJ2_sequencedValues : MethodName := ⟨RJ2, "sequencedValues", "()Ljava/util/SequencedCollection;"⟩
abbrev cJ2_keySet : ByteArray := prog_68_method_24_code
def yJ2_keySet : MethodName := ⟨RJ2, "keySet", "()Ljava/util/Set;"⟩
abbrev cJ2_sequencedKeySet : ByteArray := prog_68_method_25_code
def yJ2_sequencedKeySet : MethodName := ⟨RJ2, "sequencedKeySet", "()Ljava/util/SequencedSet;"⟩
abbrev cJ2_replacementNode : ByteArray := prog_68_method_5_code
def yJ2_replacementNode : MethodName := ⟨RJ2, "replacementNode", "(Ljava/util/HashMap$Node;Ljava/util/HashMap$Node;)Ljava/util/HashMap$Node;"⟩
abbrev cJ2_transferLinks : ByteArray := prog_68_method_2_code
def yJ2_transferLinks : MethodName := ⟨RJ2, "transferLinks", "(Ljava/util/LinkedHashMap$Entry;Ljava/util/LinkedHashMap$Entry;)V"⟩
abbrev cJ2_newNode : ByteArray := prog_68_method_4_code
def yJ2_newNode : MethodName := ⟨RJ2, "newNode", "(ILjava/lang/Object;Ljava/lang/Object;Ljava/util/HashMap$Node;)Ljava/util/HashMap$Node;"⟩
abbrev cJ2_linkNodeAtEnd : ByteArray := prog_68_method_1_code
def yJ2_linkNodeAtEnd : MethodName := ⟨RJ2, "linkNodeAtEnd", "(Ljava/util/LinkedHashMap$Entry;)V"⟩
abbrev cJ2_newTreeNode : ByteArray := prog_68_method_6_code
def yJ2_newTreeNode : MethodName := ⟨RJ2, "newTreeNode", "(ILjava/lang/Object;Ljava/lang/Object;Ljava/util/HashMap$Node;)Ljava/util/HashMap$TreeNode;"⟩
abbrev cJ2_replacementTreeNode : ByteArray := prog_68_method_7_code
def yJ2_replacementTreeNode : MethodName := ⟨RJ2, "replacementTreeNode", "(Ljava/util/HashMap$Node;Ljava/util/HashMap$Node;)Ljava/util/HashMap$TreeNode;"⟩
abbrev cJ2_afterNodeAccess : ByteArray := prog_68_method_10_code
def yJ2_afterNodeAccess : MethodName := ⟨RJ2, "afterNodeAccess", "(Ljava/util/HashMap$Node;)V"⟩
abbrev cJ2_afterNodeInsertion : ByteArray := prog_68_method_9_code
def yJ2_afterNodeInsertion : MethodName := ⟨RJ2, "afterNodeInsertion", "(Z)V"⟩
abbrev cJ2_removeEldestEntry : ByteArray := prog_68_method_23_code
def yJ2_removeEldestEntry : MethodName := ⟨RJ2, "removeEldestEntry", "(Ljava/util/Map$Entry;)Z"⟩
abbrev cJ2_get : ByteArray := prog_68_method_20_code
def yJ2_get : MethodName := ⟨RJ2, "get", "(Ljava/lang/Object;)Ljava/lang/Object;"⟩
abbrev cJ2_afterNodeRemoval : ByteArray := prog_68_method_8_code
def yJ2_afterNodeRemoval : MethodName := ⟨RJ2, "afterNodeRemoval", "(Ljava/util/HashMap$Node;)V"⟩
theorem q99 : (Jvm.Cond.initialized "java/util/LinkedHashMap") ∈ lw_all := lw_g (lw_at lw_m1 5 rfl) rfl
theorem q179 : (Jvm.Cond.instantiable "java/util/LinkedHashMap" (12 : Nat)) ∈ lw_all := lw_g (lw_at lw_m1 85 rfl) rfl
theorem q181 : (Jvm.Cond.instanceMethod ({ cls := "java/util/LinkedHashMap", name := "<init>", desc := "()V" } : Jvm.MethodName)) ∈ lw_all := lw_g (lw_at lw_m1 87 rfl) rfl
theorem q182 : (Jvm.Cond.code ({ cls := "java/util/LinkedHashMap", name := "<init>", desc := "()V" } : Jvm.MethodName) prog_68_method_16_code (1 : Nat) (Option.none : Option Jvm.ClassFile.FieldType)) ∈ lw_all := lw_g (lw_at lw_m1 88 rfl) rfl
theorem q183 : (Jvm.Cond.methodLink "java/util/LinkedHashMap" (87 : Nat) ({ cls := "java/util/HashMap", name := "<init>", desc := "()V" } : Jvm.MethodName)) ∈ lw_all := lw_g (lw_at lw_m1 89 rfl) rfl
theorem q191 : (Jvm.Cond.fieldLink "java/util/LinkedHashMap" (7 : Nat) "java/util/LinkedHashMap" "head" "Ljava/util/LinkedHashMap$Entry;") ∈ lw_all := lw_g (lw_at lw_m1 97 rfl) rfl
theorem q194 : (Jvm.Cond.fieldLink "java/util/LinkedHashMap" (11 : Nat) "java/util/LinkedHashMap" "tail" "Ljava/util/LinkedHashMap$Entry;") ∈ lw_all := lw_g (lw_at lw_m1 100 rfl) rfl
theorem q195 : (Jvm.Cond.fieldLink "java/util/LinkedHashMap" (64 : Nat) "java/util/LinkedHashMap" "accessOrder" "Z") ∈ lw_all := lw_g (lw_at lw_m1 101 rfl) rfl
theorem q196 : (Jvm.Cond.fieldLink "java/util/LinkedHashMap" (1 : Nat) "java/util/LinkedHashMap" "putMode" "I") ∈ lw_all := lw_g (lw_at lw_m1 102 rfl) rfl
theorem q203 : (Jvm.Cond.sameField "java/util/LinkedHashMap" "java/util/HashMap" "modCount" "I") ∈ lw_all := lw_g (lw_at lw_m1 109 rfl) rfl
theorem q204 : (Jvm.Cond.fieldLink "java/util/LinkedHashMap" (68 : Nat) "java/util/LinkedHashMap" "modCount" "I") ∈ lw_all := lw_g (lw_at lw_m1 110 rfl) rfl
theorem q210 : (Jvm.Cond.fieldLink "java/util/LinkedHashMap" (117 : Nat) "java/util/LinkedHashMap" "keySet" "Ljava/util/Set;") ∈ lw_all := lw_g (lw_at lw_m1 116 rfl) rfl
theorem q211 : (Jvm.Cond.sameField "java/util/LinkedHashMap" "java/util/AbstractMap" "keySet" "Ljava/util/Set;") ∈ lw_all := lw_g (lw_at lw_m1 117 rfl) rfl
theorem q212 : (Jvm.Cond.fieldLink "java/util/LinkedHashMap" (139 : Nat) "java/util/LinkedHashMap" "values" "Ljava/util/Collection;") ∈ lw_all := lw_g (lw_at lw_m1 118 rfl) rfl
theorem q213 : (Jvm.Cond.sameField "java/util/LinkedHashMap" "java/util/AbstractMap" "values" "Ljava/util/Collection;") ∈ lw_all := lw_g (lw_at lw_m1 119 rfl) rfl
theorem q214 : (Jvm.Cond.lays "java/util/LinkedHashMap" "java/util/LinkedHashMap" "head" "Ljava/util/LinkedHashMap$Entry;") ∈ lw_all := lw_g (lw_at lw_m1 120 rfl) rfl
theorem q215 : (Jvm.Cond.soleField "java/util/LinkedHashMap" "head") ∈ lw_all := lw_g (lw_at lw_m1 121 rfl) rfl
theorem q216 : (Jvm.Cond.lays "java/util/LinkedHashMap" "java/util/LinkedHashMap" "tail" "Ljava/util/LinkedHashMap$Entry;") ∈ lw_all := lw_g (lw_at lw_m1 122 rfl) rfl
theorem q217 : (Jvm.Cond.soleField "java/util/LinkedHashMap" "tail") ∈ lw_all := lw_g (lw_at lw_m1 123 rfl) rfl
theorem q218 : (Jvm.Cond.laysFinal "java/util/LinkedHashMap" "java/util/LinkedHashMap" "accessOrder" "Z") ∈ lw_all := lw_g (lw_at lw_m1 124 rfl) rfl
theorem q219 : (Jvm.Cond.soleField "java/util/LinkedHashMap" "accessOrder") ∈ lw_all := lw_g (lw_at lw_m1 125 rfl) rfl
theorem q220 : (Jvm.Cond.lays "java/util/LinkedHashMap" "java/util/LinkedHashMap" "putMode" "I") ∈ lw_all := lw_g (lw_at lw_m1 126 rfl) rfl
theorem q221 : (Jvm.Cond.soleField "java/util/LinkedHashMap" "putMode") ∈ lw_all := lw_g (lw_at lw_m1 127 rfl) rfl
theorem q222 : (Jvm.Cond.lays "java/util/LinkedHashMap" "java/util/HashMap" "table" "[Ljava/util/HashMap$Node;") ∈ lw_all := lw_g (lw_at lw_m1 128 rfl) rfl
theorem q224 : (Jvm.Cond.lays "java/util/LinkedHashMap" "java/util/HashMap" "entrySet" "Ljava/util/Set;") ∈ lw_all := lw_g (lw_at lw_m1 130 rfl) rfl
theorem q226 : (Jvm.Cond.lays "java/util/LinkedHashMap" "java/util/HashMap" "size" "I") ∈ lw_all := lw_g (lw_at lw_m1 132 rfl) rfl
theorem q228 : (Jvm.Cond.lays "java/util/LinkedHashMap" "java/util/HashMap" "modCount" "I") ∈ lw_all := lw_g (lw_at lw_m1 134 rfl) rfl
theorem q230 : (Jvm.Cond.lays "java/util/LinkedHashMap" "java/util/HashMap" "threshold" "I") ∈ lw_all := lw_g (lw_at lw_m1 136 rfl) rfl
theorem q232 : (Jvm.Cond.laysFinal "java/util/LinkedHashMap" "java/util/HashMap" "loadFactor" "F") ∈ lw_all := lw_g (lw_at lw_m1 138 rfl) rfl
theorem q234 : (Jvm.Cond.lays "java/util/LinkedHashMap" "java/util/AbstractMap" "keySet" "Ljava/util/Set;") ∈ lw_all := lw_g (lw_at lw_m1 140 rfl) rfl
theorem q236 : (Jvm.Cond.lays "java/util/LinkedHashMap" "java/util/AbstractMap" "values" "Ljava/util/Collection;") ∈ lw_all := lw_g (lw_at lw_m1 142 rfl) rfl
theorem q238 : (Jvm.Cond.superclass "java/util/LinkedHashMap" "java/util/HashMap") ∈ lw_all := lw_g (lw_at lw_m1 144 rfl) rfl
theorem q414 : (Jvm.Cond.instanceMethod ({ cls := "java/util/LinkedHashMap", name := "values", desc := "()Ljava/util/Collection;" } : Jvm.MethodName)) ∈ lw_all := lw_g (lw_at lw_m2 80 rfl) rfl
theorem q415 : (Jvm.Cond.selects "java/util/LinkedHashMap" ({ cls := "java/util/LinkedHashMap", name := "values", desc := "()Ljava/util/Collection;" } : Jvm.MethodName) ({ cls := "java/util/LinkedHashMap", name := "values", desc := "()Ljava/util/Collection;" } : Jvm.MethodName)) ∈ lw_all := lw_g (lw_at lw_m2 81 rfl) rfl
theorem q416 : (Jvm.Cond.code ({ cls := "java/util/LinkedHashMap", name := "values", desc := "()Ljava/util/Collection;" } : Jvm.MethodName) prog_68_method_30_code (1 : Nat) (Option.some (Jvm.ClassFile.FieldType.object "java/util/Collection"))) ∈ lw_all := lw_g (lw_at lw_m2 82 rfl) rfl
theorem q417 : (Jvm.Cond.methodLink "java/util/LinkedHashMap" (135 : Nat) ({ cls := "java/util/LinkedHashMap", name := "sequencedValues", desc := "()Ljava/util/SequencedCollection;" } : Jvm.MethodName)) ∈ lw_all := lw_g (lw_at lw_m2 83 rfl) rfl
theorem q418 : (Jvm.Cond.instanceMethod ({ cls := "java/util/LinkedHashMap", name := "sequencedValues", desc := "()Ljava/util/SequencedCollection;" } : Jvm.MethodName)) ∈ lw_all := lw_g (lw_at lw_m2 84 rfl) rfl
theorem q419 : (Jvm.Cond.selects "java/util/LinkedHashMap" ({ cls := "java/util/LinkedHashMap", name := "sequencedValues", desc := "()Ljava/util/SequencedCollection;" } : Jvm.MethodName) ({ cls := "java/util/LinkedHashMap", name := "sequencedValues", desc := "()Ljava/util/SequencedCollection;" } : Jvm.MethodName)) ∈ lw_all := lw_g (lw_at lw_m2 85 rfl) rfl
theorem q420 : (Jvm.Cond.code ({ cls := "java/util/LinkedHashMap", name := "sequencedValues", desc := "()Ljava/util/SequencedCollection;" } : Jvm.MethodName) prog_68_method_31_code (3 : Nat) (Option.some (Jvm.ClassFile.FieldType.object "java/util/SequencedCollection"))) ∈ lw_all := lw_g (lw_at lw_m2 86 rfl) rfl
theorem q421 : (Jvm.Cond.classLink "java/util/LinkedHashMap" (143 : Nat) "java/util/LinkedHashMap$LinkedValues") ∈ lw_all := lw_g (lw_at lw_m2 87 rfl) rfl
theorem q423 : (Jvm.Cond.methodLink "java/util/LinkedHashMap" (145 : Nat) ({ cls := "java/util/LinkedHashMap$LinkedValues", name := "<init>", desc := "(Ljava/util/LinkedHashMap;Z)V" } : Jvm.MethodName)) ∈ lw_all := lw_g (lw_at lw_m2 89 rfl) rfl
theorem q434 : (Jvm.Cond.classLink "java/util/LinkedHashMap" (146 : Nat) "java/util/SequencedCollection") ∈ lw_all := lw_g (lw_at lw_m2 100 rfl) rfl
theorem q537 : (Jvm.Cond.selects "java/util/LinkedHashMap" ({ cls := "java/util/HashMap", name := "keySet", desc := "()Ljava/util/Set;" } : Jvm.MethodName) ({ cls := "java/util/LinkedHashMap", name := "keySet", desc := "()Ljava/util/Set;" } : Jvm.MethodName)) ∈ lw_all := lw_g (lw_at lw_m2 203 rfl) rfl
theorem q538 : (Jvm.Cond.instanceMethod ({ cls := "java/util/LinkedHashMap", name := "keySet", desc := "()Ljava/util/Set;" } : Jvm.MethodName)) ∈ lw_all := lw_g (lw_at lw_m2 204 rfl) rfl
theorem q539 : (Jvm.Cond.code ({ cls := "java/util/LinkedHashMap", name := "keySet", desc := "()Ljava/util/Set;" } : Jvm.MethodName) prog_68_method_24_code (1 : Nat) (Option.some (Jvm.ClassFile.FieldType.object "java/util/Set"))) ∈ lw_all := lw_g (lw_at lw_m2 205 rfl) rfl
theorem q540 : (Jvm.Cond.methodLink "java/util/LinkedHashMap" (113 : Nat) ({ cls := "java/util/LinkedHashMap", name := "sequencedKeySet", desc := "()Ljava/util/SequencedSet;" } : Jvm.MethodName)) ∈ lw_all := lw_g (lw_at lw_m2 206 rfl) rfl
theorem q541 : (Jvm.Cond.instanceMethod ({ cls := "java/util/LinkedHashMap", name := "sequencedKeySet", desc := "()Ljava/util/SequencedSet;" } : Jvm.MethodName)) ∈ lw_all := lw_g (lw_at lw_m2 207 rfl) rfl
theorem q542 : (Jvm.Cond.selects "java/util/LinkedHashMap" ({ cls := "java/util/LinkedHashMap", name := "sequencedKeySet", desc := "()Ljava/util/SequencedSet;" } : Jvm.MethodName) ({ cls := "java/util/LinkedHashMap", name := "sequencedKeySet", desc := "()Ljava/util/SequencedSet;" } : Jvm.MethodName)) ∈ lw_all := lw_g (lw_at lw_m2 208 rfl) rfl
theorem q543 : (Jvm.Cond.code ({ cls := "java/util/LinkedHashMap", name := "sequencedKeySet", desc := "()Ljava/util/SequencedSet;" } : Jvm.MethodName) prog_68_method_25_code (3 : Nat) (Option.some (Jvm.ClassFile.FieldType.object "java/util/SequencedSet"))) ∈ lw_all := lw_g (lw_at lw_m2 209 rfl) rfl
theorem q544 : (Jvm.Cond.classLink "java/util/LinkedHashMap" (121 : Nat) "java/util/LinkedHashMap$LinkedKeySet") ∈ lw_all := lw_g (lw_at lw_m2 210 rfl) rfl
theorem q546 : (Jvm.Cond.methodLink "java/util/LinkedHashMap" (123 : Nat) ({ cls := "java/util/LinkedHashMap$LinkedKeySet", name := "<init>", desc := "(Ljava/util/LinkedHashMap;Z)V" } : Jvm.MethodName)) ∈ lw_all := lw_g (lw_at lw_m2 212 rfl) rfl
theorem q557 : (Jvm.Cond.classLink "java/util/LinkedHashMap" (126 : Nat) "java/util/SequencedSet") ∈ lw_all := lw_g (lw_at lw_m2 223 rfl) rfl
theorem q1270 : (Jvm.Cond.selects "java/util/LinkedHashMap" ({ cls := "java/lang/Object", name := "getClass", desc := "()Ljava/lang/Class;" } : Jvm.MethodName) ({ cls := "java/lang/Object", name := "getClass", desc := "()Ljava/lang/Class;" } : Jvm.MethodName)) ∈ lw_all := lw_g (lw_at lw_m5 216 rfl) rfl
theorem q1423 : (Jvm.Cond.sameMethod "java/util/LinkedHashMap" "java/util/HashMap" "size" "()I") ∈ lw_all := lw_g (lw_at lw_m6 129 rfl) rfl
theorem q1425 : (Jvm.Cond.selects "java/util/LinkedHashMap" ({ cls := "java/util/LinkedHashMap", name := "size", desc := "()I" } : Jvm.MethodName) ({ cls := "java/util/HashMap", name := "size", desc := "()I" } : Jvm.MethodName)) ∈ lw_all := lw_g (lw_at lw_m6 131 rfl) rfl
theorem q1544 : (Jvm.Cond.selects "java/util/LinkedHashMap" ({ cls := "java/util/HashMap", name := "containsKey", desc := "(Ljava/lang/Object;)Z" } : Jvm.MethodName) ({ cls := "java/util/HashMap", name := "containsKey", desc := "(Ljava/lang/Object;)Z" } : Jvm.MethodName)) ∈ lw_all := lw_g (lw_at lw_m7 10 rfl) rfl
theorem q1550 : (Jvm.Cond.selects "java/util/LinkedHashMap" ({ cls := "java/util/HashMap", name := "getNode", desc := "(Ljava/lang/Object;)Ljava/util/HashMap$Node;" } : Jvm.MethodName) ({ cls := "java/util/HashMap", name := "getNode", desc := "(Ljava/lang/Object;)Ljava/util/HashMap$Node;" } : Jvm.MethodName)) ∈ lw_all := lw_g (lw_at lw_m7 16 rfl) rfl
theorem q2047 : (Jvm.Cond.sameMethod "java/util/LinkedHashMap" "java/util/HashMap" "put" "(Ljava/lang/Object;Ljava/lang/Object;)Ljava/lang/Object;") ∈ lw_all := lw_g (lw_at lw_m9 33 rfl) rfl
theorem q2049 : (Jvm.Cond.selects "java/util/LinkedHashMap" ({ cls := "java/util/LinkedHashMap", name := "put", desc := "(Ljava/lang/Object;Ljava/lang/Object;)Ljava/lang/Object;" } : Jvm.MethodName) ({ cls := "java/util/HashMap", name := "put", desc := "(Ljava/lang/Object;Ljava/lang/Object;)Ljava/lang/Object;" } : Jvm.MethodName)) ∈ lw_all := lw_g (lw_at lw_m9 35 rfl) rfl
theorem q2056 : (Jvm.Cond.selects "java/util/LinkedHashMap" ({ cls := "java/util/HashMap", name := "putVal", desc := "(ILjava/lang/Object;Ljava/lang/Object;ZZ)Ljava/lang/Object;" } : Jvm.MethodName) ({ cls := "java/util/HashMap", name := "putVal", desc := "(ILjava/lang/Object;Ljava/lang/Object;ZZ)Ljava/lang/Object;" } : Jvm.MethodName)) ∈ lw_all := lw_g (lw_at lw_m9 42 rfl) rfl
theorem q2062 : (Jvm.Cond.selects "java/util/LinkedHashMap" ({ cls := "java/util/HashMap", name := "resize", desc := "()[Ljava/util/HashMap$Node;" } : Jvm.MethodName) ({ cls := "java/util/HashMap", name := "resize", desc := "()[Ljava/util/HashMap$Node;" } : Jvm.MethodName)) ∈ lw_all := lw_g (lw_at lw_m9 48 rfl) rfl
theorem q2082 : (Jvm.Cond.selects "java/util/LinkedHashMap" ({ cls := "java/util/HashMap", name := "replacementNode", desc := "(Ljava/util/HashMap$Node;Ljava/util/HashMap$Node;)Ljava/util/HashMap$Node;" } : Jvm.MethodName) ({ cls := "java/util/LinkedHashMap", name := "replacementNode", desc := "(Ljava/util/HashMap$Node;Ljava/util/HashMap$Node;)Ljava/util/HashMap$Node;" } : Jvm.MethodName)) ∈ lw_all := lw_g (lw_at lw_m9 68 rfl) rfl
theorem q2083 : (Jvm.Cond.instanceMethod ({ cls := "java/util/LinkedHashMap", name := "replacementNode", desc := "(Ljava/util/HashMap$Node;Ljava/util/HashMap$Node;)Ljava/util/HashMap$Node;" } : Jvm.MethodName)) ∈ lw_all := lw_g (lw_at lw_m9 69 rfl) rfl
theorem q2084 : (Jvm.Cond.code ({ cls := "java/util/LinkedHashMap", name := "replacementNode", desc := "(Ljava/util/HashMap$Node;Ljava/util/HashMap$Node;)Ljava/util/HashMap$Node;" } : Jvm.MethodName) prog_68_method_5_code (5 : Nat) (Option.some (Jvm.ClassFile.FieldType.object "java/util/HashMap$Node"))) ∈ lw_all := lw_g (lw_at lw_m9 70 rfl) rfl
theorem q2085 : (Jvm.Cond.classLink "java/util/LinkedHashMap" (15 : Nat) "java/util/LinkedHashMap$Entry") ∈ lw_all := lw_g (lw_at lw_m9 71 rfl) rfl
theorem q2087 : (Jvm.Cond.methodLink "java/util/LinkedHashMap" (28 : Nat) ({ cls := "java/util/LinkedHashMap$Entry", name := "<init>", desc := "(ILjava/lang/Object;Ljava/lang/Object;Ljava/util/HashMap$Node;)V" } : Jvm.MethodName)) ∈ lw_all := lw_g (lw_at lw_m9 73 rfl) rfl
theorem q2094 : (Jvm.Cond.fieldLink "java/util/LinkedHashMap" (19 : Nat) "java/util/LinkedHashMap$Entry" "before" "Ljava/util/LinkedHashMap$Entry;") ∈ lw_all := lw_g (lw_at lw_m9 80 rfl) rfl
theorem q2096 : (Jvm.Cond.fieldLink "java/util/LinkedHashMap" (14 : Nat) "java/util/LinkedHashMap$Entry" "after" "Ljava/util/LinkedHashMap$Entry;") ∈ lw_all := lw_g (lw_at lw_m9 82 rfl) rfl
theorem q2101 : (Jvm.Cond.fieldLink "java/util/LinkedHashMap" (36 : Nat) "java/util/LinkedHashMap$Entry" "hash" "I") ∈ lw_all := lw_g (lw_at lw_m9 87 rfl) rfl
theorem q2108 : (Jvm.Cond.fieldLink "java/util/LinkedHashMap" (39 : Nat) "java/util/LinkedHashMap$Entry" "key" "Ljava/lang/Object;") ∈ lw_all := lw_g (lw_at lw_m9 94 rfl) rfl
theorem q2114 : (Jvm.Cond.fieldLink "java/util/LinkedHashMap" (43 : Nat) "java/util/LinkedHashMap$Entry" "value" "Ljava/lang/Object;") ∈ lw_all := lw_g (lw_at lw_m9 100 rfl) rfl
theorem q2116 : (Jvm.Cond.fieldLink "java/util/LinkedHashMap" (107 : Nat) "java/util/HashMap$Node" "value" "Ljava/lang/Object;") ∈ lw_all := lw_g (lw_at lw_m9 102 rfl) rfl
theorem q2137 : (Jvm.Cond.methodLink "java/util/LinkedHashMap" (46 : Nat) ({ cls := "java/util/LinkedHashMap", name := "transferLinks", desc := "(Ljava/util/LinkedHashMap$Entry;Ljava/util/LinkedHashMap$Entry;)V" } : Jvm.MethodName)) ∈ lw_all := lw_g (lw_at lw_m9 123 rfl) rfl
theorem q2138 : (Jvm.Cond.privateMethod ({ cls := "java/util/LinkedHashMap", name := "transferLinks", desc := "(Ljava/util/LinkedHashMap$Entry;Ljava/util/LinkedHashMap$Entry;)V" } : Jvm.MethodName)) ∈ lw_tbl := lw_at lw_m9 124 rfl
theorem q2139 : (Jvm.Cond.instanceMethod ({ cls := "java/util/LinkedHashMap", name := "transferLinks", desc := "(Ljava/util/LinkedHashMap$Entry;Ljava/util/LinkedHashMap$Entry;)V" } : Jvm.MethodName)) ∈ lw_all := lw_g (lw_at lw_m9 125 rfl) rfl
theorem q2140 : (Jvm.Cond.code ({ cls := "java/util/LinkedHashMap", name := "transferLinks", desc := "(Ljava/util/LinkedHashMap$Entry;Ljava/util/LinkedHashMap$Entry;)V" } : Jvm.MethodName) prog_68_method_2_code (5 : Nat) (Option.none : Option Jvm.ClassFile.FieldType)) ∈ lw_all := lw_g (lw_at lw_m9 126 rfl) rfl
theorem q2171 : (Jvm.Cond.selects "java/util/LinkedHashMap" ({ cls := "java/util/HashMap", name := "newNode", desc := "(ILjava/lang/Object;Ljava/lang/Object;Ljava/util/HashMap$Node;)Ljava/util/HashMap$Node;" } : Jvm.MethodName) ({ cls := "java/util/LinkedHashMap", name := "newNode", desc := "(ILjava/lang/Object;Ljava/lang/Object;Ljava/util/HashMap$Node;)Ljava/util/HashMap$Node;" } : Jvm.MethodName)) ∈ lw_all := lw_g (lw_at lw_m9 157 rfl) rfl
theorem q2172 : (Jvm.Cond.instanceMethod ({ cls := "java/util/LinkedHashMap", name := "newNode", desc := "(ILjava/lang/Object;Ljava/lang/Object;Ljava/util/HashMap$Node;)Ljava/util/HashMap$Node;" } : Jvm.MethodName)) ∈ lw_all := lw_g (lw_at lw_m9 158 rfl) rfl
theorem q2173 : (Jvm.Cond.code ({ cls := "java/util/LinkedHashMap", name := "newNode", desc := "(ILjava/lang/Object;Ljava/lang/Object;Ljava/util/HashMap$Node;)Ljava/util/HashMap$Node;" } : Jvm.MethodName) prog_68_method_4_code (6 : Nat) (Option.some (Jvm.ClassFile.FieldType.object "java/util/HashMap$Node"))) ∈ lw_all := lw_g (lw_at lw_m9 159 rfl) rfl
theorem q2174 : (Jvm.Cond.methodLink "java/util/LinkedHashMap" (32 : Nat) ({ cls := "java/util/LinkedHashMap", name := "linkNodeAtEnd", desc := "(Ljava/util/LinkedHashMap$Entry;)V" } : Jvm.MethodName)) ∈ lw_all := lw_g (lw_at lw_m9 160 rfl) rfl
theorem q2175 : (Jvm.Cond.privateMethod ({ cls := "java/util/LinkedHashMap", name := "linkNodeAtEnd", desc := "(Ljava/util/LinkedHashMap$Entry;)V" } : Jvm.MethodName)) ∈ lw_tbl := lw_at lw_m9 161 rfl
theorem q2176 : (Jvm.Cond.instanceMethod ({ cls := "java/util/LinkedHashMap", name := "linkNodeAtEnd", desc := "(Ljava/util/LinkedHashMap$Entry;)V" } : Jvm.MethodName)) ∈ lw_all := lw_g (lw_at lw_m9 162 rfl) rfl
theorem q2177 : (Jvm.Cond.code ({ cls := "java/util/LinkedHashMap", name := "linkNodeAtEnd", desc := "(Ljava/util/LinkedHashMap$Entry;)V" } : Jvm.MethodName) prog_68_method_1_code (3 : Nat) (Option.none : Option Jvm.ClassFile.FieldType)) ∈ lw_all := lw_g (lw_at lw_m9 163 rfl) rfl
theorem q2187 : (Jvm.Cond.selects "java/util/LinkedHashMap" ({ cls := "java/util/HashMap", name := "newTreeNode", desc := "(ILjava/lang/Object;Ljava/lang/Object;Ljava/util/HashMap$Node;)Ljava/util/HashMap$TreeNode;" } : Jvm.MethodName) ({ cls := "java/util/LinkedHashMap", name := "newTreeNode", desc := "(ILjava/lang/Object;Ljava/lang/Object;Ljava/util/HashMap$Node;)Ljava/util/HashMap$TreeNode;" } : Jvm.MethodName)) ∈ lw_all := lw_g (lw_at lw_m9 173 rfl) rfl
theorem q2188 : (Jvm.Cond.instanceMethod ({ cls := "java/util/LinkedHashMap", name := "newTreeNode", desc := "(ILjava/lang/Object;Ljava/lang/Object;Ljava/util/HashMap$Node;)Ljava/util/HashMap$TreeNode;" } : Jvm.MethodName)) ∈ lw_all := lw_g (lw_at lw_m9 174 rfl) rfl
theorem q2189 : (Jvm.Cond.code ({ cls := "java/util/LinkedHashMap", name := "newTreeNode", desc := "(ILjava/lang/Object;Ljava/lang/Object;Ljava/util/HashMap$Node;)Ljava/util/HashMap$TreeNode;" } : Jvm.MethodName) prog_68_method_6_code (6 : Nat) (Option.some (Jvm.ClassFile.FieldType.object "java/util/HashMap$TreeNode"))) ∈ lw_all := lw_g (lw_at lw_m9 175 rfl) rfl
theorem q2190 : (Jvm.Cond.classLink "java/util/LinkedHashMap" (50 : Nat) "java/util/HashMap$TreeNode") ∈ lw_all := lw_g (lw_at lw_m9 176 rfl) rfl
theorem q2192 : (Jvm.Cond.methodLink "java/util/LinkedHashMap" (52 : Nat) ({ cls := "java/util/HashMap$TreeNode", name := "<init>", desc := "(ILjava/lang/Object;Ljava/lang/Object;Ljava/util/HashMap$Node;)V" } : Jvm.MethodName)) ∈ lw_all := lw_g (lw_at lw_m9 178 rfl) rfl
theorem q2225 : (Jvm.Cond.selects "java/util/LinkedHashMap" ({ cls := "java/util/HashMap", name := "treeifyBin", desc := "([Ljava/util/HashMap$Node;I)V" } : Jvm.MethodName) ({ cls := "java/util/HashMap", name := "treeifyBin", desc := "([Ljava/util/HashMap$Node;I)V" } : Jvm.MethodName)) ∈ lw_all := lw_g (lw_at lw_m9 211 rfl) rfl
theorem q2231 : (Jvm.Cond.selects "java/util/LinkedHashMap" ({ cls := "java/util/HashMap", name := "replacementTreeNode", desc := "(Ljava/util/HashMap$Node;Ljava/util/HashMap$Node;)Ljava/util/HashMap$TreeNode;" } : Jvm.MethodName) ({ cls := "java/util/LinkedHashMap", name := "replacementTreeNode", desc := "(Ljava/util/HashMap$Node;Ljava/util/HashMap$Node;)Ljava/util/HashMap$TreeNode;" } : Jvm.MethodName)) ∈ lw_all := lw_g (lw_at lw_m9 217 rfl) rfl
theorem q2232 : (Jvm.Cond.instanceMethod ({ cls := "java/util/LinkedHashMap", name := "replacementTreeNode", desc := "(Ljava/util/HashMap$Node;Ljava/util/HashMap$Node;)Ljava/util/HashMap$TreeNode;" } : Jvm.MethodName)) ∈ lw_all := lw_g (lw_at lw_m9 218 rfl) rfl
theorem q2233 : (Jvm.Cond.code ({ cls := "java/util/LinkedHashMap", name := "replacementTreeNode", desc := "(Ljava/util/HashMap$Node;Ljava/util/HashMap$Node;)Ljava/util/HashMap$TreeNode;" } : Jvm.MethodName) prog_68_method_7_code (5 : Nat) (Option.some (Jvm.ClassFile.FieldType.object "java/util/HashMap$TreeNode"))) ∈ lw_all := lw_g (lw_at lw_m9 219 rfl) rfl
theorem q2240 : (Jvm.Cond.selects "java/util/LinkedHashMap" ({ cls := "java/util/HashMap", name := "afterNodeAccess", desc := "(Ljava/util/HashMap$Node;)V" } : Jvm.MethodName) ({ cls := "java/util/LinkedHashMap", name := "afterNodeAccess", desc := "(Ljava/util/HashMap$Node;)V" } : Jvm.MethodName)) ∈ lw_all := lw_g (lw_at lw_m9 226 rfl) rfl
theorem q2241 : (Jvm.Cond.instanceMethod ({ cls := "java/util/LinkedHashMap", name := "afterNodeAccess", desc := "(Ljava/util/HashMap$Node;)V" } : Jvm.MethodName)) ∈ lw_all := lw_g (lw_at lw_m9 227 rfl) rfl
theorem q2242 : (Jvm.Cond.code ({ cls := "java/util/LinkedHashMap", name := "afterNodeAccess", desc := "(Ljava/util/HashMap$Node;)V" } : Jvm.MethodName) prog_68_method_10_code (7 : Nat) (Option.none : Option Jvm.ClassFile.FieldType)) ∈ lw_all := lw_g (lw_at lw_m9 228 rfl) rfl
theorem q2248 : (Jvm.Cond.selects "java/util/LinkedHashMap" ({ cls := "java/util/HashMap", name := "afterNodeInsertion", desc := "(Z)V" } : Jvm.MethodName) ({ cls := "java/util/LinkedHashMap", name := "afterNodeInsertion", desc := "(Z)V" } : Jvm.MethodName)) ∈ lw_all := lw_g (lw_at lw_m9 234 rfl) rfl
theorem q2249 : (Jvm.Cond.instanceMethod ({ cls := "java/util/LinkedHashMap", name := "afterNodeInsertion", desc := "(Z)V" } : Jvm.MethodName)) ∈ lw_all := lw_g (lw_at lw_m9 235 rfl) rfl
theorem q2250 : (Jvm.Cond.code ({ cls := "java/util/LinkedHashMap", name := "afterNodeInsertion", desc := "(Z)V" } : Jvm.MethodName) prog_68_method_9_code (4 : Nat) (Option.none : Option Jvm.ClassFile.FieldType)) ∈ lw_all := lw_g (lw_at lw_m9 236 rfl) rfl
theorem q2251 : (Jvm.Cond.methodLink "java/util/LinkedHashMap" (53 : Nat) ({ cls := "java/util/LinkedHashMap", name := "removeEldestEntry", desc := "(Ljava/util/Map$Entry;)Z" } : Jvm.MethodName)) ∈ lw_all := lw_g (lw_at lw_m9 237 rfl) rfl
theorem q2252 : (Jvm.Cond.instanceMethod ({ cls := "java/util/LinkedHashMap", name := "removeEldestEntry", desc := "(Ljava/util/Map$Entry;)Z" } : Jvm.MethodName)) ∈ lw_all := lw_g (lw_at lw_m9 238 rfl) rfl
theorem q2253 : (Jvm.Cond.selects "java/util/LinkedHashMap" ({ cls := "java/util/LinkedHashMap", name := "removeEldestEntry", desc := "(Ljava/util/Map$Entry;)Z" } : Jvm.MethodName) ({ cls := "java/util/LinkedHashMap", name := "removeEldestEntry", desc := "(Ljava/util/Map$Entry;)Z" } : Jvm.MethodName)) ∈ lw_all := lw_g (lw_at lw_m9 239 rfl) rfl
theorem q2254 : (Jvm.Cond.code ({ cls := "java/util/LinkedHashMap", name := "removeEldestEntry", desc := "(Ljava/util/Map$Entry;)Z" } : Jvm.MethodName) prog_68_method_23_code (2 : Nat) (Option.some Jvm.ClassFile.FieldType.boolean)) ∈ lw_all := lw_g (lw_at lw_m10 0 rfl) rfl
theorem q2391 : (Jvm.Cond.sameMethod "java/util/LinkedHashMap" "java/util/HashMap" "containsKey" "(Ljava/lang/Object;)Z") ∈ lw_all := lw_g (lw_at lw_m10 137 rfl) rfl
theorem q2393 : (Jvm.Cond.selects "java/util/LinkedHashMap" ({ cls := "java/util/LinkedHashMap", name := "containsKey", desc := "(Ljava/lang/Object;)Z" } : Jvm.MethodName) ({ cls := "java/util/HashMap", name := "containsKey", desc := "(Ljava/lang/Object;)Z" } : Jvm.MethodName)) ∈ lw_all := lw_g (lw_at lw_m10 139 rfl) rfl
theorem q2400 : (Jvm.Cond.instanceMethod ({ cls := "java/util/LinkedHashMap", name := "get", desc := "(Ljava/lang/Object;)Ljava/lang/Object;" } : Jvm.MethodName)) ∈ lw_all := lw_g (lw_at lw_m10 146 rfl) rfl
theorem q2401 : (Jvm.Cond.selects "java/util/LinkedHashMap" ({ cls := "java/util/LinkedHashMap", name := "get", desc := "(Ljava/lang/Object;)Ljava/lang/Object;" } : Jvm.MethodName) ({ cls := "java/util/LinkedHashMap", name := "get", desc := "(Ljava/lang/Object;)Ljava/lang/Object;" } : Jvm.MethodName)) ∈ lw_all := lw_g (lw_at lw_m10 147 rfl) rfl
theorem q2402 : (Jvm.Cond.code ({ cls := "java/util/LinkedHashMap", name := "get", desc := "(Ljava/lang/Object;)Ljava/lang/Object;" } : Jvm.MethodName) prog_68_method_20_code (3 : Nat) (Option.some (Jvm.ClassFile.FieldType.object "java/lang/Object"))) ∈ lw_all := lw_g (lw_at lw_m10 148 rfl) rfl
theorem q2403 : (Jvm.Cond.methodLink "java/util/LinkedHashMap" (99 : Nat) ({ cls := "java/util/LinkedHashMap", name := "getNode", desc := "(Ljava/lang/Object;)Ljava/util/HashMap$Node;" } : Jvm.MethodName)) ∈ lw_all := lw_g (lw_at lw_m10 149 rfl) rfl
theorem q2404 : (Jvm.Cond.sameMethod "java/util/LinkedHashMap" "java/util/HashMap" "getNode" "(Ljava/lang/Object;)Ljava/util/HashMap$Node;") ∈ lw_all := lw_g (lw_at lw_m10 150 rfl) rfl
theorem q2406 : (Jvm.Cond.selects "java/util/LinkedHashMap" ({ cls := "java/util/LinkedHashMap", name := "getNode", desc := "(Ljava/lang/Object;)Ljava/util/HashMap$Node;" } : Jvm.MethodName) ({ cls := "java/util/HashMap", name := "getNode", desc := "(Ljava/lang/Object;)Ljava/util/HashMap$Node;" } : Jvm.MethodName)) ∈ lw_all := lw_g (lw_at lw_m10 152 rfl) rfl
theorem q2407 : (Jvm.Cond.methodLink "java/util/LinkedHashMap" (103 : Nat) ({ cls := "java/util/LinkedHashMap", name := "afterNodeAccess", desc := "(Ljava/util/HashMap$Node;)V" } : Jvm.MethodName)) ∈ lw_all := lw_g (lw_at lw_m10 153 rfl) rfl
theorem q2409 : (Jvm.Cond.sameMethod "java/util/LinkedHashMap" "java/util/HashMap" "remove" "(Ljava/lang/Object;)Ljava/lang/Object;") ∈ lw_all := lw_g (lw_at lw_m10 155 rfl) rfl
theorem q2411 : (Jvm.Cond.selects "java/util/LinkedHashMap" ({ cls := "java/util/LinkedHashMap", name := "remove", desc := "(Ljava/lang/Object;)Ljava/lang/Object;" } : Jvm.MethodName) ({ cls := "java/util/HashMap", name := "remove", desc := "(Ljava/lang/Object;)Ljava/lang/Object;" } : Jvm.MethodName)) ∈ lw_all := lw_g (lw_at lw_m10 157 rfl) rfl
theorem q2418 : (Jvm.Cond.selects "java/util/LinkedHashMap" ({ cls := "java/util/HashMap", name := "removeNode", desc := "(ILjava/lang/Object;Ljava/lang/Object;ZZ)Ljava/util/HashMap$Node;" } : Jvm.MethodName) ({ cls := "java/util/HashMap", name := "removeNode", desc := "(ILjava/lang/Object;Ljava/lang/Object;ZZ)Ljava/util/HashMap$Node;" } : Jvm.MethodName)) ∈ lw_all := lw_g (lw_at lw_m10 164 rfl) rfl
theorem q2431 : (Jvm.Cond.selects "java/util/LinkedHashMap" ({ cls := "java/util/HashMap", name := "afterNodeRemoval", desc := "(Ljava/util/HashMap$Node;)V" } : Jvm.MethodName) ({ cls := "java/util/LinkedHashMap", name := "afterNodeRemoval", desc := "(Ljava/util/HashMap$Node;)V" } : Jvm.MethodName)) ∈ lw_all := lw_g (lw_at lw_m10 177 rfl) rfl
theorem q2432 : (Jvm.Cond.instanceMethod ({ cls := "java/util/LinkedHashMap", name := "afterNodeRemoval", desc := "(Ljava/util/HashMap$Node;)V" } : Jvm.MethodName)) ∈ lw_all := lw_g (lw_at lw_m10 178 rfl) rfl
theorem q2433 : (Jvm.Cond.code ({ cls := "java/util/LinkedHashMap", name := "afterNodeRemoval", desc := "(Ljava/util/HashMap$Node;)V" } : Jvm.MethodName) prog_68_method_8_code (5 : Nat) (Option.none : Option Jvm.ClassFile.FieldType)) ∈ lw_all := lw_g (lw_at lw_m10 179 rfl) rfl
theorem q3190 : (Jvm.Cond.sameMethod "java/util/LinkedHashMap" "java/util/HashMap" "isEmpty" "()Z") ∈ lw_all := lw_g (lw_at lw_m13 216 rfl) rfl
theorem q3192 : (Jvm.Cond.selects "java/util/LinkedHashMap" ({ cls := "java/util/LinkedHashMap", name := "isEmpty", desc := "()Z" } : Jvm.MethodName) ({ cls := "java/util/HashMap", name := "isEmpty", desc := "()Z" } : Jvm.MethodName)) ∈ lw_all := lw_g (lw_at lw_m13 218 rfl) rfl
theorem q3768 : (Jvm.Cond.selects "java/util/LinkedHashMap" ({ cls := "java/util/HashMap", name := "put", desc := "(Ljava/lang/Object;Ljava/lang/Object;)Ljava/lang/Object;" } : Jvm.MethodName) ({ cls := "java/util/HashMap", name := "put", desc := "(Ljava/lang/Object;Ljava/lang/Object;)Ljava/lang/Object;" } : Jvm.MethodName)) ∈ lw_all := lw_g (lw_at lw_m16 74 rfl) rfl
theorem q3769 : (Jvm.Cond.selects "java/util/LinkedHashMap" ({ cls := "java/util/LinkedHashMap", name := "afterNodeAccess", desc := "(Ljava/util/HashMap$Node;)V" } : Jvm.MethodName) ({ cls := "java/util/LinkedHashMap", name := "afterNodeAccess", desc := "(Ljava/util/HashMap$Node;)V" } : Jvm.MethodName)) ∈ lw_all := lw_g (lw_at lw_m16 75 rfl) rfl
theorem q3770 : (Jvm.Cond.selects "java/util/LinkedHashMap" ({ cls := "java/util/LinkedHashMap", name := "keySet", desc := "()Ljava/util/Set;" } : Jvm.MethodName) ({ cls := "java/util/LinkedHashMap", name := "keySet", desc := "()Ljava/util/Set;" } : Jvm.MethodName)) ∈ lw_all := lw_g (lw_at lw_m16 76 rfl) rfl
theorem q3773 : (Jvm.Cond.selects "java/util/LinkedHashMap" ({ cls := "java/util/HashMap", name := "size", desc := "()I" } : Jvm.MethodName) ({ cls := "java/util/HashMap", name := "size", desc := "()I" } : Jvm.MethodName)) ∈ lw_all := lw_g (lw_at lw_m16 79 rfl) rfl
theorem q3776 : (Jvm.Cond.selects "java/util/LinkedHashMap" ({ cls := "java/util/HashMap", name := "remove", desc := "(Ljava/lang/Object;)Ljava/lang/Object;" } : Jvm.MethodName) ({ cls := "java/util/HashMap", name := "remove", desc := "(Ljava/lang/Object;)Ljava/lang/Object;" } : Jvm.MethodName)) ∈ lw_all := lw_g (lw_at lw_m16 82 rfl) rfl
theorem q3799 : (Jvm.Cond.castable "java/util/LinkedHashMap" "java/lang/Object") ∈ lw_tbl := lw_at lw_m16 105 rfl
theorem in_J2 : ∀ w ∈ wsJ20, w ∈ lw_all := lw_in wsJ20 [234, 236, 222, 224, 226, 228, 230, 232, 214, 216, 218, 220] (by decide +kernel) (by decide +kernel)

/-! java/util/AbstractCollection -/
def RJ3 : String := "java/util/AbstractCollection"
abbrev cJ3_init : ByteArray := prog_48_method_1_code
def yJ3_init : MethodName := ⟨RJ3, "<init>", "()V"⟩
theorem q100 : (Jvm.Cond.initialized "java/util/AbstractCollection") ∈ lw_all := lw_g (lw_at lw_m1 6 rfl) rfl
theorem q248 : (Jvm.Cond.instanceMethod ({ cls := "java/util/AbstractCollection", name := "<init>", desc := "()V" } : Jvm.MethodName)) ∈ lw_all := lw_g (lw_at lw_m1 154 rfl) rfl
theorem q249 : (Jvm.Cond.code ({ cls := "java/util/AbstractCollection", name := "<init>", desc := "()V" } : Jvm.MethodName) prog_48_method_1_code (1 : Nat) (Option.none : Option Jvm.ClassFile.FieldType)) ∈ lw_all := lw_g (lw_at lw_m1 155 rfl) rfl
theorem q250 : (Jvm.Cond.methodLink "java/util/AbstractCollection" (1 : Nat) ({ cls := "java/lang/Object", name := "<init>", desc := "()V" } : Jvm.MethodName)) ∈ lw_all := lw_g (lw_at lw_m1 156 rfl) rfl

/-! java/util/AbstractSet -/
def RJ4 : String := "java/util/AbstractSet"
abbrev cJ4_init : ByteArray := prog_51_method_1_code
def yJ4_init : MethodName := ⟨RJ4, "<init>", "()V"⟩
theorem q101 : (Jvm.Cond.initialized "java/util/AbstractSet") ∈ lw_all := lw_g (lw_at lw_m1 7 rfl) rfl
theorem q245 : (Jvm.Cond.instanceMethod ({ cls := "java/util/AbstractSet", name := "<init>", desc := "()V" } : Jvm.MethodName)) ∈ lw_all := lw_g (lw_at lw_m1 151 rfl) rfl
theorem q246 : (Jvm.Cond.code ({ cls := "java/util/AbstractSet", name := "<init>", desc := "()V" } : Jvm.MethodName) prog_51_method_1_code (1 : Nat) (Option.none : Option Jvm.ClassFile.FieldType)) ∈ lw_all := lw_g (lw_at lw_m1 152 rfl) rfl
theorem q247 : (Jvm.Cond.methodLink "java/util/AbstractSet" (1 : Nat) ({ cls := "java/util/AbstractCollection", name := "<init>", desc := "()V" } : Jvm.MethodName)) ∈ lw_all := lw_g (lw_at lw_m1 153 rfl) rfl

/-! java/util/HashSet -/
def RJ5 : String := "java/util/HashSet"
def TJ5 : u_T := fun k => match k with
  | _ => ("java/util/HashSet", "map", "Ljava/util/HashMap;", false)
def tyJ5 : Nat → FieldType := fun k => match k with
  | _ => .object "java/util/HashMap"
abbrev wsJ50 : List Cond := u_ws RJ5 TJ5 1
theorem nmJ5 : ∀ a, a < 1 → ∀ b, b < 1 → a ≠ b → (TJ5 a).2.1 ≠ (TJ5 b).2.1 := by decide +kernel
theorem tyJ5_ok : ∀ k, k < 1 → parseFieldDescriptor (TJ5 k).2.2.1 = some (tyJ5 k) := by decide +kernel
abbrev cJ5_init : ByteArray := prog_66_method_1_code
def yJ5_init : MethodName := ⟨RJ5, "<init>", "()V"⟩
abbrev cJ5_iterator : ByteArray := prog_66_method_6_code
def yJ5_iterator : MethodName := ⟨RJ5, "iterator", "()Ljava/util/Iterator;"⟩
abbrev cJ5_contains : ByteArray := prog_66_method_9_code
def yJ5_contains : MethodName := ⟨RJ5, "contains", "(Ljava/lang/Object;)Z"⟩
abbrev cJ5_add : ByteArray := prog_66_method_10_code
def yJ5_add : MethodName := ⟨RJ5, "add", "(Ljava/lang/Object;)Z"⟩
abbrev cJ5_size : ByteArray := prog_66_method_7_code
def yJ5_size : MethodName := ⟨RJ5, "size", "()I"⟩
abbrev cJ5_remove : ByteArray := prog_66_method_11_code
def yJ5_remove : MethodName := ⟨RJ5, "remove", "(Ljava/lang/Object;)Z"⟩
theorem q102 : (Jvm.Cond.initialized "java/util/HashSet") ∈ lw_all := lw_g (lw_at lw_m1 8 rfl) rfl
theorem q240 : (Jvm.Cond.instantiable "java/util/HashSet" (1 : Nat)) ∈ lw_all := lw_g (lw_at lw_m1 146 rfl) rfl
theorem q242 : (Jvm.Cond.instanceMethod ({ cls := "java/util/HashSet", name := "<init>", desc := "()V" } : Jvm.MethodName)) ∈ lw_all := lw_g (lw_at lw_m1 148 rfl) rfl
theorem q243 : (Jvm.Cond.code ({ cls := "java/util/HashSet", name := "<init>", desc := "()V" } : Jvm.MethodName) prog_66_method_1_code (1 : Nat) (Option.none : Option Jvm.ClassFile.FieldType)) ∈ lw_all := lw_g (lw_at lw_m1 149 rfl) rfl
theorem q244 : (Jvm.Cond.methodLink "java/util/HashSet" (1 : Nat) ({ cls := "java/util/AbstractSet", name := "<init>", desc := "()V" } : Jvm.MethodName)) ∈ lw_all := lw_g (lw_at lw_m1 150 rfl) rfl
theorem q251 : (Jvm.Cond.classLink "java/util/HashSet" (7 : Nat) "java/util/HashMap") ∈ lw_all := lw_g (lw_at lw_m1 157 rfl) rfl
theorem q253 : (Jvm.Cond.methodLink "java/util/HashSet" (9 : Nat) ({ cls := "java/util/HashMap", name := "<init>", desc := "()V" } : Jvm.MethodName)) ∈ lw_all := lw_g (lw_at lw_m1 159 rfl) rfl
theorem q263 : (Jvm.Cond.fieldLink "java/util/HashSet" (10 : Nat) "java/util/HashSet" "map" "Ljava/util/HashMap;") ∈ lw_all := lw_g (lw_at lw_m1 169 rfl) rfl
theorem q264 : (Jvm.Cond.lays "java/util/HashSet" "java/util/HashSet" "map" "Ljava/util/HashMap;") ∈ lw_all := lw_g (lw_at lw_m1 170 rfl) rfl
theorem q265 : (Jvm.Cond.soleField "java/util/HashSet" "map") ∈ lw_all := lw_g (lw_at lw_m1 171 rfl) rfl
theorem q266 : (Jvm.Cond.superclass "java/util/HashSet" "java/util/AbstractSet") ∈ lw_all := lw_g (lw_at lw_m1 172 rfl) rfl
theorem q527 : (Jvm.Cond.castable "java/util/HashSet" "java/util/Collection") ∈ lw_tbl := lw_at lw_m2 193 rfl
theorem q528 : (Jvm.Cond.selects "java/util/HashSet" ({ cls := "java/util/Collection", name := "iterator", desc := "()Ljava/util/Iterator;" } : Jvm.MethodName) ({ cls := "java/util/HashSet", name := "iterator", desc := "()Ljava/util/Iterator;" } : Jvm.MethodName)) ∈ lw_all := lw_g (lw_at lw_m2 194 rfl) rfl
theorem q529 : (Jvm.Cond.unhidden "java/util/HashSet" "iterator" "()Ljava/util/Iterator;") ∈ lw_tbl := lw_at lw_m2 195 rfl
theorem q530 : (Jvm.Cond.instanceMethod ({ cls := "java/util/HashSet", name := "iterator", desc := "()Ljava/util/Iterator;" } : Jvm.MethodName)) ∈ lw_all := lw_g (lw_at lw_m2 196 rfl) rfl
theorem q531 : (Jvm.Cond.publicMethod ({ cls := "java/util/HashSet", name := "iterator", desc := "()Ljava/util/Iterator;" } : Jvm.MethodName)) ∈ lw_tbl := lw_at lw_m2 197 rfl
theorem q532 : (Jvm.Cond.code ({ cls := "java/util/HashSet", name := "iterator", desc := "()Ljava/util/Iterator;" } : Jvm.MethodName) prog_66_method_6_code (1 : Nat) (Option.some (Jvm.ClassFile.FieldType.object "java/util/Iterator"))) ∈ lw_all := lw_g (lw_at lw_m2 198 rfl) rfl
theorem q533 : (Jvm.Cond.methodLink "java/util/HashSet" (45 : Nat) ({ cls := "java/util/HashMap", name := "keySet", desc := "()Ljava/util/Set;" } : Jvm.MethodName)) ∈ lw_all := lw_g (lw_at lw_m2 199 rfl) rfl
theorem q569 : (Jvm.Cond.interfaceEntry "java/util/HashSet" (49 : Nat)) ∈ lw_tbl := lw_at lw_m2 235 rfl
theorem q570 : (Jvm.Cond.methodLink "java/util/HashSet" (49 : Nat) ({ cls := "java/util/Set", name := "iterator", desc := "()Ljava/util/Iterator;" } : Jvm.MethodName)) ∈ lw_all := lw_g (lw_at lw_m2 236 rfl) rfl
theorem q575 : (Jvm.Cond.castable "java/util/HashSet" "java/util/Set") ∈ lw_tbl := lw_at lw_m3 1 rfl
theorem q576 : (Jvm.Cond.selects "java/util/HashSet" ({ cls := "java/util/Set", name := "iterator", desc := "()Ljava/util/Iterator;" } : Jvm.MethodName) ({ cls := "java/util/HashSet", name := "iterator", desc := "()Ljava/util/Iterator;" } : Jvm.MethodName)) ∈ lw_all := lw_g (lw_at lw_m3 2 rfl) rfl
theorem q1269 : (Jvm.Cond.selects "java/util/HashSet" ({ cls := "java/lang/Object", name := "getClass", desc := "()Ljava/lang/Class;" } : Jvm.MethodName) ({ cls := "java/lang/Object", name := "getClass", desc := "()Ljava/lang/Class;" } : Jvm.MethodName)) ∈ lw_all := lw_g (lw_at lw_m5 215 rfl) rfl
theorem q1537 : (Jvm.Cond.instanceMethod ({ cls := "java/util/HashSet", name := "contains", desc := "(Ljava/lang/Object;)Z" } : Jvm.MethodName)) ∈ lw_all := lw_g (lw_at lw_m7 3 rfl) rfl
theorem q1538 : (Jvm.Cond.selects "java/util/HashSet" ({ cls := "java/util/HashSet", name := "contains", desc := "(Ljava/lang/Object;)Z" } : Jvm.MethodName) ({ cls := "java/util/HashSet", name := "contains", desc := "(Ljava/lang/Object;)Z" } : Jvm.MethodName)) ∈ lw_all := lw_g (lw_at lw_m7 4 rfl) rfl
theorem q1539 : (Jvm.Cond.code ({ cls := "java/util/HashSet", name := "contains", desc := "(Ljava/lang/Object;)Z" } : Jvm.MethodName) prog_66_method_9_code (2 : Nat) (Option.some Jvm.ClassFile.FieldType.boolean)) ∈ lw_all := lw_g (lw_at lw_m7 5 rfl) rfl
theorem q1540 : (Jvm.Cond.methodLink "java/util/HashSet" (60 : Nat) ({ cls := "java/util/HashMap", name := "containsKey", desc := "(Ljava/lang/Object;)Z" } : Jvm.MethodName)) ∈ lw_all := lw_g (lw_at lw_m7 6 rfl) rfl
theorem q2257 : (Jvm.Cond.instanceMethod ({ cls := "java/util/HashSet", name := "add", desc := "(Ljava/lang/Object;)Z" } : Jvm.MethodName)) ∈ lw_all := lw_g (lw_at lw_m10 3 rfl) rfl
theorem q2258 : (Jvm.Cond.selects "java/util/HashSet" ({ cls := "java/util/HashSet", name := "add", desc := "(Ljava/lang/Object;)Z" } : Jvm.MethodName) ({ cls := "java/util/HashSet", name := "add", desc := "(Ljava/lang/Object;)Z" } : Jvm.MethodName)) ∈ lw_all := lw_g (lw_at lw_m10 4 rfl) rfl
theorem q2259 : (Jvm.Cond.code ({ cls := "java/util/HashSet", name := "add", desc := "(Ljava/lang/Object;)Z" } : Jvm.MethodName) prog_66_method_10_code (2 : Nat) (Option.some Jvm.ClassFile.FieldType.boolean)) ∈ lw_all := lw_g (lw_at lw_m10 5 rfl) rfl
theorem q2260 : (Jvm.Cond.fieldLink "java/util/HashSet" (64 : Nat) "java/util/HashSet" "PRESENT" "Ljava/lang/Object;") ∈ lw_all := lw_g (lw_at lw_m10 6 rfl) rfl
theorem q2261 : (Jvm.Cond.laysStatic "java/util/HashSet" "PRESENT" "Ljava/lang/Object;") ∈ lw_tbl := lw_at lw_m10 7 rfl
theorem q2262 : (Jvm.Cond.methodLink "java/util/HashSet" (68 : Nat) ({ cls := "java/util/HashMap", name := "put", desc := "(Ljava/lang/Object;Ljava/lang/Object;)Ljava/lang/Object;" } : Jvm.MethodName)) ∈ lw_all := lw_g (lw_at lw_m10 8 rfl) rfl
theorem q2739 : (Jvm.Cond.instanceMethod ({ cls := "java/util/HashSet", name := "size", desc := "()I" } : Jvm.MethodName)) ∈ lw_all := lw_g (lw_at lw_m12 5 rfl) rfl
theorem q2740 : (Jvm.Cond.selects "java/util/HashSet" ({ cls := "java/util/HashSet", name := "size", desc := "()I" } : Jvm.MethodName) ({ cls := "java/util/HashSet", name := "size", desc := "()I" } : Jvm.MethodName)) ∈ lw_all := lw_g (lw_at lw_m12 6 rfl) rfl
theorem q2741 : (Jvm.Cond.code ({ cls := "java/util/HashSet", name := "size", desc := "()I" } : Jvm.MethodName) prog_66_method_7_code (1 : Nat) (Option.some Jvm.ClassFile.FieldType.int)) ∈ lw_all := lw_g (lw_at lw_m12 7 rfl) rfl
theorem q2742 : (Jvm.Cond.methodLink "java/util/HashSet" (55 : Nat) ({ cls := "java/util/HashMap", name := "size", desc := "()I" } : Jvm.MethodName)) ∈ lw_all := lw_g (lw_at lw_m12 8 rfl) rfl
theorem q2761 : (Jvm.Cond.instanceMethod ({ cls := "java/util/HashSet", name := "remove", desc := "(Ljava/lang/Object;)Z" } : Jvm.MethodName)) ∈ lw_all := lw_g (lw_at lw_m12 27 rfl) rfl
theorem q2762 : (Jvm.Cond.selects "java/util/HashSet" ({ cls := "java/util/HashSet", name := "remove", desc := "(Ljava/lang/Object;)Z" } : Jvm.MethodName) ({ cls := "java/util/HashSet", name := "remove", desc := "(Ljava/lang/Object;)Z" } : Jvm.MethodName)) ∈ lw_all := lw_g (lw_at lw_m12 28 rfl) rfl
theorem q2763 : (Jvm.Cond.code ({ cls := "java/util/HashSet", name := "remove", desc := "(Ljava/lang/Object;)Z" } : Jvm.MethodName) prog_66_method_11_code (2 : Nat) (Option.some Jvm.ClassFile.FieldType.boolean)) ∈ lw_all := lw_g (lw_at lw_m12 29 rfl) rfl
theorem q2764 : (Jvm.Cond.methodLink "java/util/HashSet" (72 : Nat) ({ cls := "java/util/HashMap", name := "remove", desc := "(Ljava/lang/Object;)Ljava/lang/Object;" } : Jvm.MethodName)) ∈ lw_all := lw_g (lw_at lw_m12 30 rfl) rfl
theorem q3765 : (Jvm.Cond.selects "java/util/HashSet" ({ cls := "java/util/HashSet", name := "iterator", desc := "()Ljava/util/Iterator;" } : Jvm.MethodName) ({ cls := "java/util/HashSet", name := "iterator", desc := "()Ljava/util/Iterator;" } : Jvm.MethodName)) ∈ lw_all := lw_g (lw_at lw_m16 71 rfl) rfl
theorem q3800 : (Jvm.Cond.castable "java/util/HashSet" "java/lang/Object") ∈ lw_tbl := lw_at lw_m16 106 rfl
theorem in_J5 : ∀ w ∈ wsJ50, w ∈ lw_all := lw_in wsJ50 [264] (by decide +kernel) (by decide +kernel)

/-! java/util/ArrayDeque -/
def RJ6 : String := "java/util/ArrayDeque"
def TJ6 : u_T := fun k => match k with
  | 0 => ("java/util/ArrayDeque", "elements", "[Ljava/lang/Object;", false)
  | 1 => ("java/util/ArrayDeque", "head", "I", false)
  | _ => ("java/util/ArrayDeque", "tail", "I", false)
def tyJ6 : Nat → FieldType := fun k => match k with
  | 0 => .array (.object "java/lang/Object")
  | 1 => .int
  | _ => .int
abbrev wsJ60 : List Cond := u_ws RJ6 TJ6 3
theorem nmJ6 : ∀ a, a < 3 → ∀ b, b < 3 → a ≠ b → (TJ6 a).2.1 ≠ (TJ6 b).2.1 := by decide +kernel
theorem tyJ6_ok : ∀ k, k < 3 → parseFieldDescriptor (TJ6 k).2.2.1 = some (tyJ6 k) := by decide +kernel
abbrev cJ6_init : ByteArray := prog_52_method_3_code
def yJ6_init : MethodName := ⟨RJ6, "<init>", "()V"⟩
abbrev cJ6_iterator : ByteArray := prog_52_method_39_code
def yJ6_iterator : MethodName := ⟨RJ6, "iterator", "()Ljava/util/Iterator;"⟩
abbrev cJ6_size : ByteArray := prog_52_method_37_code
def yJ6_size : MethodName := ⟨RJ6, "size", "()I"⟩
abbrev cJ6_sub : ByteArray := prog_52_method_9_code
def yJ6_sub : MethodName := ⟨RJ6, "sub", "(III)I"⟩
abbrev cJ6_nonNullElementAt : ByteArray := prog_52_method_11_code
def yJ6_nonNullElementAt : MethodName := ⟨RJ6, "nonNullElementAt", "([Ljava/lang/Object;I)Ljava/lang/Object;"⟩
abbrev cJ6_inc : ByteArray := prog_52_method_6_code
def yJ6_inc : MethodName := ⟨RJ6, "inc", "(II)I"⟩
abbrev cJ6_addLast : ByteArray := prog_52_method_13_code
def yJ6_addLast : MethodName := ⟨RJ6, "addLast", "(Ljava/lang/Object;)V"⟩
abbrev cJ6_grow : ByteArray := prog_52_method_1_code
def yJ6_grow : MethodName := ⟨RJ6, "grow", "(I)V"⟩
abbrev cJ6_newCapacity : ByteArray := prog_52_method_2_code
def yJ6_newCapacity : MethodName := ⟨RJ6, "newCapacity", "(II)I"⟩
abbrev cJ6_removeFirst : ByteArray := prog_52_method_18_code
def yJ6_removeFirst : MethodName := ⟨RJ6, "removeFirst", "()Ljava/lang/Object;"⟩
abbrev cJ6_pollFirst : ByteArray := prog_52_method_20_code
def yJ6_pollFirst : MethodName := ⟨RJ6, "pollFirst", "()Ljava/lang/Object;"⟩
abbrev cJ6_elementAt : ByteArray := prog_52_method_10_code
def yJ6_elementAt : MethodName := ⟨RJ6, "elementAt", "([Ljava/lang/Object;I)Ljava/lang/Object;"⟩
abbrev cJ6_isEmpty : ByteArray := prog_52_method_38_code
def yJ6_isEmpty : MethodName := ⟨RJ6, "isEmpty", "()Z"⟩
abbrev cJ6_removeLast : ByteArray := prog_52_method_19_code
def yJ6_removeLast : MethodName := ⟨RJ6, "removeLast", "()Ljava/lang/Object;"⟩
abbrev cJ6_pollLast : ByteArray := prog_52_method_21_code
def yJ6_pollLast : MethodName := ⟨RJ6, "pollLast", "()Ljava/lang/Object;"⟩
abbrev cJ6_dec : ByteArray := prog_52_method_7_code
def yJ6_dec : MethodName := ⟨RJ6, "dec", "(II)I"⟩
abbrev cJ6_clear : ByteArray := prog_52_method_53_code
def yJ6_clear : MethodName := ⟨RJ6, "clear", "()V"⟩
abbrev cJ6_circularClear : ByteArray := prog_52_method_54_code
def yJ6_circularClear : MethodName := ⟨RJ6, "circularClear", "([Ljava/lang/Object;II)V"⟩
theorem q103 : (Jvm.Cond.initialized "java/util/ArrayDeque") ∈ lw_all := lw_g (lw_at lw_m1 9 rfl) rfl
theorem q305 : (Jvm.Cond.instantiable "java/util/ArrayDeque" (3 : Nat)) ∈ lw_all := lw_g (lw_at lw_m1 211 rfl) rfl
theorem q307 : (Jvm.Cond.instanceMethod ({ cls := "java/util/ArrayDeque", name := "<init>", desc := "()V" } : Jvm.MethodName)) ∈ lw_all := lw_g (lw_at lw_m1 213 rfl) rfl
theorem q308 : (Jvm.Cond.code ({ cls := "java/util/ArrayDeque", name := "<init>", desc := "()V" } : Jvm.MethodName) prog_52_method_3_code (1 : Nat) (Option.none : Option Jvm.ClassFile.FieldType)) ∈ lw_all := lw_g (lw_at lw_m1 214 rfl) rfl
theorem q309 : (Jvm.Cond.methodLink "java/util/ArrayDeque" (42 : Nat) ({ cls := "java/util/AbstractCollection", name := "<init>", desc := "()V" } : Jvm.MethodName)) ∈ lw_all := lw_g (lw_at lw_m1 215 rfl) rfl
theorem q310 : (Jvm.Cond.classLink "java/util/ArrayDeque" (47 : Nat) "java/lang/Object") ∈ lw_all := lw_g (lw_at lw_m1 216 rfl) rfl
theorem q312 : (Jvm.Cond.fieldLink "java/util/ArrayDeque" (3 : Nat) "java/util/ArrayDeque" "elements" "[Ljava/lang/Object;") ∈ lw_all := lw_g (lw_at lw_m1 218 rfl) rfl
theorem q315 : (Jvm.Cond.fieldLink "java/util/ArrayDeque" (24 : Nat) "java/util/ArrayDeque" "head" "I") ∈ lw_all := lw_g (lw_at lw_m1 221 rfl) rfl
theorem q316 : (Jvm.Cond.fieldLink "java/util/ArrayDeque" (20 : Nat) "java/util/ArrayDeque" "tail" "I") ∈ lw_all := lw_g (lw_at lw_m1 222 rfl) rfl
theorem q317 : (Jvm.Cond.lays "java/util/ArrayDeque" "java/util/ArrayDeque" "elements" "[Ljava/lang/Object;") ∈ lw_all := lw_g (lw_at lw_m1 223 rfl) rfl
theorem q318 : (Jvm.Cond.soleField "java/util/ArrayDeque" "elements") ∈ lw_all := lw_g (lw_at lw_m1 224 rfl) rfl
theorem q319 : (Jvm.Cond.lays "java/util/ArrayDeque" "java/util/ArrayDeque" "head" "I") ∈ lw_all := lw_g (lw_at lw_m1 225 rfl) rfl
theorem q320 : (Jvm.Cond.soleField "java/util/ArrayDeque" "head") ∈ lw_all := lw_g (lw_at lw_m1 226 rfl) rfl
theorem q321 : (Jvm.Cond.lays "java/util/ArrayDeque" "java/util/ArrayDeque" "tail" "I") ∈ lw_all := lw_g (lw_at lw_m1 227 rfl) rfl
theorem q322 : (Jvm.Cond.soleField "java/util/ArrayDeque" "tail") ∈ lw_all := lw_g (lw_at lw_m1 228 rfl) rfl
theorem q323 : (Jvm.Cond.superclass "java/util/ArrayDeque" "java/util/AbstractCollection") ∈ lw_all := lw_g (lw_at lw_m1 229 rfl) rfl
theorem q439 : (Jvm.Cond.castable "java/util/ArrayDeque" "java/util/Collection") ∈ lw_tbl := lw_at lw_m2 105 rfl
theorem q440 : (Jvm.Cond.selects "java/util/ArrayDeque" ({ cls := "java/util/Collection", name := "iterator", desc := "()Ljava/util/Iterator;" } : Jvm.MethodName) ({ cls := "java/util/ArrayDeque", name := "iterator", desc := "()Ljava/util/Iterator;" } : Jvm.MethodName)) ∈ lw_all := lw_g (lw_at lw_m2 106 rfl) rfl
theorem q441 : (Jvm.Cond.unhidden "java/util/ArrayDeque" "iterator" "()Ljava/util/Iterator;") ∈ lw_tbl := lw_at lw_m2 107 rfl
theorem q442 : (Jvm.Cond.instanceMethod ({ cls := "java/util/ArrayDeque", name := "iterator", desc := "()Ljava/util/Iterator;" } : Jvm.MethodName)) ∈ lw_all := lw_g (lw_at lw_m2 108 rfl) rfl
theorem q443 : (Jvm.Cond.publicMethod ({ cls := "java/util/ArrayDeque", name := "iterator", desc := "()Ljava/util/Iterator;" } : Jvm.MethodName)) ∈ lw_tbl := lw_at lw_m2 109 rfl
theorem q444 : (Jvm.Cond.code ({ cls := "java/util/ArrayDeque", name := "iterator", desc := "()Ljava/util/Iterator;" } : Jvm.MethodName) prog_52_method_39_code (1 : Nat) (Option.some (Jvm.ClassFile.FieldType.object "java/util/Iterator"))) ∈ lw_all := lw_g (lw_at lw_m2 110 rfl) rfl
theorem q445 : (Jvm.Cond.classLink "java/util/ArrayDeque" (131 : Nat) "java/util/ArrayDeque$DeqIterator") ∈ lw_all := lw_g (lw_at lw_m2 111 rfl) rfl
theorem q447 : (Jvm.Cond.methodLink "java/util/ArrayDeque" (133 : Nat) ({ cls := "java/util/ArrayDeque$DeqIterator", name := "<init>", desc := "(Ljava/util/ArrayDeque;)V" } : Jvm.MethodName)) ∈ lw_all := lw_g (lw_at lw_m2 113 rfl) rfl
theorem q452 : (Jvm.Cond.instanceMethod ({ cls := "java/util/ArrayDeque", name := "size", desc := "()I" } : Jvm.MethodName)) ∈ lw_all := lw_g (lw_at lw_m2 118 rfl) rfl
theorem q453 : (Jvm.Cond.selects "java/util/ArrayDeque" ({ cls := "java/util/ArrayDeque", name := "size", desc := "()I" } : Jvm.MethodName) ({ cls := "java/util/ArrayDeque", name := "size", desc := "()I" } : Jvm.MethodName)) ∈ lw_all := lw_g (lw_at lw_m2 119 rfl) rfl
theorem q454 : (Jvm.Cond.code ({ cls := "java/util/ArrayDeque", name := "size", desc := "()I" } : Jvm.MethodName) prog_52_method_37_code (1 : Nat) (Option.some Jvm.ClassFile.FieldType.int)) ∈ lw_all := lw_g (lw_at lw_m2 120 rfl) rfl
theorem q455 : (Jvm.Cond.methodLink "java/util/ArrayDeque" (127 : Nat) ({ cls := "java/util/ArrayDeque", name := "sub", desc := "(III)I" } : Jvm.MethodName)) ∈ lw_all := lw_g (lw_at lw_m2 121 rfl) rfl
theorem q456 : (Jvm.Cond.static ({ cls := "java/util/ArrayDeque", name := "sub", desc := "(III)I" } : Jvm.MethodName)) ∈ lw_all := lw_g (lw_at lw_m2 122 rfl) rfl
theorem q457 : (Jvm.Cond.code ({ cls := "java/util/ArrayDeque", name := "sub", desc := "(III)I" } : Jvm.MethodName) prog_52_method_9_code (3 : Nat) (Option.some Jvm.ClassFile.FieldType.int)) ∈ lw_all := lw_g (lw_at lw_m2 123 rfl) rfl
theorem q779 : (Jvm.Cond.static ({ cls := "java/util/ArrayDeque", name := "nonNullElementAt", desc := "([Ljava/lang/Object;I)Ljava/lang/Object;" } : Jvm.MethodName)) ∈ lw_all := lw_g (lw_at lw_m3 205 rfl) rfl
theorem q780 : (Jvm.Cond.code ({ cls := "java/util/ArrayDeque", name := "nonNullElementAt", desc := "([Ljava/lang/Object;I)Ljava/lang/Object;" } : Jvm.MethodName) prog_52_method_11_code (3 : Nat) (Option.some (Jvm.ClassFile.FieldType.object "java/lang/Object"))) ∈ lw_all := lw_g (lw_at lw_m3 206 rfl) rfl
theorem q782 : (Jvm.Cond.static ({ cls := "java/util/ArrayDeque", name := "inc", desc := "(II)I" } : Jvm.MethodName)) ∈ lw_all := lw_g (lw_at lw_m3 208 rfl) rfl
theorem q783 : (Jvm.Cond.code ({ cls := "java/util/ArrayDeque", name := "inc", desc := "(II)I" } : Jvm.MethodName) prog_52_method_6_code (2 : Nat) (Option.some Jvm.ClassFile.FieldType.int)) ∈ lw_all := lw_g (lw_at lw_m3 209 rfl) rfl
theorem q1259 : (Jvm.Cond.selects "java/util/ArrayDeque" ({ cls := "java/lang/Object", name := "getClass", desc := "()Ljava/lang/Class;" } : Jvm.MethodName) ({ cls := "java/lang/Object", name := "getClass", desc := "()Ljava/lang/Class;" } : Jvm.MethodName)) ∈ lw_all := lw_g (lw_at lw_m5 205 rfl) rfl
theorem q2321 : (Jvm.Cond.instanceMethod ({ cls := "java/util/ArrayDeque", name := "addLast", desc := "(Ljava/lang/Object;)V" } : Jvm.MethodName)) ∈ lw_all := lw_g (lw_at lw_m10 67 rfl) rfl
theorem q2322 : (Jvm.Cond.selects "java/util/ArrayDeque" ({ cls := "java/util/ArrayDeque", name := "addLast", desc := "(Ljava/lang/Object;)V" } : Jvm.MethodName) ({ cls := "java/util/ArrayDeque", name := "addLast", desc := "(Ljava/lang/Object;)V" } : Jvm.MethodName)) ∈ lw_all := lw_g (lw_at lw_m10 68 rfl) rfl
theorem q2323 : (Jvm.Cond.code ({ cls := "java/util/ArrayDeque", name := "addLast", desc := "(Ljava/lang/Object;)V" } : Jvm.MethodName) prog_52_method_13_code (3 : Nat) (Option.none : Option Jvm.ClassFile.FieldType)) ∈ lw_all := lw_g (lw_at lw_m10 69 rfl) rfl
theorem q2324 : (Jvm.Cond.methodLink "java/util/ArrayDeque" (74 : Nat) ({ cls := "java/util/ArrayDeque", name := "inc", desc := "(II)I" } : Jvm.MethodName)) ∈ lw_all := lw_g (lw_at lw_m10 70 rfl) rfl
theorem q2325 : (Jvm.Cond.methodLink "java/util/ArrayDeque" (71 : Nat) ({ cls := "java/util/ArrayDeque", name := "grow", desc := "(I)V" } : Jvm.MethodName)) ∈ lw_all := lw_g (lw_at lw_m10 71 rfl) rfl
theorem q2326 : (Jvm.Cond.privateMethod ({ cls := "java/util/ArrayDeque", name := "grow", desc := "(I)V" } : Jvm.MethodName)) ∈ lw_tbl := lw_at lw_m10 72 rfl
theorem q2327 : (Jvm.Cond.instanceMethod ({ cls := "java/util/ArrayDeque", name := "grow", desc := "(I)V" } : Jvm.MethodName)) ∈ lw_all := lw_g (lw_at lw_m10 73 rfl) rfl
theorem q2328 : (Jvm.Cond.code ({ cls := "java/util/ArrayDeque", name := "grow", desc := "(I)V" } : Jvm.MethodName) prog_52_method_1_code (9 : Nat) (Option.none : Option Jvm.ClassFile.FieldType)) ∈ lw_all := lw_g (lw_at lw_m10 74 rfl) rfl
theorem q2329 : (Jvm.Cond.constant "java/util/ArrayDeque" (9 : Nat) (2147483639 : Int32)) ∈ lw_all := lw_g (lw_at lw_m10 75 rfl) rfl
theorem q2330 : (Jvm.Cond.methodLink "java/util/ArrayDeque" (10 : Nat) ({ cls := "java/util/ArrayDeque", name := "newCapacity", desc := "(II)I" } : Jvm.MethodName)) ∈ lw_all := lw_g (lw_at lw_m10 76 rfl) rfl
theorem q2331 : (Jvm.Cond.privateMethod ({ cls := "java/util/ArrayDeque", name := "newCapacity", desc := "(II)I" } : Jvm.MethodName)) ∈ lw_tbl := lw_at lw_m10 77 rfl
theorem q2332 : (Jvm.Cond.instanceMethod ({ cls := "java/util/ArrayDeque", name := "newCapacity", desc := "(II)I" } : Jvm.MethodName)) ∈ lw_all := lw_g (lw_at lw_m10 78 rfl) rfl
theorem q2333 : (Jvm.Cond.code ({ cls := "java/util/ArrayDeque", name := "newCapacity", desc := "(II)I" } : Jvm.MethodName) prog_52_method_2_code (5 : Nat) (Option.some Jvm.ClassFile.FieldType.int)) ∈ lw_all := lw_g (lw_at lw_m10 79 rfl) rfl
theorem q2334 : (Jvm.Cond.classLink "java/util/ArrayDeque" (33 : Nat) "java/lang/IllegalStateException") ∈ lw_all := lw_g (lw_at lw_m10 80 rfl) rfl
theorem q2335 : (Jvm.Cond.stringRef "java/util/ArrayDeque" (35 : Nat) "Sorry, deque too big") ∈ lw_tbl := lw_at lw_m10 81 rfl
theorem q2336 : (Jvm.Cond.methodLink "java/util/ArrayDeque" (37 : Nat) ({ cls := "java/lang/IllegalStateException", name := "<init>", desc := "(Ljava/lang/String;)V" } : Jvm.MethodName)) ∈ lw_all := lw_g (lw_at lw_m10 82 rfl) rfl
theorem q2340 : (Jvm.Cond.constant "java/util/ArrayDeque" (41 : Nat) (2147483647 : Int32)) ∈ lw_all := lw_g (lw_at lw_m10 86 rfl) rfl
theorem q2341 : (Jvm.Cond.methodLink "java/util/ArrayDeque" (14 : Nat) ({ cls := "java/util/Arrays", name := "copyOf", desc := "([Ljava/lang/Object;I)[Ljava/lang/Object;" } : Jvm.MethodName)) ∈ lw_all := lw_g (lw_at lw_m10 87 rfl) rfl
theorem q2342 : (Jvm.Cond.methodLink "java/util/ArrayDeque" (27 : Nat) ({ cls := "java/lang/System", name := "arraycopy", desc := "(Ljava/lang/Object;ILjava/lang/Object;II)V" } : Jvm.MethodName)) ∈ lw_all := lw_g (lw_at lw_m10 88 rfl) rfl
theorem q2345 : (Jvm.Cond.instanceMethod ({ cls := "java/util/ArrayDeque", name := "removeFirst", desc := "()Ljava/lang/Object;" } : Jvm.MethodName)) ∈ lw_all := lw_g (lw_at lw_m10 91 rfl) rfl
theorem q2346 : (Jvm.Cond.selects "java/util/ArrayDeque" ({ cls := "java/util/ArrayDeque", name := "removeFirst", desc := "()Ljava/lang/Object;" } : Jvm.MethodName) ({ cls := "java/util/ArrayDeque", name := "removeFirst", desc := "()Ljava/lang/Object;" } : Jvm.MethodName)) ∈ lw_all := lw_g (lw_at lw_m10 92 rfl) rfl
theorem q2347 : (Jvm.Cond.code ({ cls := "java/util/ArrayDeque", name := "removeFirst", desc := "()Ljava/lang/Object;" } : Jvm.MethodName) prog_52_method_18_code (2 : Nat) (Option.some (Jvm.ClassFile.FieldType.object "java/lang/Object"))) ∈ lw_all := lw_g (lw_at lw_m10 93 rfl) rfl
theorem q2348 : (Jvm.Cond.methodLink "java/util/ArrayDeque" (93 : Nat) ({ cls := "java/util/ArrayDeque", name := "pollFirst", desc := "()Ljava/lang/Object;" } : Jvm.MethodName)) ∈ lw_all := lw_g (lw_at lw_m10 94 rfl) rfl
theorem q2349 : (Jvm.Cond.instanceMethod ({ cls := "java/util/ArrayDeque", name := "pollFirst", desc := "()Ljava/lang/Object;" } : Jvm.MethodName)) ∈ lw_all := lw_g (lw_at lw_m10 95 rfl) rfl
theorem q2350 : (Jvm.Cond.selects "java/util/ArrayDeque" ({ cls := "java/util/ArrayDeque", name := "pollFirst", desc := "()Ljava/lang/Object;" } : Jvm.MethodName) ({ cls := "java/util/ArrayDeque", name := "pollFirst", desc := "()Ljava/lang/Object;" } : Jvm.MethodName)) ∈ lw_all := lw_g (lw_at lw_m10 96 rfl) rfl
theorem q2351 : (Jvm.Cond.code ({ cls := "java/util/ArrayDeque", name := "pollFirst", desc := "()Ljava/lang/Object;" } : Jvm.MethodName) prog_52_method_20_code (4 : Nat) (Option.some (Jvm.ClassFile.FieldType.object "java/lang/Object"))) ∈ lw_all := lw_g (lw_at lw_m10 97 rfl) rfl
theorem q2352 : (Jvm.Cond.methodLink "java/util/ArrayDeque" (103 : Nat) ({ cls := "java/util/ArrayDeque", name := "elementAt", desc := "([Ljava/lang/Object;I)Ljava/lang/Object;" } : Jvm.MethodName)) ∈ lw_all := lw_g (lw_at lw_m10 98 rfl) rfl
theorem q2353 : (Jvm.Cond.static ({ cls := "java/util/ArrayDeque", name := "elementAt", desc := "([Ljava/lang/Object;I)Ljava/lang/Object;" } : Jvm.MethodName)) ∈ lw_all := lw_g (lw_at lw_m10 99 rfl) rfl
theorem q2354 : (Jvm.Cond.code ({ cls := "java/util/ArrayDeque", name := "elementAt", desc := "([Ljava/lang/Object;I)Ljava/lang/Object;" } : Jvm.MethodName) prog_52_method_10_code (2 : Nat) (Option.some (Jvm.ClassFile.FieldType.object "java/lang/Object"))) ∈ lw_all := lw_g (lw_at lw_m10 100 rfl) rfl
theorem q2355 : (Jvm.Cond.classLink "java/util/ArrayDeque" (97 : Nat) "java/util/NoSuchElementException") ∈ lw_all := lw_g (lw_at lw_m10 101 rfl) rfl
theorem q2356 : (Jvm.Cond.methodLink "java/util/ArrayDeque" (99 : Nat) ({ cls := "java/util/NoSuchElementException", name := "<init>", desc := "()V" } : Jvm.MethodName)) ∈ lw_all := lw_g (lw_at lw_m10 102 rfl) rfl
theorem q3208 : (Jvm.Cond.instanceMethod ({ cls := "java/util/ArrayDeque", name := "isEmpty", desc := "()Z" } : Jvm.MethodName)) ∈ lw_all := lw_g (lw_at lw_m13 234 rfl) rfl
theorem q3209 : (Jvm.Cond.selects "java/util/ArrayDeque" ({ cls := "java/util/ArrayDeque", name := "isEmpty", desc := "()Z" } : Jvm.MethodName) ({ cls := "java/util/ArrayDeque", name := "isEmpty", desc := "()Z" } : Jvm.MethodName)) ∈ lw_all := lw_g (lw_at lw_m13 235 rfl) rfl
theorem q3210 : (Jvm.Cond.code ({ cls := "java/util/ArrayDeque", name := "isEmpty", desc := "()Z" } : Jvm.MethodName) prog_52_method_38_code (1 : Nat) (Option.some Jvm.ClassFile.FieldType.boolean)) ∈ lw_all := lw_g (lw_at lw_m13 236 rfl) rfl
theorem q3212 : (Jvm.Cond.instanceMethod ({ cls := "java/util/ArrayDeque", name := "removeLast", desc := "()Ljava/lang/Object;" } : Jvm.MethodName)) ∈ lw_all := lw_g (lw_at lw_m13 238 rfl) rfl
theorem q3213 : (Jvm.Cond.selects "java/util/ArrayDeque" ({ cls := "java/util/ArrayDeque", name := "removeLast", desc := "()Ljava/lang/Object;" } : Jvm.MethodName) ({ cls := "java/util/ArrayDeque", name := "removeLast", desc := "()Ljava/lang/Object;" } : Jvm.MethodName)) ∈ lw_all := lw_g (lw_at lw_m13 239 rfl) rfl
theorem q3214 : (Jvm.Cond.code ({ cls := "java/util/ArrayDeque", name := "removeLast", desc := "()Ljava/lang/Object;" } : Jvm.MethodName) prog_52_method_19_code (2 : Nat) (Option.some (Jvm.ClassFile.FieldType.object "java/lang/Object"))) ∈ lw_all := lw_g (lw_at lw_m14 0 rfl) rfl
theorem q3215 : (Jvm.Cond.methodLink "java/util/ArrayDeque" (100 : Nat) ({ cls := "java/util/ArrayDeque", name := "pollLast", desc := "()Ljava/lang/Object;" } : Jvm.MethodName)) ∈ lw_all := lw_g (lw_at lw_m14 1 rfl) rfl
theorem q3216 : (Jvm.Cond.instanceMethod ({ cls := "java/util/ArrayDeque", name := "pollLast", desc := "()Ljava/lang/Object;" } : Jvm.MethodName)) ∈ lw_all := lw_g (lw_at lw_m14 2 rfl) rfl
theorem q3217 : (Jvm.Cond.selects "java/util/ArrayDeque" ({ cls := "java/util/ArrayDeque", name := "pollLast", desc := "()Ljava/lang/Object;" } : Jvm.MethodName) ({ cls := "java/util/ArrayDeque", name := "pollLast", desc := "()Ljava/lang/Object;" } : Jvm.MethodName)) ∈ lw_all := lw_g (lw_at lw_m14 3 rfl) rfl
theorem q3218 : (Jvm.Cond.code ({ cls := "java/util/ArrayDeque", name := "pollLast", desc := "()Ljava/lang/Object;" } : Jvm.MethodName) prog_52_method_21_code (4 : Nat) (Option.some (Jvm.ClassFile.FieldType.object "java/lang/Object"))) ∈ lw_all := lw_g (lw_at lw_m14 4 rfl) rfl
theorem q3219 : (Jvm.Cond.methodLink "java/util/ArrayDeque" (68 : Nat) ({ cls := "java/util/ArrayDeque", name := "dec", desc := "(II)I" } : Jvm.MethodName)) ∈ lw_all := lw_g (lw_at lw_m14 5 rfl) rfl
theorem q3220 : (Jvm.Cond.static ({ cls := "java/util/ArrayDeque", name := "dec", desc := "(II)I" } : Jvm.MethodName)) ∈ lw_all := lw_g (lw_at lw_m14 6 rfl) rfl
theorem q3221 : (Jvm.Cond.code ({ cls := "java/util/ArrayDeque", name := "dec", desc := "(II)I" } : Jvm.MethodName) prog_52_method_7_code (2 : Nat) (Option.some Jvm.ClassFile.FieldType.int)) ∈ lw_all := lw_g (lw_at lw_m14 7 rfl) rfl
theorem q3230 : (Jvm.Cond.instanceMethod ({ cls := "java/util/ArrayDeque", name := "clear", desc := "()V" } : Jvm.MethodName)) ∈ lw_all := lw_g (lw_at lw_m14 16 rfl) rfl
theorem q3231 : (Jvm.Cond.selects "java/util/ArrayDeque" ({ cls := "java/util/ArrayDeque", name := "clear", desc := "()V" } : Jvm.MethodName) ({ cls := "java/util/ArrayDeque", name := "clear", desc := "()V" } : Jvm.MethodName)) ∈ lw_all := lw_g (lw_at lw_m14 17 rfl) rfl
theorem q3232 : (Jvm.Cond.code ({ cls := "java/util/ArrayDeque", name := "clear", desc := "()V" } : Jvm.MethodName) prog_52_method_53_code (1 : Nat) (Option.none : Option Jvm.ClassFile.FieldType)) ∈ lw_all := lw_g (lw_at lw_m14 18 rfl) rfl
theorem q3233 : (Jvm.Cond.methodLink "java/util/ArrayDeque" (181 : Nat) ({ cls := "java/util/ArrayDeque", name := "circularClear", desc := "([Ljava/lang/Object;II)V" } : Jvm.MethodName)) ∈ lw_all := lw_g (lw_at lw_m14 19 rfl) rfl
theorem q3234 : (Jvm.Cond.static ({ cls := "java/util/ArrayDeque", name := "circularClear", desc := "([Ljava/lang/Object;II)V" } : Jvm.MethodName)) ∈ lw_all := lw_g (lw_at lw_m14 20 rfl) rfl
theorem q3235 : (Jvm.Cond.code ({ cls := "java/util/ArrayDeque", name := "circularClear", desc := "([Ljava/lang/Object;II)V" } : Jvm.MethodName) prog_52_method_54_code (4 : Nat) (Option.none : Option Jvm.ClassFile.FieldType)) ∈ lw_all := lw_g (lw_at lw_m14 21 rfl) rfl
theorem q3786 : (Jvm.Cond.castable "java/util/ArrayDeque" "java/util/SequencedCollection") ∈ lw_tbl := lw_at lw_m16 92 rfl
theorem q3802 : (Jvm.Cond.castable "java/util/ArrayDeque" "java/lang/Object") ∈ lw_tbl := lw_at lw_m16 108 rfl
theorem in_J6 : ∀ w ∈ wsJ60, w ∈ lw_all := lw_in wsJ60 [317, 319, 321] (by decide +kernel) (by decide +kernel)

/-! java/lang/AbstractStringBuilder -/
def RJ7 : String := "java/lang/AbstractStringBuilder"
abbrev cJ7_init : ByteArray := prog_19_method_2_code
def yJ7_init : MethodName := ⟨RJ7, "<init>", "(I)V"⟩
abbrev cJ7_append : ByteArray := prog_19_method_22_code
def yJ7_append : MethodName := ⟨RJ7, "append", "(Ljava/lang/String;)Ljava/lang/AbstractStringBuilder;"⟩
abbrev cJ7_appendNull : ByteArray := prog_19_method_26_code
def yJ7_appendNull : MethodName := ⟨RJ7, "appendNull", "()Ljava/lang/AbstractStringBuilder;"⟩
abbrev cJ7_ensureCapacityInternal : ByteArray := prog_19_method_9_code
def yJ7_ensureCapacityInternal : MethodName := ⟨RJ7, "ensureCapacityInternal", "(I)V"⟩
abbrev cJ7_newCapacity : ByteArray := prog_19_method_10_code
def yJ7_newCapacity : MethodName := ⟨RJ7, "newCapacity", "(I)I"⟩
abbrev cJ7_isLatin1 : ByteArray := prog_19_method_68_code
def yJ7_isLatin1 : MethodName := ⟨RJ7, "isLatin1", "()Z"⟩
abbrev cJ7_putStringAt : ByteArray := prog_19_method_73_code
def yJ7_putStringAt : MethodName := ⟨RJ7, "putStringAt", "(ILjava/lang/String;)V"⟩
abbrev cJ7_inflateIfNeededFor : ByteArray := prog_19_method_71_code
def yJ7_inflateIfNeededFor : MethodName := ⟨RJ7, "inflateIfNeededFor", "(Ljava/lang/String;)V"⟩
abbrev cJ7_inflate : ByteArray := prog_19_method_11_code
def yJ7_inflate : MethodName := ⟨RJ7, "inflate", "()V"⟩
abbrev cJ7_append_2 : ByteArray := prog_19_method_32_code
def yJ7_append_2 : MethodName := ⟨RJ7, "append", "(I)Ljava/lang/AbstractStringBuilder;"⟩
abbrev cJ7_getValue : ByteArray := prog_19_method_64_code
def yJ7_getValue : MethodName := ⟨RJ7, "getValue", "()[B"⟩
abbrev cJ7_length : ByteArray := prog_19_method_6_code
def yJ7_length : MethodName := ⟨RJ7, "length", "()I"⟩
abbrev cJ7_compareTo : ByteArray := prog_19_method_5_code
def yJ7_compareTo : MethodName := ⟨RJ7, "compareTo", "(Ljava/lang/AbstractStringBuilder;)I"⟩
abbrev cJ7_append_3 : ByteArray := prog_19_method_31_code
def yJ7_append_3 : MethodName := ⟨RJ7, "append", "(C)Ljava/lang/AbstractStringBuilder;"⟩
abbrev cJ7_charAt : ByteArray := prog_19_method_14_code
def yJ7_charAt : MethodName := ⟨RJ7, "charAt", "(I)C"⟩
abbrev cJ7_setLength : ByteArray := prog_19_method_13_code
def yJ7_setLength : MethodName := ⟨RJ7, "setLength", "(I)V"⟩
theorem q104 : (Jvm.Cond.initialized "java/lang/AbstractStringBuilder") ∈ lw_all := lw_g (lw_at lw_m1 10 rfl) rfl
theorem q330 : (Jvm.Cond.instanceMethod ({ cls := "java/lang/AbstractStringBuilder", name := "<init>", desc := "(I)V" } : Jvm.MethodName)) ∈ lw_all := lw_g (lw_at lw_m1 236 rfl) rfl
theorem q331 : (Jvm.Cond.code ({ cls := "java/lang/AbstractStringBuilder", name := "<init>", desc := "(I)V" } : Jvm.MethodName) prog_19_method_2_code (2 : Nat) (Option.none : Option Jvm.ClassFile.FieldType)) ∈ lw_all := lw_g (lw_at lw_m1 237 rfl) rfl
theorem q332 : (Jvm.Cond.methodLink "java/lang/AbstractStringBuilder" (3 : Nat) ({ cls := "java/lang/Object", name := "<init>", desc := "()V" } : Jvm.MethodName)) ∈ lw_all := lw_g (lw_at lw_m1 238 rfl) rfl
theorem q333 : (Jvm.Cond.fieldLink "java/lang/AbstractStringBuilder" (18 : Nat) "java/lang/String" "COMPACT_STRINGS" "Z") ∈ lw_all := lw_g (lw_at lw_m1 239 rfl) rfl
theorem q335 : (Jvm.Cond.methodLink "java/lang/AbstractStringBuilder" (26 : Nat) ({ cls := "java/lang/StringUTF16", name := "newBytesFor", desc := "(I)[B" } : Jvm.MethodName)) ∈ lw_all := lw_g (lw_at lw_m2 1 rfl) rfl
theorem q342 : (Jvm.Cond.fieldLink "java/lang/AbstractStringBuilder" (15 : Nat) "java/lang/AbstractStringBuilder" "value" "[B") ∈ lw_all := lw_g (lw_at lw_m2 8 rfl) rfl
theorem q343 : (Jvm.Cond.fieldLink "java/lang/AbstractStringBuilder" (22 : Nat) "java/lang/AbstractStringBuilder" "coder" "B") ∈ lw_all := lw_g (lw_at lw_m2 9 rfl) rfl
theorem q344 : (Jvm.Cond.fieldLink "java/lang/AbstractStringBuilder" (73 : Nat) "java/lang/AbstractStringBuilder" "maybeLatin1" "Z") ∈ lw_all := lw_g (lw_at lw_m2 10 rfl) rfl
theorem q346 : (Jvm.Cond.fieldLink "java/lang/AbstractStringBuilder" (79 : Nat) "java/lang/AbstractStringBuilder" "count" "I") ∈ lw_all := lw_g (lw_at lw_m2 12 rfl) rfl
theorem q348 : (Jvm.Cond.soleField "java/lang/AbstractStringBuilder" "value") ∈ lw_all := lw_g (lw_at lw_m2 14 rfl) rfl
theorem q350 : (Jvm.Cond.soleField "java/lang/AbstractStringBuilder" "coder") ∈ lw_all := lw_g (lw_at lw_m2 16 rfl) rfl
theorem q352 : (Jvm.Cond.soleField "java/lang/AbstractStringBuilder" "maybeLatin1") ∈ lw_all := lw_g (lw_at lw_m2 18 rfl) rfl
theorem q354 : (Jvm.Cond.soleField "java/lang/AbstractStringBuilder" "count") ∈ lw_all := lw_g (lw_at lw_m2 20 rfl) rfl
theorem q863 : (Jvm.Cond.instanceMethod ({ cls := "java/lang/AbstractStringBuilder", name := "append", desc := "(Ljava/lang/String;)Ljava/lang/AbstractStringBuilder;" } : Jvm.MethodName)) ∈ lw_all := lw_g (lw_at lw_m4 49 rfl) rfl
theorem q864 : (Jvm.Cond.code ({ cls := "java/lang/AbstractStringBuilder", name := "append", desc := "(Ljava/lang/String;)Ljava/lang/AbstractStringBuilder;" } : Jvm.MethodName) prog_19_method_22_code (3 : Nat) (Option.some (Jvm.ClassFile.FieldType.object "java/lang/AbstractStringBuilder"))) ∈ lw_all := lw_g (lw_at lw_m4 50 rfl) rfl
theorem q865 : (Jvm.Cond.methodLink "java/lang/AbstractStringBuilder" (204 : Nat) ({ cls := "java/lang/AbstractStringBuilder", name := "appendNull", desc := "()Ljava/lang/AbstractStringBuilder;" } : Jvm.MethodName)) ∈ lw_all := lw_g (lw_at lw_m4 51 rfl) rfl
theorem q866 : (Jvm.Cond.privateMethod ({ cls := "java/lang/AbstractStringBuilder", name := "appendNull", desc := "()Ljava/lang/AbstractStringBuilder;" } : Jvm.MethodName)) ∈ lw_tbl := lw_at lw_m4 52 rfl
theorem q867 : (Jvm.Cond.instanceMethod ({ cls := "java/lang/AbstractStringBuilder", name := "appendNull", desc := "()Ljava/lang/AbstractStringBuilder;" } : Jvm.MethodName)) ∈ lw_all := lw_g (lw_at lw_m4 53 rfl) rfl
theorem q868 : (Jvm.Cond.code ({ cls := "java/lang/AbstractStringBuilder", name := "appendNull", desc := "()Ljava/lang/AbstractStringBuilder;" } : Jvm.MethodName) prog_19_method_26_code (3 : Nat) (Option.some (Jvm.ClassFile.FieldType.object "java/lang/AbstractStringBuilder"))) ∈ lw_all := lw_g (lw_at lw_m4 54 rfl) rfl
theorem q869 : (Jvm.Cond.methodLink "java/lang/AbstractStringBuilder" (100 : Nat) ({ cls := "java/lang/AbstractStringBuilder", name := "ensureCapacityInternal", desc := "(I)V" } : Jvm.MethodName)) ∈ lw_all := lw_g (lw_at lw_m4 55 rfl) rfl
theorem q870 : (Jvm.Cond.privateMethod ({ cls := "java/lang/AbstractStringBuilder", name := "ensureCapacityInternal", desc := "(I)V" } : Jvm.MethodName)) ∈ lw_tbl := lw_at lw_m4 56 rfl
theorem q871 : (Jvm.Cond.instanceMethod ({ cls := "java/lang/AbstractStringBuilder", name := "ensureCapacityInternal", desc := "(I)V" } : Jvm.MethodName)) ∈ lw_all := lw_g (lw_at lw_m4 57 rfl) rfl
theorem q872 : (Jvm.Cond.code ({ cls := "java/lang/AbstractStringBuilder", name := "ensureCapacityInternal", desc := "(I)V" } : Jvm.MethodName) prog_19_method_9_code (3 : Nat) (Option.none : Option Jvm.ClassFile.FieldType)) ∈ lw_all := lw_g (lw_at lw_m4 58 rfl) rfl
theorem q873 : (Jvm.Cond.methodLink "java/lang/AbstractStringBuilder" (104 : Nat) ({ cls := "java/lang/AbstractStringBuilder", name := "newCapacity", desc := "(I)I" } : Jvm.MethodName)) ∈ lw_all := lw_g (lw_at lw_m4 59 rfl) rfl
theorem q874 : (Jvm.Cond.privateMethod ({ cls := "java/lang/AbstractStringBuilder", name := "newCapacity", desc := "(I)I" } : Jvm.MethodName)) ∈ lw_tbl := lw_at lw_m4 60 rfl
theorem q875 : (Jvm.Cond.instanceMethod ({ cls := "java/lang/AbstractStringBuilder", name := "newCapacity", desc := "(I)I" } : Jvm.MethodName)) ∈ lw_all := lw_g (lw_at lw_m4 61 rfl) rfl
theorem q876 : (Jvm.Cond.code ({ cls := "java/lang/AbstractStringBuilder", name := "newCapacity", desc := "(I)I" } : Jvm.MethodName) prog_19_method_10_code (6 : Nat) (Option.some Jvm.ClassFile.FieldType.int)) ∈ lw_all := lw_g (lw_at lw_m4 62 rfl) rfl
theorem q877 : (Jvm.Cond.methodLink "java/lang/AbstractStringBuilder" (114 : Nat) ({ cls := "jdk/internal/util/ArraysSupport", name := "newLength", desc := "(III)I" } : Jvm.MethodName)) ∈ lw_all := lw_g (lw_at lw_m4 63 rfl) rfl
theorem q887 : (Jvm.Cond.constant "java/lang/AbstractStringBuilder" (39 : Nat) (2147483647 : Int32)) ∈ lw_all := lw_g (lw_at lw_m4 73 rfl) rfl
theorem q888 : (Jvm.Cond.methodLink "java/lang/AbstractStringBuilder" (108 : Nat) ({ cls := "java/util/Arrays", name := "copyOf", desc := "([BI)[B" } : Jvm.MethodName)) ∈ lw_all := lw_g (lw_at lw_m4 74 rfl) rfl
theorem q902 : (Jvm.Cond.methodLink "java/lang/AbstractStringBuilder" (83 : Nat) ({ cls := "java/lang/AbstractStringBuilder", name := "isLatin1", desc := "()Z" } : Jvm.MethodName)) ∈ lw_all := lw_g (lw_at lw_m4 88 rfl) rfl
theorem q903 : (Jvm.Cond.instanceMethod ({ cls := "java/lang/AbstractStringBuilder", name := "isLatin1", desc := "()Z" } : Jvm.MethodName)) ∈ lw_all := lw_g (lw_at lw_m4 89 rfl) rfl
theorem q904 : (Jvm.Cond.sameMethod "java/lang/AbstractStringBuilder" "java/lang/AbstractStringBuilder" "isLatin1" "()Z") ∈ lw_all := lw_g (lw_at lw_m4 90 rfl) rfl
theorem q906 : (Jvm.Cond.code ({ cls := "java/lang/AbstractStringBuilder", name := "isLatin1", desc := "()Z" } : Jvm.MethodName) prog_19_method_68_code (1 : Nat) (Option.some Jvm.ClassFile.FieldType.boolean)) ∈ lw_all := lw_g (lw_at lw_m4 92 rfl) rfl
theorem q907 : (Jvm.Cond.methodLink "java/lang/AbstractStringBuilder" (226 : Nat) ({ cls := "java/lang/StringUTF16", name := "putCharsAt", desc := "([BICCCC)I" } : Jvm.MethodName)) ∈ lw_all := lw_g (lw_at lw_m4 93 rfl) rfl
theorem q933 : (Jvm.Cond.methodLink "java/lang/AbstractStringBuilder" (32 : Nat) ({ cls := "java/lang/String", name := "length", desc := "()I" } : Jvm.MethodName)) ∈ lw_all := lw_g (lw_at lw_m4 119 rfl) rfl
theorem q942 : (Jvm.Cond.methodLink "java/lang/AbstractStringBuilder" (208 : Nat) ({ cls := "java/lang/AbstractStringBuilder", name := "putStringAt", desc := "(ILjava/lang/String;)V" } : Jvm.MethodName)) ∈ lw_all := lw_g (lw_at lw_m4 128 rfl) rfl
theorem q943 : (Jvm.Cond.privateMethod ({ cls := "java/lang/AbstractStringBuilder", name := "putStringAt", desc := "(ILjava/lang/String;)V" } : Jvm.MethodName)) ∈ lw_tbl := lw_at lw_m4 129 rfl
theorem q944 : (Jvm.Cond.instanceMethod ({ cls := "java/lang/AbstractStringBuilder", name := "putStringAt", desc := "(ILjava/lang/String;)V" } : Jvm.MethodName)) ∈ lw_all := lw_g (lw_at lw_m4 130 rfl) rfl
theorem q945 : (Jvm.Cond.code ({ cls := "java/lang/AbstractStringBuilder", name := "putStringAt", desc := "(ILjava/lang/String;)V" } : Jvm.MethodName) prog_19_method_73_code (3 : Nat) (Option.none : Option Jvm.ClassFile.FieldType)) ∈ lw_all := lw_g (lw_at lw_m4 131 rfl) rfl
theorem q946 : (Jvm.Cond.methodLink "java/lang/AbstractStringBuilder" (397 : Nat) ({ cls := "java/lang/AbstractStringBuilder", name := "inflateIfNeededFor", desc := "(Ljava/lang/String;)V" } : Jvm.MethodName)) ∈ lw_all := lw_g (lw_at lw_m4 132 rfl) rfl
theorem q947 : (Jvm.Cond.privateMethod ({ cls := "java/lang/AbstractStringBuilder", name := "inflateIfNeededFor", desc := "(Ljava/lang/String;)V" } : Jvm.MethodName)) ∈ lw_tbl := lw_at lw_m4 133 rfl
theorem q948 : (Jvm.Cond.instanceMethod ({ cls := "java/lang/AbstractStringBuilder", name := "inflateIfNeededFor", desc := "(Ljava/lang/String;)V" } : Jvm.MethodName)) ∈ lw_all := lw_g (lw_at lw_m4 134 rfl) rfl
theorem q949 : (Jvm.Cond.code ({ cls := "java/lang/AbstractStringBuilder", name := "inflateIfNeededFor", desc := "(Ljava/lang/String;)V" } : Jvm.MethodName) prog_19_method_71_code (2 : Nat) (Option.none : Option Jvm.ClassFile.FieldType)) ∈ lw_all := lw_g (lw_at lw_m4 135 rfl) rfl
theorem q950 : (Jvm.Cond.methodLink "java/lang/AbstractStringBuilder" (40 : Nat) ({ cls := "java/lang/String", name := "coder", desc := "()B" } : Jvm.MethodName)) ∈ lw_all := lw_g (lw_at lw_m4 136 rfl) rfl
theorem q951 : (Jvm.Cond.methodLink "java/lang/AbstractStringBuilder" (195 : Nat) ({ cls := "java/lang/AbstractStringBuilder", name := "inflate", desc := "()V" } : Jvm.MethodName)) ∈ lw_all := lw_g (lw_at lw_m4 137 rfl) rfl
theorem q952 : (Jvm.Cond.privateMethod ({ cls := "java/lang/AbstractStringBuilder", name := "inflate", desc := "()V" } : Jvm.MethodName)) ∈ lw_tbl := lw_at lw_m4 138 rfl
theorem q953 : (Jvm.Cond.instanceMethod ({ cls := "java/lang/AbstractStringBuilder", name := "inflate", desc := "()V" } : Jvm.MethodName)) ∈ lw_all := lw_g (lw_at lw_m4 139 rfl) rfl
theorem q954 : (Jvm.Cond.code ({ cls := "java/lang/AbstractStringBuilder", name := "inflate", desc := "()V" } : Jvm.MethodName) prog_19_method_11_code (2 : Nat) (Option.none : Option Jvm.ClassFile.FieldType)) ∈ lw_all := lw_g (lw_at lw_m4 140 rfl) rfl
theorem q955 : (Jvm.Cond.methodLink "java/lang/AbstractStringBuilder" (125 : Nat) ({ cls := "java/lang/StringLatin1", name := "inflate", desc := "([BI[BII)V" } : Jvm.MethodName)) ∈ lw_all := lw_g (lw_at lw_m4 141 rfl) rfl
theorem q970 : (Jvm.Cond.methodLink "java/lang/AbstractStringBuilder" (399 : Nat) ({ cls := "java/lang/String", name := "getBytes", desc := "([BIB)V" } : Jvm.MethodName)) ∈ lw_all := lw_g (lw_at lw_m4 156 rfl) rfl
theorem q981 : (Jvm.Cond.instanceMethod ({ cls := "java/lang/AbstractStringBuilder", name := "append", desc := "(I)Ljava/lang/AbstractStringBuilder;" } : Jvm.MethodName)) ∈ lw_all := lw_g (lw_at lw_m4 167 rfl) rfl
theorem q982 : (Jvm.Cond.code ({ cls := "java/lang/AbstractStringBuilder", name := "append", desc := "(I)Ljava/lang/AbstractStringBuilder;" } : Jvm.MethodName) prog_19_method_32_code (4 : Nat) (Option.some (Jvm.ClassFile.FieldType.object "java/lang/AbstractStringBuilder"))) ∈ lw_all := lw_g (lw_at lw_m4 168 rfl) rfl
theorem q983 : (Jvm.Cond.methodLink "java/lang/AbstractStringBuilder" (245 : Nat) ({ cls := "java/lang/Integer", name := "stringSize", desc := "(I)I" } : Jvm.MethodName)) ∈ lw_all := lw_g (lw_at lw_m4 169 rfl) rfl
theorem q986 : (Jvm.Cond.methodLink "java/lang/AbstractStringBuilder" (248 : Nat) ({ cls := "java/lang/Integer", name := "getChars", desc := "(II[B)I" } : Jvm.MethodName)) ∈ lw_all := lw_g (lw_at lw_m4 172 rfl) rfl
theorem q993 : (Jvm.Cond.methodLink "java/lang/AbstractStringBuilder" (251 : Nat) ({ cls := "java/lang/StringUTF16", name := "getChars", desc := "(III[B)I" } : Jvm.MethodName)) ∈ lw_all := lw_g (lw_at lw_m4 179 rfl) rfl
theorem q1015 : (Jvm.Cond.instanceMethod ({ cls := "java/lang/AbstractStringBuilder", name := "getValue", desc := "()[B" } : Jvm.MethodName)) ∈ lw_all := lw_g (lw_at lw_m4 201 rfl) rfl
theorem q1016 : (Jvm.Cond.sameMethod "java/lang/AbstractStringBuilder" "java/lang/AbstractStringBuilder" "getValue" "()[B") ∈ lw_all := lw_g (lw_at lw_m4 202 rfl) rfl
theorem q1018 : (Jvm.Cond.code ({ cls := "java/lang/AbstractStringBuilder", name := "getValue", desc := "()[B" } : Jvm.MethodName) prog_19_method_64_code (1 : Nat) (Option.some (Jvm.ClassFile.FieldType.array Jvm.ClassFile.FieldType.byte))) ∈ lw_all := lw_g (lw_at lw_m4 204 rfl) rfl
theorem q1020 : (Jvm.Cond.instanceMethod ({ cls := "java/lang/AbstractStringBuilder", name := "length", desc := "()I" } : Jvm.MethodName)) ∈ lw_all := lw_g (lw_at lw_m4 206 rfl) rfl
theorem q1021 : (Jvm.Cond.sameMethod "java/lang/AbstractStringBuilder" "java/lang/AbstractStringBuilder" "length" "()I") ∈ lw_all := lw_g (lw_at lw_m4 207 rfl) rfl
theorem q1026 : (Jvm.Cond.code ({ cls := "java/lang/AbstractStringBuilder", name := "length", desc := "()I" } : Jvm.MethodName) prog_19_method_6_code (1 : Nat) (Option.some Jvm.ClassFile.FieldType.int)) ∈ lw_all := lw_g (lw_at lw_m4 212 rfl) rfl
theorem q1886 : (Jvm.Cond.instanceMethod ({ cls := "java/lang/AbstractStringBuilder", name := "compareTo", desc := "(Ljava/lang/AbstractStringBuilder;)I" } : Jvm.MethodName)) ∈ lw_all := lw_g (lw_at lw_m8 112 rfl) rfl
theorem q1887 : (Jvm.Cond.code ({ cls := "java/lang/AbstractStringBuilder", name := "compareTo", desc := "(Ljava/lang/AbstractStringBuilder;)I" } : Jvm.MethodName) prog_19_method_5_code (6 : Nat) (Option.some Jvm.ClassFile.FieldType.int)) ∈ lw_all := lw_g (lw_at lw_m8 113 rfl) rfl
theorem q1888 : (Jvm.Cond.methodLink "java/lang/AbstractStringBuilder" (87 : Nat) ({ cls := "java/lang/StringLatin1", name := "compareTo", desc := "([B[BII)I" } : Jvm.MethodName)) ∈ lw_all := lw_g (lw_at lw_m8 114 rfl) rfl
theorem q1889 : (Jvm.Cond.methodLink "java/lang/AbstractStringBuilder" (93 : Nat) ({ cls := "java/lang/StringUTF16", name := "compareTo", desc := "([B[BII)I" } : Jvm.MethodName)) ∈ lw_all := lw_g (lw_at lw_m8 115 rfl) rfl
theorem q1898 : (Jvm.Cond.methodLink "java/lang/AbstractStringBuilder" (94 : Nat) ({ cls := "java/lang/StringLatin1", name := "compareToUTF16", desc := "([B[BII)I" } : Jvm.MethodName)) ∈ lw_all := lw_g (lw_at lw_m8 124 rfl) rfl
theorem q1902 : (Jvm.Cond.methodLink "java/lang/AbstractStringBuilder" (97 : Nat) ({ cls := "java/lang/StringUTF16", name := "compareToLatin1", desc := "([B[BII)I" } : Jvm.MethodName)) ∈ lw_all := lw_g (lw_at lw_m8 128 rfl) rfl
theorem q1911 : (Jvm.Cond.instanceMethod ({ cls := "java/lang/AbstractStringBuilder", name := "append", desc := "(C)Ljava/lang/AbstractStringBuilder;" } : Jvm.MethodName)) ∈ lw_all := lw_g (lw_at lw_m8 137 rfl) rfl
theorem q1912 : (Jvm.Cond.code ({ cls := "java/lang/AbstractStringBuilder", name := "append", desc := "(C)Ljava/lang/AbstractStringBuilder;" } : Jvm.MethodName) prog_19_method_31_code (2 : Nat) (Option.some (Jvm.ClassFile.FieldType.object "java/lang/AbstractStringBuilder"))) ∈ lw_all := lw_g (lw_at lw_m8 138 rfl) rfl
theorem q1913 : (Jvm.Cond.methodLink "java/lang/AbstractStringBuilder" (191 : Nat) ({ cls := "java/lang/StringLatin1", name := "canEncode", desc := "(C)Z" } : Jvm.MethodName)) ∈ lw_all := lw_g (lw_at lw_m8 139 rfl) rfl
theorem q1916 : (Jvm.Cond.methodLink "java/lang/AbstractStringBuilder" (197 : Nat) ({ cls := "java/lang/StringUTF16", name := "putCharSB", desc := "([BII)V" } : Jvm.MethodName)) ∈ lw_all := lw_g (lw_at lw_m8 142 rfl) rfl
theorem q2939 : (Jvm.Cond.instanceMethod ({ cls := "java/lang/AbstractStringBuilder", name := "charAt", desc := "(I)C" } : Jvm.MethodName)) ∈ lw_all := lw_g (lw_at lw_m12 205 rfl) rfl
theorem q2940 : (Jvm.Cond.code ({ cls := "java/lang/AbstractStringBuilder", name := "charAt", desc := "(I)C" } : Jvm.MethodName) prog_19_method_14_code (5 : Nat) (Option.some Jvm.ClassFile.FieldType.char)) ∈ lw_all := lw_g (lw_at lw_m12 206 rfl) rfl
theorem q2941 : (Jvm.Cond.methodLink "java/lang/AbstractStringBuilder" (138 : Nat) ({ cls := "java/lang/Math", name := "min", desc := "(II)I" } : Jvm.MethodName)) ∈ lw_all := lw_g (lw_at lw_m12 207 rfl) rfl
theorem q2942 : (Jvm.Cond.methodLink "java/lang/AbstractStringBuilder" (144 : Nat) ({ cls := "java/lang/String", name := "checkIndex", desc := "(II)V" } : Jvm.MethodName)) ∈ lw_all := lw_g (lw_at lw_m12 208 rfl) rfl
theorem q2943 : (Jvm.Cond.methodLink "java/lang/AbstractStringBuilder" (148 : Nat) ({ cls := "java/lang/StringUTF16", name := "getChar", desc := "([BI)C" } : Jvm.MethodName)) ∈ lw_all := lw_g (lw_at lw_m12 209 rfl) rfl
theorem q3074 : (Jvm.Cond.instanceMethod ({ cls := "java/lang/AbstractStringBuilder", name := "setLength", desc := "(I)V" } : Jvm.MethodName)) ∈ lw_all := lw_g (lw_at lw_m13 100 rfl) rfl
theorem q3075 : (Jvm.Cond.code ({ cls := "java/lang/AbstractStringBuilder", name := "setLength", desc := "(I)V" } : Jvm.MethodName) prog_19_method_13_code (2 : Nat) (Option.none : Option Jvm.ClassFile.FieldType)) ∈ lw_all := lw_g (lw_at lw_m13 101 rfl) rfl
theorem q3076 : (Jvm.Cond.classLink "java/lang/AbstractStringBuilder" (129 : Nat) "java/lang/StringIndexOutOfBoundsException") ∈ lw_all := lw_g (lw_at lw_m13 102 rfl) rfl
theorem q3078 : (Jvm.Cond.methodLink "java/lang/AbstractStringBuilder" (131 : Nat) ({ cls := "java/lang/StringIndexOutOfBoundsException", name := "<init>", desc := "(I)V" } : Jvm.MethodName)) ∈ lw_all := lw_g (lw_at lw_m13 104 rfl) rfl
theorem q3095 : (Jvm.Cond.methodLink "java/lang/AbstractStringBuilder" (133 : Nat) ({ cls := "java/lang/StringLatin1", name := "fillNull", desc := "([BII)V" } : Jvm.MethodName)) ∈ lw_all := lw_g (lw_at lw_m13 121 rfl) rfl
theorem q3117 : (Jvm.Cond.methodLink "java/lang/AbstractStringBuilder" (137 : Nat) ({ cls := "java/lang/StringUTF16", name := "fillNull", desc := "([BII)V" } : Jvm.MethodName)) ∈ lw_all := lw_g (lw_at lw_m13 143 rfl) rfl
theorem q3754 : (Jvm.Cond.sameMethod "java/lang/AbstractStringBuilder" "java/lang/AbstractStringBuilder" "append" "(Ljava/lang/String;)Ljava/lang/AbstractStringBuilder;") ∈ lw_all := lw_g (lw_at lw_m16 60 rfl) rfl
theorem q3755 : (Jvm.Cond.sameMethod "java/lang/AbstractStringBuilder" "java/lang/AbstractStringBuilder" "appendNull" "()Ljava/lang/AbstractStringBuilder;") ∈ lw_all := lw_g (lw_at lw_m16 61 rfl) rfl
theorem q3756 : (Jvm.Cond.sameMethod "java/lang/AbstractStringBuilder" "java/lang/AbstractStringBuilder" "ensureCapacityInternal" "(I)V") ∈ lw_all := lw_g (lw_at lw_m16 62 rfl) rfl
theorem q3757 : (Jvm.Cond.sameMethod "java/lang/AbstractStringBuilder" "java/lang/AbstractStringBuilder" "newCapacity" "(I)I") ∈ lw_all := lw_g (lw_at lw_m16 63 rfl) rfl
theorem q3758 : (Jvm.Cond.sameMethod "java/lang/AbstractStringBuilder" "java/lang/AbstractStringBuilder" "putStringAt" "(ILjava/lang/String;)V") ∈ lw_all := lw_g (lw_at lw_m16 64 rfl) rfl
theorem q3759 : (Jvm.Cond.sameMethod "java/lang/AbstractStringBuilder" "java/lang/AbstractStringBuilder" "inflateIfNeededFor" "(Ljava/lang/String;)V") ∈ lw_all := lw_g (lw_at lw_m16 65 rfl) rfl
theorem q3760 : (Jvm.Cond.sameMethod "java/lang/AbstractStringBuilder" "java/lang/AbstractStringBuilder" "inflate" "()V") ∈ lw_all := lw_g (lw_at lw_m16 66 rfl) rfl
theorem q3761 : (Jvm.Cond.sameMethod "java/lang/AbstractStringBuilder" "java/lang/AbstractStringBuilder" "append" "(I)Ljava/lang/AbstractStringBuilder;") ∈ lw_all := lw_g (lw_at lw_m16 67 rfl) rfl
theorem q3763 : (Jvm.Cond.sameMethod "java/lang/AbstractStringBuilder" "java/lang/AbstractStringBuilder" "compareTo" "(Ljava/lang/AbstractStringBuilder;)I") ∈ lw_all := lw_g (lw_at lw_m16 69 rfl) rfl
theorem q3764 : (Jvm.Cond.sameMethod "java/lang/AbstractStringBuilder" "java/lang/AbstractStringBuilder" "append" "(C)Ljava/lang/AbstractStringBuilder;") ∈ lw_all := lw_g (lw_at lw_m16 70 rfl) rfl
theorem q3778 : (Jvm.Cond.sameMethod "java/lang/AbstractStringBuilder" "java/lang/AbstractStringBuilder" "charAt" "(I)C") ∈ lw_all := lw_g (lw_at lw_m16 84 rfl) rfl
theorem q3781 : (Jvm.Cond.sameMethod "java/lang/AbstractStringBuilder" "java/lang/AbstractStringBuilder" "setLength" "(I)V") ∈ lw_all := lw_g (lw_at lw_m16 87 rfl) rfl

/-! java/lang/StringBuilder -/
def RJ8 : String := "java/lang/StringBuilder"
def TJ8 : u_T := fun k => match k with
  | 0 => ("java/lang/AbstractStringBuilder", "value", "[B", false)
  | 1 => ("java/lang/AbstractStringBuilder", "coder", "B", false)
  | 2 => ("java/lang/AbstractStringBuilder", "maybeLatin1", "Z", false)
  | _ => ("java/lang/AbstractStringBuilder", "count", "I", false)
def tyJ8 : Nat → FieldType := fun k => match k with
  | 0 => .array .byte
  | 1 => .byte
  | 2 => .boolean
  | _ => .int
abbrev wsJ80 : List Cond := u_ws RJ8 TJ8 4
theorem nmJ8 : ∀ a, a < 4 → ∀ b, b < 4 → a ≠ b → (TJ8 a).2.1 ≠ (TJ8 b).2.1 := by decide +kernel
theorem tyJ8_ok : ∀ k, k < 4 → parseFieldDescriptor (TJ8 k).2.2.1 = some (tyJ8 k) := by decide +kernel
abbrev cJ8_init : ByteArray := prog_38_method_1_code
def yJ8_init : MethodName := ⟨RJ8, "<init>", "()V"⟩
abbrev cJ8_append : ByteArray := prog_38_method_7_code
def yJ8_append : MethodName := ⟨RJ8, "append", "(Ljava/lang/String;)Ljava/lang/StringBuilder;"⟩
abbrev cJ8_append_2 : ByteArray := prog_38_method_15_code
def yJ8_append_2 : MethodName := ⟨RJ8, "append", "(I)Ljava/lang/StringBuilder;"⟩
abbrev cJ8_toString : ByteArray := prog_38_method_42_code
def yJ8_toString : MethodName := ⟨RJ8, "toString", "()Ljava/lang/String;"⟩
abbrev cJ8_length : ByteArray := prog_38_method_93_code
def yJ8_length : MethodName := ⟨RJ8, "length", "()I"⟩
abbrev cJ8_compareTo : ByteArray := prog_38_method_97_code
def yJ8_compareTo : MethodName := ⟨RJ8, "compareTo", "(Ljava/lang/Object;)I"⟩
abbrev cJ8_compareTo_2 : ByteArray := prog_38_method_5_code
def yJ8_compareTo_2 : MethodName := ⟨RJ8, "compareTo", "(Ljava/lang/StringBuilder;)I"⟩
abbrev cJ8_append_3 : ByteArray := prog_38_method_14_code
def yJ8_append_3 : MethodName := ⟨RJ8, "append", "(C)Ljava/lang/StringBuilder;"⟩
abbrev cJ8_charAt : ByteArray := prog_38_method_88_code
def yJ8_charAt : MethodName := ⟨RJ8, "charAt", "(I)C"⟩
abbrev cJ8_setLength : ByteArray := prog_38_method_89_code
def yJ8_setLength : MethodName := ⟨RJ8, "setLength", "(I)V"⟩
theorem q105 : (Jvm.Cond.initialized "java/lang/StringBuilder") ∈ lw_all := lw_g (lw_at lw_m1 11 rfl) rfl
theorem q325 : (Jvm.Cond.instantiable "java/lang/StringBuilder" (4 : Nat)) ∈ lw_all := lw_g (lw_at lw_m1 231 rfl) rfl
theorem q327 : (Jvm.Cond.instanceMethod ({ cls := "java/lang/StringBuilder", name := "<init>", desc := "()V" } : Jvm.MethodName)) ∈ lw_all := lw_g (lw_at lw_m1 233 rfl) rfl
theorem q328 : (Jvm.Cond.code ({ cls := "java/lang/StringBuilder", name := "<init>", desc := "()V" } : Jvm.MethodName) prog_38_method_1_code (1 : Nat) (Option.none : Option Jvm.ClassFile.FieldType)) ∈ lw_all := lw_g (lw_at lw_m1 234 rfl) rfl
theorem q329 : (Jvm.Cond.methodLink "java/lang/StringBuilder" (1 : Nat) ({ cls := "java/lang/AbstractStringBuilder", name := "<init>", desc := "(I)V" } : Jvm.MethodName)) ∈ lw_all := lw_g (lw_at lw_m1 235 rfl) rfl
theorem q347 : (Jvm.Cond.lays "java/lang/StringBuilder" "java/lang/AbstractStringBuilder" "value" "[B") ∈ lw_all := lw_g (lw_at lw_m2 13 rfl) rfl
theorem q349 : (Jvm.Cond.lays "java/lang/StringBuilder" "java/lang/AbstractStringBuilder" "coder" "B") ∈ lw_all := lw_g (lw_at lw_m2 15 rfl) rfl
theorem q351 : (Jvm.Cond.lays "java/lang/StringBuilder" "java/lang/AbstractStringBuilder" "maybeLatin1" "Z") ∈ lw_all := lw_g (lw_at lw_m2 17 rfl) rfl
theorem q353 : (Jvm.Cond.lays "java/lang/StringBuilder" "java/lang/AbstractStringBuilder" "count" "I") ∈ lw_all := lw_g (lw_at lw_m2 19 rfl) rfl
theorem q355 : (Jvm.Cond.superclass "java/lang/StringBuilder" "java/lang/AbstractStringBuilder") ∈ lw_all := lw_g (lw_at lw_m2 21 rfl) rfl
theorem q859 : (Jvm.Cond.instanceMethod ({ cls := "java/lang/StringBuilder", name := "append", desc := "(Ljava/lang/String;)Ljava/lang/StringBuilder;" } : Jvm.MethodName)) ∈ lw_all := lw_g (lw_at lw_m4 45 rfl) rfl
theorem q860 : (Jvm.Cond.selects "java/lang/StringBuilder" ({ cls := "java/lang/StringBuilder", name := "append", desc := "(Ljava/lang/String;)Ljava/lang/StringBuilder;" } : Jvm.MethodName) ({ cls := "java/lang/StringBuilder", name := "append", desc := "(Ljava/lang/String;)Ljava/lang/StringBuilder;" } : Jvm.MethodName)) ∈ lw_all := lw_g (lw_at lw_m4 46 rfl) rfl
theorem q861 : (Jvm.Cond.code ({ cls := "java/lang/StringBuilder", name := "append", desc := "(Ljava/lang/String;)Ljava/lang/StringBuilder;" } : Jvm.MethodName) prog_38_method_7_code (2 : Nat) (Option.some (Jvm.ClassFile.FieldType.object "java/lang/StringBuilder"))) ∈ lw_all := lw_g (lw_at lw_m4 47 rfl) rfl
theorem q862 : (Jvm.Cond.methodLink "java/lang/StringBuilder" (29 : Nat) ({ cls := "java/lang/AbstractStringBuilder", name := "append", desc := "(Ljava/lang/String;)Ljava/lang/AbstractStringBuilder;" } : Jvm.MethodName)) ∈ lw_all := lw_g (lw_at lw_m4 48 rfl) rfl
theorem q905 : (Jvm.Cond.selects "java/lang/StringBuilder" ({ cls := "java/lang/AbstractStringBuilder", name := "isLatin1", desc := "()Z" } : Jvm.MethodName) ({ cls := "java/lang/AbstractStringBuilder", name := "isLatin1", desc := "()Z" } : Jvm.MethodName)) ∈ lw_all := lw_g (lw_at lw_m4 91 rfl) rfl
theorem q977 : (Jvm.Cond.instanceMethod ({ cls := "java/lang/StringBuilder", name := "append", desc := "(I)Ljava/lang/StringBuilder;" } : Jvm.MethodName)) ∈ lw_all := lw_g (lw_at lw_m4 163 rfl) rfl
theorem q978 : (Jvm.Cond.selects "java/lang/StringBuilder" ({ cls := "java/lang/StringBuilder", name := "append", desc := "(I)Ljava/lang/StringBuilder;" } : Jvm.MethodName) ({ cls := "java/lang/StringBuilder", name := "append", desc := "(I)Ljava/lang/StringBuilder;" } : Jvm.MethodName)) ∈ lw_all := lw_g (lw_at lw_m4 164 rfl) rfl
theorem q979 : (Jvm.Cond.code ({ cls := "java/lang/StringBuilder", name := "append", desc := "(I)Ljava/lang/StringBuilder;" } : Jvm.MethodName) prog_38_method_15_code (2 : Nat) (Option.some (Jvm.ClassFile.FieldType.object "java/lang/StringBuilder"))) ∈ lw_all := lw_g (lw_at lw_m4 165 rfl) rfl
theorem q980 : (Jvm.Cond.methodLink "java/lang/StringBuilder" (53 : Nat) ({ cls := "java/lang/AbstractStringBuilder", name := "append", desc := "(I)Ljava/lang/AbstractStringBuilder;" } : Jvm.MethodName)) ∈ lw_all := lw_g (lw_at lw_m4 166 rfl) rfl
theorem q1002 : (Jvm.Cond.instanceMethod ({ cls := "java/lang/StringBuilder", name := "toString", desc := "()Ljava/lang/String;" } : Jvm.MethodName)) ∈ lw_all := lw_g (lw_at lw_m4 188 rfl) rfl
theorem q1003 : (Jvm.Cond.selects "java/lang/StringBuilder" ({ cls := "java/lang/StringBuilder", name := "toString", desc := "()Ljava/lang/String;" } : Jvm.MethodName) ({ cls := "java/lang/StringBuilder", name := "toString", desc := "()Ljava/lang/String;" } : Jvm.MethodName)) ∈ lw_all := lw_g (lw_at lw_m4 189 rfl) rfl
theorem q1004 : (Jvm.Cond.code ({ cls := "java/lang/StringBuilder", name := "toString", desc := "()Ljava/lang/String;" } : Jvm.MethodName) prog_38_method_42_code (1 : Nat) (Option.some (Jvm.ClassFile.FieldType.object "java/lang/String"))) ∈ lw_all := lw_g (lw_at lw_m4 190 rfl) rfl
theorem q1005 : (Jvm.Cond.classLink "java/lang/StringBuilder" (18 : Nat) "java/lang/String") ∈ lw_all := lw_g (lw_at lw_m4 191 rfl) rfl
theorem q1007 : (Jvm.Cond.methodLink "java/lang/StringBuilder" (137 : Nat) ({ cls := "java/lang/String", name := "<init>", desc := "(Ljava/lang/StringBuilder;)V" } : Jvm.MethodName)) ∈ lw_all := lw_g (lw_at lw_m4 193 rfl) rfl
theorem q1017 : (Jvm.Cond.selects "java/lang/StringBuilder" ({ cls := "java/lang/AbstractStringBuilder", name := "getValue", desc := "()[B" } : Jvm.MethodName) ({ cls := "java/lang/AbstractStringBuilder", name := "getValue", desc := "()[B" } : Jvm.MethodName)) ∈ lw_all := lw_g (lw_at lw_m4 203 rfl) rfl
theorem q1022 : (Jvm.Cond.selects "java/lang/StringBuilder" ({ cls := "java/lang/AbstractStringBuilder", name := "length", desc := "()I" } : Jvm.MethodName) ({ cls := "java/lang/StringBuilder", name := "length", desc := "()I" } : Jvm.MethodName)) ∈ lw_all := lw_g (lw_at lw_m4 208 rfl) rfl
theorem q1023 : (Jvm.Cond.instanceMethod ({ cls := "java/lang/StringBuilder", name := "length", desc := "()I" } : Jvm.MethodName)) ∈ lw_all := lw_g (lw_at lw_m4 209 rfl) rfl
theorem q1024 : (Jvm.Cond.code ({ cls := "java/lang/StringBuilder", name := "length", desc := "()I" } : Jvm.MethodName) prog_38_method_93_code (1 : Nat) (Option.some Jvm.ClassFile.FieldType.int)) ∈ lw_all := lw_g (lw_at lw_m4 210 rfl) rfl
theorem q1025 : (Jvm.Cond.methodLink "java/lang/StringBuilder" (343 : Nat) ({ cls := "java/lang/AbstractStringBuilder", name := "length", desc := "()I" } : Jvm.MethodName)) ∈ lw_all := lw_g (lw_at lw_m4 211 rfl) rfl
theorem q1255 : (Jvm.Cond.selects "java/lang/StringBuilder" ({ cls := "java/lang/Object", name := "getClass", desc := "()Ljava/lang/Class;" } : Jvm.MethodName) ({ cls := "java/lang/Object", name := "getClass", desc := "()Ljava/lang/Class;" } : Jvm.MethodName)) ∈ lw_all := lw_g (lw_at lw_m5 201 rfl) rfl
theorem q1644 : (Jvm.Cond.selects "java/lang/StringBuilder" ({ cls := "java/lang/Object", name := "hashCode", desc := "()I" } : Jvm.MethodName) ({ cls := "java/lang/Object", name := "hashCode", desc := "()I" } : Jvm.MethodName)) ∈ lw_all := lw_g (lw_at lw_m7 110 rfl) rfl
theorem q1688 : (Jvm.Cond.selects "java/lang/StringBuilder" ({ cls := "java/lang/Object", name := "equals", desc := "(Ljava/lang/Object;)Z" } : Jvm.MethodName) ({ cls := "java/lang/Object", name := "equals", desc := "(Ljava/lang/Object;)Z" } : Jvm.MethodName)) ∈ lw_all := lw_g (lw_at lw_m7 154 rfl) rfl
theorem q1874 : (Jvm.Cond.castable "java/lang/StringBuilder" "java/lang/Comparable") ∈ lw_tbl := lw_at lw_m8 100 rfl
theorem q1875 : (Jvm.Cond.selects "java/lang/StringBuilder" ({ cls := "java/lang/Comparable", name := "compareTo", desc := "(Ljava/lang/Object;)I" } : Jvm.MethodName) ({ cls := "java/lang/StringBuilder", name := "compareTo", desc := "(Ljava/lang/Object;)I" } : Jvm.MethodName)) ∈ lw_all := lw_g (lw_at lw_m8 101 rfl) rfl
theorem q1876 : (Jvm.Cond.unhidden "java/lang/StringBuilder" "compareTo" "(Ljava/lang/Object;)I") ∈ lw_tbl := lw_at lw_m8 102 rfl
theorem q1877 : (Jvm.Cond.instanceMethod ({ cls := "java/lang/StringBuilder", name := "compareTo", desc := "(Ljava/lang/Object;)I" } : Jvm.MethodName)) ∈ lw_all := lw_g (lw_at lw_m8 103 rfl) rfl
theorem q1878 : (Jvm.Cond.publicMethod ({ cls := "java/lang/StringBuilder", name := "compareTo", desc := "(Ljava/lang/Object;)I" } : Jvm.MethodName)) ∈ lw_tbl := lw_at lw_m8 104 rfl
theorem q1879 : (Jvm.Cond.code ({ cls := "java/lang/StringBuilder", name := "compareTo", desc := "(Ljava/lang/Object;)I" } : Jvm.MethodName) prog_38_method_97_code (2 : Nat) (Option.some Jvm.ClassFile.FieldType.int)) ∈ lw_all := lw_g (lw_at lw_m8 105 rfl) rfl
theorem q1880 : (Jvm.Cond.classLink "java/lang/StringBuilder" (24 : Nat) "java/lang/StringBuilder") ∈ lw_all := lw_g (lw_at lw_m8 106 rfl) rfl
theorem q1881 : (Jvm.Cond.methodLink "java/lang/StringBuilder" (346 : Nat) ({ cls := "java/lang/StringBuilder", name := "compareTo", desc := "(Ljava/lang/StringBuilder;)I" } : Jvm.MethodName)) ∈ lw_all := lw_g (lw_at lw_m8 107 rfl) rfl
theorem q1882 : (Jvm.Cond.instanceMethod ({ cls := "java/lang/StringBuilder", name := "compareTo", desc := "(Ljava/lang/StringBuilder;)I" } : Jvm.MethodName)) ∈ lw_all := lw_g (lw_at lw_m8 108 rfl) rfl
theorem q1883 : (Jvm.Cond.selects "java/lang/StringBuilder" ({ cls := "java/lang/StringBuilder", name := "compareTo", desc := "(Ljava/lang/StringBuilder;)I" } : Jvm.MethodName) ({ cls := "java/lang/StringBuilder", name := "compareTo", desc := "(Ljava/lang/StringBuilder;)I" } : Jvm.MethodName)) ∈ lw_all := lw_g (lw_at lw_m8 109 rfl) rfl
theorem q1884 : (Jvm.Cond.code ({ cls := "java/lang/StringBuilder", name := "compareTo", desc := "(Ljava/lang/StringBuilder;)I" } : Jvm.MethodName) prog_38_method_5_code (2 : Nat) (Option.some Jvm.ClassFile.FieldType.int)) ∈ lw_all := lw_g (lw_at lw_m8 110 rfl) rfl
theorem q1885 : (Jvm.Cond.methodLink "java/lang/StringBuilder" (13 : Nat) ({ cls := "java/lang/AbstractStringBuilder", name := "compareTo", desc := "(Ljava/lang/AbstractStringBuilder;)I" } : Jvm.MethodName)) ∈ lw_all := lw_g (lw_at lw_m8 111 rfl) rfl
theorem q1907 : (Jvm.Cond.instanceMethod ({ cls := "java/lang/StringBuilder", name := "append", desc := "(C)Ljava/lang/StringBuilder;" } : Jvm.MethodName)) ∈ lw_all := lw_g (lw_at lw_m8 133 rfl) rfl
theorem q1908 : (Jvm.Cond.selects "java/lang/StringBuilder" ({ cls := "java/lang/StringBuilder", name := "append", desc := "(C)Ljava/lang/StringBuilder;" } : Jvm.MethodName) ({ cls := "java/lang/StringBuilder", name := "append", desc := "(C)Ljava/lang/StringBuilder;" } : Jvm.MethodName)) ∈ lw_all := lw_g (lw_at lw_m8 134 rfl) rfl
theorem q1909 : (Jvm.Cond.code ({ cls := "java/lang/StringBuilder", name := "append", desc := "(C)Ljava/lang/StringBuilder;" } : Jvm.MethodName) prog_38_method_14_code (2 : Nat) (Option.some (Jvm.ClassFile.FieldType.object "java/lang/StringBuilder"))) ∈ lw_all := lw_g (lw_at lw_m8 135 rfl) rfl
theorem q1910 : (Jvm.Cond.methodLink "java/lang/StringBuilder" (50 : Nat) ({ cls := "java/lang/AbstractStringBuilder", name := "append", desc := "(C)Ljava/lang/AbstractStringBuilder;" } : Jvm.MethodName)) ∈ lw_all := lw_g (lw_at lw_m8 136 rfl) rfl
theorem q2935 : (Jvm.Cond.instanceMethod ({ cls := "java/lang/StringBuilder", name := "charAt", desc := "(I)C" } : Jvm.MethodName)) ∈ lw_all := lw_g (lw_at lw_m12 201 rfl) rfl
theorem q2936 : (Jvm.Cond.selects "java/lang/StringBuilder" ({ cls := "java/lang/StringBuilder", name := "charAt", desc := "(I)C" } : Jvm.MethodName) ({ cls := "java/lang/StringBuilder", name := "charAt", desc := "(I)C" } : Jvm.MethodName)) ∈ lw_all := lw_g (lw_at lw_m12 202 rfl) rfl
theorem q2937 : (Jvm.Cond.code ({ cls := "java/lang/StringBuilder", name := "charAt", desc := "(I)C" } : Jvm.MethodName) prog_38_method_88_code (2 : Nat) (Option.some Jvm.ClassFile.FieldType.char)) ∈ lw_all := lw_g (lw_at lw_m12 203 rfl) rfl
theorem q2938 : (Jvm.Cond.methodLink "java/lang/StringBuilder" (329 : Nat) ({ cls := "java/lang/AbstractStringBuilder", name := "charAt", desc := "(I)C" } : Jvm.MethodName)) ∈ lw_all := lw_g (lw_at lw_m12 204 rfl) rfl
theorem q3070 : (Jvm.Cond.instanceMethod ({ cls := "java/lang/StringBuilder", name := "setLength", desc := "(I)V" } : Jvm.MethodName)) ∈ lw_all := lw_g (lw_at lw_m13 96 rfl) rfl
theorem q3071 : (Jvm.Cond.selects "java/lang/StringBuilder" ({ cls := "java/lang/StringBuilder", name := "setLength", desc := "(I)V" } : Jvm.MethodName) ({ cls := "java/lang/StringBuilder", name := "setLength", desc := "(I)V" } : Jvm.MethodName)) ∈ lw_all := lw_g (lw_at lw_m13 97 rfl) rfl
theorem q3072 : (Jvm.Cond.code ({ cls := "java/lang/StringBuilder", name := "setLength", desc := "(I)V" } : Jvm.MethodName) prog_38_method_89_code (2 : Nat) (Option.none : Option Jvm.ClassFile.FieldType)) ∈ lw_all := lw_g (lw_at lw_m13 98 rfl) rfl
theorem q3073 : (Jvm.Cond.methodLink "java/lang/StringBuilder" (333 : Nat) ({ cls := "java/lang/AbstractStringBuilder", name := "setLength", desc := "(I)V" } : Jvm.MethodName)) ∈ lw_all := lw_g (lw_at lw_m13 99 rfl) rfl
theorem q3777 : (Jvm.Cond.selects "java/lang/StringBuilder" ({ cls := "java/lang/StringBuilder", name := "length", desc := "()I" } : Jvm.MethodName) ({ cls := "java/lang/StringBuilder", name := "length", desc := "()I" } : Jvm.MethodName)) ∈ lw_all := lw_g (lw_at lw_m16 83 rfl) rfl
theorem q3803 : (Jvm.Cond.castable "java/lang/StringBuilder" "java/lang/Object") ∈ lw_tbl := lw_at lw_m16 109 rfl
theorem in_J8 : ∀ w ∈ wsJ80, w ∈ lw_all := lw_in wsJ80 [347, 349, 351, 353] (by decide +kernel) (by decide +kernel)

/-! java/lang/String -/
def RJ9 : String := "java/lang/String"
def TJ9 : u_T := fun k => match k with
  | 0 => ("java/lang/String", "value", "[B", true)
  | 1 => ("java/lang/String", "coder", "B", true)
  | 2 => ("java/lang/String", "hash", "I", false)
  | _ => ("java/lang/String", "hashIsZero", "Z", false)
def tyJ9 : Nat → FieldType := fun k => match k with
  | 0 => .array .byte
  | 1 => .byte
  | 2 => .int
  | _ => .boolean
abbrev wsJ90 : List Cond := u_ws RJ9 TJ9 4
theorem nmJ9 : ∀ a, a < 4 → ∀ b, b < 4 → a ≠ b → (TJ9 a).2.1 ≠ (TJ9 b).2.1 := by decide +kernel
theorem tyJ9_ok : ∀ k, k < 4 → parseFieldDescriptor (TJ9 k).2.2.1 = some (tyJ9 k) := by decide +kernel
abbrev cJ9_checkBoundsBeginEnd : ByteArray := prog_37_method_158_code
def yJ9_checkBoundsBeginEnd : MethodName := ⟨RJ9, "checkBoundsBeginEnd", "(III)V"⟩
abbrev cJ9_length : ByteArray := prog_37_method_54_code
def yJ9_length : MethodName := ⟨RJ9, "length", "()I"⟩
abbrev cJ9_coder : ByteArray := prog_37_method_152_code
def yJ9_coder : MethodName := ⟨RJ9, "coder", "()B"⟩
abbrev cJ9_checkBoundsOffCount : ByteArray := prog_37_method_157_code
def yJ9_checkBoundsOffCount : MethodName := ⟨RJ9, "checkBoundsOffCount", "(III)I"⟩
abbrev cJ9_getBytes : ByteArray := prog_37_method_147_code
def yJ9_getBytes : MethodName := ⟨RJ9, "getBytes", "([BIB)V"⟩
abbrev cJ9_init : ByteArray := prog_37_method_53_code
def yJ9_init : MethodName := ⟨RJ9, "<init>", "(Ljava/lang/StringBuilder;)V"⟩
abbrev cJ9_init_2 : ByteArray := prog_37_method_150_code
def yJ9_init_2 : MethodName := ⟨RJ9, "<init>", "(Ljava/lang/AbstractStringBuilder;Ljava/lang/Void;)V"⟩
abbrev cJ9_hashCode : ByteArray := prog_37_method_78_code
def yJ9_hashCode : MethodName := ⟨RJ9, "hashCode", "()I"⟩
abbrev cJ9_isLatin1 : ByteArray := prog_37_method_154_code
def yJ9_isLatin1 : MethodName := ⟨RJ9, "isLatin1", "()Z"⟩
abbrev cJ9_equals : ByteArray := prog_37_method_66_code
def yJ9_equals : MethodName := ⟨RJ9, "equals", "(Ljava/lang/Object;)Z"⟩
abbrev cJ9_compareTo : ByteArray := prog_37_method_162_code
def yJ9_compareTo : MethodName := ⟨RJ9, "compareTo", "(Ljava/lang/Object;)I"⟩
abbrev cJ9_compareTo_2 : ByteArray := prog_37_method_71_code
def yJ9_compareTo_2 : MethodName := ⟨RJ9, "compareTo", "(Ljava/lang/String;)I"⟩
abbrev cJ9_checkOffset : ByteArray := prog_37_method_156_code
def yJ9_checkOffset : MethodName := ⟨RJ9, "checkOffset", "(II)V"⟩
abbrev cJ9_checkIndex : ByteArray := prog_37_method_155_code
def yJ9_checkIndex : MethodName := ⟨RJ9, "checkIndex", "(II)V"⟩
abbrev cJ9_charAt : ByteArray := prog_37_method_56_code
def yJ9_charAt : MethodName := ⟨RJ9, "charAt", "(I)C"⟩
theorem q106 : (Jvm.Cond.initialized "java/lang/String") ∈ lw_all := lw_g (lw_at lw_m1 12 rfl) rfl
theorem q334 : (Jvm.Cond.laysStatic "java/lang/String" "COMPACT_STRINGS" "Z") ∈ lw_tbl := lw_at lw_m2 0 rfl
theorem q345 : (Jvm.Cond.fieldLink "java/lang/String" (1048 : Nat) "java/lang/AbstractStringBuilder" "maybeLatin1" "Z") ∈ lw_all := lw_g (lw_at lw_m2 11 rfl) rfl
theorem q917 : (Jvm.Cond.static ({ cls := "java/lang/String", name := "checkBoundsBeginEnd", desc := "(III)V" } : Jvm.MethodName)) ∈ lw_all := lw_g (lw_at lw_m4 103 rfl) rfl
theorem q918 : (Jvm.Cond.code ({ cls := "java/lang/String", name := "checkBoundsBeginEnd", desc := "(III)V" } : Jvm.MethodName) prog_37_method_158_code (3 : Nat) (Option.none : Option Jvm.ClassFile.FieldType)) ∈ lw_all := lw_g (lw_at lw_m4 104 rfl) rfl
theorem q919 : (Jvm.Cond.fieldLink "java/lang/String" (1053 : Nat) "jdk/internal/util/Preconditions" "SIOOBE_FORMATTER" "Ljava/util/function/BiFunction;") ∈ lw_all := lw_g (lw_at lw_m4 105 rfl) rfl
theorem q921 : (Jvm.Cond.methodLink "java/lang/String" (1062 : Nat) ({ cls := "jdk/internal/util/Preconditions", name := "checkFromToIndex", desc := "(IIILjava/util/function/BiFunction;)I" } : Jvm.MethodName)) ∈ lw_all := lw_g (lw_at lw_m4 107 rfl) rfl
theorem q934 : (Jvm.Cond.instanceMethod ({ cls := "java/lang/String", name := "length", desc := "()I" } : Jvm.MethodName)) ∈ lw_all := lw_g (lw_at lw_m4 120 rfl) rfl
theorem q935 : (Jvm.Cond.selects "java/lang/String" ({ cls := "java/lang/String", name := "length", desc := "()I" } : Jvm.MethodName) ({ cls := "java/lang/String", name := "length", desc := "()I" } : Jvm.MethodName)) ∈ lw_all := lw_g (lw_at lw_m4 121 rfl) rfl
theorem q936 : (Jvm.Cond.code ({ cls := "java/lang/String", name := "length", desc := "()I" } : Jvm.MethodName) prog_37_method_54_code (1 : Nat) (Option.some Jvm.ClassFile.FieldType.int)) ∈ lw_all := lw_g (lw_at lw_m4 122 rfl) rfl
theorem q937 : (Jvm.Cond.methodLink "java/lang/String" (335 : Nat) ({ cls := "java/lang/String", name := "coder", desc := "()B" } : Jvm.MethodName)) ∈ lw_all := lw_g (lw_at lw_m4 123 rfl) rfl
theorem q938 : (Jvm.Cond.instanceMethod ({ cls := "java/lang/String", name := "coder", desc := "()B" } : Jvm.MethodName)) ∈ lw_all := lw_g (lw_at lw_m4 124 rfl) rfl
theorem q939 : (Jvm.Cond.selects "java/lang/String" ({ cls := "java/lang/String", name := "coder", desc := "()B" } : Jvm.MethodName) ({ cls := "java/lang/String", name := "coder", desc := "()B" } : Jvm.MethodName)) ∈ lw_all := lw_g (lw_at lw_m4 125 rfl) rfl
theorem q940 : (Jvm.Cond.code ({ cls := "java/lang/String", name := "coder", desc := "()B" } : Jvm.MethodName) prog_37_method_152_code (1 : Nat) (Option.some Jvm.ClassFile.FieldType.byte)) ∈ lw_all := lw_g (lw_at lw_m4 126 rfl) rfl
theorem q941 : (Jvm.Cond.fieldLink "java/lang/String" (38 : Nat) "java/lang/String" "COMPACT_STRINGS" "Z") ∈ lw_all := lw_g (lw_at lw_m4 127 rfl) rfl
theorem q965 : (Jvm.Cond.static ({ cls := "java/lang/String", name := "checkBoundsOffCount", desc := "(III)I" } : Jvm.MethodName)) ∈ lw_all := lw_g (lw_at lw_m4 151 rfl) rfl
theorem q966 : (Jvm.Cond.code ({ cls := "java/lang/String", name := "checkBoundsOffCount", desc := "(III)I" } : Jvm.MethodName) prog_37_method_157_code (3 : Nat) (Option.some Jvm.ClassFile.FieldType.int)) ∈ lw_all := lw_g (lw_at lw_m4 152 rfl) rfl
theorem q967 : (Jvm.Cond.methodLink "java/lang/String" (1065 : Nat) ({ cls := "jdk/internal/util/Preconditions", name := "checkFromIndexSize", desc := "(IIILjava/util/function/BiFunction;)I" } : Jvm.MethodName)) ∈ lw_all := lw_g (lw_at lw_m4 153 rfl) rfl
theorem q971 : (Jvm.Cond.instanceMethod ({ cls := "java/lang/String", name := "getBytes", desc := "([BIB)V" } : Jvm.MethodName)) ∈ lw_all := lw_g (lw_at lw_m4 157 rfl) rfl
theorem q972 : (Jvm.Cond.selects "java/lang/String" ({ cls := "java/lang/String", name := "getBytes", desc := "([BIB)V" } : Jvm.MethodName) ({ cls := "java/lang/String", name := "getBytes", desc := "([BIB)V" } : Jvm.MethodName)) ∈ lw_all := lw_g (lw_at lw_m4 158 rfl) rfl
theorem q973 : (Jvm.Cond.code ({ cls := "java/lang/String", name := "getBytes", desc := "([BIB)V" } : Jvm.MethodName) prog_37_method_147_code (4 : Nat) (Option.none : Option Jvm.ClassFile.FieldType)) ∈ lw_all := lw_g (lw_at lw_m4 159 rfl) rfl
theorem q974 : (Jvm.Cond.methodLink "java/lang/String" (212 : Nat) ({ cls := "java/lang/System", name := "arraycopy", desc := "(Ljava/lang/Object;ILjava/lang/Object;II)V" } : Jvm.MethodName)) ∈ lw_all := lw_g (lw_at lw_m4 160 rfl) rfl
theorem q975 : (Jvm.Cond.methodLink "java/lang/String" (106 : Nat) ({ cls := "java/lang/StringLatin1", name := "inflate", desc := "([BI[BII)V" } : Jvm.MethodName)) ∈ lw_all := lw_g (lw_at lw_m4 161 rfl) rfl
theorem q1006 : (Jvm.Cond.instantiable "java/lang/String" (4 : Nat)) ∈ lw_all := lw_g (lw_at lw_m4 192 rfl) rfl
theorem q1008 : (Jvm.Cond.instanceMethod ({ cls := "java/lang/String", name := "<init>", desc := "(Ljava/lang/StringBuilder;)V" } : Jvm.MethodName)) ∈ lw_all := lw_g (lw_at lw_m4 194 rfl) rfl
theorem q1009 : (Jvm.Cond.code ({ cls := "java/lang/String", name := "<init>", desc := "(Ljava/lang/StringBuilder;)V" } : Jvm.MethodName) prog_37_method_53_code (2 : Nat) (Option.none : Option Jvm.ClassFile.FieldType)) ∈ lw_all := lw_g (lw_at lw_m4 195 rfl) rfl
theorem q1010 : (Jvm.Cond.methodLink "java/lang/String" (489 : Nat) ({ cls := "java/lang/String", name := "<init>", desc := "(Ljava/lang/AbstractStringBuilder;Ljava/lang/Void;)V" } : Jvm.MethodName)) ∈ lw_all := lw_g (lw_at lw_m4 196 rfl) rfl
theorem q1011 : (Jvm.Cond.instanceMethod ({ cls := "java/lang/String", name := "<init>", desc := "(Ljava/lang/AbstractStringBuilder;Ljava/lang/Void;)V" } : Jvm.MethodName)) ∈ lw_all := lw_g (lw_at lw_m4 197 rfl) rfl
theorem q1012 : (Jvm.Cond.code ({ cls := "java/lang/String", name := "<init>", desc := "(Ljava/lang/AbstractStringBuilder;Ljava/lang/Void;)V" } : Jvm.MethodName) prog_37_method_150_code (5 : Nat) (Option.none : Option Jvm.ClassFile.FieldType)) ∈ lw_all := lw_g (lw_at lw_m4 198 rfl) rfl
theorem q1013 : (Jvm.Cond.methodLink "java/lang/String" (1 : Nat) ({ cls := "java/lang/Object", name := "<init>", desc := "()V" } : Jvm.MethodName)) ∈ lw_all := lw_g (lw_at lw_m4 199 rfl) rfl
theorem q1014 : (Jvm.Cond.methodLink "java/lang/String" (552 : Nat) ({ cls := "java/lang/AbstractStringBuilder", name := "getValue", desc := "()[B" } : Jvm.MethodName)) ∈ lw_all := lw_g (lw_at lw_m4 200 rfl) rfl
theorem q1019 : (Jvm.Cond.methodLink "java/lang/String" (549 : Nat) ({ cls := "java/lang/AbstractStringBuilder", name := "length", desc := "()I" } : Jvm.MethodName)) ∈ lw_all := lw_g (lw_at lw_m4 205 rfl) rfl
theorem q1027 : (Jvm.Cond.methodLink "java/lang/String" (1047 : Nat) ({ cls := "java/lang/AbstractStringBuilder", name := "isLatin1", desc := "()Z" } : Jvm.MethodName)) ∈ lw_all := lw_g (lw_at lw_m4 213 rfl) rfl
theorem q1028 : (Jvm.Cond.methodLink "java/lang/String" (54 : Nat) ({ cls := "java/util/Arrays", name := "copyOfRange", desc := "([BII)[B" } : Jvm.MethodName)) ∈ lw_all := lw_g (lw_at lw_m4 214 rfl) rfl
theorem q1066 : (Jvm.Cond.methodLink "java/lang/String" (1051 : Nat) ({ cls := "java/lang/StringUTF16", name := "compress", desc := "([BII)[B" } : Jvm.MethodName)) ∈ lw_all := lw_g (lw_at lw_m5 12 rfl) rfl
theorem q1076 : (Jvm.Cond.methodLink "java/lang/String" (47 : Nat) ({ cls := "java/lang/StringUTF16", name := "coderFromArrayLen", desc := "([BI)B" } : Jvm.MethodName)) ∈ lw_all := lw_g (lw_at lw_m5 22 rfl) rfl
theorem q1079 : (Jvm.Cond.fieldLink "java/lang/String" (9 : Nat) "java/lang/String" "value" "[B") ∈ lw_all := lw_g (lw_at lw_m5 25 rfl) rfl
theorem q1080 : (Jvm.Cond.fieldLink "java/lang/String" (15 : Nat) "java/lang/String" "coder" "B") ∈ lw_all := lw_g (lw_at lw_m5 26 rfl) rfl
theorem q1081 : (Jvm.Cond.fieldLink "java/lang/String" (19 : Nat) "java/lang/String" "hash" "I") ∈ lw_all := lw_g (lw_at lw_m5 27 rfl) rfl
theorem q1082 : (Jvm.Cond.fieldLink "java/lang/String" (23 : Nat) "java/lang/String" "hashIsZero" "Z") ∈ lw_all := lw_g (lw_at lw_m5 28 rfl) rfl
theorem q1083 : (Jvm.Cond.laysFinal "java/lang/String" "java/lang/String" "value" "[B") ∈ lw_all := lw_g (lw_at lw_m5 29 rfl) rfl
theorem q1084 : (Jvm.Cond.soleField "java/lang/String" "value") ∈ lw_all := lw_g (lw_at lw_m5 30 rfl) rfl
theorem q1085 : (Jvm.Cond.laysFinal "java/lang/String" "java/lang/String" "coder" "B") ∈ lw_all := lw_g (lw_at lw_m5 31 rfl) rfl
theorem q1086 : (Jvm.Cond.soleField "java/lang/String" "coder") ∈ lw_all := lw_g (lw_at lw_m5 32 rfl) rfl
theorem q1087 : (Jvm.Cond.lays "java/lang/String" "java/lang/String" "hash" "I") ∈ lw_all := lw_g (lw_at lw_m5 33 rfl) rfl
theorem q1088 : (Jvm.Cond.soleField "java/lang/String" "hash") ∈ lw_all := lw_g (lw_at lw_m5 34 rfl) rfl
theorem q1089 : (Jvm.Cond.lays "java/lang/String" "java/lang/String" "hashIsZero" "Z") ∈ lw_all := lw_g (lw_at lw_m5 35 rfl) rfl
theorem q1090 : (Jvm.Cond.soleField "java/lang/String" "hashIsZero") ∈ lw_all := lw_g (lw_at lw_m5 36 rfl) rfl
theorem q1091 : (Jvm.Cond.superclass "java/lang/String" "java/lang/Object") ∈ lw_all := lw_g (lw_at lw_m5 37 rfl) rfl
theorem q1254 : (Jvm.Cond.selects "java/lang/String" ({ cls := "java/lang/Object", name := "getClass", desc := "()Ljava/lang/Class;" } : Jvm.MethodName) ({ cls := "java/lang/Object", name := "getClass", desc := "()Ljava/lang/Class;" } : Jvm.MethodName)) ∈ lw_all := lw_g (lw_at lw_m5 200 rfl) rfl
theorem q1584 : (Jvm.Cond.selects "java/lang/String" ({ cls := "java/lang/Object", name := "hashCode", desc := "()I" } : Jvm.MethodName) ({ cls := "java/lang/String", name := "hashCode", desc := "()I" } : Jvm.MethodName)) ∈ lw_all := lw_g (lw_at lw_m7 50 rfl) rfl
theorem q1585 : (Jvm.Cond.instanceMethod ({ cls := "java/lang/String", name := "hashCode", desc := "()I" } : Jvm.MethodName)) ∈ lw_all := lw_g (lw_at lw_m7 51 rfl) rfl
theorem q1586 : (Jvm.Cond.code ({ cls := "java/lang/String", name := "hashCode", desc := "()I" } : Jvm.MethodName) prog_37_method_78_code (2 : Nat) (Option.some Jvm.ClassFile.FieldType.int)) ∈ lw_all := lw_g (lw_at lw_m7 52 rfl) rfl
theorem q1587 : (Jvm.Cond.methodLink "java/lang/String" (492 : Nat) ({ cls := "java/lang/String", name := "isLatin1", desc := "()Z" } : Jvm.MethodName)) ∈ lw_all := lw_g (lw_at lw_m7 53 rfl) rfl
theorem q1588 : (Jvm.Cond.instanceMethod ({ cls := "java/lang/String", name := "isLatin1", desc := "()Z" } : Jvm.MethodName)) ∈ lw_all := lw_g (lw_at lw_m7 54 rfl) rfl
theorem q1589 : (Jvm.Cond.selects "java/lang/String" ({ cls := "java/lang/String", name := "isLatin1", desc := "()Z" } : Jvm.MethodName) ({ cls := "java/lang/String", name := "isLatin1", desc := "()Z" } : Jvm.MethodName)) ∈ lw_all := lw_g (lw_at lw_m7 55 rfl) rfl
theorem q1590 : (Jvm.Cond.code ({ cls := "java/lang/String", name := "isLatin1", desc := "()Z" } : Jvm.MethodName) prog_37_method_154_code (1 : Nat) (Option.some Jvm.ClassFile.FieldType.boolean)) ∈ lw_all := lw_g (lw_at lw_m7 56 rfl) rfl
theorem q1591 : (Jvm.Cond.methodLink "java/lang/String" (628 : Nat) ({ cls := "java/lang/StringLatin1", name := "hashCode", desc := "([B)I" } : Jvm.MethodName)) ∈ lw_all := lw_g (lw_at lw_m7 57 rfl) rfl
theorem q1640 : (Jvm.Cond.methodLink "java/lang/String" (632 : Nat) ({ cls := "java/lang/StringUTF16", name := "hashCode", desc := "([B)I" } : Jvm.MethodName)) ∈ lw_all := lw_g (lw_at lw_m7 106 rfl) rfl
theorem q1681 : (Jvm.Cond.selects "java/lang/String" ({ cls := "java/lang/Object", name := "equals", desc := "(Ljava/lang/Object;)Z" } : Jvm.MethodName) ({ cls := "java/lang/String", name := "equals", desc := "(Ljava/lang/Object;)Z" } : Jvm.MethodName)) ∈ lw_all := lw_g (lw_at lw_m7 147 rfl) rfl
theorem q1682 : (Jvm.Cond.instanceMethod ({ cls := "java/lang/String", name := "equals", desc := "(Ljava/lang/Object;)Z" } : Jvm.MethodName)) ∈ lw_all := lw_g (lw_at lw_m7 148 rfl) rfl
theorem q1683 : (Jvm.Cond.code ({ cls := "java/lang/String", name := "equals", desc := "(Ljava/lang/Object;)Z" } : Jvm.MethodName) prog_37_method_66_code (3 : Nat) (Option.some Jvm.ClassFile.FieldType.boolean)) ∈ lw_all := lw_g (lw_at lw_m7 149 rfl) rfl
theorem q1684 : (Jvm.Cond.classLink "java/lang/String" (10 : Nat) "java/lang/String") ∈ lw_all := lw_g (lw_at lw_m7 150 rfl) rfl
theorem q1685 : (Jvm.Cond.methodLink "java/lang/String" (541 : Nat) ({ cls := "java/lang/StringLatin1", name := "equals", desc := "([B[B)Z" } : Jvm.MethodName)) ∈ lw_all := lw_g (lw_at lw_m7 151 rfl) rfl
theorem q1734 : (Jvm.Cond.castable "java/lang/String" "java/lang/Comparable") ∈ lw_tbl := lw_at lw_m7 200 rfl
theorem q1735 : (Jvm.Cond.selects "java/lang/String" ({ cls := "java/lang/Comparable", name := "compareTo", desc := "(Ljava/lang/Object;)I" } : Jvm.MethodName) ({ cls := "java/lang/String", name := "compareTo", desc := "(Ljava/lang/Object;)I" } : Jvm.MethodName)) ∈ lw_all := lw_g (lw_at lw_m7 201 rfl) rfl
theorem q1736 : (Jvm.Cond.unhidden "java/lang/String" "compareTo" "(Ljava/lang/Object;)I") ∈ lw_tbl := lw_at lw_m7 202 rfl
theorem q1737 : (Jvm.Cond.instanceMethod ({ cls := "java/lang/String", name := "compareTo", desc := "(Ljava/lang/Object;)I" } : Jvm.MethodName)) ∈ lw_all := lw_g (lw_at lw_m7 203 rfl) rfl
theorem q1738 : (Jvm.Cond.publicMethod ({ cls := "java/lang/String", name := "compareTo", desc := "(Ljava/lang/Object;)I" } : Jvm.MethodName)) ∈ lw_tbl := lw_at lw_m7 204 rfl
theorem q1739 : (Jvm.Cond.code ({ cls := "java/lang/String", name := "compareTo", desc := "(Ljava/lang/Object;)I" } : Jvm.MethodName) prog_37_method_162_code (2 : Nat) (Option.some Jvm.ClassFile.FieldType.int)) ∈ lw_all := lw_g (lw_at lw_m7 205 rfl) rfl
theorem q1740 : (Jvm.Cond.methodLink "java/lang/String" (1084 : Nat) ({ cls := "java/lang/String", name := "compareTo", desc := "(Ljava/lang/String;)I" } : Jvm.MethodName)) ∈ lw_all := lw_g (lw_at lw_m7 206 rfl) rfl
theorem q1741 : (Jvm.Cond.instanceMethod ({ cls := "java/lang/String", name := "compareTo", desc := "(Ljava/lang/String;)I" } : Jvm.MethodName)) ∈ lw_all := lw_g (lw_at lw_m7 207 rfl) rfl
theorem q1742 : (Jvm.Cond.selects "java/lang/String" ({ cls := "java/lang/String", name := "compareTo", desc := "(Ljava/lang/String;)I" } : Jvm.MethodName) ({ cls := "java/lang/String", name := "compareTo", desc := "(Ljava/lang/String;)I" } : Jvm.MethodName)) ∈ lw_all := lw_g (lw_at lw_m7 208 rfl) rfl
theorem q1743 : (Jvm.Cond.code ({ cls := "java/lang/String", name := "compareTo", desc := "(Ljava/lang/String;)I" } : Jvm.MethodName) prog_37_method_71_code (5 : Nat) (Option.some Jvm.ClassFile.FieldType.int)) ∈ lw_all := lw_g (lw_at lw_m7 209 rfl) rfl
theorem q1744 : (Jvm.Cond.methodLink "java/lang/String" (586 : Nat) ({ cls := "java/lang/StringLatin1", name := "compareTo", desc := "([B[B)I" } : Jvm.MethodName)) ∈ lw_all := lw_g (lw_at lw_m7 210 rfl) rfl
theorem q1852 : (Jvm.Cond.methodLink "java/lang/String" (590 : Nat) ({ cls := "java/lang/StringUTF16", name := "compareTo", desc := "([B[B)I" } : Jvm.MethodName)) ∈ lw_all := lw_g (lw_at lw_m8 78 rfl) rfl
theorem q1859 : (Jvm.Cond.methodLink "java/lang/String" (591 : Nat) ({ cls := "java/lang/StringLatin1", name := "compareToUTF16", desc := "([B[B)I" } : Jvm.MethodName)) ∈ lw_all := lw_g (lw_at lw_m8 85 rfl) rfl
theorem q1870 : (Jvm.Cond.methodLink "java/lang/String" (594 : Nat) ({ cls := "java/lang/StringUTF16", name := "compareToLatin1", desc := "([B[B)I" } : Jvm.MethodName)) ∈ lw_all := lw_g (lw_at lw_m8 96 rfl) rfl
theorem q1896 : (Jvm.Cond.static ({ cls := "java/lang/String", name := "checkOffset", desc := "(II)V" } : Jvm.MethodName)) ∈ lw_all := lw_g (lw_at lw_m8 122 rfl) rfl
theorem q1897 : (Jvm.Cond.code ({ cls := "java/lang/String", name := "checkOffset", desc := "(II)V" } : Jvm.MethodName) prog_37_method_156_code (2 : Nat) (Option.none : Option Jvm.ClassFile.FieldType)) ∈ lw_all := lw_g (lw_at lw_m8 123 rfl) rfl
theorem q1923 : (Jvm.Cond.static ({ cls := "java/lang/String", name := "checkIndex", desc := "(II)V" } : Jvm.MethodName)) ∈ lw_all := lw_g (lw_at lw_m8 149 rfl) rfl
theorem q1924 : (Jvm.Cond.code ({ cls := "java/lang/String", name := "checkIndex", desc := "(II)V" } : Jvm.MethodName) prog_37_method_155_code (2 : Nat) (Option.none : Option Jvm.ClassFile.FieldType)) ∈ lw_all := lw_g (lw_at lw_m8 150 rfl) rfl
theorem q1925 : (Jvm.Cond.methodLink "java/lang/String" (1059 : Nat) ({ cls := "jdk/internal/util/Preconditions", name := "checkIndex", desc := "(IILjava/util/function/BiFunction;)I" } : Jvm.MethodName)) ∈ lw_all := lw_g (lw_at lw_m8 151 rfl) rfl
theorem q2945 : (Jvm.Cond.instanceMethod ({ cls := "java/lang/String", name := "charAt", desc := "(I)C" } : Jvm.MethodName)) ∈ lw_all := lw_g (lw_at lw_m12 211 rfl) rfl
theorem q2946 : (Jvm.Cond.selects "java/lang/String" ({ cls := "java/lang/String", name := "charAt", desc := "(I)C" } : Jvm.MethodName) ({ cls := "java/lang/String", name := "charAt", desc := "(I)C" } : Jvm.MethodName)) ∈ lw_all := lw_g (lw_at lw_m12 212 rfl) rfl
theorem q2947 : (Jvm.Cond.code ({ cls := "java/lang/String", name := "charAt", desc := "(I)C" } : Jvm.MethodName) prog_37_method_56_code (2 : Nat) (Option.some Jvm.ClassFile.FieldType.char)) ∈ lw_all := lw_g (lw_at lw_m12 213 rfl) rfl
theorem q2948 : (Jvm.Cond.methodLink "java/lang/String" (495 : Nat) ({ cls := "java/lang/StringLatin1", name := "charAt", desc := "([BI)C" } : Jvm.MethodName)) ∈ lw_all := lw_g (lw_at lw_m12 214 rfl) rfl
theorem q2952 : (Jvm.Cond.methodLink "java/lang/String" (498 : Nat) ({ cls := "java/lang/StringUTF16", name := "charAt", desc := "([BI)C" } : Jvm.MethodName)) ∈ lw_all := lw_g (lw_at lw_m12 218 rfl) rfl
theorem q3779 : (Jvm.Cond.selects "java/lang/String" ({ cls := "java/lang/String", name := "hashCode", desc := "()I" } : Jvm.MethodName) ({ cls := "java/lang/String", name := "hashCode", desc := "()I" } : Jvm.MethodName)) ∈ lw_all := lw_g (lw_at lw_m16 85 rfl) rfl
theorem q3780 : (Jvm.Cond.selects "java/lang/String" ({ cls := "java/lang/String", name := "equals", desc := "(Ljava/lang/Object;)Z" } : Jvm.MethodName) ({ cls := "java/lang/String", name := "equals", desc := "(Ljava/lang/Object;)Z" } : Jvm.MethodName)) ∈ lw_all := lw_g (lw_at lw_m16 86 rfl) rfl
theorem q3796 : (Jvm.Cond.castable "java/lang/String" "java/lang/Object") ∈ lw_tbl := lw_at lw_m16 102 rfl
theorem in_J9 : ∀ w ∈ wsJ90, w ∈ lw_all := lw_in wsJ90 [1083, 1085, 1087, 1089] (by decide +kernel) (by decide +kernel)

/-! java/lang/StringUTF16 -/
def RJ10 : String := "java/lang/StringUTF16"
abbrev cJ10_newBytesFor : ByteArray := prog_41_method_2_code
def yJ10_newBytesFor : MethodName := ⟨RJ10, "newBytesFor", "(I)[B"⟩
abbrev cJ10_newBytesLength : ByteArray := prog_41_method_3_code
def yJ10_newBytesLength : MethodName := ⟨RJ10, "newBytesLength", "(I)I"⟩
abbrev cJ10_putCharsAt : ByteArray := prog_41_method_81_code
def yJ10_putCharsAt : MethodName := ⟨RJ10, "putCharsAt", "([BICCCC)I"⟩
abbrev cJ10_checkBoundsBeginEnd : ByteArray := prog_41_method_93_code
def yJ10_checkBoundsBeginEnd : MethodName := ⟨RJ10, "checkBoundsBeginEnd", "(II[B)V"⟩
abbrev cJ10_length : ByteArray := prog_41_method_6_code
def yJ10_length : MethodName := ⟨RJ10, "length", "([B)I"⟩
abbrev cJ10_putChar : ByteArray := prog_41_method_4_code
def yJ10_putChar : MethodName := ⟨RJ10, "putChar", "([BII)V"⟩
abbrev cJ10_inflate : ByteArray := prog_41_method_86_code
def yJ10_inflate : MethodName := ⟨RJ10, "inflate", "([BI[BII)V"⟩
abbrev cJ10_checkBoundsOffCount : ByteArray := prog_41_method_94_code
def yJ10_checkBoundsOffCount : MethodName := ⟨RJ10, "checkBoundsOffCount", "(II[B)V"⟩
abbrev cJ10_getChars : ByteArray := prog_41_method_77_code
def yJ10_getChars : MethodName := ⟨RJ10, "getChars", "(III[B)I"⟩
abbrev cJ10_getChars_2 : ByteArray := prog_41_method_89_code
def yJ10_getChars_2 : MethodName := ⟨RJ10, "getChars", "(II[B)I"⟩
abbrev cJ10_compress : ByteArray := prog_41_method_17_code
def yJ10_compress : MethodName := ⟨RJ10, "compress", "([BII)[B"⟩
abbrev cJ10_compress_2 : ByteArray := prog_41_method_22_code
def yJ10_compress_2 : MethodName := ⟨RJ10, "compress", "([BI[BII)I"⟩
abbrev cJ10_getChar : ByteArray := prog_41_method_5_code
def yJ10_getChar : MethodName := ⟨RJ10, "getChar", "([BI)C"⟩
abbrev cJ10_coderFromArrayLen : ByteArray := prog_41_method_15_code
def yJ10_coderFromArrayLen : MethodName := ⟨RJ10, "coderFromArrayLen", "([BI)B"⟩
abbrev cJ10_hashCode : ByteArray := prog_41_method_39_code
def yJ10_hashCode : MethodName := ⟨RJ10, "hashCode", "([B)I"⟩
abbrev cJ10_compareTo : ByteArray := prog_41_method_29_code
def yJ10_compareTo : MethodName := ⟨RJ10, "compareTo", "([B[B)I"⟩
abbrev cJ10_compareValues : ByteArray := prog_41_method_31_code
def yJ10_compareValues : MethodName := ⟨RJ10, "compareValues", "([B[BII)I"⟩
abbrev cJ10_compareToLatin1 : ByteArray := prog_41_method_32_code
def yJ10_compareToLatin1 : MethodName := ⟨RJ10, "compareToLatin1", "([B[B)I"⟩
abbrev cJ10_compareTo_2 : ByteArray := prog_41_method_30_code
def yJ10_compareTo_2 : MethodName := ⟨RJ10, "compareTo", "([B[BII)I"⟩
abbrev cJ10_checkOffset : ByteArray := prog_41_method_92_code
def yJ10_checkOffset : MethodName := ⟨RJ10, "checkOffset", "(I[B)V"⟩
abbrev cJ10_compareToLatin1_2 : ByteArray := prog_41_method_33_code
def yJ10_compareToLatin1_2 : MethodName := ⟨RJ10, "compareToLatin1", "([B[BII)I"⟩
abbrev cJ10_putCharSB : ByteArray := prog_41_method_71_code
def yJ10_putCharSB : MethodName := ⟨RJ10, "putCharSB", "([BII)V"⟩
abbrev cJ10_checkIndex : ByteArray := prog_41_method_91_code
def yJ10_checkIndex : MethodName := ⟨RJ10, "checkIndex", "(I[B)V"⟩
abbrev cJ10_charAt : ByteArray := prog_41_method_83_code
def yJ10_charAt : MethodName := ⟨RJ10, "charAt", "([BI)C"⟩
abbrev cJ10_fillNull : ByteArray := prog_41_method_70_code
def yJ10_fillNull : MethodName := ⟨RJ10, "fillNull", "([BII)V"⟩
theorem q107 : (Jvm.Cond.initialized "java/lang/StringUTF16") ∈ lw_all := lw_g (lw_at lw_m1 13 rfl) rfl
theorem q336 : (Jvm.Cond.static ({ cls := "java/lang/StringUTF16", name := "newBytesFor", desc := "(I)[B" } : Jvm.MethodName)) ∈ lw_all := lw_g (lw_at lw_m2 2 rfl) rfl
theorem q337 : (Jvm.Cond.code ({ cls := "java/lang/StringUTF16", name := "newBytesFor", desc := "(I)[B" } : Jvm.MethodName) prog_41_method_2_code (1 : Nat) (Option.some (Jvm.ClassFile.FieldType.array Jvm.ClassFile.FieldType.byte))) ∈ lw_all := lw_g (lw_at lw_m2 3 rfl) rfl
theorem q338 : (Jvm.Cond.methodLink "java/lang/StringUTF16" (11 : Nat) ({ cls := "java/lang/StringUTF16", name := "newBytesLength", desc := "(I)I" } : Jvm.MethodName)) ∈ lw_all := lw_g (lw_at lw_m2 4 rfl) rfl
theorem q339 : (Jvm.Cond.static ({ cls := "java/lang/StringUTF16", name := "newBytesLength", desc := "(I)I" } : Jvm.MethodName)) ∈ lw_all := lw_g (lw_at lw_m2 5 rfl) rfl
theorem q340 : (Jvm.Cond.code ({ cls := "java/lang/StringUTF16", name := "newBytesLength", desc := "(I)I" } : Jvm.MethodName) prog_41_method_3_code (1 : Nat) (Option.some Jvm.ClassFile.FieldType.int)) ∈ lw_all := lw_g (lw_at lw_m2 6 rfl) rfl
theorem q341 : (Jvm.Cond.constant "java/lang/StringUTF16" (20 : Nat) (1073741823 : Int32)) ∈ lw_all := lw_g (lw_at lw_m2 7 rfl) rfl
theorem q908 : (Jvm.Cond.static ({ cls := "java/lang/StringUTF16", name := "putCharsAt", desc := "([BICCCC)I" } : Jvm.MethodName)) ∈ lw_all := lw_g (lw_at lw_m4 94 rfl) rfl
theorem q909 : (Jvm.Cond.code ({ cls := "java/lang/StringUTF16", name := "putCharsAt", desc := "([BICCCC)I" } : Jvm.MethodName) prog_41_method_81_code (7 : Nat) (Option.some Jvm.ClassFile.FieldType.int)) ∈ lw_all := lw_g (lw_at lw_m4 95 rfl) rfl
theorem q910 : (Jvm.Cond.methodLink "java/lang/StringUTF16" (96 : Nat) ({ cls := "java/lang/StringUTF16", name := "checkBoundsBeginEnd", desc := "(II[B)V" } : Jvm.MethodName)) ∈ lw_all := lw_g (lw_at lw_m4 96 rfl) rfl
theorem q911 : (Jvm.Cond.static ({ cls := "java/lang/StringUTF16", name := "checkBoundsBeginEnd", desc := "(II[B)V" } : Jvm.MethodName)) ∈ lw_all := lw_g (lw_at lw_m4 97 rfl) rfl
theorem q912 : (Jvm.Cond.code ({ cls := "java/lang/StringUTF16", name := "checkBoundsBeginEnd", desc := "(II[B)V" } : Jvm.MethodName) prog_41_method_93_code (3 : Nat) (Option.none : Option Jvm.ClassFile.FieldType)) ∈ lw_all := lw_g (lw_at lw_m4 98 rfl) rfl
theorem q913 : (Jvm.Cond.methodLink "java/lang/StringUTF16" (48 : Nat) ({ cls := "java/lang/StringUTF16", name := "length", desc := "([B)I" } : Jvm.MethodName)) ∈ lw_all := lw_g (lw_at lw_m4 99 rfl) rfl
theorem q914 : (Jvm.Cond.static ({ cls := "java/lang/StringUTF16", name := "length", desc := "([B)I" } : Jvm.MethodName)) ∈ lw_all := lw_g (lw_at lw_m4 100 rfl) rfl
theorem q915 : (Jvm.Cond.code ({ cls := "java/lang/StringUTF16", name := "length", desc := "([B)I" } : Jvm.MethodName) prog_41_method_6_code (1 : Nat) (Option.some Jvm.ClassFile.FieldType.int)) ∈ lw_all := lw_g (lw_at lw_m4 101 rfl) rfl
theorem q916 : (Jvm.Cond.methodLink "java/lang/StringUTF16" (241 : Nat) ({ cls := "java/lang/String", name := "checkBoundsBeginEnd", desc := "(III)V" } : Jvm.MethodName)) ∈ lw_all := lw_g (lw_at lw_m4 102 rfl) rfl
theorem q924 : (Jvm.Cond.methodLink "java/lang/StringUTF16" (111 : Nat) ({ cls := "java/lang/StringUTF16", name := "putChar", desc := "([BII)V" } : Jvm.MethodName)) ∈ lw_all := lw_g (lw_at lw_m4 110 rfl) rfl
theorem q925 : (Jvm.Cond.static ({ cls := "java/lang/StringUTF16", name := "putChar", desc := "([BII)V" } : Jvm.MethodName)) ∈ lw_all := lw_g (lw_at lw_m4 111 rfl) rfl
theorem q926 : (Jvm.Cond.code ({ cls := "java/lang/StringUTF16", name := "putChar", desc := "([BII)V" } : Jvm.MethodName) prog_41_method_4_code (3 : Nat) (Option.none : Option Jvm.ClassFile.FieldType)) ∈ lw_all := lw_g (lw_at lw_m4 112 rfl) rfl
theorem q927 : (Jvm.Cond.fieldLink "java/lang/StringUTF16" (44 : Nat) "java/lang/StringUTF16" "$assertionsDisabled" "Z") ∈ lw_all := lw_g (lw_at lw_m4 113 rfl) rfl
theorem q928 : (Jvm.Cond.laysStatic "java/lang/StringUTF16" "$assertionsDisabled" "Z") ∈ lw_tbl := lw_at lw_m4 114 rfl
theorem q929 : (Jvm.Cond.fieldLink "java/lang/StringUTF16" (59 : Nat) "java/lang/StringUTF16" "HI_BYTE_SHIFT" "I") ∈ lw_all := lw_g (lw_at lw_m4 115 rfl) rfl
theorem q930 : (Jvm.Cond.laysStatic "java/lang/StringUTF16" "HI_BYTE_SHIFT" "I") ∈ lw_tbl := lw_at lw_m4 116 rfl
theorem q931 : (Jvm.Cond.fieldLink "java/lang/StringUTF16" (63 : Nat) "java/lang/StringUTF16" "LO_BYTE_SHIFT" "I") ∈ lw_all := lw_g (lw_at lw_m4 117 rfl) rfl
theorem q932 : (Jvm.Cond.laysStatic "java/lang/StringUTF16" "LO_BYTE_SHIFT" "I") ∈ lw_tbl := lw_at lw_m4 118 rfl
theorem q959 : (Jvm.Cond.static ({ cls := "java/lang/StringUTF16", name := "inflate", desc := "([BI[BII)V" } : Jvm.MethodName)) ∈ lw_all := lw_g (lw_at lw_m4 145 rfl) rfl
theorem q960 : (Jvm.Cond.code ({ cls := "java/lang/StringUTF16", name := "inflate", desc := "([BI[BII)V" } : Jvm.MethodName) prog_41_method_86_code (6 : Nat) (Option.none : Option Jvm.ClassFile.FieldType)) ∈ lw_all := lw_g (lw_at lw_m4 146 rfl) rfl
theorem q961 : (Jvm.Cond.methodLink "java/lang/StringUTF16" (173 : Nat) ({ cls := "java/lang/StringUTF16", name := "checkBoundsOffCount", desc := "(II[B)V" } : Jvm.MethodName)) ∈ lw_all := lw_g (lw_at lw_m4 147 rfl) rfl
theorem q962 : (Jvm.Cond.static ({ cls := "java/lang/StringUTF16", name := "checkBoundsOffCount", desc := "(II[B)V" } : Jvm.MethodName)) ∈ lw_all := lw_g (lw_at lw_m4 148 rfl) rfl
theorem q963 : (Jvm.Cond.code ({ cls := "java/lang/StringUTF16", name := "checkBoundsOffCount", desc := "(II[B)V" } : Jvm.MethodName) prog_41_method_94_code (3 : Nat) (Option.none : Option Jvm.ClassFile.FieldType)) ∈ lw_all := lw_g (lw_at lw_m4 149 rfl) rfl
theorem q964 : (Jvm.Cond.methodLink "java/lang/StringUTF16" (419 : Nat) ({ cls := "java/lang/String", name := "checkBoundsOffCount", desc := "(III)I" } : Jvm.MethodName)) ∈ lw_all := lw_g (lw_at lw_m4 150 rfl) rfl
theorem q994 : (Jvm.Cond.static ({ cls := "java/lang/StringUTF16", name := "getChars", desc := "(III[B)I" } : Jvm.MethodName)) ∈ lw_all := lw_g (lw_at lw_m4 180 rfl) rfl
theorem q995 : (Jvm.Cond.code ({ cls := "java/lang/StringUTF16", name := "getChars", desc := "(III[B)I" } : Jvm.MethodName) prog_41_method_77_code (5 : Nat) (Option.some Jvm.ClassFile.FieldType.int)) ∈ lw_all := lw_g (lw_at lw_m4 181 rfl) rfl
theorem q996 : (Jvm.Cond.methodLink "java/lang/StringUTF16" (393 : Nat) ({ cls := "java/lang/StringUTF16", name := "getChars", desc := "(II[B)I" } : Jvm.MethodName)) ∈ lw_all := lw_g (lw_at lw_m4 182 rfl) rfl
theorem q997 : (Jvm.Cond.static ({ cls := "java/lang/StringUTF16", name := "getChars", desc := "(II[B)I" } : Jvm.MethodName)) ∈ lw_all := lw_g (lw_at lw_m4 183 rfl) rfl
theorem q998 : (Jvm.Cond.code ({ cls := "java/lang/StringUTF16", name := "getChars", desc := "(II[B)I" } : Jvm.MethodName) prog_41_method_89_code (7 : Nat) (Option.some Jvm.ClassFile.FieldType.int)) ∈ lw_all := lw_g (lw_at lw_m4 184 rfl) rfl
theorem q999 : (Jvm.Cond.fieldLink "java/lang/StringUTF16" (403 : Nat) "java/lang/Integer" "DigitOnes" "[B") ∈ lw_all := lw_g (lw_at lw_m4 185 rfl) rfl
theorem q1000 : (Jvm.Cond.fieldLink "java/lang/StringUTF16" (407 : Nat) "java/lang/Integer" "DigitTens" "[B") ∈ lw_all := lw_g (lw_at lw_m4 186 rfl) rfl
theorem q1067 : (Jvm.Cond.static ({ cls := "java/lang/StringUTF16", name := "compress", desc := "([BII)[B" } : Jvm.MethodName)) ∈ lw_all := lw_g (lw_at lw_m5 13 rfl) rfl
theorem q1068 : (Jvm.Cond.code ({ cls := "java/lang/StringUTF16", name := "compress", desc := "([BII)[B" } : Jvm.MethodName) prog_41_method_17_code (6 : Nat) (Option.some (Jvm.ClassFile.FieldType.array Jvm.ClassFile.FieldType.byte))) ∈ lw_all := lw_g (lw_at lw_m5 14 rfl) rfl
theorem q1069 : (Jvm.Cond.methodLink "java/lang/StringUTF16" (123 : Nat) ({ cls := "java/lang/StringUTF16", name := "compress", desc := "([BI[BII)I" } : Jvm.MethodName)) ∈ lw_all := lw_g (lw_at lw_m5 15 rfl) rfl
theorem q1070 : (Jvm.Cond.static ({ cls := "java/lang/StringUTF16", name := "compress", desc := "([BI[BII)I" } : Jvm.MethodName)) ∈ lw_all := lw_g (lw_at lw_m5 16 rfl) rfl
theorem q1071 : (Jvm.Cond.code ({ cls := "java/lang/StringUTF16", name := "compress", desc := "([BI[BII)I" } : Jvm.MethodName) prog_41_method_22_code (7 : Nat) (Option.some Jvm.ClassFile.FieldType.int)) ∈ lw_all := lw_g (lw_at lw_m5 17 rfl) rfl
theorem q1072 : (Jvm.Cond.methodLink "java/lang/StringUTF16" (71 : Nat) ({ cls := "java/lang/StringUTF16", name := "getChar", desc := "([BI)C" } : Jvm.MethodName)) ∈ lw_all := lw_g (lw_at lw_m5 18 rfl) rfl
theorem q1073 : (Jvm.Cond.static ({ cls := "java/lang/StringUTF16", name := "getChar", desc := "([BI)C" } : Jvm.MethodName)) ∈ lw_all := lw_g (lw_at lw_m5 19 rfl) rfl
theorem q1074 : (Jvm.Cond.code ({ cls := "java/lang/StringUTF16", name := "getChar", desc := "([BI)C" } : Jvm.MethodName) prog_41_method_5_code (2 : Nat) (Option.some Jvm.ClassFile.FieldType.char)) ∈ lw_all := lw_g (lw_at lw_m5 20 rfl) rfl
theorem q1075 : (Jvm.Cond.methodLink "java/lang/StringUTF16" (126 : Nat) ({ cls := "java/util/Arrays", name := "copyOfRange", desc := "([BII)[B" } : Jvm.MethodName)) ∈ lw_all := lw_g (lw_at lw_m5 21 rfl) rfl
theorem q1077 : (Jvm.Cond.static ({ cls := "java/lang/StringUTF16", name := "coderFromArrayLen", desc := "([BI)B" } : Jvm.MethodName)) ∈ lw_all := lw_g (lw_at lw_m5 23 rfl) rfl
theorem q1078 : (Jvm.Cond.code ({ cls := "java/lang/StringUTF16", name := "coderFromArrayLen", desc := "([BI)B" } : Jvm.MethodName) prog_41_method_15_code (2 : Nat) (Option.some Jvm.ClassFile.FieldType.byte)) ∈ lw_all := lw_g (lw_at lw_m5 24 rfl) rfl
theorem q1641 : (Jvm.Cond.static ({ cls := "java/lang/StringUTF16", name := "hashCode", desc := "([B)I" } : Jvm.MethodName)) ∈ lw_all := lw_g (lw_at lw_m7 107 rfl) rfl
theorem q1642 : (Jvm.Cond.code ({ cls := "java/lang/StringUTF16", name := "hashCode", desc := "([B)I" } : Jvm.MethodName) prog_41_method_39_code (1 : Nat) (Option.some Jvm.ClassFile.FieldType.int)) ∈ lw_all := lw_g (lw_at lw_m7 108 rfl) rfl
theorem q1643 : (Jvm.Cond.methodLink "java/lang/StringUTF16" (220 : Nat) ({ cls := "jdk/internal/util/ArraysSupport", name := "vectorizedHashCode", desc := "(Ljava/lang/Object;IIII)I" } : Jvm.MethodName)) ∈ lw_all := lw_g (lw_at lw_m7 109 rfl) rfl
theorem q1853 : (Jvm.Cond.static ({ cls := "java/lang/StringUTF16", name := "compareTo", desc := "([B[B)I" } : Jvm.MethodName)) ∈ lw_all := lw_g (lw_at lw_m8 79 rfl) rfl
theorem q1854 : (Jvm.Cond.code ({ cls := "java/lang/StringUTF16", name := "compareTo", desc := "([B[B)I" } : Jvm.MethodName) prog_41_method_29_code (4 : Nat) (Option.some Jvm.ClassFile.FieldType.int)) ∈ lw_all := lw_g (lw_at lw_m8 80 rfl) rfl
theorem q1855 : (Jvm.Cond.methodLink "java/lang/StringUTF16" (176 : Nat) ({ cls := "java/lang/StringUTF16", name := "compareValues", desc := "([B[BII)I" } : Jvm.MethodName)) ∈ lw_all := lw_g (lw_at lw_m8 81 rfl) rfl
theorem q1856 : (Jvm.Cond.static ({ cls := "java/lang/StringUTF16", name := "compareValues", desc := "([B[BII)I" } : Jvm.MethodName)) ∈ lw_all := lw_g (lw_at lw_m8 82 rfl) rfl
theorem q1857 : (Jvm.Cond.code ({ cls := "java/lang/StringUTF16", name := "compareValues", desc := "([B[BII)I" } : Jvm.MethodName) prog_41_method_31_code (8 : Nat) (Option.some Jvm.ClassFile.FieldType.int)) ∈ lw_all := lw_g (lw_at lw_m8 83 rfl) rfl
theorem q1858 : (Jvm.Cond.methodLink "java/lang/StringUTF16" (183 : Nat) ({ cls := "java/lang/Math", name := "min", desc := "(II)I" } : Jvm.MethodName)) ∈ lw_all := lw_g (lw_at lw_m8 84 rfl) rfl
theorem q1871 : (Jvm.Cond.static ({ cls := "java/lang/StringUTF16", name := "compareToLatin1", desc := "([B[B)I" } : Jvm.MethodName)) ∈ lw_all := lw_g (lw_at lw_m8 97 rfl) rfl
theorem q1872 : (Jvm.Cond.code ({ cls := "java/lang/StringUTF16", name := "compareToLatin1", desc := "([B[B)I" } : Jvm.MethodName) prog_41_method_32_code (2 : Nat) (Option.some Jvm.ClassFile.FieldType.int)) ∈ lw_all := lw_g (lw_at lw_m8 98 rfl) rfl
theorem q1873 : (Jvm.Cond.methodLink "java/lang/StringUTF16" (189 : Nat) ({ cls := "java/lang/StringLatin1", name := "compareToUTF16", desc := "([B[B)I" } : Jvm.MethodName)) ∈ lw_all := lw_g (lw_at lw_m8 99 rfl) rfl
theorem q1890 : (Jvm.Cond.static ({ cls := "java/lang/StringUTF16", name := "compareTo", desc := "([B[BII)I" } : Jvm.MethodName)) ∈ lw_all := lw_g (lw_at lw_m8 116 rfl) rfl
theorem q1891 : (Jvm.Cond.code ({ cls := "java/lang/StringUTF16", name := "compareTo", desc := "([B[BII)I" } : Jvm.MethodName) prog_41_method_30_code (4 : Nat) (Option.some Jvm.ClassFile.FieldType.int)) ∈ lw_all := lw_g (lw_at lw_m8 117 rfl) rfl
theorem q1892 : (Jvm.Cond.methodLink "java/lang/StringUTF16" (180 : Nat) ({ cls := "java/lang/StringUTF16", name := "checkOffset", desc := "(I[B)V" } : Jvm.MethodName)) ∈ lw_all := lw_g (lw_at lw_m8 118 rfl) rfl
theorem q1893 : (Jvm.Cond.static ({ cls := "java/lang/StringUTF16", name := "checkOffset", desc := "(I[B)V" } : Jvm.MethodName)) ∈ lw_all := lw_g (lw_at lw_m8 119 rfl) rfl
theorem q1894 : (Jvm.Cond.code ({ cls := "java/lang/StringUTF16", name := "checkOffset", desc := "(I[B)V" } : Jvm.MethodName) prog_41_method_92_code (2 : Nat) (Option.none : Option Jvm.ClassFile.FieldType)) ∈ lw_all := lw_g (lw_at lw_m8 120 rfl) rfl
theorem q1895 : (Jvm.Cond.methodLink "java/lang/StringUTF16" (417 : Nat) ({ cls := "java/lang/String", name := "checkOffset", desc := "(II)V" } : Jvm.MethodName)) ∈ lw_all := lw_g (lw_at lw_m8 121 rfl) rfl
theorem q1903 : (Jvm.Cond.static ({ cls := "java/lang/StringUTF16", name := "compareToLatin1", desc := "([B[BII)I" } : Jvm.MethodName)) ∈ lw_all := lw_g (lw_at lw_m8 129 rfl) rfl
theorem q1904 : (Jvm.Cond.code ({ cls := "java/lang/StringUTF16", name := "compareToLatin1", desc := "([B[BII)I" } : Jvm.MethodName) prog_41_method_33_code (4 : Nat) (Option.some Jvm.ClassFile.FieldType.int)) ∈ lw_all := lw_g (lw_at lw_m8 130 rfl) rfl
theorem q1905 : (Jvm.Cond.methodLink "java/lang/StringUTF16" (193 : Nat) ({ cls := "java/lang/StringLatin1", name := "compareToUTF16", desc := "([B[BII)I" } : Jvm.MethodName)) ∈ lw_all := lw_g (lw_at lw_m8 131 rfl) rfl
theorem q1917 : (Jvm.Cond.static ({ cls := "java/lang/StringUTF16", name := "putCharSB", desc := "([BII)V" } : Jvm.MethodName)) ∈ lw_all := lw_g (lw_at lw_m8 143 rfl) rfl
theorem q1918 : (Jvm.Cond.code ({ cls := "java/lang/StringUTF16", name := "putCharSB", desc := "([BII)V" } : Jvm.MethodName) prog_41_method_71_code (3 : Nat) (Option.none : Option Jvm.ClassFile.FieldType)) ∈ lw_all := lw_g (lw_at lw_m8 144 rfl) rfl
theorem q1919 : (Jvm.Cond.methodLink "java/lang/StringUTF16" (67 : Nat) ({ cls := "java/lang/StringUTF16", name := "checkIndex", desc := "(I[B)V" } : Jvm.MethodName)) ∈ lw_all := lw_g (lw_at lw_m8 145 rfl) rfl
theorem q1920 : (Jvm.Cond.static ({ cls := "java/lang/StringUTF16", name := "checkIndex", desc := "(I[B)V" } : Jvm.MethodName)) ∈ lw_all := lw_g (lw_at lw_m8 146 rfl) rfl
theorem q1921 : (Jvm.Cond.code ({ cls := "java/lang/StringUTF16", name := "checkIndex", desc := "(I[B)V" } : Jvm.MethodName) prog_41_method_91_code (2 : Nat) (Option.none : Option Jvm.ClassFile.FieldType)) ∈ lw_all := lw_g (lw_at lw_m8 147 rfl) rfl
theorem q1922 : (Jvm.Cond.methodLink "java/lang/StringUTF16" (414 : Nat) ({ cls := "java/lang/String", name := "checkIndex", desc := "(II)V" } : Jvm.MethodName)) ∈ lw_all := lw_g (lw_at lw_m8 148 rfl) rfl
theorem q2953 : (Jvm.Cond.static ({ cls := "java/lang/StringUTF16", name := "charAt", desc := "([BI)C" } : Jvm.MethodName)) ∈ lw_all := lw_g (lw_at lw_m12 219 rfl) rfl
theorem q2954 : (Jvm.Cond.code ({ cls := "java/lang/StringUTF16", name := "charAt", desc := "([BI)C" } : Jvm.MethodName) prog_41_method_83_code (2 : Nat) (Option.some Jvm.ClassFile.FieldType.char)) ∈ lw_all := lw_g (lw_at lw_m12 220 rfl) rfl
theorem q3118 : (Jvm.Cond.static ({ cls := "java/lang/StringUTF16", name := "fillNull", desc := "([BII)V" } : Jvm.MethodName)) ∈ lw_all := lw_g (lw_at lw_m13 144 rfl) rfl
theorem q3119 : (Jvm.Cond.code ({ cls := "java/lang/StringUTF16", name := "fillNull", desc := "([BII)V" } : Jvm.MethodName) prog_41_method_70_code (3 : Nat) (Option.none : Option Jvm.ClassFile.FieldType)) ∈ lw_all := lw_g (lw_at lw_m13 145 rfl) rfl
theorem q3120 : (Jvm.Cond.methodLink "java/lang/StringUTF16" (380 : Nat) ({ cls := "java/util/Arrays", name := "fill", desc := "([BIIB)V" } : Jvm.MethodName)) ∈ lw_all := lw_g (lw_at lw_m13 146 rfl) rfl

/-! java/lang/Math -/
def RJ11 : String := "java/lang/Math"
abbrev cJ11_min : ByteArray := prog_34_method_69_code
def yJ11_min : MethodName := ⟨RJ11, "min", "(II)I"⟩
abbrev cJ11_max : ByteArray := prog_34_method_65_code
def yJ11_max : MethodName := ⟨RJ11, "max", "(II)I"⟩
abbrev cJ11_abs : ByteArray := prog_34_method_59_code
def yJ11_abs : MethodName := ⟨RJ11, "abs", "(I)I"⟩
theorem q108 : (Jvm.Cond.initialized "java/lang/Math") ∈ lw_all := lw_g (lw_at lw_m1 14 rfl) rfl
theorem q377 : (Jvm.Cond.static ({ cls := "java/lang/Math", name := "min", desc := "(II)I" } : Jvm.MethodName)) ∈ lw_all := lw_g (lw_at lw_m2 43 rfl) rfl
theorem q378 : (Jvm.Cond.code ({ cls := "java/lang/Math", name := "min", desc := "(II)I" } : Jvm.MethodName) prog_34_method_69_code (2 : Nat) (Option.some Jvm.ClassFile.FieldType.int)) ∈ lw_all := lw_g (lw_at lw_m2 44 rfl) rfl
theorem q881 : (Jvm.Cond.static ({ cls := "java/lang/Math", name := "max", desc := "(II)I" } : Jvm.MethodName)) ∈ lw_all := lw_g (lw_at lw_m4 67 rfl) rfl
theorem q882 : (Jvm.Cond.code ({ cls := "java/lang/Math", name := "max", desc := "(II)I" } : Jvm.MethodName) prog_34_method_65_code (2 : Nat) (Option.some Jvm.ClassFile.FieldType.int)) ∈ lw_all := lw_g (lw_at lw_m4 68 rfl) rfl
theorem q2627 : (Jvm.Cond.static ({ cls := "java/lang/Math", name := "abs", desc := "(I)I" } : Jvm.MethodName)) ∈ lw_all := lw_g (lw_at lw_m11 133 rfl) rfl
theorem q2628 : (Jvm.Cond.code ({ cls := "java/lang/Math", name := "abs", desc := "(I)I" } : Jvm.MethodName) prog_34_method_59_code (1 : Nat) (Option.some Jvm.ClassFile.FieldType.int)) ∈ lw_all := lw_g (lw_at lw_m11 134 rfl) rfl

/-! java/util/BitSet -/
def RJ12 : String := "java/util/BitSet"
def TJ12 : u_T := fun k => match k with
  | 0 => ("java/util/BitSet", "words", "[J", false)
  | 1 => ("java/util/BitSet", "wordsInUse", "I", false)
  | _ => ("java/util/BitSet", "sizeIsSticky", "Z", false)
def tyJ12 : Nat → FieldType := fun k => match k with
  | 0 => .array .long
  | 1 => .int
  | _ => .boolean
abbrev wsJ120 : List Cond := u_ws RJ12 TJ12 3
theorem nmJ12 : ∀ a, a < 3 → ∀ b, b < 3 → a ≠ b → (TJ12 a).2.1 ≠ (TJ12 b).2.1 := by decide +kernel
theorem tyJ12_ok : ∀ k, k < 3 → parseFieldDescriptor (TJ12 k).2.2.1 = some (tyJ12 k) := by decide +kernel
abbrev cJ12_init : ByteArray := prog_57_method_5_code
def yJ12_init : MethodName := ⟨RJ12, "<init>", "(I)V"⟩
abbrev cJ12_initWords : ByteArray := prog_57_method_6_code
def yJ12_initWords : MethodName := ⟨RJ12, "initWords", "(I)V"⟩
abbrev cJ12_wordIndex : ByteArray := prog_57_method_1_code
def yJ12_wordIndex : MethodName := ⟨RJ12, "wordIndex", "(I)I"⟩
abbrev cJ12_set : ByteArray := prog_57_method_21_code
def yJ12_set : MethodName := ⟨RJ12, "set", "(II)V"⟩
abbrev cJ12_checkRange : ByteArray := prog_57_method_16_code
def yJ12_checkRange : MethodName := ⟨RJ12, "checkRange", "(II)V"⟩
abbrev cJ12_expandTo : ByteArray := prog_57_method_15_code
def yJ12_expandTo : MethodName := ⟨RJ12, "expandTo", "(I)V"⟩
abbrev cJ12_ensureCapacity : ByteArray := prog_57_method_14_code
def yJ12_ensureCapacity : MethodName := ⟨RJ12, "ensureCapacity", "(I)V"⟩
abbrev cJ12_checkInvariants : ByteArray := prog_57_method_2_code
def yJ12_checkInvariants : MethodName := ⟨RJ12, "checkInvariants", "()V"⟩
abbrev cJ12_nextSetBit : ByteArray := prog_57_method_28_code
def yJ12_nextSetBit : MethodName := ⟨RJ12, "nextSetBit", "(I)I"⟩
abbrev cJ12_cardinality : ByteArray := prog_57_method_35_code
def yJ12_cardinality : MethodName := ⟨RJ12, "cardinality", "()I"⟩
theorem q109 : (Jvm.Cond.initialized "java/util/BitSet") ∈ lw_all := lw_g (lw_at lw_m1 15 rfl) rfl
theorem q390 : (Jvm.Cond.instantiable "java/util/BitSet" (3 : Nat)) ∈ lw_all := lw_g (lw_at lw_m2 56 rfl) rfl
theorem q392 : (Jvm.Cond.instanceMethod ({ cls := "java/util/BitSet", name := "<init>", desc := "(I)V" } : Jvm.MethodName)) ∈ lw_all := lw_g (lw_at lw_m2 58 rfl) rfl
theorem q393 : (Jvm.Cond.code ({ cls := "java/util/BitSet", name := "<init>", desc := "(I)V" } : Jvm.MethodName) prog_57_method_5_code (2 : Nat) (Option.none : Option Jvm.ClassFile.FieldType)) ∈ lw_all := lw_g (lw_at lw_m2 59 rfl) rfl
theorem q394 : (Jvm.Cond.methodLink "java/util/BitSet" (21 : Nat) ({ cls := "java/lang/Object", name := "<init>", desc := "()V" } : Jvm.MethodName)) ∈ lw_all := lw_g (lw_at lw_m2 60 rfl) rfl
theorem q395 : (Jvm.Cond.methodLink "java/util/BitSet" (27 : Nat) ({ cls := "java/util/BitSet", name := "initWords", desc := "(I)V" } : Jvm.MethodName)) ∈ lw_all := lw_g (lw_at lw_m2 61 rfl) rfl
theorem q396 : (Jvm.Cond.privateMethod ({ cls := "java/util/BitSet", name := "initWords", desc := "(I)V" } : Jvm.MethodName)) ∈ lw_tbl := lw_at lw_m2 62 rfl
theorem q397 : (Jvm.Cond.instanceMethod ({ cls := "java/util/BitSet", name := "initWords", desc := "(I)V" } : Jvm.MethodName)) ∈ lw_all := lw_g (lw_at lw_m2 63 rfl) rfl
theorem q398 : (Jvm.Cond.code ({ cls := "java/util/BitSet", name := "initWords", desc := "(I)V" } : Jvm.MethodName) prog_57_method_6_code (2 : Nat) (Option.none : Option Jvm.ClassFile.FieldType)) ∈ lw_all := lw_g (lw_at lw_m2 64 rfl) rfl
theorem q399 : (Jvm.Cond.methodLink "java/util/BitSet" (52 : Nat) ({ cls := "java/util/BitSet", name := "wordIndex", desc := "(I)I" } : Jvm.MethodName)) ∈ lw_all := lw_g (lw_at lw_m2 65 rfl) rfl
theorem q400 : (Jvm.Cond.static ({ cls := "java/util/BitSet", name := "wordIndex", desc := "(I)I" } : Jvm.MethodName)) ∈ lw_all := lw_g (lw_at lw_m2 66 rfl) rfl
theorem q401 : (Jvm.Cond.code ({ cls := "java/util/BitSet", name := "wordIndex", desc := "(I)I" } : Jvm.MethodName) prog_57_method_1_code (1 : Nat) (Option.some Jvm.ClassFile.FieldType.int)) ∈ lw_all := lw_g (lw_at lw_m2 67 rfl) rfl
theorem q402 : (Jvm.Cond.fieldLink "java/util/BitSet" (11 : Nat) "java/util/BitSet" "words" "[J") ∈ lw_all := lw_g (lw_at lw_m2 68 rfl) rfl
theorem q403 : (Jvm.Cond.fieldLink "java/util/BitSet" (7 : Nat) "java/util/BitSet" "wordsInUse" "I") ∈ lw_all := lw_g (lw_at lw_m2 69 rfl) rfl
theorem q404 : (Jvm.Cond.fieldLink "java/util/BitSet" (24 : Nat) "java/util/BitSet" "sizeIsSticky" "Z") ∈ lw_all := lw_g (lw_at lw_m2 70 rfl) rfl
theorem q405 : (Jvm.Cond.lays "java/util/BitSet" "java/util/BitSet" "words" "[J") ∈ lw_all := lw_g (lw_at lw_m2 71 rfl) rfl
theorem q406 : (Jvm.Cond.soleField "java/util/BitSet" "words") ∈ lw_all := lw_g (lw_at lw_m2 72 rfl) rfl
theorem q407 : (Jvm.Cond.lays "java/util/BitSet" "java/util/BitSet" "wordsInUse" "I") ∈ lw_all := lw_g (lw_at lw_m2 73 rfl) rfl
theorem q408 : (Jvm.Cond.soleField "java/util/BitSet" "wordsInUse") ∈ lw_all := lw_g (lw_at lw_m2 74 rfl) rfl
theorem q409 : (Jvm.Cond.lays "java/util/BitSet" "java/util/BitSet" "sizeIsSticky" "Z") ∈ lw_all := lw_g (lw_at lw_m2 75 rfl) rfl
theorem q410 : (Jvm.Cond.soleField "java/util/BitSet" "sizeIsSticky") ∈ lw_all := lw_g (lw_at lw_m2 76 rfl) rfl
theorem q411 : (Jvm.Cond.superclass "java/util/BitSet" "java/lang/Object") ∈ lw_all := lw_g (lw_at lw_m2 77 rfl) rfl
theorem q840 : (Jvm.Cond.instanceMethod ({ cls := "java/util/BitSet", name := "set", desc := "(II)V" } : Jvm.MethodName)) ∈ lw_all := lw_g (lw_at lw_m4 26 rfl) rfl
theorem q841 : (Jvm.Cond.selects "java/util/BitSet" ({ cls := "java/util/BitSet", name := "set", desc := "(II)V" } : Jvm.MethodName) ({ cls := "java/util/BitSet", name := "set", desc := "(II)V" } : Jvm.MethodName)) ∈ lw_all := lw_g (lw_at lw_m4 27 rfl) rfl
theorem q842 : (Jvm.Cond.code ({ cls := "java/util/BitSet", name := "set", desc := "(II)V" } : Jvm.MethodName) prog_57_method_21_code (10 : Nat) (Option.none : Option Jvm.ClassFile.FieldType)) ∈ lw_all := lw_g (lw_at lw_m4 28 rfl) rfl
theorem q843 : (Jvm.Cond.methodLink "java/util/BitSet" (161 : Nat) ({ cls := "java/util/BitSet", name := "checkRange", desc := "(II)V" } : Jvm.MethodName)) ∈ lw_all := lw_g (lw_at lw_m4 29 rfl) rfl
theorem q844 : (Jvm.Cond.static ({ cls := "java/util/BitSet", name := "checkRange", desc := "(II)V" } : Jvm.MethodName)) ∈ lw_all := lw_g (lw_at lw_m4 30 rfl) rfl
theorem q845 : (Jvm.Cond.code ({ cls := "java/util/BitSet", name := "checkRange", desc := "(II)V" } : Jvm.MethodName) prog_57_method_16_code (2 : Nat) (Option.none : Option Jvm.ClassFile.FieldType)) ∈ lw_all := lw_g (lw_at lw_m4 31 rfl) rfl
theorem q846 : (Jvm.Cond.classLink "java/util/BitSet" (142 : Nat) "java/lang/IndexOutOfBoundsException") ∈ lw_all := lw_g (lw_at lw_m4 32 rfl) rfl
theorem q855 : (Jvm.Cond.classLink "java/util/BitSet" (33 : Nat) "java/lang/StringBuilder") ∈ lw_all := lw_g (lw_at lw_m4 41 rfl) rfl
theorem q856 : (Jvm.Cond.methodLink "java/util/BitSet" (35 : Nat) ({ cls := "java/lang/StringBuilder", name := "<init>", desc := "()V" } : Jvm.MethodName)) ∈ lw_all := lw_g (lw_at lw_m4 42 rfl) rfl
theorem q857 : (Jvm.Cond.stringRef "java/util/BitSet" (144 : Nat) "fromIndex < 0: ") ∈ lw_tbl := lw_at lw_m4 43 rfl
theorem q858 : (Jvm.Cond.methodLink "java/util/BitSet" (38 : Nat) ({ cls := "java/lang/StringBuilder", name := "append", desc := "(Ljava/lang/String;)Ljava/lang/StringBuilder;" } : Jvm.MethodName)) ∈ lw_all := lw_g (lw_at lw_m4 44 rfl) rfl
theorem q976 : (Jvm.Cond.methodLink "java/util/BitSet" (42 : Nat) ({ cls := "java/lang/StringBuilder", name := "append", desc := "(I)Ljava/lang/StringBuilder;" } : Jvm.MethodName)) ∈ lw_all := lw_g (lw_at lw_m4 162 rfl) rfl
theorem q1001 : (Jvm.Cond.methodLink "java/util/BitSet" (45 : Nat) ({ cls := "java/lang/StringBuilder", name := "toString", desc := "()Ljava/lang/String;" } : Jvm.MethodName)) ∈ lw_all := lw_g (lw_at lw_m4 187 rfl) rfl
theorem q1092 : (Jvm.Cond.methodLink "java/util/BitSet" (146 : Nat) ({ cls := "java/lang/IndexOutOfBoundsException", name := "<init>", desc := "(Ljava/lang/String;)V" } : Jvm.MethodName)) ∈ lw_all := lw_g (lw_at lw_m5 38 rfl) rfl
theorem q1098 : (Jvm.Cond.stringRef "java/util/BitSet" (147 : Nat) "toIndex < 0: ") ∈ lw_tbl := lw_at lw_m5 44 rfl
theorem q1099 : (Jvm.Cond.stringRef "java/util/BitSet" (149 : Nat) "fromIndex: ") ∈ lw_tbl := lw_at lw_m5 45 rfl
theorem q1100 : (Jvm.Cond.stringRef "java/util/BitSet" (151 : Nat) " > toIndex: ") ∈ lw_tbl := lw_at lw_m5 46 rfl
theorem q1101 : (Jvm.Cond.methodLink "java/util/BitSet" (155 : Nat) ({ cls := "java/util/BitSet", name := "expandTo", desc := "(I)V" } : Jvm.MethodName)) ∈ lw_all := lw_g (lw_at lw_m5 47 rfl) rfl
theorem q1102 : (Jvm.Cond.privateMethod ({ cls := "java/util/BitSet", name := "expandTo", desc := "(I)V" } : Jvm.MethodName)) ∈ lw_tbl := lw_at lw_m5 48 rfl
theorem q1103 : (Jvm.Cond.instanceMethod ({ cls := "java/util/BitSet", name := "expandTo", desc := "(I)V" } : Jvm.MethodName)) ∈ lw_all := lw_g (lw_at lw_m5 49 rfl) rfl
theorem q1104 : (Jvm.Cond.code ({ cls := "java/util/BitSet", name := "expandTo", desc := "(I)V" } : Jvm.MethodName) prog_57_method_15_code (3 : Nat) (Option.none : Option Jvm.ClassFile.FieldType)) ∈ lw_all := lw_g (lw_at lw_m5 50 rfl) rfl
theorem q1105 : (Jvm.Cond.methodLink "java/util/BitSet" (139 : Nat) ({ cls := "java/util/BitSet", name := "ensureCapacity", desc := "(I)V" } : Jvm.MethodName)) ∈ lw_all := lw_g (lw_at lw_m5 51 rfl) rfl
theorem q1106 : (Jvm.Cond.privateMethod ({ cls := "java/util/BitSet", name := "ensureCapacity", desc := "(I)V" } : Jvm.MethodName)) ∈ lw_tbl := lw_at lw_m5 52 rfl
theorem q1107 : (Jvm.Cond.instanceMethod ({ cls := "java/util/BitSet", name := "ensureCapacity", desc := "(I)V" } : Jvm.MethodName)) ∈ lw_all := lw_g (lw_at lw_m5 53 rfl) rfl
theorem q1108 : (Jvm.Cond.code ({ cls := "java/util/BitSet", name := "ensureCapacity", desc := "(I)V" } : Jvm.MethodName) prog_57_method_14_code (3 : Nat) (Option.none : Option Jvm.ClassFile.FieldType)) ∈ lw_all := lw_g (lw_at lw_m5 54 rfl) rfl
theorem q1109 : (Jvm.Cond.methodLink "java/util/BitSet" (133 : Nat) ({ cls := "java/lang/Math", name := "max", desc := "(II)I" } : Jvm.MethodName)) ∈ lw_all := lw_g (lw_at lw_m5 55 rfl) rfl
theorem q1110 : (Jvm.Cond.methodLink "java/util/BitSet" (59 : Nat) ({ cls := "java/util/Arrays", name := "copyOf", desc := "([JI)[J" } : Jvm.MethodName)) ∈ lw_all := lw_g (lw_at lw_m5 56 rfl) rfl
theorem q1118 : (Jvm.Cond.constantLong "java/util/BitSet" (165 : Nat) (-1 : Int64)) ∈ lw_all := lw_g (lw_at lw_m5 64 rfl) rfl
theorem q1119 : (Jvm.Cond.methodLink "java/util/BitSet" (56 : Nat) ({ cls := "java/util/BitSet", name := "checkInvariants", desc := "()V" } : Jvm.MethodName)) ∈ lw_all := lw_g (lw_at lw_m5 65 rfl) rfl
theorem q1120 : (Jvm.Cond.privateMethod ({ cls := "java/util/BitSet", name := "checkInvariants", desc := "()V" } : Jvm.MethodName)) ∈ lw_tbl := lw_at lw_m5 66 rfl
theorem q1121 : (Jvm.Cond.instanceMethod ({ cls := "java/util/BitSet", name := "checkInvariants", desc := "()V" } : Jvm.MethodName)) ∈ lw_all := lw_g (lw_at lw_m5 67 rfl) rfl
theorem q1122 : (Jvm.Cond.code ({ cls := "java/util/BitSet", name := "checkInvariants", desc := "()V" } : Jvm.MethodName) prog_57_method_2_code (1 : Nat) (Option.none : Option Jvm.ClassFile.FieldType)) ∈ lw_all := lw_g (lw_at lw_m5 68 rfl) rfl
theorem q1123 : (Jvm.Cond.fieldLink "java/util/BitSet" (3 : Nat) "java/util/BitSet" "$assertionsDisabled" "Z") ∈ lw_all := lw_g (lw_at lw_m5 69 rfl) rfl
theorem q1124 : (Jvm.Cond.laysStatic "java/util/BitSet" "$assertionsDisabled" "Z") ∈ lw_tbl := lw_at lw_m5 70 rfl
theorem q1126 : (Jvm.Cond.instanceMethod ({ cls := "java/util/BitSet", name := "nextSetBit", desc := "(I)I" } : Jvm.MethodName)) ∈ lw_all := lw_g (lw_at lw_m5 72 rfl) rfl
theorem q1127 : (Jvm.Cond.selects "java/util/BitSet" ({ cls := "java/util/BitSet", name := "nextSetBit", desc := "(I)I" } : Jvm.MethodName) ({ cls := "java/util/BitSet", name := "nextSetBit", desc := "(I)I" } : Jvm.MethodName)) ∈ lw_all := lw_g (lw_at lw_m5 73 rfl) rfl
theorem q1128 : (Jvm.Cond.code ({ cls := "java/util/BitSet", name := "nextSetBit", desc := "(I)I" } : Jvm.MethodName) prog_57_method_28_code (5 : Nat) (Option.some Jvm.ClassFile.FieldType.int)) ∈ lw_all := lw_g (lw_at lw_m5 74 rfl) rfl
theorem q1129 : (Jvm.Cond.methodLink "java/util/BitSet" (182 : Nat) ({ cls := "java/lang/Long", name := "numberOfTrailingZeros", desc := "(J)I" } : Jvm.MethodName)) ∈ lw_all := lw_g (lw_at lw_m5 75 rfl) rfl
theorem q1263 : (Jvm.Cond.selects "java/util/BitSet" ({ cls := "java/lang/Object", name := "getClass", desc := "()Ljava/lang/Class;" } : Jvm.MethodName) ({ cls := "java/lang/Object", name := "getClass", desc := "()Ljava/lang/Class;" } : Jvm.MethodName)) ∈ lw_all := lw_g (lw_at lw_m5 209 rfl) rfl
theorem q1449 : (Jvm.Cond.instanceMethod ({ cls := "java/util/BitSet", name := "cardinality", desc := "()I" } : Jvm.MethodName)) ∈ lw_all := lw_g (lw_at lw_m6 155 rfl) rfl
theorem q1450 : (Jvm.Cond.selects "java/util/BitSet" ({ cls := "java/util/BitSet", name := "cardinality", desc := "()I" } : Jvm.MethodName) ({ cls := "java/util/BitSet", name := "cardinality", desc := "()I" } : Jvm.MethodName)) ∈ lw_all := lw_g (lw_at lw_m6 156 rfl) rfl
theorem q1451 : (Jvm.Cond.code ({ cls := "java/util/BitSet", name := "cardinality", desc := "()I" } : Jvm.MethodName) prog_57_method_35_code (3 : Nat) (Option.some Jvm.ClassFile.FieldType.int)) ∈ lw_all := lw_g (lw_at lw_m6 157 rfl) rfl
theorem q1452 : (Jvm.Cond.methodLink "java/util/BitSet" (196 : Nat) ({ cls := "java/lang/Long", name := "bitCount", desc := "(J)I" } : Jvm.MethodName)) ∈ lw_all := lw_g (lw_at lw_m6 158 rfl) rfl
theorem q3804 : (Jvm.Cond.castable "java/util/BitSet" "java/lang/Object") ∈ lw_tbl := lw_at lw_m16 110 rfl
theorem in_J12 : ∀ w ∈ wsJ120, w ∈ lw_all := lw_in wsJ120 [405, 407, 409] (by decide +kernel) (by decide +kernel)

/-! java/util/LinkedHashMap$LinkedValues -/
def RJ13 : String := "java/util/LinkedHashMap$LinkedValues"
def TJ13 : u_T := fun k => match k with
  | 0 => ("java/util/LinkedHashMap$LinkedValues", "reversed", "Z", true)
  | _ => ("java/util/LinkedHashMap$LinkedValues", "this$0", "Ljava/util/LinkedHashMap;", true)
def tyJ13 : Nat → FieldType := fun k => match k with
  | 0 => .boolean
  | _ => .object "java/util/LinkedHashMap"
abbrev wsJ130 : List Cond := u_ws RJ13 TJ13 2
theorem nmJ13 : ∀ a, a < 2 → ∀ b, b < 2 → a ≠ b → (TJ13 a).2.1 ≠ (TJ13 b).2.1 := by decide +kernel
theorem tyJ13_ok : ∀ k, k < 2 → parseFieldDescriptor (TJ13 k).2.2.1 = some (tyJ13 k) := by decide +kernel
abbrev cJ13_init : ByteArray := prog_74_method_1_code
def yJ13_init : MethodName := ⟨RJ13, "<init>", "(Ljava/util/LinkedHashMap;Z)V"⟩
abbrev cJ13_iterator : ByteArray := prog_74_method_4_code
def yJ13_iterator : MethodName := ⟨RJ13, "iterator", "()Ljava/util/Iterator;"⟩
theorem q110 : (Jvm.Cond.initialized "java/util/LinkedHashMap$LinkedValues") ∈ lw_all := lw_g (lw_at lw_m1 16 rfl) rfl
theorem q422 : (Jvm.Cond.instantiable "java/util/LinkedHashMap$LinkedValues" (2 : Nat)) ∈ lw_all := lw_g (lw_at lw_m2 88 rfl) rfl
theorem q424 : (Jvm.Cond.instanceMethod ({ cls := "java/util/LinkedHashMap$LinkedValues", name := "<init>", desc := "(Ljava/util/LinkedHashMap;Z)V" } : Jvm.MethodName)) ∈ lw_all := lw_g (lw_at lw_m2 90 rfl) rfl
theorem q425 : (Jvm.Cond.code ({ cls := "java/util/LinkedHashMap$LinkedValues", name := "<init>", desc := "(Ljava/util/LinkedHashMap;Z)V" } : Jvm.MethodName) prog_74_method_1_code (3 : Nat) (Option.none : Option Jvm.ClassFile.FieldType)) ∈ lw_all := lw_g (lw_at lw_m2 91 rfl) rfl
theorem q426 : (Jvm.Cond.methodLink "java/util/LinkedHashMap$LinkedValues" (7 : Nat) ({ cls := "java/util/AbstractCollection", name := "<init>", desc := "()V" } : Jvm.MethodName)) ∈ lw_all := lw_g (lw_at lw_m2 92 rfl) rfl
theorem q427 : (Jvm.Cond.fieldLink "java/util/LinkedHashMap$LinkedValues" (13 : Nat) "java/util/LinkedHashMap$LinkedValues" "reversed" "Z") ∈ lw_all := lw_g (lw_at lw_m2 93 rfl) rfl
theorem q428 : (Jvm.Cond.fieldLink "java/util/LinkedHashMap$LinkedValues" (1 : Nat) "java/util/LinkedHashMap$LinkedValues" "this$0" "Ljava/util/LinkedHashMap;") ∈ lw_all := lw_g (lw_at lw_m2 94 rfl) rfl
theorem q429 : (Jvm.Cond.laysFinal "java/util/LinkedHashMap$LinkedValues" "java/util/LinkedHashMap$LinkedValues" "reversed" "Z") ∈ lw_all := lw_g (lw_at lw_m2 95 rfl) rfl
theorem q430 : (Jvm.Cond.soleField "java/util/LinkedHashMap$LinkedValues" "reversed") ∈ lw_all := lw_g (lw_at lw_m2 96 rfl) rfl
theorem q431 : (Jvm.Cond.laysFinal "java/util/LinkedHashMap$LinkedValues" "java/util/LinkedHashMap$LinkedValues" "this$0" "Ljava/util/LinkedHashMap;") ∈ lw_all := lw_g (lw_at lw_m2 97 rfl) rfl
theorem q432 : (Jvm.Cond.soleField "java/util/LinkedHashMap$LinkedValues" "this$0") ∈ lw_all := lw_g (lw_at lw_m2 98 rfl) rfl
theorem q433 : (Jvm.Cond.superclass "java/util/LinkedHashMap$LinkedValues" "java/util/AbstractCollection") ∈ lw_all := lw_g (lw_at lw_m2 99 rfl) rfl
theorem q610 : (Jvm.Cond.castable "java/util/LinkedHashMap$LinkedValues" "java/util/Collection") ∈ lw_tbl := lw_at lw_m3 36 rfl
theorem q611 : (Jvm.Cond.selects "java/util/LinkedHashMap$LinkedValues" ({ cls := "java/util/Collection", name := "iterator", desc := "()Ljava/util/Iterator;" } : Jvm.MethodName) ({ cls := "java/util/LinkedHashMap$LinkedValues", name := "iterator", desc := "()Ljava/util/Iterator;" } : Jvm.MethodName)) ∈ lw_all := lw_g (lw_at lw_m3 37 rfl) rfl
theorem q612 : (Jvm.Cond.unhidden "java/util/LinkedHashMap$LinkedValues" "iterator" "()Ljava/util/Iterator;") ∈ lw_tbl := lw_at lw_m3 38 rfl
theorem q613 : (Jvm.Cond.instanceMethod ({ cls := "java/util/LinkedHashMap$LinkedValues", name := "iterator", desc := "()Ljava/util/Iterator;" } : Jvm.MethodName)) ∈ lw_all := lw_g (lw_at lw_m3 39 rfl) rfl
theorem q614 : (Jvm.Cond.publicMethod ({ cls := "java/util/LinkedHashMap$LinkedValues", name := "iterator", desc := "()Ljava/util/Iterator;" } : Jvm.MethodName)) ∈ lw_tbl := lw_at lw_m3 40 rfl
theorem q615 : (Jvm.Cond.code ({ cls := "java/util/LinkedHashMap$LinkedValues", name := "iterator", desc := "()Ljava/util/Iterator;" } : Jvm.MethodName) prog_74_method_4_code (1 : Nat) (Option.some (Jvm.ClassFile.FieldType.object "java/util/Iterator"))) ∈ lw_all := lw_g (lw_at lw_m3 41 rfl) rfl
theorem q616 : (Jvm.Cond.classLink "java/util/LinkedHashMap$LinkedValues" (26 : Nat) "java/util/LinkedHashMap$LinkedValueIterator") ∈ lw_all := lw_g (lw_at lw_m3 42 rfl) rfl
theorem q618 : (Jvm.Cond.methodLink "java/util/LinkedHashMap$LinkedValues" (28 : Nat) ({ cls := "java/util/LinkedHashMap$LinkedValueIterator", name := "<init>", desc := "(Ljava/util/LinkedHashMap;Z)V" } : Jvm.MethodName)) ∈ lw_all := lw_g (lw_at lw_m3 44 rfl) rfl
theorem q1275 : (Jvm.Cond.selects "java/util/LinkedHashMap$LinkedValues" ({ cls := "java/lang/Object", name := "getClass", desc := "()Ljava/lang/Class;" } : Jvm.MethodName) ({ cls := "java/lang/Object", name := "getClass", desc := "()Ljava/lang/Class;" } : Jvm.MethodName)) ∈ lw_all := lw_g (lw_at lw_m5 221 rfl) rfl
theorem q3789 : (Jvm.Cond.castable "java/util/LinkedHashMap$LinkedValues" "java/util/SequencedCollection") ∈ lw_tbl := lw_at lw_m16 95 rfl
theorem q3805 : (Jvm.Cond.castable "java/util/LinkedHashMap$LinkedValues" "java/lang/Object") ∈ lw_tbl := lw_at lw_m16 111 rfl
theorem in_J13 : ∀ w ∈ wsJ130, w ∈ lw_all := lw_in wsJ130 [429, 431] (by decide +kernel) (by decide +kernel)

/-! java/util/ArrayDeque$DeqIterator -/
def RJ14 : String := "java/util/ArrayDeque$DeqIterator"
def TJ14 : u_T := fun k => match k with
  | 0 => ("java/util/ArrayDeque$DeqIterator", "cursor", "I", false)
  | 1 => ("java/util/ArrayDeque$DeqIterator", "remaining", "I", false)
  | 2 => ("java/util/ArrayDeque$DeqIterator", "lastRet", "I", false)
  | _ => ("java/util/ArrayDeque$DeqIterator", "this$0", "Ljava/util/ArrayDeque;", true)
def tyJ14 : Nat → FieldType := fun k => match k with
  | 0 => .int
  | 1 => .int
  | 2 => .int
  | _ => .object "java/util/ArrayDeque"
abbrev wsJ140 : List Cond := u_ws RJ14 TJ14 4
theorem nmJ14 : ∀ a, a < 4 → ∀ b, b < 4 → a ≠ b → (TJ14 a).2.1 ≠ (TJ14 b).2.1 := by decide +kernel
theorem tyJ14_ok : ∀ k, k < 4 → parseFieldDescriptor (TJ14 k).2.2.1 = some (tyJ14 k) := by decide +kernel
abbrev cJ14_init : ByteArray := prog_53_method_1_code
def yJ14_init : MethodName := ⟨RJ14, "<init>", "(Ljava/util/ArrayDeque;)V"⟩
abbrev cJ14_hasNext : ByteArray := prog_53_method_2_code
def yJ14_hasNext : MethodName := ⟨RJ14, "hasNext", "()Z"⟩
abbrev cJ14_next : ByteArray := prog_53_method_3_code
def yJ14_next : MethodName := ⟨RJ14, "next", "()Ljava/lang/Object;"⟩
theorem q111 : (Jvm.Cond.initialized "java/util/ArrayDeque$DeqIterator") ∈ lw_all := lw_g (lw_at lw_m1 17 rfl) rfl
theorem q313 : (Jvm.Cond.fieldLink "java/util/ArrayDeque$DeqIterator" (35 : Nat) "java/util/ArrayDeque" "elements" "[Ljava/lang/Object;") ∈ lw_all := lw_g (lw_at lw_m1 219 rfl) rfl
theorem q314 : (Jvm.Cond.fieldLink "java/util/ArrayDeque$DeqIterator" (26 : Nat) "java/util/ArrayDeque" "head" "I") ∈ lw_all := lw_g (lw_at lw_m1 220 rfl) rfl
theorem q446 : (Jvm.Cond.instantiable "java/util/ArrayDeque$DeqIterator" (4 : Nat)) ∈ lw_all := lw_g (lw_at lw_m2 112 rfl) rfl
theorem q448 : (Jvm.Cond.instanceMethod ({ cls := "java/util/ArrayDeque$DeqIterator", name := "<init>", desc := "(Ljava/util/ArrayDeque;)V" } : Jvm.MethodName)) ∈ lw_all := lw_g (lw_at lw_m2 114 rfl) rfl
theorem q449 : (Jvm.Cond.code ({ cls := "java/util/ArrayDeque$DeqIterator", name := "<init>", desc := "(Ljava/util/ArrayDeque;)V" } : Jvm.MethodName) prog_53_method_1_code (2 : Nat) (Option.none : Option Jvm.ClassFile.FieldType)) ∈ lw_all := lw_g (lw_at lw_m2 115 rfl) rfl
theorem q450 : (Jvm.Cond.methodLink "java/util/ArrayDeque$DeqIterator" (7 : Nat) ({ cls := "java/lang/Object", name := "<init>", desc := "()V" } : Jvm.MethodName)) ∈ lw_all := lw_g (lw_at lw_m2 116 rfl) rfl
theorem q451 : (Jvm.Cond.methodLink "java/util/ArrayDeque$DeqIterator" (13 : Nat) ({ cls := "java/util/ArrayDeque", name := "size", desc := "()I" } : Jvm.MethodName)) ∈ lw_all := lw_g (lw_at lw_m2 117 rfl) rfl
theorem q458 : (Jvm.Cond.fieldLink "java/util/ArrayDeque$DeqIterator" (29 : Nat) "java/util/ArrayDeque$DeqIterator" "cursor" "I") ∈ lw_all := lw_g (lw_at lw_m2 124 rfl) rfl
theorem q459 : (Jvm.Cond.fieldLink "java/util/ArrayDeque$DeqIterator" (19 : Nat) "java/util/ArrayDeque$DeqIterator" "remaining" "I") ∈ lw_all := lw_g (lw_at lw_m2 125 rfl) rfl
theorem q460 : (Jvm.Cond.fieldLink "java/util/ArrayDeque$DeqIterator" (23 : Nat) "java/util/ArrayDeque$DeqIterator" "lastRet" "I") ∈ lw_all := lw_g (lw_at lw_m2 126 rfl) rfl
theorem q461 : (Jvm.Cond.fieldLink "java/util/ArrayDeque$DeqIterator" (1 : Nat) "java/util/ArrayDeque$DeqIterator" "this$0" "Ljava/util/ArrayDeque;") ∈ lw_all := lw_g (lw_at lw_m2 127 rfl) rfl
theorem q462 : (Jvm.Cond.lays "java/util/ArrayDeque$DeqIterator" "java/util/ArrayDeque$DeqIterator" "cursor" "I") ∈ lw_all := lw_g (lw_at lw_m2 128 rfl) rfl
theorem q463 : (Jvm.Cond.soleField "java/util/ArrayDeque$DeqIterator" "cursor") ∈ lw_all := lw_g (lw_at lw_m2 129 rfl) rfl
theorem q464 : (Jvm.Cond.lays "java/util/ArrayDeque$DeqIterator" "java/util/ArrayDeque$DeqIterator" "remaining" "I") ∈ lw_all := lw_g (lw_at lw_m2 130 rfl) rfl
theorem q465 : (Jvm.Cond.soleField "java/util/ArrayDeque$DeqIterator" "remaining") ∈ lw_all := lw_g (lw_at lw_m2 131 rfl) rfl
theorem q466 : (Jvm.Cond.lays "java/util/ArrayDeque$DeqIterator" "java/util/ArrayDeque$DeqIterator" "lastRet" "I") ∈ lw_all := lw_g (lw_at lw_m2 132 rfl) rfl
theorem q467 : (Jvm.Cond.soleField "java/util/ArrayDeque$DeqIterator" "lastRet") ∈ lw_all := lw_g (lw_at lw_m2 133 rfl) rfl
theorem q468 : (Jvm.Cond.laysFinal "java/util/ArrayDeque$DeqIterator" "java/util/ArrayDeque$DeqIterator" "this$0" "Ljava/util/ArrayDeque;") ∈ lw_all := lw_g (lw_at lw_m2 134 rfl) rfl
theorem q469 : (Jvm.Cond.soleField "java/util/ArrayDeque$DeqIterator" "this$0") ∈ lw_all := lw_g (lw_at lw_m2 135 rfl) rfl
theorem q470 : (Jvm.Cond.superclass "java/util/ArrayDeque$DeqIterator" "java/lang/Object") ∈ lw_all := lw_g (lw_at lw_m2 136 rfl) rfl
theorem q642 : (Jvm.Cond.castable "java/util/ArrayDeque$DeqIterator" "java/util/Iterator") ∈ lw_tbl := lw_at lw_m3 68 rfl
theorem q643 : (Jvm.Cond.selects "java/util/ArrayDeque$DeqIterator" ({ cls := "java/util/Iterator", name := "hasNext", desc := "()Z" } : Jvm.MethodName) ({ cls := "java/util/ArrayDeque$DeqIterator", name := "hasNext", desc := "()Z" } : Jvm.MethodName)) ∈ lw_all := lw_g (lw_at lw_m3 69 rfl) rfl
theorem q644 : (Jvm.Cond.unhidden "java/util/ArrayDeque$DeqIterator" "hasNext" "()Z") ∈ lw_tbl := lw_at lw_m3 70 rfl
theorem q645 : (Jvm.Cond.instanceMethod ({ cls := "java/util/ArrayDeque$DeqIterator", name := "hasNext", desc := "()Z" } : Jvm.MethodName)) ∈ lw_all := lw_g (lw_at lw_m3 71 rfl) rfl
theorem q646 : (Jvm.Cond.publicMethod ({ cls := "java/util/ArrayDeque$DeqIterator", name := "hasNext", desc := "()Z" } : Jvm.MethodName)) ∈ lw_tbl := lw_at lw_m3 72 rfl
theorem q647 : (Jvm.Cond.code ({ cls := "java/util/ArrayDeque$DeqIterator", name := "hasNext", desc := "()Z" } : Jvm.MethodName) prog_53_method_2_code (1 : Nat) (Option.some Jvm.ClassFile.FieldType.boolean)) ∈ lw_all := lw_g (lw_at lw_m3 73 rfl) rfl
theorem q702 : (Jvm.Cond.selects "java/util/ArrayDeque$DeqIterator" ({ cls := "java/util/Iterator", name := "next", desc := "()Ljava/lang/Object;" } : Jvm.MethodName) ({ cls := "java/util/ArrayDeque$DeqIterator", name := "next", desc := "()Ljava/lang/Object;" } : Jvm.MethodName)) ∈ lw_all := lw_g (lw_at lw_m3 128 rfl) rfl
theorem q703 : (Jvm.Cond.unhidden "java/util/ArrayDeque$DeqIterator" "next" "()Ljava/lang/Object;") ∈ lw_tbl := lw_at lw_m3 129 rfl
theorem q704 : (Jvm.Cond.instanceMethod ({ cls := "java/util/ArrayDeque$DeqIterator", name := "next", desc := "()Ljava/lang/Object;" } : Jvm.MethodName)) ∈ lw_all := lw_g (lw_at lw_m3 130 rfl) rfl
theorem q705 : (Jvm.Cond.publicMethod ({ cls := "java/util/ArrayDeque$DeqIterator", name := "next", desc := "()Ljava/lang/Object;" } : Jvm.MethodName)) ∈ lw_tbl := lw_at lw_m3 131 rfl
theorem q706 : (Jvm.Cond.code ({ cls := "java/util/ArrayDeque$DeqIterator", name := "next", desc := "()Ljava/lang/Object;" } : Jvm.MethodName) prog_53_method_3_code (3 : Nat) (Option.some (Jvm.ClassFile.FieldType.object "java/lang/Object"))) ∈ lw_all := lw_g (lw_at lw_m3 132 rfl) rfl
theorem q707 : (Jvm.Cond.classLink "java/util/ArrayDeque$DeqIterator" (32 : Nat) "java/util/NoSuchElementException") ∈ lw_all := lw_g (lw_at lw_m3 133 rfl) rfl
theorem q755 : (Jvm.Cond.methodLink "java/util/ArrayDeque$DeqIterator" (34 : Nat) ({ cls := "java/util/NoSuchElementException", name := "<init>", desc := "()V" } : Jvm.MethodName)) ∈ lw_all := lw_g (lw_at lw_m3 181 rfl) rfl
theorem q778 : (Jvm.Cond.methodLink "java/util/ArrayDeque$DeqIterator" (39 : Nat) ({ cls := "java/util/ArrayDeque", name := "nonNullElementAt", desc := "([Ljava/lang/Object;I)Ljava/lang/Object;" } : Jvm.MethodName)) ∈ lw_all := lw_g (lw_at lw_m3 204 rfl) rfl
theorem q781 : (Jvm.Cond.methodLink "java/util/ArrayDeque$DeqIterator" (43 : Nat) ({ cls := "java/util/ArrayDeque", name := "inc", desc := "(II)I" } : Jvm.MethodName)) ∈ lw_all := lw_g (lw_at lw_m3 207 rfl) rfl
theorem q1260 : (Jvm.Cond.selects "java/util/ArrayDeque$DeqIterator" ({ cls := "java/lang/Object", name := "getClass", desc := "()Ljava/lang/Class;" } : Jvm.MethodName) ({ cls := "java/lang/Object", name := "getClass", desc := "()Ljava/lang/Class;" } : Jvm.MethodName)) ∈ lw_all := lw_g (lw_at lw_m5 206 rfl) rfl
theorem q3806 : (Jvm.Cond.castable "java/util/ArrayDeque$DeqIterator" "java/lang/Object") ∈ lw_tbl := lw_at lw_m16 112 rfl
theorem in_J14 : ∀ w ∈ wsJ140, w ∈ lw_all := lw_in wsJ140 [462, 464, 466, 468] (by decide +kernel) (by decide +kernel)

/-! java/util/ArrayList$Itr -/
def RJ15 : String := "java/util/ArrayList$Itr"
def TJ15 : u_T := fun k => match k with
  | 0 => ("java/util/ArrayList$Itr", "cursor", "I", false)
  | 1 => ("java/util/ArrayList$Itr", "lastRet", "I", false)
  | 2 => ("java/util/ArrayList$Itr", "expectedModCount", "I", false)
  | _ => ("java/util/ArrayList$Itr", "this$0", "Ljava/util/ArrayList;", true)
def tyJ15 : Nat → FieldType := fun k => match k with
  | 0 => .int
  | 1 => .int
  | 2 => .int
  | _ => .object "java/util/ArrayList"
abbrev wsJ150 : List Cond := u_ws RJ15 TJ15 4
theorem nmJ15 : ∀ a, a < 4 → ∀ b, b < 4 → a ≠ b → (TJ15 a).2.1 ≠ (TJ15 b).2.1 := by decide +kernel
theorem tyJ15_ok : ∀ k, k < 4 → parseFieldDescriptor (TJ15 k).2.2.1 = some (tyJ15 k) := by decide +kernel
abbrev cJ15_init : ByteArray := prog_55_method_1_code
def yJ15_init : MethodName := ⟨RJ15, "<init>", "(Ljava/util/ArrayList;)V"⟩
abbrev cJ15_hasNext : ByteArray := prog_55_method_2_code
def yJ15_hasNext : MethodName := ⟨RJ15, "hasNext", "()Z"⟩
abbrev cJ15_next : ByteArray := prog_55_method_3_code
def yJ15_next : MethodName := ⟨RJ15, "next", "()Ljava/lang/Object;"⟩
abbrev cJ15_checkForComodification : ByteArray := prog_55_method_6_code
def yJ15_checkForComodification : MethodName := ⟨RJ15, "checkForComodification", "()V"⟩
theorem q112 : (Jvm.Cond.initialized "java/util/ArrayList$Itr") ∈ lw_all := lw_g (lw_at lw_m1 18 rfl) rfl
theorem q478 : (Jvm.Cond.instantiable "java/util/ArrayList$Itr" (4 : Nat)) ∈ lw_all := lw_g (lw_at lw_m2 144 rfl) rfl
theorem q480 : (Jvm.Cond.instanceMethod ({ cls := "java/util/ArrayList$Itr", name := "<init>", desc := "(Ljava/util/ArrayList;)V" } : Jvm.MethodName)) ∈ lw_all := lw_g (lw_at lw_m2 146 rfl) rfl
theorem q481 : (Jvm.Cond.code ({ cls := "java/util/ArrayList$Itr", name := "<init>", desc := "(Ljava/util/ArrayList;)V" } : Jvm.MethodName) prog_55_method_1_code (2 : Nat) (Option.none : Option Jvm.ClassFile.FieldType)) ∈ lw_all := lw_g (lw_at lw_m2 147 rfl) rfl
theorem q482 : (Jvm.Cond.methodLink "java/util/ArrayList$Itr" (7 : Nat) ({ cls := "java/lang/Object", name := "<init>", desc := "()V" } : Jvm.MethodName)) ∈ lw_all := lw_g (lw_at lw_m2 148 rfl) rfl
theorem q483 : (Jvm.Cond.fieldLink "java/util/ArrayList$Itr" (25 : Nat) "java/util/ArrayList$Itr" "cursor" "I") ∈ lw_all := lw_g (lw_at lw_m2 149 rfl) rfl
theorem q484 : (Jvm.Cond.fieldLink "java/util/ArrayList$Itr" (13 : Nat) "java/util/ArrayList$Itr" "lastRet" "I") ∈ lw_all := lw_g (lw_at lw_m2 150 rfl) rfl
theorem q485 : (Jvm.Cond.fieldLink "java/util/ArrayList$Itr" (22 : Nat) "java/util/ArrayList$Itr" "expectedModCount" "I") ∈ lw_all := lw_g (lw_at lw_m2 151 rfl) rfl
theorem q486 : (Jvm.Cond.fieldLink "java/util/ArrayList$Itr" (1 : Nat) "java/util/ArrayList$Itr" "this$0" "Ljava/util/ArrayList;") ∈ lw_all := lw_g (lw_at lw_m2 152 rfl) rfl
theorem q487 : (Jvm.Cond.lays "java/util/ArrayList$Itr" "java/util/ArrayList$Itr" "cursor" "I") ∈ lw_all := lw_g (lw_at lw_m2 153 rfl) rfl
theorem q488 : (Jvm.Cond.soleField "java/util/ArrayList$Itr" "cursor") ∈ lw_all := lw_g (lw_at lw_m2 154 rfl) rfl
theorem q489 : (Jvm.Cond.lays "java/util/ArrayList$Itr" "java/util/ArrayList$Itr" "lastRet" "I") ∈ lw_all := lw_g (lw_at lw_m2 155 rfl) rfl
theorem q490 : (Jvm.Cond.soleField "java/util/ArrayList$Itr" "lastRet") ∈ lw_all := lw_g (lw_at lw_m2 156 rfl) rfl
theorem q491 : (Jvm.Cond.lays "java/util/ArrayList$Itr" "java/util/ArrayList$Itr" "expectedModCount" "I") ∈ lw_all := lw_g (lw_at lw_m2 157 rfl) rfl
theorem q492 : (Jvm.Cond.soleField "java/util/ArrayList$Itr" "expectedModCount") ∈ lw_all := lw_g (lw_at lw_m2 158 rfl) rfl
theorem q493 : (Jvm.Cond.laysFinal "java/util/ArrayList$Itr" "java/util/ArrayList$Itr" "this$0" "Ljava/util/ArrayList;") ∈ lw_all := lw_g (lw_at lw_m2 159 rfl) rfl
theorem q494 : (Jvm.Cond.soleField "java/util/ArrayList$Itr" "this$0") ∈ lw_all := lw_g (lw_at lw_m2 160 rfl) rfl
theorem q495 : (Jvm.Cond.superclass "java/util/ArrayList$Itr" "java/lang/Object") ∈ lw_all := lw_g (lw_at lw_m2 161 rfl) rfl
theorem q648 : (Jvm.Cond.castable "java/util/ArrayList$Itr" "java/util/Iterator") ∈ lw_tbl := lw_at lw_m3 74 rfl
theorem q649 : (Jvm.Cond.selects "java/util/ArrayList$Itr" ({ cls := "java/util/Iterator", name := "hasNext", desc := "()Z" } : Jvm.MethodName) ({ cls := "java/util/ArrayList$Itr", name := "hasNext", desc := "()Z" } : Jvm.MethodName)) ∈ lw_all := lw_g (lw_at lw_m3 75 rfl) rfl
theorem q650 : (Jvm.Cond.unhidden "java/util/ArrayList$Itr" "hasNext" "()Z") ∈ lw_tbl := lw_at lw_m3 76 rfl
theorem q651 : (Jvm.Cond.instanceMethod ({ cls := "java/util/ArrayList$Itr", name := "hasNext", desc := "()Z" } : Jvm.MethodName)) ∈ lw_all := lw_g (lw_at lw_m3 77 rfl) rfl
theorem q652 : (Jvm.Cond.publicMethod ({ cls := "java/util/ArrayList$Itr", name := "hasNext", desc := "()Z" } : Jvm.MethodName)) ∈ lw_tbl := lw_at lw_m3 78 rfl
theorem q653 : (Jvm.Cond.code ({ cls := "java/util/ArrayList$Itr", name := "hasNext", desc := "()Z" } : Jvm.MethodName) prog_55_method_2_code (1 : Nat) (Option.some Jvm.ClassFile.FieldType.boolean)) ∈ lw_all := lw_g (lw_at lw_m3 79 rfl) rfl
theorem q784 : (Jvm.Cond.selects "java/util/ArrayList$Itr" ({ cls := "java/util/Iterator", name := "next", desc := "()Ljava/lang/Object;" } : Jvm.MethodName) ({ cls := "java/util/ArrayList$Itr", name := "next", desc := "()Ljava/lang/Object;" } : Jvm.MethodName)) ∈ lw_all := lw_g (lw_at lw_m3 210 rfl) rfl
theorem q785 : (Jvm.Cond.unhidden "java/util/ArrayList$Itr" "next" "()Ljava/lang/Object;") ∈ lw_tbl := lw_at lw_m3 211 rfl
theorem q786 : (Jvm.Cond.instanceMethod ({ cls := "java/util/ArrayList$Itr", name := "next", desc := "()Ljava/lang/Object;" } : Jvm.MethodName)) ∈ lw_all := lw_g (lw_at lw_m3 212 rfl) rfl
theorem q787 : (Jvm.Cond.publicMethod ({ cls := "java/util/ArrayList$Itr", name := "next", desc := "()Ljava/lang/Object;" } : Jvm.MethodName)) ∈ lw_tbl := lw_at lw_m3 213 rfl
theorem q788 : (Jvm.Cond.code ({ cls := "java/util/ArrayList$Itr", name := "next", desc := "()Ljava/lang/Object;" } : Jvm.MethodName) prog_55_method_3_code (3 : Nat) (Option.some (Jvm.ClassFile.FieldType.object "java/lang/Object"))) ∈ lw_all := lw_g (lw_at lw_m3 214 rfl) rfl
theorem q789 : (Jvm.Cond.methodLink "java/util/ArrayList$Itr" (31 : Nat) ({ cls := "java/util/ArrayList$Itr", name := "checkForComodification", desc := "()V" } : Jvm.MethodName)) ∈ lw_all := lw_g (lw_at lw_m3 215 rfl) rfl
theorem q790 : (Jvm.Cond.instanceMethod ({ cls := "java/util/ArrayList$Itr", name := "checkForComodification", desc := "()V" } : Jvm.MethodName)) ∈ lw_all := lw_g (lw_at lw_m3 216 rfl) rfl
theorem q791 : (Jvm.Cond.selects "java/util/ArrayList$Itr" ({ cls := "java/util/ArrayList$Itr", name := "checkForComodification", desc := "()V" } : Jvm.MethodName) ({ cls := "java/util/ArrayList$Itr", name := "checkForComodification", desc := "()V" } : Jvm.MethodName)) ∈ lw_all := lw_g (lw_at lw_m3 217 rfl) rfl
theorem q792 : (Jvm.Cond.code ({ cls := "java/util/ArrayList$Itr", name := "checkForComodification", desc := "()V" } : Jvm.MethodName) prog_55_method_6_code (1 : Nat) (Option.none : Option Jvm.ClassFile.FieldType)) ∈ lw_all := lw_g (lw_at lw_m3 218 rfl) rfl
theorem q793 : (Jvm.Cond.classLink "java/util/ArrayList$Itr" (34 : Nat) "java/util/NoSuchElementException") ∈ lw_all := lw_g (lw_at lw_m3 219 rfl) rfl
theorem q794 : (Jvm.Cond.methodLink "java/util/ArrayList$Itr" (36 : Nat) ({ cls := "java/util/NoSuchElementException", name := "<init>", desc := "()V" } : Jvm.MethodName)) ∈ lw_all := lw_g (lw_at lw_m3 220 rfl) rfl
theorem q1167 : (Jvm.Cond.fieldLink "java/util/ArrayList$Itr" (37 : Nat) "java/util/ArrayList" "elementData" "[Ljava/lang/Object;") ∈ lw_all := lw_g (lw_at lw_m5 113 rfl) rfl
theorem q1168 : (Jvm.Cond.fieldLinkNest "java/util/ArrayList$Itr" (28 : Nat) "java/util/ArrayList" "size" "I" "java/util/ArrayList") ∈ lw_tbl := lw_at lw_m5 114 rfl
theorem q1171 : (Jvm.Cond.fieldLink "java/util/ArrayList$Itr" (17 : Nat) "java/util/ArrayList" "modCount" "I") ∈ lw_all := lw_g (lw_at lw_m5 117 rfl) rfl
theorem q1262 : (Jvm.Cond.selects "java/util/ArrayList$Itr" ({ cls := "java/lang/Object", name := "getClass", desc := "()Ljava/lang/Class;" } : Jvm.MethodName) ({ cls := "java/lang/Object", name := "getClass", desc := "()Ljava/lang/Class;" } : Jvm.MethodName)) ∈ lw_all := lw_g (lw_at lw_m5 208 rfl) rfl
theorem q3816 : (Jvm.Cond.castable "java/util/ArrayList$Itr" "java/lang/Object") ∈ lw_tbl := lw_at lw_m16 122 rfl
theorem in_J15 : ∀ w ∈ wsJ150, w ∈ lw_all := lw_in wsJ150 [487, 489, 491, 493] (by decide +kernel) (by decide +kernel)

/-! java/util/HashMap$HashIterator -/
def RJ16 : String := "java/util/HashMap$HashIterator"
abbrev cJ16_init : ByteArray := prog_61_method_1_code
def yJ16_init : MethodName := ⟨RJ16, "<init>", "(Ljava/util/HashMap;)V"⟩
abbrev cJ16_hasNext : ByteArray := prog_61_method_2_code
def yJ16_hasNext : MethodName := ⟨RJ16, "hasNext", "()Z"⟩
abbrev cJ16_nextNode : ByteArray := prog_61_method_3_code
def yJ16_nextNode : MethodName := ⟨RJ16, "nextNode", "()Ljava/util/HashMap$Node;"⟩
theorem q113 : (Jvm.Cond.initialized "java/util/HashMap$HashIterator") ∈ lw_all := lw_g (lw_at lw_m1 19 rfl) rfl
theorem q197 : (Jvm.Cond.fieldLink "java/util/HashMap$HashIterator" (22 : Nat) "java/util/HashMap" "table" "[Ljava/util/HashMap$Node;") ∈ lw_all := lw_g (lw_at lw_m1 103 rfl) rfl
theorem q199 : (Jvm.Cond.fieldLink "java/util/HashMap$HashIterator" (36 : Nat) "java/util/HashMap" "size" "I") ∈ lw_all := lw_g (lw_at lw_m1 105 rfl) rfl
theorem q201 : (Jvm.Cond.fieldLink "java/util/HashMap$HashIterator" (13 : Nat) "java/util/HashMap" "modCount" "I") ∈ lw_all := lw_g (lw_at lw_m1 107 rfl) rfl
theorem q508 : (Jvm.Cond.instanceMethod ({ cls := "java/util/HashMap$HashIterator", name := "<init>", desc := "(Ljava/util/HashMap;)V" } : Jvm.MethodName)) ∈ lw_all := lw_g (lw_at lw_m2 174 rfl) rfl
theorem q509 : (Jvm.Cond.code ({ cls := "java/util/HashMap$HashIterator", name := "<init>", desc := "(Ljava/util/HashMap;)V" } : Jvm.MethodName) prog_61_method_1_code (3 : Nat) (Option.none : Option Jvm.ClassFile.FieldType)) ∈ lw_all := lw_g (lw_at lw_m2 175 rfl) rfl
theorem q510 : (Jvm.Cond.methodLink "java/util/HashMap$HashIterator" (7 : Nat) ({ cls := "java/lang/Object", name := "<init>", desc := "()V" } : Jvm.MethodName)) ∈ lw_all := lw_g (lw_at lw_m2 176 rfl) rfl
theorem q511 : (Jvm.Cond.fieldLink "java/util/HashMap$HashIterator" (26 : Nat) "java/util/HashMap$HashIterator" "next" "Ljava/util/HashMap$Node;") ∈ lw_all := lw_g (lw_at lw_m2 177 rfl) rfl
theorem q512 : (Jvm.Cond.fieldLink "java/util/HashMap$HashIterator" (30 : Nat) "java/util/HashMap$HashIterator" "current" "Ljava/util/HashMap$Node;") ∈ lw_all := lw_g (lw_at lw_m2 178 rfl) rfl
theorem q513 : (Jvm.Cond.fieldLink "java/util/HashMap$HashIterator" (19 : Nat) "java/util/HashMap$HashIterator" "expectedModCount" "I") ∈ lw_all := lw_g (lw_at lw_m2 179 rfl) rfl
theorem q514 : (Jvm.Cond.fieldLink "java/util/HashMap$HashIterator" (33 : Nat) "java/util/HashMap$HashIterator" "index" "I") ∈ lw_all := lw_g (lw_at lw_m2 180 rfl) rfl
theorem q515 : (Jvm.Cond.fieldLink "java/util/HashMap$HashIterator" (1 : Nat) "java/util/HashMap$HashIterator" "this$0" "Ljava/util/HashMap;") ∈ lw_all := lw_g (lw_at lw_m2 181 rfl) rfl
theorem q517 : (Jvm.Cond.soleField "java/util/HashMap$HashIterator" "next") ∈ lw_all := lw_g (lw_at lw_m2 183 rfl) rfl
theorem q519 : (Jvm.Cond.soleField "java/util/HashMap$HashIterator" "current") ∈ lw_all := lw_g (lw_at lw_m2 185 rfl) rfl
theorem q521 : (Jvm.Cond.soleField "java/util/HashMap$HashIterator" "expectedModCount") ∈ lw_all := lw_g (lw_at lw_m2 187 rfl) rfl
theorem q523 : (Jvm.Cond.soleField "java/util/HashMap$HashIterator" "index") ∈ lw_all := lw_g (lw_at lw_m2 189 rfl) rfl
theorem q525 : (Jvm.Cond.soleField "java/util/HashMap$HashIterator" "this$0") ∈ lw_all := lw_g (lw_at lw_m2 191 rfl) rfl
theorem q657 : (Jvm.Cond.instanceMethod ({ cls := "java/util/HashMap$HashIterator", name := "hasNext", desc := "()Z" } : Jvm.MethodName)) ∈ lw_all := lw_g (lw_at lw_m3 83 rfl) rfl
theorem q658 : (Jvm.Cond.publicMethod ({ cls := "java/util/HashMap$HashIterator", name := "hasNext", desc := "()Z" } : Jvm.MethodName)) ∈ lw_tbl := lw_at lw_m3 84 rfl
theorem q659 : (Jvm.Cond.code ({ cls := "java/util/HashMap$HashIterator", name := "hasNext", desc := "()Z" } : Jvm.MethodName) prog_61_method_2_code (1 : Nat) (Option.some Jvm.ClassFile.FieldType.boolean)) ∈ lw_all := lw_g (lw_at lw_m3 85 rfl) rfl
theorem q802 : (Jvm.Cond.declares ({ cls := "java/util/HashMap$HashIterator", name := "nextNode", desc := "()Ljava/util/HashMap$Node;" } : Jvm.MethodName)) ∈ lw_tbl := lw_at lw_m3 228 rfl
theorem q804 : (Jvm.Cond.instanceMethod ({ cls := "java/util/HashMap$HashIterator", name := "nextNode", desc := "()Ljava/util/HashMap$Node;" } : Jvm.MethodName)) ∈ lw_all := lw_g (lw_at lw_m3 230 rfl) rfl
theorem q805 : (Jvm.Cond.code ({ cls := "java/util/HashMap$HashIterator", name := "nextNode", desc := "()Ljava/util/HashMap$Node;" } : Jvm.MethodName) prog_61_method_3_code (3 : Nat) (Option.some (Jvm.ClassFile.FieldType.object "java/util/HashMap$Node"))) ∈ lw_all := lw_g (lw_at lw_m3 231 rfl) rfl
theorem q806 : (Jvm.Cond.classLink "java/util/HashMap$HashIterator" (42 : Nat) "java/util/NoSuchElementException") ∈ lw_all := lw_g (lw_at lw_m3 232 rfl) rfl
theorem q807 : (Jvm.Cond.methodLink "java/util/HashMap$HashIterator" (44 : Nat) ({ cls := "java/util/NoSuchElementException", name := "<init>", desc := "()V" } : Jvm.MethodName)) ∈ lw_all := lw_g (lw_at lw_m3 233 rfl) rfl
theorem q2118 : (Jvm.Cond.fieldLink "java/util/HashMap$HashIterator" (45 : Nat) "java/util/HashMap$Node" "next" "Ljava/util/HashMap$Node;") ∈ lw_all := lw_g (lw_at lw_m9 104 rfl) rfl

/-! java/util/HashMap$KeyIterator -/
def RJ17 : String := "java/util/HashMap$KeyIterator"
def TJ17 : u_T := fun k => match k with
  | 0 => ("java/util/HashMap$HashIterator", "next", "Ljava/util/HashMap$Node;", false)
  | 1 => ("java/util/HashMap$HashIterator", "current", "Ljava/util/HashMap$Node;", false)
  | 2 => ("java/util/HashMap$HashIterator", "expectedModCount", "I", false)
  | 3 => ("java/util/HashMap$HashIterator", "index", "I", false)
  | _ => ("java/util/HashMap$HashIterator", "this$0", "Ljava/util/HashMap;", true)
def tyJ17 : Nat → FieldType := fun k => match k with
  | 0 => .object "java/util/HashMap$Node"
  | 1 => .object "java/util/HashMap$Node"
  | 2 => .int
  | 3 => .int
  | _ => .object "java/util/HashMap"
abbrev wsJ170 : List Cond := u_ws RJ17 TJ17 5
theorem nmJ17 : ∀ a, a < 5 → ∀ b, b < 5 → a ≠ b → (TJ17 a).2.1 ≠ (TJ17 b).2.1 := by decide +kernel
theorem tyJ17_ok : ∀ k, k < 5 → parseFieldDescriptor (TJ17 k).2.2.1 = some (tyJ17 k) := by decide +kernel
abbrev cJ17_init : ByteArray := prog_62_method_1_code
def yJ17_init : MethodName := ⟨RJ17, "<init>", "(Ljava/util/HashMap;)V"⟩
abbrev cJ17_next : ByteArray := prog_62_method_2_code
def yJ17_next : MethodName := ⟨RJ17, "next", "()Ljava/lang/Object;"⟩
theorem q114 : (Jvm.Cond.initialized "java/util/HashMap$KeyIterator") ∈ lw_all := lw_g (lw_at lw_m1 20 rfl) rfl
theorem q503 : (Jvm.Cond.instantiable "java/util/HashMap$KeyIterator" (5 : Nat)) ∈ lw_all := lw_g (lw_at lw_m2 169 rfl) rfl
theorem q505 : (Jvm.Cond.instanceMethod ({ cls := "java/util/HashMap$KeyIterator", name := "<init>", desc := "(Ljava/util/HashMap;)V" } : Jvm.MethodName)) ∈ lw_all := lw_g (lw_at lw_m2 171 rfl) rfl
theorem q506 : (Jvm.Cond.code ({ cls := "java/util/HashMap$KeyIterator", name := "<init>", desc := "(Ljava/util/HashMap;)V" } : Jvm.MethodName) prog_62_method_1_code (2 : Nat) (Option.none : Option Jvm.ClassFile.FieldType)) ∈ lw_all := lw_g (lw_at lw_m2 172 rfl) rfl
theorem q507 : (Jvm.Cond.methodLink "java/util/HashMap$KeyIterator" (1 : Nat) ({ cls := "java/util/HashMap$HashIterator", name := "<init>", desc := "(Ljava/util/HashMap;)V" } : Jvm.MethodName)) ∈ lw_all := lw_g (lw_at lw_m2 173 rfl) rfl
theorem q516 : (Jvm.Cond.lays "java/util/HashMap$KeyIterator" "java/util/HashMap$HashIterator" "next" "Ljava/util/HashMap$Node;") ∈ lw_all := lw_g (lw_at lw_m2 182 rfl) rfl
theorem q518 : (Jvm.Cond.lays "java/util/HashMap$KeyIterator" "java/util/HashMap$HashIterator" "current" "Ljava/util/HashMap$Node;") ∈ lw_all := lw_g (lw_at lw_m2 184 rfl) rfl
theorem q520 : (Jvm.Cond.lays "java/util/HashMap$KeyIterator" "java/util/HashMap$HashIterator" "expectedModCount" "I") ∈ lw_all := lw_g (lw_at lw_m2 186 rfl) rfl
theorem q522 : (Jvm.Cond.lays "java/util/HashMap$KeyIterator" "java/util/HashMap$HashIterator" "index" "I") ∈ lw_all := lw_g (lw_at lw_m2 188 rfl) rfl
theorem q524 : (Jvm.Cond.laysFinal "java/util/HashMap$KeyIterator" "java/util/HashMap$HashIterator" "this$0" "Ljava/util/HashMap;") ∈ lw_all := lw_g (lw_at lw_m2 190 rfl) rfl
theorem q526 : (Jvm.Cond.superclass "java/util/HashMap$KeyIterator" "java/util/HashMap$HashIterator") ∈ lw_all := lw_g (lw_at lw_m2 192 rfl) rfl
theorem q654 : (Jvm.Cond.castable "java/util/HashMap$KeyIterator" "java/util/Iterator") ∈ lw_tbl := lw_at lw_m3 80 rfl
theorem q655 : (Jvm.Cond.selects "java/util/HashMap$KeyIterator" ({ cls := "java/util/Iterator", name := "hasNext", desc := "()Z" } : Jvm.MethodName) ({ cls := "java/util/HashMap$HashIterator", name := "hasNext", desc := "()Z" } : Jvm.MethodName)) ∈ lw_all := lw_g (lw_at lw_m3 81 rfl) rfl
theorem q656 : (Jvm.Cond.unhidden "java/util/HashMap$KeyIterator" "hasNext" "()Z") ∈ lw_tbl := lw_at lw_m3 82 rfl
theorem q795 : (Jvm.Cond.selects "java/util/HashMap$KeyIterator" ({ cls := "java/util/Iterator", name := "next", desc := "()Ljava/lang/Object;" } : Jvm.MethodName) ({ cls := "java/util/HashMap$KeyIterator", name := "next", desc := "()Ljava/lang/Object;" } : Jvm.MethodName)) ∈ lw_all := lw_g (lw_at lw_m3 221 rfl) rfl
theorem q796 : (Jvm.Cond.unhidden "java/util/HashMap$KeyIterator" "next" "()Ljava/lang/Object;") ∈ lw_tbl := lw_at lw_m3 222 rfl
theorem q797 : (Jvm.Cond.instanceMethod ({ cls := "java/util/HashMap$KeyIterator", name := "next", desc := "()Ljava/lang/Object;" } : Jvm.MethodName)) ∈ lw_all := lw_g (lw_at lw_m3 223 rfl) rfl
theorem q798 : (Jvm.Cond.publicMethod ({ cls := "java/util/HashMap$KeyIterator", name := "next", desc := "()Ljava/lang/Object;" } : Jvm.MethodName)) ∈ lw_tbl := lw_at lw_m3 224 rfl
theorem q799 : (Jvm.Cond.code ({ cls := "java/util/HashMap$KeyIterator", name := "next", desc := "()Ljava/lang/Object;" } : Jvm.MethodName) prog_62_method_2_code (1 : Nat) (Option.some (Jvm.ClassFile.FieldType.object "java/lang/Object"))) ∈ lw_all := lw_g (lw_at lw_m3 225 rfl) rfl
theorem q800 : (Jvm.Cond.methodLink "java/util/HashMap$KeyIterator" (7 : Nat) ({ cls := "java/util/HashMap$KeyIterator", name := "nextNode", desc := "()Ljava/util/HashMap$Node;" } : Jvm.MethodName)) ∈ lw_all := lw_g (lw_at lw_m3 226 rfl) rfl
theorem q801 : (Jvm.Cond.sameMethod "java/util/HashMap$KeyIterator" "java/util/HashMap$HashIterator" "nextNode" "()Ljava/util/HashMap$Node;") ∈ lw_all := lw_g (lw_at lw_m3 227 rfl) rfl
theorem q803 : (Jvm.Cond.selects "java/util/HashMap$KeyIterator" ({ cls := "java/util/HashMap$KeyIterator", name := "nextNode", desc := "()Ljava/util/HashMap$Node;" } : Jvm.MethodName) ({ cls := "java/util/HashMap$HashIterator", name := "nextNode", desc := "()Ljava/util/HashMap$Node;" } : Jvm.MethodName)) ∈ lw_all := lw_g (lw_at lw_m3 229 rfl) rfl
theorem q1265 : (Jvm.Cond.selects "java/util/HashMap$KeyIterator" ({ cls := "java/lang/Object", name := "getClass", desc := "()Ljava/lang/Class;" } : Jvm.MethodName) ({ cls := "java/lang/Object", name := "getClass", desc := "()Ljava/lang/Class;" } : Jvm.MethodName)) ∈ lw_all := lw_g (lw_at lw_m5 211 rfl) rfl
theorem q2105 : (Jvm.Cond.fieldLink "java/util/HashMap$KeyIterator" (13 : Nat) "java/util/HashMap$Node" "key" "Ljava/lang/Object;") ∈ lw_all := lw_g (lw_at lw_m9 91 rfl) rfl
theorem q3809 : (Jvm.Cond.castable "java/util/HashMap$KeyIterator" "java/lang/Object") ∈ lw_tbl := lw_at lw_m16 115 rfl
theorem in_J17 : ∀ w ∈ wsJ170, w ∈ lw_all := lw_in wsJ170 [516, 518, 520, 522, 524] (by decide +kernel) (by decide +kernel)

/-! java/util/HashMap$KeySet -/
def RJ18 : String := "java/util/HashMap$KeySet"
def TJ18 : u_T := fun k => match k with
  | _ => ("java/util/HashMap$KeySet", "this$0", "Ljava/util/HashMap;", true)
def tyJ18 : Nat → FieldType := fun k => match k with
  | _ => .object "java/util/HashMap"
abbrev wsJ180 : List Cond := u_ws RJ18 TJ18 1
theorem nmJ18 : ∀ a, a < 1 → ∀ b, b < 1 → a ≠ b → (TJ18 a).2.1 ≠ (TJ18 b).2.1 := by decide +kernel
theorem tyJ18_ok : ∀ k, k < 1 → parseFieldDescriptor (TJ18 k).2.2.1 = some (tyJ18 k) := by decide +kernel
abbrev cJ18_iterator : ByteArray := prog_63_method_4_code
def yJ18_iterator : MethodName := ⟨RJ18, "iterator", "()Ljava/util/Iterator;"⟩
abbrev cJ18_init : ByteArray := prog_63_method_1_code
def yJ18_init : MethodName := ⟨RJ18, "<init>", "(Ljava/util/HashMap;)V"⟩
theorem q115 : (Jvm.Cond.initialized "java/util/HashMap$KeySet") ∈ lw_all := lw_g (lw_at lw_m1 21 rfl) rfl
theorem q496 : (Jvm.Cond.castable "java/util/HashMap$KeySet" "java/util/Collection") ∈ lw_tbl := lw_at lw_m2 162 rfl
theorem q497 : (Jvm.Cond.selects "java/util/HashMap$KeySet" ({ cls := "java/util/Collection", name := "iterator", desc := "()Ljava/util/Iterator;" } : Jvm.MethodName) ({ cls := "java/util/HashMap$KeySet", name := "iterator", desc := "()Ljava/util/Iterator;" } : Jvm.MethodName)) ∈ lw_all := lw_g (lw_at lw_m2 163 rfl) rfl
theorem q498 : (Jvm.Cond.unhidden "java/util/HashMap$KeySet" "iterator" "()Ljava/util/Iterator;") ∈ lw_tbl := lw_at lw_m2 164 rfl
theorem q499 : (Jvm.Cond.instanceMethod ({ cls := "java/util/HashMap$KeySet", name := "iterator", desc := "()Ljava/util/Iterator;" } : Jvm.MethodName)) ∈ lw_all := lw_g (lw_at lw_m2 165 rfl) rfl
theorem q500 : (Jvm.Cond.publicMethod ({ cls := "java/util/HashMap$KeySet", name := "iterator", desc := "()Ljava/util/Iterator;" } : Jvm.MethodName)) ∈ lw_tbl := lw_at lw_m2 166 rfl
theorem q501 : (Jvm.Cond.code ({ cls := "java/util/HashMap$KeySet", name := "iterator", desc := "()Ljava/util/Iterator;" } : Jvm.MethodName) prog_63_method_4_code (1 : Nat) (Option.some (Jvm.ClassFile.FieldType.object "java/util/Iterator"))) ∈ lw_all := lw_g (lw_at lw_m2 167 rfl) rfl
theorem q502 : (Jvm.Cond.classLink "java/util/HashMap$KeySet" (22 : Nat) "java/util/HashMap$KeyIterator") ∈ lw_all := lw_g (lw_at lw_m2 168 rfl) rfl
theorem q504 : (Jvm.Cond.methodLink "java/util/HashMap$KeySet" (24 : Nat) ({ cls := "java/util/HashMap$KeyIterator", name := "<init>", desc := "(Ljava/util/HashMap;)V" } : Jvm.MethodName)) ∈ lw_all := lw_g (lw_at lw_m2 170 rfl) rfl
theorem q560 : (Jvm.Cond.instantiable "java/util/HashMap$KeySet" (1 : Nat)) ∈ lw_all := lw_g (lw_at lw_m2 226 rfl) rfl
theorem q562 : (Jvm.Cond.instanceMethod ({ cls := "java/util/HashMap$KeySet", name := "<init>", desc := "(Ljava/util/HashMap;)V" } : Jvm.MethodName)) ∈ lw_all := lw_g (lw_at lw_m2 228 rfl) rfl
theorem q563 : (Jvm.Cond.code ({ cls := "java/util/HashMap$KeySet", name := "<init>", desc := "(Ljava/util/HashMap;)V" } : Jvm.MethodName) prog_63_method_1_code (2 : Nat) (Option.none : Option Jvm.ClassFile.FieldType)) ∈ lw_all := lw_g (lw_at lw_m2 229 rfl) rfl
theorem q564 : (Jvm.Cond.methodLink "java/util/HashMap$KeySet" (7 : Nat) ({ cls := "java/util/AbstractSet", name := "<init>", desc := "()V" } : Jvm.MethodName)) ∈ lw_all := lw_g (lw_at lw_m2 230 rfl) rfl
theorem q565 : (Jvm.Cond.fieldLink "java/util/HashMap$KeySet" (1 : Nat) "java/util/HashMap$KeySet" "this$0" "Ljava/util/HashMap;") ∈ lw_all := lw_g (lw_at lw_m2 231 rfl) rfl
theorem q566 : (Jvm.Cond.laysFinal "java/util/HashMap$KeySet" "java/util/HashMap$KeySet" "this$0" "Ljava/util/HashMap;") ∈ lw_all := lw_g (lw_at lw_m2 232 rfl) rfl
theorem q567 : (Jvm.Cond.soleField "java/util/HashMap$KeySet" "this$0") ∈ lw_all := lw_g (lw_at lw_m2 233 rfl) rfl
theorem q568 : (Jvm.Cond.superclass "java/util/HashMap$KeySet" "java/util/AbstractSet") ∈ lw_all := lw_g (lw_at lw_m2 234 rfl) rfl
theorem q573 : (Jvm.Cond.castable "java/util/HashMap$KeySet" "java/util/Set") ∈ lw_tbl := lw_at lw_m2 239 rfl
theorem q574 : (Jvm.Cond.selects "java/util/HashMap$KeySet" ({ cls := "java/util/Set", name := "iterator", desc := "()Ljava/util/Iterator;" } : Jvm.MethodName) ({ cls := "java/util/HashMap$KeySet", name := "iterator", desc := "()Ljava/util/Iterator;" } : Jvm.MethodName)) ∈ lw_all := lw_g (lw_at lw_m3 0 rfl) rfl
theorem q1266 : (Jvm.Cond.selects "java/util/HashMap$KeySet" ({ cls := "java/lang/Object", name := "getClass", desc := "()Ljava/lang/Class;" } : Jvm.MethodName) ({ cls := "java/lang/Object", name := "getClass", desc := "()Ljava/lang/Class;" } : Jvm.MethodName)) ∈ lw_all := lw_g (lw_at lw_m5 212 rfl) rfl
theorem q3807 : (Jvm.Cond.castable "java/util/HashMap$KeySet" "java/lang/Object") ∈ lw_tbl := lw_at lw_m16 113 rfl
theorem in_J18 : ∀ w ∈ wsJ180, w ∈ lw_all := lw_in wsJ180 [566] (by decide +kernel) (by decide +kernel)

/-! java/util/LinkedHashMap$LinkedKeySet -/
def RJ19 : String := "java/util/LinkedHashMap$LinkedKeySet"
def TJ19 : u_T := fun k => match k with
  | 0 => ("java/util/LinkedHashMap$LinkedKeySet", "reversed", "Z", true)
  | _ => ("java/util/LinkedHashMap$LinkedKeySet", "this$0", "Ljava/util/LinkedHashMap;", true)
def tyJ19 : Nat → FieldType := fun k => match k with
  | 0 => .boolean
  | _ => .object "java/util/LinkedHashMap"
abbrev wsJ190 : List Cond := u_ws RJ19 TJ19 2
theorem nmJ19 : ∀ a, a < 2 → ∀ b, b < 2 → a ≠ b → (TJ19 a).2.1 ≠ (TJ19 b).2.1 := by decide +kernel
theorem tyJ19_ok : ∀ k, k < 2 → parseFieldDescriptor (TJ19 k).2.2.1 = some (tyJ19 k) := by decide +kernel
abbrev cJ19_init : ByteArray := prog_72_method_1_code
def yJ19_init : MethodName := ⟨RJ19, "<init>", "(Ljava/util/LinkedHashMap;Z)V"⟩
abbrev cJ19_iterator : ByteArray := prog_72_method_4_code
def yJ19_iterator : MethodName := ⟨RJ19, "iterator", "()Ljava/util/Iterator;"⟩
theorem q116 : (Jvm.Cond.initialized "java/util/LinkedHashMap$LinkedKeySet") ∈ lw_all := lw_g (lw_at lw_m1 22 rfl) rfl
theorem q545 : (Jvm.Cond.instantiable "java/util/LinkedHashMap$LinkedKeySet" (2 : Nat)) ∈ lw_all := lw_g (lw_at lw_m2 211 rfl) rfl
theorem q547 : (Jvm.Cond.instanceMethod ({ cls := "java/util/LinkedHashMap$LinkedKeySet", name := "<init>", desc := "(Ljava/util/LinkedHashMap;Z)V" } : Jvm.MethodName)) ∈ lw_all := lw_g (lw_at lw_m2 213 rfl) rfl
theorem q548 : (Jvm.Cond.code ({ cls := "java/util/LinkedHashMap$LinkedKeySet", name := "<init>", desc := "(Ljava/util/LinkedHashMap;Z)V" } : Jvm.MethodName) prog_72_method_1_code (3 : Nat) (Option.none : Option Jvm.ClassFile.FieldType)) ∈ lw_all := lw_g (lw_at lw_m2 214 rfl) rfl
theorem q549 : (Jvm.Cond.methodLink "java/util/LinkedHashMap$LinkedKeySet" (7 : Nat) ({ cls := "java/util/AbstractSet", name := "<init>", desc := "()V" } : Jvm.MethodName)) ∈ lw_all := lw_g (lw_at lw_m2 215 rfl) rfl
theorem q550 : (Jvm.Cond.fieldLink "java/util/LinkedHashMap$LinkedKeySet" (13 : Nat) "java/util/LinkedHashMap$LinkedKeySet" "reversed" "Z") ∈ lw_all := lw_g (lw_at lw_m2 216 rfl) rfl
theorem q551 : (Jvm.Cond.fieldLink "java/util/LinkedHashMap$LinkedKeySet" (1 : Nat) "java/util/LinkedHashMap$LinkedKeySet" "this$0" "Ljava/util/LinkedHashMap;") ∈ lw_all := lw_g (lw_at lw_m2 217 rfl) rfl
theorem q552 : (Jvm.Cond.laysFinal "java/util/LinkedHashMap$LinkedKeySet" "java/util/LinkedHashMap$LinkedKeySet" "reversed" "Z") ∈ lw_all := lw_g (lw_at lw_m2 218 rfl) rfl
theorem q553 : (Jvm.Cond.soleField "java/util/LinkedHashMap$LinkedKeySet" "reversed") ∈ lw_all := lw_g (lw_at lw_m2 219 rfl) rfl
theorem q554 : (Jvm.Cond.laysFinal "java/util/LinkedHashMap$LinkedKeySet" "java/util/LinkedHashMap$LinkedKeySet" "this$0" "Ljava/util/LinkedHashMap;") ∈ lw_all := lw_g (lw_at lw_m2 220 rfl) rfl
theorem q555 : (Jvm.Cond.soleField "java/util/LinkedHashMap$LinkedKeySet" "this$0") ∈ lw_all := lw_g (lw_at lw_m2 221 rfl) rfl
theorem q556 : (Jvm.Cond.superclass "java/util/LinkedHashMap$LinkedKeySet" "java/util/AbstractSet") ∈ lw_all := lw_g (lw_at lw_m2 222 rfl) rfl
theorem q577 : (Jvm.Cond.castable "java/util/LinkedHashMap$LinkedKeySet" "java/util/Set") ∈ lw_tbl := lw_at lw_m3 3 rfl
theorem q578 : (Jvm.Cond.selects "java/util/LinkedHashMap$LinkedKeySet" ({ cls := "java/util/Set", name := "iterator", desc := "()Ljava/util/Iterator;" } : Jvm.MethodName) ({ cls := "java/util/LinkedHashMap$LinkedKeySet", name := "iterator", desc := "()Ljava/util/Iterator;" } : Jvm.MethodName)) ∈ lw_all := lw_g (lw_at lw_m3 4 rfl) rfl
theorem q579 : (Jvm.Cond.unhidden "java/util/LinkedHashMap$LinkedKeySet" "iterator" "()Ljava/util/Iterator;") ∈ lw_tbl := lw_at lw_m3 5 rfl
theorem q580 : (Jvm.Cond.instanceMethod ({ cls := "java/util/LinkedHashMap$LinkedKeySet", name := "iterator", desc := "()Ljava/util/Iterator;" } : Jvm.MethodName)) ∈ lw_all := lw_g (lw_at lw_m3 6 rfl) rfl
theorem q581 : (Jvm.Cond.publicMethod ({ cls := "java/util/LinkedHashMap$LinkedKeySet", name := "iterator", desc := "()Ljava/util/Iterator;" } : Jvm.MethodName)) ∈ lw_tbl := lw_at lw_m3 7 rfl
theorem q582 : (Jvm.Cond.code ({ cls := "java/util/LinkedHashMap$LinkedKeySet", name := "iterator", desc := "()Ljava/util/Iterator;" } : Jvm.MethodName) prog_72_method_4_code (1 : Nat) (Option.some (Jvm.ClassFile.FieldType.object "java/util/Iterator"))) ∈ lw_all := lw_g (lw_at lw_m3 8 rfl) rfl
theorem q583 : (Jvm.Cond.classLink "java/util/LinkedHashMap$LinkedKeySet" (26 : Nat) "java/util/LinkedHashMap$LinkedKeyIterator") ∈ lw_all := lw_g (lw_at lw_m3 9 rfl) rfl
theorem q585 : (Jvm.Cond.methodLink "java/util/LinkedHashMap$LinkedKeySet" (28 : Nat) ({ cls := "java/util/LinkedHashMap$LinkedKeyIterator", name := "<init>", desc := "(Ljava/util/LinkedHashMap;Z)V" } : Jvm.MethodName)) ∈ lw_all := lw_g (lw_at lw_m3 11 rfl) rfl
theorem q608 : (Jvm.Cond.castable "java/util/LinkedHashMap$LinkedKeySet" "java/util/Collection") ∈ lw_tbl := lw_at lw_m3 34 rfl
theorem q609 : (Jvm.Cond.selects "java/util/LinkedHashMap$LinkedKeySet" ({ cls := "java/util/Collection", name := "iterator", desc := "()Ljava/util/Iterator;" } : Jvm.MethodName) ({ cls := "java/util/LinkedHashMap$LinkedKeySet", name := "iterator", desc := "()Ljava/util/Iterator;" } : Jvm.MethodName)) ∈ lw_all := lw_g (lw_at lw_m3 35 rfl) rfl
theorem q1273 : (Jvm.Cond.selects "java/util/LinkedHashMap$LinkedKeySet" ({ cls := "java/lang/Object", name := "getClass", desc := "()Ljava/lang/Class;" } : Jvm.MethodName) ({ cls := "java/lang/Object", name := "getClass", desc := "()Ljava/lang/Class;" } : Jvm.MethodName)) ∈ lw_all := lw_g (lw_at lw_m5 219 rfl) rfl
theorem q3785 : (Jvm.Cond.castable "java/util/LinkedHashMap$LinkedKeySet" "java/util/SequencedSet") ∈ lw_tbl := lw_at lw_m16 91 rfl
theorem q3788 : (Jvm.Cond.castable "java/util/LinkedHashMap$LinkedKeySet" "java/util/SequencedCollection") ∈ lw_tbl := lw_at lw_m16 94 rfl
theorem q3808 : (Jvm.Cond.castable "java/util/LinkedHashMap$LinkedKeySet" "java/lang/Object") ∈ lw_tbl := lw_at lw_m16 114 rfl
theorem in_J19 : ∀ w ∈ wsJ190, w ∈ lw_all := lw_in wsJ190 [552, 554] (by decide +kernel) (by decide +kernel)

/-! java/util/LinkedHashMap$LinkedHashIterator -/
def RJ20 : String := "java/util/LinkedHashMap$LinkedHashIterator"
abbrev cJ20_init : ByteArray := prog_70_method_1_code
def yJ20_init : MethodName := ⟨RJ20, "<init>", "(Ljava/util/LinkedHashMap;Z)V"⟩
abbrev cJ20_hasNext : ByteArray := prog_70_method_2_code
def yJ20_hasNext : MethodName := ⟨RJ20, "hasNext", "()Z"⟩
abbrev cJ20_nextNode : ByteArray := prog_70_method_3_code
def yJ20_nextNode : MethodName := ⟨RJ20, "nextNode", "()Ljava/util/LinkedHashMap$Entry;"⟩
theorem q117 : (Jvm.Cond.initialized "java/util/LinkedHashMap$LinkedHashIterator") ∈ lw_all := lw_g (lw_at lw_m1 23 rfl) rfl
theorem q192 : (Jvm.Cond.fieldLink "java/util/LinkedHashMap$LinkedHashIterator" (23 : Nat) "java/util/LinkedHashMap" "head" "Ljava/util/LinkedHashMap$Entry;") ∈ lw_all := lw_g (lw_at lw_m1 98 rfl) rfl
theorem q193 : (Jvm.Cond.fieldLink "java/util/LinkedHashMap$LinkedHashIterator" (17 : Nat) "java/util/LinkedHashMap" "tail" "Ljava/util/LinkedHashMap$Entry;") ∈ lw_all := lw_g (lw_at lw_m1 99 rfl) rfl
theorem q202 : (Jvm.Cond.fieldLink "java/util/LinkedHashMap$LinkedHashIterator" (29 : Nat) "java/util/LinkedHashMap" "modCount" "I") ∈ lw_all := lw_g (lw_at lw_m1 108 rfl) rfl
theorem q589 : (Jvm.Cond.instanceMethod ({ cls := "java/util/LinkedHashMap$LinkedHashIterator", name := "<init>", desc := "(Ljava/util/LinkedHashMap;Z)V" } : Jvm.MethodName)) ∈ lw_all := lw_g (lw_at lw_m3 15 rfl) rfl
theorem q590 : (Jvm.Cond.code ({ cls := "java/util/LinkedHashMap$LinkedHashIterator", name := "<init>", desc := "(Ljava/util/LinkedHashMap;Z)V" } : Jvm.MethodName) prog_70_method_1_code (3 : Nat) (Option.none : Option Jvm.ClassFile.FieldType)) ∈ lw_all := lw_g (lw_at lw_m3 16 rfl) rfl
theorem q591 : (Jvm.Cond.methodLink "java/util/LinkedHashMap$LinkedHashIterator" (7 : Nat) ({ cls := "java/lang/Object", name := "<init>", desc := "()V" } : Jvm.MethodName)) ∈ lw_all := lw_g (lw_at lw_m3 17 rfl) rfl
theorem q592 : (Jvm.Cond.fieldLink "java/util/LinkedHashMap$LinkedHashIterator" (26 : Nat) "java/util/LinkedHashMap$LinkedHashIterator" "next" "Ljava/util/LinkedHashMap$Entry;") ∈ lw_all := lw_g (lw_at lw_m3 18 rfl) rfl
theorem q593 : (Jvm.Cond.fieldLink "java/util/LinkedHashMap$LinkedHashIterator" (36 : Nat) "java/util/LinkedHashMap$LinkedHashIterator" "current" "Ljava/util/LinkedHashMap$Entry;") ∈ lw_all := lw_g (lw_at lw_m3 19 rfl) rfl
theorem q594 : (Jvm.Cond.fieldLink "java/util/LinkedHashMap$LinkedHashIterator" (33 : Nat) "java/util/LinkedHashMap$LinkedHashIterator" "expectedModCount" "I") ∈ lw_all := lw_g (lw_at lw_m3 20 rfl) rfl
theorem q595 : (Jvm.Cond.fieldLink "java/util/LinkedHashMap$LinkedHashIterator" (13 : Nat) "java/util/LinkedHashMap$LinkedHashIterator" "reversed" "Z") ∈ lw_all := lw_g (lw_at lw_m3 21 rfl) rfl
theorem q596 : (Jvm.Cond.fieldLink "java/util/LinkedHashMap$LinkedHashIterator" (1 : Nat) "java/util/LinkedHashMap$LinkedHashIterator" "this$0" "Ljava/util/LinkedHashMap;") ∈ lw_all := lw_g (lw_at lw_m3 22 rfl) rfl
theorem q598 : (Jvm.Cond.soleField "java/util/LinkedHashMap$LinkedHashIterator" "next") ∈ lw_all := lw_g (lw_at lw_m3 24 rfl) rfl
theorem q600 : (Jvm.Cond.soleField "java/util/LinkedHashMap$LinkedHashIterator" "current") ∈ lw_all := lw_g (lw_at lw_m3 26 rfl) rfl
theorem q602 : (Jvm.Cond.soleField "java/util/LinkedHashMap$LinkedHashIterator" "expectedModCount") ∈ lw_all := lw_g (lw_at lw_m3 28 rfl) rfl
theorem q604 : (Jvm.Cond.soleField "java/util/LinkedHashMap$LinkedHashIterator" "reversed") ∈ lw_all := lw_g (lw_at lw_m3 30 rfl) rfl
theorem q606 : (Jvm.Cond.soleField "java/util/LinkedHashMap$LinkedHashIterator" "this$0") ∈ lw_all := lw_g (lw_at lw_m3 32 rfl) rfl
theorem q663 : (Jvm.Cond.instanceMethod ({ cls := "java/util/LinkedHashMap$LinkedHashIterator", name := "hasNext", desc := "()Z" } : Jvm.MethodName)) ∈ lw_all := lw_g (lw_at lw_m3 89 rfl) rfl
theorem q664 : (Jvm.Cond.publicMethod ({ cls := "java/util/LinkedHashMap$LinkedHashIterator", name := "hasNext", desc := "()Z" } : Jvm.MethodName)) ∈ lw_tbl := lw_at lw_m3 90 rfl
theorem q665 : (Jvm.Cond.code ({ cls := "java/util/LinkedHashMap$LinkedHashIterator", name := "hasNext", desc := "()Z" } : Jvm.MethodName) prog_70_method_2_code (1 : Nat) (Option.some Jvm.ClassFile.FieldType.boolean)) ∈ lw_all := lw_g (lw_at lw_m3 91 rfl) rfl
theorem q815 : (Jvm.Cond.declares ({ cls := "java/util/LinkedHashMap$LinkedHashIterator", name := "nextNode", desc := "()Ljava/util/LinkedHashMap$Entry;" } : Jvm.MethodName)) ∈ lw_tbl := lw_at lw_m4 1 rfl
theorem q817 : (Jvm.Cond.instanceMethod ({ cls := "java/util/LinkedHashMap$LinkedHashIterator", name := "nextNode", desc := "()Ljava/util/LinkedHashMap$Entry;" } : Jvm.MethodName)) ∈ lw_all := lw_g (lw_at lw_m4 3 rfl) rfl
theorem q818 : (Jvm.Cond.code ({ cls := "java/util/LinkedHashMap$LinkedHashIterator", name := "nextNode", desc := "()Ljava/util/LinkedHashMap$Entry;" } : Jvm.MethodName) prog_70_method_3_code (2 : Nat) (Option.some (Jvm.ClassFile.FieldType.object "java/util/LinkedHashMap$Entry"))) ∈ lw_all := lw_g (lw_at lw_m4 4 rfl) rfl
theorem q819 : (Jvm.Cond.classLink "java/util/LinkedHashMap$LinkedHashIterator" (42 : Nat) "java/util/NoSuchElementException") ∈ lw_all := lw_g (lw_at lw_m4 5 rfl) rfl
theorem q820 : (Jvm.Cond.methodLink "java/util/LinkedHashMap$LinkedHashIterator" (44 : Nat) ({ cls := "java/util/NoSuchElementException", name := "<init>", desc := "()V" } : Jvm.MethodName)) ∈ lw_all := lw_g (lw_at lw_m4 6 rfl) rfl
theorem q2095 : (Jvm.Cond.fieldLink "java/util/LinkedHashMap$LinkedHashIterator" (45 : Nat) "java/util/LinkedHashMap$Entry" "before" "Ljava/util/LinkedHashMap$Entry;") ∈ lw_all := lw_g (lw_at lw_m9 81 rfl) rfl
theorem q2097 : (Jvm.Cond.fieldLink "java/util/LinkedHashMap$LinkedHashIterator" (50 : Nat) "java/util/LinkedHashMap$Entry" "after" "Ljava/util/LinkedHashMap$Entry;") ∈ lw_all := lw_g (lw_at lw_m9 83 rfl) rfl

/-! java/util/LinkedHashMap$LinkedKeyIterator -/
def RJ21 : String := "java/util/LinkedHashMap$LinkedKeyIterator"
def TJ21 : u_T := fun k => match k with
  | 0 => ("java/util/LinkedHashMap$LinkedHashIterator", "next", "Ljava/util/LinkedHashMap$Entry;", false)
  | 1 => ("java/util/LinkedHashMap$LinkedHashIterator", "current", "Ljava/util/LinkedHashMap$Entry;", false)
  | 2 => ("java/util/LinkedHashMap$LinkedHashIterator", "expectedModCount", "I", false)
  | 3 => ("java/util/LinkedHashMap$LinkedHashIterator", "reversed", "Z", false)
  | _ => ("java/util/LinkedHashMap$LinkedHashIterator", "this$0", "Ljava/util/LinkedHashMap;", true)
def tyJ21 : Nat → FieldType := fun k => match k with
  | 0 => .object "java/util/LinkedHashMap$Entry"
  | 1 => .object "java/util/LinkedHashMap$Entry"
  | 2 => .int
  | 3 => .boolean
  | _ => .object "java/util/LinkedHashMap"
abbrev wsJ210 : List Cond := u_ws RJ21 TJ21 5
theorem nmJ21 : ∀ a, a < 5 → ∀ b, b < 5 → a ≠ b → (TJ21 a).2.1 ≠ (TJ21 b).2.1 := by decide +kernel
theorem tyJ21_ok : ∀ k, k < 5 → parseFieldDescriptor (TJ21 k).2.2.1 = some (tyJ21 k) := by decide +kernel
abbrev cJ21_init : ByteArray := prog_71_method_1_code
def yJ21_init : MethodName := ⟨RJ21, "<init>", "(Ljava/util/LinkedHashMap;Z)V"⟩
abbrev cJ21_next : ByteArray := prog_71_method_2_code
def yJ21_next : MethodName := ⟨RJ21, "next", "()Ljava/lang/Object;"⟩
theorem q118 : (Jvm.Cond.initialized "java/util/LinkedHashMap$LinkedKeyIterator") ∈ lw_all := lw_g (lw_at lw_m1 24 rfl) rfl
theorem q584 : (Jvm.Cond.instantiable "java/util/LinkedHashMap$LinkedKeyIterator" (5 : Nat)) ∈ lw_all := lw_g (lw_at lw_m3 10 rfl) rfl
theorem q586 : (Jvm.Cond.instanceMethod ({ cls := "java/util/LinkedHashMap$LinkedKeyIterator", name := "<init>", desc := "(Ljava/util/LinkedHashMap;Z)V" } : Jvm.MethodName)) ∈ lw_all := lw_g (lw_at lw_m3 12 rfl) rfl
theorem q587 : (Jvm.Cond.code ({ cls := "java/util/LinkedHashMap$LinkedKeyIterator", name := "<init>", desc := "(Ljava/util/LinkedHashMap;Z)V" } : Jvm.MethodName) prog_71_method_1_code (3 : Nat) (Option.none : Option Jvm.ClassFile.FieldType)) ∈ lw_all := lw_g (lw_at lw_m3 13 rfl) rfl
theorem q588 : (Jvm.Cond.methodLink "java/util/LinkedHashMap$LinkedKeyIterator" (1 : Nat) ({ cls := "java/util/LinkedHashMap$LinkedHashIterator", name := "<init>", desc := "(Ljava/util/LinkedHashMap;Z)V" } : Jvm.MethodName)) ∈ lw_all := lw_g (lw_at lw_m3 14 rfl) rfl
theorem q597 : (Jvm.Cond.lays "java/util/LinkedHashMap$LinkedKeyIterator" "java/util/LinkedHashMap$LinkedHashIterator" "next" "Ljava/util/LinkedHashMap$Entry;") ∈ lw_all := lw_g (lw_at lw_m3 23 rfl) rfl
theorem q599 : (Jvm.Cond.lays "java/util/LinkedHashMap$LinkedKeyIterator" "java/util/LinkedHashMap$LinkedHashIterator" "current" "Ljava/util/LinkedHashMap$Entry;") ∈ lw_all := lw_g (lw_at lw_m3 25 rfl) rfl
theorem q601 : (Jvm.Cond.lays "java/util/LinkedHashMap$LinkedKeyIterator" "java/util/LinkedHashMap$LinkedHashIterator" "expectedModCount" "I") ∈ lw_all := lw_g (lw_at lw_m3 27 rfl) rfl
theorem q603 : (Jvm.Cond.lays "java/util/LinkedHashMap$LinkedKeyIterator" "java/util/LinkedHashMap$LinkedHashIterator" "reversed" "Z") ∈ lw_all := lw_g (lw_at lw_m3 29 rfl) rfl
theorem q605 : (Jvm.Cond.laysFinal "java/util/LinkedHashMap$LinkedKeyIterator" "java/util/LinkedHashMap$LinkedHashIterator" "this$0" "Ljava/util/LinkedHashMap;") ∈ lw_all := lw_g (lw_at lw_m3 31 rfl) rfl
theorem q607 : (Jvm.Cond.superclass "java/util/LinkedHashMap$LinkedKeyIterator" "java/util/LinkedHashMap$LinkedHashIterator") ∈ lw_all := lw_g (lw_at lw_m3 33 rfl) rfl
theorem q660 : (Jvm.Cond.castable "java/util/LinkedHashMap$LinkedKeyIterator" "java/util/Iterator") ∈ lw_tbl := lw_at lw_m3 86 rfl
theorem q661 : (Jvm.Cond.selects "java/util/LinkedHashMap$LinkedKeyIterator" ({ cls := "java/util/Iterator", name := "hasNext", desc := "()Z" } : Jvm.MethodName) ({ cls := "java/util/LinkedHashMap$LinkedHashIterator", name := "hasNext", desc := "()Z" } : Jvm.MethodName)) ∈ lw_all := lw_g (lw_at lw_m3 87 rfl) rfl
theorem q662 : (Jvm.Cond.unhidden "java/util/LinkedHashMap$LinkedKeyIterator" "hasNext" "()Z") ∈ lw_tbl := lw_at lw_m3 88 rfl
theorem q808 : (Jvm.Cond.selects "java/util/LinkedHashMap$LinkedKeyIterator" ({ cls := "java/util/Iterator", name := "next", desc := "()Ljava/lang/Object;" } : Jvm.MethodName) ({ cls := "java/util/LinkedHashMap$LinkedKeyIterator", name := "next", desc := "()Ljava/lang/Object;" } : Jvm.MethodName)) ∈ lw_all := lw_g (lw_at lw_m3 234 rfl) rfl
theorem q809 : (Jvm.Cond.unhidden "java/util/LinkedHashMap$LinkedKeyIterator" "next" "()Ljava/lang/Object;") ∈ lw_tbl := lw_at lw_m3 235 rfl
theorem q810 : (Jvm.Cond.instanceMethod ({ cls := "java/util/LinkedHashMap$LinkedKeyIterator", name := "next", desc := "()Ljava/lang/Object;" } : Jvm.MethodName)) ∈ lw_all := lw_g (lw_at lw_m3 236 rfl) rfl
theorem q811 : (Jvm.Cond.publicMethod ({ cls := "java/util/LinkedHashMap$LinkedKeyIterator", name := "next", desc := "()Ljava/lang/Object;" } : Jvm.MethodName)) ∈ lw_tbl := lw_at lw_m3 237 rfl
theorem q812 : (Jvm.Cond.code ({ cls := "java/util/LinkedHashMap$LinkedKeyIterator", name := "next", desc := "()Ljava/lang/Object;" } : Jvm.MethodName) prog_71_method_2_code (1 : Nat) (Option.some (Jvm.ClassFile.FieldType.object "java/lang/Object"))) ∈ lw_all := lw_g (lw_at lw_m3 238 rfl) rfl
theorem q813 : (Jvm.Cond.methodLink "java/util/LinkedHashMap$LinkedKeyIterator" (7 : Nat) ({ cls := "java/util/LinkedHashMap$LinkedKeyIterator", name := "nextNode", desc := "()Ljava/util/LinkedHashMap$Entry;" } : Jvm.MethodName)) ∈ lw_all := lw_g (lw_at lw_m3 239 rfl) rfl
theorem q814 : (Jvm.Cond.sameMethod "java/util/LinkedHashMap$LinkedKeyIterator" "java/util/LinkedHashMap$LinkedHashIterator" "nextNode" "()Ljava/util/LinkedHashMap$Entry;") ∈ lw_all := lw_g (lw_at lw_m4 0 rfl) rfl
theorem q816 : (Jvm.Cond.selects "java/util/LinkedHashMap$LinkedKeyIterator" ({ cls := "java/util/LinkedHashMap$LinkedKeyIterator", name := "nextNode", desc := "()Ljava/util/LinkedHashMap$Entry;" } : Jvm.MethodName) ({ cls := "java/util/LinkedHashMap$LinkedHashIterator", name := "nextNode", desc := "()Ljava/util/LinkedHashMap$Entry;" } : Jvm.MethodName)) ∈ lw_all := lw_g (lw_at lw_m4 2 rfl) rfl
theorem q821 : (Jvm.Cond.methodLink "java/util/LinkedHashMap$LinkedKeyIterator" (13 : Nat) ({ cls := "java/util/LinkedHashMap$Entry", name := "getKey", desc := "()Ljava/lang/Object;" } : Jvm.MethodName)) ∈ lw_all := lw_g (lw_at lw_m4 7 rfl) rfl
theorem q1272 : (Jvm.Cond.selects "java/util/LinkedHashMap$LinkedKeyIterator" ({ cls := "java/lang/Object", name := "getClass", desc := "()Ljava/lang/Class;" } : Jvm.MethodName) ({ cls := "java/lang/Object", name := "getClass", desc := "()Ljava/lang/Class;" } : Jvm.MethodName)) ∈ lw_all := lw_g (lw_at lw_m5 218 rfl) rfl
theorem q3810 : (Jvm.Cond.castable "java/util/LinkedHashMap$LinkedKeyIterator" "java/lang/Object") ∈ lw_tbl := lw_at lw_m16 116 rfl
theorem in_J21 : ∀ w ∈ wsJ210, w ∈ lw_all := lw_in wsJ210 [597, 599, 601, 603, 605] (by decide +kernel) (by decide +kernel)

/-! java/util/LinkedHashMap$LinkedValueIterator -/
def RJ22 : String := "java/util/LinkedHashMap$LinkedValueIterator"
def TJ22 : u_T := fun k => match k with
  | 0 => ("java/util/LinkedHashMap$LinkedHashIterator", "next", "Ljava/util/LinkedHashMap$Entry;", false)
  | 1 => ("java/util/LinkedHashMap$LinkedHashIterator", "current", "Ljava/util/LinkedHashMap$Entry;", false)
  | 2 => ("java/util/LinkedHashMap$LinkedHashIterator", "expectedModCount", "I", false)
  | 3 => ("java/util/LinkedHashMap$LinkedHashIterator", "reversed", "Z", false)
  | _ => ("java/util/LinkedHashMap$LinkedHashIterator", "this$0", "Ljava/util/LinkedHashMap;", true)
def tyJ22 : Nat → FieldType := fun k => match k with
  | 0 => .object "java/util/LinkedHashMap$Entry"
  | 1 => .object "java/util/LinkedHashMap$Entry"
  | 2 => .int
  | 3 => .boolean
  | _ => .object "java/util/LinkedHashMap"
abbrev wsJ220 : List Cond := u_ws RJ22 TJ22 5
theorem nmJ22 : ∀ a, a < 5 → ∀ b, b < 5 → a ≠ b → (TJ22 a).2.1 ≠ (TJ22 b).2.1 := by decide +kernel
theorem tyJ22_ok : ∀ k, k < 5 → parseFieldDescriptor (TJ22 k).2.2.1 = some (tyJ22 k) := by decide +kernel
abbrev cJ22_init : ByteArray := prog_73_method_1_code
def yJ22_init : MethodName := ⟨RJ22, "<init>", "(Ljava/util/LinkedHashMap;Z)V"⟩
abbrev cJ22_next : ByteArray := prog_73_method_2_code
def yJ22_next : MethodName := ⟨RJ22, "next", "()Ljava/lang/Object;"⟩
theorem q119 : (Jvm.Cond.initialized "java/util/LinkedHashMap$LinkedValueIterator") ∈ lw_all := lw_g (lw_at lw_m1 25 rfl) rfl
theorem q617 : (Jvm.Cond.instantiable "java/util/LinkedHashMap$LinkedValueIterator" (5 : Nat)) ∈ lw_all := lw_g (lw_at lw_m3 43 rfl) rfl
theorem q619 : (Jvm.Cond.instanceMethod ({ cls := "java/util/LinkedHashMap$LinkedValueIterator", name := "<init>", desc := "(Ljava/util/LinkedHashMap;Z)V" } : Jvm.MethodName)) ∈ lw_all := lw_g (lw_at lw_m3 45 rfl) rfl
theorem q620 : (Jvm.Cond.code ({ cls := "java/util/LinkedHashMap$LinkedValueIterator", name := "<init>", desc := "(Ljava/util/LinkedHashMap;Z)V" } : Jvm.MethodName) prog_73_method_1_code (3 : Nat) (Option.none : Option Jvm.ClassFile.FieldType)) ∈ lw_all := lw_g (lw_at lw_m3 46 rfl) rfl
theorem q621 : (Jvm.Cond.methodLink "java/util/LinkedHashMap$LinkedValueIterator" (1 : Nat) ({ cls := "java/util/LinkedHashMap$LinkedHashIterator", name := "<init>", desc := "(Ljava/util/LinkedHashMap;Z)V" } : Jvm.MethodName)) ∈ lw_all := lw_g (lw_at lw_m3 47 rfl) rfl
theorem q622 : (Jvm.Cond.lays "java/util/LinkedHashMap$LinkedValueIterator" "java/util/LinkedHashMap$LinkedHashIterator" "next" "Ljava/util/LinkedHashMap$Entry;") ∈ lw_all := lw_g (lw_at lw_m3 48 rfl) rfl
theorem q623 : (Jvm.Cond.lays "java/util/LinkedHashMap$LinkedValueIterator" "java/util/LinkedHashMap$LinkedHashIterator" "current" "Ljava/util/LinkedHashMap$Entry;") ∈ lw_all := lw_g (lw_at lw_m3 49 rfl) rfl
theorem q624 : (Jvm.Cond.lays "java/util/LinkedHashMap$LinkedValueIterator" "java/util/LinkedHashMap$LinkedHashIterator" "expectedModCount" "I") ∈ lw_all := lw_g (lw_at lw_m3 50 rfl) rfl
theorem q625 : (Jvm.Cond.lays "java/util/LinkedHashMap$LinkedValueIterator" "java/util/LinkedHashMap$LinkedHashIterator" "reversed" "Z") ∈ lw_all := lw_g (lw_at lw_m3 51 rfl) rfl
theorem q626 : (Jvm.Cond.laysFinal "java/util/LinkedHashMap$LinkedValueIterator" "java/util/LinkedHashMap$LinkedHashIterator" "this$0" "Ljava/util/LinkedHashMap;") ∈ lw_all := lw_g (lw_at lw_m3 52 rfl) rfl
theorem q627 : (Jvm.Cond.superclass "java/util/LinkedHashMap$LinkedValueIterator" "java/util/LinkedHashMap$LinkedHashIterator") ∈ lw_all := lw_g (lw_at lw_m3 53 rfl) rfl
theorem q666 : (Jvm.Cond.castable "java/util/LinkedHashMap$LinkedValueIterator" "java/util/Iterator") ∈ lw_tbl := lw_at lw_m3 92 rfl
theorem q667 : (Jvm.Cond.selects "java/util/LinkedHashMap$LinkedValueIterator" ({ cls := "java/util/Iterator", name := "hasNext", desc := "()Z" } : Jvm.MethodName) ({ cls := "java/util/LinkedHashMap$LinkedHashIterator", name := "hasNext", desc := "()Z" } : Jvm.MethodName)) ∈ lw_all := lw_g (lw_at lw_m3 93 rfl) rfl
theorem q668 : (Jvm.Cond.unhidden "java/util/LinkedHashMap$LinkedValueIterator" "hasNext" "()Z") ∈ lw_tbl := lw_at lw_m3 94 rfl
theorem q828 : (Jvm.Cond.selects "java/util/LinkedHashMap$LinkedValueIterator" ({ cls := "java/util/Iterator", name := "next", desc := "()Ljava/lang/Object;" } : Jvm.MethodName) ({ cls := "java/util/LinkedHashMap$LinkedValueIterator", name := "next", desc := "()Ljava/lang/Object;" } : Jvm.MethodName)) ∈ lw_all := lw_g (lw_at lw_m4 14 rfl) rfl
theorem q829 : (Jvm.Cond.unhidden "java/util/LinkedHashMap$LinkedValueIterator" "next" "()Ljava/lang/Object;") ∈ lw_tbl := lw_at lw_m4 15 rfl
theorem q830 : (Jvm.Cond.instanceMethod ({ cls := "java/util/LinkedHashMap$LinkedValueIterator", name := "next", desc := "()Ljava/lang/Object;" } : Jvm.MethodName)) ∈ lw_all := lw_g (lw_at lw_m4 16 rfl) rfl
theorem q831 : (Jvm.Cond.publicMethod ({ cls := "java/util/LinkedHashMap$LinkedValueIterator", name := "next", desc := "()Ljava/lang/Object;" } : Jvm.MethodName)) ∈ lw_tbl := lw_at lw_m4 17 rfl
theorem q832 : (Jvm.Cond.code ({ cls := "java/util/LinkedHashMap$LinkedValueIterator", name := "next", desc := "()Ljava/lang/Object;" } : Jvm.MethodName) prog_73_method_2_code (1 : Nat) (Option.some (Jvm.ClassFile.FieldType.object "java/lang/Object"))) ∈ lw_all := lw_g (lw_at lw_m4 18 rfl) rfl
theorem q833 : (Jvm.Cond.methodLink "java/util/LinkedHashMap$LinkedValueIterator" (7 : Nat) ({ cls := "java/util/LinkedHashMap$LinkedValueIterator", name := "nextNode", desc := "()Ljava/util/LinkedHashMap$Entry;" } : Jvm.MethodName)) ∈ lw_all := lw_g (lw_at lw_m4 19 rfl) rfl
theorem q834 : (Jvm.Cond.sameMethod "java/util/LinkedHashMap$LinkedValueIterator" "java/util/LinkedHashMap$LinkedHashIterator" "nextNode" "()Ljava/util/LinkedHashMap$Entry;") ∈ lw_all := lw_g (lw_at lw_m4 20 rfl) rfl
theorem q835 : (Jvm.Cond.selects "java/util/LinkedHashMap$LinkedValueIterator" ({ cls := "java/util/LinkedHashMap$LinkedValueIterator", name := "nextNode", desc := "()Ljava/util/LinkedHashMap$Entry;" } : Jvm.MethodName) ({ cls := "java/util/LinkedHashMap$LinkedHashIterator", name := "nextNode", desc := "()Ljava/util/LinkedHashMap$Entry;" } : Jvm.MethodName)) ∈ lw_all := lw_g (lw_at lw_m4 21 rfl) rfl
theorem q1274 : (Jvm.Cond.selects "java/util/LinkedHashMap$LinkedValueIterator" ({ cls := "java/lang/Object", name := "getClass", desc := "()Ljava/lang/Class;" } : Jvm.MethodName) ({ cls := "java/lang/Object", name := "getClass", desc := "()Ljava/lang/Class;" } : Jvm.MethodName)) ∈ lw_all := lw_g (lw_at lw_m5 220 rfl) rfl
theorem q2112 : (Jvm.Cond.fieldLink "java/util/LinkedHashMap$LinkedValueIterator" (13 : Nat) "java/util/LinkedHashMap$Entry" "value" "Ljava/lang/Object;") ∈ lw_all := lw_g (lw_at lw_m9 98 rfl) rfl
theorem q3811 : (Jvm.Cond.castable "java/util/LinkedHashMap$LinkedValueIterator" "java/lang/Object") ∈ lw_tbl := lw_at lw_m16 117 rfl
theorem in_J22 : ∀ w ∈ wsJ220, w ∈ lw_all := lw_in wsJ220 [622, 623, 624, 625, 626] (by decide +kernel) (by decide +kernel)

/-! java/lang/Number -/
def RJ23 : String := "java/lang/Number"
abbrev cJ23_init : ByteArray := prog_35_method_1_code
def yJ23_init : MethodName := ⟨RJ23, "<init>", "()V"⟩
theorem q120 : (Jvm.Cond.initialized "java/lang/Number") ∈ lw_all := lw_g (lw_at lw_m1 26 rfl) rfl
theorem q695 : (Jvm.Cond.instanceMethod ({ cls := "java/lang/Number", name := "<init>", desc := "()V" } : Jvm.MethodName)) ∈ lw_all := lw_g (lw_at lw_m3 121 rfl) rfl
theorem q696 : (Jvm.Cond.code ({ cls := "java/lang/Number", name := "<init>", desc := "()V" } : Jvm.MethodName) prog_35_method_1_code (1 : Nat) (Option.none : Option Jvm.ClassFile.FieldType)) ∈ lw_all := lw_g (lw_at lw_m3 122 rfl) rfl
theorem q697 : (Jvm.Cond.methodLink "java/lang/Number" (1 : Nat) ({ cls := "java/lang/Object", name := "<init>", desc := "()V" } : Jvm.MethodName)) ∈ lw_all := lw_g (lw_at lw_m3 123 rfl) rfl

/-! java/lang/Integer -/
def RJ24 : String := "java/lang/Integer"
def TJ24 : u_T := fun k => match k with
  | _ => ("java/lang/Integer", "value", "I", true)
def tyJ24 : Nat → FieldType := fun k => match k with
  | _ => .int
abbrev wsJ240 : List Cond := u_ws RJ24 TJ24 1
theorem nmJ24 : ∀ a, a < 1 → ∀ b, b < 1 → a ≠ b → (TJ24 a).2.1 ≠ (TJ24 b).2.1 := by decide +kernel
theorem tyJ24_ok : ∀ k, k < 1 → parseFieldDescriptor (TJ24 k).2.2.1 = some (tyJ24 k) := by decide +kernel
abbrev cJ24_valueOf : ByteArray := prog_30_method_22_code
def yJ24_valueOf : MethodName := ⟨RJ24, "valueOf", "(I)Ljava/lang/Integer;"⟩
abbrev cJ24_init : ByteArray := prog_30_method_23_code
def yJ24_init : MethodName := ⟨RJ24, "<init>", "(I)V"⟩
abbrev cJ24_stringSize : ByteArray := prog_30_method_13_code
def yJ24_stringSize : MethodName := ⟨RJ24, "stringSize", "(I)I"⟩
abbrev cJ24_getChars : ByteArray := prog_30_method_12_code
def yJ24_getChars : MethodName := ⟨RJ24, "getChars", "(II[B)I"⟩
abbrev cJ24_numberOfTrailingZeros : ByteArray := prog_30_method_48_code
def yJ24_numberOfTrailingZeros : MethodName := ⟨RJ24, "numberOfTrailingZeros", "(I)I"⟩
abbrev cJ24_bitCount : ByteArray := prog_30_method_49_code
def yJ24_bitCount : MethodName := ⟨RJ24, "bitCount", "(I)I"⟩
abbrev cJ24_hashCode : ByteArray := prog_30_method_32_code
def yJ24_hashCode : MethodName := ⟨RJ24, "hashCode", "()I"⟩
abbrev cJ24_hashCode_2 : ByteArray := prog_30_method_33_code
def yJ24_hashCode_2 : MethodName := ⟨RJ24, "hashCode", "(I)I"⟩
abbrev cJ24_equals : ByteArray := prog_30_method_34_code
def yJ24_equals : MethodName := ⟨RJ24, "equals", "(Ljava/lang/Object;)Z"⟩
abbrev cJ24_intValue : ByteArray := prog_30_method_27_code
def yJ24_intValue : MethodName := ⟨RJ24, "intValue", "()I"⟩
abbrev cJ24_compareTo : ByteArray := prog_30_method_63_code
def yJ24_compareTo : MethodName := ⟨RJ24, "compareTo", "(Ljava/lang/Object;)I"⟩
abbrev cJ24_compareTo_2 : ByteArray := prog_30_method_39_code
def yJ24_compareTo_2 : MethodName := ⟨RJ24, "compareTo", "(Ljava/lang/Integer;)I"⟩
abbrev cJ24_compare : ByteArray := prog_30_method_40_code
def yJ24_compare : MethodName := ⟨RJ24, "compare", "(II)I"⟩
abbrev cJ24_numberOfLeadingZeros : ByteArray := prog_30_method_47_code
def yJ24_numberOfLeadingZeros : MethodName := ⟨RJ24, "numberOfLeadingZeros", "(I)I"⟩
theorem q121 : (Jvm.Cond.initialized "java/lang/Integer") ∈ lw_all := lw_g (lw_at lw_m1 27 rfl) rfl
theorem q683 : (Jvm.Cond.static ({ cls := "java/lang/Integer", name := "valueOf", desc := "(I)Ljava/lang/Integer;" } : Jvm.MethodName)) ∈ lw_all := lw_g (lw_at lw_m3 109 rfl) rfl
theorem q684 : (Jvm.Cond.code ({ cls := "java/lang/Integer", name := "valueOf", desc := "(I)Ljava/lang/Integer;" } : Jvm.MethodName) prog_30_method_22_code (1 : Nat) (Option.some (Jvm.ClassFile.FieldType.object "java/lang/Integer"))) ∈ lw_all := lw_g (lw_at lw_m3 110 rfl) rfl
theorem q685 : (Jvm.Cond.fieldLink "java/lang/Integer" (191 : Nat) "java/lang/Integer$IntegerCache" "high" "I") ∈ lw_all := lw_g (lw_at lw_m3 111 rfl) rfl
theorem q687 : (Jvm.Cond.fieldLink "java/lang/Integer" (195 : Nat) "java/lang/Integer$IntegerCache" "cache" "[Ljava/lang/Integer;") ∈ lw_all := lw_g (lw_at lw_m3 113 rfl) rfl
theorem q689 : (Jvm.Cond.classLink "java/lang/Integer" (1 : Nat) "java/lang/Integer") ∈ lw_all := lw_g (lw_at lw_m3 115 rfl) rfl
theorem q690 : (Jvm.Cond.instantiable "java/lang/Integer" (1 : Nat)) ∈ lw_all := lw_g (lw_at lw_m3 116 rfl) rfl
theorem q691 : (Jvm.Cond.methodLink "java/lang/Integer" (199 : Nat) ({ cls := "java/lang/Integer", name := "<init>", desc := "(I)V" } : Jvm.MethodName)) ∈ lw_all := lw_g (lw_at lw_m3 117 rfl) rfl
theorem q692 : (Jvm.Cond.instanceMethod ({ cls := "java/lang/Integer", name := "<init>", desc := "(I)V" } : Jvm.MethodName)) ∈ lw_all := lw_g (lw_at lw_m3 118 rfl) rfl
theorem q693 : (Jvm.Cond.code ({ cls := "java/lang/Integer", name := "<init>", desc := "(I)V" } : Jvm.MethodName) prog_30_method_23_code (2 : Nat) (Option.none : Option Jvm.ClassFile.FieldType)) ∈ lw_all := lw_g (lw_at lw_m3 119 rfl) rfl
theorem q694 : (Jvm.Cond.methodLink "java/lang/Integer" (202 : Nat) ({ cls := "java/lang/Number", name := "<init>", desc := "()V" } : Jvm.MethodName)) ∈ lw_all := lw_g (lw_at lw_m3 120 rfl) rfl
theorem q698 : (Jvm.Cond.fieldLink "java/lang/Integer" (205 : Nat) "java/lang/Integer" "value" "I") ∈ lw_all := lw_g (lw_at lw_m3 124 rfl) rfl
theorem q699 : (Jvm.Cond.laysFinal "java/lang/Integer" "java/lang/Integer" "value" "I") ∈ lw_all := lw_g (lw_at lw_m3 125 rfl) rfl
theorem q700 : (Jvm.Cond.soleField "java/lang/Integer" "value") ∈ lw_all := lw_g (lw_at lw_m3 126 rfl) rfl
theorem q701 : (Jvm.Cond.superclass "java/lang/Integer" "java/lang/Number") ∈ lw_all := lw_g (lw_at lw_m3 127 rfl) rfl
theorem q984 : (Jvm.Cond.static ({ cls := "java/lang/Integer", name := "stringSize", desc := "(I)I" } : Jvm.MethodName)) ∈ lw_all := lw_g (lw_at lw_m4 170 rfl) rfl
theorem q985 : (Jvm.Cond.code ({ cls := "java/lang/Integer", name := "stringSize", desc := "(I)I" } : Jvm.MethodName) prog_30_method_13_code (4 : Nat) (Option.some Jvm.ClassFile.FieldType.int)) ∈ lw_all := lw_g (lw_at lw_m4 171 rfl) rfl
theorem q987 : (Jvm.Cond.static ({ cls := "java/lang/Integer", name := "getChars", desc := "(II[B)I" } : Jvm.MethodName)) ∈ lw_all := lw_g (lw_at lw_m4 173 rfl) rfl
theorem q988 : (Jvm.Cond.code ({ cls := "java/lang/Integer", name := "getChars", desc := "(II[B)I" } : Jvm.MethodName) prog_30_method_12_code (7 : Nat) (Option.some Jvm.ClassFile.FieldType.int)) ∈ lw_all := lw_g (lw_at lw_m4 174 rfl) rfl
theorem q989 : (Jvm.Cond.fieldLink "java/lang/Integer" (83 : Nat) "java/lang/Integer" "DigitOnes" "[B") ∈ lw_all := lw_g (lw_at lw_m4 175 rfl) rfl
theorem q990 : (Jvm.Cond.laysStatic "java/lang/Integer" "DigitOnes" "[B") ∈ lw_tbl := lw_at lw_m4 176 rfl
theorem q991 : (Jvm.Cond.fieldLink "java/lang/Integer" (87 : Nat) "java/lang/Integer" "DigitTens" "[B") ∈ lw_all := lw_g (lw_at lw_m4 177 rfl) rfl
theorem q992 : (Jvm.Cond.laysStatic "java/lang/Integer" "DigitTens" "[B") ∈ lw_tbl := lw_at lw_m4 178 rfl
theorem q1133 : (Jvm.Cond.static ({ cls := "java/lang/Integer", name := "numberOfTrailingZeros", desc := "(I)I" } : Jvm.MethodName)) ∈ lw_all := lw_g (lw_at lw_m5 79 rfl) rfl
theorem q1134 : (Jvm.Cond.code ({ cls := "java/lang/Integer", name := "numberOfTrailingZeros", desc := "(I)I" } : Jvm.MethodName) prog_30_method_48_code (2 : Nat) (Option.some Jvm.ClassFile.FieldType.int)) ∈ lw_all := lw_g (lw_at lw_m5 80 rfl) rfl
theorem q1135 : (Jvm.Cond.constant "java/lang/Integer" (264 : Nat) (65536 : Int32)) ∈ lw_all := lw_g (lw_at lw_m5 81 rfl) rfl
theorem q1253 : (Jvm.Cond.selects "java/lang/Integer" ({ cls := "java/lang/Object", name := "getClass", desc := "()Ljava/lang/Class;" } : Jvm.MethodName) ({ cls := "java/lang/Object", name := "getClass", desc := "()Ljava/lang/Class;" } : Jvm.MethodName)) ∈ lw_all := lw_g (lw_at lw_m5 199 rfl) rfl
theorem q1375 : (Jvm.Cond.static ({ cls := "java/lang/Integer", name := "bitCount", desc := "(I)I" } : Jvm.MethodName)) ∈ lw_all := lw_g (lw_at lw_m6 81 rfl) rfl
theorem q1376 : (Jvm.Cond.code ({ cls := "java/lang/Integer", name := "bitCount", desc := "(I)I" } : Jvm.MethodName) prog_30_method_49_code (1 : Nat) (Option.some Jvm.ClassFile.FieldType.int)) ∈ lw_all := lw_g (lw_at lw_m6 82 rfl) rfl
theorem q1377 : (Jvm.Cond.constant "java/lang/Integer" (265 : Nat) (1431655765 : Int32)) ∈ lw_all := lw_g (lw_at lw_m6 83 rfl) rfl
theorem q1378 : (Jvm.Cond.constant "java/lang/Integer" (266 : Nat) (858993459 : Int32)) ∈ lw_all := lw_g (lw_at lw_m6 84 rfl) rfl
theorem q1379 : (Jvm.Cond.constant "java/lang/Integer" (267 : Nat) (252645135 : Int32)) ∈ lw_all := lw_g (lw_at lw_m6 85 rfl) rfl
theorem q1578 : (Jvm.Cond.selects "java/lang/Integer" ({ cls := "java/lang/Object", name := "hashCode", desc := "()I" } : Jvm.MethodName) ({ cls := "java/lang/Integer", name := "hashCode", desc := "()I" } : Jvm.MethodName)) ∈ lw_all := lw_g (lw_at lw_m7 44 rfl) rfl
theorem q1579 : (Jvm.Cond.instanceMethod ({ cls := "java/lang/Integer", name := "hashCode", desc := "()I" } : Jvm.MethodName)) ∈ lw_all := lw_g (lw_at lw_m7 45 rfl) rfl
theorem q1580 : (Jvm.Cond.code ({ cls := "java/lang/Integer", name := "hashCode", desc := "()I" } : Jvm.MethodName) prog_30_method_32_code (1 : Nat) (Option.some Jvm.ClassFile.FieldType.int)) ∈ lw_all := lw_g (lw_at lw_m7 46 rfl) rfl
theorem q1581 : (Jvm.Cond.methodLink "java/lang/Integer" (208 : Nat) ({ cls := "java/lang/Integer", name := "hashCode", desc := "(I)I" } : Jvm.MethodName)) ∈ lw_all := lw_g (lw_at lw_m7 47 rfl) rfl
theorem q1582 : (Jvm.Cond.static ({ cls := "java/lang/Integer", name := "hashCode", desc := "(I)I" } : Jvm.MethodName)) ∈ lw_all := lw_g (lw_at lw_m7 48 rfl) rfl
theorem q1583 : (Jvm.Cond.code ({ cls := "java/lang/Integer", name := "hashCode", desc := "(I)I" } : Jvm.MethodName) prog_30_method_33_code (1 : Nat) (Option.some Jvm.ClassFile.FieldType.int)) ∈ lw_all := lw_g (lw_at lw_m7 49 rfl) rfl
theorem q1674 : (Jvm.Cond.selects "java/lang/Integer" ({ cls := "java/lang/Object", name := "equals", desc := "(Ljava/lang/Object;)Z" } : Jvm.MethodName) ({ cls := "java/lang/Integer", name := "equals", desc := "(Ljava/lang/Object;)Z" } : Jvm.MethodName)) ∈ lw_all := lw_g (lw_at lw_m7 140 rfl) rfl
theorem q1675 : (Jvm.Cond.instanceMethod ({ cls := "java/lang/Integer", name := "equals", desc := "(Ljava/lang/Object;)Z" } : Jvm.MethodName)) ∈ lw_all := lw_g (lw_at lw_m7 141 rfl) rfl
theorem q1676 : (Jvm.Cond.code ({ cls := "java/lang/Integer", name := "equals", desc := "(Ljava/lang/Object;)Z" } : Jvm.MethodName) prog_30_method_34_code (2 : Nat) (Option.some Jvm.ClassFile.FieldType.boolean)) ∈ lw_all := lw_g (lw_at lw_m7 142 rfl) rfl
theorem q1677 : (Jvm.Cond.methodLink "java/lang/Integer" (211 : Nat) ({ cls := "java/lang/Integer", name := "intValue", desc := "()I" } : Jvm.MethodName)) ∈ lw_all := lw_g (lw_at lw_m7 143 rfl) rfl
theorem q1678 : (Jvm.Cond.instanceMethod ({ cls := "java/lang/Integer", name := "intValue", desc := "()I" } : Jvm.MethodName)) ∈ lw_all := lw_g (lw_at lw_m7 144 rfl) rfl
theorem q1679 : (Jvm.Cond.selects "java/lang/Integer" ({ cls := "java/lang/Integer", name := "intValue", desc := "()I" } : Jvm.MethodName) ({ cls := "java/lang/Integer", name := "intValue", desc := "()I" } : Jvm.MethodName)) ∈ lw_all := lw_g (lw_at lw_m7 145 rfl) rfl
theorem q1680 : (Jvm.Cond.code ({ cls := "java/lang/Integer", name := "intValue", desc := "()I" } : Jvm.MethodName) prog_30_method_27_code (1 : Nat) (Option.some Jvm.ClassFile.FieldType.int)) ∈ lw_all := lw_g (lw_at lw_m7 146 rfl) rfl
theorem q1721 : (Jvm.Cond.castable "java/lang/Integer" "java/lang/Comparable") ∈ lw_tbl := lw_at lw_m7 187 rfl
theorem q1722 : (Jvm.Cond.selects "java/lang/Integer" ({ cls := "java/lang/Comparable", name := "compareTo", desc := "(Ljava/lang/Object;)I" } : Jvm.MethodName) ({ cls := "java/lang/Integer", name := "compareTo", desc := "(Ljava/lang/Object;)I" } : Jvm.MethodName)) ∈ lw_all := lw_g (lw_at lw_m7 188 rfl) rfl
theorem q1723 : (Jvm.Cond.unhidden "java/lang/Integer" "compareTo" "(Ljava/lang/Object;)I") ∈ lw_tbl := lw_at lw_m7 189 rfl
theorem q1724 : (Jvm.Cond.instanceMethod ({ cls := "java/lang/Integer", name := "compareTo", desc := "(Ljava/lang/Object;)I" } : Jvm.MethodName)) ∈ lw_all := lw_g (lw_at lw_m7 190 rfl) rfl
theorem q1725 : (Jvm.Cond.publicMethod ({ cls := "java/lang/Integer", name := "compareTo", desc := "(Ljava/lang/Object;)I" } : Jvm.MethodName)) ∈ lw_tbl := lw_at lw_m7 191 rfl
theorem q1726 : (Jvm.Cond.code ({ cls := "java/lang/Integer", name := "compareTo", desc := "(Ljava/lang/Object;)I" } : Jvm.MethodName) prog_30_method_63_code (2 : Nat) (Option.some Jvm.ClassFile.FieldType.int)) ∈ lw_all := lw_g (lw_at lw_m7 192 rfl) rfl
theorem q1727 : (Jvm.Cond.methodLink "java/lang/Integer" (284 : Nat) ({ cls := "java/lang/Integer", name := "compareTo", desc := "(Ljava/lang/Integer;)I" } : Jvm.MethodName)) ∈ lw_all := lw_g (lw_at lw_m7 193 rfl) rfl
theorem q1728 : (Jvm.Cond.instanceMethod ({ cls := "java/lang/Integer", name := "compareTo", desc := "(Ljava/lang/Integer;)I" } : Jvm.MethodName)) ∈ lw_all := lw_g (lw_at lw_m7 194 rfl) rfl
theorem q1729 : (Jvm.Cond.selects "java/lang/Integer" ({ cls := "java/lang/Integer", name := "compareTo", desc := "(Ljava/lang/Integer;)I" } : Jvm.MethodName) ({ cls := "java/lang/Integer", name := "compareTo", desc := "(Ljava/lang/Integer;)I" } : Jvm.MethodName)) ∈ lw_all := lw_g (lw_at lw_m7 195 rfl) rfl
theorem q1730 : (Jvm.Cond.code ({ cls := "java/lang/Integer", name := "compareTo", desc := "(Ljava/lang/Integer;)I" } : Jvm.MethodName) prog_30_method_39_code (2 : Nat) (Option.some Jvm.ClassFile.FieldType.int)) ∈ lw_all := lw_g (lw_at lw_m7 196 rfl) rfl
theorem q1731 : (Jvm.Cond.methodLink "java/lang/Integer" (259 : Nat) ({ cls := "java/lang/Integer", name := "compare", desc := "(II)I" } : Jvm.MethodName)) ∈ lw_all := lw_g (lw_at lw_m7 197 rfl) rfl
theorem q1732 : (Jvm.Cond.static ({ cls := "java/lang/Integer", name := "compare", desc := "(II)I" } : Jvm.MethodName)) ∈ lw_all := lw_g (lw_at lw_m7 198 rfl) rfl
theorem q1733 : (Jvm.Cond.code ({ cls := "java/lang/Integer", name := "compare", desc := "(II)I" } : Jvm.MethodName) prog_30_method_40_code (2 : Nat) (Option.some Jvm.ClassFile.FieldType.int)) ∈ lw_all := lw_g (lw_at lw_m7 199 rfl) rfl
theorem q1823 : (Jvm.Cond.static ({ cls := "java/lang/Integer", name := "numberOfLeadingZeros", desc := "(I)I" } : Jvm.MethodName)) ∈ lw_all := lw_g (lw_at lw_m8 49 rfl) rfl
theorem q1824 : (Jvm.Cond.code ({ cls := "java/lang/Integer", name := "numberOfLeadingZeros", desc := "(I)I" } : Jvm.MethodName) prog_30_method_47_code (2 : Nat) (Option.some Jvm.ClassFile.FieldType.int)) ∈ lw_all := lw_g (lw_at lw_m8 50 rfl) rfl
theorem q3821 : (Jvm.Cond.castable "java/lang/Integer" "java/lang/Object") ∈ lw_tbl := lw_at lw_m16 127 rfl
theorem in_J24 : ∀ w ∈ wsJ240, w ∈ lw_all := lw_in wsJ240 [699] (by decide +kernel) (by decide +kernel)

/-! java/lang/Throwable -/
def RJ25 : String := "java/lang/Throwable"
def TJ25 : u_T := fun k => match k with
  | 0 => ("java/lang/Throwable", "cause", "Ljava/lang/Throwable;", false)
  | 1 => ("java/lang/Throwable", "stackTrace", "[Ljava/lang/StackTraceElement;", false)
  | 2 => ("java/lang/Throwable", "suppressedExceptions", "Ljava/util/List;", false)
  | 3 => ("java/lang/Throwable", "detailMessage", "Ljava/lang/String;", false)
  | _ => ("java/lang/Throwable", "backtrace", "Ljava/lang/Object;", false)
def tyJ25 : Nat → FieldType := fun k => match k with
  | 0 => .object "java/lang/Throwable"
  | 1 => .array (.object "java/lang/StackTraceElement")
  | 2 => .object "java/util/List"
  | 3 => .object "java/lang/String"
  | _ => .object "java/lang/Object"
abbrev wsJ250 : List Cond := u_ws RJ25 TJ25 5
theorem nmJ25 : ∀ a, a < 5 → ∀ b, b < 5 → a ≠ b → (TJ25 a).2.1 ≠ (TJ25 b).2.1 := by decide +kernel
theorem tyJ25_ok : ∀ k, k < 5 → parseFieldDescriptor (TJ25 k).2.2.1 = some (tyJ25 k) := by decide +kernel
abbrev cJ25_init : ByteArray := prog_44_method_1_code
def yJ25_init : MethodName := ⟨RJ25, "<init>", "()V"⟩
abbrev cJ25_init_2 : ByteArray := prog_44_method_2_code
def yJ25_init_2 : MethodName := ⟨RJ25, "<init>", "(Ljava/lang/String;)V"⟩
abbrev cJ25_init_3 : ByteArray := prog_44_method_5_code
def yJ25_init_3 : MethodName := ⟨RJ25, "<init>", "(Ljava/lang/String;Ljava/lang/Throwable;ZZ)V"⟩
theorem q123 : (Jvm.Cond.initialized "java/lang/Throwable") ∈ lw_all := lw_g (lw_at lw_m1 29 rfl) rfl
theorem q714 : (Jvm.Cond.declares ({ cls := "java/lang/Throwable", name := "<init>", desc := "()V" } : Jvm.MethodName)) ∈ lw_tbl := lw_at lw_m3 140 rfl
theorem q715 : (Jvm.Cond.declares ({ cls := "java/lang/Throwable", name := "<init>", desc := "(Ljava/lang/String;)V" } : Jvm.MethodName)) ∈ lw_tbl := lw_at lw_m3 141 rfl
theorem q719 : (Jvm.Cond.lays "java/lang/Throwable" "java/lang/Throwable" "cause" "Ljava/lang/Throwable;") ∈ lw_all := lw_g (lw_at lw_m3 145 rfl) rfl
theorem q721 : (Jvm.Cond.lays "java/lang/Throwable" "java/lang/Throwable" "stackTrace" "[Ljava/lang/StackTraceElement;") ∈ lw_all := lw_g (lw_at lw_m3 147 rfl) rfl
theorem q723 : (Jvm.Cond.lays "java/lang/Throwable" "java/lang/Throwable" "suppressedExceptions" "Ljava/util/List;") ∈ lw_all := lw_g (lw_at lw_m3 149 rfl) rfl
theorem q725 : (Jvm.Cond.lays "java/lang/Throwable" "java/lang/Throwable" "detailMessage" "Ljava/lang/String;") ∈ lw_all := lw_g (lw_at lw_m3 151 rfl) rfl
theorem q727 : (Jvm.Cond.lays "java/lang/Throwable" "java/lang/Throwable" "backtrace" "Ljava/lang/Object;") ∈ lw_all := lw_g (lw_at lw_m3 153 rfl) rfl
theorem q728 : (Jvm.Cond.fieldLink "java/lang/Throwable" (198 : Nat) "java/lang/Throwable" "backtrace" "Ljava/lang/Object;") ∈ lw_all := lw_g (lw_at lw_m3 154 rfl) rfl
theorem q729 : (Jvm.Cond.superclass "java/lang/Throwable" "java/lang/Object") ∈ lw_all := lw_g (lw_at lw_m3 155 rfl) rfl
theorem q730 : (Jvm.Cond.instanceMethod ({ cls := "java/lang/Throwable", name := "<init>", desc := "()V" } : Jvm.MethodName)) ∈ lw_all := lw_g (lw_at lw_m3 156 rfl) rfl
theorem q731 : (Jvm.Cond.code ({ cls := "java/lang/Throwable", name := "<init>", desc := "()V" } : Jvm.MethodName) prog_44_method_1_code (1 : Nat) (Option.none : Option Jvm.ClassFile.FieldType)) ∈ lw_all := lw_g (lw_at lw_m3 157 rfl) rfl
theorem q732 : (Jvm.Cond.methodLink "java/lang/Throwable" (1 : Nat) ({ cls := "java/lang/Object", name := "<init>", desc := "()V" } : Jvm.MethodName)) ∈ lw_all := lw_g (lw_at lw_m3 158 rfl) rfl
theorem q733 : (Jvm.Cond.fieldLink "java/lang/Throwable" (13 : Nat) "java/lang/Throwable" "UNASSIGNED_STACK" "[Ljava/lang/StackTraceElement;") ∈ lw_all := lw_g (lw_at lw_m3 159 rfl) rfl
theorem q734 : (Jvm.Cond.laysStatic "java/lang/Throwable" "UNASSIGNED_STACK" "[Ljava/lang/StackTraceElement;") ∈ lw_tbl := lw_at lw_m3 160 rfl
theorem q735 : (Jvm.Cond.fieldLink "java/lang/Throwable" (20 : Nat) "java/lang/Throwable" "SUPPRESSED_SENTINEL" "Ljava/util/List;") ∈ lw_all := lw_g (lw_at lw_m3 161 rfl) rfl
theorem q736 : (Jvm.Cond.laysStatic "java/lang/Throwable" "SUPPRESSED_SENTINEL" "Ljava/util/List;") ∈ lw_tbl := lw_at lw_m3 162 rfl
theorem q737 : (Jvm.Cond.methodLink "java/lang/Throwable" (27 : Nat) ({ cls := "java/lang/Throwable", name := "fillInStackTrace", desc := "()Ljava/lang/Throwable;" } : Jvm.MethodName)) ∈ lw_all := lw_g (lw_at lw_m3 163 rfl) rfl
theorem q738 : (Jvm.Cond.instanceMethod ({ cls := "java/lang/Throwable", name := "fillInStackTrace", desc := "()Ljava/lang/Throwable;" } : Jvm.MethodName)) ∈ lw_all := lw_g (lw_at lw_m3 164 rfl) rfl
theorem q739 : (Jvm.Cond.sameMethod "java/lang/Throwable" "java/lang/Throwable" "fillInStackTrace" "()Ljava/lang/Throwable;") ∈ lw_all := lw_g (lw_at lw_m3 165 rfl) rfl
theorem q749 : (Jvm.Cond.codeSync ({ cls := "java/lang/Throwable", name := "fillInStackTrace", desc := "()Ljava/lang/Throwable;" } : Jvm.MethodName) prog_44_method_18_code (1 : Nat) (Option.some (Jvm.ClassFile.FieldType.object "java/lang/Throwable"))) ∈ lw_all := lw_g (lw_at lw_m3 175 rfl) rfl
theorem q750 : (Jvm.Cond.methodLink "java/lang/Throwable" (202 : Nat) ({ cls := "java/lang/Throwable", name := "fillInStackTrace", desc := "(I)Ljava/lang/Throwable;" } : Jvm.MethodName)) ∈ lw_all := lw_g (lw_at lw_m3 176 rfl) rfl
theorem q751 : (Jvm.Cond.privateMethod ({ cls := "java/lang/Throwable", name := "fillInStackTrace", desc := "(I)Ljava/lang/Throwable;" } : Jvm.MethodName)) ∈ lw_tbl := lw_at lw_m3 177 rfl
theorem q752 : (Jvm.Cond.instanceMethod ({ cls := "java/lang/Throwable", name := "fillInStackTrace", desc := "(I)Ljava/lang/Throwable;" } : Jvm.MethodName)) ∈ lw_all := lw_g (lw_at lw_m3 178 rfl) rfl
theorem q753 : (Jvm.Cond.instantiable "java/lang/Throwable" (6 : Nat)) ∈ lw_all := lw_g (lw_at lw_m3 179 rfl) rfl
theorem q754 : (Jvm.Cond.native ({ cls := "java/lang/Throwable", name := "fillInStackTrace", desc := "(I)Ljava/lang/Throwable;" } : Jvm.MethodName)) ∈ lw_all := lw_g (lw_at lw_m3 180 rfl) rfl
theorem q765 : (Jvm.Cond.fieldLink "java/lang/Throwable" (198 : Nat) "java/lang/Throwable" "backtrace" "Ljava/lang/Object;") ∈ lw_all := lw_g (lw_at lw_m3 191 rfl) rfl
theorem q766 : (Jvm.Cond.fieldLink "java/lang/Throwable" (31 : Nat) "java/lang/Throwable" "detailMessage" "Ljava/lang/String;") ∈ lw_all := lw_g (lw_at lw_m3 192 rfl) rfl
theorem q767 : (Jvm.Cond.fieldLink "java/lang/Throwable" (7 : Nat) "java/lang/Throwable" "cause" "Ljava/lang/Throwable;") ∈ lw_all := lw_g (lw_at lw_m3 193 rfl) rfl
theorem q768 : (Jvm.Cond.fieldLink "java/lang/Throwable" (17 : Nat) "java/lang/Throwable" "stackTrace" "[Ljava/lang/StackTraceElement;") ∈ lw_all := lw_g (lw_at lw_m3 194 rfl) rfl
theorem q769 : (Jvm.Cond.fieldLink "java/lang/Throwable" (24 : Nat) "java/lang/Throwable" "suppressedExceptions" "Ljava/util/List;") ∈ lw_all := lw_g (lw_at lw_m3 195 rfl) rfl
theorem q770 : (Jvm.Cond.soleField "java/lang/Throwable" "backtrace") ∈ lw_all := lw_g (lw_at lw_m3 196 rfl) rfl
theorem q771 : (Jvm.Cond.soleField "java/lang/Throwable" "detailMessage") ∈ lw_all := lw_g (lw_at lw_m3 197 rfl) rfl
theorem q772 : (Jvm.Cond.soleField "java/lang/Throwable" "cause") ∈ lw_all := lw_g (lw_at lw_m3 198 rfl) rfl
theorem q773 : (Jvm.Cond.soleField "java/lang/Throwable" "stackTrace") ∈ lw_all := lw_g (lw_at lw_m3 199 rfl) rfl
theorem q775 : (Jvm.Cond.soleField "java/lang/Throwable" "depth") ∈ lw_all := lw_g (lw_at lw_m3 201 rfl) rfl
theorem q776 : (Jvm.Cond.soleField "java/lang/Throwable" "suppressedExceptions") ∈ lw_all := lw_g (lw_at lw_m3 202 rfl) rfl
theorem q1062 : (Jvm.Cond.instanceMethod ({ cls := "java/lang/Throwable", name := "<init>", desc := "(Ljava/lang/String;)V" } : Jvm.MethodName)) ∈ lw_all := lw_g (lw_at lw_m5 8 rfl) rfl
theorem q1063 : (Jvm.Cond.code ({ cls := "java/lang/Throwable", name := "<init>", desc := "(Ljava/lang/String;)V" } : Jvm.MethodName) prog_44_method_2_code (2 : Nat) (Option.none : Option Jvm.ClassFile.FieldType)) ∈ lw_all := lw_g (lw_at lw_m5 9 rfl) rfl
theorem q2467 : (Jvm.Cond.instanceMethod ({ cls := "java/lang/Throwable", name := "<init>", desc := "(Ljava/lang/String;Ljava/lang/Throwable;ZZ)V" } : Jvm.MethodName)) ∈ lw_all := lw_g (lw_at lw_m10 213 rfl) rfl
theorem q2468 : (Jvm.Cond.code ({ cls := "java/lang/Throwable", name := "<init>", desc := "(Ljava/lang/String;Ljava/lang/Throwable;ZZ)V" } : Jvm.MethodName) prog_44_method_5_code (5 : Nat) (Option.none : Option Jvm.ClassFile.FieldType)) ∈ lw_all := lw_g (lw_at lw_m10 214 rfl) rfl
theorem q3753 : (Jvm.Cond.sameMethod "java/lang/Throwable" "java/lang/Throwable" "fillInStackTrace" "(I)Ljava/lang/Throwable;") ∈ lw_all := lw_g (lw_at lw_m16 59 rfl) rfl
theorem q3837 : (Jvm.Cond.castable "java/lang/Throwable" "java/lang/Object") ∈ lw_tbl := lw_at lw_m16 143 rfl
theorem in_J25 : ∀ w ∈ wsJ250, w ∈ lw_all := lw_in wsJ250 [719, 721, 723, 725, 727] (by decide +kernel) (by decide +kernel)

/-! java/lang/Exception -/
def RJ26 : String := "java/lang/Exception"
abbrev cJ26_init : ByteArray := prog_26_method_1_code
def yJ26_init : MethodName := ⟨RJ26, "<init>", "()V"⟩
abbrev cJ26_init_2 : ByteArray := prog_26_method_2_code
def yJ26_init_2 : MethodName := ⟨RJ26, "<init>", "(Ljava/lang/String;)V"⟩
abbrev cJ26_init_3 : ByteArray := prog_26_method_5_code
def yJ26_init_3 : MethodName := ⟨RJ26, "<init>", "(Ljava/lang/String;Ljava/lang/Throwable;ZZ)V"⟩
theorem q124 : (Jvm.Cond.initialized "java/lang/Exception") ∈ lw_all := lw_g (lw_at lw_m1 30 rfl) rfl
theorem q712 : (Jvm.Cond.declares ({ cls := "java/lang/Exception", name := "<init>", desc := "()V" } : Jvm.MethodName)) ∈ lw_tbl := lw_at lw_m3 138 rfl
theorem q713 : (Jvm.Cond.declares ({ cls := "java/lang/Exception", name := "<init>", desc := "(Ljava/lang/String;)V" } : Jvm.MethodName)) ∈ lw_tbl := lw_at lw_m3 139 rfl
theorem q762 : (Jvm.Cond.instanceMethod ({ cls := "java/lang/Exception", name := "<init>", desc := "()V" } : Jvm.MethodName)) ∈ lw_all := lw_g (lw_at lw_m3 188 rfl) rfl
theorem q763 : (Jvm.Cond.code ({ cls := "java/lang/Exception", name := "<init>", desc := "()V" } : Jvm.MethodName) prog_26_method_1_code (1 : Nat) (Option.none : Option Jvm.ClassFile.FieldType)) ∈ lw_all := lw_g (lw_at lw_m3 189 rfl) rfl
theorem q764 : (Jvm.Cond.methodLink "java/lang/Exception" (1 : Nat) ({ cls := "java/lang/Throwable", name := "<init>", desc := "()V" } : Jvm.MethodName)) ∈ lw_all := lw_g (lw_at lw_m3 190 rfl) rfl
theorem q1059 : (Jvm.Cond.instanceMethod ({ cls := "java/lang/Exception", name := "<init>", desc := "(Ljava/lang/String;)V" } : Jvm.MethodName)) ∈ lw_all := lw_g (lw_at lw_m5 5 rfl) rfl
theorem q1060 : (Jvm.Cond.code ({ cls := "java/lang/Exception", name := "<init>", desc := "(Ljava/lang/String;)V" } : Jvm.MethodName) prog_26_method_2_code (2 : Nat) (Option.none : Option Jvm.ClassFile.FieldType)) ∈ lw_all := lw_g (lw_at lw_m5 6 rfl) rfl
theorem q1061 : (Jvm.Cond.methodLink "java/lang/Exception" (7 : Nat) ({ cls := "java/lang/Throwable", name := "<init>", desc := "(Ljava/lang/String;)V" } : Jvm.MethodName)) ∈ lw_all := lw_g (lw_at lw_m5 7 rfl) rfl
theorem q2464 : (Jvm.Cond.instanceMethod ({ cls := "java/lang/Exception", name := "<init>", desc := "(Ljava/lang/String;Ljava/lang/Throwable;ZZ)V" } : Jvm.MethodName)) ∈ lw_all := lw_g (lw_at lw_m10 210 rfl) rfl
theorem q2465 : (Jvm.Cond.code ({ cls := "java/lang/Exception", name := "<init>", desc := "(Ljava/lang/String;Ljava/lang/Throwable;ZZ)V" } : Jvm.MethodName) prog_26_method_5_code (5 : Nat) (Option.none : Option Jvm.ClassFile.FieldType)) ∈ lw_all := lw_g (lw_at lw_m10 211 rfl) rfl
theorem q2466 : (Jvm.Cond.methodLink "java/lang/Exception" (16 : Nat) ({ cls := "java/lang/Throwable", name := "<init>", desc := "(Ljava/lang/String;Ljava/lang/Throwable;ZZ)V" } : Jvm.MethodName)) ∈ lw_all := lw_g (lw_at lw_m10 212 rfl) rfl

/-! java/lang/RuntimeException -/
def RJ27 : String := "java/lang/RuntimeException"
abbrev cJ27_init : ByteArray := prog_36_method_1_code
def yJ27_init : MethodName := ⟨RJ27, "<init>", "()V"⟩
abbrev cJ27_init_2 : ByteArray := prog_36_method_2_code
def yJ27_init_2 : MethodName := ⟨RJ27, "<init>", "(Ljava/lang/String;)V"⟩
theorem q125 : (Jvm.Cond.initialized "java/lang/RuntimeException") ∈ lw_all := lw_g (lw_at lw_m1 31 rfl) rfl
theorem q710 : (Jvm.Cond.declares ({ cls := "java/lang/RuntimeException", name := "<init>", desc := "()V" } : Jvm.MethodName)) ∈ lw_tbl := lw_at lw_m3 136 rfl
theorem q711 : (Jvm.Cond.declares ({ cls := "java/lang/RuntimeException", name := "<init>", desc := "(Ljava/lang/String;)V" } : Jvm.MethodName)) ∈ lw_tbl := lw_at lw_m3 137 rfl
theorem q759 : (Jvm.Cond.instanceMethod ({ cls := "java/lang/RuntimeException", name := "<init>", desc := "()V" } : Jvm.MethodName)) ∈ lw_all := lw_g (lw_at lw_m3 185 rfl) rfl
theorem q760 : (Jvm.Cond.code ({ cls := "java/lang/RuntimeException", name := "<init>", desc := "()V" } : Jvm.MethodName) prog_36_method_1_code (1 : Nat) (Option.none : Option Jvm.ClassFile.FieldType)) ∈ lw_all := lw_g (lw_at lw_m3 186 rfl) rfl
theorem q761 : (Jvm.Cond.methodLink "java/lang/RuntimeException" (1 : Nat) ({ cls := "java/lang/Exception", name := "<init>", desc := "()V" } : Jvm.MethodName)) ∈ lw_all := lw_g (lw_at lw_m3 187 rfl) rfl
theorem q1056 : (Jvm.Cond.instanceMethod ({ cls := "java/lang/RuntimeException", name := "<init>", desc := "(Ljava/lang/String;)V" } : Jvm.MethodName)) ∈ lw_all := lw_g (lw_at lw_m5 2 rfl) rfl
theorem q1057 : (Jvm.Cond.code ({ cls := "java/lang/RuntimeException", name := "<init>", desc := "(Ljava/lang/String;)V" } : Jvm.MethodName) prog_36_method_2_code (2 : Nat) (Option.none : Option Jvm.ClassFile.FieldType)) ∈ lw_all := lw_g (lw_at lw_m5 3 rfl) rfl
theorem q1058 : (Jvm.Cond.methodLink "java/lang/RuntimeException" (7 : Nat) ({ cls := "java/lang/Exception", name := "<init>", desc := "(Ljava/lang/String;)V" } : Jvm.MethodName)) ∈ lw_all := lw_g (lw_at lw_m5 4 rfl) rfl

/-! java/util/NoSuchElementException -/
def RJ28 : String := "java/util/NoSuchElementException"
def TJ28 : u_T := fun k => match k with
  | 0 => ("java/lang/Throwable", "cause", "Ljava/lang/Throwable;", false)
  | 1 => ("java/lang/Throwable", "stackTrace", "[Ljava/lang/StackTraceElement;", false)
  | 2 => ("java/lang/Throwable", "suppressedExceptions", "Ljava/util/List;", false)
  | 3 => ("java/lang/Throwable", "detailMessage", "Ljava/lang/String;", false)
  | 4 => ("java/lang/Throwable", "backtrace", "Ljava/lang/Object;", false)
  | _ => ("java/lang/Throwable", "depth", "I", false)
def tyJ28 : Nat → FieldType := fun k => match k with
  | 0 => .object "java/lang/Throwable"
  | 1 => .array (.object "java/lang/StackTraceElement")
  | 2 => .object "java/util/List"
  | 3 => .object "java/lang/String"
  | 4 => .object "java/lang/Object"
  | _ => .int
abbrev wsJ280 : List Cond := u_ws RJ28 TJ28 6
theorem nmJ28 : ∀ a, a < 6 → ∀ b, b < 6 → a ≠ b → (TJ28 a).2.1 ≠ (TJ28 b).2.1 := by decide +kernel
theorem tyJ28_ok : ∀ k, k < 6 → parseFieldDescriptor (TJ28 k).2.2.1 = some (tyJ28 k) := by decide +kernel
abbrev cJ28_init : ByteArray := prog_78_method_1_code
def yJ28_init : MethodName := ⟨RJ28, "<init>", "()V"⟩
theorem q126 : (Jvm.Cond.initialized "java/util/NoSuchElementException") ∈ lw_all := lw_g (lw_at lw_m1 32 rfl) rfl
theorem q708 : (Jvm.Cond.instantiable "java/util/NoSuchElementException" (6 : Nat)) ∈ lw_all := lw_g (lw_at lw_m3 134 rfl) rfl
theorem q709 : (Jvm.Cond.castable "java/util/NoSuchElementException" "java/util/NoSuchElementException") ∈ lw_tbl := lw_at lw_m3 135 rfl
theorem q716 : (Jvm.Cond.selects "java/util/NoSuchElementException" ({ cls := "java/lang/Throwable", name := "fillInStackTrace", desc := "(I)Ljava/lang/Throwable;" } : Jvm.MethodName) ({ cls := "java/lang/Throwable", name := "fillInStackTrace", desc := "(I)Ljava/lang/Throwable;" } : Jvm.MethodName)) ∈ lw_all := lw_g (lw_at lw_m3 142 rfl) rfl
theorem q717 : (Jvm.Cond.selects "java/util/NoSuchElementException" ({ cls := "java/lang/Throwable", name := "fillInStackTrace", desc := "()Ljava/lang/Throwable;" } : Jvm.MethodName) ({ cls := "java/lang/Throwable", name := "fillInStackTrace", desc := "()Ljava/lang/Throwable;" } : Jvm.MethodName)) ∈ lw_all := lw_g (lw_at lw_m3 143 rfl) rfl
theorem q718 : (Jvm.Cond.lays "java/util/NoSuchElementException" "java/lang/Throwable" "cause" "Ljava/lang/Throwable;") ∈ lw_all := lw_g (lw_at lw_m3 144 rfl) rfl
theorem q720 : (Jvm.Cond.lays "java/util/NoSuchElementException" "java/lang/Throwable" "stackTrace" "[Ljava/lang/StackTraceElement;") ∈ lw_all := lw_g (lw_at lw_m3 146 rfl) rfl
theorem q722 : (Jvm.Cond.lays "java/util/NoSuchElementException" "java/lang/Throwable" "suppressedExceptions" "Ljava/util/List;") ∈ lw_all := lw_g (lw_at lw_m3 148 rfl) rfl
theorem q724 : (Jvm.Cond.lays "java/util/NoSuchElementException" "java/lang/Throwable" "detailMessage" "Ljava/lang/String;") ∈ lw_all := lw_g (lw_at lw_m3 150 rfl) rfl
theorem q726 : (Jvm.Cond.lays "java/util/NoSuchElementException" "java/lang/Throwable" "backtrace" "Ljava/lang/Object;") ∈ lw_all := lw_g (lw_at lw_m3 152 rfl) rfl
theorem q756 : (Jvm.Cond.instanceMethod ({ cls := "java/util/NoSuchElementException", name := "<init>", desc := "()V" } : Jvm.MethodName)) ∈ lw_all := lw_g (lw_at lw_m3 182 rfl) rfl
theorem q757 : (Jvm.Cond.code ({ cls := "java/util/NoSuchElementException", name := "<init>", desc := "()V" } : Jvm.MethodName) prog_78_method_1_code (1 : Nat) (Option.none : Option Jvm.ClassFile.FieldType)) ∈ lw_all := lw_g (lw_at lw_m3 183 rfl) rfl
theorem q758 : (Jvm.Cond.methodLink "java/util/NoSuchElementException" (1 : Nat) ({ cls := "java/lang/RuntimeException", name := "<init>", desc := "()V" } : Jvm.MethodName)) ∈ lw_all := lw_g (lw_at lw_m3 184 rfl) rfl
theorem q774 : (Jvm.Cond.lays "java/util/NoSuchElementException" "java/lang/Throwable" "depth" "I") ∈ lw_all := lw_g (lw_at lw_m3 200 rfl) rfl
theorem q777 : (Jvm.Cond.superclass "java/util/NoSuchElementException" "java/lang/RuntimeException") ∈ lw_all := lw_g (lw_at lw_m3 203 rfl) rfl
theorem q1276 : (Jvm.Cond.selects "java/util/NoSuchElementException" ({ cls := "java/lang/Object", name := "getClass", desc := "()Ljava/lang/Class;" } : Jvm.MethodName) ({ cls := "java/lang/Object", name := "getClass", desc := "()Ljava/lang/Class;" } : Jvm.MethodName)) ∈ lw_all := lw_g (lw_at lw_m5 222 rfl) rfl
theorem q3812 : (Jvm.Cond.castable "java/util/NoSuchElementException" "java/lang/Object") ∈ lw_tbl := lw_at lw_m16 118 rfl
theorem in_J28 : ∀ w ∈ wsJ280, w ∈ lw_all := lw_in wsJ280 [718, 720, 722, 724, 726, 774] (by decide +kernel) (by decide +kernel)

/-! java/lang/IndexOutOfBoundsException -/
def RJ29 : String := "java/lang/IndexOutOfBoundsException"
def TJ29 : u_T := fun k => match k with
  | 0 => ("java/lang/Throwable", "cause", "Ljava/lang/Throwable;", false)
  | 1 => ("java/lang/Throwable", "stackTrace", "[Ljava/lang/StackTraceElement;", false)
  | 2 => ("java/lang/Throwable", "suppressedExceptions", "Ljava/util/List;", false)
  | 3 => ("java/lang/Throwable", "detailMessage", "Ljava/lang/String;", false)
  | 4 => ("java/lang/Throwable", "backtrace", "Ljava/lang/Object;", false)
  | _ => ("java/lang/Throwable", "depth", "I", false)
def tyJ29 : Nat → FieldType := fun k => match k with
  | 0 => .object "java/lang/Throwable"
  | 1 => .array (.object "java/lang/StackTraceElement")
  | 2 => .object "java/util/List"
  | 3 => .object "java/lang/String"
  | 4 => .object "java/lang/Object"
  | _ => .int
abbrev wsJ290 : List Cond := u_ws RJ29 TJ29 6
theorem nmJ29 : ∀ a, a < 6 → ∀ b, b < 6 → a ≠ b → (TJ29 a).2.1 ≠ (TJ29 b).2.1 := by decide +kernel
theorem tyJ29_ok : ∀ k, k < 6 → parseFieldDescriptor (TJ29 k).2.2.1 = some (tyJ29 k) := by decide +kernel
abbrev cJ29_init : ByteArray := prog_29_method_2_code
def yJ29_init : MethodName := ⟨RJ29, "<init>", "(Ljava/lang/String;)V"⟩
abbrev cJ29_init_2 : ByteArray := prog_29_method_1_code
def yJ29_init_2 : MethodName := ⟨RJ29, "<init>", "()V"⟩
theorem q127 : (Jvm.Cond.initialized "java/lang/IndexOutOfBoundsException") ∈ lw_all := lw_g (lw_at lw_m1 33 rfl) rfl
theorem q746 : (Jvm.Cond.selects "java/lang/IndexOutOfBoundsException" ({ cls := "java/lang/Throwable", name := "fillInStackTrace", desc := "()Ljava/lang/Throwable;" } : Jvm.MethodName) ({ cls := "java/lang/Throwable", name := "fillInStackTrace", desc := "()Ljava/lang/Throwable;" } : Jvm.MethodName)) ∈ lw_all := lw_g (lw_at lw_m3 172 rfl) rfl
theorem q847 : (Jvm.Cond.instantiable "java/lang/IndexOutOfBoundsException" (6 : Nat)) ∈ lw_all := lw_g (lw_at lw_m4 33 rfl) rfl
theorem q848 : (Jvm.Cond.castable "java/lang/IndexOutOfBoundsException" "java/lang/IndexOutOfBoundsException") ∈ lw_tbl := lw_at lw_m4 34 rfl
theorem q849 : (Jvm.Cond.selects "java/lang/IndexOutOfBoundsException" ({ cls := "java/lang/Throwable", name := "fillInStackTrace", desc := "(I)Ljava/lang/Throwable;" } : Jvm.MethodName) ({ cls := "java/lang/Throwable", name := "fillInStackTrace", desc := "(I)Ljava/lang/Throwable;" } : Jvm.MethodName)) ∈ lw_all := lw_g (lw_at lw_m4 35 rfl) rfl
theorem q850 : (Jvm.Cond.lays "java/lang/IndexOutOfBoundsException" "java/lang/Throwable" "cause" "Ljava/lang/Throwable;") ∈ lw_all := lw_g (lw_at lw_m4 36 rfl) rfl
theorem q851 : (Jvm.Cond.lays "java/lang/IndexOutOfBoundsException" "java/lang/Throwable" "stackTrace" "[Ljava/lang/StackTraceElement;") ∈ lw_all := lw_g (lw_at lw_m4 37 rfl) rfl
theorem q852 : (Jvm.Cond.lays "java/lang/IndexOutOfBoundsException" "java/lang/Throwable" "suppressedExceptions" "Ljava/util/List;") ∈ lw_all := lw_g (lw_at lw_m4 38 rfl) rfl
theorem q853 : (Jvm.Cond.lays "java/lang/IndexOutOfBoundsException" "java/lang/Throwable" "detailMessage" "Ljava/lang/String;") ∈ lw_all := lw_g (lw_at lw_m4 39 rfl) rfl
theorem q854 : (Jvm.Cond.lays "java/lang/IndexOutOfBoundsException" "java/lang/Throwable" "backtrace" "Ljava/lang/Object;") ∈ lw_all := lw_g (lw_at lw_m4 40 rfl) rfl
theorem q1093 : (Jvm.Cond.instanceMethod ({ cls := "java/lang/IndexOutOfBoundsException", name := "<init>", desc := "(Ljava/lang/String;)V" } : Jvm.MethodName)) ∈ lw_all := lw_g (lw_at lw_m5 39 rfl) rfl
theorem q1094 : (Jvm.Cond.code ({ cls := "java/lang/IndexOutOfBoundsException", name := "<init>", desc := "(Ljava/lang/String;)V" } : Jvm.MethodName) prog_29_method_2_code (2 : Nat) (Option.none : Option Jvm.ClassFile.FieldType)) ∈ lw_all := lw_g (lw_at lw_m5 40 rfl) rfl
theorem q1095 : (Jvm.Cond.methodLink "java/lang/IndexOutOfBoundsException" (7 : Nat) ({ cls := "java/lang/RuntimeException", name := "<init>", desc := "(Ljava/lang/String;)V" } : Jvm.MethodName)) ∈ lw_all := lw_g (lw_at lw_m5 41 rfl) rfl
theorem q1096 : (Jvm.Cond.lays "java/lang/IndexOutOfBoundsException" "java/lang/Throwable" "depth" "I") ∈ lw_all := lw_g (lw_at lw_m5 42 rfl) rfl
theorem q1097 : (Jvm.Cond.superclass "java/lang/IndexOutOfBoundsException" "java/lang/RuntimeException") ∈ lw_all := lw_g (lw_at lw_m5 43 rfl) rfl
theorem q1252 : (Jvm.Cond.selects "java/lang/IndexOutOfBoundsException" ({ cls := "java/lang/Object", name := "getClass", desc := "()Ljava/lang/Class;" } : Jvm.MethodName) ({ cls := "java/lang/Object", name := "getClass", desc := "()Ljava/lang/Class;" } : Jvm.MethodName)) ∈ lw_all := lw_g (lw_at lw_m5 198 rfl) rfl
theorem q1577 : (Jvm.Cond.selects "java/lang/IndexOutOfBoundsException" ({ cls := "java/lang/Object", name := "hashCode", desc := "()I" } : Jvm.MethodName) ({ cls := "java/lang/Object", name := "hashCode", desc := "()I" } : Jvm.MethodName)) ∈ lw_all := lw_g (lw_at lw_m7 43 rfl) rfl
theorem q1673 : (Jvm.Cond.selects "java/lang/IndexOutOfBoundsException" ({ cls := "java/lang/Object", name := "equals", desc := "(Ljava/lang/Object;)Z" } : Jvm.MethodName) ({ cls := "java/lang/Object", name := "equals", desc := "(Ljava/lang/Object;)Z" } : Jvm.MethodName)) ∈ lw_all := lw_g (lw_at lw_m7 139 rfl) rfl
theorem q2534 : (Jvm.Cond.declares ({ cls := "java/lang/IndexOutOfBoundsException", name := "<init>", desc := "()V" } : Jvm.MethodName)) ∈ lw_tbl := lw_at lw_m11 40 rfl
theorem q2535 : (Jvm.Cond.declares ({ cls := "java/lang/IndexOutOfBoundsException", name := "<init>", desc := "(Ljava/lang/String;)V" } : Jvm.MethodName)) ∈ lw_tbl := lw_at lw_m11 41 rfl
theorem q2551 : (Jvm.Cond.instanceMethod ({ cls := "java/lang/IndexOutOfBoundsException", name := "<init>", desc := "()V" } : Jvm.MethodName)) ∈ lw_all := lw_g (lw_at lw_m11 57 rfl) rfl
theorem q2552 : (Jvm.Cond.code ({ cls := "java/lang/IndexOutOfBoundsException", name := "<init>", desc := "()V" } : Jvm.MethodName) prog_29_method_1_code (1 : Nat) (Option.none : Option Jvm.ClassFile.FieldType)) ∈ lw_all := lw_g (lw_at lw_m11 58 rfl) rfl
theorem q2553 : (Jvm.Cond.methodLink "java/lang/IndexOutOfBoundsException" (1 : Nat) ({ cls := "java/lang/RuntimeException", name := "<init>", desc := "()V" } : Jvm.MethodName)) ∈ lw_all := lw_g (lw_at lw_m11 59 rfl) rfl
theorem q3813 : (Jvm.Cond.castable "java/lang/IndexOutOfBoundsException" "java/lang/Object") ∈ lw_tbl := lw_at lw_m16 119 rfl
theorem in_J29 : ∀ w ∈ wsJ290, w ∈ lw_all := lw_in wsJ290 [850, 851, 852, 853, 854, 1096] (by decide +kernel) (by decide +kernel)

/-! jdk/internal/util/ArraysSupport -/
def RJ30 : String := "jdk/internal/util/ArraysSupport"
abbrev cJ30_newLength : ByteArray := prog_89_method_27_code
def yJ30_newLength : MethodName := ⟨RJ30, "newLength", "(III)I"⟩
abbrev cJ30_hugeLength : ByteArray := prog_89_method_28_code
def yJ30_hugeLength : MethodName := ⟨RJ30, "hugeLength", "(II)I"⟩
abbrev cJ30_vectorizedHashCode : ByteArray := prog_89_method_4_code
def yJ30_vectorizedHashCode : MethodName := ⟨RJ30, "vectorizedHashCode", "(Ljava/lang/Object;IIII)I"⟩
abbrev cJ30_signedHashCode : ByteArray := prog_89_method_5_code
def yJ30_signedHashCode : MethodName := ⟨RJ30, "signedHashCode", "(I[BII)I"⟩
abbrev cJ30_utf16hashCode : ByteArray := prog_89_method_10_code
def yJ30_utf16hashCode : MethodName := ⟨RJ30, "utf16hashCode", "(I[BII)I"⟩
abbrev cJ30_hashCode : ByteArray := prog_89_method_7_code
def yJ30_hashCode : MethodName := ⟨RJ30, "hashCode", "(I[CII)I"⟩
abbrev cJ30_hashCode_2 : ByteArray := prog_89_method_6_code
def yJ30_hashCode_2 : MethodName := ⟨RJ30, "hashCode", "(I[BII)I"⟩
abbrev cJ30_hashCode_3 : ByteArray := prog_89_method_8_code
def yJ30_hashCode_3 : MethodName := ⟨RJ30, "hashCode", "(I[SII)I"⟩
abbrev cJ30_hashCode_4 : ByteArray := prog_89_method_9_code
def yJ30_hashCode_4 : MethodName := ⟨RJ30, "hashCode", "(I[III)I"⟩
abbrev cJ30_mismatch : ByteArray := prog_89_method_13_code
def yJ30_mismatch : MethodName := ⟨RJ30, "mismatch", "([B[BI)I"⟩
abbrev cJ30_vectorizedMismatch : ByteArray := prog_89_method_3_code
def yJ30_vectorizedMismatch : MethodName := ⟨RJ30, "vectorizedMismatch", "(Ljava/lang/Object;JLjava/lang/Object;JII)I"⟩
theorem q128 : (Jvm.Cond.initialized "jdk/internal/util/ArraysSupport") ∈ lw_all := lw_g (lw_at lw_m1 34 rfl) rfl
theorem q878 : (Jvm.Cond.static ({ cls := "jdk/internal/util/ArraysSupport", name := "newLength", desc := "(III)I" } : Jvm.MethodName)) ∈ lw_all := lw_g (lw_at lw_m4 64 rfl) rfl
theorem q879 : (Jvm.Cond.code ({ cls := "jdk/internal/util/ArraysSupport", name := "newLength", desc := "(III)I" } : Jvm.MethodName) prog_89_method_27_code (4 : Nat) (Option.some Jvm.ClassFile.FieldType.int)) ∈ lw_all := lw_g (lw_at lw_m4 65 rfl) rfl
theorem q880 : (Jvm.Cond.methodLink "jdk/internal/util/ArraysSupport" (194 : Nat) ({ cls := "java/lang/Math", name := "max", desc := "(II)I" } : Jvm.MethodName)) ∈ lw_all := lw_g (lw_at lw_m4 66 rfl) rfl
theorem q883 : (Jvm.Cond.constant "jdk/internal/util/ArraysSupport" (200 : Nat) (2147483639 : Int32)) ∈ lw_all := lw_g (lw_at lw_m4 69 rfl) rfl
theorem q884 : (Jvm.Cond.methodLink "jdk/internal/util/ArraysSupport" (201 : Nat) ({ cls := "jdk/internal/util/ArraysSupport", name := "hugeLength", desc := "(II)I" } : Jvm.MethodName)) ∈ lw_all := lw_g (lw_at lw_m4 70 rfl) rfl
theorem q885 : (Jvm.Cond.static ({ cls := "jdk/internal/util/ArraysSupport", name := "hugeLength", desc := "(II)I" } : Jvm.MethodName)) ∈ lw_all := lw_g (lw_at lw_m4 71 rfl) rfl
theorem q886 : (Jvm.Cond.code ({ cls := "jdk/internal/util/ArraysSupport", name := "hugeLength", desc := "(II)I" } : Jvm.MethodName) prog_89_method_28_code (3 : Nat) (Option.some Jvm.ClassFile.FieldType.int)) ∈ lw_all := lw_g (lw_at lw_m4 72 rfl) rfl
theorem q1595 : (Jvm.Cond.static ({ cls := "jdk/internal/util/ArraysSupport", name := "vectorizedHashCode", desc := "(Ljava/lang/Object;IIII)I" } : Jvm.MethodName)) ∈ lw_all := lw_g (lw_at lw_m7 61 rfl) rfl
theorem q1596 : (Jvm.Cond.code ({ cls := "jdk/internal/util/ArraysSupport", name := "vectorizedHashCode", desc := "(Ljava/lang/Object;IIII)I" } : Jvm.MethodName) prog_89_method_4_code (5 : Nat) (Option.some Jvm.ClassFile.FieldType.int)) ∈ lw_all := lw_g (lw_at lw_m7 62 rfl) rfl
theorem q1597 : (Jvm.Cond.classLink "jdk/internal/util/ArraysSupport" (60 : Nat) "[B") ∈ lw_all := lw_g (lw_at lw_m7 63 rfl) rfl
theorem q1598 : (Jvm.Cond.methodLink "jdk/internal/util/ArraysSupport" (62 : Nat) ({ cls := "jdk/internal/util/ArraysSupport", name := "signedHashCode", desc := "(I[BII)I" } : Jvm.MethodName)) ∈ lw_all := lw_g (lw_at lw_m7 64 rfl) rfl
theorem q1599 : (Jvm.Cond.static ({ cls := "jdk/internal/util/ArraysSupport", name := "signedHashCode", desc := "(I[BII)I" } : Jvm.MethodName)) ∈ lw_all := lw_g (lw_at lw_m7 65 rfl) rfl
theorem q1600 : (Jvm.Cond.code ({ cls := "jdk/internal/util/ArraysSupport", name := "signedHashCode", desc := "(I[BII)I" } : Jvm.MethodName) prog_89_method_5_code (6 : Nat) (Option.some Jvm.ClassFile.FieldType.int)) ∈ lw_all := lw_g (lw_at lw_m7 66 rfl) rfl
theorem q1601 : (Jvm.Cond.methodLink "jdk/internal/util/ArraysSupport" (66 : Nat) ({ cls := "jdk/internal/util/ArraysSupport", name := "utf16hashCode", desc := "(I[BII)I" } : Jvm.MethodName)) ∈ lw_all := lw_g (lw_at lw_m7 67 rfl) rfl
theorem q1602 : (Jvm.Cond.static ({ cls := "jdk/internal/util/ArraysSupport", name := "utf16hashCode", desc := "(I[BII)I" } : Jvm.MethodName)) ∈ lw_all := lw_g (lw_at lw_m7 68 rfl) rfl
theorem q1603 : (Jvm.Cond.code ({ cls := "jdk/internal/util/ArraysSupport", name := "utf16hashCode", desc := "(I[BII)I" } : Jvm.MethodName) prog_89_method_10_code (6 : Nat) (Option.some Jvm.ClassFile.FieldType.int)) ∈ lw_all := lw_g (lw_at lw_m7 69 rfl) rfl
theorem q1604 : (Jvm.Cond.fieldLink "jdk/internal/util/ArraysSupport" (106 : Nat) "jdk/internal/util/ArraysSupport" "JLA" "Ljdk/internal/access/JavaLangAccess;") ∈ lw_all := lw_g (lw_at lw_m7 70 rfl) rfl
theorem q1605 : (Jvm.Cond.laysStatic "jdk/internal/util/ArraysSupport" "JLA" "Ljdk/internal/access/JavaLangAccess;") ∈ lw_tbl := lw_at lw_m7 71 rfl
theorem q1606 : (Jvm.Cond.interfaceEntry "jdk/internal/util/ArraysSupport" (110 : Nat)) ∈ lw_tbl := lw_at lw_m7 72 rfl
theorem q1607 : (Jvm.Cond.methodLink "jdk/internal/util/ArraysSupport" (110 : Nat) ({ cls := "jdk/internal/access/JavaLangAccess", name := "getUTF16Char", desc := "([BI)C" } : Jvm.MethodName)) ∈ lw_all := lw_g (lw_at lw_m7 73 rfl) rfl
theorem q1617 : (Jvm.Cond.classLink "jdk/internal/util/ArraysSupport" (69 : Nat) "[C") ∈ lw_all := lw_g (lw_at lw_m7 83 rfl) rfl
theorem q1618 : (Jvm.Cond.methodLink "jdk/internal/util/ArraysSupport" (71 : Nat) ({ cls := "jdk/internal/util/ArraysSupport", name := "hashCode", desc := "(I[CII)I" } : Jvm.MethodName)) ∈ lw_all := lw_g (lw_at lw_m7 84 rfl) rfl
theorem q1619 : (Jvm.Cond.static ({ cls := "jdk/internal/util/ArraysSupport", name := "hashCode", desc := "(I[CII)I" } : Jvm.MethodName)) ∈ lw_all := lw_g (lw_at lw_m7 85 rfl) rfl
theorem q1620 : (Jvm.Cond.code ({ cls := "jdk/internal/util/ArraysSupport", name := "hashCode", desc := "(I[CII)I" } : Jvm.MethodName) prog_89_method_7_code (6 : Nat) (Option.some Jvm.ClassFile.FieldType.int)) ∈ lw_all := lw_g (lw_at lw_m7 86 rfl) rfl
theorem q1621 : (Jvm.Cond.methodLink "jdk/internal/util/ArraysSupport" (75 : Nat) ({ cls := "jdk/internal/util/ArraysSupport", name := "hashCode", desc := "(I[BII)I" } : Jvm.MethodName)) ∈ lw_all := lw_g (lw_at lw_m7 87 rfl) rfl
theorem q1622 : (Jvm.Cond.static ({ cls := "jdk/internal/util/ArraysSupport", name := "hashCode", desc := "(I[BII)I" } : Jvm.MethodName)) ∈ lw_all := lw_g (lw_at lw_m7 88 rfl) rfl
theorem q1623 : (Jvm.Cond.code ({ cls := "jdk/internal/util/ArraysSupport", name := "hashCode", desc := "(I[BII)I" } : Jvm.MethodName) prog_89_method_6_code (6 : Nat) (Option.some Jvm.ClassFile.FieldType.int)) ∈ lw_all := lw_g (lw_at lw_m7 89 rfl) rfl
theorem q1624 : (Jvm.Cond.classLink "jdk/internal/util/ArraysSupport" (77 : Nat) "[S") ∈ lw_all := lw_g (lw_at lw_m7 90 rfl) rfl
theorem q1625 : (Jvm.Cond.methodLink "jdk/internal/util/ArraysSupport" (79 : Nat) ({ cls := "jdk/internal/util/ArraysSupport", name := "hashCode", desc := "(I[SII)I" } : Jvm.MethodName)) ∈ lw_all := lw_g (lw_at lw_m7 91 rfl) rfl
theorem q1626 : (Jvm.Cond.static ({ cls := "jdk/internal/util/ArraysSupport", name := "hashCode", desc := "(I[SII)I" } : Jvm.MethodName)) ∈ lw_all := lw_g (lw_at lw_m7 92 rfl) rfl
theorem q1627 : (Jvm.Cond.code ({ cls := "jdk/internal/util/ArraysSupport", name := "hashCode", desc := "(I[SII)I" } : Jvm.MethodName) prog_89_method_8_code (6 : Nat) (Option.some Jvm.ClassFile.FieldType.int)) ∈ lw_all := lw_g (lw_at lw_m7 93 rfl) rfl
theorem q1628 : (Jvm.Cond.classLink "jdk/internal/util/ArraysSupport" (82 : Nat) "[I") ∈ lw_all := lw_g (lw_at lw_m7 94 rfl) rfl
theorem q1629 : (Jvm.Cond.methodLink "jdk/internal/util/ArraysSupport" (84 : Nat) ({ cls := "jdk/internal/util/ArraysSupport", name := "hashCode", desc := "(I[III)I" } : Jvm.MethodName)) ∈ lw_all := lw_g (lw_at lw_m7 95 rfl) rfl
theorem q1630 : (Jvm.Cond.static ({ cls := "jdk/internal/util/ArraysSupport", name := "hashCode", desc := "(I[III)I" } : Jvm.MethodName)) ∈ lw_all := lw_g (lw_at lw_m7 96 rfl) rfl
theorem q1631 : (Jvm.Cond.code ({ cls := "jdk/internal/util/ArraysSupport", name := "hashCode", desc := "(I[III)I" } : Jvm.MethodName) prog_89_method_9_code (6 : Nat) (Option.some Jvm.ClassFile.FieldType.int)) ∈ lw_all := lw_g (lw_at lw_m7 97 rfl) rfl
theorem q1632 : (Jvm.Cond.classLink "jdk/internal/util/ArraysSupport" (87 : Nat) "java/lang/IllegalArgumentException") ∈ lw_all := lw_g (lw_at lw_m7 98 rfl) rfl
theorem q1633 : (Jvm.Cond.classLink "jdk/internal/util/ArraysSupport" (89 : Nat) "java/lang/StringBuilder") ∈ lw_all := lw_g (lw_at lw_m7 99 rfl) rfl
theorem q1634 : (Jvm.Cond.methodLink "jdk/internal/util/ArraysSupport" (91 : Nat) ({ cls := "java/lang/StringBuilder", name := "<init>", desc := "()V" } : Jvm.MethodName)) ∈ lw_all := lw_g (lw_at lw_m7 100 rfl) rfl
theorem q1635 : (Jvm.Cond.stringRef "jdk/internal/util/ArraysSupport" (92 : Nat) "unrecognized basic type: ") ∈ lw_tbl := lw_at lw_m7 101 rfl
theorem q1636 : (Jvm.Cond.methodLink "jdk/internal/util/ArraysSupport" (94 : Nat) ({ cls := "java/lang/StringBuilder", name := "append", desc := "(Ljava/lang/String;)Ljava/lang/StringBuilder;" } : Jvm.MethodName)) ∈ lw_all := lw_g (lw_at lw_m7 102 rfl) rfl
theorem q1637 : (Jvm.Cond.methodLink "jdk/internal/util/ArraysSupport" (98 : Nat) ({ cls := "java/lang/StringBuilder", name := "append", desc := "(I)Ljava/lang/StringBuilder;" } : Jvm.MethodName)) ∈ lw_all := lw_g (lw_at lw_m7 103 rfl) rfl
theorem q1638 : (Jvm.Cond.methodLink "jdk/internal/util/ArraysSupport" (101 : Nat) ({ cls := "java/lang/StringBuilder", name := "toString", desc := "()Ljava/lang/String;" } : Jvm.MethodName)) ∈ lw_all := lw_g (lw_at lw_m7 104 rfl) rfl
theorem q1639 : (Jvm.Cond.methodLink "jdk/internal/util/ArraysSupport" (105 : Nat) ({ cls := "java/lang/IllegalArgumentException", name := "<init>", desc := "(Ljava/lang/String;)V" } : Jvm.MethodName)) ∈ lw_all := lw_g (lw_at lw_m7 105 rfl) rfl
theorem q1752 : (Jvm.Cond.static ({ cls := "jdk/internal/util/ArraysSupport", name := "mismatch", desc := "([B[BI)I" } : Jvm.MethodName)) ∈ lw_all := lw_g (lw_at lw_m7 218 rfl) rfl
theorem q1753 : (Jvm.Cond.code ({ cls := "jdk/internal/util/ArraysSupport", name := "mismatch", desc := "([B[BI)I" } : Jvm.MethodName) prog_89_method_13_code (4 : Nat) (Option.some Jvm.ClassFile.FieldType.int)) ∈ lw_all := lw_g (lw_at lw_m7 219 rfl) rfl
theorem q1754 : (Jvm.Cond.fieldLink "jdk/internal/util/ArraysSupport" (126 : Nat) "jdk/internal/misc/Unsafe" "ARRAY_BYTE_BASE_OFFSET" "I") ∈ lw_all := lw_g (lw_at lw_m7 220 rfl) rfl
theorem q1756 : (Jvm.Cond.fieldLink "jdk/internal/util/ArraysSupport" (129 : Nat) "jdk/internal/util/ArraysSupport" "LOG2_ARRAY_BYTE_INDEX_SCALE" "I") ∈ lw_all := lw_g (lw_at lw_m7 222 rfl) rfl
theorem q1757 : (Jvm.Cond.laysStatic "jdk/internal/util/ArraysSupport" "LOG2_ARRAY_BYTE_INDEX_SCALE" "I") ∈ lw_tbl := lw_at lw_m7 223 rfl
theorem q1758 : (Jvm.Cond.methodLink "jdk/internal/util/ArraysSupport" (122 : Nat) ({ cls := "jdk/internal/util/ArraysSupport", name := "vectorizedMismatch", desc := "(Ljava/lang/Object;JLjava/lang/Object;JII)I" } : Jvm.MethodName)) ∈ lw_all := lw_g (lw_at lw_m7 224 rfl) rfl
theorem q1759 : (Jvm.Cond.static ({ cls := "jdk/internal/util/ArraysSupport", name := "vectorizedMismatch", desc := "(Ljava/lang/Object;JLjava/lang/Object;JII)I" } : Jvm.MethodName)) ∈ lw_all := lw_g (lw_at lw_m7 225 rfl) rfl
theorem q1760 : (Jvm.Cond.code ({ cls := "jdk/internal/util/ArraysSupport", name := "vectorizedMismatch", desc := "(Ljava/lang/Object;JLjava/lang/Object;JII)I" } : Jvm.MethodName) prog_89_method_3_code (19 : Nat) (Option.some Jvm.ClassFile.FieldType.int)) ∈ lw_all := lw_g (lw_at lw_m7 226 rfl) rfl
theorem q1761 : (Jvm.Cond.fieldLink "jdk/internal/util/ArraysSupport" (20 : Nat) "jdk/internal/util/ArraysSupport" "LOG2_ARRAY_LONG_INDEX_SCALE" "I") ∈ lw_all := lw_g (lw_at lw_m7 227 rfl) rfl
theorem q1762 : (Jvm.Cond.laysStatic "jdk/internal/util/ArraysSupport" "LOG2_ARRAY_LONG_INDEX_SCALE" "I") ∈ lw_tbl := lw_at lw_m7 228 rfl
theorem q1763 : (Jvm.Cond.fieldLink "jdk/internal/util/ArraysSupport" (26 : Nat) "jdk/internal/util/ArraysSupport" "U" "Ljdk/internal/misc/Unsafe;") ∈ lw_all := lw_g (lw_at lw_m7 229 rfl) rfl
theorem q1764 : (Jvm.Cond.laysStatic "jdk/internal/util/ArraysSupport" "U" "Ljdk/internal/misc/Unsafe;") ∈ lw_tbl := lw_at lw_m7 230 rfl
theorem q1765 : (Jvm.Cond.methodLink "jdk/internal/util/ArraysSupport" (30 : Nat) ({ cls := "jdk/internal/misc/Unsafe", name := "getLongUnaligned", desc := "(Ljava/lang/Object;J)J" } : Jvm.MethodName)) ∈ lw_all := lw_g (lw_at lw_m7 231 rfl) rfl
theorem q1817 : (Jvm.Cond.fieldLink "jdk/internal/util/ArraysSupport" (36 : Nat) "jdk/internal/util/ArraysSupport" "BIG_ENDIAN" "Z") ∈ lw_all := lw_g (lw_at lw_m8 43 rfl) rfl
theorem q1818 : (Jvm.Cond.laysStatic "jdk/internal/util/ArraysSupport" "BIG_ENDIAN" "Z") ∈ lw_tbl := lw_at lw_m8 44 rfl
theorem q1819 : (Jvm.Cond.methodLink "jdk/internal/util/ArraysSupport" (40 : Nat) ({ cls := "java/lang/Long", name := "numberOfLeadingZeros", desc := "(J)I" } : Jvm.MethodName)) ∈ lw_all := lw_g (lw_at lw_m8 45 rfl) rfl
theorem q1825 : (Jvm.Cond.fieldLink "jdk/internal/util/ArraysSupport" (46 : Nat) "jdk/internal/util/ArraysSupport" "LOG2_BYTE_BIT_SIZE" "I") ∈ lw_all := lw_g (lw_at lw_m8 51 rfl) rfl
theorem q1826 : (Jvm.Cond.laysStatic "jdk/internal/util/ArraysSupport" "LOG2_BYTE_BIT_SIZE" "I") ∈ lw_tbl := lw_at lw_m8 52 rfl
theorem q1827 : (Jvm.Cond.methodLink "jdk/internal/util/ArraysSupport" (49 : Nat) ({ cls := "java/lang/Long", name := "numberOfTrailingZeros", desc := "(J)I" } : Jvm.MethodName)) ∈ lw_all := lw_g (lw_at lw_m8 53 rfl) rfl
theorem q1828 : (Jvm.Cond.fieldLink "jdk/internal/util/ArraysSupport" (51 : Nat) "jdk/internal/util/ArraysSupport" "LOG2_ARRAY_INT_INDEX_SCALE" "I") ∈ lw_all := lw_g (lw_at lw_m8 54 rfl) rfl
theorem q1829 : (Jvm.Cond.laysStatic "jdk/internal/util/ArraysSupport" "LOG2_ARRAY_INT_INDEX_SCALE" "I") ∈ lw_tbl := lw_at lw_m8 55 rfl
theorem q1830 : (Jvm.Cond.methodLink "jdk/internal/util/ArraysSupport" (54 : Nat) ({ cls := "jdk/internal/misc/Unsafe", name := "getIntUnaligned", desc := "(Ljava/lang/Object;J)I" } : Jvm.MethodName)) ∈ lw_all := lw_g (lw_at lw_m8 56 rfl) rfl
theorem q1847 : (Jvm.Cond.methodLink "jdk/internal/util/ArraysSupport" (58 : Nat) ({ cls := "java/lang/Integer", name := "numberOfLeadingZeros", desc := "(I)I" } : Jvm.MethodName)) ∈ lw_all := lw_g (lw_at lw_m8 73 rfl) rfl
theorem q1848 : (Jvm.Cond.methodLink "jdk/internal/util/ArraysSupport" (11 : Nat) ({ cls := "java/lang/Integer", name := "numberOfTrailingZeros", desc := "(I)I" } : Jvm.MethodName)) ∈ lw_all := lw_g (lw_at lw_m8 74 rfl) rfl

/-! java/util/Arrays -/
def RJ31 : String := "java/util/Arrays"
abbrev cJ31_copyOf : ByteArray := prog_56_method_121_code
def yJ31_copyOf : MethodName := ⟨RJ31, "copyOf", "([BI)[B"⟩
abbrev cJ31_copyOfRange : ByteArray := prog_56_method_132_code
def yJ31_copyOfRange : MethodName := ⟨RJ31, "copyOfRange", "([BII)[B"⟩
abbrev cJ31_copyOfRangeByte : ByteArray := prog_56_method_133_code
def yJ31_copyOfRangeByte : MethodName := ⟨RJ31, "copyOfRangeByte", "([BII)[B"⟩
abbrev cJ31_checkLength : ByteArray := prog_56_method_131_code
def yJ31_checkLength : MethodName := ⟨RJ31, "checkLength", "(II)V"⟩
abbrev cJ31_copyOf_2 : ByteArray := prog_56_method_124_code
def yJ31_copyOf_2 : MethodName := ⟨RJ31, "copyOf", "([JI)[J"⟩
abbrev cJ31_copyOf_3 : ByteArray := prog_56_method_119_code
def yJ31_copyOf_3 : MethodName := ⟨RJ31, "copyOf", "([Ljava/lang/Object;I)[Ljava/lang/Object;"⟩
abbrev cJ31_copyOf_4 : ByteArray := prog_56_method_120_code
def yJ31_copyOf_4 : MethodName := ⟨RJ31, "copyOf", "([Ljava/lang/Object;ILjava/lang/Class;)[Ljava/lang/Object;"⟩
abbrev cJ31_fill : ByteArray := prog_56_method_110_code
def yJ31_fill : MethodName := ⟨RJ31, "fill", "([BIIB)V"⟩
abbrev cJ31_rangeCheck : ByteArray := prog_56_method_30_code
def yJ31_rangeCheck : MethodName := ⟨RJ31, "rangeCheck", "(III)V"⟩
theorem q129 : (Jvm.Cond.initialized "java/util/Arrays") ∈ lw_all := lw_g (lw_at lw_m1 35 rfl) rfl
theorem q889 : (Jvm.Cond.static ({ cls := "java/util/Arrays", name := "copyOf", desc := "([BI)[B" } : Jvm.MethodName)) ∈ lw_all := lw_g (lw_at lw_m4 75 rfl) rfl
theorem q890 : (Jvm.Cond.code ({ cls := "java/util/Arrays", name := "copyOf", desc := "([BI)[B" } : Jvm.MethodName) prog_56_method_121_code (3 : Nat) (Option.some (Jvm.ClassFile.FieldType.array Jvm.ClassFile.FieldType.byte))) ∈ lw_all := lw_g (lw_at lw_m4 76 rfl) rfl
theorem q891 : (Jvm.Cond.methodLink "java/util/Arrays" (310 : Nat) ({ cls := "[B", name := "clone", desc := "()Ljava/lang/Object;" } : Jvm.MethodName)) ∈ lw_all := lw_g (lw_at lw_m4 77 rfl) rfl
theorem q897 : (Jvm.Cond.classLink "java/util/Arrays" (311 : Nat) "[B") ∈ lw_all := lw_g (lw_at lw_m4 83 rfl) rfl
theorem q898 : (Jvm.Cond.methodLink "java/util/Arrays" (304 : Nat) ({ cls := "java/lang/Math", name := "min", desc := "(II)I" } : Jvm.MethodName)) ∈ lw_all := lw_g (lw_at lw_m4 84 rfl) rfl
theorem q899 : (Jvm.Cond.methodLink "java/util/Arrays" (150 : Nat) ({ cls := "java/lang/System", name := "arraycopy", desc := "(Ljava/lang/Object;ILjava/lang/Object;II)V" } : Jvm.MethodName)) ∈ lw_all := lw_g (lw_at lw_m4 85 rfl) rfl
theorem q1029 : (Jvm.Cond.static ({ cls := "java/util/Arrays", name := "copyOfRange", desc := "([BII)[B" } : Jvm.MethodName)) ∈ lw_all := lw_g (lw_at lw_m4 215 rfl) rfl
theorem q1030 : (Jvm.Cond.code ({ cls := "java/util/Arrays", name := "copyOfRange", desc := "([BII)[B" } : Jvm.MethodName) prog_56_method_132_code (3 : Nat) (Option.some (Jvm.ClassFile.FieldType.array Jvm.ClassFile.FieldType.byte))) ∈ lw_all := lw_g (lw_at lw_m4 216 rfl) rfl
theorem q1031 : (Jvm.Cond.methodLink "java/util/Arrays" (339 : Nat) ({ cls := "java/util/Arrays", name := "copyOfRangeByte", desc := "([BII)[B" } : Jvm.MethodName)) ∈ lw_all := lw_g (lw_at lw_m4 217 rfl) rfl
theorem q1032 : (Jvm.Cond.static ({ cls := "java/util/Arrays", name := "copyOfRangeByte", desc := "([BII)[B" } : Jvm.MethodName)) ∈ lw_all := lw_g (lw_at lw_m4 218 rfl) rfl
theorem q1033 : (Jvm.Cond.code ({ cls := "java/util/Arrays", name := "copyOfRangeByte", desc := "([BII)[B" } : Jvm.MethodName) prog_56_method_133_code (5 : Nat) (Option.some (Jvm.ClassFile.FieldType.array Jvm.ClassFile.FieldType.byte))) ∈ lw_all := lw_g (lw_at lw_m4 219 rfl) rfl
theorem q1034 : (Jvm.Cond.methodLink "java/util/Arrays" (343 : Nat) ({ cls := "java/util/Arrays", name := "checkLength", desc := "(II)V" } : Jvm.MethodName)) ∈ lw_all := lw_g (lw_at lw_m4 220 rfl) rfl
theorem q1035 : (Jvm.Cond.static ({ cls := "java/util/Arrays", name := "checkLength", desc := "(II)V" } : Jvm.MethodName)) ∈ lw_all := lw_g (lw_at lw_m4 221 rfl) rfl
theorem q1036 : (Jvm.Cond.code ({ cls := "java/util/Arrays", name := "checkLength", desc := "(II)V" } : Jvm.MethodName) prog_56_method_131_code (2 : Nat) (Option.none : Option Jvm.ClassFile.FieldType)) ∈ lw_all := lw_g (lw_at lw_m4 222 rfl) rfl
theorem q1037 : (Jvm.Cond.classLink "java/util/Arrays" (43 : Nat) "java/lang/IllegalArgumentException") ∈ lw_all := lw_g (lw_at lw_m4 223 rfl) rfl
theorem q1046 : (Jvm.Cond.classLink "java/util/Arrays" (45 : Nat) "java/lang/StringBuilder") ∈ lw_all := lw_g (lw_at lw_m4 232 rfl) rfl
theorem q1047 : (Jvm.Cond.methodLink "java/util/Arrays" (47 : Nat) ({ cls := "java/lang/StringBuilder", name := "<init>", desc := "()V" } : Jvm.MethodName)) ∈ lw_all := lw_g (lw_at lw_m4 233 rfl) rfl
theorem q1048 : (Jvm.Cond.methodLink "java/util/Arrays" (54 : Nat) ({ cls := "java/lang/StringBuilder", name := "append", desc := "(I)Ljava/lang/StringBuilder;" } : Jvm.MethodName)) ∈ lw_all := lw_g (lw_at lw_m4 234 rfl) rfl
theorem q1049 : (Jvm.Cond.stringRef "java/util/Arrays" (337 : Nat) " > ") ∈ lw_tbl := lw_at lw_m4 235 rfl
theorem q1050 : (Jvm.Cond.methodLink "java/util/Arrays" (50 : Nat) ({ cls := "java/lang/StringBuilder", name := "append", desc := "(Ljava/lang/String;)Ljava/lang/StringBuilder;" } : Jvm.MethodName)) ∈ lw_all := lw_g (lw_at lw_m4 236 rfl) rfl
theorem q1051 : (Jvm.Cond.methodLink "java/util/Arrays" (61 : Nat) ({ cls := "java/lang/StringBuilder", name := "toString", desc := "()Ljava/lang/String;" } : Jvm.MethodName)) ∈ lw_all := lw_g (lw_at lw_m4 237 rfl) rfl
theorem q1052 : (Jvm.Cond.methodLink "java/util/Arrays" (65 : Nat) ({ cls := "java/lang/IllegalArgumentException", name := "<init>", desc := "(Ljava/lang/String;)V" } : Jvm.MethodName)) ∈ lw_all := lw_g (lw_at lw_m4 238 rfl) rfl
theorem q1111 : (Jvm.Cond.static ({ cls := "java/util/Arrays", name := "copyOf", desc := "([JI)[J" } : Jvm.MethodName)) ∈ lw_all := lw_g (lw_at lw_m5 57 rfl) rfl
theorem q1112 : (Jvm.Cond.code ({ cls := "java/util/Arrays", name := "copyOf", desc := "([JI)[J" } : Jvm.MethodName) prog_56_method_124_code (3 : Nat) (Option.some (Jvm.ClassFile.FieldType.array Jvm.ClassFile.FieldType.long))) ∈ lw_all := lw_g (lw_at lw_m5 58 rfl) rfl
theorem q1113 : (Jvm.Cond.methodLink "java/util/Arrays" (319 : Nat) ({ cls := "[J", name := "clone", desc := "()Ljava/lang/Object;" } : Jvm.MethodName)) ∈ lw_all := lw_g (lw_at lw_m5 59 rfl) rfl
theorem q1117 : (Jvm.Cond.classLink "java/util/Arrays" (320 : Nat) "[J") ∈ lw_all := lw_g (lw_at lw_m5 63 rfl) rfl
theorem q1231 : (Jvm.Cond.static ({ cls := "java/util/Arrays", name := "copyOf", desc := "([Ljava/lang/Object;I)[Ljava/lang/Object;" } : Jvm.MethodName)) ∈ lw_all := lw_g (lw_at lw_m5 177 rfl) rfl
theorem q1232 : (Jvm.Cond.code ({ cls := "java/util/Arrays", name := "copyOf", desc := "([Ljava/lang/Object;I)[Ljava/lang/Object;" } : Jvm.MethodName) prog_56_method_119_code (2 : Nat) (Option.some (Jvm.ClassFile.FieldType.array (Jvm.ClassFile.FieldType.object "java/lang/Object")))) ∈ lw_all := lw_g (lw_at lw_m5 178 rfl) rfl
theorem q1233 : (Jvm.Cond.methodLink "java/util/Arrays" (86 : Nat) ({ cls := "java/lang/Object", name := "getClass", desc := "()Ljava/lang/Class;" } : Jvm.MethodName)) ∈ lw_all := lw_g (lw_at lw_m5 179 rfl) rfl
theorem q1279 : (Jvm.Cond.methodLink "java/util/Arrays" (300 : Nat) ({ cls := "java/util/Arrays", name := "copyOf", desc := "([Ljava/lang/Object;ILjava/lang/Class;)[Ljava/lang/Object;" } : Jvm.MethodName)) ∈ lw_all := lw_g (lw_at lw_m5 225 rfl) rfl
theorem q1280 : (Jvm.Cond.static ({ cls := "java/util/Arrays", name := "copyOf", desc := "([Ljava/lang/Object;ILjava/lang/Class;)[Ljava/lang/Object;" } : Jvm.MethodName)) ∈ lw_all := lw_g (lw_at lw_m5 226 rfl) rfl
theorem q1281 : (Jvm.Cond.code ({ cls := "java/util/Arrays", name := "copyOf", desc := "([Ljava/lang/Object;ILjava/lang/Class;)[Ljava/lang/Object;" } : Jvm.MethodName) prog_56_method_120_code (4 : Nat) (Option.some (Jvm.ClassFile.FieldType.array (Jvm.ClassFile.FieldType.object "java/lang/Object")))) ∈ lw_all := lw_g (lw_at lw_m5 227 rfl) rfl
theorem q1282 : (Jvm.Cond.classLink "java/util/Arrays" (110 : Nat) "[Ljava/lang/Object;") ∈ lw_all := lw_g (lw_at lw_m5 228 rfl) rfl
theorem q1283 : (Jvm.Cond.classLink "java/util/Arrays" (2 : Nat) "java/lang/Object") ∈ lw_all := lw_g (lw_at lw_m5 229 rfl) rfl
theorem q3099 : (Jvm.Cond.static ({ cls := "java/util/Arrays", name := "fill", desc := "([BIIB)V" } : Jvm.MethodName)) ∈ lw_all := lw_g (lw_at lw_m13 125 rfl) rfl
theorem q3100 : (Jvm.Cond.code ({ cls := "java/util/Arrays", name := "fill", desc := "([BIIB)V" } : Jvm.MethodName) prog_56_method_110_code (5 : Nat) (Option.none : Option Jvm.ClassFile.FieldType)) ∈ lw_all := lw_g (lw_at lw_m13 126 rfl) rfl
theorem q3101 : (Jvm.Cond.methodLink "java/util/Arrays" (13 : Nat) ({ cls := "java/util/Arrays", name := "rangeCheck", desc := "(III)V" } : Jvm.MethodName)) ∈ lw_all := lw_g (lw_at lw_m13 127 rfl) rfl
theorem q3102 : (Jvm.Cond.static ({ cls := "java/util/Arrays", name := "rangeCheck", desc := "(III)V" } : Jvm.MethodName)) ∈ lw_all := lw_g (lw_at lw_m13 128 rfl) rfl
theorem q3103 : (Jvm.Cond.code ({ cls := "java/util/Arrays", name := "rangeCheck", desc := "(III)V" } : Jvm.MethodName) prog_56_method_30_code (3 : Nat) (Option.none : Option Jvm.ClassFile.FieldType)) ∈ lw_all := lw_g (lw_at lw_m13 129 rfl) rfl
theorem q3104 : (Jvm.Cond.stringRef "java/util/Arrays" (48 : Nat) "fromIndex(") ∈ lw_tbl := lw_at lw_m13 130 rfl
theorem q3105 : (Jvm.Cond.stringRef "java/util/Arrays" (57 : Nat) ") > toIndex(") ∈ lw_tbl := lw_at lw_m13 131 rfl
theorem q3106 : (Jvm.Cond.stringRef "java/util/Arrays" (59 : Nat) ")") ∈ lw_tbl := lw_at lw_m13 132 rfl
theorem q3107 : (Jvm.Cond.classLink "java/util/Arrays" (68 : Nat) "java/lang/ArrayIndexOutOfBoundsException") ∈ lw_all := lw_g (lw_at lw_m13 133 rfl) rfl
theorem q3108 : (Jvm.Cond.methodLink "java/util/Arrays" (70 : Nat) ({ cls := "java/lang/ArrayIndexOutOfBoundsException", name := "<init>", desc := "(I)V" } : Jvm.MethodName)) ∈ lw_all := lw_g (lw_at lw_m13 134 rfl) rfl

/-! jdk/internal/util/Preconditions -/
def RJ32 : String := "jdk/internal/util/Preconditions"
abbrev cJ32_checkFromToIndex : ByteArray := prog_90_method_12_code
def yJ32_checkFromToIndex : MethodName := ⟨RJ32, "checkFromToIndex", "(IIILjava/util/function/BiFunction;)I"⟩
abbrev cJ32_checkFromIndexSize : ByteArray := prog_90_method_13_code
def yJ32_checkFromIndexSize : MethodName := ⟨RJ32, "checkFromIndexSize", "(IIILjava/util/function/BiFunction;)I"⟩
abbrev cJ32_checkIndex : ByteArray := prog_90_method_11_code
def yJ32_checkIndex : MethodName := ⟨RJ32, "checkIndex", "(IILjava/util/function/BiFunction;)I"⟩
theorem q131 : (Jvm.Cond.initialized "jdk/internal/util/Preconditions") ∈ lw_all := lw_g (lw_at lw_m1 37 rfl) rfl
theorem q920 : (Jvm.Cond.laysStatic "jdk/internal/util/Preconditions" "SIOOBE_FORMATTER" "Ljava/util/function/BiFunction;") ∈ lw_tbl := lw_at lw_m4 106 rfl
theorem q922 : (Jvm.Cond.static ({ cls := "jdk/internal/util/Preconditions", name := "checkFromToIndex", desc := "(IIILjava/util/function/BiFunction;)I" } : Jvm.MethodName)) ∈ lw_all := lw_g (lw_at lw_m4 108 rfl) rfl
theorem q923 : (Jvm.Cond.code ({ cls := "jdk/internal/util/Preconditions", name := "checkFromToIndex", desc := "(IIILjava/util/function/BiFunction;)I" } : Jvm.MethodName) prog_90_method_12_code (4 : Nat) (Option.some Jvm.ClassFile.FieldType.int)) ∈ lw_all := lw_g (lw_at lw_m4 109 rfl) rfl
theorem q968 : (Jvm.Cond.static ({ cls := "jdk/internal/util/Preconditions", name := "checkFromIndexSize", desc := "(IIILjava/util/function/BiFunction;)I" } : Jvm.MethodName)) ∈ lw_all := lw_g (lw_at lw_m4 154 rfl) rfl
theorem q969 : (Jvm.Cond.code ({ cls := "jdk/internal/util/Preconditions", name := "checkFromIndexSize", desc := "(IIILjava/util/function/BiFunction;)I" } : Jvm.MethodName) prog_90_method_13_code (4 : Nat) (Option.some Jvm.ClassFile.FieldType.int)) ∈ lw_all := lw_g (lw_at lw_m4 155 rfl) rfl
theorem q1197 : (Jvm.Cond.static ({ cls := "jdk/internal/util/Preconditions", name := "checkIndex", desc := "(IILjava/util/function/BiFunction;)I" } : Jvm.MethodName)) ∈ lw_all := lw_g (lw_at lw_m5 143 rfl) rfl
theorem q1198 : (Jvm.Cond.code ({ cls := "jdk/internal/util/Preconditions", name := "checkIndex", desc := "(IILjava/util/function/BiFunction;)I" } : Jvm.MethodName) prog_90_method_11_code (3 : Nat) (Option.some Jvm.ClassFile.FieldType.int)) ∈ lw_all := lw_g (lw_at lw_m5 144 rfl) rfl

/-! java/lang/StringLatin1 -/
def RJ33 : String := "java/lang/StringLatin1"
abbrev cJ33_inflate : ByteArray := prog_40_method_50_code
def yJ33_inflate : MethodName := ⟨RJ33, "inflate", "([BI[BII)V"⟩
abbrev cJ33_hashCode : ByteArray := prog_40_method_21_code
def yJ33_hashCode : MethodName := ⟨RJ33, "hashCode", "([B)I"⟩
abbrev cJ33_equals : ByteArray := prog_40_method_13_code
def yJ33_equals : MethodName := ⟨RJ33, "equals", "([B[B)Z"⟩
abbrev cJ33_compareTo : ByteArray := prog_40_method_14_code
def yJ33_compareTo : MethodName := ⟨RJ33, "compareTo", "([B[B)I"⟩
abbrev cJ33_compareTo_2 : ByteArray := prog_40_method_15_code
def yJ33_compareTo_2 : MethodName := ⟨RJ33, "compareTo", "([B[BII)I"⟩
abbrev cJ33_getChar : ByteArray := prog_40_method_44_code
def yJ33_getChar : MethodName := ⟨RJ33, "getChar", "([BI)C"⟩
abbrev cJ33_compareToUTF16 : ByteArray := prog_40_method_16_code
def yJ33_compareToUTF16 : MethodName := ⟨RJ33, "compareToUTF16", "([B[B)I"⟩
abbrev cJ33_length : ByteArray := prog_40_method_5_code
def yJ33_length : MethodName := ⟨RJ33, "length", "([B)I"⟩
abbrev cJ33_compareToUTF16Values : ByteArray := prog_40_method_18_code
def yJ33_compareToUTF16Values : MethodName := ⟨RJ33, "compareToUTF16Values", "([B[BII)I"⟩
abbrev cJ33_compareToUTF16_2 : ByteArray := prog_40_method_17_code
def yJ33_compareToUTF16_2 : MethodName := ⟨RJ33, "compareToUTF16", "([B[BII)I"⟩
abbrev cJ33_canEncode : ByteArray := prog_40_method_3_code
def yJ33_canEncode : MethodName := ⟨RJ33, "canEncode", "(C)Z"⟩
abbrev cJ33_charAt : ByteArray := prog_40_method_2_code
def yJ33_charAt : MethodName := ⟨RJ33, "charAt", "([BI)C"⟩
abbrev cJ33_fillNull : ByteArray := prog_40_method_48_code
def yJ33_fillNull : MethodName := ⟨RJ33, "fillNull", "([BII)V"⟩
theorem q132 : (Jvm.Cond.initialized "java/lang/StringLatin1") ∈ lw_all := lw_g (lw_at lw_m1 38 rfl) rfl
theorem q956 : (Jvm.Cond.static ({ cls := "java/lang/StringLatin1", name := "inflate", desc := "([BI[BII)V" } : Jvm.MethodName)) ∈ lw_all := lw_g (lw_at lw_m4 142 rfl) rfl
theorem q957 : (Jvm.Cond.code ({ cls := "java/lang/StringLatin1", name := "inflate", desc := "([BI[BII)V" } : Jvm.MethodName) prog_40_method_50_code (5 : Nat) (Option.none : Option Jvm.ClassFile.FieldType)) ∈ lw_all := lw_g (lw_at lw_m4 143 rfl) rfl
theorem q958 : (Jvm.Cond.methodLink "java/lang/StringLatin1" (240 : Nat) ({ cls := "java/lang/StringUTF16", name := "inflate", desc := "([BI[BII)V" } : Jvm.MethodName)) ∈ lw_all := lw_g (lw_at lw_m4 144 rfl) rfl
theorem q1592 : (Jvm.Cond.static ({ cls := "java/lang/StringLatin1", name := "hashCode", desc := "([B)I" } : Jvm.MethodName)) ∈ lw_all := lw_g (lw_at lw_m7 58 rfl) rfl
theorem q1593 : (Jvm.Cond.code ({ cls := "java/lang/StringLatin1", name := "hashCode", desc := "([B)I" } : Jvm.MethodName) prog_40_method_21_code (1 : Nat) (Option.some Jvm.ClassFile.FieldType.int)) ∈ lw_all := lw_g (lw_at lw_m7 59 rfl) rfl
theorem q1594 : (Jvm.Cond.methodLink "java/lang/StringLatin1" (84 : Nat) ({ cls := "jdk/internal/util/ArraysSupport", name := "vectorizedHashCode", desc := "(Ljava/lang/Object;IIII)I" } : Jvm.MethodName)) ∈ lw_all := lw_g (lw_at lw_m7 60 rfl) rfl
theorem q1686 : (Jvm.Cond.static ({ cls := "java/lang/StringLatin1", name := "equals", desc := "([B[B)Z" } : Jvm.MethodName)) ∈ lw_all := lw_g (lw_at lw_m7 152 rfl) rfl
theorem q1687 : (Jvm.Cond.code ({ cls := "java/lang/StringLatin1", name := "equals", desc := "([B[B)Z" } : Jvm.MethodName) prog_40_method_13_code (3 : Nat) (Option.some Jvm.ClassFile.FieldType.boolean)) ∈ lw_all := lw_g (lw_at lw_m7 153 rfl) rfl
theorem q1745 : (Jvm.Cond.static ({ cls := "java/lang/StringLatin1", name := "compareTo", desc := "([B[B)I" } : Jvm.MethodName)) ∈ lw_all := lw_g (lw_at lw_m7 211 rfl) rfl
theorem q1746 : (Jvm.Cond.code ({ cls := "java/lang/StringLatin1", name := "compareTo", desc := "([B[B)I" } : Jvm.MethodName) prog_40_method_14_code (4 : Nat) (Option.some Jvm.ClassFile.FieldType.int)) ∈ lw_all := lw_g (lw_at lw_m7 212 rfl) rfl
theorem q1747 : (Jvm.Cond.methodLink "java/lang/StringLatin1" (34 : Nat) ({ cls := "java/lang/StringLatin1", name := "compareTo", desc := "([B[BII)I" } : Jvm.MethodName)) ∈ lw_all := lw_g (lw_at lw_m7 213 rfl) rfl
theorem q1748 : (Jvm.Cond.static ({ cls := "java/lang/StringLatin1", name := "compareTo", desc := "([B[BII)I" } : Jvm.MethodName)) ∈ lw_all := lw_g (lw_at lw_m7 214 rfl) rfl
theorem q1749 : (Jvm.Cond.code ({ cls := "java/lang/StringLatin1", name := "compareTo", desc := "([B[BII)I" } : Jvm.MethodName) prog_40_method_15_code (6 : Nat) (Option.some Jvm.ClassFile.FieldType.int)) ∈ lw_all := lw_g (lw_at lw_m7 215 rfl) rfl
theorem q1750 : (Jvm.Cond.methodLink "java/lang/StringLatin1" (38 : Nat) ({ cls := "java/lang/Math", name := "min", desc := "(II)I" } : Jvm.MethodName)) ∈ lw_all := lw_g (lw_at lw_m7 216 rfl) rfl
theorem q1751 : (Jvm.Cond.methodLink "java/lang/StringLatin1" (44 : Nat) ({ cls := "jdk/internal/util/ArraysSupport", name := "mismatch", desc := "([B[BI)I" } : Jvm.MethodName)) ∈ lw_all := lw_g (lw_at lw_m7 217 rfl) rfl
theorem q1849 : (Jvm.Cond.methodLink "java/lang/StringLatin1" (50 : Nat) ({ cls := "java/lang/StringLatin1", name := "getChar", desc := "([BI)C" } : Jvm.MethodName)) ∈ lw_all := lw_g (lw_at lw_m8 75 rfl) rfl
theorem q1850 : (Jvm.Cond.static ({ cls := "java/lang/StringLatin1", name := "getChar", desc := "([BI)C" } : Jvm.MethodName)) ∈ lw_all := lw_g (lw_at lw_m8 76 rfl) rfl
theorem q1851 : (Jvm.Cond.code ({ cls := "java/lang/StringLatin1", name := "getChar", desc := "([BI)C" } : Jvm.MethodName) prog_40_method_44_code (2 : Nat) (Option.some Jvm.ClassFile.FieldType.char)) ∈ lw_all := lw_g (lw_at lw_m8 77 rfl) rfl
theorem q1860 : (Jvm.Cond.static ({ cls := "java/lang/StringLatin1", name := "compareToUTF16", desc := "([B[B)I" } : Jvm.MethodName)) ∈ lw_all := lw_g (lw_at lw_m8 86 rfl) rfl
theorem q1861 : (Jvm.Cond.code ({ cls := "java/lang/StringLatin1", name := "compareToUTF16", desc := "([B[B)I" } : Jvm.MethodName) prog_40_method_16_code (4 : Nat) (Option.some Jvm.ClassFile.FieldType.int)) ∈ lw_all := lw_g (lw_at lw_m8 87 rfl) rfl
theorem q1862 : (Jvm.Cond.methodLink "java/lang/StringLatin1" (54 : Nat) ({ cls := "java/lang/StringLatin1", name := "length", desc := "([B)I" } : Jvm.MethodName)) ∈ lw_all := lw_g (lw_at lw_m8 88 rfl) rfl
theorem q1863 : (Jvm.Cond.static ({ cls := "java/lang/StringLatin1", name := "length", desc := "([B)I" } : Jvm.MethodName)) ∈ lw_all := lw_g (lw_at lw_m8 89 rfl) rfl
theorem q1864 : (Jvm.Cond.code ({ cls := "java/lang/StringLatin1", name := "length", desc := "([B)I" } : Jvm.MethodName) prog_40_method_5_code (1 : Nat) (Option.some Jvm.ClassFile.FieldType.int)) ∈ lw_all := lw_g (lw_at lw_m8 90 rfl) rfl
theorem q1865 : (Jvm.Cond.methodLink "java/lang/StringLatin1" (58 : Nat) ({ cls := "java/lang/StringUTF16", name := "length", desc := "([B)I" } : Jvm.MethodName)) ∈ lw_all := lw_g (lw_at lw_m8 91 rfl) rfl
theorem q1866 : (Jvm.Cond.methodLink "java/lang/StringLatin1" (59 : Nat) ({ cls := "java/lang/StringLatin1", name := "compareToUTF16Values", desc := "([B[BII)I" } : Jvm.MethodName)) ∈ lw_all := lw_g (lw_at lw_m8 92 rfl) rfl
theorem q1867 : (Jvm.Cond.static ({ cls := "java/lang/StringLatin1", name := "compareToUTF16Values", desc := "([B[BII)I" } : Jvm.MethodName)) ∈ lw_all := lw_g (lw_at lw_m8 93 rfl) rfl
theorem q1868 : (Jvm.Cond.code ({ cls := "java/lang/StringLatin1", name := "compareToUTF16Values", desc := "([B[BII)I" } : Jvm.MethodName) prog_40_method_18_code (8 : Nat) (Option.some Jvm.ClassFile.FieldType.int)) ∈ lw_all := lw_g (lw_at lw_m8 94 rfl) rfl
theorem q1869 : (Jvm.Cond.methodLink "java/lang/StringLatin1" (65 : Nat) ({ cls := "java/lang/StringUTF16", name := "getChar", desc := "([BI)C" } : Jvm.MethodName)) ∈ lw_all := lw_g (lw_at lw_m8 95 rfl) rfl
theorem q1899 : (Jvm.Cond.static ({ cls := "java/lang/StringLatin1", name := "compareToUTF16", desc := "([B[BII)I" } : Jvm.MethodName)) ∈ lw_all := lw_g (lw_at lw_m8 125 rfl) rfl
theorem q1900 : (Jvm.Cond.code ({ cls := "java/lang/StringLatin1", name := "compareToUTF16", desc := "([B[BII)I" } : Jvm.MethodName) prog_40_method_17_code (4 : Nat) (Option.some Jvm.ClassFile.FieldType.int)) ∈ lw_all := lw_g (lw_at lw_m8 126 rfl) rfl
theorem q1901 : (Jvm.Cond.methodLink "java/lang/StringLatin1" (62 : Nat) ({ cls := "java/lang/String", name := "checkOffset", desc := "(II)V" } : Jvm.MethodName)) ∈ lw_all := lw_g (lw_at lw_m8 127 rfl) rfl
theorem q1914 : (Jvm.Cond.static ({ cls := "java/lang/StringLatin1", name := "canEncode", desc := "(C)Z" } : Jvm.MethodName)) ∈ lw_all := lw_g (lw_at lw_m8 140 rfl) rfl
theorem q1915 : (Jvm.Cond.code ({ cls := "java/lang/StringLatin1", name := "canEncode", desc := "(C)Z" } : Jvm.MethodName) prog_40_method_3_code (1 : Nat) (Option.some Jvm.ClassFile.FieldType.boolean)) ∈ lw_all := lw_g (lw_at lw_m8 141 rfl) rfl
theorem q2949 : (Jvm.Cond.static ({ cls := "java/lang/StringLatin1", name := "charAt", desc := "([BI)C" } : Jvm.MethodName)) ∈ lw_all := lw_g (lw_at lw_m12 215 rfl) rfl
theorem q2950 : (Jvm.Cond.code ({ cls := "java/lang/StringLatin1", name := "charAt", desc := "([BI)C" } : Jvm.MethodName) prog_40_method_2_code (2 : Nat) (Option.some Jvm.ClassFile.FieldType.char)) ∈ lw_all := lw_g (lw_at lw_m12 216 rfl) rfl
theorem q2951 : (Jvm.Cond.methodLink "java/lang/StringLatin1" (9 : Nat) ({ cls := "java/lang/String", name := "checkIndex", desc := "(II)V" } : Jvm.MethodName)) ∈ lw_all := lw_g (lw_at lw_m12 217 rfl) rfl
theorem q3096 : (Jvm.Cond.static ({ cls := "java/lang/StringLatin1", name := "fillNull", desc := "([BII)V" } : Jvm.MethodName)) ∈ lw_all := lw_g (lw_at lw_m13 122 rfl) rfl
theorem q3097 : (Jvm.Cond.code ({ cls := "java/lang/StringLatin1", name := "fillNull", desc := "([BII)V" } : Jvm.MethodName) prog_40_method_48_code (3 : Nat) (Option.none : Option Jvm.ClassFile.FieldType)) ∈ lw_all := lw_g (lw_at lw_m13 123 rfl) rfl
theorem q3098 : (Jvm.Cond.methodLink "java/lang/StringLatin1" (236 : Nat) ({ cls := "java/util/Arrays", name := "fill", desc := "([BIIB)V" } : Jvm.MethodName)) ∈ lw_all := lw_g (lw_at lw_m13 124 rfl) rfl

/-! java/lang/IllegalArgumentException -/
def RJ34 : String := "java/lang/IllegalArgumentException"
def TJ34 : u_T := fun k => match k with
  | 0 => ("java/lang/Throwable", "cause", "Ljava/lang/Throwable;", false)
  | 1 => ("java/lang/Throwable", "stackTrace", "[Ljava/lang/StackTraceElement;", false)
  | 2 => ("java/lang/Throwable", "suppressedExceptions", "Ljava/util/List;", false)
  | 3 => ("java/lang/Throwable", "detailMessage", "Ljava/lang/String;", false)
  | 4 => ("java/lang/Throwable", "backtrace", "Ljava/lang/Object;", false)
  | _ => ("java/lang/Throwable", "depth", "I", false)
def tyJ34 : Nat → FieldType := fun k => match k with
  | 0 => .object "java/lang/Throwable"
  | 1 => .array (.object "java/lang/StackTraceElement")
  | 2 => .object "java/util/List"
  | 3 => .object "java/lang/String"
  | 4 => .object "java/lang/Object"
  | _ => .int
abbrev wsJ340 : List Cond := u_ws RJ34 TJ34 6
theorem nmJ34 : ∀ a, a < 6 → ∀ b, b < 6 → a ≠ b → (TJ34 a).2.1 ≠ (TJ34 b).2.1 := by decide +kernel
theorem tyJ34_ok : ∀ k, k < 6 → parseFieldDescriptor (TJ34 k).2.2.1 = some (tyJ34 k) := by decide +kernel
abbrev cJ34_init : ByteArray := prog_27_method_2_code
def yJ34_init : MethodName := ⟨RJ34, "<init>", "(Ljava/lang/String;)V"⟩
abbrev cJ34_init_2 : ByteArray := prog_27_method_1_code
def yJ34_init_2 : MethodName := ⟨RJ34, "<init>", "()V"⟩
theorem q133 : (Jvm.Cond.initialized "java/lang/IllegalArgumentException") ∈ lw_all := lw_g (lw_at lw_m1 39 rfl) rfl
theorem q744 : (Jvm.Cond.selects "java/lang/IllegalArgumentException" ({ cls := "java/lang/Throwable", name := "fillInStackTrace", desc := "()Ljava/lang/Throwable;" } : Jvm.MethodName) ({ cls := "java/lang/Throwable", name := "fillInStackTrace", desc := "()Ljava/lang/Throwable;" } : Jvm.MethodName)) ∈ lw_all := lw_g (lw_at lw_m3 170 rfl) rfl
theorem q1038 : (Jvm.Cond.instantiable "java/lang/IllegalArgumentException" (6 : Nat)) ∈ lw_all := lw_g (lw_at lw_m4 224 rfl) rfl
theorem q1039 : (Jvm.Cond.castable "java/lang/IllegalArgumentException" "java/lang/IllegalArgumentException") ∈ lw_tbl := lw_at lw_m4 225 rfl
theorem q1040 : (Jvm.Cond.selects "java/lang/IllegalArgumentException" ({ cls := "java/lang/Throwable", name := "fillInStackTrace", desc := "(I)Ljava/lang/Throwable;" } : Jvm.MethodName) ({ cls := "java/lang/Throwable", name := "fillInStackTrace", desc := "(I)Ljava/lang/Throwable;" } : Jvm.MethodName)) ∈ lw_all := lw_g (lw_at lw_m4 226 rfl) rfl
theorem q1041 : (Jvm.Cond.lays "java/lang/IllegalArgumentException" "java/lang/Throwable" "cause" "Ljava/lang/Throwable;") ∈ lw_all := lw_g (lw_at lw_m4 227 rfl) rfl
theorem q1042 : (Jvm.Cond.lays "java/lang/IllegalArgumentException" "java/lang/Throwable" "stackTrace" "[Ljava/lang/StackTraceElement;") ∈ lw_all := lw_g (lw_at lw_m4 228 rfl) rfl
theorem q1043 : (Jvm.Cond.lays "java/lang/IllegalArgumentException" "java/lang/Throwable" "suppressedExceptions" "Ljava/util/List;") ∈ lw_all := lw_g (lw_at lw_m4 229 rfl) rfl
theorem q1044 : (Jvm.Cond.lays "java/lang/IllegalArgumentException" "java/lang/Throwable" "detailMessage" "Ljava/lang/String;") ∈ lw_all := lw_g (lw_at lw_m4 230 rfl) rfl
theorem q1045 : (Jvm.Cond.lays "java/lang/IllegalArgumentException" "java/lang/Throwable" "backtrace" "Ljava/lang/Object;") ∈ lw_all := lw_g (lw_at lw_m4 231 rfl) rfl
theorem q1053 : (Jvm.Cond.instanceMethod ({ cls := "java/lang/IllegalArgumentException", name := "<init>", desc := "(Ljava/lang/String;)V" } : Jvm.MethodName)) ∈ lw_all := lw_g (lw_at lw_m4 239 rfl) rfl
theorem q1054 : (Jvm.Cond.code ({ cls := "java/lang/IllegalArgumentException", name := "<init>", desc := "(Ljava/lang/String;)V" } : Jvm.MethodName) prog_27_method_2_code (2 : Nat) (Option.none : Option Jvm.ClassFile.FieldType)) ∈ lw_all := lw_g (lw_at lw_m5 0 rfl) rfl
theorem q1055 : (Jvm.Cond.methodLink "java/lang/IllegalArgumentException" (7 : Nat) ({ cls := "java/lang/RuntimeException", name := "<init>", desc := "(Ljava/lang/String;)V" } : Jvm.MethodName)) ∈ lw_all := lw_g (lw_at lw_m5 1 rfl) rfl
theorem q1064 : (Jvm.Cond.lays "java/lang/IllegalArgumentException" "java/lang/Throwable" "depth" "I") ∈ lw_all := lw_g (lw_at lw_m5 10 rfl) rfl
theorem q1065 : (Jvm.Cond.superclass "java/lang/IllegalArgumentException" "java/lang/RuntimeException") ∈ lw_all := lw_g (lw_at lw_m5 11 rfl) rfl
theorem q1250 : (Jvm.Cond.selects "java/lang/IllegalArgumentException" ({ cls := "java/lang/Object", name := "getClass", desc := "()Ljava/lang/Class;" } : Jvm.MethodName) ({ cls := "java/lang/Object", name := "getClass", desc := "()Ljava/lang/Class;" } : Jvm.MethodName)) ∈ lw_all := lw_g (lw_at lw_m5 196 rfl) rfl
theorem q1575 : (Jvm.Cond.selects "java/lang/IllegalArgumentException" ({ cls := "java/lang/Object", name := "hashCode", desc := "()I" } : Jvm.MethodName) ({ cls := "java/lang/Object", name := "hashCode", desc := "()I" } : Jvm.MethodName)) ∈ lw_all := lw_g (lw_at lw_m7 41 rfl) rfl
theorem q1671 : (Jvm.Cond.selects "java/lang/IllegalArgumentException" ({ cls := "java/lang/Object", name := "equals", desc := "(Ljava/lang/Object;)Z" } : Jvm.MethodName) ({ cls := "java/lang/Object", name := "equals", desc := "(Ljava/lang/Object;)Z" } : Jvm.MethodName)) ∈ lw_all := lw_g (lw_at lw_m7 137 rfl) rfl
theorem q2284 : (Jvm.Cond.instanceMethod ({ cls := "java/lang/IllegalArgumentException", name := "<init>", desc := "()V" } : Jvm.MethodName)) ∈ lw_all := lw_g (lw_at lw_m10 30 rfl) rfl
theorem q2285 : (Jvm.Cond.code ({ cls := "java/lang/IllegalArgumentException", name := "<init>", desc := "()V" } : Jvm.MethodName) prog_27_method_1_code (1 : Nat) (Option.none : Option Jvm.ClassFile.FieldType)) ∈ lw_all := lw_g (lw_at lw_m10 31 rfl) rfl
theorem q2286 : (Jvm.Cond.methodLink "java/lang/IllegalArgumentException" (1 : Nat) ({ cls := "java/lang/RuntimeException", name := "<init>", desc := "()V" } : Jvm.MethodName)) ∈ lw_all := lw_g (lw_at lw_m10 32 rfl) rfl
theorem q3814 : (Jvm.Cond.castable "java/lang/IllegalArgumentException" "java/lang/Object") ∈ lw_tbl := lw_at lw_m16 120 rfl
theorem in_J34 : ∀ w ∈ wsJ340, w ∈ lw_all := lw_in wsJ340 [1041, 1042, 1043, 1044, 1045, 1064] (by decide +kernel) (by decide +kernel)

/-! java/lang/Long -/
def RJ35 : String := "java/lang/Long"
abbrev cJ35_numberOfTrailingZeros : ByteArray := prog_33_method_49_code
def yJ35_numberOfTrailingZeros : MethodName := ⟨RJ35, "numberOfTrailingZeros", "(J)I"⟩
abbrev cJ35_bitCount : ByteArray := prog_33_method_50_code
def yJ35_bitCount : MethodName := ⟨RJ35, "bitCount", "(J)I"⟩
abbrev cJ35_numberOfLeadingZeros : ByteArray := prog_33_method_48_code
def yJ35_numberOfLeadingZeros : MethodName := ⟨RJ35, "numberOfLeadingZeros", "(J)I"⟩
theorem q134 : (Jvm.Cond.initialized "java/lang/Long") ∈ lw_all := lw_g (lw_at lw_m1 40 rfl) rfl
theorem q1130 : (Jvm.Cond.static ({ cls := "java/lang/Long", name := "numberOfTrailingZeros", desc := "(J)I" } : Jvm.MethodName)) ∈ lw_all := lw_g (lw_at lw_m5 76 rfl) rfl
theorem q1131 : (Jvm.Cond.code ({ cls := "java/lang/Long", name := "numberOfTrailingZeros", desc := "(J)I" } : Jvm.MethodName) prog_33_method_49_code (3 : Nat) (Option.some Jvm.ClassFile.FieldType.int)) ∈ lw_all := lw_g (lw_at lw_m5 77 rfl) rfl
theorem q1132 : (Jvm.Cond.methodLink "java/lang/Long" (311 : Nat) ({ cls := "java/lang/Integer", name := "numberOfTrailingZeros", desc := "(I)I" } : Jvm.MethodName)) ∈ lw_all := lw_g (lw_at lw_m5 78 rfl) rfl
theorem q1453 : (Jvm.Cond.static ({ cls := "java/lang/Long", name := "bitCount", desc := "(J)I" } : Jvm.MethodName)) ∈ lw_all := lw_g (lw_at lw_m6 159 rfl) rfl
theorem q1454 : (Jvm.Cond.code ({ cls := "java/lang/Long", name := "bitCount", desc := "(J)I" } : Jvm.MethodName) prog_33_method_50_code (2 : Nat) (Option.some Jvm.ClassFile.FieldType.int)) ∈ lw_all := lw_g (lw_at lw_m6 160 rfl) rfl
theorem q1455 : (Jvm.Cond.constantLong "java/lang/Long" (314 : Nat) (6148914691236517205 : Int64)) ∈ lw_all := lw_g (lw_at lw_m6 161 rfl) rfl
theorem q1456 : (Jvm.Cond.constantLong "java/lang/Long" (316 : Nat) (3689348814741910323 : Int64)) ∈ lw_all := lw_g (lw_at lw_m6 162 rfl) rfl
theorem q1457 : (Jvm.Cond.constantLong "java/lang/Long" (318 : Nat) (1085102592571150095 : Int64)) ∈ lw_all := lw_g (lw_at lw_m6 163 rfl) rfl
theorem q1820 : (Jvm.Cond.static ({ cls := "java/lang/Long", name := "numberOfLeadingZeros", desc := "(J)I" } : Jvm.MethodName)) ∈ lw_all := lw_g (lw_at lw_m8 46 rfl) rfl
theorem q1821 : (Jvm.Cond.code ({ cls := "java/lang/Long", name := "numberOfLeadingZeros", desc := "(J)I" } : Jvm.MethodName) prog_33_method_48_code (3 : Nat) (Option.some Jvm.ClassFile.FieldType.int)) ∈ lw_all := lw_g (lw_at lw_m8 47 rfl) rfl
theorem q1822 : (Jvm.Cond.methodLink "java/lang/Long" (308 : Nat) ({ cls := "java/lang/Integer", name := "numberOfLeadingZeros", desc := "(I)I" } : Jvm.MethodName)) ∈ lw_all := lw_g (lw_at lw_m8 48 rfl) rfl

/-! java/util/AbstractList -/
def RJ36 : String := "java/util/AbstractList"
abbrev cJ36_init : ByteArray := prog_49_method_1_code
def yJ36_init : MethodName := ⟨RJ36, "<init>", "()V"⟩
theorem q135 : (Jvm.Cond.initialized "java/util/AbstractList") ∈ lw_all := lw_g (lw_at lw_m1 41 rfl) rfl
theorem q1152 : (Jvm.Cond.instanceMethod ({ cls := "java/util/AbstractList", name := "<init>", desc := "()V" } : Jvm.MethodName)) ∈ lw_all := lw_g (lw_at lw_m5 98 rfl) rfl
theorem q1153 : (Jvm.Cond.code ({ cls := "java/util/AbstractList", name := "<init>", desc := "()V" } : Jvm.MethodName) prog_49_method_1_code (1 : Nat) (Option.none : Option Jvm.ClassFile.FieldType)) ∈ lw_all := lw_g (lw_at lw_m5 99 rfl) rfl
theorem q1154 : (Jvm.Cond.methodLink "java/util/AbstractList" (1 : Nat) ({ cls := "java/util/AbstractCollection", name := "<init>", desc := "()V" } : Jvm.MethodName)) ∈ lw_all := lw_g (lw_at lw_m5 100 rfl) rfl
theorem q1170 : (Jvm.Cond.fieldLink "java/util/AbstractList" (7 : Nat) "java/util/AbstractList" "modCount" "I") ∈ lw_all := lw_g (lw_at lw_m5 116 rfl) rfl
theorem q1179 : (Jvm.Cond.soleField "java/util/AbstractList" "modCount") ∈ lw_all := lw_g (lw_at lw_m5 125 rfl) rfl

/-! java/util/ArrayList -/
def RJ37 : String := "java/util/ArrayList"
def TJ37 : u_T := fun k => match k with
  | 0 => ("java/util/AbstractList", "modCount", "I", false)
  | 1 => ("java/util/ArrayList", "elementData", "[Ljava/lang/Object;", false)
  | _ => ("java/util/ArrayList", "size", "I", false)
def tyJ37 : Nat → FieldType := fun k => match k with
  | 0 => .int
  | 1 => .array (.object "java/lang/Object")
  | _ => .int
abbrev wsJ370 : List Cond := u_ws RJ37 TJ37 3
theorem nmJ37 : ∀ a, a < 3 → ∀ b, b < 3 → a ≠ b → (TJ37 a).2.1 ≠ (TJ37 b).2.1 := by decide +kernel
theorem tyJ37_ok : ∀ k, k < 3 → parseFieldDescriptor (TJ37 k).2.2.1 = some (tyJ37 k) := by decide +kernel
abbrev cJ37_iterator : ByteArray := prog_54_method_55_code
def yJ37_iterator : MethodName := ⟨RJ37, "iterator", "()Ljava/util/Iterator;"⟩
abbrev cJ37_init : ByteArray := prog_54_method_1_code
def yJ37_init : MethodName := ⟨RJ37, "<init>", "(I)V"⟩
abbrev cJ37_size : ByteArray := prog_54_method_8_code
def yJ37_size : MethodName := ⟨RJ37, "size", "()I"⟩
abbrev cJ37_get : ByteArray := prog_54_method_20_code
def yJ37_get : MethodName := ⟨RJ37, "get", "(I)Ljava/lang/Object;"⟩
abbrev cJ37_elementData : ByteArray := prog_54_method_18_code
def yJ37_elementData : MethodName := ⟨RJ37, "elementData", "(I)Ljava/lang/Object;"⟩
abbrev cJ37_add : ByteArray := prog_54_method_26_code
def yJ37_add : MethodName := ⟨RJ37, "add", "(ILjava/lang/Object;)V"⟩
abbrev cJ37_rangeCheckForAdd : ByteArray := prog_54_method_45_code
def yJ37_rangeCheckForAdd : MethodName := ⟨RJ37, "rangeCheckForAdd", "(I)V"⟩
abbrev cJ37_outOfBoundsMsg : ByteArray := prog_54_method_46_code
def yJ37_outOfBoundsMsg : MethodName := ⟨RJ37, "outOfBoundsMsg", "(I)Ljava/lang/String;"⟩
abbrev cJ37_grow : ByteArray := prog_54_method_7_code
def yJ37_grow : MethodName := ⟨RJ37, "grow", "()[Ljava/lang/Object;"⟩
abbrev cJ37_grow_2 : ByteArray := prog_54_method_6_code
def yJ37_grow_2 : MethodName := ⟨RJ37, "grow", "(I)[Ljava/lang/Object;"⟩
abbrev cJ37_add_2 : ByteArray := prog_54_method_25_code
def yJ37_add_2 : MethodName := ⟨RJ37, "add", "(Ljava/lang/Object;)Z"⟩
abbrev cJ37_add_3 : ByteArray := prog_54_method_24_code
def yJ37_add_3 : MethodName := ⟨RJ37, "add", "(Ljava/lang/Object;[Ljava/lang/Object;I)V"⟩
theorem q136 : (Jvm.Cond.initialized "java/util/ArrayList") ∈ lw_all := lw_g (lw_at lw_m1 42 rfl) rfl
theorem q471 : (Jvm.Cond.castable "java/util/ArrayList" "java/util/Collection") ∈ lw_tbl := lw_at lw_m2 137 rfl
theorem q472 : (Jvm.Cond.selects "java/util/ArrayList" ({ cls := "java/util/Collection", name := "iterator", desc := "()Ljava/util/Iterator;" } : Jvm.MethodName) ({ cls := "java/util/ArrayList", name := "iterator", desc := "()Ljava/util/Iterator;" } : Jvm.MethodName)) ∈ lw_all := lw_g (lw_at lw_m2 138 rfl) rfl
theorem q473 : (Jvm.Cond.unhidden "java/util/ArrayList" "iterator" "()Ljava/util/Iterator;") ∈ lw_tbl := lw_at lw_m2 139 rfl
theorem q474 : (Jvm.Cond.instanceMethod ({ cls := "java/util/ArrayList", name := "iterator", desc := "()Ljava/util/Iterator;" } : Jvm.MethodName)) ∈ lw_all := lw_g (lw_at lw_m2 140 rfl) rfl
theorem q475 : (Jvm.Cond.publicMethod ({ cls := "java/util/ArrayList", name := "iterator", desc := "()Ljava/util/Iterator;" } : Jvm.MethodName)) ∈ lw_tbl := lw_at lw_m2 141 rfl
theorem q476 : (Jvm.Cond.code ({ cls := "java/util/ArrayList", name := "iterator", desc := "()Ljava/util/Iterator;" } : Jvm.MethodName) prog_54_method_55_code (1 : Nat) (Option.some (Jvm.ClassFile.FieldType.object "java/util/Iterator"))) ∈ lw_all := lw_g (lw_at lw_m2 142 rfl) rfl
theorem q477 : (Jvm.Cond.classLink "java/util/ArrayList" (267 : Nat) "java/util/ArrayList$Itr") ∈ lw_all := lw_g (lw_at lw_m2 143 rfl) rfl
theorem q479 : (Jvm.Cond.methodLink "java/util/ArrayList" (269 : Nat) ({ cls := "java/util/ArrayList$Itr", name := "<init>", desc := "(Ljava/util/ArrayList;)V" } : Jvm.MethodName)) ∈ lw_all := lw_g (lw_at lw_m2 145 rfl) rfl
theorem q1147 : (Jvm.Cond.instantiable "java/util/ArrayList" (3 : Nat)) ∈ lw_all := lw_g (lw_at lw_m5 93 rfl) rfl
theorem q1149 : (Jvm.Cond.instanceMethod ({ cls := "java/util/ArrayList", name := "<init>", desc := "(I)V" } : Jvm.MethodName)) ∈ lw_all := lw_g (lw_at lw_m5 95 rfl) rfl
theorem q1150 : (Jvm.Cond.code ({ cls := "java/util/ArrayList", name := "<init>", desc := "(I)V" } : Jvm.MethodName) prog_54_method_1_code (2 : Nat) (Option.none : Option Jvm.ClassFile.FieldType)) ∈ lw_all := lw_g (lw_at lw_m5 96 rfl) rfl
theorem q1151 : (Jvm.Cond.methodLink "java/util/ArrayList" (1 : Nat) ({ cls := "java/util/AbstractList", name := "<init>", desc := "()V" } : Jvm.MethodName)) ∈ lw_all := lw_g (lw_at lw_m5 97 rfl) rfl
theorem q1155 : (Jvm.Cond.classLink "java/util/ArrayList" (7 : Nat) "java/lang/Object") ∈ lw_all := lw_g (lw_at lw_m5 101 rfl) rfl
theorem q1156 : (Jvm.Cond.fieldLink "java/util/ArrayList" (15 : Nat) "java/util/ArrayList" "EMPTY_ELEMENTDATA" "[Ljava/lang/Object;") ∈ lw_all := lw_g (lw_at lw_m5 102 rfl) rfl
theorem q1157 : (Jvm.Cond.laysStatic "java/util/ArrayList" "EMPTY_ELEMENTDATA" "[Ljava/lang/Object;") ∈ lw_tbl := lw_at lw_m5 103 rfl
theorem q1158 : (Jvm.Cond.classLink "java/util/ArrayList" (18 : Nat) "java/lang/IllegalArgumentException") ∈ lw_all := lw_g (lw_at lw_m5 104 rfl) rfl
theorem q1159 : (Jvm.Cond.classLink "java/util/ArrayList" (20 : Nat) "java/lang/StringBuilder") ∈ lw_all := lw_g (lw_at lw_m5 105 rfl) rfl
theorem q1160 : (Jvm.Cond.methodLink "java/util/ArrayList" (22 : Nat) ({ cls := "java/lang/StringBuilder", name := "<init>", desc := "()V" } : Jvm.MethodName)) ∈ lw_all := lw_g (lw_at lw_m5 106 rfl) rfl
theorem q1161 : (Jvm.Cond.stringRef "java/util/ArrayList" (23 : Nat) "Illegal Capacity: ") ∈ lw_tbl := lw_at lw_m5 107 rfl
theorem q1162 : (Jvm.Cond.methodLink "java/util/ArrayList" (25 : Nat) ({ cls := "java/lang/StringBuilder", name := "append", desc := "(Ljava/lang/String;)Ljava/lang/StringBuilder;" } : Jvm.MethodName)) ∈ lw_all := lw_g (lw_at lw_m5 108 rfl) rfl
theorem q1163 : (Jvm.Cond.methodLink "java/util/ArrayList" (29 : Nat) ({ cls := "java/lang/StringBuilder", name := "append", desc := "(I)Ljava/lang/StringBuilder;" } : Jvm.MethodName)) ∈ lw_all := lw_g (lw_at lw_m5 109 rfl) rfl
theorem q1164 : (Jvm.Cond.methodLink "java/util/ArrayList" (32 : Nat) ({ cls := "java/lang/StringBuilder", name := "toString", desc := "()Ljava/lang/String;" } : Jvm.MethodName)) ∈ lw_all := lw_g (lw_at lw_m5 110 rfl) rfl
theorem q1165 : (Jvm.Cond.methodLink "java/util/ArrayList" (36 : Nat) ({ cls := "java/lang/IllegalArgumentException", name := "<init>", desc := "(Ljava/lang/String;)V" } : Jvm.MethodName)) ∈ lw_all := lw_g (lw_at lw_m5 111 rfl) rfl
theorem q1166 : (Jvm.Cond.fieldLink "java/util/ArrayList" (9 : Nat) "java/util/ArrayList" "elementData" "[Ljava/lang/Object;") ∈ lw_all := lw_g (lw_at lw_m5 112 rfl) rfl
theorem q1169 : (Jvm.Cond.fieldLink "java/util/ArrayList" (48 : Nat) "java/util/ArrayList" "size" "I") ∈ lw_all := lw_g (lw_at lw_m5 115 rfl) rfl
theorem q1172 : (Jvm.Cond.sameField "java/util/ArrayList" "java/util/AbstractList" "modCount" "I") ∈ lw_all := lw_g (lw_at lw_m5 118 rfl) rfl
theorem q1173 : (Jvm.Cond.fieldLink "java/util/ArrayList" (63 : Nat) "java/util/ArrayList" "modCount" "I") ∈ lw_all := lw_g (lw_at lw_m5 119 rfl) rfl
theorem q1174 : (Jvm.Cond.lays "java/util/ArrayList" "java/util/ArrayList" "elementData" "[Ljava/lang/Object;") ∈ lw_all := lw_g (lw_at lw_m5 120 rfl) rfl
theorem q1175 : (Jvm.Cond.soleField "java/util/ArrayList" "elementData") ∈ lw_all := lw_g (lw_at lw_m5 121 rfl) rfl
theorem q1176 : (Jvm.Cond.lays "java/util/ArrayList" "java/util/ArrayList" "size" "I") ∈ lw_all := lw_g (lw_at lw_m5 122 rfl) rfl
theorem q1177 : (Jvm.Cond.soleField "java/util/ArrayList" "size") ∈ lw_all := lw_g (lw_at lw_m5 123 rfl) rfl
theorem q1178 : (Jvm.Cond.lays "java/util/ArrayList" "java/util/AbstractList" "modCount" "I") ∈ lw_all := lw_g (lw_at lw_m5 124 rfl) rfl
theorem q1180 : (Jvm.Cond.superclass "java/util/ArrayList" "java/util/AbstractList") ∈ lw_all := lw_g (lw_at lw_m5 126 rfl) rfl
theorem q1186 : (Jvm.Cond.instanceMethod ({ cls := "java/util/ArrayList", name := "size", desc := "()I" } : Jvm.MethodName)) ∈ lw_all := lw_g (lw_at lw_m5 132 rfl) rfl
theorem q1187 : (Jvm.Cond.selects "java/util/ArrayList" ({ cls := "java/util/ArrayList", name := "size", desc := "()I" } : Jvm.MethodName) ({ cls := "java/util/ArrayList", name := "size", desc := "()I" } : Jvm.MethodName)) ∈ lw_all := lw_g (lw_at lw_m5 133 rfl) rfl
theorem q1188 : (Jvm.Cond.code ({ cls := "java/util/ArrayList", name := "size", desc := "()I" } : Jvm.MethodName) prog_54_method_8_code (1 : Nat) (Option.some Jvm.ClassFile.FieldType.int)) ∈ lw_all := lw_g (lw_at lw_m5 134 rfl) rfl
theorem q1190 : (Jvm.Cond.instanceMethod ({ cls := "java/util/ArrayList", name := "get", desc := "(I)Ljava/lang/Object;" } : Jvm.MethodName)) ∈ lw_all := lw_g (lw_at lw_m5 136 rfl) rfl
theorem q1191 : (Jvm.Cond.selects "java/util/ArrayList" ({ cls := "java/util/ArrayList", name := "get", desc := "(I)Ljava/lang/Object;" } : Jvm.MethodName) ({ cls := "java/util/ArrayList", name := "get", desc := "(I)Ljava/lang/Object;" } : Jvm.MethodName)) ∈ lw_all := lw_g (lw_at lw_m5 137 rfl) rfl
theorem q1192 : (Jvm.Cond.code ({ cls := "java/util/ArrayList", name := "get", desc := "(I)Ljava/lang/Object;" } : Jvm.MethodName) prog_54_method_20_code (2 : Nat) (Option.some (Jvm.ClassFile.FieldType.object "java/lang/Object"))) ∈ lw_all := lw_g (lw_at lw_m5 138 rfl) rfl
theorem q1193 : (Jvm.Cond.methodLink "java/util/ArrayList" (118 : Nat) ({ cls := "java/util/Objects", name := "checkIndex", desc := "(II)I" } : Jvm.MethodName)) ∈ lw_all := lw_g (lw_at lw_m5 139 rfl) rfl
theorem q1199 : (Jvm.Cond.methodLink "java/util/ArrayList" (123 : Nat) ({ cls := "java/util/ArrayList", name := "elementData", desc := "(I)Ljava/lang/Object;" } : Jvm.MethodName)) ∈ lw_all := lw_g (lw_at lw_m5 145 rfl) rfl
theorem q1200 : (Jvm.Cond.instanceMethod ({ cls := "java/util/ArrayList", name := "elementData", desc := "(I)Ljava/lang/Object;" } : Jvm.MethodName)) ∈ lw_all := lw_g (lw_at lw_m5 146 rfl) rfl
theorem q1201 : (Jvm.Cond.selects "java/util/ArrayList" ({ cls := "java/util/ArrayList", name := "elementData", desc := "(I)Ljava/lang/Object;" } : Jvm.MethodName) ({ cls := "java/util/ArrayList", name := "elementData", desc := "(I)Ljava/lang/Object;" } : Jvm.MethodName)) ∈ lw_all := lw_g (lw_at lw_m5 147 rfl) rfl
theorem q1202 : (Jvm.Cond.code ({ cls := "java/util/ArrayList", name := "elementData", desc := "(I)Ljava/lang/Object;" } : Jvm.MethodName) prog_54_method_18_code (2 : Nat) (Option.some (Jvm.ClassFile.FieldType.object "java/lang/Object"))) ∈ lw_all := lw_g (lw_at lw_m5 148 rfl) rfl
theorem q1204 : (Jvm.Cond.instanceMethod ({ cls := "java/util/ArrayList", name := "add", desc := "(ILjava/lang/Object;)V" } : Jvm.MethodName)) ∈ lw_all := lw_g (lw_at lw_m5 150 rfl) rfl
theorem q1205 : (Jvm.Cond.selects "java/util/ArrayList" ({ cls := "java/util/ArrayList", name := "add", desc := "(ILjava/lang/Object;)V" } : Jvm.MethodName) ({ cls := "java/util/ArrayList", name := "add", desc := "(ILjava/lang/Object;)V" } : Jvm.MethodName)) ∈ lw_all := lw_g (lw_at lw_m5 151 rfl) rfl
theorem q1206 : (Jvm.Cond.code ({ cls := "java/util/ArrayList", name := "add", desc := "(ILjava/lang/Object;)V" } : Jvm.MethodName) prog_54_method_26_code (5 : Nat) (Option.none : Option Jvm.ClassFile.FieldType)) ∈ lw_all := lw_g (lw_at lw_m5 152 rfl) rfl
theorem q1207 : (Jvm.Cond.methodLink "java/util/ArrayList" (135 : Nat) ({ cls := "java/util/ArrayList", name := "rangeCheckForAdd", desc := "(I)V" } : Jvm.MethodName)) ∈ lw_all := lw_g (lw_at lw_m5 153 rfl) rfl
theorem q1208 : (Jvm.Cond.privateMethod ({ cls := "java/util/ArrayList", name := "rangeCheckForAdd", desc := "(I)V" } : Jvm.MethodName)) ∈ lw_tbl := lw_at lw_m5 154 rfl
theorem q1209 : (Jvm.Cond.instanceMethod ({ cls := "java/util/ArrayList", name := "rangeCheckForAdd", desc := "(I)V" } : Jvm.MethodName)) ∈ lw_all := lw_g (lw_at lw_m5 155 rfl) rfl
theorem q1210 : (Jvm.Cond.code ({ cls := "java/util/ArrayList", name := "rangeCheckForAdd", desc := "(I)V" } : Jvm.MethodName) prog_54_method_45_code (2 : Nat) (Option.none : Option Jvm.ClassFile.FieldType)) ∈ lw_all := lw_g (lw_at lw_m5 156 rfl) rfl
theorem q1211 : (Jvm.Cond.classLink "java/util/ArrayList" (187 : Nat) "java/lang/IndexOutOfBoundsException") ∈ lw_all := lw_g (lw_at lw_m5 157 rfl) rfl
theorem q1212 : (Jvm.Cond.methodLink "java/util/ArrayList" (198 : Nat) ({ cls := "java/util/ArrayList", name := "outOfBoundsMsg", desc := "(I)Ljava/lang/String;" } : Jvm.MethodName)) ∈ lw_all := lw_g (lw_at lw_m5 158 rfl) rfl
theorem q1213 : (Jvm.Cond.privateMethod ({ cls := "java/util/ArrayList", name := "outOfBoundsMsg", desc := "(I)Ljava/lang/String;" } : Jvm.MethodName)) ∈ lw_tbl := lw_at lw_m5 159 rfl
theorem q1214 : (Jvm.Cond.instanceMethod ({ cls := "java/util/ArrayList", name := "outOfBoundsMsg", desc := "(I)Ljava/lang/String;" } : Jvm.MethodName)) ∈ lw_all := lw_g (lw_at lw_m5 160 rfl) rfl
theorem q1215 : (Jvm.Cond.code ({ cls := "java/util/ArrayList", name := "outOfBoundsMsg", desc := "(I)Ljava/lang/String;" } : Jvm.MethodName) prog_54_method_46_code (2 : Nat) (Option.some (Jvm.ClassFile.FieldType.object "java/lang/String"))) ∈ lw_all := lw_g (lw_at lw_m5 161 rfl) rfl
theorem q1216 : (Jvm.Cond.stringRef "java/util/ArrayList" (201 : Nat) "Index: ") ∈ lw_tbl := lw_at lw_m5 162 rfl
theorem q1217 : (Jvm.Cond.stringRef "java/util/ArrayList" (203 : Nat) ", Size: ") ∈ lw_tbl := lw_at lw_m5 163 rfl
theorem q1218 : (Jvm.Cond.methodLink "java/util/ArrayList" (193 : Nat) ({ cls := "java/lang/IndexOutOfBoundsException", name := "<init>", desc := "(Ljava/lang/String;)V" } : Jvm.MethodName)) ∈ lw_all := lw_g (lw_at lw_m5 164 rfl) rfl
theorem q1219 : (Jvm.Cond.methodLink "java/util/ArrayList" (129 : Nat) ({ cls := "java/util/ArrayList", name := "grow", desc := "()[Ljava/lang/Object;" } : Jvm.MethodName)) ∈ lw_all := lw_g (lw_at lw_m5 165 rfl) rfl
theorem q1220 : (Jvm.Cond.privateMethod ({ cls := "java/util/ArrayList", name := "grow", desc := "()[Ljava/lang/Object;" } : Jvm.MethodName)) ∈ lw_tbl := lw_at lw_m5 166 rfl
theorem q1221 : (Jvm.Cond.instanceMethod ({ cls := "java/util/ArrayList", name := "grow", desc := "()[Ljava/lang/Object;" } : Jvm.MethodName)) ∈ lw_all := lw_g (lw_at lw_m5 167 rfl) rfl
theorem q1222 : (Jvm.Cond.code ({ cls := "java/util/ArrayList", name := "grow", desc := "()[Ljava/lang/Object;" } : Jvm.MethodName) prog_54_method_7_code (1 : Nat) (Option.some (Jvm.ClassFile.FieldType.array (Jvm.ClassFile.FieldType.object "java/lang/Object")))) ∈ lw_all := lw_g (lw_at lw_m5 168 rfl) rfl
theorem q1223 : (Jvm.Cond.methodLink "java/util/ArrayList" (69 : Nat) ({ cls := "java/util/ArrayList", name := "grow", desc := "(I)[Ljava/lang/Object;" } : Jvm.MethodName)) ∈ lw_all := lw_g (lw_at lw_m5 169 rfl) rfl
theorem q1224 : (Jvm.Cond.privateMethod ({ cls := "java/util/ArrayList", name := "grow", desc := "(I)[Ljava/lang/Object;" } : Jvm.MethodName)) ∈ lw_tbl := lw_at lw_m5 170 rfl
theorem q1225 : (Jvm.Cond.instanceMethod ({ cls := "java/util/ArrayList", name := "grow", desc := "(I)[Ljava/lang/Object;" } : Jvm.MethodName)) ∈ lw_all := lw_g (lw_at lw_m5 171 rfl) rfl
theorem q1226 : (Jvm.Cond.code ({ cls := "java/util/ArrayList", name := "grow", desc := "(I)[Ljava/lang/Object;" } : Jvm.MethodName) prog_54_method_6_code (4 : Nat) (Option.some (Jvm.ClassFile.FieldType.array (Jvm.ClassFile.FieldType.object "java/lang/Object")))) ∈ lw_all := lw_g (lw_at lw_m5 172 rfl) rfl
theorem q1227 : (Jvm.Cond.fieldLink "java/util/ArrayList" (39 : Nat) "java/util/ArrayList" "DEFAULTCAPACITY_EMPTY_ELEMENTDATA" "[Ljava/lang/Object;") ∈ lw_all := lw_g (lw_at lw_m5 173 rfl) rfl
theorem q1228 : (Jvm.Cond.laysStatic "java/util/ArrayList" "DEFAULTCAPACITY_EMPTY_ELEMENTDATA" "[Ljava/lang/Object;") ∈ lw_tbl := lw_at lw_m5 174 rfl
theorem q1229 : (Jvm.Cond.methodLink "java/util/ArrayList" (73 : Nat) ({ cls := "jdk/internal/util/ArraysSupport", name := "newLength", desc := "(III)I" } : Jvm.MethodName)) ∈ lw_all := lw_g (lw_at lw_m5 175 rfl) rfl
theorem q1230 : (Jvm.Cond.methodLink "java/util/ArrayList" (66 : Nat) ({ cls := "java/util/Arrays", name := "copyOf", desc := "([Ljava/lang/Object;I)[Ljava/lang/Object;" } : Jvm.MethodName)) ∈ lw_all := lw_g (lw_at lw_m5 176 rfl) rfl
theorem q1261 : (Jvm.Cond.selects "java/util/ArrayList" ({ cls := "java/lang/Object", name := "getClass", desc := "()Ljava/lang/Class;" } : Jvm.MethodName) ({ cls := "java/lang/Object", name := "getClass", desc := "()Ljava/lang/Class;" } : Jvm.MethodName)) ∈ lw_all := lw_g (lw_at lw_m5 207 rfl) rfl
theorem q1284 : (Jvm.Cond.methodLink "java/util/ArrayList" (79 : Nat) ({ cls := "java/lang/Math", name := "max", desc := "(II)I" } : Jvm.MethodName)) ∈ lw_all := lw_g (lw_at lw_m5 230 rfl) rfl
theorem q1285 : (Jvm.Cond.methodLink "java/util/ArrayList" (112 : Nat) ({ cls := "java/lang/System", name := "arraycopy", desc := "(Ljava/lang/Object;ILjava/lang/Object;II)V" } : Jvm.MethodName)) ∈ lw_all := lw_g (lw_at lw_m5 231 rfl) rfl
theorem q1305 : (Jvm.Cond.instanceMethod ({ cls := "java/util/ArrayList", name := "add", desc := "(Ljava/lang/Object;)Z" } : Jvm.MethodName)) ∈ lw_all := lw_g (lw_at lw_m6 11 rfl) rfl
theorem q1306 : (Jvm.Cond.selects "java/util/ArrayList" ({ cls := "java/util/ArrayList", name := "add", desc := "(Ljava/lang/Object;)Z" } : Jvm.MethodName) ({ cls := "java/util/ArrayList", name := "add", desc := "(Ljava/lang/Object;)Z" } : Jvm.MethodName)) ∈ lw_all := lw_g (lw_at lw_m6 12 rfl) rfl
theorem q1307 : (Jvm.Cond.code ({ cls := "java/util/ArrayList", name := "add", desc := "(Ljava/lang/Object;)Z" } : Jvm.MethodName) prog_54_method_25_code (2 : Nat) (Option.some Jvm.ClassFile.FieldType.boolean)) ∈ lw_all := lw_g (lw_at lw_m6 13 rfl) rfl
theorem q1308 : (Jvm.Cond.methodLink "java/util/ArrayList" (131 : Nat) ({ cls := "java/util/ArrayList", name := "add", desc := "(Ljava/lang/Object;[Ljava/lang/Object;I)V" } : Jvm.MethodName)) ∈ lw_all := lw_g (lw_at lw_m6 14 rfl) rfl
theorem q1309 : (Jvm.Cond.privateMethod ({ cls := "java/util/ArrayList", name := "add", desc := "(Ljava/lang/Object;[Ljava/lang/Object;I)V" } : Jvm.MethodName)) ∈ lw_tbl := lw_at lw_m6 15 rfl
theorem q1310 : (Jvm.Cond.instanceMethod ({ cls := "java/util/ArrayList", name := "add", desc := "(Ljava/lang/Object;[Ljava/lang/Object;I)V" } : Jvm.MethodName)) ∈ lw_all := lw_g (lw_at lw_m6 16 rfl) rfl
theorem q1311 : (Jvm.Cond.code ({ cls := "java/util/ArrayList", name := "add", desc := "(Ljava/lang/Object;[Ljava/lang/Object;I)V" } : Jvm.MethodName) prog_54_method_24_code (4 : Nat) (Option.none : Option Jvm.ClassFile.FieldType)) ∈ lw_all := lw_g (lw_at lw_m6 17 rfl) rfl
theorem q3762 : (Jvm.Cond.selects "java/util/ArrayList" ({ cls := "java/util/ArrayList", name := "iterator", desc := "()Ljava/util/Iterator;" } : Jvm.MethodName) ({ cls := "java/util/ArrayList", name := "iterator", desc := "()Ljava/util/Iterator;" } : Jvm.MethodName)) ∈ lw_all := lw_g (lw_at lw_m16 68 rfl) rfl
theorem q3787 : (Jvm.Cond.castable "java/util/ArrayList" "java/util/SequencedCollection") ∈ lw_tbl := lw_at lw_m16 93 rfl
theorem q3815 : (Jvm.Cond.castable "java/util/ArrayList" "java/lang/Object") ∈ lw_tbl := lw_at lw_m16 121 rfl
theorem in_J37 : ∀ w ∈ wsJ370, w ∈ lw_all := lw_in wsJ370 [1178, 1174, 1176] (by decide +kernel) (by decide +kernel)

/-! java/util/Objects -/
def RJ38 : String := "java/util/Objects"
abbrev cJ38_checkIndex : ByteArray := prog_79_method_17_code
def yJ38_checkIndex : MethodName := ⟨RJ38, "checkIndex", "(II)I"⟩
theorem q137 : (Jvm.Cond.initialized "java/util/Objects") ∈ lw_all := lw_g (lw_at lw_m1 43 rfl) rfl
theorem q1194 : (Jvm.Cond.static ({ cls := "java/util/Objects", name := "checkIndex", desc := "(II)I" } : Jvm.MethodName)) ∈ lw_all := lw_g (lw_at lw_m5 140 rfl) rfl
theorem q1195 : (Jvm.Cond.code ({ cls := "java/util/Objects", name := "checkIndex", desc := "(II)I" } : Jvm.MethodName) prog_79_method_17_code (2 : Nat) (Option.some Jvm.ClassFile.FieldType.int)) ∈ lw_all := lw_g (lw_at lw_m5 141 rfl) rfl
theorem q1196 : (Jvm.Cond.methodLink "java/util/Objects" (105 : Nat) ({ cls := "jdk/internal/util/Preconditions", name := "checkIndex", desc := "(IILjava/util/function/BiFunction;)I" } : Jvm.MethodName)) ∈ lw_all := lw_g (lw_at lw_m5 142 rfl) rfl

/-! java/lang/IllegalStateException -/
def RJ39 : String := "java/lang/IllegalStateException"
def TJ39 : u_T := fun k => match k with
  | 0 => ("java/lang/Throwable", "cause", "Ljava/lang/Throwable;", false)
  | 1 => ("java/lang/Throwable", "stackTrace", "[Ljava/lang/StackTraceElement;", false)
  | 2 => ("java/lang/Throwable", "suppressedExceptions", "Ljava/util/List;", false)
  | 3 => ("java/lang/Throwable", "detailMessage", "Ljava/lang/String;", false)
  | 4 => ("java/lang/Throwable", "backtrace", "Ljava/lang/Object;", false)
  | _ => ("java/lang/Throwable", "depth", "I", false)
def tyJ39 : Nat → FieldType := fun k => match k with
  | 0 => .object "java/lang/Throwable"
  | 1 => .array (.object "java/lang/StackTraceElement")
  | 2 => .object "java/util/List"
  | 3 => .object "java/lang/String"
  | 4 => .object "java/lang/Object"
  | _ => .int
abbrev wsJ390 : List Cond := u_ws RJ39 TJ39 6
theorem nmJ39 : ∀ a, a < 6 → ∀ b, b < 6 → a ≠ b → (TJ39 a).2.1 ≠ (TJ39 b).2.1 := by decide +kernel
theorem tyJ39_ok : ∀ k, k < 6 → parseFieldDescriptor (TJ39 k).2.2.1 = some (tyJ39 k) := by decide +kernel
abbrev cJ39_init : ByteArray := prog_28_method_1_code
def yJ39_init : MethodName := ⟨RJ39, "<init>", "()V"⟩
abbrev cJ39_init_2 : ByteArray := prog_28_method_2_code
def yJ39_init_2 : MethodName := ⟨RJ39, "<init>", "(Ljava/lang/String;)V"⟩
theorem q141 : (Jvm.Cond.initialized "java/lang/IllegalStateException") ∈ lw_all := lw_g (lw_at lw_m1 47 rfl) rfl
theorem q745 : (Jvm.Cond.selects "java/lang/IllegalStateException" ({ cls := "java/lang/Throwable", name := "fillInStackTrace", desc := "()Ljava/lang/Throwable;" } : Jvm.MethodName) ({ cls := "java/lang/Throwable", name := "fillInStackTrace", desc := "()Ljava/lang/Throwable;" } : Jvm.MethodName)) ∈ lw_all := lw_g (lw_at lw_m3 171 rfl) rfl
theorem q1251 : (Jvm.Cond.selects "java/lang/IllegalStateException" ({ cls := "java/lang/Object", name := "getClass", desc := "()Ljava/lang/Class;" } : Jvm.MethodName) ({ cls := "java/lang/Object", name := "getClass", desc := "()Ljava/lang/Class;" } : Jvm.MethodName)) ∈ lw_all := lw_g (lw_at lw_m5 197 rfl) rfl
theorem q1576 : (Jvm.Cond.selects "java/lang/IllegalStateException" ({ cls := "java/lang/Object", name := "hashCode", desc := "()I" } : Jvm.MethodName) ({ cls := "java/lang/Object", name := "hashCode", desc := "()I" } : Jvm.MethodName)) ∈ lw_all := lw_g (lw_at lw_m7 42 rfl) rfl
theorem q1672 : (Jvm.Cond.selects "java/lang/IllegalStateException" ({ cls := "java/lang/Object", name := "equals", desc := "(Ljava/lang/Object;)Z" } : Jvm.MethodName) ({ cls := "java/lang/Object", name := "equals", desc := "(Ljava/lang/Object;)Z" } : Jvm.MethodName)) ∈ lw_all := lw_g (lw_at lw_m7 138 rfl) rfl
theorem q2292 : (Jvm.Cond.instantiable "java/lang/IllegalStateException" (6 : Nat)) ∈ lw_all := lw_g (lw_at lw_m10 38 rfl) rfl
theorem q2293 : (Jvm.Cond.castable "java/lang/IllegalStateException" "java/lang/IllegalStateException") ∈ lw_tbl := lw_at lw_m10 39 rfl
theorem q2294 : (Jvm.Cond.selects "java/lang/IllegalStateException" ({ cls := "java/lang/Throwable", name := "fillInStackTrace", desc := "(I)Ljava/lang/Throwable;" } : Jvm.MethodName) ({ cls := "java/lang/Throwable", name := "fillInStackTrace", desc := "(I)Ljava/lang/Throwable;" } : Jvm.MethodName)) ∈ lw_all := lw_g (lw_at lw_m10 40 rfl) rfl
theorem q2295 : (Jvm.Cond.lays "java/lang/IllegalStateException" "java/lang/Throwable" "cause" "Ljava/lang/Throwable;") ∈ lw_all := lw_g (lw_at lw_m10 41 rfl) rfl
theorem q2296 : (Jvm.Cond.lays "java/lang/IllegalStateException" "java/lang/Throwable" "stackTrace" "[Ljava/lang/StackTraceElement;") ∈ lw_all := lw_g (lw_at lw_m10 42 rfl) rfl
theorem q2297 : (Jvm.Cond.lays "java/lang/IllegalStateException" "java/lang/Throwable" "suppressedExceptions" "Ljava/util/List;") ∈ lw_all := lw_g (lw_at lw_m10 43 rfl) rfl
theorem q2298 : (Jvm.Cond.lays "java/lang/IllegalStateException" "java/lang/Throwable" "detailMessage" "Ljava/lang/String;") ∈ lw_all := lw_g (lw_at lw_m10 44 rfl) rfl
theorem q2299 : (Jvm.Cond.lays "java/lang/IllegalStateException" "java/lang/Throwable" "backtrace" "Ljava/lang/Object;") ∈ lw_all := lw_g (lw_at lw_m10 45 rfl) rfl
theorem q2301 : (Jvm.Cond.instanceMethod ({ cls := "java/lang/IllegalStateException", name := "<init>", desc := "()V" } : Jvm.MethodName)) ∈ lw_all := lw_g (lw_at lw_m10 47 rfl) rfl
theorem q2302 : (Jvm.Cond.code ({ cls := "java/lang/IllegalStateException", name := "<init>", desc := "()V" } : Jvm.MethodName) prog_28_method_1_code (1 : Nat) (Option.none : Option Jvm.ClassFile.FieldType)) ∈ lw_all := lw_g (lw_at lw_m10 48 rfl) rfl
theorem q2303 : (Jvm.Cond.methodLink "java/lang/IllegalStateException" (1 : Nat) ({ cls := "java/lang/RuntimeException", name := "<init>", desc := "()V" } : Jvm.MethodName)) ∈ lw_all := lw_g (lw_at lw_m10 49 rfl) rfl
theorem q2304 : (Jvm.Cond.lays "java/lang/IllegalStateException" "java/lang/Throwable" "depth" "I") ∈ lw_all := lw_g (lw_at lw_m10 50 rfl) rfl
theorem q2305 : (Jvm.Cond.superclass "java/lang/IllegalStateException" "java/lang/RuntimeException") ∈ lw_all := lw_g (lw_at lw_m10 51 rfl) rfl
theorem q2337 : (Jvm.Cond.instanceMethod ({ cls := "java/lang/IllegalStateException", name := "<init>", desc := "(Ljava/lang/String;)V" } : Jvm.MethodName)) ∈ lw_all := lw_g (lw_at lw_m10 83 rfl) rfl
theorem q2338 : (Jvm.Cond.code ({ cls := "java/lang/IllegalStateException", name := "<init>", desc := "(Ljava/lang/String;)V" } : Jvm.MethodName) prog_28_method_2_code (2 : Nat) (Option.none : Option Jvm.ClassFile.FieldType)) ∈ lw_all := lw_g (lw_at lw_m10 84 rfl) rfl
theorem q2339 : (Jvm.Cond.methodLink "java/lang/IllegalStateException" (7 : Nat) ({ cls := "java/lang/RuntimeException", name := "<init>", desc := "(Ljava/lang/String;)V" } : Jvm.MethodName)) ∈ lw_all := lw_g (lw_at lw_m10 85 rfl) rfl
theorem q3820 : (Jvm.Cond.castable "java/lang/IllegalStateException" "java/lang/Object") ∈ lw_tbl := lw_at lw_m16 126 rfl
theorem in_J39 : ∀ w ∈ wsJ390, w ∈ lw_all := lw_in wsJ390 [2295, 2296, 2297, 2298, 2299, 2304] (by decide +kernel) (by decide +kernel)

/-! java/util/HashMap$Node -/
def RJ40 : String := "java/util/HashMap$Node"
def TJ40 : u_T := fun k => match k with
  | 0 => ("java/util/HashMap$Node", "hash", "I", true)
  | 1 => ("java/util/HashMap$Node", "key", "Ljava/lang/Object;", true)
  | 2 => ("java/util/HashMap$Node", "value", "Ljava/lang/Object;", false)
  | _ => ("java/util/HashMap$Node", "next", "Ljava/util/HashMap$Node;", false)
def tyJ40 : Nat → FieldType := fun k => match k with
  | 0 => .int
  | 1 => .object "java/lang/Object"
  | 2 => .object "java/lang/Object"
  | _ => .object "java/util/HashMap$Node"
abbrev wsJ400 : List Cond := u_ws RJ40 TJ40 4
theorem nmJ40 : ∀ a, a < 4 → ∀ b, b < 4 → a ≠ b → (TJ40 a).2.1 ≠ (TJ40 b).2.1 := by decide +kernel
theorem tyJ40_ok : ∀ k, k < 4 → parseFieldDescriptor (TJ40 k).2.2.1 = some (tyJ40 k) := by decide +kernel
abbrev cJ40_getKey : ByteArray := prog_64_method_2_code
def yJ40_getKey : MethodName := ⟨RJ40, "getKey", "()Ljava/lang/Object;"⟩
abbrev cJ40_init : ByteArray := prog_64_method_1_code
def yJ40_init : MethodName := ⟨RJ40, "<init>", "(ILjava/lang/Object;Ljava/lang/Object;Ljava/util/HashMap$Node;)V"⟩
theorem q143 : (Jvm.Cond.initialized "java/util/HashMap$Node") ∈ lw_all := lw_g (lw_at lw_m1 49 rfl) rfl
theorem q823 : (Jvm.Cond.declares ({ cls := "java/util/HashMap$Node", name := "getKey", desc := "()Ljava/lang/Object;" } : Jvm.MethodName)) ∈ lw_tbl := lw_at lw_m4 9 rfl
theorem q826 : (Jvm.Cond.instanceMethod ({ cls := "java/util/HashMap$Node", name := "getKey", desc := "()Ljava/lang/Object;" } : Jvm.MethodName)) ∈ lw_all := lw_g (lw_at lw_m4 12 rfl) rfl
theorem q827 : (Jvm.Cond.code ({ cls := "java/util/HashMap$Node", name := "getKey", desc := "()Ljava/lang/Object;" } : Jvm.MethodName) prog_64_method_2_code (1 : Nat) (Option.some (Jvm.ClassFile.FieldType.object "java/lang/Object"))) ∈ lw_all := lw_g (lw_at lw_m4 13 rfl) rfl
theorem q1267 : (Jvm.Cond.selects "java/util/HashMap$Node" ({ cls := "java/lang/Object", name := "getClass", desc := "()Ljava/lang/Class;" } : Jvm.MethodName) ({ cls := "java/lang/Object", name := "getClass", desc := "()Ljava/lang/Class;" } : Jvm.MethodName)) ∈ lw_all := lw_g (lw_at lw_m5 213 rfl) rfl
theorem q2091 : (Jvm.Cond.instanceMethod ({ cls := "java/util/HashMap$Node", name := "<init>", desc := "(ILjava/lang/Object;Ljava/lang/Object;Ljava/util/HashMap$Node;)V" } : Jvm.MethodName)) ∈ lw_all := lw_g (lw_at lw_m9 77 rfl) rfl
theorem q2092 : (Jvm.Cond.code ({ cls := "java/util/HashMap$Node", name := "<init>", desc := "(ILjava/lang/Object;Ljava/lang/Object;Ljava/util/HashMap$Node;)V" } : Jvm.MethodName) prog_64_method_1_code (5 : Nat) (Option.none : Option Jvm.ClassFile.FieldType)) ∈ lw_all := lw_g (lw_at lw_m9 78 rfl) rfl
theorem q2093 : (Jvm.Cond.methodLink "java/util/HashMap$Node" (1 : Nat) ({ cls := "java/lang/Object", name := "<init>", desc := "()V" } : Jvm.MethodName)) ∈ lw_all := lw_g (lw_at lw_m9 79 rfl) rfl
theorem q2098 : (Jvm.Cond.fieldLink "java/util/HashMap$Node" (7 : Nat) "java/util/HashMap$Node" "hash" "I") ∈ lw_all := lw_g (lw_at lw_m9 84 rfl) rfl
theorem q2104 : (Jvm.Cond.fieldLink "java/util/HashMap$Node" (13 : Nat) "java/util/HashMap$Node" "key" "Ljava/lang/Object;") ∈ lw_all := lw_g (lw_at lw_m9 90 rfl) rfl
theorem q2111 : (Jvm.Cond.fieldLink "java/util/HashMap$Node" (17 : Nat) "java/util/HashMap$Node" "value" "Ljava/lang/Object;") ∈ lw_all := lw_g (lw_at lw_m9 97 rfl) rfl
theorem q2117 : (Jvm.Cond.fieldLink "java/util/HashMap$Node" (20 : Nat) "java/util/HashMap$Node" "next" "Ljava/util/HashMap$Node;") ∈ lw_all := lw_g (lw_at lw_m9 103 rfl) rfl
theorem q2129 : (Jvm.Cond.soleField "java/util/HashMap$Node" "hash") ∈ lw_all := lw_g (lw_at lw_m9 115 rfl) rfl
theorem q2131 : (Jvm.Cond.soleField "java/util/HashMap$Node" "key") ∈ lw_all := lw_g (lw_at lw_m9 117 rfl) rfl
theorem q2133 : (Jvm.Cond.soleField "java/util/HashMap$Node" "value") ∈ lw_all := lw_g (lw_at lw_m9 119 rfl) rfl
theorem q2135 : (Jvm.Cond.soleField "java/util/HashMap$Node" "next") ∈ lw_all := lw_g (lw_at lw_m9 121 rfl) rfl
theorem q2142 : (Jvm.Cond.instantiable "java/util/HashMap$Node" (4 : Nat)) ∈ lw_all := lw_g (lw_at lw_m9 128 rfl) rfl
theorem q2144 : (Jvm.Cond.laysFinal "java/util/HashMap$Node" "java/util/HashMap$Node" "hash" "I") ∈ lw_all := lw_g (lw_at lw_m9 130 rfl) rfl
theorem q2145 : (Jvm.Cond.laysFinal "java/util/HashMap$Node" "java/util/HashMap$Node" "key" "Ljava/lang/Object;") ∈ lw_all := lw_g (lw_at lw_m9 131 rfl) rfl
theorem q2146 : (Jvm.Cond.lays "java/util/HashMap$Node" "java/util/HashMap$Node" "value" "Ljava/lang/Object;") ∈ lw_all := lw_g (lw_at lw_m9 132 rfl) rfl
theorem q2147 : (Jvm.Cond.lays "java/util/HashMap$Node" "java/util/HashMap$Node" "next" "Ljava/util/HashMap$Node;") ∈ lw_all := lw_g (lw_at lw_m9 133 rfl) rfl
theorem q2148 : (Jvm.Cond.superclass "java/util/HashMap$Node" "java/lang/Object") ∈ lw_all := lw_g (lw_at lw_m9 134 rfl) rfl
theorem q3794 : (Jvm.Cond.castable "java/util/HashMap$Node" "java/lang/Object") ∈ lw_tbl := lw_at lw_m16 100 rfl
theorem in_J40 : ∀ w ∈ wsJ400, w ∈ lw_all := lw_in wsJ400 [2144, 2145, 2146, 2147] (by decide +kernel) (by decide +kernel)

/-! java/util/LinkedHashMap$Entry -/
def RJ41 : String := "java/util/LinkedHashMap$Entry"
def TJ41 : u_T := fun k => match k with
  | 0 => ("java/util/HashMap$Node", "hash", "I", true)
  | 1 => ("java/util/HashMap$Node", "key", "Ljava/lang/Object;", true)
  | 2 => ("java/util/HashMap$Node", "value", "Ljava/lang/Object;", false)
  | 3 => ("java/util/HashMap$Node", "next", "Ljava/util/HashMap$Node;", false)
  | 4 => ("java/util/LinkedHashMap$Entry", "before", "Ljava/util/LinkedHashMap$Entry;", false)
  | _ => ("java/util/LinkedHashMap$Entry", "after", "Ljava/util/LinkedHashMap$Entry;", false)
def tyJ41 : Nat → FieldType := fun k => match k with
  | 0 => .int
  | 1 => .object "java/lang/Object"
  | 2 => .object "java/lang/Object"
  | 3 => .object "java/util/HashMap$Node"
  | 4 => .object "java/util/LinkedHashMap$Entry"
  | _ => .object "java/util/LinkedHashMap$Entry"
abbrev wsJ410 : List Cond := u_ws RJ41 TJ41 6
theorem nmJ41 : ∀ a, a < 6 → ∀ b, b < 6 → a ≠ b → (TJ41 a).2.1 ≠ (TJ41 b).2.1 := by decide +kernel
theorem tyJ41_ok : ∀ k, k < 6 → parseFieldDescriptor (TJ41 k).2.2.1 = some (tyJ41 k) := by decide +kernel
abbrev cJ41_init : ByteArray := prog_69_method_1_code
def yJ41_init : MethodName := ⟨RJ41, "<init>", "(ILjava/lang/Object;Ljava/lang/Object;Ljava/util/HashMap$Node;)V"⟩
theorem q144 : (Jvm.Cond.initialized "java/util/LinkedHashMap$Entry") ∈ lw_all := lw_g (lw_at lw_m1 50 rfl) rfl
theorem q822 : (Jvm.Cond.sameMethod "java/util/LinkedHashMap$Entry" "java/util/HashMap$Node" "getKey" "()Ljava/lang/Object;") ∈ lw_all := lw_g (lw_at lw_m4 8 rfl) rfl
theorem q825 : (Jvm.Cond.selects "java/util/LinkedHashMap$Entry" ({ cls := "java/util/LinkedHashMap$Entry", name := "getKey", desc := "()Ljava/lang/Object;" } : Jvm.MethodName) ({ cls := "java/util/HashMap$Node", name := "getKey", desc := "()Ljava/lang/Object;" } : Jvm.MethodName)) ∈ lw_all := lw_g (lw_at lw_m4 11 rfl) rfl
theorem q1271 : (Jvm.Cond.selects "java/util/LinkedHashMap$Entry" ({ cls := "java/lang/Object", name := "getClass", desc := "()Ljava/lang/Class;" } : Jvm.MethodName) ({ cls := "java/lang/Object", name := "getClass", desc := "()Ljava/lang/Class;" } : Jvm.MethodName)) ∈ lw_all := lw_g (lw_at lw_m5 217 rfl) rfl
theorem q2086 : (Jvm.Cond.instantiable "java/util/LinkedHashMap$Entry" (6 : Nat)) ∈ lw_all := lw_g (lw_at lw_m9 72 rfl) rfl
theorem q2088 : (Jvm.Cond.instanceMethod ({ cls := "java/util/LinkedHashMap$Entry", name := "<init>", desc := "(ILjava/lang/Object;Ljava/lang/Object;Ljava/util/HashMap$Node;)V" } : Jvm.MethodName)) ∈ lw_all := lw_g (lw_at lw_m9 74 rfl) rfl
theorem q2089 : (Jvm.Cond.code ({ cls := "java/util/LinkedHashMap$Entry", name := "<init>", desc := "(ILjava/lang/Object;Ljava/lang/Object;Ljava/util/HashMap$Node;)V" } : Jvm.MethodName) prog_69_method_1_code (5 : Nat) (Option.none : Option Jvm.ClassFile.FieldType)) ∈ lw_all := lw_g (lw_at lw_m9 75 rfl) rfl
theorem q2090 : (Jvm.Cond.methodLink "java/util/LinkedHashMap$Entry" (1 : Nat) ({ cls := "java/util/HashMap$Node", name := "<init>", desc := "(ILjava/lang/Object;Ljava/lang/Object;Ljava/util/HashMap$Node;)V" } : Jvm.MethodName)) ∈ lw_all := lw_g (lw_at lw_m9 76 rfl) rfl
theorem q2102 : (Jvm.Cond.sameField "java/util/LinkedHashMap$Entry" "java/util/HashMap$Node" "hash" "I") ∈ lw_all := lw_g (lw_at lw_m9 88 rfl) rfl
theorem q2109 : (Jvm.Cond.sameField "java/util/LinkedHashMap$Entry" "java/util/HashMap$Node" "key" "Ljava/lang/Object;") ∈ lw_all := lw_g (lw_at lw_m9 95 rfl) rfl
theorem q2113 : (Jvm.Cond.sameField "java/util/LinkedHashMap$Entry" "java/util/HashMap$Node" "value" "Ljava/lang/Object;") ∈ lw_all := lw_g (lw_at lw_m9 99 rfl) rfl
theorem q2124 : (Jvm.Cond.lays "java/util/LinkedHashMap$Entry" "java/util/LinkedHashMap$Entry" "before" "Ljava/util/LinkedHashMap$Entry;") ∈ lw_all := lw_g (lw_at lw_m9 110 rfl) rfl
theorem q2125 : (Jvm.Cond.soleField "java/util/LinkedHashMap$Entry" "before") ∈ lw_all := lw_g (lw_at lw_m9 111 rfl) rfl
theorem q2126 : (Jvm.Cond.lays "java/util/LinkedHashMap$Entry" "java/util/LinkedHashMap$Entry" "after" "Ljava/util/LinkedHashMap$Entry;") ∈ lw_all := lw_g (lw_at lw_m9 112 rfl) rfl
theorem q2127 : (Jvm.Cond.soleField "java/util/LinkedHashMap$Entry" "after") ∈ lw_all := lw_g (lw_at lw_m9 113 rfl) rfl
theorem q2128 : (Jvm.Cond.laysFinal "java/util/LinkedHashMap$Entry" "java/util/HashMap$Node" "hash" "I") ∈ lw_all := lw_g (lw_at lw_m9 114 rfl) rfl
theorem q2130 : (Jvm.Cond.laysFinal "java/util/LinkedHashMap$Entry" "java/util/HashMap$Node" "key" "Ljava/lang/Object;") ∈ lw_all := lw_g (lw_at lw_m9 116 rfl) rfl
theorem q2132 : (Jvm.Cond.lays "java/util/LinkedHashMap$Entry" "java/util/HashMap$Node" "value" "Ljava/lang/Object;") ∈ lw_all := lw_g (lw_at lw_m9 118 rfl) rfl
theorem q2134 : (Jvm.Cond.lays "java/util/LinkedHashMap$Entry" "java/util/HashMap$Node" "next" "Ljava/util/HashMap$Node;") ∈ lw_all := lw_g (lw_at lw_m9 120 rfl) rfl
theorem q2136 : (Jvm.Cond.superclass "java/util/LinkedHashMap$Entry" "java/util/HashMap$Node") ∈ lw_all := lw_g (lw_at lw_m9 122 rfl) rfl
theorem q3824 : (Jvm.Cond.castable "java/util/LinkedHashMap$Entry" "java/lang/Object") ∈ lw_tbl := lw_at lw_m16 130 rfl
theorem q3838 : (Jvm.Cond.castable "java/util/LinkedHashMap$Entry" "java/util/HashMap$Node") ∈ lw_tbl := lw_at lw_m16 144 rfl
theorem in_J41 : ∀ w ∈ wsJ410, w ∈ lw_all := lw_in wsJ410 [2128, 2130, 2132, 2134, 2124, 2126] (by decide +kernel) (by decide +kernel)

/-! jdk/internal/misc/Unsafe -/
def RJ42 : String := "jdk/internal/misc/Unsafe"
abbrev cJ42_getLongUnaligned : ByteArray := prog_87_method_334_code
def yJ42_getLongUnaligned : MethodName := ⟨RJ42, "getLongUnaligned", "(Ljava/lang/Object;J)J"⟩
abbrev cJ42_makeLong : ByteArray := prog_87_method_353_code
def yJ42_makeLong : MethodName := ⟨RJ42, "makeLong", "(II)J"⟩
abbrev cJ42_toUnsignedLong : ByteArray := prog_87_method_370_code
def yJ42_toUnsignedLong : MethodName := ⟨RJ42, "toUnsignedLong", "(I)J"⟩
abbrev cJ42_pickPos : ByteArray := prog_87_method_350_code
def yJ42_pickPos : MethodName := ⟨RJ42, "pickPos", "(II)I"⟩
abbrev cJ42_makeLong_2 : ByteArray := prog_87_method_352_code
def yJ42_makeLong_2 : MethodName := ⟨RJ42, "makeLong", "(SSSS)J"⟩
abbrev cJ42_toUnsignedLong_2 : ByteArray := prog_87_method_369_code
def yJ42_toUnsignedLong_2 : MethodName := ⟨RJ42, "toUnsignedLong", "(S)J"⟩
abbrev cJ42_makeLong_3 : ByteArray := prog_87_method_351_code
def yJ42_makeLong_3 : MethodName := ⟨RJ42, "makeLong", "(BBBBBBBB)J"⟩
abbrev cJ42_toUnsignedLong_3 : ByteArray := prog_87_method_368_code
def yJ42_toUnsignedLong_3 : MethodName := ⟨RJ42, "toUnsignedLong", "(B)J"⟩
abbrev cJ42_getIntUnaligned : ByteArray := prog_87_method_336_code
def yJ42_getIntUnaligned : MethodName := ⟨RJ42, "getIntUnaligned", "(Ljava/lang/Object;J)I"⟩
abbrev cJ42_makeInt : ByteArray := prog_87_method_354_code
def yJ42_makeInt : MethodName := ⟨RJ42, "makeInt", "(SS)I"⟩
abbrev cJ42_toUnsignedInt : ByteArray := prog_87_method_367_code
def yJ42_toUnsignedInt : MethodName := ⟨RJ42, "toUnsignedInt", "(S)I"⟩
abbrev cJ42_makeInt_2 : ByteArray := prog_87_method_355_code
def yJ42_makeInt_2 : MethodName := ⟨RJ42, "makeInt", "(BBBB)I"⟩
abbrev cJ42_toUnsignedInt_2 : ByteArray := prog_87_method_366_code
def yJ42_toUnsignedInt_2 : MethodName := ⟨RJ42, "toUnsignedInt", "(B)I"⟩
theorem q145 : (Jvm.Cond.initialized "jdk/internal/misc/Unsafe") ∈ lw_all := lw_g (lw_at lw_m1 51 rfl) rfl
theorem q1277 : (Jvm.Cond.selects "jdk/internal/misc/Unsafe" ({ cls := "java/lang/Object", name := "getClass", desc := "()Ljava/lang/Class;" } : Jvm.MethodName) ({ cls := "java/lang/Object", name := "getClass", desc := "()Ljava/lang/Class;" } : Jvm.MethodName)) ∈ lw_all := lw_g (lw_at lw_m5 223 rfl) rfl
theorem q1648 : (Jvm.Cond.selects "jdk/internal/misc/Unsafe" ({ cls := "java/lang/Object", name := "hashCode", desc := "()I" } : Jvm.MethodName) ({ cls := "java/lang/Object", name := "hashCode", desc := "()I" } : Jvm.MethodName)) ∈ lw_all := lw_g (lw_at lw_m7 114 rfl) rfl
theorem q1692 : (Jvm.Cond.selects "jdk/internal/misc/Unsafe" ({ cls := "java/lang/Object", name := "equals", desc := "(Ljava/lang/Object;)Z" } : Jvm.MethodName) ({ cls := "java/lang/Object", name := "equals", desc := "(Ljava/lang/Object;)Z" } : Jvm.MethodName)) ∈ lw_all := lw_g (lw_at lw_m7 158 rfl) rfl
theorem q1755 : (Jvm.Cond.laysStatic "jdk/internal/misc/Unsafe" "ARRAY_BYTE_BASE_OFFSET" "I") ∈ lw_tbl := lw_at lw_m7 221 rfl
theorem q1766 : (Jvm.Cond.instanceMethod ({ cls := "jdk/internal/misc/Unsafe", name := "getLongUnaligned", desc := "(Ljava/lang/Object;J)J" } : Jvm.MethodName)) ∈ lw_all := lw_g (lw_at lw_m7 232 rfl) rfl
theorem q1767 : (Jvm.Cond.selects "jdk/internal/misc/Unsafe" ({ cls := "jdk/internal/misc/Unsafe", name := "getLongUnaligned", desc := "(Ljava/lang/Object;J)J" } : Jvm.MethodName) ({ cls := "jdk/internal/misc/Unsafe", name := "getLongUnaligned", desc := "(Ljava/lang/Object;J)J" } : Jvm.MethodName)) ∈ lw_all := lw_g (lw_at lw_m7 233 rfl) rfl
theorem q1768 : (Jvm.Cond.code ({ cls := "jdk/internal/misc/Unsafe", name := "getLongUnaligned", desc := "(Ljava/lang/Object;J)J" } : Jvm.MethodName) prog_87_method_334_code (4 : Nat) (Option.some Jvm.ClassFile.FieldType.long)) ∈ lw_all := lw_g (lw_at lw_m7 234 rfl) rfl
theorem q1769 : (Jvm.Cond.constantLong "jdk/internal/misc/Unsafe" (696 : Nat) (7 : Int64)) ∈ lw_all := lw_g (lw_at lw_m7 235 rfl) rfl
theorem q1770 : (Jvm.Cond.methodLink "jdk/internal/misc/Unsafe" (27 : Nat) ({ cls := "jdk/internal/misc/Unsafe", name := "getLong", desc := "(Ljava/lang/Object;J)J" } : Jvm.MethodName)) ∈ lw_all := lw_g (lw_at lw_m7 236 rfl) rfl
theorem q1771 : (Jvm.Cond.instanceMethod ({ cls := "jdk/internal/misc/Unsafe", name := "getLong", desc := "(Ljava/lang/Object;J)J" } : Jvm.MethodName)) ∈ lw_all := lw_g (lw_at lw_m7 237 rfl) rfl
theorem q1772 : (Jvm.Cond.selects "jdk/internal/misc/Unsafe" ({ cls := "jdk/internal/misc/Unsafe", name := "getLong", desc := "(Ljava/lang/Object;J)J" } : Jvm.MethodName) ({ cls := "jdk/internal/misc/Unsafe", name := "getLong", desc := "(Ljava/lang/Object;J)J" } : Jvm.MethodName)) ∈ lw_all := lw_g (lw_at lw_m7 238 rfl) rfl
theorem q1773 : (Jvm.Cond.native ({ cls := "jdk/internal/misc/Unsafe", name := "getLong", desc := "(Ljava/lang/Object;J)J" } : Jvm.MethodName)) ∈ lw_all := lw_g (lw_at lw_m7 239 rfl) rfl
theorem q1774 : (Jvm.Cond.constantLong "jdk/internal/misc/Unsafe" (349 : Nat) (3 : Int64)) ∈ lw_all := lw_g (lw_at lw_m8 0 rfl) rfl
theorem q1775 : (Jvm.Cond.methodLink "jdk/internal/misc/Unsafe" (17 : Nat) ({ cls := "jdk/internal/misc/Unsafe", name := "getInt", desc := "(Ljava/lang/Object;J)I" } : Jvm.MethodName)) ∈ lw_all := lw_g (lw_at lw_m8 1 rfl) rfl
theorem q1776 : (Jvm.Cond.instanceMethod ({ cls := "jdk/internal/misc/Unsafe", name := "getInt", desc := "(Ljava/lang/Object;J)I" } : Jvm.MethodName)) ∈ lw_all := lw_g (lw_at lw_m8 2 rfl) rfl
theorem q1777 : (Jvm.Cond.selects "jdk/internal/misc/Unsafe" ({ cls := "jdk/internal/misc/Unsafe", name := "getInt", desc := "(Ljava/lang/Object;J)I" } : Jvm.MethodName) ({ cls := "jdk/internal/misc/Unsafe", name := "getInt", desc := "(Ljava/lang/Object;J)I" } : Jvm.MethodName)) ∈ lw_all := lw_g (lw_at lw_m8 3 rfl) rfl
theorem q1778 : (Jvm.Cond.native ({ cls := "jdk/internal/misc/Unsafe", name := "getInt", desc := "(Ljava/lang/Object;J)I" } : Jvm.MethodName)) ∈ lw_all := lw_g (lw_at lw_m8 4 rfl) rfl
theorem q1779 : (Jvm.Cond.constantLong "jdk/internal/misc/Unsafe" (205 : Nat) (4 : Int64)) ∈ lw_all := lw_g (lw_at lw_m8 5 rfl) rfl
theorem q1780 : (Jvm.Cond.methodLink "jdk/internal/misc/Unsafe" (698 : Nat) ({ cls := "jdk/internal/misc/Unsafe", name := "makeLong", desc := "(II)J" } : Jvm.MethodName)) ∈ lw_all := lw_g (lw_at lw_m8 6 rfl) rfl
theorem q1781 : (Jvm.Cond.static ({ cls := "jdk/internal/misc/Unsafe", name := "makeLong", desc := "(II)J" } : Jvm.MethodName)) ∈ lw_all := lw_g (lw_at lw_m8 7 rfl) rfl
theorem q1782 : (Jvm.Cond.code ({ cls := "jdk/internal/misc/Unsafe", name := "makeLong", desc := "(II)J" } : Jvm.MethodName) prog_87_method_353_code (2 : Nat) (Option.some Jvm.ClassFile.FieldType.long)) ∈ lw_all := lw_g (lw_at lw_m8 8 rfl) rfl
theorem q1783 : (Jvm.Cond.methodLink "jdk/internal/misc/Unsafe" (791 : Nat) ({ cls := "jdk/internal/misc/Unsafe", name := "toUnsignedLong", desc := "(I)J" } : Jvm.MethodName)) ∈ lw_all := lw_g (lw_at lw_m8 9 rfl) rfl
theorem q1784 : (Jvm.Cond.static ({ cls := "jdk/internal/misc/Unsafe", name := "toUnsignedLong", desc := "(I)J" } : Jvm.MethodName)) ∈ lw_all := lw_g (lw_at lw_m8 10 rfl) rfl
theorem q1785 : (Jvm.Cond.code ({ cls := "jdk/internal/misc/Unsafe", name := "toUnsignedLong", desc := "(I)J" } : Jvm.MethodName) prog_87_method_370_code (1 : Nat) (Option.some Jvm.ClassFile.FieldType.long)) ∈ lw_all := lw_g (lw_at lw_m8 11 rfl) rfl
theorem q1786 : (Jvm.Cond.constantLong "jdk/internal/misc/Unsafe" (812 : Nat) (4294967295 : Int64)) ∈ lw_all := lw_g (lw_at lw_m8 12 rfl) rfl
theorem q1787 : (Jvm.Cond.methodLink "jdk/internal/misc/Unsafe" (784 : Nat) ({ cls := "jdk/internal/misc/Unsafe", name := "pickPos", desc := "(II)I" } : Jvm.MethodName)) ∈ lw_all := lw_g (lw_at lw_m8 13 rfl) rfl
theorem q1788 : (Jvm.Cond.static ({ cls := "jdk/internal/misc/Unsafe", name := "pickPos", desc := "(II)I" } : Jvm.MethodName)) ∈ lw_all := lw_g (lw_at lw_m8 14 rfl) rfl
theorem q1789 : (Jvm.Cond.code ({ cls := "jdk/internal/misc/Unsafe", name := "pickPos", desc := "(II)I" } : Jvm.MethodName) prog_87_method_350_code (2 : Nat) (Option.some Jvm.ClassFile.FieldType.int)) ∈ lw_all := lw_g (lw_at lw_m8 15 rfl) rfl
theorem q1790 : (Jvm.Cond.fieldLink "jdk/internal/misc/Unsafe" (351 : Nat) "jdk/internal/misc/UnsafeConstants" "BIG_ENDIAN" "Z") ∈ lw_all := lw_g (lw_at lw_m8 16 rfl) rfl
theorem q1792 : (Jvm.Cond.methodLink "jdk/internal/misc/Unsafe" (47 : Nat) ({ cls := "jdk/internal/misc/Unsafe", name := "getShort", desc := "(Ljava/lang/Object;J)S" } : Jvm.MethodName)) ∈ lw_all := lw_g (lw_at lw_m8 18 rfl) rfl
theorem q1793 : (Jvm.Cond.instanceMethod ({ cls := "jdk/internal/misc/Unsafe", name := "getShort", desc := "(Ljava/lang/Object;J)S" } : Jvm.MethodName)) ∈ lw_all := lw_g (lw_at lw_m8 19 rfl) rfl
theorem q1794 : (Jvm.Cond.selects "jdk/internal/misc/Unsafe" ({ cls := "jdk/internal/misc/Unsafe", name := "getShort", desc := "(Ljava/lang/Object;J)S" } : Jvm.MethodName) ({ cls := "jdk/internal/misc/Unsafe", name := "getShort", desc := "(Ljava/lang/Object;J)S" } : Jvm.MethodName)) ∈ lw_all := lw_g (lw_at lw_m8 20 rfl) rfl
theorem q1795 : (Jvm.Cond.native ({ cls := "jdk/internal/misc/Unsafe", name := "getShort", desc := "(Ljava/lang/Object;J)S" } : Jvm.MethodName)) ∈ lw_all := lw_g (lw_at lw_m8 21 rfl) rfl
theorem q1796 : (Jvm.Cond.constantLong "jdk/internal/misc/Unsafe" (203 : Nat) (2 : Int64)) ∈ lw_all := lw_g (lw_at lw_m8 22 rfl) rfl
theorem q1797 : (Jvm.Cond.constantLong "jdk/internal/misc/Unsafe" (702 : Nat) (6 : Int64)) ∈ lw_all := lw_g (lw_at lw_m8 23 rfl) rfl
theorem q1798 : (Jvm.Cond.methodLink "jdk/internal/misc/Unsafe" (704 : Nat) ({ cls := "jdk/internal/misc/Unsafe", name := "makeLong", desc := "(SSSS)J" } : Jvm.MethodName)) ∈ lw_all := lw_g (lw_at lw_m8 24 rfl) rfl
theorem q1799 : (Jvm.Cond.static ({ cls := "jdk/internal/misc/Unsafe", name := "makeLong", desc := "(SSSS)J" } : Jvm.MethodName)) ∈ lw_all := lw_g (lw_at lw_m8 25 rfl) rfl
theorem q1800 : (Jvm.Cond.code ({ cls := "jdk/internal/misc/Unsafe", name := "makeLong", desc := "(SSSS)J" } : Jvm.MethodName) prog_87_method_352_code (4 : Nat) (Option.some Jvm.ClassFile.FieldType.long)) ∈ lw_all := lw_g (lw_at lw_m8 26 rfl) rfl
theorem q1801 : (Jvm.Cond.methodLink "jdk/internal/misc/Unsafe" (788 : Nat) ({ cls := "jdk/internal/misc/Unsafe", name := "toUnsignedLong", desc := "(S)J" } : Jvm.MethodName)) ∈ lw_all := lw_g (lw_at lw_m8 27 rfl) rfl
theorem q1802 : (Jvm.Cond.static ({ cls := "jdk/internal/misc/Unsafe", name := "toUnsignedLong", desc := "(S)J" } : Jvm.MethodName)) ∈ lw_all := lw_g (lw_at lw_m8 28 rfl) rfl
theorem q1803 : (Jvm.Cond.code ({ cls := "jdk/internal/misc/Unsafe", name := "toUnsignedLong", desc := "(S)J" } : Jvm.MethodName) prog_87_method_369_code (1 : Nat) (Option.some Jvm.ClassFile.FieldType.long)) ∈ lw_all := lw_g (lw_at lw_m8 29 rfl) rfl
theorem q1804 : (Jvm.Cond.constantLong "jdk/internal/misc/Unsafe" (810 : Nat) (65535 : Int64)) ∈ lw_all := lw_g (lw_at lw_m8 30 rfl) rfl
theorem q1805 : (Jvm.Cond.methodLink "jdk/internal/misc/Unsafe" (39 : Nat) ({ cls := "jdk/internal/misc/Unsafe", name := "getByte", desc := "(Ljava/lang/Object;J)B" } : Jvm.MethodName)) ∈ lw_all := lw_g (lw_at lw_m8 31 rfl) rfl
theorem q1806 : (Jvm.Cond.instanceMethod ({ cls := "jdk/internal/misc/Unsafe", name := "getByte", desc := "(Ljava/lang/Object;J)B" } : Jvm.MethodName)) ∈ lw_all := lw_g (lw_at lw_m8 32 rfl) rfl
theorem q1807 : (Jvm.Cond.selects "jdk/internal/misc/Unsafe" ({ cls := "jdk/internal/misc/Unsafe", name := "getByte", desc := "(Ljava/lang/Object;J)B" } : Jvm.MethodName) ({ cls := "jdk/internal/misc/Unsafe", name := "getByte", desc := "(Ljava/lang/Object;J)B" } : Jvm.MethodName)) ∈ lw_all := lw_g (lw_at lw_m8 33 rfl) rfl
theorem q1808 : (Jvm.Cond.native ({ cls := "jdk/internal/misc/Unsafe", name := "getByte", desc := "(Ljava/lang/Object;J)B" } : Jvm.MethodName)) ∈ lw_all := lw_g (lw_at lw_m8 34 rfl) rfl
theorem q1809 : (Jvm.Cond.constantLong "jdk/internal/misc/Unsafe" (707 : Nat) (5 : Int64)) ∈ lw_all := lw_g (lw_at lw_m8 35 rfl) rfl
theorem q1810 : (Jvm.Cond.methodLink "jdk/internal/misc/Unsafe" (709 : Nat) ({ cls := "jdk/internal/misc/Unsafe", name := "makeLong", desc := "(BBBBBBBB)J" } : Jvm.MethodName)) ∈ lw_all := lw_g (lw_at lw_m8 36 rfl) rfl
theorem q1811 : (Jvm.Cond.static ({ cls := "jdk/internal/misc/Unsafe", name := "makeLong", desc := "(BBBBBBBB)J" } : Jvm.MethodName)) ∈ lw_all := lw_g (lw_at lw_m8 37 rfl) rfl
theorem q1812 : (Jvm.Cond.code ({ cls := "jdk/internal/misc/Unsafe", name := "makeLong", desc := "(BBBBBBBB)J" } : Jvm.MethodName) prog_87_method_351_code (8 : Nat) (Option.some Jvm.ClassFile.FieldType.long)) ∈ lw_all := lw_g (lw_at lw_m8 38 rfl) rfl
theorem q1813 : (Jvm.Cond.methodLink "jdk/internal/misc/Unsafe" (781 : Nat) ({ cls := "jdk/internal/misc/Unsafe", name := "toUnsignedLong", desc := "(B)J" } : Jvm.MethodName)) ∈ lw_all := lw_g (lw_at lw_m8 39 rfl) rfl
theorem q1814 : (Jvm.Cond.static ({ cls := "jdk/internal/misc/Unsafe", name := "toUnsignedLong", desc := "(B)J" } : Jvm.MethodName)) ∈ lw_all := lw_g (lw_at lw_m8 40 rfl) rfl
theorem q1815 : (Jvm.Cond.code ({ cls := "jdk/internal/misc/Unsafe", name := "toUnsignedLong", desc := "(B)J" } : Jvm.MethodName) prog_87_method_368_code (1 : Nat) (Option.some Jvm.ClassFile.FieldType.long)) ∈ lw_all := lw_g (lw_at lw_m8 41 rfl) rfl
theorem q1816 : (Jvm.Cond.constantLong "jdk/internal/misc/Unsafe" (808 : Nat) (255 : Int64)) ∈ lw_all := lw_g (lw_at lw_m8 42 rfl) rfl
theorem q1831 : (Jvm.Cond.instanceMethod ({ cls := "jdk/internal/misc/Unsafe", name := "getIntUnaligned", desc := "(Ljava/lang/Object;J)I" } : Jvm.MethodName)) ∈ lw_all := lw_g (lw_at lw_m8 57 rfl) rfl
theorem q1832 : (Jvm.Cond.selects "jdk/internal/misc/Unsafe" ({ cls := "jdk/internal/misc/Unsafe", name := "getIntUnaligned", desc := "(Ljava/lang/Object;J)I" } : Jvm.MethodName) ({ cls := "jdk/internal/misc/Unsafe", name := "getIntUnaligned", desc := "(Ljava/lang/Object;J)I" } : Jvm.MethodName)) ∈ lw_all := lw_g (lw_at lw_m8 58 rfl) rfl
theorem q1833 : (Jvm.Cond.code ({ cls := "jdk/internal/misc/Unsafe", name := "getIntUnaligned", desc := "(Ljava/lang/Object;J)I" } : Jvm.MethodName) prog_87_method_336_code (4 : Nat) (Option.some Jvm.ClassFile.FieldType.int)) ∈ lw_all := lw_g (lw_at lw_m8 59 rfl) rfl
theorem q1834 : (Jvm.Cond.methodLink "jdk/internal/misc/Unsafe" (719 : Nat) ({ cls := "jdk/internal/misc/Unsafe", name := "makeInt", desc := "(SS)I" } : Jvm.MethodName)) ∈ lw_all := lw_g (lw_at lw_m8 60 rfl) rfl
theorem q1835 : (Jvm.Cond.static ({ cls := "jdk/internal/misc/Unsafe", name := "makeInt", desc := "(SS)I" } : Jvm.MethodName)) ∈ lw_all := lw_g (lw_at lw_m8 61 rfl) rfl
theorem q1836 : (Jvm.Cond.code ({ cls := "jdk/internal/misc/Unsafe", name := "makeInt", desc := "(SS)I" } : Jvm.MethodName) prog_87_method_354_code (2 : Nat) (Option.some Jvm.ClassFile.FieldType.int)) ∈ lw_all := lw_g (lw_at lw_m8 62 rfl) rfl
theorem q1837 : (Jvm.Cond.methodLink "jdk/internal/misc/Unsafe" (792 : Nat) ({ cls := "jdk/internal/misc/Unsafe", name := "toUnsignedInt", desc := "(S)I" } : Jvm.MethodName)) ∈ lw_all := lw_g (lw_at lw_m8 63 rfl) rfl
theorem q1838 : (Jvm.Cond.static ({ cls := "jdk/internal/misc/Unsafe", name := "toUnsignedInt", desc := "(S)I" } : Jvm.MethodName)) ∈ lw_all := lw_g (lw_at lw_m8 64 rfl) rfl
theorem q1839 : (Jvm.Cond.code ({ cls := "jdk/internal/misc/Unsafe", name := "toUnsignedInt", desc := "(S)I" } : Jvm.MethodName) prog_87_method_367_code (1 : Nat) (Option.some Jvm.ClassFile.FieldType.int)) ∈ lw_all := lw_g (lw_at lw_m8 65 rfl) rfl
theorem q1840 : (Jvm.Cond.constant "jdk/internal/misc/Unsafe" (374 : Nat) (65535 : Int32)) ∈ lw_all := lw_g (lw_at lw_m8 66 rfl) rfl
theorem q1841 : (Jvm.Cond.methodLink "jdk/internal/misc/Unsafe" (723 : Nat) ({ cls := "jdk/internal/misc/Unsafe", name := "makeInt", desc := "(BBBB)I" } : Jvm.MethodName)) ∈ lw_all := lw_g (lw_at lw_m8 67 rfl) rfl
theorem q1842 : (Jvm.Cond.static ({ cls := "jdk/internal/misc/Unsafe", name := "makeInt", desc := "(BBBB)I" } : Jvm.MethodName)) ∈ lw_all := lw_g (lw_at lw_m8 68 rfl) rfl
theorem q1843 : (Jvm.Cond.code ({ cls := "jdk/internal/misc/Unsafe", name := "makeInt", desc := "(BBBB)I" } : Jvm.MethodName) prog_87_method_355_code (4 : Nat) (Option.some Jvm.ClassFile.FieldType.int)) ∈ lw_all := lw_g (lw_at lw_m8 69 rfl) rfl
theorem q1844 : (Jvm.Cond.methodLink "jdk/internal/misc/Unsafe" (796 : Nat) ({ cls := "jdk/internal/misc/Unsafe", name := "toUnsignedInt", desc := "(B)I" } : Jvm.MethodName)) ∈ lw_all := lw_g (lw_at lw_m8 70 rfl) rfl
theorem q1845 : (Jvm.Cond.static ({ cls := "jdk/internal/misc/Unsafe", name := "toUnsignedInt", desc := "(B)I" } : Jvm.MethodName)) ∈ lw_all := lw_g (lw_at lw_m8 71 rfl) rfl
theorem q1846 : (Jvm.Cond.code ({ cls := "jdk/internal/misc/Unsafe", name := "toUnsignedInt", desc := "(B)I" } : Jvm.MethodName) prog_87_method_366_code (1 : Nat) (Option.some Jvm.ClassFile.FieldType.int)) ∈ lw_all := lw_g (lw_at lw_m8 72 rfl) rfl
theorem q3825 : (Jvm.Cond.castable "jdk/internal/misc/Unsafe" "java/lang/Object") ∈ lw_tbl := lw_at lw_m16 131 rfl

/-! java/util/HashMap$TreeNode -/
def RJ43 : String := "java/util/HashMap$TreeNode"
def TJ43 : u_T := fun k => match k with
  | 0 => ("java/util/HashMap$Node", "hash", "I", true)
  | 1 => ("java/util/HashMap$Node", "key", "Ljava/lang/Object;", true)
  | 2 => ("java/util/HashMap$Node", "value", "Ljava/lang/Object;", false)
  | 3 => ("java/util/HashMap$Node", "next", "Ljava/util/HashMap$Node;", false)
  | 4 => ("java/util/LinkedHashMap$Entry", "before", "Ljava/util/LinkedHashMap$Entry;", false)
  | 5 => ("java/util/LinkedHashMap$Entry", "after", "Ljava/util/LinkedHashMap$Entry;", false)
  | 6 => ("java/util/HashMap$TreeNode", "parent", "Ljava/util/HashMap$TreeNode;", false)
  | 7 => ("java/util/HashMap$TreeNode", "left", "Ljava/util/HashMap$TreeNode;", false)
  | 8 => ("java/util/HashMap$TreeNode", "right", "Ljava/util/HashMap$TreeNode;", false)
  | 9 => ("java/util/HashMap$TreeNode", "prev", "Ljava/util/HashMap$TreeNode;", false)
  | _ => ("java/util/HashMap$TreeNode", "red", "Z", false)
def tyJ43 : Nat → FieldType := fun k => match k with
  | 0 => .int
  | 1 => .object "java/lang/Object"
  | 2 => .object "java/lang/Object"
  | 3 => .object "java/util/HashMap$Node"
  | 4 => .object "java/util/LinkedHashMap$Entry"
  | 5 => .object "java/util/LinkedHashMap$Entry"
  | 6 => .object "java/util/HashMap$TreeNode"
  | 7 => .object "java/util/HashMap$TreeNode"
  | 8 => .object "java/util/HashMap$TreeNode"
  | 9 => .object "java/util/HashMap$TreeNode"
  | _ => .boolean
abbrev wsJ430 : List Cond := u_ws RJ43 TJ43 11
theorem nmJ43 : ∀ a, a < 11 → ∀ b, b < 11 → a ≠ b → (TJ43 a).2.1 ≠ (TJ43 b).2.1 := by decide +kernel
theorem tyJ43_ok : ∀ k, k < 11 → parseFieldDescriptor (TJ43 k).2.2.1 = some (tyJ43 k) := by decide +kernel
abbrev cJ43_getTreeNode : ByteArray := prog_65_method_5_code
def yJ43_getTreeNode : MethodName := ⟨RJ43, "getTreeNode", "(ILjava/lang/Object;)Ljava/util/HashMap$TreeNode;"⟩
abbrev cJ43_root : ByteArray := prog_65_method_2_code
def yJ43_root : MethodName := ⟨RJ43, "root", "()Ljava/util/HashMap$TreeNode;"⟩
abbrev cJ43_find : ByteArray := prog_65_method_4_code
def yJ43_find : MethodName := ⟨RJ43, "find", "(ILjava/lang/Object;Ljava/lang/Class;)Ljava/util/HashMap$TreeNode;"⟩
abbrev cJ43_split : ByteArray := prog_65_method_11_code
def yJ43_split : MethodName := ⟨RJ43, "split", "(Ljava/util/HashMap;[Ljava/util/HashMap$Node;II)V"⟩
abbrev cJ43_untreeify : ByteArray := prog_65_method_8_code
def yJ43_untreeify : MethodName := ⟨RJ43, "untreeify", "(Ljava/util/HashMap;)Ljava/util/HashMap$Node;"⟩
abbrev cJ43_treeify : ByteArray := prog_65_method_7_code
def yJ43_treeify : MethodName := ⟨RJ43, "treeify", "([Ljava/util/HashMap$Node;)V"⟩
abbrev cJ43_balanceInsertion : ByteArray := prog_65_method_14_code
def yJ43_balanceInsertion : MethodName := ⟨RJ43, "balanceInsertion", "(Ljava/util/HashMap$TreeNode;Ljava/util/HashMap$TreeNode;)Ljava/util/HashMap$TreeNode;"⟩
abbrev cJ43_rotateLeft : ByteArray := prog_65_method_12_code
def yJ43_rotateLeft : MethodName := ⟨RJ43, "rotateLeft", "(Ljava/util/HashMap$TreeNode;Ljava/util/HashMap$TreeNode;)Ljava/util/HashMap$TreeNode;"⟩
abbrev cJ43_rotateRight : ByteArray := prog_65_method_13_code
def yJ43_rotateRight : MethodName := ⟨RJ43, "rotateRight", "(Ljava/util/HashMap$TreeNode;Ljava/util/HashMap$TreeNode;)Ljava/util/HashMap$TreeNode;"⟩
abbrev cJ43_moveRootToFront : ByteArray := prog_65_method_3_code
def yJ43_moveRootToFront : MethodName := ⟨RJ43, "moveRootToFront", "([Ljava/util/HashMap$Node;Ljava/util/HashMap$TreeNode;)V"⟩
abbrev cJ43_putTreeVal : ByteArray := prog_65_method_9_code
def yJ43_putTreeVal : MethodName := ⟨RJ43, "putTreeVal", "(Ljava/util/HashMap;[Ljava/util/HashMap$Node;ILjava/lang/Object;Ljava/lang/Object;)Ljava/util/HashMap$TreeNode;"⟩
abbrev cJ43_init : ByteArray := prog_65_method_1_code
def yJ43_init : MethodName := ⟨RJ43, "<init>", "(ILjava/lang/Object;Ljava/lang/Object;Ljava/util/HashMap$Node;)V"⟩
abbrev cJ43_removeTreeNode : ByteArray := prog_65_method_10_code
def yJ43_removeTreeNode : MethodName := ⟨RJ43, "removeTreeNode", "(Ljava/util/HashMap;[Ljava/util/HashMap$Node;Z)V"⟩
abbrev cJ43_balanceDeletion : ByteArray := prog_65_method_15_code
def yJ43_balanceDeletion : MethodName := ⟨RJ43, "balanceDeletion", "(Ljava/util/HashMap$TreeNode;Ljava/util/HashMap$TreeNode;)Ljava/util/HashMap$TreeNode;"⟩
theorem q147 : (Jvm.Cond.initialized "java/util/HashMap$TreeNode") ∈ lw_all := lw_g (lw_at lw_m1 53 rfl) rfl
theorem q824 : (Jvm.Cond.selects "java/util/HashMap$TreeNode" ({ cls := "java/util/LinkedHashMap$Entry", name := "getKey", desc := "()Ljava/lang/Object;" } : Jvm.MethodName) ({ cls := "java/util/HashMap$Node", name := "getKey", desc := "()Ljava/lang/Object;" } : Jvm.MethodName)) ∈ lw_all := lw_g (lw_at lw_m4 10 rfl) rfl
theorem q1268 : (Jvm.Cond.selects "java/util/HashMap$TreeNode" ({ cls := "java/lang/Object", name := "getClass", desc := "()Ljava/lang/Class;" } : Jvm.MethodName) ({ cls := "java/lang/Object", name := "getClass", desc := "()Ljava/lang/Class;" } : Jvm.MethodName)) ∈ lw_all := lw_g (lw_at lw_m5 214 rfl) rfl
theorem q1696 : (Jvm.Cond.instanceMethod ({ cls := "java/util/HashMap$TreeNode", name := "getTreeNode", desc := "(ILjava/lang/Object;)Ljava/util/HashMap$TreeNode;" } : Jvm.MethodName)) ∈ lw_all := lw_g (lw_at lw_m7 162 rfl) rfl
theorem q1697 : (Jvm.Cond.selects "java/util/HashMap$TreeNode" ({ cls := "java/util/HashMap$TreeNode", name := "getTreeNode", desc := "(ILjava/lang/Object;)Ljava/util/HashMap$TreeNode;" } : Jvm.MethodName) ({ cls := "java/util/HashMap$TreeNode", name := "getTreeNode", desc := "(ILjava/lang/Object;)Ljava/util/HashMap$TreeNode;" } : Jvm.MethodName)) ∈ lw_all := lw_g (lw_at lw_m7 163 rfl) rfl
theorem q1698 : (Jvm.Cond.code ({ cls := "java/util/HashMap$TreeNode", name := "getTreeNode", desc := "(ILjava/lang/Object;)Ljava/util/HashMap$TreeNode;" } : Jvm.MethodName) prog_65_method_5_code (3 : Nat) (Option.some (Jvm.ClassFile.FieldType.object "java/util/HashMap$TreeNode"))) ∈ lw_all := lw_g (lw_at lw_m7 164 rfl) rfl
theorem q1699 : (Jvm.Cond.methodLink "java/util/HashMap$TreeNode" (67 : Nat) ({ cls := "java/util/HashMap$TreeNode", name := "root", desc := "()Ljava/util/HashMap$TreeNode;" } : Jvm.MethodName)) ∈ lw_all := lw_g (lw_at lw_m7 165 rfl) rfl
theorem q1700 : (Jvm.Cond.instanceMethod ({ cls := "java/util/HashMap$TreeNode", name := "root", desc := "()Ljava/util/HashMap$TreeNode;" } : Jvm.MethodName)) ∈ lw_all := lw_g (lw_at lw_m7 166 rfl) rfl
theorem q1701 : (Jvm.Cond.selects "java/util/HashMap$TreeNode" ({ cls := "java/util/HashMap$TreeNode", name := "root", desc := "()Ljava/util/HashMap$TreeNode;" } : Jvm.MethodName) ({ cls := "java/util/HashMap$TreeNode", name := "root", desc := "()Ljava/util/HashMap$TreeNode;" } : Jvm.MethodName)) ∈ lw_all := lw_g (lw_at lw_m7 167 rfl) rfl
theorem q1702 : (Jvm.Cond.code ({ cls := "java/util/HashMap$TreeNode", name := "root", desc := "()Ljava/util/HashMap$TreeNode;" } : Jvm.MethodName) prog_65_method_2_code (3 : Nat) (Option.some (Jvm.ClassFile.FieldType.object "java/util/HashMap$TreeNode"))) ∈ lw_all := lw_g (lw_at lw_m7 168 rfl) rfl
theorem q1703 : (Jvm.Cond.methodLink "java/util/HashMap$TreeNode" (63 : Nat) ({ cls := "java/util/HashMap$TreeNode", name := "find", desc := "(ILjava/lang/Object;Ljava/lang/Class;)Ljava/util/HashMap$TreeNode;" } : Jvm.MethodName)) ∈ lw_all := lw_g (lw_at lw_m7 169 rfl) rfl
theorem q1704 : (Jvm.Cond.instanceMethod ({ cls := "java/util/HashMap$TreeNode", name := "find", desc := "(ILjava/lang/Object;Ljava/lang/Class;)Ljava/util/HashMap$TreeNode;" } : Jvm.MethodName)) ∈ lw_all := lw_g (lw_at lw_m7 170 rfl) rfl
theorem q1705 : (Jvm.Cond.selects "java/util/HashMap$TreeNode" ({ cls := "java/util/HashMap$TreeNode", name := "find", desc := "(ILjava/lang/Object;Ljava/lang/Class;)Ljava/util/HashMap$TreeNode;" } : Jvm.MethodName) ({ cls := "java/util/HashMap$TreeNode", name := "find", desc := "(ILjava/lang/Object;Ljava/lang/Class;)Ljava/util/HashMap$TreeNode;" } : Jvm.MethodName)) ∈ lw_all := lw_g (lw_at lw_m7 171 rfl) rfl
theorem q1706 : (Jvm.Cond.code ({ cls := "java/util/HashMap$TreeNode", name := "find", desc := "(ILjava/lang/Object;Ljava/lang/Class;)Ljava/util/HashMap$TreeNode;" } : Jvm.MethodName) prog_65_method_4_code (11 : Nat) (Option.some (Jvm.ClassFile.FieldType.object "java/util/HashMap$TreeNode"))) ∈ lw_all := lw_g (lw_at lw_m7 172 rfl) rfl
theorem q1707 : (Jvm.Cond.methodLink "java/util/HashMap$TreeNode" (49 : Nat) ({ cls := "java/lang/Object", name := "equals", desc := "(Ljava/lang/Object;)Z" } : Jvm.MethodName)) ∈ lw_all := lw_g (lw_at lw_m7 173 rfl) rfl
theorem q1708 : (Jvm.Cond.methodLink "java/util/HashMap$TreeNode" (55 : Nat) ({ cls := "java/util/HashMap", name := "comparableClassFor", desc := "(Ljava/lang/Object;)Ljava/lang/Class;" } : Jvm.MethodName)) ∈ lw_all := lw_g (lw_at lw_m7 174 rfl) rfl
theorem q1714 : (Jvm.Cond.methodLink "java/util/HashMap$TreeNode" (59 : Nat) ({ cls := "java/util/HashMap", name := "compareComparables", desc := "(Ljava/lang/Class;Ljava/lang/Object;Ljava/lang/Object;)I" } : Jvm.MethodName)) ∈ lw_all := lw_g (lw_at lw_m7 180 rfl) rfl
theorem q2070 : (Jvm.Cond.instanceMethod ({ cls := "java/util/HashMap$TreeNode", name := "split", desc := "(Ljava/util/HashMap;[Ljava/util/HashMap$Node;II)V" } : Jvm.MethodName)) ∈ lw_all := lw_g (lw_at lw_m9 56 rfl) rfl
theorem q2071 : (Jvm.Cond.selects "java/util/HashMap$TreeNode" ({ cls := "java/util/HashMap$TreeNode", name := "split", desc := "(Ljava/util/HashMap;[Ljava/util/HashMap$Node;II)V" } : Jvm.MethodName) ({ cls := "java/util/HashMap$TreeNode", name := "split", desc := "(Ljava/util/HashMap;[Ljava/util/HashMap$Node;II)V" } : Jvm.MethodName)) ∈ lw_all := lw_g (lw_at lw_m9 57 rfl) rfl
theorem q2072 : (Jvm.Cond.code ({ cls := "java/util/HashMap$TreeNode", name := "split", desc := "(Ljava/util/HashMap;[Ljava/util/HashMap$Node;II)V" } : Jvm.MethodName) prog_65_method_11_code (14 : Nat) (Option.none : Option Jvm.ClassFile.FieldType)) ∈ lw_all := lw_g (lw_at lw_m9 58 rfl) rfl
theorem q2073 : (Jvm.Cond.classLink "java/util/HashMap$TreeNode" (10 : Nat) "java/util/HashMap$TreeNode") ∈ lw_all := lw_g (lw_at lw_m9 59 rfl) rfl
theorem q2074 : (Jvm.Cond.methodLink "java/util/HashMap$TreeNode" (119 : Nat) ({ cls := "java/util/HashMap$TreeNode", name := "untreeify", desc := "(Ljava/util/HashMap;)Ljava/util/HashMap$Node;" } : Jvm.MethodName)) ∈ lw_all := lw_g (lw_at lw_m9 60 rfl) rfl
theorem q2075 : (Jvm.Cond.instanceMethod ({ cls := "java/util/HashMap$TreeNode", name := "untreeify", desc := "(Ljava/util/HashMap;)Ljava/util/HashMap$Node;" } : Jvm.MethodName)) ∈ lw_all := lw_g (lw_at lw_m9 61 rfl) rfl
theorem q2076 : (Jvm.Cond.selects "java/util/HashMap$TreeNode" ({ cls := "java/util/HashMap$TreeNode", name := "untreeify", desc := "(Ljava/util/HashMap;)Ljava/util/HashMap$Node;" } : Jvm.MethodName) ({ cls := "java/util/HashMap$TreeNode", name := "untreeify", desc := "(Ljava/util/HashMap;)Ljava/util/HashMap$Node;" } : Jvm.MethodName)) ∈ lw_all := lw_g (lw_at lw_m9 62 rfl) rfl
theorem q2077 : (Jvm.Cond.code ({ cls := "java/util/HashMap$TreeNode", name := "untreeify", desc := "(Ljava/util/HashMap;)Ljava/util/HashMap$Node;" } : Jvm.MethodName) prog_65_method_8_code (6 : Nat) (Option.some (Jvm.ClassFile.FieldType.object "java/util/HashMap$Node"))) ∈ lw_all := lw_g (lw_at lw_m9 63 rfl) rfl
theorem q2078 : (Jvm.Cond.methodLink "java/util/HashMap$TreeNode" (108 : Nat) ({ cls := "java/util/HashMap", name := "replacementNode", desc := "(Ljava/util/HashMap$Node;Ljava/util/HashMap$Node;)Ljava/util/HashMap$Node;" } : Jvm.MethodName)) ∈ lw_all := lw_g (lw_at lw_m9 64 rfl) rfl
theorem q2099 : (Jvm.Cond.fieldLink "java/util/HashMap$TreeNode" (15 : Nat) "java/util/HashMap$TreeNode" "hash" "I") ∈ lw_all := lw_g (lw_at lw_m9 85 rfl) rfl
theorem q2100 : (Jvm.Cond.sameField "java/util/HashMap$TreeNode" "java/util/HashMap$Node" "hash" "I") ∈ lw_all := lw_g (lw_at lw_m9 86 rfl) rfl
theorem q2106 : (Jvm.Cond.fieldLink "java/util/HashMap$TreeNode" (45 : Nat) "java/util/HashMap$TreeNode" "key" "Ljava/lang/Object;") ∈ lw_all := lw_g (lw_at lw_m9 92 rfl) rfl
theorem q2107 : (Jvm.Cond.sameField "java/util/HashMap$TreeNode" "java/util/HashMap$Node" "key" "Ljava/lang/Object;") ∈ lw_all := lw_g (lw_at lw_m9 93 rfl) rfl
theorem q2119 : (Jvm.Cond.fieldLink "java/util/HashMap$TreeNode" (22 : Nat) "java/util/HashMap$TreeNode" "next" "Ljava/util/HashMap$Node;") ∈ lw_all := lw_g (lw_at lw_m9 105 rfl) rfl
theorem q2120 : (Jvm.Cond.sameField "java/util/HashMap$TreeNode" "java/util/HashMap$Node" "next" "Ljava/util/HashMap$Node;") ∈ lw_all := lw_g (lw_at lw_m9 106 rfl) rfl
theorem q2121 : (Jvm.Cond.fieldLink "java/util/HashMap$TreeNode" (112 : Nat) "java/util/HashMap$Node" "next" "Ljava/util/HashMap$Node;") ∈ lw_all := lw_g (lw_at lw_m9 107 rfl) rfl
theorem q2149 : (Jvm.Cond.methodLink "java/util/HashMap$TreeNode" (126 : Nat) ({ cls := "java/util/HashMap$TreeNode", name := "treeify", desc := "([Ljava/util/HashMap$Node;)V" } : Jvm.MethodName)) ∈ lw_all := lw_g (lw_at lw_m9 135 rfl) rfl
theorem q2150 : (Jvm.Cond.instanceMethod ({ cls := "java/util/HashMap$TreeNode", name := "treeify", desc := "([Ljava/util/HashMap$Node;)V" } : Jvm.MethodName)) ∈ lw_all := lw_g (lw_at lw_m9 136 rfl) rfl
theorem q2151 : (Jvm.Cond.selects "java/util/HashMap$TreeNode" ({ cls := "java/util/HashMap$TreeNode", name := "treeify", desc := "([Ljava/util/HashMap$Node;)V" } : Jvm.MethodName) ({ cls := "java/util/HashMap$TreeNode", name := "treeify", desc := "([Ljava/util/HashMap$Node;)V" } : Jvm.MethodName)) ∈ lw_all := lw_g (lw_at lw_m9 137 rfl) rfl
theorem q2152 : (Jvm.Cond.code ({ cls := "java/util/HashMap$TreeNode", name := "treeify", desc := "([Ljava/util/HashMap$Node;)V" } : Jvm.MethodName) prog_65_method_7_code (13 : Nat) (Option.none : Option Jvm.ClassFile.FieldType)) ∈ lw_all := lw_g (lw_at lw_m9 138 rfl) rfl
theorem q2153 : (Jvm.Cond.methodLink "java/util/HashMap$TreeNode" (100 : Nat) ({ cls := "java/util/HashMap$TreeNode", name := "balanceInsertion", desc := "(Ljava/util/HashMap$TreeNode;Ljava/util/HashMap$TreeNode;)Ljava/util/HashMap$TreeNode;" } : Jvm.MethodName)) ∈ lw_all := lw_g (lw_at lw_m9 139 rfl) rfl
theorem q2154 : (Jvm.Cond.static ({ cls := "java/util/HashMap$TreeNode", name := "balanceInsertion", desc := "(Ljava/util/HashMap$TreeNode;Ljava/util/HashMap$TreeNode;)Ljava/util/HashMap$TreeNode;" } : Jvm.MethodName)) ∈ lw_all := lw_g (lw_at lw_m9 140 rfl) rfl
theorem q2155 : (Jvm.Cond.code ({ cls := "java/util/HashMap$TreeNode", name := "balanceInsertion", desc := "(Ljava/util/HashMap$TreeNode;Ljava/util/HashMap$TreeNode;)Ljava/util/HashMap$TreeNode;" } : Jvm.MethodName) prog_65_method_14_code (6 : Nat) (Option.some (Jvm.ClassFile.FieldType.object "java/util/HashMap$TreeNode"))) ∈ lw_all := lw_g (lw_at lw_m9 141 rfl) rfl
theorem q2156 : (Jvm.Cond.methodLink "java/util/HashMap$TreeNode" (130 : Nat) ({ cls := "java/util/HashMap$TreeNode", name := "rotateLeft", desc := "(Ljava/util/HashMap$TreeNode;Ljava/util/HashMap$TreeNode;)Ljava/util/HashMap$TreeNode;" } : Jvm.MethodName)) ∈ lw_all := lw_g (lw_at lw_m9 142 rfl) rfl
theorem q2157 : (Jvm.Cond.static ({ cls := "java/util/HashMap$TreeNode", name := "rotateLeft", desc := "(Ljava/util/HashMap$TreeNode;Ljava/util/HashMap$TreeNode;)Ljava/util/HashMap$TreeNode;" } : Jvm.MethodName)) ∈ lw_all := lw_g (lw_at lw_m9 143 rfl) rfl
theorem q2158 : (Jvm.Cond.code ({ cls := "java/util/HashMap$TreeNode", name := "rotateLeft", desc := "(Ljava/util/HashMap$TreeNode;Ljava/util/HashMap$TreeNode;)Ljava/util/HashMap$TreeNode;" } : Jvm.MethodName) prog_65_method_12_code (5 : Nat) (Option.some (Jvm.ClassFile.FieldType.object "java/util/HashMap$TreeNode"))) ∈ lw_all := lw_g (lw_at lw_m9 144 rfl) rfl
theorem q2159 : (Jvm.Cond.methodLink "java/util/HashMap$TreeNode" (133 : Nat) ({ cls := "java/util/HashMap$TreeNode", name := "rotateRight", desc := "(Ljava/util/HashMap$TreeNode;Ljava/util/HashMap$TreeNode;)Ljava/util/HashMap$TreeNode;" } : Jvm.MethodName)) ∈ lw_all := lw_g (lw_at lw_m9 145 rfl) rfl
theorem q2160 : (Jvm.Cond.static ({ cls := "java/util/HashMap$TreeNode", name := "rotateRight", desc := "(Ljava/util/HashMap$TreeNode;Ljava/util/HashMap$TreeNode;)Ljava/util/HashMap$TreeNode;" } : Jvm.MethodName)) ∈ lw_all := lw_g (lw_at lw_m9 146 rfl) rfl
theorem q2161 : (Jvm.Cond.code ({ cls := "java/util/HashMap$TreeNode", name := "rotateRight", desc := "(Ljava/util/HashMap$TreeNode;Ljava/util/HashMap$TreeNode;)Ljava/util/HashMap$TreeNode;" } : Jvm.MethodName) prog_65_method_13_code (5 : Nat) (Option.some (Jvm.ClassFile.FieldType.object "java/util/HashMap$TreeNode"))) ∈ lw_all := lw_g (lw_at lw_m9 147 rfl) rfl
theorem q2162 : (Jvm.Cond.methodLink "java/util/HashMap$TreeNode" (104 : Nat) ({ cls := "java/util/HashMap$TreeNode", name := "moveRootToFront", desc := "([Ljava/util/HashMap$Node;Ljava/util/HashMap$TreeNode;)V" } : Jvm.MethodName)) ∈ lw_all := lw_g (lw_at lw_m9 148 rfl) rfl
theorem q2163 : (Jvm.Cond.static ({ cls := "java/util/HashMap$TreeNode", name := "moveRootToFront", desc := "([Ljava/util/HashMap$Node;Ljava/util/HashMap$TreeNode;)V" } : Jvm.MethodName)) ∈ lw_all := lw_g (lw_at lw_m9 149 rfl) rfl
theorem q2164 : (Jvm.Cond.code ({ cls := "java/util/HashMap$TreeNode", name := "moveRootToFront", desc := "([Ljava/util/HashMap$Node;Ljava/util/HashMap$TreeNode;)V" } : Jvm.MethodName) prog_65_method_3_code (7 : Nat) (Option.none : Option Jvm.ClassFile.FieldType)) ∈ lw_all := lw_g (lw_at lw_m9 150 rfl) rfl
theorem q2165 : (Jvm.Cond.fieldLink "java/util/HashMap$TreeNode" (26 : Nat) "java/util/HashMap$TreeNode" "$assertionsDisabled" "Z") ∈ lw_all := lw_g (lw_at lw_m9 151 rfl) rfl
theorem q2166 : (Jvm.Cond.laysStatic "java/util/HashMap$TreeNode" "$assertionsDisabled" "Z") ∈ lw_tbl := lw_at lw_m9 152 rfl
theorem q2180 : (Jvm.Cond.instanceMethod ({ cls := "java/util/HashMap$TreeNode", name := "putTreeVal", desc := "(Ljava/util/HashMap;[Ljava/util/HashMap$Node;ILjava/lang/Object;Ljava/lang/Object;)Ljava/util/HashMap$TreeNode;" } : Jvm.MethodName)) ∈ lw_all := lw_g (lw_at lw_m9 166 rfl) rfl
theorem q2181 : (Jvm.Cond.selects "java/util/HashMap$TreeNode" ({ cls := "java/util/HashMap$TreeNode", name := "putTreeVal", desc := "(Ljava/util/HashMap;[Ljava/util/HashMap$Node;ILjava/lang/Object;Ljava/lang/Object;)Ljava/util/HashMap$TreeNode;" } : Jvm.MethodName) ({ cls := "java/util/HashMap$TreeNode", name := "putTreeVal", desc := "(Ljava/util/HashMap;[Ljava/util/HashMap$Node;ILjava/lang/Object;Ljava/lang/Object;)Ljava/util/HashMap$TreeNode;" } : Jvm.MethodName)) ∈ lw_all := lw_g (lw_at lw_m9 167 rfl) rfl
theorem q2182 : (Jvm.Cond.code ({ cls := "java/util/HashMap$TreeNode", name := "putTreeVal", desc := "(Ljava/util/HashMap;[Ljava/util/HashMap$Node;ILjava/lang/Object;Ljava/lang/Object;)Ljava/util/HashMap$TreeNode;" } : Jvm.MethodName) prog_65_method_9_code (16 : Nat) (Option.some (Jvm.ClassFile.FieldType.object "java/util/HashMap$TreeNode"))) ∈ lw_all := lw_g (lw_at lw_m9 168 rfl) rfl
theorem q2183 : (Jvm.Cond.methodLink "java/util/HashMap$TreeNode" (115 : Nat) ({ cls := "java/util/HashMap", name := "newTreeNode", desc := "(ILjava/lang/Object;Ljava/lang/Object;Ljava/util/HashMap$Node;)Ljava/util/HashMap$TreeNode;" } : Jvm.MethodName)) ∈ lw_all := lw_g (lw_at lw_m9 169 rfl) rfl
theorem q2191 : (Jvm.Cond.instantiable "java/util/HashMap$TreeNode" (11 : Nat)) ∈ lw_all := lw_g (lw_at lw_m9 177 rfl) rfl
theorem q2193 : (Jvm.Cond.instanceMethod ({ cls := "java/util/HashMap$TreeNode", name := "<init>", desc := "(ILjava/lang/Object;Ljava/lang/Object;Ljava/util/HashMap$Node;)V" } : Jvm.MethodName)) ∈ lw_all := lw_g (lw_at lw_m9 179 rfl) rfl
theorem q2194 : (Jvm.Cond.code ({ cls := "java/util/HashMap$TreeNode", name := "<init>", desc := "(ILjava/lang/Object;Ljava/lang/Object;Ljava/util/HashMap$Node;)V" } : Jvm.MethodName) prog_65_method_1_code (5 : Nat) (Option.none : Option Jvm.ClassFile.FieldType)) ∈ lw_all := lw_g (lw_at lw_m9 180 rfl) rfl
theorem q2195 : (Jvm.Cond.methodLink "java/util/HashMap$TreeNode" (3 : Nat) ({ cls := "java/util/LinkedHashMap$Entry", name := "<init>", desc := "(ILjava/lang/Object;Ljava/lang/Object;Ljava/util/HashMap$Node;)V" } : Jvm.MethodName)) ∈ lw_all := lw_g (lw_at lw_m9 181 rfl) rfl
theorem q2196 : (Jvm.Cond.fieldLink "java/util/HashMap$TreeNode" (9 : Nat) "java/util/HashMap$TreeNode" "parent" "Ljava/util/HashMap$TreeNode;") ∈ lw_all := lw_g (lw_at lw_m9 182 rfl) rfl
theorem q2197 : (Jvm.Cond.fieldLink "java/util/HashMap$TreeNode" (39 : Nat) "java/util/HashMap$TreeNode" "left" "Ljava/util/HashMap$TreeNode;") ∈ lw_all := lw_g (lw_at lw_m9 183 rfl) rfl
theorem q2198 : (Jvm.Cond.fieldLink "java/util/HashMap$TreeNode" (42 : Nat) "java/util/HashMap$TreeNode" "right" "Ljava/util/HashMap$TreeNode;") ∈ lw_all := lw_g (lw_at lw_m9 184 rfl) rfl
theorem q2199 : (Jvm.Cond.fieldLink "java/util/HashMap$TreeNode" (19 : Nat) "java/util/HashMap$TreeNode" "prev" "Ljava/util/HashMap$TreeNode;") ∈ lw_all := lw_g (lw_at lw_m9 185 rfl) rfl
theorem q2201 : (Jvm.Cond.fieldLink "java/util/HashMap$TreeNode" (93 : Nat) "java/util/HashMap$TreeNode" "red" "Z") ∈ lw_all := lw_g (lw_at lw_m9 187 rfl) rfl
theorem q2202 : (Jvm.Cond.lays "java/util/HashMap$TreeNode" "java/util/HashMap$TreeNode" "parent" "Ljava/util/HashMap$TreeNode;") ∈ lw_all := lw_g (lw_at lw_m9 188 rfl) rfl
theorem q2203 : (Jvm.Cond.soleField "java/util/HashMap$TreeNode" "parent") ∈ lw_all := lw_g (lw_at lw_m9 189 rfl) rfl
theorem q2204 : (Jvm.Cond.lays "java/util/HashMap$TreeNode" "java/util/HashMap$TreeNode" "left" "Ljava/util/HashMap$TreeNode;") ∈ lw_all := lw_g (lw_at lw_m9 190 rfl) rfl
theorem q2205 : (Jvm.Cond.soleField "java/util/HashMap$TreeNode" "left") ∈ lw_all := lw_g (lw_at lw_m9 191 rfl) rfl
theorem q2206 : (Jvm.Cond.lays "java/util/HashMap$TreeNode" "java/util/HashMap$TreeNode" "right" "Ljava/util/HashMap$TreeNode;") ∈ lw_all := lw_g (lw_at lw_m9 192 rfl) rfl
theorem q2207 : (Jvm.Cond.soleField "java/util/HashMap$TreeNode" "right") ∈ lw_all := lw_g (lw_at lw_m9 193 rfl) rfl
theorem q2208 : (Jvm.Cond.lays "java/util/HashMap$TreeNode" "java/util/HashMap$TreeNode" "prev" "Ljava/util/HashMap$TreeNode;") ∈ lw_all := lw_g (lw_at lw_m9 194 rfl) rfl
theorem q2209 : (Jvm.Cond.soleField "java/util/HashMap$TreeNode" "prev") ∈ lw_all := lw_g (lw_at lw_m9 195 rfl) rfl
theorem q2210 : (Jvm.Cond.lays "java/util/HashMap$TreeNode" "java/util/HashMap$TreeNode" "red" "Z") ∈ lw_all := lw_g (lw_at lw_m9 196 rfl) rfl
theorem q2211 : (Jvm.Cond.soleField "java/util/HashMap$TreeNode" "red") ∈ lw_all := lw_g (lw_at lw_m9 197 rfl) rfl
theorem q2212 : (Jvm.Cond.lays "java/util/HashMap$TreeNode" "java/util/LinkedHashMap$Entry" "before" "Ljava/util/LinkedHashMap$Entry;") ∈ lw_all := lw_g (lw_at lw_m9 198 rfl) rfl
theorem q2213 : (Jvm.Cond.lays "java/util/HashMap$TreeNode" "java/util/LinkedHashMap$Entry" "after" "Ljava/util/LinkedHashMap$Entry;") ∈ lw_all := lw_g (lw_at lw_m9 199 rfl) rfl
theorem q2214 : (Jvm.Cond.laysFinal "java/util/HashMap$TreeNode" "java/util/HashMap$Node" "hash" "I") ∈ lw_all := lw_g (lw_at lw_m9 200 rfl) rfl
theorem q2215 : (Jvm.Cond.laysFinal "java/util/HashMap$TreeNode" "java/util/HashMap$Node" "key" "Ljava/lang/Object;") ∈ lw_all := lw_g (lw_at lw_m9 201 rfl) rfl
theorem q2216 : (Jvm.Cond.lays "java/util/HashMap$TreeNode" "java/util/HashMap$Node" "value" "Ljava/lang/Object;") ∈ lw_all := lw_g (lw_at lw_m9 202 rfl) rfl
theorem q2217 : (Jvm.Cond.lays "java/util/HashMap$TreeNode" "java/util/HashMap$Node" "next" "Ljava/util/HashMap$Node;") ∈ lw_all := lw_g (lw_at lw_m9 203 rfl) rfl
theorem q2218 : (Jvm.Cond.superclass "java/util/HashMap$TreeNode" "java/util/LinkedHashMap$Entry") ∈ lw_all := lw_g (lw_at lw_m9 204 rfl) rfl
theorem q2421 : (Jvm.Cond.instanceMethod ({ cls := "java/util/HashMap$TreeNode", name := "removeTreeNode", desc := "(Ljava/util/HashMap;[Ljava/util/HashMap$Node;Z)V" } : Jvm.MethodName)) ∈ lw_all := lw_g (lw_at lw_m10 167 rfl) rfl
theorem q2422 : (Jvm.Cond.selects "java/util/HashMap$TreeNode" ({ cls := "java/util/HashMap$TreeNode", name := "removeTreeNode", desc := "(Ljava/util/HashMap;[Ljava/util/HashMap$Node;Z)V" } : Jvm.MethodName) ({ cls := "java/util/HashMap$TreeNode", name := "removeTreeNode", desc := "(Ljava/util/HashMap;[Ljava/util/HashMap$Node;Z)V" } : Jvm.MethodName)) ∈ lw_all := lw_g (lw_at lw_m10 168 rfl) rfl
theorem q2423 : (Jvm.Cond.code ({ cls := "java/util/HashMap$TreeNode", name := "removeTreeNode", desc := "(Ljava/util/HashMap;[Ljava/util/HashMap$Node;Z)V" } : Jvm.MethodName) prog_65_method_10_code (21 : Nat) (Option.none : Option Jvm.ClassFile.FieldType)) ∈ lw_all := lw_g (lw_at lw_m10 169 rfl) rfl
theorem q2424 : (Jvm.Cond.methodLink "java/util/HashMap$TreeNode" (123 : Nat) ({ cls := "java/util/HashMap$TreeNode", name := "balanceDeletion", desc := "(Ljava/util/HashMap$TreeNode;Ljava/util/HashMap$TreeNode;)Ljava/util/HashMap$TreeNode;" } : Jvm.MethodName)) ∈ lw_all := lw_g (lw_at lw_m10 170 rfl) rfl
theorem q2425 : (Jvm.Cond.static ({ cls := "java/util/HashMap$TreeNode", name := "balanceDeletion", desc := "(Ljava/util/HashMap$TreeNode;Ljava/util/HashMap$TreeNode;)Ljava/util/HashMap$TreeNode;" } : Jvm.MethodName)) ∈ lw_all := lw_g (lw_at lw_m10 171 rfl) rfl
theorem q2426 : (Jvm.Cond.code ({ cls := "java/util/HashMap$TreeNode", name := "balanceDeletion", desc := "(Ljava/util/HashMap$TreeNode;Ljava/util/HashMap$TreeNode;)Ljava/util/HashMap$TreeNode;" } : Jvm.MethodName) prog_65_method_15_code (7 : Nat) (Option.some (Jvm.ClassFile.FieldType.object "java/util/HashMap$TreeNode"))) ∈ lw_all := lw_g (lw_at lw_m10 172 rfl) rfl
theorem q3790 : (Jvm.Cond.castable "java/util/HashMap$TreeNode" "java/util/LinkedHashMap$Entry") ∈ lw_tbl := lw_at lw_m16 96 rfl
theorem q3826 : (Jvm.Cond.castable "java/util/HashMap$TreeNode" "java/lang/Object") ∈ lw_tbl := lw_at lw_m16 132 rfl
theorem q3839 : (Jvm.Cond.castable "java/util/HashMap$TreeNode" "java/util/HashMap$Node") ∈ lw_tbl := lw_at lw_m16 145 rfl
theorem in_J43 : ∀ w ∈ wsJ430, w ∈ lw_all := lw_in wsJ430 [2214, 2215, 2216, 2217, 2212, 2213, 2202, 2204, 2206, 2208, 2210] (by decide +kernel) (by decide +kernel)

/-! java/lang/UnsupportedOperationException -/
def RJ44 : String := "java/lang/UnsupportedOperationException"
def TJ44 : u_T := fun k => match k with
  | 0 => ("java/lang/Throwable", "cause", "Ljava/lang/Throwable;", false)
  | 1 => ("java/lang/Throwable", "stackTrace", "[Ljava/lang/StackTraceElement;", false)
  | 2 => ("java/lang/Throwable", "suppressedExceptions", "Ljava/util/List;", false)
  | 3 => ("java/lang/Throwable", "detailMessage", "Ljava/lang/String;", false)
  | 4 => ("java/lang/Throwable", "backtrace", "Ljava/lang/Object;", false)
  | _ => ("java/lang/Throwable", "depth", "I", false)
def tyJ44 : Nat → FieldType := fun k => match k with
  | 0 => .object "java/lang/Throwable"
  | 1 => .array (.object "java/lang/StackTraceElement")
  | 2 => .object "java/util/List"
  | 3 => .object "java/lang/String"
  | 4 => .object "java/lang/Object"
  | _ => .int
abbrev wsJ440 : List Cond := u_ws RJ44 TJ44 6
theorem nmJ44 : ∀ a, a < 6 → ∀ b, b < 6 → a ≠ b → (TJ44 a).2.1 ≠ (TJ44 b).2.1 := by decide +kernel
theorem tyJ44_ok : ∀ k, k < 6 → parseFieldDescriptor (TJ44 k).2.2.1 = some (tyJ44 k) := by decide +kernel
abbrev cJ44_init : ByteArray := prog_45_method_1_code
def yJ44_init : MethodName := ⟨RJ44, "<init>", "()V"⟩
theorem q148 : (Jvm.Cond.initialized "java/lang/UnsupportedOperationException") ∈ lw_all := lw_g (lw_at lw_m1 54 rfl) rfl
theorem q748 : (Jvm.Cond.selects "java/lang/UnsupportedOperationException" ({ cls := "java/lang/Throwable", name := "fillInStackTrace", desc := "()Ljava/lang/Throwable;" } : Jvm.MethodName) ({ cls := "java/lang/Throwable", name := "fillInStackTrace", desc := "()Ljava/lang/Throwable;" } : Jvm.MethodName)) ∈ lw_all := lw_g (lw_at lw_m3 174 rfl) rfl
theorem q1258 : (Jvm.Cond.selects "java/lang/UnsupportedOperationException" ({ cls := "java/lang/Object", name := "getClass", desc := "()Ljava/lang/Class;" } : Jvm.MethodName) ({ cls := "java/lang/Object", name := "getClass", desc := "()Ljava/lang/Class;" } : Jvm.MethodName)) ∈ lw_all := lw_g (lw_at lw_m5 204 rfl) rfl
theorem q1647 : (Jvm.Cond.selects "java/lang/UnsupportedOperationException" ({ cls := "java/lang/Object", name := "hashCode", desc := "()I" } : Jvm.MethodName) ({ cls := "java/lang/Object", name := "hashCode", desc := "()I" } : Jvm.MethodName)) ∈ lw_all := lw_g (lw_at lw_m7 113 rfl) rfl
theorem q1691 : (Jvm.Cond.selects "java/lang/UnsupportedOperationException" ({ cls := "java/lang/Object", name := "equals", desc := "(Ljava/lang/Object;)Z" } : Jvm.MethodName) ({ cls := "java/lang/Object", name := "equals", desc := "(Ljava/lang/Object;)Z" } : Jvm.MethodName)) ∈ lw_all := lw_g (lw_at lw_m7 157 rfl) rfl
theorem q2358 : (Jvm.Cond.instantiable "java/lang/UnsupportedOperationException" (6 : Nat)) ∈ lw_all := lw_g (lw_at lw_m10 104 rfl) rfl
theorem q2359 : (Jvm.Cond.castable "java/lang/UnsupportedOperationException" "java/lang/UnsupportedOperationException") ∈ lw_tbl := lw_at lw_m10 105 rfl
theorem q2360 : (Jvm.Cond.selects "java/lang/UnsupportedOperationException" ({ cls := "java/lang/Throwable", name := "fillInStackTrace", desc := "(I)Ljava/lang/Throwable;" } : Jvm.MethodName) ({ cls := "java/lang/Throwable", name := "fillInStackTrace", desc := "(I)Ljava/lang/Throwable;" } : Jvm.MethodName)) ∈ lw_all := lw_g (lw_at lw_m10 106 rfl) rfl
theorem q2361 : (Jvm.Cond.lays "java/lang/UnsupportedOperationException" "java/lang/Throwable" "cause" "Ljava/lang/Throwable;") ∈ lw_all := lw_g (lw_at lw_m10 107 rfl) rfl
theorem q2362 : (Jvm.Cond.lays "java/lang/UnsupportedOperationException" "java/lang/Throwable" "stackTrace" "[Ljava/lang/StackTraceElement;") ∈ lw_all := lw_g (lw_at lw_m10 108 rfl) rfl
theorem q2363 : (Jvm.Cond.lays "java/lang/UnsupportedOperationException" "java/lang/Throwable" "suppressedExceptions" "Ljava/util/List;") ∈ lw_all := lw_g (lw_at lw_m10 109 rfl) rfl
theorem q2364 : (Jvm.Cond.lays "java/lang/UnsupportedOperationException" "java/lang/Throwable" "detailMessage" "Ljava/lang/String;") ∈ lw_all := lw_g (lw_at lw_m10 110 rfl) rfl
theorem q2365 : (Jvm.Cond.lays "java/lang/UnsupportedOperationException" "java/lang/Throwable" "backtrace" "Ljava/lang/Object;") ∈ lw_all := lw_g (lw_at lw_m10 111 rfl) rfl
theorem q2367 : (Jvm.Cond.instanceMethod ({ cls := "java/lang/UnsupportedOperationException", name := "<init>", desc := "()V" } : Jvm.MethodName)) ∈ lw_all := lw_g (lw_at lw_m10 113 rfl) rfl
theorem q2368 : (Jvm.Cond.code ({ cls := "java/lang/UnsupportedOperationException", name := "<init>", desc := "()V" } : Jvm.MethodName) prog_45_method_1_code (1 : Nat) (Option.none : Option Jvm.ClassFile.FieldType)) ∈ lw_all := lw_g (lw_at lw_m10 114 rfl) rfl
theorem q2369 : (Jvm.Cond.methodLink "java/lang/UnsupportedOperationException" (1 : Nat) ({ cls := "java/lang/RuntimeException", name := "<init>", desc := "()V" } : Jvm.MethodName)) ∈ lw_all := lw_g (lw_at lw_m10 115 rfl) rfl
theorem q2370 : (Jvm.Cond.lays "java/lang/UnsupportedOperationException" "java/lang/Throwable" "depth" "I") ∈ lw_all := lw_g (lw_at lw_m10 116 rfl) rfl
theorem q2371 : (Jvm.Cond.superclass "java/lang/UnsupportedOperationException" "java/lang/RuntimeException") ∈ lw_all := lw_g (lw_at lw_m10 117 rfl) rfl
theorem q3827 : (Jvm.Cond.castable "java/lang/UnsupportedOperationException" "java/lang/Object") ∈ lw_tbl := lw_at lw_m16 133 rfl
theorem in_J44 : ∀ w ∈ wsJ440, w ∈ lw_all := lw_in wsJ440 [2361, 2362, 2363, 2364, 2365, 2370] (by decide +kernel) (by decide +kernel)

/-! java/lang/ArrayIndexOutOfBoundsException -/
def RJ45 : String := "java/lang/ArrayIndexOutOfBoundsException"
def TJ45 : u_T := fun k => match k with
  | 0 => ("java/lang/Throwable", "backtrace", "Ljava/lang/Object;", false)
  | 1 => ("java/lang/Throwable", "detailMessage", "Ljava/lang/String;", false)
  | 2 => ("java/lang/Throwable", "cause", "Ljava/lang/Throwable;", false)
  | 3 => ("java/lang/Throwable", "stackTrace", "[Ljava/lang/StackTraceElement;", false)
  | 4 => ("java/lang/Throwable", "depth", "I", false)
  | _ => ("java/lang/Throwable", "suppressedExceptions", "Ljava/util/List;", false)
def tyJ45 : Nat → FieldType := fun k => match k with
  | 0 => .object "java/lang/Object"
  | 1 => .object "java/lang/String"
  | 2 => .object "java/lang/Throwable"
  | 3 => .array (.object "java/lang/StackTraceElement")
  | 4 => .int
  | _ => .object "java/util/List"
abbrev wsJ450 : List Cond := u_ws RJ45 TJ45 6
theorem nmJ45 : ∀ a, a < 6 → ∀ b, b < 6 → a ≠ b → (TJ45 a).2.1 ≠ (TJ45 b).2.1 := by decide +kernel
theorem tyJ45_ok : ∀ k, k < 6 → parseFieldDescriptor (TJ45 k).2.2.1 = some (tyJ45 k) := by decide +kernel
abbrev cJ45_init : ByteArray := prog_22_method_2_code
def yJ45_init : MethodName := ⟨RJ45, "<init>", "(Ljava/lang/String;)V"⟩
abbrev cJ45_init_2 : ByteArray := prog_22_method_3_code
def yJ45_init_2 : MethodName := ⟨RJ45, "<init>", "(I)V"⟩
theorem q150 : (Jvm.Cond.initialized "java/lang/ArrayIndexOutOfBoundsException") ∈ lw_all := lw_g (lw_at lw_m1 56 rfl) rfl
theorem q743 : (Jvm.Cond.selects "java/lang/ArrayIndexOutOfBoundsException" ({ cls := "java/lang/Throwable", name := "fillInStackTrace", desc := "()Ljava/lang/Throwable;" } : Jvm.MethodName) ({ cls := "java/lang/Throwable", name := "fillInStackTrace", desc := "()Ljava/lang/Throwable;" } : Jvm.MethodName)) ∈ lw_all := lw_g (lw_at lw_m3 169 rfl) rfl
theorem q1249 : (Jvm.Cond.selects "java/lang/ArrayIndexOutOfBoundsException" ({ cls := "java/lang/Object", name := "getClass", desc := "()Ljava/lang/Class;" } : Jvm.MethodName) ({ cls := "java/lang/Object", name := "getClass", desc := "()Ljava/lang/Class;" } : Jvm.MethodName)) ∈ lw_all := lw_g (lw_at lw_m5 195 rfl) rfl
theorem q1574 : (Jvm.Cond.selects "java/lang/ArrayIndexOutOfBoundsException" ({ cls := "java/lang/Object", name := "hashCode", desc := "()I" } : Jvm.MethodName) ({ cls := "java/lang/Object", name := "hashCode", desc := "()I" } : Jvm.MethodName)) ∈ lw_all := lw_g (lw_at lw_m7 40 rfl) rfl
theorem q1670 : (Jvm.Cond.selects "java/lang/ArrayIndexOutOfBoundsException" ({ cls := "java/lang/Object", name := "equals", desc := "(Ljava/lang/Object;)Z" } : Jvm.MethodName) ({ cls := "java/lang/Object", name := "equals", desc := "(Ljava/lang/Object;)Z" } : Jvm.MethodName)) ∈ lw_all := lw_g (lw_at lw_m7 136 rfl) rfl
theorem q2522 : (Jvm.Cond.instantiable "java/lang/ArrayIndexOutOfBoundsException" (6 : Nat)) ∈ lw_all := lw_g (lw_at lw_m11 28 rfl) rfl
theorem q2523 : (Jvm.Cond.instanceMethod ({ cls := "java/lang/ArrayIndexOutOfBoundsException", name := "<init>", desc := "(Ljava/lang/String;)V" } : Jvm.MethodName)) ∈ lw_all := lw_g (lw_at lw_m11 29 rfl) rfl
theorem q2524 : (Jvm.Cond.code ({ cls := "java/lang/ArrayIndexOutOfBoundsException", name := "<init>", desc := "(Ljava/lang/String;)V" } : Jvm.MethodName) prog_22_method_2_code (2 : Nat) (Option.none : Option Jvm.ClassFile.FieldType)) ∈ lw_all := lw_g (lw_at lw_m11 30 rfl) rfl
theorem q2525 : (Jvm.Cond.methodLink "java/lang/ArrayIndexOutOfBoundsException" (7 : Nat) ({ cls := "java/lang/IndexOutOfBoundsException", name := "<init>", desc := "(Ljava/lang/String;)V" } : Jvm.MethodName)) ∈ lw_all := lw_g (lw_at lw_m11 31 rfl) rfl
theorem q2526 : (Jvm.Cond.lays "java/lang/ArrayIndexOutOfBoundsException" "java/lang/Throwable" "backtrace" "Ljava/lang/Object;") ∈ lw_all := lw_g (lw_at lw_m11 32 rfl) rfl
theorem q2527 : (Jvm.Cond.lays "java/lang/ArrayIndexOutOfBoundsException" "java/lang/Throwable" "detailMessage" "Ljava/lang/String;") ∈ lw_all := lw_g (lw_at lw_m11 33 rfl) rfl
theorem q2528 : (Jvm.Cond.lays "java/lang/ArrayIndexOutOfBoundsException" "java/lang/Throwable" "cause" "Ljava/lang/Throwable;") ∈ lw_all := lw_g (lw_at lw_m11 34 rfl) rfl
theorem q2529 : (Jvm.Cond.lays "java/lang/ArrayIndexOutOfBoundsException" "java/lang/Throwable" "stackTrace" "[Ljava/lang/StackTraceElement;") ∈ lw_all := lw_g (lw_at lw_m11 35 rfl) rfl
theorem q2530 : (Jvm.Cond.lays "java/lang/ArrayIndexOutOfBoundsException" "java/lang/Throwable" "depth" "I") ∈ lw_all := lw_g (lw_at lw_m11 36 rfl) rfl
theorem q2531 : (Jvm.Cond.lays "java/lang/ArrayIndexOutOfBoundsException" "java/lang/Throwable" "suppressedExceptions" "Ljava/util/List;") ∈ lw_all := lw_g (lw_at lw_m11 37 rfl) rfl
theorem q2532 : (Jvm.Cond.superclass "java/lang/ArrayIndexOutOfBoundsException" "java/lang/IndexOutOfBoundsException") ∈ lw_all := lw_g (lw_at lw_m11 38 rfl) rfl
theorem q2533 : (Jvm.Cond.castable "java/lang/ArrayIndexOutOfBoundsException" "java/lang/ArrayIndexOutOfBoundsException") ∈ lw_tbl := lw_at lw_m11 39 rfl
theorem q2536 : (Jvm.Cond.selects "java/lang/ArrayIndexOutOfBoundsException" ({ cls := "java/lang/Throwable", name := "fillInStackTrace", desc := "(I)Ljava/lang/Throwable;" } : Jvm.MethodName) ({ cls := "java/lang/Throwable", name := "fillInStackTrace", desc := "(I)Ljava/lang/Throwable;" } : Jvm.MethodName)) ∈ lw_all := lw_g (lw_at lw_m11 42 rfl) rfl
theorem q3109 : (Jvm.Cond.instanceMethod ({ cls := "java/lang/ArrayIndexOutOfBoundsException", name := "<init>", desc := "(I)V" } : Jvm.MethodName)) ∈ lw_all := lw_g (lw_at lw_m13 135 rfl) rfl
theorem q3110 : (Jvm.Cond.code ({ cls := "java/lang/ArrayIndexOutOfBoundsException", name := "<init>", desc := "(I)V" } : Jvm.MethodName) prog_22_method_3_code (2 : Nat) (Option.none : Option Jvm.ClassFile.FieldType)) ∈ lw_all := lw_g (lw_at lw_m13 136 rfl) rfl
theorem q3111 : (Jvm.Cond.classLink "java/lang/ArrayIndexOutOfBoundsException" (10 : Nat) "java/lang/StringBuilder") ∈ lw_all := lw_g (lw_at lw_m13 137 rfl) rfl
theorem q3112 : (Jvm.Cond.methodLink "java/lang/ArrayIndexOutOfBoundsException" (12 : Nat) ({ cls := "java/lang/StringBuilder", name := "<init>", desc := "()V" } : Jvm.MethodName)) ∈ lw_all := lw_g (lw_at lw_m13 138 rfl) rfl
theorem q3113 : (Jvm.Cond.stringRef "java/lang/ArrayIndexOutOfBoundsException" (13 : Nat) "Array index out of range: ") ∈ lw_tbl := lw_at lw_m13 139 rfl
theorem q3114 : (Jvm.Cond.methodLink "java/lang/ArrayIndexOutOfBoundsException" (15 : Nat) ({ cls := "java/lang/StringBuilder", name := "append", desc := "(Ljava/lang/String;)Ljava/lang/StringBuilder;" } : Jvm.MethodName)) ∈ lw_all := lw_g (lw_at lw_m13 140 rfl) rfl
theorem q3115 : (Jvm.Cond.methodLink "java/lang/ArrayIndexOutOfBoundsException" (19 : Nat) ({ cls := "java/lang/StringBuilder", name := "append", desc := "(I)Ljava/lang/StringBuilder;" } : Jvm.MethodName)) ∈ lw_all := lw_g (lw_at lw_m13 141 rfl) rfl
theorem q3116 : (Jvm.Cond.methodLink "java/lang/ArrayIndexOutOfBoundsException" (22 : Nat) ({ cls := "java/lang/StringBuilder", name := "toString", desc := "()Ljava/lang/String;" } : Jvm.MethodName)) ∈ lw_all := lw_g (lw_at lw_m13 142 rfl) rfl
theorem q3783 : (Jvm.Cond.castable "java/lang/ArrayIndexOutOfBoundsException" "java/lang/IndexOutOfBoundsException") ∈ lw_tbl := lw_at lw_m16 89 rfl
theorem q3829 : (Jvm.Cond.castable "java/lang/ArrayIndexOutOfBoundsException" "java/lang/Object") ∈ lw_tbl := lw_at lw_m16 135 rfl
theorem in_J45 : ∀ w ∈ wsJ450, w ∈ lw_all := lw_in wsJ450 [2526, 2527, 2528, 2529, 2530, 2531] (by decide +kernel) (by decide +kernel)

/-! java/lang/StringIndexOutOfBoundsException -/
def RJ46 : String := "java/lang/StringIndexOutOfBoundsException"
def TJ46 : u_T := fun k => match k with
  | 0 => ("java/lang/Throwable", "backtrace", "Ljava/lang/Object;", false)
  | 1 => ("java/lang/Throwable", "detailMessage", "Ljava/lang/String;", false)
  | 2 => ("java/lang/Throwable", "cause", "Ljava/lang/Throwable;", false)
  | 3 => ("java/lang/Throwable", "stackTrace", "[Ljava/lang/StackTraceElement;", false)
  | 4 => ("java/lang/Throwable", "depth", "I", false)
  | _ => ("java/lang/Throwable", "suppressedExceptions", "Ljava/util/List;", false)
def tyJ46 : Nat → FieldType := fun k => match k with
  | 0 => .object "java/lang/Object"
  | 1 => .object "java/lang/String"
  | 2 => .object "java/lang/Throwable"
  | 3 => .array (.object "java/lang/StackTraceElement")
  | 4 => .int
  | _ => .object "java/util/List"
abbrev wsJ460 : List Cond := u_ws RJ46 TJ46 6
theorem nmJ46 : ∀ a, a < 6 → ∀ b, b < 6 → a ≠ b → (TJ46 a).2.1 ≠ (TJ46 b).2.1 := by decide +kernel
theorem tyJ46_ok : ∀ k, k < 6 → parseFieldDescriptor (TJ46 k).2.2.1 = some (tyJ46 k) := by decide +kernel
abbrev cJ46_init : ByteArray := prog_39_method_3_code
def yJ46_init : MethodName := ⟨RJ46, "<init>", "(I)V"⟩
theorem q156 : (Jvm.Cond.initialized "java/lang/StringIndexOutOfBoundsException") ∈ lw_all := lw_g (lw_at lw_m1 62 rfl) rfl
theorem q747 : (Jvm.Cond.selects "java/lang/StringIndexOutOfBoundsException" ({ cls := "java/lang/Throwable", name := "fillInStackTrace", desc := "()Ljava/lang/Throwable;" } : Jvm.MethodName) ({ cls := "java/lang/Throwable", name := "fillInStackTrace", desc := "()Ljava/lang/Throwable;" } : Jvm.MethodName)) ∈ lw_all := lw_g (lw_at lw_m3 173 rfl) rfl
theorem q1256 : (Jvm.Cond.selects "java/lang/StringIndexOutOfBoundsException" ({ cls := "java/lang/Object", name := "getClass", desc := "()Ljava/lang/Class;" } : Jvm.MethodName) ({ cls := "java/lang/Object", name := "getClass", desc := "()Ljava/lang/Class;" } : Jvm.MethodName)) ∈ lw_all := lw_g (lw_at lw_m5 202 rfl) rfl
theorem q1645 : (Jvm.Cond.selects "java/lang/StringIndexOutOfBoundsException" ({ cls := "java/lang/Object", name := "hashCode", desc := "()I" } : Jvm.MethodName) ({ cls := "java/lang/Object", name := "hashCode", desc := "()I" } : Jvm.MethodName)) ∈ lw_all := lw_g (lw_at lw_m7 111 rfl) rfl
theorem q1689 : (Jvm.Cond.selects "java/lang/StringIndexOutOfBoundsException" ({ cls := "java/lang/Object", name := "equals", desc := "(Ljava/lang/Object;)Z" } : Jvm.MethodName) ({ cls := "java/lang/Object", name := "equals", desc := "(Ljava/lang/Object;)Z" } : Jvm.MethodName)) ∈ lw_all := lw_g (lw_at lw_m7 155 rfl) rfl
theorem q3077 : (Jvm.Cond.instantiable "java/lang/StringIndexOutOfBoundsException" (6 : Nat)) ∈ lw_all := lw_g (lw_at lw_m13 103 rfl) rfl
theorem q3079 : (Jvm.Cond.instanceMethod ({ cls := "java/lang/StringIndexOutOfBoundsException", name := "<init>", desc := "(I)V" } : Jvm.MethodName)) ∈ lw_all := lw_g (lw_at lw_m13 105 rfl) rfl
theorem q3080 : (Jvm.Cond.code ({ cls := "java/lang/StringIndexOutOfBoundsException", name := "<init>", desc := "(I)V" } : Jvm.MethodName) prog_39_method_3_code (2 : Nat) (Option.none : Option Jvm.ClassFile.FieldType)) ∈ lw_all := lw_g (lw_at lw_m13 106 rfl) rfl
theorem q3081 : (Jvm.Cond.classLink "java/lang/StringIndexOutOfBoundsException" (10 : Nat) "java/lang/StringBuilder") ∈ lw_all := lw_g (lw_at lw_m13 107 rfl) rfl
theorem q3082 : (Jvm.Cond.methodLink "java/lang/StringIndexOutOfBoundsException" (12 : Nat) ({ cls := "java/lang/StringBuilder", name := "<init>", desc := "()V" } : Jvm.MethodName)) ∈ lw_all := lw_g (lw_at lw_m13 108 rfl) rfl
theorem q3083 : (Jvm.Cond.stringRef "java/lang/StringIndexOutOfBoundsException" (13 : Nat) "String index out of range: ") ∈ lw_tbl := lw_at lw_m13 109 rfl
theorem q3084 : (Jvm.Cond.methodLink "java/lang/StringIndexOutOfBoundsException" (15 : Nat) ({ cls := "java/lang/StringBuilder", name := "append", desc := "(Ljava/lang/String;)Ljava/lang/StringBuilder;" } : Jvm.MethodName)) ∈ lw_all := lw_g (lw_at lw_m13 110 rfl) rfl
theorem q3085 : (Jvm.Cond.methodLink "java/lang/StringIndexOutOfBoundsException" (19 : Nat) ({ cls := "java/lang/StringBuilder", name := "append", desc := "(I)Ljava/lang/StringBuilder;" } : Jvm.MethodName)) ∈ lw_all := lw_g (lw_at lw_m13 111 rfl) rfl
theorem q3086 : (Jvm.Cond.methodLink "java/lang/StringIndexOutOfBoundsException" (22 : Nat) ({ cls := "java/lang/StringBuilder", name := "toString", desc := "()Ljava/lang/String;" } : Jvm.MethodName)) ∈ lw_all := lw_g (lw_at lw_m13 112 rfl) rfl
theorem q3087 : (Jvm.Cond.methodLink "java/lang/StringIndexOutOfBoundsException" (7 : Nat) ({ cls := "java/lang/IndexOutOfBoundsException", name := "<init>", desc := "(Ljava/lang/String;)V" } : Jvm.MethodName)) ∈ lw_all := lw_g (lw_at lw_m13 113 rfl) rfl
theorem q3088 : (Jvm.Cond.lays "java/lang/StringIndexOutOfBoundsException" "java/lang/Throwable" "backtrace" "Ljava/lang/Object;") ∈ lw_all := lw_g (lw_at lw_m13 114 rfl) rfl
theorem q3089 : (Jvm.Cond.lays "java/lang/StringIndexOutOfBoundsException" "java/lang/Throwable" "detailMessage" "Ljava/lang/String;") ∈ lw_all := lw_g (lw_at lw_m13 115 rfl) rfl
theorem q3090 : (Jvm.Cond.lays "java/lang/StringIndexOutOfBoundsException" "java/lang/Throwable" "cause" "Ljava/lang/Throwable;") ∈ lw_all := lw_g (lw_at lw_m13 116 rfl) rfl
theorem q3091 : (Jvm.Cond.lays "java/lang/StringIndexOutOfBoundsException" "java/lang/Throwable" "stackTrace" "[Ljava/lang/StackTraceElement;") ∈ lw_all := lw_g (lw_at lw_m13 117 rfl) rfl
theorem q3092 : (Jvm.Cond.lays "java/lang/StringIndexOutOfBoundsException" "java/lang/Throwable" "depth" "I") ∈ lw_all := lw_g (lw_at lw_m13 118 rfl) rfl
theorem q3093 : (Jvm.Cond.lays "java/lang/StringIndexOutOfBoundsException" "java/lang/Throwable" "suppressedExceptions" "Ljava/util/List;") ∈ lw_all := lw_g (lw_at lw_m13 119 rfl) rfl
theorem q3094 : (Jvm.Cond.superclass "java/lang/StringIndexOutOfBoundsException" "java/lang/IndexOutOfBoundsException") ∈ lw_all := lw_g (lw_at lw_m13 120 rfl) rfl
theorem q3784 : (Jvm.Cond.castable "java/lang/StringIndexOutOfBoundsException" "java/lang/IndexOutOfBoundsException") ∈ lw_tbl := lw_at lw_m16 90 rfl
theorem q3835 : (Jvm.Cond.castable "java/lang/StringIndexOutOfBoundsException" "java/lang/Object") ∈ lw_tbl := lw_at lw_m16 141 rfl
theorem in_J46 : ∀ w ∈ wsJ460, w ∈ lw_all := lw_in wsJ460 [3088, 3089, 3090, 3091, 3092, 3093] (by decide +kernel) (by decide +kernel)

/-! java/lang/ArithmeticException -/
def RJ47 : String := "java/lang/ArithmeticException"
def TJ47 : u_T := fun k => match k with
  | 0 => ("java/lang/Throwable", "backtrace", "Ljava/lang/Object;", false)
  | 1 => ("java/lang/Throwable", "detailMessage", "Ljava/lang/String;", false)
  | 2 => ("java/lang/Throwable", "cause", "Ljava/lang/Throwable;", false)
  | 3 => ("java/lang/Throwable", "stackTrace", "[Ljava/lang/StackTraceElement;", false)
  | 4 => ("java/lang/Throwable", "depth", "I", false)
  | _ => ("java/lang/Throwable", "suppressedExceptions", "Ljava/util/List;", false)
def tyJ47 : Nat → FieldType := fun k => match k with
  | 0 => .object "java/lang/Object"
  | 1 => .object "java/lang/String"
  | 2 => .object "java/lang/Throwable"
  | 3 => .array (.object "java/lang/StackTraceElement")
  | 4 => .int
  | _ => .object "java/util/List"
abbrev wsJ470 : List Cond := u_ws RJ47 TJ47 6
theorem nmJ47 : ∀ a, a < 6 → ∀ b, b < 6 → a ≠ b → (TJ47 a).2.1 ≠ (TJ47 b).2.1 := by decide +kernel
theorem tyJ47_ok : ∀ k, k < 6 → parseFieldDescriptor (TJ47 k).2.2.1 = some (tyJ47 k) := by decide +kernel
abbrev cJ47_init : ByteArray := prog_21_method_2_code
def yJ47_init : MethodName := ⟨RJ47, "<init>", "(Ljava/lang/String;)V"⟩
abbrev cJ47_init_2 : ByteArray := prog_21_method_1_code
def yJ47_init_2 : MethodName := ⟨RJ47, "<init>", "()V"⟩
theorem q157 : (Jvm.Cond.initialized "java/lang/ArithmeticException") ∈ lw_all := lw_g (lw_at lw_m1 63 rfl) rfl
theorem q742 : (Jvm.Cond.selects "java/lang/ArithmeticException" ({ cls := "java/lang/Throwable", name := "fillInStackTrace", desc := "()Ljava/lang/Throwable;" } : Jvm.MethodName) ({ cls := "java/lang/Throwable", name := "fillInStackTrace", desc := "()Ljava/lang/Throwable;" } : Jvm.MethodName)) ∈ lw_all := lw_g (lw_at lw_m3 168 rfl) rfl
theorem q1248 : (Jvm.Cond.selects "java/lang/ArithmeticException" ({ cls := "java/lang/Object", name := "getClass", desc := "()Ljava/lang/Class;" } : Jvm.MethodName) ({ cls := "java/lang/Object", name := "getClass", desc := "()Ljava/lang/Class;" } : Jvm.MethodName)) ∈ lw_all := lw_g (lw_at lw_m5 194 rfl) rfl
theorem q1573 : (Jvm.Cond.selects "java/lang/ArithmeticException" ({ cls := "java/lang/Object", name := "hashCode", desc := "()I" } : Jvm.MethodName) ({ cls := "java/lang/Object", name := "hashCode", desc := "()I" } : Jvm.MethodName)) ∈ lw_all := lw_g (lw_at lw_m7 39 rfl) rfl
theorem q1669 : (Jvm.Cond.selects "java/lang/ArithmeticException" ({ cls := "java/lang/Object", name := "equals", desc := "(Ljava/lang/Object;)Z" } : Jvm.MethodName) ({ cls := "java/lang/Object", name := "equals", desc := "(Ljava/lang/Object;)Z" } : Jvm.MethodName)) ∈ lw_all := lw_g (lw_at lw_m7 135 rfl) rfl
theorem q3168 : (Jvm.Cond.instantiable "java/lang/ArithmeticException" (6 : Nat)) ∈ lw_all := lw_g (lw_at lw_m13 194 rfl) rfl
theorem q3169 : (Jvm.Cond.instanceMethod ({ cls := "java/lang/ArithmeticException", name := "<init>", desc := "(Ljava/lang/String;)V" } : Jvm.MethodName)) ∈ lw_all := lw_g (lw_at lw_m13 195 rfl) rfl
theorem q3170 : (Jvm.Cond.code ({ cls := "java/lang/ArithmeticException", name := "<init>", desc := "(Ljava/lang/String;)V" } : Jvm.MethodName) prog_21_method_2_code (2 : Nat) (Option.none : Option Jvm.ClassFile.FieldType)) ∈ lw_all := lw_g (lw_at lw_m13 196 rfl) rfl
theorem q3171 : (Jvm.Cond.methodLink "java/lang/ArithmeticException" (7 : Nat) ({ cls := "java/lang/RuntimeException", name := "<init>", desc := "(Ljava/lang/String;)V" } : Jvm.MethodName)) ∈ lw_all := lw_g (lw_at lw_m13 197 rfl) rfl
theorem q3172 : (Jvm.Cond.lays "java/lang/ArithmeticException" "java/lang/Throwable" "backtrace" "Ljava/lang/Object;") ∈ lw_all := lw_g (lw_at lw_m13 198 rfl) rfl
theorem q3173 : (Jvm.Cond.lays "java/lang/ArithmeticException" "java/lang/Throwable" "detailMessage" "Ljava/lang/String;") ∈ lw_all := lw_g (lw_at lw_m13 199 rfl) rfl
theorem q3174 : (Jvm.Cond.lays "java/lang/ArithmeticException" "java/lang/Throwable" "cause" "Ljava/lang/Throwable;") ∈ lw_all := lw_g (lw_at lw_m13 200 rfl) rfl
theorem q3175 : (Jvm.Cond.lays "java/lang/ArithmeticException" "java/lang/Throwable" "stackTrace" "[Ljava/lang/StackTraceElement;") ∈ lw_all := lw_g (lw_at lw_m13 201 rfl) rfl
theorem q3176 : (Jvm.Cond.lays "java/lang/ArithmeticException" "java/lang/Throwable" "depth" "I") ∈ lw_all := lw_g (lw_at lw_m13 202 rfl) rfl
theorem q3177 : (Jvm.Cond.lays "java/lang/ArithmeticException" "java/lang/Throwable" "suppressedExceptions" "Ljava/util/List;") ∈ lw_all := lw_g (lw_at lw_m13 203 rfl) rfl
theorem q3178 : (Jvm.Cond.superclass "java/lang/ArithmeticException" "java/lang/RuntimeException") ∈ lw_all := lw_g (lw_at lw_m13 204 rfl) rfl
theorem q3179 : (Jvm.Cond.castable "java/lang/ArithmeticException" "java/lang/ArithmeticException") ∈ lw_tbl := lw_at lw_m13 205 rfl
theorem q3180 : (Jvm.Cond.selects "java/lang/ArithmeticException" ({ cls := "java/lang/Throwable", name := "fillInStackTrace", desc := "(I)Ljava/lang/Throwable;" } : Jvm.MethodName) ({ cls := "java/lang/Throwable", name := "fillInStackTrace", desc := "(I)Ljava/lang/Throwable;" } : Jvm.MethodName)) ∈ lw_all := lw_g (lw_at lw_m13 206 rfl) rfl
theorem q3197 : (Jvm.Cond.instanceMethod ({ cls := "java/lang/ArithmeticException", name := "<init>", desc := "()V" } : Jvm.MethodName)) ∈ lw_all := lw_g (lw_at lw_m13 223 rfl) rfl
theorem q3198 : (Jvm.Cond.code ({ cls := "java/lang/ArithmeticException", name := "<init>", desc := "()V" } : Jvm.MethodName) prog_21_method_1_code (1 : Nat) (Option.none : Option Jvm.ClassFile.FieldType)) ∈ lw_all := lw_g (lw_at lw_m13 224 rfl) rfl
theorem q3199 : (Jvm.Cond.methodLink "java/lang/ArithmeticException" (1 : Nat) ({ cls := "java/lang/RuntimeException", name := "<init>", desc := "()V" } : Jvm.MethodName)) ∈ lw_all := lw_g (lw_at lw_m13 225 rfl) rfl
theorem q3836 : (Jvm.Cond.castable "java/lang/ArithmeticException" "java/lang/Object") ∈ lw_tbl := lw_at lw_m16 142 rfl
theorem in_J47 : ∀ w ∈ wsJ470, w ∈ lw_all := lw_in wsJ470 [3172, 3173, 3174, 3175, 3176, 3177] (by decide +kernel) (by decide +kernel)

/-! java/lang/Object -/
def RJ48 : String := "java/lang/Object"
abbrev cJ48_init : ByteArray := object_method_1_code
def yJ48_init : MethodName := ⟨RJ48, "<init>", "()V"⟩
abbrev cJ48_equals : ByteArray := object_method_4_code
def yJ48_equals : MethodName := ⟨RJ48, "equals", "(Ljava/lang/Object;)Z"⟩
theorem q164 : (Jvm.Cond.instanceMethod ({ cls := "java/lang/Object", name := "<init>", desc := "()V" } : Jvm.MethodName)) ∈ lw_all := lw_g (lw_at lw_m1 70 rfl) rfl
theorem q165 : (Jvm.Cond.code ({ cls := "java/lang/Object", name := "<init>", desc := "()V" } : Jvm.MethodName) object_method_1_code (1 : Nat) (Option.none : Option Jvm.ClassFile.FieldType)) ∈ lw_all := lw_g (lw_at lw_m1 71 rfl) rfl
theorem q893 : (Jvm.Cond.native ({ cls := "java/lang/Object", name := "clone", desc := "()Ljava/lang/Object;" } : Jvm.MethodName)) ∈ lw_all := lw_g (lw_at lw_m4 79 rfl) rfl
theorem q894 : (Jvm.Cond.instanceMethod ({ cls := "java/lang/Object", name := "clone", desc := "()Ljava/lang/Object;" } : Jvm.MethodName)) ∈ lw_all := lw_g (lw_at lw_m4 80 rfl) rfl
theorem q1234 : (Jvm.Cond.instanceMethod ({ cls := "java/lang/Object", name := "getClass", desc := "()Ljava/lang/Class;" } : Jvm.MethodName)) ∈ lw_all := lw_g (lw_at lw_m5 180 rfl) rfl
theorem q1235 : (Jvm.Cond.sameMethod "java/lang/Object" "java/lang/Object" "getClass" "()Ljava/lang/Class;") ∈ lw_all := lw_g (lw_at lw_m5 181 rfl) rfl
theorem q1278 : (Jvm.Cond.native ({ cls := "java/lang/Object", name := "getClass", desc := "()Ljava/lang/Class;" } : Jvm.MethodName)) ∈ lw_all := lw_g (lw_at lw_m5 224 rfl) rfl
theorem q1555 : (Jvm.Cond.declares ({ cls := "java/lang/Object", name := "hashCode", desc := "()I" } : Jvm.MethodName)) ∈ lw_tbl := lw_at lw_m7 21 rfl
theorem q1557 : (Jvm.Cond.instanceMethod ({ cls := "java/lang/Object", name := "hashCode", desc := "()I" } : Jvm.MethodName)) ∈ lw_all := lw_g (lw_at lw_m7 23 rfl) rfl
theorem q1558 : (Jvm.Cond.sameMethod "java/lang/Object" "java/lang/Object" "hashCode" "()I") ∈ lw_all := lw_g (lw_at lw_m7 24 rfl) rfl
theorem q1649 : (Jvm.Cond.native ({ cls := "java/lang/Object", name := "hashCode", desc := "()I" } : Jvm.MethodName)) ∈ lw_all := lw_g (lw_at lw_m7 115 rfl) rfl
theorem q1650 : (Jvm.Cond.declares ({ cls := "java/lang/Object", name := "equals", desc := "(Ljava/lang/Object;)Z" } : Jvm.MethodName)) ∈ lw_tbl := lw_at lw_m7 116 rfl
theorem q1652 : (Jvm.Cond.instanceMethod ({ cls := "java/lang/Object", name := "equals", desc := "(Ljava/lang/Object;)Z" } : Jvm.MethodName)) ∈ lw_all := lw_g (lw_at lw_m7 118 rfl) rfl
theorem q1653 : (Jvm.Cond.sameMethod "java/lang/Object" "java/lang/Object" "equals" "(Ljava/lang/Object;)Z") ∈ lw_all := lw_g (lw_at lw_m7 119 rfl) rfl
theorem q1693 : (Jvm.Cond.code ({ cls := "java/lang/Object", name := "equals", desc := "(Ljava/lang/Object;)Z" } : Jvm.MethodName) object_method_4_code (2 : Nat) (Option.some Jvm.ClassFile.FieldType.boolean)) ∈ lw_all := lw_g (lw_at lw_m7 159 rfl) rfl
theorem q3782 : (Jvm.Cond.initialized "java/lang/Object") ∈ lw_all := lw_g (lw_at lw_m16 88 rfl) rfl
theorem q3842 : (Jvm.Cond.declares ({ cls := "java/lang/Object", name := "getClass", desc := "()Ljava/lang/Class;" } : Jvm.MethodName)) ∈ lw_tbl := lw_at lw_m16 148 rfl
theorem q3857 : (Jvm.Cond.instantiable "java/lang/Object" (0 : Nat)) ∈ lw_all := lw_g (lw_at lw_m16 163 rfl) rfl

/-! java/lang/System$2 -/
def RJ49 : String := "java/lang/System$2"
abbrev cJ49_getUTF16Char : ByteArray := prog_43_method_45_code
def yJ49_getUTF16Char : MethodName := ⟨RJ49, "getUTF16Char", "([BI)C"⟩
theorem q1257 : (Jvm.Cond.selects "java/lang/System$2" ({ cls := "java/lang/Object", name := "getClass", desc := "()Ljava/lang/Class;" } : Jvm.MethodName) ({ cls := "java/lang/Object", name := "getClass", desc := "()Ljava/lang/Class;" } : Jvm.MethodName)) ∈ lw_all := lw_g (lw_at lw_m5 203 rfl) rfl
theorem q1610 : (Jvm.Cond.castable "java/lang/System$2" "jdk/internal/access/JavaLangAccess") ∈ lw_tbl := lw_at lw_m7 76 rfl
theorem q1611 : (Jvm.Cond.selects "java/lang/System$2" ({ cls := "jdk/internal/access/JavaLangAccess", name := "getUTF16Char", desc := "([BI)C" } : Jvm.MethodName) ({ cls := "java/lang/System$2", name := "getUTF16Char", desc := "([BI)C" } : Jvm.MethodName)) ∈ lw_all := lw_g (lw_at lw_m7 77 rfl) rfl
theorem q1612 : (Jvm.Cond.unhidden "java/lang/System$2" "getUTF16Char" "([BI)C") ∈ lw_tbl := lw_at lw_m7 78 rfl
theorem q1613 : (Jvm.Cond.instanceMethod ({ cls := "java/lang/System$2", name := "getUTF16Char", desc := "([BI)C" } : Jvm.MethodName)) ∈ lw_all := lw_g (lw_at lw_m7 79 rfl) rfl
theorem q1614 : (Jvm.Cond.publicMethod ({ cls := "java/lang/System$2", name := "getUTF16Char", desc := "([BI)C" } : Jvm.MethodName)) ∈ lw_tbl := lw_at lw_m7 80 rfl
theorem q1615 : (Jvm.Cond.code ({ cls := "java/lang/System$2", name := "getUTF16Char", desc := "([BI)C" } : Jvm.MethodName) prog_43_method_45_code (3 : Nat) (Option.some Jvm.ClassFile.FieldType.char)) ∈ lw_all := lw_g (lw_at lw_m7 81 rfl) rfl
theorem q1616 : (Jvm.Cond.methodLink "java/lang/System$2" (185 : Nat) ({ cls := "java/lang/StringUTF16", name := "getChar", desc := "([BI)C" } : Jvm.MethodName)) ∈ lw_all := lw_g (lw_at lw_m7 82 rfl) rfl
theorem q1646 : (Jvm.Cond.selects "java/lang/System$2" ({ cls := "java/lang/Object", name := "hashCode", desc := "()I" } : Jvm.MethodName) ({ cls := "java/lang/Object", name := "hashCode", desc := "()I" } : Jvm.MethodName)) ∈ lw_all := lw_g (lw_at lw_m7 112 rfl) rfl
theorem q1690 : (Jvm.Cond.selects "java/lang/System$2" ({ cls := "java/lang/Object", name := "equals", desc := "(Ljava/lang/Object;)Z" } : Jvm.MethodName) ({ cls := "java/lang/Object", name := "equals", desc := "(Ljava/lang/Object;)Z" } : Jvm.MethodName)) ∈ lw_all := lw_g (lw_at lw_m7 156 rfl) rfl
theorem q3823 : (Jvm.Cond.castable "java/lang/System$2" "java/lang/Object") ∈ lw_tbl := lw_at lw_m16 129 rfl

/-! the law's own entry -/
abbrev cL_law : ByteArray := code

/-! FloatingDockLaw -/
def RX0 : String := "FloatingDockLaw"
abbrev cX0_addShip : ByteArray := method_3_code
def yX0_addShip : MethodName := ⟨RX0, "addShip", "(LFloatingDock;III[J)I"⟩
abbrev cX0_removeShip : ByteArray := method_4_code
def yX0_removeShip : MethodName := ⟨RX0, "removeShip", "(LFloatingDock;I[J)I"⟩
abbrev cX0_enter : ByteArray := method_5_code
def yX0_enter : MethodName := ⟨RX0, "enter", "(LFloatingDock;II[J)I"⟩
abbrev cX0_leave : ByteArray := method_6_code
def yX0_leave : MethodName := ⟨RX0, "leave", "(LFloatingDock;I[J)I"⟩
abbrev cX0_setCleaning : ByteArray := method_7_code
def yX0_setCleaning : MethodName := ⟨RX0, "setCleaning", "(LFloatingDock;IZ[J)I"⟩
abbrev cX0_shipAt : ByteArray := method_8_code
def yX0_shipAt : MethodName := ⟨RX0, "shipAt", "(LFloatingDock;I[J)I"⟩
abbrev cX0_isInDock : ByteArray := method_9_code
def yX0_isInDock : MethodName := ⟨RX0, "isInDock", "(LFloatingDock;I[J)I"⟩
abbrev cX0_positionOf : ByteArray := method_10_code
def yX0_positionOf : MethodName := ⟨RX0, "positionOf", "(LFloatingDock;I[J)I"⟩
abbrev cX0_dirtOf : ByteArray := method_11_code
def yX0_dirtOf : MethodName := ⟨RX0, "dirtOf", "(LFloatingDock;I[J)I"⟩
abbrev cX0_damageOf : ByteArray := method_12_code
def yX0_damageOf : MethodName := ⟨RX0, "damageOf", "(LFloatingDock;I[J)I"⟩
abbrev cX0_hoursAfloat : ByteArray := method_13_code
def yX0_hoursAfloat : MethodName := ⟨RX0, "hoursAfloat", "(LFloatingDock;I[J)I"⟩
abbrev cX0_isAfloat : ByteArray := method_14_code
def yX0_isAfloat : MethodName := ⟨RX0, "isAfloat", "(LFloatingDock;I[J)I"⟩
abbrev cX0_refusalReason : ByteArray := method_15_code
def yX0_refusalReason : MethodName := ⟨RX0, "refusalReason", "(LFloatingDock;[J)I"⟩
abbrev cX0_setGate : ByteArray := method_16_code
def yX0_setGate : MethodName := ⟨RX0, "setGate", "(LFloatingDock;Z[J)I"⟩
abbrev cX0_setPump : ByteArray := method_17_code
def yX0_setPump : MethodName := ⟨RX0, "setPump", "(LFloatingDock;I[J)I"⟩
abbrev cX0_seaLevel : ByteArray := method_18_code
def yX0_seaLevel : MethodName := ⟨RX0, "seaLevel", "(LFloatingDock;I[J)I"⟩
abbrev cX0_seaLevelByHours : ByteArray := method_19_code
def yX0_seaLevelByHours : MethodName := ⟨RX0, "seaLevelByHours", "(LFloatingDock;I[J)I"⟩
abbrev cX0_pass : ByteArray := method_20_code
def yX0_pass : MethodName := ⟨RX0, "pass", "(LFloatingDock;I[J)I"⟩
abbrev cX0_levelAfter : ByteArray := method_21_code
def yX0_levelAfter : MethodName := ⟨RX0, "levelAfter", "(LFloatingDock;I[J)I"⟩
abbrev cX0_hoursUntilAfloat : ByteArray := method_22_code
def yX0_hoursUntilAfloat : MethodName := ⟨RX0, "hoursUntilAfloat", "(LFloatingDock;I[J)I"⟩
abbrev cX0_placeBlock : ByteArray := method_23_code
def yX0_placeBlock : MethodName := ⟨RX0, "placeBlock", "(LFloatingDock;I[J)I"⟩
abbrev cX0_removeBlock : ByteArray := method_24_code
def yX0_removeBlock : MethodName := ⟨RX0, "removeBlock", "(LFloatingDock;I[J)I"⟩
abbrev cX0_hasBlock : ByteArray := method_25_code
def yX0_hasBlock : MethodName := ⟨RX0, "hasBlock", "(LFloatingDock;I[J)I"⟩
abbrev cX0_blocksBeneath : ByteArray := method_26_code
def yX0_blocksBeneath : MethodName := ⟨RX0, "blocksBeneath", "(LFloatingDock;I[J)I"⟩
abbrev cX0_blocksBeneathByBlocks : ByteArray := method_27_code
def yX0_blocksBeneathByBlocks : MethodName := ⟨RX0, "blocksBeneathByBlocks", "(LFloatingDock;I[J)I"⟩
abbrev cX0_shipAtPosition : ByteArray := method_28_code
def yX0_shipAtPosition : MethodName := ⟨RX0, "shipAtPosition", "(LFloatingDock;I[J)I"⟩
abbrev cX0_firstGap : ByteArray := method_29_code
def yX0_firstGap : MethodName := ⟨RX0, "firstGap", "(LFloatingDock;I[J)I"⟩
abbrev cX0_firstGapByShips : ByteArray := method_30_code
def yX0_firstGapByShips : MethodName := ⟨RX0, "firstGapByShips", "(LFloatingDock;I[J)I"⟩
abbrev cX0_billOf : ByteArray := method_31_code
def yX0_billOf : MethodName := ⟨RX0, "billOf", "(LFloatingDock;I[J)I"⟩
abbrev cX0_pay : ByteArray := method_32_code
def yX0_pay : MethodName := ⟨RX0, "pay", "(LFloatingDock;II[J)I"⟩
abbrev cX0_shipAtRank : ByteArray := method_33_code
def yX0_shipAtRank : MethodName := ⟨RX0, "shipAtRank", "(LFloatingDock;I[J)I"⟩
abbrev cX0_append : ByteArray := method_34_code
def yX0_append : MethodName := ⟨RX0, "append", "(LFloatingDock;C[J)I"⟩
abbrev cX0_run : ByteArray := method_35_code
def yX0_run : MethodName := ⟨RX0, "run", "(LFloatingDock;[J)I"⟩
abbrev cX0_errorPosition : ByteArray := method_36_code
def yX0_errorPosition : MethodName := ⟨RX0, "errorPosition", "(LFloatingDock;[J)I"⟩
abbrev cX0_failedCommand : ByteArray := method_37_code
def yX0_failedCommand : MethodName := ⟨RX0, "failedCommand", "(LFloatingDock;[J)I"⟩
abbrev cX0_describeBill : ByteArray := method_38_code
def yX0_describeBill : MethodName := ⟨RX0, "describeBill", "(LFloatingDock;I[J)I"⟩
abbrev cX0_lineAt : ByteArray := method_39_code
def yX0_lineAt : MethodName := ⟨RX0, "lineAt", "(LFloatingDock;I[J)I"⟩
abbrev cX0_meanDirt : ByteArray := method_40_code
def yX0_meanDirt : MethodName := ⟨RX0, "meanDirt", "(LFloatingDock;[D)I"⟩
abbrev cX0_undo : ByteArray := method_41_code
def yX0_undo : MethodName := ⟨RX0, "undo", "(LFloatingDock;[J)I"⟩
abbrev cX0_restore : ByteArray := method_42_code
def yX0_restore : MethodName := ⟨RX0, "restore", "(LFloatingDock;[J)I"⟩
theorem q94 : (Jvm.Cond.initialized "FloatingDockLaw") ∈ lw_all := lw_g (lw_at lw_m1 0 rfl) rfl
theorem q158 : (Jvm.Cond.classLink "FloatingDockLaw" (8 : Nat) "FloatingDock") ∈ lw_all := lw_g (lw_at lw_m1 64 rfl) rfl
theorem q160 : (Jvm.Cond.methodLink "FloatingDockLaw" (151 : Nat) ({ cls := "FloatingDock", name := "<init>", desc := "()V" } : Jvm.MethodName)) ∈ lw_all := lw_g (lw_at lw_m1 66 rfl) rfl
theorem q1418 : (Jvm.Cond.methodLink "FloatingDockLaw" (179 : Nat) ({ cls := "FloatingDock", name := "shipCount", desc := "()I" } : Jvm.MethodName)) ∈ lw_all := lw_g (lw_at lw_m6 124 rfl) rfl
theorem q1428 : (Jvm.Cond.methodLink "FloatingDockLaw" (212 : Nat) ({ cls := "FloatingDock", name := "isGateOpen", desc := "()Z" } : Jvm.MethodName)) ∈ lw_all := lw_g (lw_at lw_m6 134 rfl) rfl
theorem q1432 : (Jvm.Cond.methodLink "FloatingDockLaw" (220 : Nat) ({ cls := "FloatingDock", name := "level", desc := "()I" } : Jvm.MethodName)) ∈ lw_all := lw_g (lw_at lw_m6 138 rfl) rfl
theorem q1436 : (Jvm.Cond.methodLink "FloatingDockLaw" (233 : Nat) ({ cls := "FloatingDock", name := "hour", desc := "()I" } : Jvm.MethodName)) ∈ lw_all := lw_g (lw_at lw_m6 142 rfl) rfl
theorem q1440 : (Jvm.Cond.methodLink "FloatingDockLaw" (267 : Nat) ({ cls := "FloatingDock", name := "freeMetres", desc := "()I" } : Jvm.MethodName)) ∈ lw_all := lw_g (lw_at lw_m6 146 rfl) rfl
theorem q1458 : (Jvm.Cond.methodLink "FloatingDockLaw" (271 : Nat) ({ cls := "FloatingDock", name := "mostFitting", desc := "()I" } : Jvm.MethodName)) ∈ lw_all := lw_g (lw_at lw_m6 164 rfl) rfl
theorem q1466 : (Jvm.Cond.methodLink "FloatingDockLaw" (275 : Nat) ({ cls := "FloatingDock", name := "mostFittingByTable", desc := "()I" } : Jvm.MethodName)) ∈ lw_all := lw_g (lw_at lw_m6 172 rfl) rfl
theorem q1470 : (Jvm.Cond.methodLink "FloatingDockLaw" (279 : Nat) ({ cls := "FloatingDock", name := "mostFittingMetres", desc := "()I" } : Jvm.MethodName)) ∈ lw_all := lw_g (lw_at lw_m6 176 rfl) rfl
theorem q1478 : (Jvm.Cond.methodLink "FloatingDockLaw" (289 : Nat) ({ cls := "FloatingDock", name := "billTotal", desc := "()I" } : Jvm.MethodName)) ∈ lw_all := lw_g (lw_at lw_m6 184 rfl) rfl
theorem q1486 : (Jvm.Cond.methodLink "FloatingDockLaw" (293 : Nat) ({ cls := "FloatingDock", name := "billTotalByAccount", desc := "()I" } : Jvm.MethodName)) ∈ lw_all := lw_g (lw_at lw_m6 192 rfl) rfl
theorem q1490 : (Jvm.Cond.methodLink "FloatingDockLaw" (297 : Nat) ({ cls := "FloatingDock", name := "paidTotal", desc := "()I" } : Jvm.MethodName)) ∈ lw_all := lw_g (lw_at lw_m6 196 rfl) rfl
theorem q1494 : (Jvm.Cond.methodLink "FloatingDockLaw" (317 : Nat) ({ cls := "FloatingDock", name := "describeDock", desc := "()I" } : Jvm.MethodName)) ∈ lw_all := lw_g (lw_at lw_m6 200 rfl) rfl
theorem q1928 : (Jvm.Cond.methodLink "FloatingDockLaw" (331 : Nat) ({ cls := "FloatingDock", name := "takenShare", desc := "()F" } : Jvm.MethodName)) ∈ lw_all := lw_g (lw_at lw_m8 154 rfl) rfl
theorem q1933 : (Jvm.Cond.methodLink "FloatingDockLaw" (336 : Nat) ({ cls := "FloatingDock", name := "isConsistent", desc := "()Z" } : Jvm.MethodName)) ∈ lw_all := lw_g (lw_at lw_m8 159 rfl) rfl
theorem q1988 : (Jvm.Cond.methodLink "FloatingDockLaw" (343 : Nat) ({ cls := "FloatingDock", name := "save", desc := "()I" } : Jvm.MethodName)) ∈ lw_all := lw_g (lw_at lw_m8 214 rfl) rfl
theorem q2263 : (Jvm.Cond.methodLink "FloatingDockLaw" (155 : Nat) ({ cls := "FloatingDockLaw", name := "addShip", desc := "(LFloatingDock;III[J)I" } : Jvm.MethodName)) ∈ lw_all := lw_g (lw_at lw_m10 9 rfl) rfl
theorem q2264 : (Jvm.Cond.static ({ cls := "FloatingDockLaw", name := "addShip", desc := "(LFloatingDock;III[J)I" } : Jvm.MethodName)) ∈ lw_all := lw_g (lw_at lw_m10 10 rfl) rfl
theorem q2265 : (Jvm.Cond.codeWith ({ cls := "FloatingDockLaw", name := "addShip", desc := "(LFloatingDock;III[J)I" } : Jvm.MethodName) method_3_code (6 : Nat) (Option.some Jvm.ClassFile.FieldType.int) [((0 : Nat), (12 : Nat), (15 : Nat), (13 : Nat)), ((0 : Nat), (12 : Nat), (19 : Nat), (15 : Nat))]) ∈ lw_all := lw_g (lw_at lw_m10 11 rfl) rfl
theorem q2266 : (Jvm.Cond.classLink "FloatingDockLaw" (13 : Nat) "java/lang/IllegalArgumentException") ∈ lw_all := lw_g (lw_at lw_m10 12 rfl) rfl
theorem q2267 : (Jvm.Cond.classLink "FloatingDockLaw" (15 : Nat) "java/lang/IllegalStateException") ∈ lw_all := lw_g (lw_at lw_m10 13 rfl) rfl
theorem q2268 : (Jvm.Cond.methodLink "FloatingDockLaw" (7 : Nat) ({ cls := "FloatingDock", name := "addShip", desc := "(III)I" } : Jvm.MethodName)) ∈ lw_all := lw_g (lw_at lw_m10 14 rfl) rfl
theorem q2372 : (Jvm.Cond.methodLink "FloatingDockLaw" (164 : Nat) ({ cls := "FloatingDockLaw", name := "removeShip", desc := "(LFloatingDock;I[J)I" } : Jvm.MethodName)) ∈ lw_all := lw_g (lw_at lw_m10 118 rfl) rfl
theorem q2373 : (Jvm.Cond.static ({ cls := "FloatingDockLaw", name := "removeShip", desc := "(LFloatingDock;I[J)I" } : Jvm.MethodName)) ∈ lw_all := lw_g (lw_at lw_m10 119 rfl) rfl
theorem q2374 : (Jvm.Cond.codeWith ({ cls := "FloatingDockLaw", name := "removeShip", desc := "(LFloatingDock;I[J)I" } : Jvm.MethodName) method_4_code (4 : Nat) (Option.some Jvm.ClassFile.FieldType.int) [((0 : Nat), (9 : Nat), (12 : Nat), (21 : Nat)), ((0 : Nat), (9 : Nat), (15 : Nat), (15 : Nat))]) ∈ lw_all := lw_g (lw_at lw_m10 120 rfl) rfl
theorem q2375 : (Jvm.Cond.classLink "FloatingDockLaw" (21 : Nat) "java/util/NoSuchElementException") ∈ lw_all := lw_g (lw_at lw_m10 121 rfl) rfl
theorem q2376 : (Jvm.Cond.methodLink "FloatingDockLaw" (17 : Nat) ({ cls := "FloatingDock", name := "removeShip", desc := "(I)I" } : Jvm.MethodName)) ∈ lw_all := lw_g (lw_at lw_m10 122 rfl) rfl
theorem q2435 : (Jvm.Cond.methodLink "FloatingDockLaw" (168 : Nat) ({ cls := "FloatingDockLaw", name := "enter", desc := "(LFloatingDock;II[J)I" } : Jvm.MethodName)) ∈ lw_all := lw_g (lw_at lw_m10 181 rfl) rfl
theorem q2436 : (Jvm.Cond.static ({ cls := "FloatingDockLaw", name := "enter", desc := "(LFloatingDock;II[J)I" } : Jvm.MethodName)) ∈ lw_all := lw_g (lw_at lw_m10 182 rfl) rfl
theorem q2437 : (Jvm.Cond.codeWith ({ cls := "FloatingDockLaw", name := "enter", desc := "(LFloatingDock;II[J)I" } : Jvm.MethodName) method_5_code (5 : Nat) (Option.some Jvm.ClassFile.FieldType.int) [((0 : Nat), (10 : Nat), (13 : Nat), (21 : Nat)), ((0 : Nat), (10 : Nat), (17 : Nat), (13 : Nat)), ((0 : Nat), (10 : Nat), (21 : Nat), (15 : Nat)), ((0 : Nat), (10 : Nat), (25 : Nat), (27 : Nat))]) ∈ lw_all := lw_g (lw_at lw_m10 183 rfl) rfl
theorem q2438 : (Jvm.Cond.classLink "FloatingDockLaw" (27 : Nat) "java/lang/UnsupportedOperationException") ∈ lw_all := lw_g (lw_at lw_m10 184 rfl) rfl
theorem q2439 : (Jvm.Cond.methodLink "FloatingDockLaw" (23 : Nat) ({ cls := "FloatingDock", name := "enter", desc := "(II)I" } : Jvm.MethodName)) ∈ lw_all := lw_g (lw_at lw_m10 185 rfl) rfl
theorem q2487 : (Jvm.Cond.methodLink "FloatingDockLaw" (172 : Nat) ({ cls := "FloatingDockLaw", name := "leave", desc := "(LFloatingDock;I[J)I" } : Jvm.MethodName)) ∈ lw_all := lw_g (lw_at lw_m10 233 rfl) rfl
theorem q2488 : (Jvm.Cond.static ({ cls := "FloatingDockLaw", name := "leave", desc := "(LFloatingDock;I[J)I" } : Jvm.MethodName)) ∈ lw_all := lw_g (lw_at lw_m10 234 rfl) rfl
theorem q2489 : (Jvm.Cond.codeWith ({ cls := "FloatingDockLaw", name := "leave", desc := "(LFloatingDock;I[J)I" } : Jvm.MethodName) method_6_code (4 : Nat) (Option.some Jvm.ClassFile.FieldType.int) [((0 : Nat), (9 : Nat), (12 : Nat), (21 : Nat)), ((0 : Nat), (9 : Nat), (15 : Nat), (15 : Nat)), ((0 : Nat), (9 : Nat), (18 : Nat), (27 : Nat))]) ∈ lw_all := lw_g (lw_at lw_m10 235 rfl) rfl
theorem q2490 : (Jvm.Cond.methodLink "FloatingDockLaw" (29 : Nat) ({ cls := "FloatingDock", name := "leave", desc := "(I)I" } : Jvm.MethodName)) ∈ lw_all := lw_g (lw_at lw_m10 236 rfl) rfl
theorem q2505 : (Jvm.Cond.methodLink "FloatingDockLaw" (175 : Nat) ({ cls := "FloatingDockLaw", name := "setCleaning", desc := "(LFloatingDock;IZ[J)I" } : Jvm.MethodName)) ∈ lw_all := lw_g (lw_at lw_m11 11 rfl) rfl
theorem q2506 : (Jvm.Cond.static ({ cls := "FloatingDockLaw", name := "setCleaning", desc := "(LFloatingDock;IZ[J)I" } : Jvm.MethodName)) ∈ lw_all := lw_g (lw_at lw_m11 12 rfl) rfl
theorem q2507 : (Jvm.Cond.codeWith ({ cls := "FloatingDockLaw", name := "setCleaning", desc := "(LFloatingDock;IZ[J)I" } : Jvm.MethodName) method_7_code (5 : Nat) (Option.some Jvm.ClassFile.FieldType.int) [((0 : Nat), (17 : Nat), (20 : Nat), (21 : Nat)), ((0 : Nat), (17 : Nat), (24 : Nat), (15 : Nat))]) ∈ lw_all := lw_g (lw_at lw_m11 13 rfl) rfl
theorem q2508 : (Jvm.Cond.methodLink "FloatingDockLaw" (32 : Nat) ({ cls := "FloatingDock", name := "setCleaning", desc := "(IZ)Z" } : Jvm.MethodName)) ∈ lw_all := lw_g (lw_at lw_m11 14 rfl) rfl
theorem q2518 : (Jvm.Cond.methodLink "FloatingDockLaw" (183 : Nat) ({ cls := "FloatingDockLaw", name := "shipAt", desc := "(LFloatingDock;I[J)I" } : Jvm.MethodName)) ∈ lw_all := lw_g (lw_at lw_m11 24 rfl) rfl
theorem q2519 : (Jvm.Cond.static ({ cls := "FloatingDockLaw", name := "shipAt", desc := "(LFloatingDock;I[J)I" } : Jvm.MethodName)) ∈ lw_all := lw_g (lw_at lw_m11 25 rfl) rfl
theorem q2520 : (Jvm.Cond.codeWith ({ cls := "FloatingDockLaw", name := "shipAt", desc := "(LFloatingDock;I[J)I" } : Jvm.MethodName) method_8_code (4 : Nat) (Option.some Jvm.ClassFile.FieldType.int) [((0 : Nat), (9 : Nat), (12 : Nat), (39 : Nat))]) ∈ lw_all := lw_g (lw_at lw_m11 26 rfl) rfl
theorem q2521 : (Jvm.Cond.classLink "FloatingDockLaw" (39 : Nat) "java/lang/IndexOutOfBoundsException") ∈ lw_all := lw_g (lw_at lw_m11 27 rfl) rfl
theorem q2537 : (Jvm.Cond.methodLink "FloatingDockLaw" (36 : Nat) ({ cls := "FloatingDock", name := "shipAt", desc := "(I)I" } : Jvm.MethodName)) ∈ lw_all := lw_g (lw_at lw_m11 43 rfl) rfl
theorem q2557 : (Jvm.Cond.methodLink "FloatingDockLaw" (186 : Nat) ({ cls := "FloatingDockLaw", name := "isInDock", desc := "(LFloatingDock;I[J)I" } : Jvm.MethodName)) ∈ lw_all := lw_g (lw_at lw_m11 63 rfl) rfl
theorem q2558 : (Jvm.Cond.static ({ cls := "FloatingDockLaw", name := "isInDock", desc := "(LFloatingDock;I[J)I" } : Jvm.MethodName)) ∈ lw_all := lw_g (lw_at lw_m11 64 rfl) rfl
theorem q2559 : (Jvm.Cond.codeWith ({ cls := "FloatingDockLaw", name := "isInDock", desc := "(LFloatingDock;I[J)I" } : Jvm.MethodName) method_9_code (4 : Nat) (Option.some Jvm.ClassFile.FieldType.int) [((0 : Nat), (16 : Nat), (19 : Nat), (21 : Nat))]) ∈ lw_all := lw_g (lw_at lw_m11 65 rfl) rfl
theorem q2560 : (Jvm.Cond.methodLink "FloatingDockLaw" (41 : Nat) ({ cls := "FloatingDock", name := "isInDock", desc := "(I)Z" } : Jvm.MethodName)) ∈ lw_all := lw_g (lw_at lw_m11 66 rfl) rfl
theorem q2566 : (Jvm.Cond.methodLink "FloatingDockLaw" (189 : Nat) ({ cls := "FloatingDockLaw", name := "positionOf", desc := "(LFloatingDock;I[J)I" } : Jvm.MethodName)) ∈ lw_all := lw_g (lw_at lw_m11 72 rfl) rfl
theorem q2567 : (Jvm.Cond.static ({ cls := "FloatingDockLaw", name := "positionOf", desc := "(LFloatingDock;I[J)I" } : Jvm.MethodName)) ∈ lw_all := lw_g (lw_at lw_m11 73 rfl) rfl
theorem q2568 : (Jvm.Cond.codeWith ({ cls := "FloatingDockLaw", name := "positionOf", desc := "(LFloatingDock;I[J)I" } : Jvm.MethodName) method_10_code (4 : Nat) (Option.some Jvm.ClassFile.FieldType.int) [((0 : Nat), (9 : Nat), (12 : Nat), (21 : Nat)), ((0 : Nat), (9 : Nat), (15 : Nat), (15 : Nat))]) ∈ lw_all := lw_g (lw_at lw_m11 74 rfl) rfl
theorem q2569 : (Jvm.Cond.methodLink "FloatingDockLaw" (45 : Nat) ({ cls := "FloatingDock", name := "positionOf", desc := "(I)I" } : Jvm.MethodName)) ∈ lw_all := lw_g (lw_at lw_m11 75 rfl) rfl
theorem q2577 : (Jvm.Cond.methodLink "FloatingDockLaw" (192 : Nat) ({ cls := "FloatingDockLaw", name := "dirtOf", desc := "(LFloatingDock;I[J)I" } : Jvm.MethodName)) ∈ lw_all := lw_g (lw_at lw_m11 83 rfl) rfl
theorem q2578 : (Jvm.Cond.static ({ cls := "FloatingDockLaw", name := "dirtOf", desc := "(LFloatingDock;I[J)I" } : Jvm.MethodName)) ∈ lw_all := lw_g (lw_at lw_m11 84 rfl) rfl
theorem q2579 : (Jvm.Cond.codeWith ({ cls := "FloatingDockLaw", name := "dirtOf", desc := "(LFloatingDock;I[J)I" } : Jvm.MethodName) method_11_code (4 : Nat) (Option.some Jvm.ClassFile.FieldType.int) [((0 : Nat), (9 : Nat), (12 : Nat), (21 : Nat))]) ∈ lw_all := lw_g (lw_at lw_m11 85 rfl) rfl
theorem q2580 : (Jvm.Cond.methodLink "FloatingDockLaw" (48 : Nat) ({ cls := "FloatingDock", name := "dirtOf", desc := "(I)I" } : Jvm.MethodName)) ∈ lw_all := lw_g (lw_at lw_m11 86 rfl) rfl
theorem q2584 : (Jvm.Cond.methodLink "FloatingDockLaw" (195 : Nat) ({ cls := "FloatingDockLaw", name := "damageOf", desc := "(LFloatingDock;I[J)I" } : Jvm.MethodName)) ∈ lw_all := lw_g (lw_at lw_m11 90 rfl) rfl
theorem q2585 : (Jvm.Cond.static ({ cls := "FloatingDockLaw", name := "damageOf", desc := "(LFloatingDock;I[J)I" } : Jvm.MethodName)) ∈ lw_all := lw_g (lw_at lw_m11 91 rfl) rfl
theorem q2586 : (Jvm.Cond.codeWith ({ cls := "FloatingDockLaw", name := "damageOf", desc := "(LFloatingDock;I[J)I" } : Jvm.MethodName) method_12_code (4 : Nat) (Option.some Jvm.ClassFile.FieldType.int) [((0 : Nat), (9 : Nat), (12 : Nat), (21 : Nat))]) ∈ lw_all := lw_g (lw_at lw_m11 92 rfl) rfl
theorem q2587 : (Jvm.Cond.methodLink "FloatingDockLaw" (51 : Nat) ({ cls := "FloatingDock", name := "damageOf", desc := "(I)I" } : Jvm.MethodName)) ∈ lw_all := lw_g (lw_at lw_m11 93 rfl) rfl
theorem q2591 : (Jvm.Cond.methodLink "FloatingDockLaw" (198 : Nat) ({ cls := "FloatingDockLaw", name := "hoursAfloat", desc := "(LFloatingDock;I[J)I" } : Jvm.MethodName)) ∈ lw_all := lw_g (lw_at lw_m11 97 rfl) rfl
theorem q2592 : (Jvm.Cond.static ({ cls := "FloatingDockLaw", name := "hoursAfloat", desc := "(LFloatingDock;I[J)I" } : Jvm.MethodName)) ∈ lw_all := lw_g (lw_at lw_m11 98 rfl) rfl
theorem q2593 : (Jvm.Cond.codeWith ({ cls := "FloatingDockLaw", name := "hoursAfloat", desc := "(LFloatingDock;I[J)I" } : Jvm.MethodName) method_13_code (4 : Nat) (Option.some Jvm.ClassFile.FieldType.int) [((0 : Nat), (9 : Nat), (12 : Nat), (21 : Nat))]) ∈ lw_all := lw_g (lw_at lw_m11 99 rfl) rfl
theorem q2594 : (Jvm.Cond.methodLink "FloatingDockLaw" (54 : Nat) ({ cls := "FloatingDock", name := "hoursAfloat", desc := "(I)I" } : Jvm.MethodName)) ∈ lw_all := lw_g (lw_at lw_m11 100 rfl) rfl
theorem q2598 : (Jvm.Cond.methodLink "FloatingDockLaw" (201 : Nat) ({ cls := "FloatingDockLaw", name := "isAfloat", desc := "(LFloatingDock;I[J)I" } : Jvm.MethodName)) ∈ lw_all := lw_g (lw_at lw_m11 104 rfl) rfl
theorem q2599 : (Jvm.Cond.static ({ cls := "FloatingDockLaw", name := "isAfloat", desc := "(LFloatingDock;I[J)I" } : Jvm.MethodName)) ∈ lw_all := lw_g (lw_at lw_m11 105 rfl) rfl
theorem q2600 : (Jvm.Cond.codeWith ({ cls := "FloatingDockLaw", name := "isAfloat", desc := "(LFloatingDock;I[J)I" } : Jvm.MethodName) method_14_code (4 : Nat) (Option.some Jvm.ClassFile.FieldType.int) [((0 : Nat), (16 : Nat), (19 : Nat), (21 : Nat))]) ∈ lw_all := lw_g (lw_at lw_m11 106 rfl) rfl
theorem q2601 : (Jvm.Cond.methodLink "FloatingDockLaw" (57 : Nat) ({ cls := "FloatingDock", name := "isAfloat", desc := "(I)Z" } : Jvm.MethodName)) ∈ lw_all := lw_g (lw_at lw_m11 107 rfl) rfl
theorem q2605 : (Jvm.Cond.methodLink "FloatingDockLaw" (204 : Nat) ({ cls := "FloatingDockLaw", name := "refusalReason", desc := "(LFloatingDock;[J)I" } : Jvm.MethodName)) ∈ lw_all := lw_g (lw_at lw_m11 111 rfl) rfl
theorem q2606 : (Jvm.Cond.static ({ cls := "FloatingDockLaw", name := "refusalReason", desc := "(LFloatingDock;[J)I" } : Jvm.MethodName)) ∈ lw_all := lw_g (lw_at lw_m11 112 rfl) rfl
theorem q2607 : (Jvm.Cond.codeWith ({ cls := "FloatingDockLaw", name := "refusalReason", desc := "(LFloatingDock;[J)I" } : Jvm.MethodName) method_15_code (3 : Nat) (Option.some Jvm.ClassFile.FieldType.int) [((0 : Nat), (8 : Nat), (11 : Nat), (21 : Nat))]) ∈ lw_all := lw_g (lw_at lw_m11 113 rfl) rfl
theorem q2608 : (Jvm.Cond.methodLink "FloatingDockLaw" (60 : Nat) ({ cls := "FloatingDock", name := "refusalReason", desc := "()I" } : Jvm.MethodName)) ∈ lw_all := lw_g (lw_at lw_m11 114 rfl) rfl
theorem q2613 : (Jvm.Cond.methodLink "FloatingDockLaw" (208 : Nat) ({ cls := "FloatingDockLaw", name := "setGate", desc := "(LFloatingDock;Z[J)I" } : Jvm.MethodName)) ∈ lw_all := lw_g (lw_at lw_m11 119 rfl) rfl
theorem q2614 : (Jvm.Cond.static ({ cls := "FloatingDockLaw", name := "setGate", desc := "(LFloatingDock;Z[J)I" } : Jvm.MethodName)) ∈ lw_all := lw_g (lw_at lw_m11 120 rfl) rfl
theorem q2615 : (Jvm.Cond.codeWith ({ cls := "FloatingDockLaw", name := "setGate", desc := "(LFloatingDock;Z[J)I" } : Jvm.MethodName) method_16_code (4 : Nat) (Option.some Jvm.ClassFile.FieldType.int) [((0 : Nat), (16 : Nat), (19 : Nat), (27 : Nat))]) ∈ lw_all := lw_g (lw_at lw_m11 121 rfl) rfl
theorem q2616 : (Jvm.Cond.methodLink "FloatingDockLaw" (64 : Nat) ({ cls := "FloatingDock", name := "setGate", desc := "(Z)Z" } : Jvm.MethodName)) ∈ lw_all := lw_g (lw_at lw_m11 122 rfl) rfl
theorem q2632 : (Jvm.Cond.methodLink "FloatingDockLaw" (217 : Nat) ({ cls := "FloatingDockLaw", name := "setPump", desc := "(LFloatingDock;I[J)I" } : Jvm.MethodName)) ∈ lw_all := lw_g (lw_at lw_m11 138 rfl) rfl
theorem q2633 : (Jvm.Cond.static ({ cls := "FloatingDockLaw", name := "setPump", desc := "(LFloatingDock;I[J)I" } : Jvm.MethodName)) ∈ lw_all := lw_g (lw_at lw_m11 139 rfl) rfl
theorem q2634 : (Jvm.Cond.codeWith ({ cls := "FloatingDockLaw", name := "setPump", desc := "(LFloatingDock;I[J)I" } : Jvm.MethodName) method_17_code (4 : Nat) (Option.some Jvm.ClassFile.FieldType.int) [((0 : Nat), (9 : Nat), (12 : Nat), (13 : Nat))]) ∈ lw_all := lw_g (lw_at lw_m11 140 rfl) rfl
theorem q2635 : (Jvm.Cond.methodLink "FloatingDockLaw" (68 : Nat) ({ cls := "FloatingDock", name := "setPump", desc := "(I)I" } : Jvm.MethodName)) ∈ lw_all := lw_g (lw_at lw_m11 141 rfl) rfl
theorem q2645 : (Jvm.Cond.methodLink "FloatingDockLaw" (224 : Nat) ({ cls := "FloatingDockLaw", name := "seaLevel", desc := "(LFloatingDock;I[J)I" } : Jvm.MethodName)) ∈ lw_all := lw_g (lw_at lw_m11 151 rfl) rfl
theorem q2646 : (Jvm.Cond.static ({ cls := "FloatingDockLaw", name := "seaLevel", desc := "(LFloatingDock;I[J)I" } : Jvm.MethodName)) ∈ lw_all := lw_g (lw_at lw_m11 152 rfl) rfl
theorem q2647 : (Jvm.Cond.codeWith ({ cls := "FloatingDockLaw", name := "seaLevel", desc := "(LFloatingDock;I[J)I" } : Jvm.MethodName) method_18_code (4 : Nat) (Option.some Jvm.ClassFile.FieldType.int) [((0 : Nat), (9 : Nat), (12 : Nat), (13 : Nat))]) ∈ lw_all := lw_g (lw_at lw_m11 153 rfl) rfl
theorem q2648 : (Jvm.Cond.methodLink "FloatingDockLaw" (71 : Nat) ({ cls := "FloatingDock", name := "seaLevel", desc := "(I)I" } : Jvm.MethodName)) ∈ lw_all := lw_g (lw_at lw_m11 154 rfl) rfl
theorem q2654 : (Jvm.Cond.methodLink "FloatingDockLaw" (227 : Nat) ({ cls := "FloatingDockLaw", name := "seaLevelByHours", desc := "(LFloatingDock;I[J)I" } : Jvm.MethodName)) ∈ lw_all := lw_g (lw_at lw_m11 160 rfl) rfl
theorem q2655 : (Jvm.Cond.static ({ cls := "FloatingDockLaw", name := "seaLevelByHours", desc := "(LFloatingDock;I[J)I" } : Jvm.MethodName)) ∈ lw_all := lw_g (lw_at lw_m11 161 rfl) rfl
theorem q2656 : (Jvm.Cond.codeWith ({ cls := "FloatingDockLaw", name := "seaLevelByHours", desc := "(LFloatingDock;I[J)I" } : Jvm.MethodName) method_19_code (4 : Nat) (Option.some Jvm.ClassFile.FieldType.int) [((0 : Nat), (9 : Nat), (12 : Nat), (13 : Nat))]) ∈ lw_all := lw_g (lw_at lw_m11 162 rfl) rfl
theorem q2657 : (Jvm.Cond.methodLink "FloatingDockLaw" (74 : Nat) ({ cls := "FloatingDock", name := "seaLevelByHours", desc := "(I)I" } : Jvm.MethodName)) ∈ lw_all := lw_g (lw_at lw_m11 163 rfl) rfl
theorem q2662 : (Jvm.Cond.methodLink "FloatingDockLaw" (230 : Nat) ({ cls := "FloatingDockLaw", name := "pass", desc := "(LFloatingDock;I[J)I" } : Jvm.MethodName)) ∈ lw_all := lw_g (lw_at lw_m11 168 rfl) rfl
theorem q2663 : (Jvm.Cond.static ({ cls := "FloatingDockLaw", name := "pass", desc := "(LFloatingDock;I[J)I" } : Jvm.MethodName)) ∈ lw_all := lw_g (lw_at lw_m11 169 rfl) rfl
theorem q2664 : (Jvm.Cond.codeWith ({ cls := "FloatingDockLaw", name := "pass", desc := "(LFloatingDock;I[J)I" } : Jvm.MethodName) method_20_code (4 : Nat) (Option.some Jvm.ClassFile.FieldType.int) [((0 : Nat), (9 : Nat), (12 : Nat), (13 : Nat))]) ∈ lw_all := lw_g (lw_at lw_m11 170 rfl) rfl
theorem q2665 : (Jvm.Cond.methodLink "FloatingDockLaw" (77 : Nat) ({ cls := "FloatingDock", name := "pass", desc := "(I)I" } : Jvm.MethodName)) ∈ lw_all := lw_g (lw_at lw_m11 171 rfl) rfl
theorem q2696 : (Jvm.Cond.methodLink "FloatingDockLaw" (237 : Nat) ({ cls := "FloatingDockLaw", name := "levelAfter", desc := "(LFloatingDock;I[J)I" } : Jvm.MethodName)) ∈ lw_all := lw_g (lw_at lw_m11 202 rfl) rfl
theorem q2697 : (Jvm.Cond.static ({ cls := "FloatingDockLaw", name := "levelAfter", desc := "(LFloatingDock;I[J)I" } : Jvm.MethodName)) ∈ lw_all := lw_g (lw_at lw_m11 203 rfl) rfl
theorem q2698 : (Jvm.Cond.codeWith ({ cls := "FloatingDockLaw", name := "levelAfter", desc := "(LFloatingDock;I[J)I" } : Jvm.MethodName) method_21_code (4 : Nat) (Option.some Jvm.ClassFile.FieldType.int) [((0 : Nat), (9 : Nat), (12 : Nat), (13 : Nat))]) ∈ lw_all := lw_g (lw_at lw_m11 204 rfl) rfl
theorem q2699 : (Jvm.Cond.methodLink "FloatingDockLaw" (80 : Nat) ({ cls := "FloatingDock", name := "levelAfter", desc := "(I)I" } : Jvm.MethodName)) ∈ lw_all := lw_g (lw_at lw_m11 205 rfl) rfl
theorem q2709 : (Jvm.Cond.methodLink "FloatingDockLaw" (240 : Nat) ({ cls := "FloatingDockLaw", name := "hoursUntilAfloat", desc := "(LFloatingDock;I[J)I" } : Jvm.MethodName)) ∈ lw_all := lw_g (lw_at lw_m11 215 rfl) rfl
theorem q2710 : (Jvm.Cond.static ({ cls := "FloatingDockLaw", name := "hoursUntilAfloat", desc := "(LFloatingDock;I[J)I" } : Jvm.MethodName)) ∈ lw_all := lw_g (lw_at lw_m11 216 rfl) rfl
theorem q2711 : (Jvm.Cond.codeWith ({ cls := "FloatingDockLaw", name := "hoursUntilAfloat", desc := "(LFloatingDock;I[J)I" } : Jvm.MethodName) method_22_code (4 : Nat) (Option.some Jvm.ClassFile.FieldType.int) [((0 : Nat), (9 : Nat), (12 : Nat), (21 : Nat)), ((0 : Nat), (9 : Nat), (15 : Nat), (15 : Nat))]) ∈ lw_all := lw_g (lw_at lw_m11 217 rfl) rfl
theorem q2712 : (Jvm.Cond.methodLink "FloatingDockLaw" (83 : Nat) ({ cls := "FloatingDock", name := "hoursUntilAfloat", desc := "(I)I" } : Jvm.MethodName)) ∈ lw_all := lw_g (lw_at lw_m11 218 rfl) rfl
theorem q2722 : (Jvm.Cond.methodLink "FloatingDockLaw" (243 : Nat) ({ cls := "FloatingDockLaw", name := "placeBlock", desc := "(LFloatingDock;I[J)I" } : Jvm.MethodName)) ∈ lw_all := lw_g (lw_at lw_m11 228 rfl) rfl
theorem q2723 : (Jvm.Cond.static ({ cls := "FloatingDockLaw", name := "placeBlock", desc := "(LFloatingDock;I[J)I" } : Jvm.MethodName)) ∈ lw_all := lw_g (lw_at lw_m11 229 rfl) rfl
theorem q2724 : (Jvm.Cond.codeWith ({ cls := "FloatingDockLaw", name := "placeBlock", desc := "(LFloatingDock;I[J)I" } : Jvm.MethodName) method_23_code (4 : Nat) (Option.some Jvm.ClassFile.FieldType.int) [((0 : Nat), (9 : Nat), (12 : Nat), (13 : Nat)), ((0 : Nat), (9 : Nat), (15 : Nat), (15 : Nat)), ((0 : Nat), (9 : Nat), (18 : Nat), (27 : Nat))]) ∈ lw_all := lw_g (lw_at lw_m11 230 rfl) rfl
theorem q2725 : (Jvm.Cond.methodLink "FloatingDockLaw" (86 : Nat) ({ cls := "FloatingDock", name := "placeBlock", desc := "(I)I" } : Jvm.MethodName)) ∈ lw_all := lw_g (lw_at lw_m11 231 rfl) rfl
theorem q2747 : (Jvm.Cond.methodLink "FloatingDockLaw" (246 : Nat) ({ cls := "FloatingDockLaw", name := "removeBlock", desc := "(LFloatingDock;I[J)I" } : Jvm.MethodName)) ∈ lw_all := lw_g (lw_at lw_m12 13 rfl) rfl
theorem q2748 : (Jvm.Cond.static ({ cls := "FloatingDockLaw", name := "removeBlock", desc := "(LFloatingDock;I[J)I" } : Jvm.MethodName)) ∈ lw_all := lw_g (lw_at lw_m12 14 rfl) rfl
theorem q2749 : (Jvm.Cond.codeWith ({ cls := "FloatingDockLaw", name := "removeBlock", desc := "(LFloatingDock;I[J)I" } : Jvm.MethodName) method_24_code (4 : Nat) (Option.some Jvm.ClassFile.FieldType.int) [((0 : Nat), (9 : Nat), (12 : Nat), (13 : Nat)), ((0 : Nat), (9 : Nat), (15 : Nat), (21 : Nat)), ((0 : Nat), (9 : Nat), (18 : Nat), (27 : Nat))]) ∈ lw_all := lw_g (lw_at lw_m12 15 rfl) rfl
theorem q2750 : (Jvm.Cond.methodLink "FloatingDockLaw" (89 : Nat) ({ cls := "FloatingDock", name := "removeBlock", desc := "(I)I" } : Jvm.MethodName)) ∈ lw_all := lw_g (lw_at lw_m12 16 rfl) rfl
theorem q2765 : (Jvm.Cond.methodLink "FloatingDockLaw" (249 : Nat) ({ cls := "FloatingDockLaw", name := "hasBlock", desc := "(LFloatingDock;I[J)I" } : Jvm.MethodName)) ∈ lw_all := lw_g (lw_at lw_m12 31 rfl) rfl
theorem q2766 : (Jvm.Cond.static ({ cls := "FloatingDockLaw", name := "hasBlock", desc := "(LFloatingDock;I[J)I" } : Jvm.MethodName)) ∈ lw_all := lw_g (lw_at lw_m12 32 rfl) rfl
theorem q2767 : (Jvm.Cond.codeWith ({ cls := "FloatingDockLaw", name := "hasBlock", desc := "(LFloatingDock;I[J)I" } : Jvm.MethodName) method_25_code (4 : Nat) (Option.some Jvm.ClassFile.FieldType.int) [((0 : Nat), (16 : Nat), (19 : Nat), (13 : Nat))]) ∈ lw_all := lw_g (lw_at lw_m12 33 rfl) rfl
theorem q2768 : (Jvm.Cond.methodLink "FloatingDockLaw" (92 : Nat) ({ cls := "FloatingDock", name := "hasBlock", desc := "(I)Z" } : Jvm.MethodName)) ∈ lw_all := lw_g (lw_at lw_m12 34 rfl) rfl
theorem q2774 : (Jvm.Cond.methodLink "FloatingDockLaw" (252 : Nat) ({ cls := "FloatingDockLaw", name := "blocksBeneath", desc := "(LFloatingDock;I[J)I" } : Jvm.MethodName)) ∈ lw_all := lw_g (lw_at lw_m12 40 rfl) rfl
theorem q2775 : (Jvm.Cond.static ({ cls := "FloatingDockLaw", name := "blocksBeneath", desc := "(LFloatingDock;I[J)I" } : Jvm.MethodName)) ∈ lw_all := lw_g (lw_at lw_m12 41 rfl) rfl
theorem q2776 : (Jvm.Cond.codeWith ({ cls := "FloatingDockLaw", name := "blocksBeneath", desc := "(LFloatingDock;I[J)I" } : Jvm.MethodName) method_26_code (4 : Nat) (Option.some Jvm.ClassFile.FieldType.int) [((0 : Nat), (9 : Nat), (12 : Nat), (21 : Nat))]) ∈ lw_all := lw_g (lw_at lw_m12 42 rfl) rfl
theorem q2777 : (Jvm.Cond.methodLink "FloatingDockLaw" (95 : Nat) ({ cls := "FloatingDock", name := "blocksBeneath", desc := "(I)I" } : Jvm.MethodName)) ∈ lw_all := lw_g (lw_at lw_m12 43 rfl) rfl
theorem q2782 : (Jvm.Cond.methodLink "FloatingDockLaw" (255 : Nat) ({ cls := "FloatingDockLaw", name := "blocksBeneathByBlocks", desc := "(LFloatingDock;I[J)I" } : Jvm.MethodName)) ∈ lw_all := lw_g (lw_at lw_m12 48 rfl) rfl
theorem q2783 : (Jvm.Cond.static ({ cls := "FloatingDockLaw", name := "blocksBeneathByBlocks", desc := "(LFloatingDock;I[J)I" } : Jvm.MethodName)) ∈ lw_all := lw_g (lw_at lw_m12 49 rfl) rfl
theorem q2784 : (Jvm.Cond.codeWith ({ cls := "FloatingDockLaw", name := "blocksBeneathByBlocks", desc := "(LFloatingDock;I[J)I" } : Jvm.MethodName) method_27_code (4 : Nat) (Option.some Jvm.ClassFile.FieldType.int) [((0 : Nat), (9 : Nat), (12 : Nat), (21 : Nat))]) ∈ lw_all := lw_g (lw_at lw_m12 50 rfl) rfl
theorem q2785 : (Jvm.Cond.methodLink "FloatingDockLaw" (98 : Nat) ({ cls := "FloatingDock", name := "blocksBeneathByBlocks", desc := "(I)I" } : Jvm.MethodName)) ∈ lw_all := lw_g (lw_at lw_m12 51 rfl) rfl
theorem q2790 : (Jvm.Cond.methodLink "FloatingDockLaw" (258 : Nat) ({ cls := "FloatingDockLaw", name := "shipAtPosition", desc := "(LFloatingDock;I[J)I" } : Jvm.MethodName)) ∈ lw_all := lw_g (lw_at lw_m12 56 rfl) rfl
theorem q2791 : (Jvm.Cond.static ({ cls := "FloatingDockLaw", name := "shipAtPosition", desc := "(LFloatingDock;I[J)I" } : Jvm.MethodName)) ∈ lw_all := lw_g (lw_at lw_m12 57 rfl) rfl
theorem q2792 : (Jvm.Cond.codeWith ({ cls := "FloatingDockLaw", name := "shipAtPosition", desc := "(LFloatingDock;I[J)I" } : Jvm.MethodName) method_28_code (4 : Nat) (Option.some Jvm.ClassFile.FieldType.int) [((0 : Nat), (9 : Nat), (12 : Nat), (13 : Nat)), ((0 : Nat), (9 : Nat), (15 : Nat), (21 : Nat))]) ∈ lw_all := lw_g (lw_at lw_m12 58 rfl) rfl
theorem q2793 : (Jvm.Cond.methodLink "FloatingDockLaw" (101 : Nat) ({ cls := "FloatingDock", name := "shipAtPosition", desc := "(I)I" } : Jvm.MethodName)) ∈ lw_all := lw_g (lw_at lw_m12 59 rfl) rfl
theorem q2798 : (Jvm.Cond.methodLink "FloatingDockLaw" (261 : Nat) ({ cls := "FloatingDockLaw", name := "firstGap", desc := "(LFloatingDock;I[J)I" } : Jvm.MethodName)) ∈ lw_all := lw_g (lw_at lw_m12 64 rfl) rfl
theorem q2799 : (Jvm.Cond.static ({ cls := "FloatingDockLaw", name := "firstGap", desc := "(LFloatingDock;I[J)I" } : Jvm.MethodName)) ∈ lw_all := lw_g (lw_at lw_m12 65 rfl) rfl
theorem q2800 : (Jvm.Cond.codeWith ({ cls := "FloatingDockLaw", name := "firstGap", desc := "(LFloatingDock;I[J)I" } : Jvm.MethodName) method_29_code (4 : Nat) (Option.some Jvm.ClassFile.FieldType.int) [((0 : Nat), (9 : Nat), (12 : Nat), (13 : Nat)), ((0 : Nat), (9 : Nat), (15 : Nat), (21 : Nat))]) ∈ lw_all := lw_g (lw_at lw_m12 66 rfl) rfl
theorem q2801 : (Jvm.Cond.methodLink "FloatingDockLaw" (104 : Nat) ({ cls := "FloatingDock", name := "firstGap", desc := "(I)I" } : Jvm.MethodName)) ∈ lw_all := lw_g (lw_at lw_m12 67 rfl) rfl
theorem q2811 : (Jvm.Cond.methodLink "FloatingDockLaw" (264 : Nat) ({ cls := "FloatingDockLaw", name := "firstGapByShips", desc := "(LFloatingDock;I[J)I" } : Jvm.MethodName)) ∈ lw_all := lw_g (lw_at lw_m12 77 rfl) rfl
theorem q2812 : (Jvm.Cond.static ({ cls := "FloatingDockLaw", name := "firstGapByShips", desc := "(LFloatingDock;I[J)I" } : Jvm.MethodName)) ∈ lw_all := lw_g (lw_at lw_m12 78 rfl) rfl
theorem q2813 : (Jvm.Cond.codeWith ({ cls := "FloatingDockLaw", name := "firstGapByShips", desc := "(LFloatingDock;I[J)I" } : Jvm.MethodName) method_30_code (4 : Nat) (Option.some Jvm.ClassFile.FieldType.int) [((0 : Nat), (9 : Nat), (12 : Nat), (13 : Nat)), ((0 : Nat), (9 : Nat), (15 : Nat), (21 : Nat))]) ∈ lw_all := lw_g (lw_at lw_m12 79 rfl) rfl
theorem q2814 : (Jvm.Cond.methodLink "FloatingDockLaw" (107 : Nat) ({ cls := "FloatingDock", name := "firstGapByShips", desc := "(I)I" } : Jvm.MethodName)) ∈ lw_all := lw_g (lw_at lw_m12 80 rfl) rfl
theorem q2818 : (Jvm.Cond.methodLink "FloatingDockLaw" (283 : Nat) ({ cls := "FloatingDockLaw", name := "billOf", desc := "(LFloatingDock;I[J)I" } : Jvm.MethodName)) ∈ lw_all := lw_g (lw_at lw_m12 84 rfl) rfl
theorem q2819 : (Jvm.Cond.static ({ cls := "FloatingDockLaw", name := "billOf", desc := "(LFloatingDock;I[J)I" } : Jvm.MethodName)) ∈ lw_all := lw_g (lw_at lw_m12 85 rfl) rfl
theorem q2820 : (Jvm.Cond.codeWith ({ cls := "FloatingDockLaw", name := "billOf", desc := "(LFloatingDock;I[J)I" } : Jvm.MethodName) method_31_code (4 : Nat) (Option.some Jvm.ClassFile.FieldType.int) [((0 : Nat), (9 : Nat), (12 : Nat), (21 : Nat))]) ∈ lw_all := lw_g (lw_at lw_m12 86 rfl) rfl
theorem q2821 : (Jvm.Cond.methodLink "FloatingDockLaw" (110 : Nat) ({ cls := "FloatingDock", name := "billOf", desc := "(I)I" } : Jvm.MethodName)) ∈ lw_all := lw_g (lw_at lw_m12 87 rfl) rfl
theorem q2825 : (Jvm.Cond.methodLink "FloatingDockLaw" (286 : Nat) ({ cls := "FloatingDockLaw", name := "pay", desc := "(LFloatingDock;II[J)I" } : Jvm.MethodName)) ∈ lw_all := lw_g (lw_at lw_m12 91 rfl) rfl
theorem q2826 : (Jvm.Cond.static ({ cls := "FloatingDockLaw", name := "pay", desc := "(LFloatingDock;II[J)I" } : Jvm.MethodName)) ∈ lw_all := lw_g (lw_at lw_m12 92 rfl) rfl
theorem q2827 : (Jvm.Cond.codeWith ({ cls := "FloatingDockLaw", name := "pay", desc := "(LFloatingDock;II[J)I" } : Jvm.MethodName) method_32_code (5 : Nat) (Option.some Jvm.ClassFile.FieldType.int) [((0 : Nat), (10 : Nat), (13 : Nat), (21 : Nat)), ((0 : Nat), (10 : Nat), (17 : Nat), (13 : Nat)), ((0 : Nat), (10 : Nat), (21 : Nat), (15 : Nat))]) ∈ lw_all := lw_g (lw_at lw_m12 93 rfl) rfl
theorem q2828 : (Jvm.Cond.methodLink "FloatingDockLaw" (113 : Nat) ({ cls := "FloatingDock", name := "pay", desc := "(II)I" } : Jvm.MethodName)) ∈ lw_all := lw_g (lw_at lw_m12 94 rfl) rfl
theorem q2838 : (Jvm.Cond.methodLink "FloatingDockLaw" (301 : Nat) ({ cls := "FloatingDockLaw", name := "shipAtRank", desc := "(LFloatingDock;I[J)I" } : Jvm.MethodName)) ∈ lw_all := lw_g (lw_at lw_m12 104 rfl) rfl
theorem q2839 : (Jvm.Cond.static ({ cls := "FloatingDockLaw", name := "shipAtRank", desc := "(LFloatingDock;I[J)I" } : Jvm.MethodName)) ∈ lw_all := lw_g (lw_at lw_m12 105 rfl) rfl
theorem q2840 : (Jvm.Cond.codeWith ({ cls := "FloatingDockLaw", name := "shipAtRank", desc := "(LFloatingDock;I[J)I" } : Jvm.MethodName) method_33_code (4 : Nat) (Option.some Jvm.ClassFile.FieldType.int) [((0 : Nat), (9 : Nat), (12 : Nat), (39 : Nat))]) ∈ lw_all := lw_g (lw_at lw_m12 106 rfl) rfl
theorem q2841 : (Jvm.Cond.methodLink "FloatingDockLaw" (116 : Nat) ({ cls := "FloatingDock", name := "shipAtRank", desc := "(I)I" } : Jvm.MethodName)) ∈ lw_all := lw_g (lw_at lw_m12 107 rfl) rfl
theorem q2855 : (Jvm.Cond.methodLink "FloatingDockLaw" (304 : Nat) ({ cls := "FloatingDockLaw", name := "append", desc := "(LFloatingDock;C[J)I" } : Jvm.MethodName)) ∈ lw_all := lw_g (lw_at lw_m12 121 rfl) rfl
theorem q2856 : (Jvm.Cond.static ({ cls := "FloatingDockLaw", name := "append", desc := "(LFloatingDock;C[J)I" } : Jvm.MethodName)) ∈ lw_all := lw_g (lw_at lw_m12 122 rfl) rfl
theorem q2857 : (Jvm.Cond.codeWith ({ cls := "FloatingDockLaw", name := "append", desc := "(LFloatingDock;C[J)I" } : Jvm.MethodName) method_34_code (4 : Nat) (Option.some Jvm.ClassFile.FieldType.int) [((0 : Nat), (9 : Nat), (12 : Nat), (13 : Nat)), ((0 : Nat), (9 : Nat), (15 : Nat), (15 : Nat))]) ∈ lw_all := lw_g (lw_at lw_m12 123 rfl) rfl
theorem q2858 : (Jvm.Cond.methodLink "FloatingDockLaw" (119 : Nat) ({ cls := "FloatingDock", name := "append", desc := "(C)I" } : Jvm.MethodName)) ∈ lw_all := lw_g (lw_at lw_m12 124 rfl) rfl
theorem q2865 : (Jvm.Cond.methodLink "FloatingDockLaw" (308 : Nat) ({ cls := "FloatingDockLaw", name := "run", desc := "(LFloatingDock;[J)I" } : Jvm.MethodName)) ∈ lw_all := lw_g (lw_at lw_m12 131 rfl) rfl
theorem q2866 : (Jvm.Cond.static ({ cls := "FloatingDockLaw", name := "run", desc := "(LFloatingDock;[J)I" } : Jvm.MethodName)) ∈ lw_all := lw_g (lw_at lw_m12 132 rfl) rfl
theorem q2867 : (Jvm.Cond.codeWith ({ cls := "FloatingDockLaw", name := "run", desc := "(LFloatingDock;[J)I" } : Jvm.MethodName) method_35_code (3 : Nat) (Option.some Jvm.ClassFile.FieldType.int) [((0 : Nat), (8 : Nat), (11 : Nat), (13 : Nat)), ((0 : Nat), (8 : Nat), (14 : Nat), (15 : Nat))]) ∈ lw_all := lw_g (lw_at lw_m12 133 rfl) rfl
theorem q2868 : (Jvm.Cond.methodLink "FloatingDockLaw" (123 : Nat) ({ cls := "FloatingDock", name := "run", desc := "()I" } : Jvm.MethodName)) ∈ lw_all := lw_g (lw_at lw_m12 134 rfl) rfl
theorem q3121 : (Jvm.Cond.methodLink "FloatingDockLaw" (311 : Nat) ({ cls := "FloatingDockLaw", name := "errorPosition", desc := "(LFloatingDock;[J)I" } : Jvm.MethodName)) ∈ lw_all := lw_g (lw_at lw_m13 147 rfl) rfl
theorem q3122 : (Jvm.Cond.static ({ cls := "FloatingDockLaw", name := "errorPosition", desc := "(LFloatingDock;[J)I" } : Jvm.MethodName)) ∈ lw_all := lw_g (lw_at lw_m13 148 rfl) rfl
theorem q3123 : (Jvm.Cond.codeWith ({ cls := "FloatingDockLaw", name := "errorPosition", desc := "(LFloatingDock;[J)I" } : Jvm.MethodName) method_36_code (3 : Nat) (Option.some Jvm.ClassFile.FieldType.int) [((0 : Nat), (8 : Nat), (11 : Nat), (21 : Nat))]) ∈ lw_all := lw_g (lw_at lw_m13 149 rfl) rfl
theorem q3124 : (Jvm.Cond.methodLink "FloatingDockLaw" (126 : Nat) ({ cls := "FloatingDock", name := "errorPosition", desc := "()I" } : Jvm.MethodName)) ∈ lw_all := lw_g (lw_at lw_m13 150 rfl) rfl
theorem q3128 : (Jvm.Cond.methodLink "FloatingDockLaw" (314 : Nat) ({ cls := "FloatingDockLaw", name := "failedCommand", desc := "(LFloatingDock;[J)I" } : Jvm.MethodName)) ∈ lw_all := lw_g (lw_at lw_m13 154 rfl) rfl
theorem q3129 : (Jvm.Cond.static ({ cls := "FloatingDockLaw", name := "failedCommand", desc := "(LFloatingDock;[J)I" } : Jvm.MethodName)) ∈ lw_all := lw_g (lw_at lw_m13 155 rfl) rfl
theorem q3130 : (Jvm.Cond.codeWith ({ cls := "FloatingDockLaw", name := "failedCommand", desc := "(LFloatingDock;[J)I" } : Jvm.MethodName) method_37_code (3 : Nat) (Option.some Jvm.ClassFile.FieldType.int) [((0 : Nat), (8 : Nat), (11 : Nat), (21 : Nat))]) ∈ lw_all := lw_g (lw_at lw_m13 156 rfl) rfl
theorem q3131 : (Jvm.Cond.methodLink "FloatingDockLaw" (129 : Nat) ({ cls := "FloatingDock", name := "failedCommand", desc := "()I" } : Jvm.MethodName)) ∈ lw_all := lw_g (lw_at lw_m13 157 rfl) rfl
theorem q3135 : (Jvm.Cond.methodLink "FloatingDockLaw" (321 : Nat) ({ cls := "FloatingDockLaw", name := "describeBill", desc := "(LFloatingDock;I[J)I" } : Jvm.MethodName)) ∈ lw_all := lw_g (lw_at lw_m13 161 rfl) rfl
theorem q3136 : (Jvm.Cond.static ({ cls := "FloatingDockLaw", name := "describeBill", desc := "(LFloatingDock;I[J)I" } : Jvm.MethodName)) ∈ lw_all := lw_g (lw_at lw_m13 162 rfl) rfl
theorem q3137 : (Jvm.Cond.codeWith ({ cls := "FloatingDockLaw", name := "describeBill", desc := "(LFloatingDock;I[J)I" } : Jvm.MethodName) method_38_code (4 : Nat) (Option.some Jvm.ClassFile.FieldType.int) [((0 : Nat), (9 : Nat), (12 : Nat), (21 : Nat))]) ∈ lw_all := lw_g (lw_at lw_m13 163 rfl) rfl
theorem q3138 : (Jvm.Cond.methodLink "FloatingDockLaw" (132 : Nat) ({ cls := "FloatingDock", name := "describeBill", desc := "(I)I" } : Jvm.MethodName)) ∈ lw_all := lw_g (lw_at lw_m13 164 rfl) rfl
theorem q3155 : (Jvm.Cond.methodLink "FloatingDockLaw" (324 : Nat) ({ cls := "FloatingDockLaw", name := "lineAt", desc := "(LFloatingDock;I[J)I" } : Jvm.MethodName)) ∈ lw_all := lw_g (lw_at lw_m13 181 rfl) rfl
theorem q3156 : (Jvm.Cond.static ({ cls := "FloatingDockLaw", name := "lineAt", desc := "(LFloatingDock;I[J)I" } : Jvm.MethodName)) ∈ lw_all := lw_g (lw_at lw_m13 182 rfl) rfl
theorem q3157 : (Jvm.Cond.codeWith ({ cls := "FloatingDockLaw", name := "lineAt", desc := "(LFloatingDock;I[J)I" } : Jvm.MethodName) method_39_code (4 : Nat) (Option.some Jvm.ClassFile.FieldType.int) [((0 : Nat), (9 : Nat), (12 : Nat), (39 : Nat))]) ∈ lw_all := lw_g (lw_at lw_m13 183 rfl) rfl
theorem q3158 : (Jvm.Cond.methodLink "FloatingDockLaw" (135 : Nat) ({ cls := "FloatingDock", name := "lineAt", desc := "(I)C" } : Jvm.MethodName)) ∈ lw_all := lw_g (lw_at lw_m13 184 rfl) rfl
theorem q3164 : (Jvm.Cond.methodLink "FloatingDockLaw" (327 : Nat) ({ cls := "FloatingDockLaw", name := "meanDirt", desc := "(LFloatingDock;[D)I" } : Jvm.MethodName)) ∈ lw_all := lw_g (lw_at lw_m13 190 rfl) rfl
theorem q3165 : (Jvm.Cond.static ({ cls := "FloatingDockLaw", name := "meanDirt", desc := "(LFloatingDock;[D)I" } : Jvm.MethodName)) ∈ lw_all := lw_g (lw_at lw_m13 191 rfl) rfl
theorem q3166 : (Jvm.Cond.codeWith ({ cls := "FloatingDockLaw", name := "meanDirt", desc := "(LFloatingDock;[D)I" } : Jvm.MethodName) method_40_code (3 : Nat) (Option.some Jvm.ClassFile.FieldType.int) [((0 : Nat), (7 : Nat), (10 : Nat), (143 : Nat))]) ∈ lw_all := lw_g (lw_at lw_m13 192 rfl) rfl
theorem q3167 : (Jvm.Cond.classLink "FloatingDockLaw" (143 : Nat) "java/lang/ArithmeticException") ∈ lw_all := lw_g (lw_at lw_m13 193 rfl) rfl
theorem q3181 : (Jvm.Cond.methodLink "FloatingDockLaw" (139 : Nat) ({ cls := "FloatingDock", name := "meanDirt", desc := "()D" } : Jvm.MethodName)) ∈ lw_all := lw_g (lw_at lw_m13 207 rfl) rfl
theorem q3200 : (Jvm.Cond.methodLink "FloatingDockLaw" (340 : Nat) ({ cls := "FloatingDockLaw", name := "undo", desc := "(LFloatingDock;[J)I" } : Jvm.MethodName)) ∈ lw_all := lw_g (lw_at lw_m13 226 rfl) rfl
theorem q3201 : (Jvm.Cond.static ({ cls := "FloatingDockLaw", name := "undo", desc := "(LFloatingDock;[J)I" } : Jvm.MethodName)) ∈ lw_all := lw_g (lw_at lw_m13 227 rfl) rfl
theorem q3202 : (Jvm.Cond.codeWith ({ cls := "FloatingDockLaw", name := "undo", desc := "(LFloatingDock;[J)I" } : Jvm.MethodName) method_41_code (3 : Nat) (Option.some Jvm.ClassFile.FieldType.int) [((0 : Nat), (8 : Nat), (11 : Nat), (15 : Nat))]) ∈ lw_all := lw_g (lw_at lw_m13 228 rfl) rfl
theorem q3203 : (Jvm.Cond.methodLink "FloatingDockLaw" (145 : Nat) ({ cls := "FloatingDock", name := "undo", desc := "()I" } : Jvm.MethodName)) ∈ lw_all := lw_g (lw_at lw_m13 229 rfl) rfl
theorem q3222 : (Jvm.Cond.methodLink "FloatingDockLaw" (347 : Nat) ({ cls := "FloatingDockLaw", name := "restore", desc := "(LFloatingDock;[J)I" } : Jvm.MethodName)) ∈ lw_all := lw_g (lw_at lw_m14 8 rfl) rfl
theorem q3223 : (Jvm.Cond.static ({ cls := "FloatingDockLaw", name := "restore", desc := "(LFloatingDock;[J)I" } : Jvm.MethodName)) ∈ lw_all := lw_g (lw_at lw_m14 9 rfl) rfl
theorem q3224 : (Jvm.Cond.codeWith ({ cls := "FloatingDockLaw", name := "restore", desc := "(LFloatingDock;[J)I" } : Jvm.MethodName) method_42_code (3 : Nat) (Option.some Jvm.ClassFile.FieldType.int) [((0 : Nat), (8 : Nat), (11 : Nat), (15 : Nat))]) ∈ lw_all := lw_g (lw_at lw_m14 10 rfl) rfl
theorem q3225 : (Jvm.Cond.methodLink "FloatingDockLaw" (148 : Nat) ({ cls := "FloatingDock", name := "restore", desc := "()I" } : Jvm.MethodName)) ∈ lw_all := lw_g (lw_at lw_m14 11 rfl) rfl
theorem q3236 : (Jvm.Cond.classLink "FloatingDockLaw" (152 : Nat) "FloatingDockModel") ∈ lw_all := lw_g (lw_at lw_m14 22 rfl) rfl
theorem q3238 : (Jvm.Cond.methodLink "FloatingDockLaw" (154 : Nat) ({ cls := "FloatingDockModel", name := "<init>", desc := "()V" } : Jvm.MethodName)) ∈ lw_all := lw_g (lw_at lw_m14 24 rfl) rfl
theorem q3303 : (Jvm.Cond.methodLink "FloatingDockLaw" (161 : Nat) ({ cls := "FloatingDockModel", name := "thrown", desc := "()I" } : Jvm.MethodName)) ∈ lw_all := lw_g (lw_at lw_m14 89 rfl) rfl
theorem q3307 : (Jvm.Cond.methodLink "FloatingDockLaw" (342 : Nat) ({ cls := "FloatingDockModel", name := "undo", desc := "()I" } : Jvm.MethodName)) ∈ lw_all := lw_g (lw_at lw_m14 93 rfl) rfl
theorem q3322 : (Jvm.Cond.methodLink "FloatingDockLaw" (346 : Nat) ({ cls := "FloatingDockModel", name := "save", desc := "()I" } : Jvm.MethodName)) ∈ lw_all := lw_g (lw_at lw_m14 108 rfl) rfl
theorem q3326 : (Jvm.Cond.methodLink "FloatingDockLaw" (349 : Nat) ({ cls := "FloatingDockModel", name := "restore", desc := "()I" } : Jvm.MethodName)) ∈ lw_all := lw_g (lw_at lw_m14 112 rfl) rfl
theorem q3330 : (Jvm.Cond.methodLink "FloatingDockLaw" (160 : Nat) ({ cls := "FloatingDockModel", name := "addShip", desc := "(III)I" } : Jvm.MethodName)) ∈ lw_all := lw_g (lw_at lw_m14 116 rfl) rfl
theorem q3357 : (Jvm.Cond.methodLink "FloatingDockLaw" (167 : Nat) ({ cls := "FloatingDockModel", name := "removeShip", desc := "(I)I" } : Jvm.MethodName)) ∈ lw_all := lw_g (lw_at lw_m14 143 rfl) rfl
theorem q3377 : (Jvm.Cond.methodLink "FloatingDockLaw" (171 : Nat) ({ cls := "FloatingDockModel", name := "enter", desc := "(II)I" } : Jvm.MethodName)) ∈ lw_all := lw_g (lw_at lw_m14 163 rfl) rfl
theorem q3404 : (Jvm.Cond.methodLink "FloatingDockLaw" (174 : Nat) ({ cls := "FloatingDockModel", name := "leave", desc := "(I)I" } : Jvm.MethodName)) ∈ lw_all := lw_g (lw_at lw_m14 190 rfl) rfl
theorem q3416 : (Jvm.Cond.methodLink "FloatingDockLaw" (178 : Nat) ({ cls := "FloatingDockModel", name := "setCleaning", desc := "(IZ)Z" } : Jvm.MethodName)) ∈ lw_all := lw_g (lw_at lw_m14 202 rfl) rfl
theorem q3424 : (Jvm.Cond.methodLink "FloatingDockLaw" (288 : Nat) ({ cls := "FloatingDockModel", name := "pay", desc := "(II)I" } : Jvm.MethodName)) ∈ lw_all := lw_g (lw_at lw_m14 210 rfl) rfl
theorem q3432 : (Jvm.Cond.methodLink "FloatingDockLaw" (211 : Nat) ({ cls := "FloatingDockModel", name := "setGate", desc := "(Z)Z" } : Jvm.MethodName)) ∈ lw_all := lw_g (lw_at lw_m14 218 rfl) rfl
theorem q3444 : (Jvm.Cond.methodLink "FloatingDockLaw" (219 : Nat) ({ cls := "FloatingDockModel", name := "setPump", desc := "(I)I" } : Jvm.MethodName)) ∈ lw_all := lw_g (lw_at lw_m14 230 rfl) rfl
theorem q3452 : (Jvm.Cond.methodLink "FloatingDockLaw" (245 : Nat) ({ cls := "FloatingDockModel", name := "placeBlock", desc := "(I)I" } : Jvm.MethodName)) ∈ lw_all := lw_g (lw_at lw_m14 238 rfl) rfl
theorem q3468 : (Jvm.Cond.methodLink "FloatingDockLaw" (248 : Nat) ({ cls := "FloatingDockModel", name := "removeBlock", desc := "(I)I" } : Jvm.MethodName)) ∈ lw_all := lw_g (lw_at lw_m15 14 rfl) rfl
theorem q3476 : (Jvm.Cond.methodLink "FloatingDockLaw" (232 : Nat) ({ cls := "FloatingDockModel", name := "pass", desc := "(I)I" } : Jvm.MethodName)) ∈ lw_all := lw_g (lw_at lw_m15 22 rfl) rfl
theorem q3501 : (Jvm.Cond.methodLink "FloatingDockLaw" (182 : Nat) ({ cls := "FloatingDockModel", name := "shipCount", desc := "()I" } : Jvm.MethodName)) ∈ lw_all := lw_g (lw_at lw_m15 47 rfl) rfl
theorem q3505 : (Jvm.Cond.methodLink "FloatingDockLaw" (185 : Nat) ({ cls := "FloatingDockModel", name := "shipAt", desc := "(I)I" } : Jvm.MethodName)) ∈ lw_all := lw_g (lw_at lw_m15 51 rfl) rfl
theorem q3509 : (Jvm.Cond.methodLink "FloatingDockLaw" (188 : Nat) ({ cls := "FloatingDockModel", name := "isInDock", desc := "(I)Z" } : Jvm.MethodName)) ∈ lw_all := lw_g (lw_at lw_m15 55 rfl) rfl
theorem q3517 : (Jvm.Cond.methodLink "FloatingDockLaw" (191 : Nat) ({ cls := "FloatingDockModel", name := "positionOf", desc := "(I)I" } : Jvm.MethodName)) ∈ lw_all := lw_g (lw_at lw_m15 63 rfl) rfl
theorem q3521 : (Jvm.Cond.methodLink "FloatingDockLaw" (194 : Nat) ({ cls := "FloatingDockModel", name := "dirtOf", desc := "(I)I" } : Jvm.MethodName)) ∈ lw_all := lw_g (lw_at lw_m15 67 rfl) rfl
theorem q3525 : (Jvm.Cond.methodLink "FloatingDockLaw" (197 : Nat) ({ cls := "FloatingDockModel", name := "damageOf", desc := "(I)I" } : Jvm.MethodName)) ∈ lw_all := lw_g (lw_at lw_m15 71 rfl) rfl
theorem q3529 : (Jvm.Cond.methodLink "FloatingDockLaw" (200 : Nat) ({ cls := "FloatingDockModel", name := "hoursAfloat", desc := "(I)I" } : Jvm.MethodName)) ∈ lw_all := lw_g (lw_at lw_m15 75 rfl) rfl
theorem q3533 : (Jvm.Cond.methodLink "FloatingDockLaw" (203 : Nat) ({ cls := "FloatingDockModel", name := "isAfloat", desc := "(I)Z" } : Jvm.MethodName)) ∈ lw_all := lw_g (lw_at lw_m15 79 rfl) rfl
theorem q3537 : (Jvm.Cond.methodLink "FloatingDockLaw" (207 : Nat) ({ cls := "FloatingDockModel", name := "refusalReason", desc := "()I" } : Jvm.MethodName)) ∈ lw_all := lw_g (lw_at lw_m15 83 rfl) rfl
theorem q3541 : (Jvm.Cond.methodLink "FloatingDockLaw" (285 : Nat) ({ cls := "FloatingDockModel", name := "billOf", desc := "(I)I" } : Jvm.MethodName)) ∈ lw_all := lw_g (lw_at lw_m15 87 rfl) rfl
theorem q3545 : (Jvm.Cond.methodLink "FloatingDockLaw" (216 : Nat) ({ cls := "FloatingDockModel", name := "isGateOpen", desc := "()Z" } : Jvm.MethodName)) ∈ lw_all := lw_g (lw_at lw_m15 91 rfl) rfl
theorem q3549 : (Jvm.Cond.methodLink "FloatingDockLaw" (223 : Nat) ({ cls := "FloatingDockModel", name := "level", desc := "()I" } : Jvm.MethodName)) ∈ lw_all := lw_g (lw_at lw_m15 95 rfl) rfl
theorem q3553 : (Jvm.Cond.methodLink "FloatingDockLaw" (226 : Nat) ({ cls := "FloatingDockModel", name := "seaLevel", desc := "(I)I" } : Jvm.MethodName)) ∈ lw_all := lw_g (lw_at lw_m15 99 rfl) rfl
theorem q3561 : (Jvm.Cond.methodLink "FloatingDockLaw" (229 : Nat) ({ cls := "FloatingDockModel", name := "seaLevelByHours", desc := "(I)I" } : Jvm.MethodName)) ∈ lw_all := lw_g (lw_at lw_m15 107 rfl) rfl
theorem q3565 : (Jvm.Cond.methodLink "FloatingDockLaw" (236 : Nat) ({ cls := "FloatingDockModel", name := "hour", desc := "()I" } : Jvm.MethodName)) ∈ lw_all := lw_g (lw_at lw_m15 111 rfl) rfl
theorem q3569 : (Jvm.Cond.methodLink "FloatingDockLaw" (239 : Nat) ({ cls := "FloatingDockModel", name := "levelAfter", desc := "(I)I" } : Jvm.MethodName)) ∈ lw_all := lw_g (lw_at lw_m15 115 rfl) rfl
theorem q3573 : (Jvm.Cond.methodLink "FloatingDockLaw" (242 : Nat) ({ cls := "FloatingDockModel", name := "hoursUntilAfloat", desc := "(I)I" } : Jvm.MethodName)) ∈ lw_all := lw_g (lw_at lw_m15 119 rfl) rfl
theorem q3577 : (Jvm.Cond.methodLink "FloatingDockLaw" (251 : Nat) ({ cls := "FloatingDockModel", name := "hasBlock", desc := "(I)Z" } : Jvm.MethodName)) ∈ lw_all := lw_g (lw_at lw_m15 123 rfl) rfl
theorem q3581 : (Jvm.Cond.methodLink "FloatingDockLaw" (254 : Nat) ({ cls := "FloatingDockModel", name := "blocksBeneath", desc := "(I)I" } : Jvm.MethodName)) ∈ lw_all := lw_g (lw_at lw_m15 127 rfl) rfl
theorem q3589 : (Jvm.Cond.methodLink "FloatingDockLaw" (257 : Nat) ({ cls := "FloatingDockModel", name := "blocksBeneathByBlocks", desc := "(I)I" } : Jvm.MethodName)) ∈ lw_all := lw_g (lw_at lw_m15 135 rfl) rfl
theorem q3593 : (Jvm.Cond.methodLink "FloatingDockLaw" (260 : Nat) ({ cls := "FloatingDockModel", name := "shipAtPosition", desc := "(I)I" } : Jvm.MethodName)) ∈ lw_all := lw_g (lw_at lw_m15 139 rfl) rfl
theorem q3597 : (Jvm.Cond.methodLink "FloatingDockLaw" (263 : Nat) ({ cls := "FloatingDockModel", name := "firstGap", desc := "(I)I" } : Jvm.MethodName)) ∈ lw_all := lw_g (lw_at lw_m15 143 rfl) rfl
theorem q3605 : (Jvm.Cond.methodLink "FloatingDockLaw" (266 : Nat) ({ cls := "FloatingDockModel", name := "firstGapByShips", desc := "(I)I" } : Jvm.MethodName)) ∈ lw_all := lw_g (lw_at lw_m15 151 rfl) rfl
theorem q3609 : (Jvm.Cond.methodLink "FloatingDockLaw" (270 : Nat) ({ cls := "FloatingDockModel", name := "freeMetres", desc := "()I" } : Jvm.MethodName)) ∈ lw_all := lw_g (lw_at lw_m15 155 rfl) rfl
theorem q3617 : (Jvm.Cond.methodLink "FloatingDockLaw" (274 : Nat) ({ cls := "FloatingDockModel", name := "mostFitting", desc := "()I" } : Jvm.MethodName)) ∈ lw_all := lw_g (lw_at lw_m15 163 rfl) rfl
theorem q3638 : (Jvm.Cond.methodLink "FloatingDockLaw" (278 : Nat) ({ cls := "FloatingDockModel", name := "mostFittingByTable", desc := "()I" } : Jvm.MethodName)) ∈ lw_all := lw_g (lw_at lw_m15 184 rfl) rfl
theorem q3642 : (Jvm.Cond.methodLink "FloatingDockLaw" (282 : Nat) ({ cls := "FloatingDockModel", name := "mostFittingMetres", desc := "()I" } : Jvm.MethodName)) ∈ lw_all := lw_g (lw_at lw_m15 188 rfl) rfl
theorem q3646 : (Jvm.Cond.methodLink "FloatingDockLaw" (292 : Nat) ({ cls := "FloatingDockModel", name := "billTotal", desc := "()I" } : Jvm.MethodName)) ∈ lw_all := lw_g (lw_at lw_m15 192 rfl) rfl
theorem q3654 : (Jvm.Cond.methodLink "FloatingDockLaw" (296 : Nat) ({ cls := "FloatingDockModel", name := "billTotalByAccount", desc := "()I" } : Jvm.MethodName)) ∈ lw_all := lw_g (lw_at lw_m15 200 rfl) rfl
theorem q3658 : (Jvm.Cond.methodLink "FloatingDockLaw" (300 : Nat) ({ cls := "FloatingDockModel", name := "paidTotal", desc := "()I" } : Jvm.MethodName)) ∈ lw_all := lw_g (lw_at lw_m15 204 rfl) rfl
theorem q3662 : (Jvm.Cond.methodLink "FloatingDockLaw" (303 : Nat) ({ cls := "FloatingDockModel", name := "shipAtRank", desc := "(I)I" } : Jvm.MethodName)) ∈ lw_all := lw_g (lw_at lw_m15 208 rfl) rfl
theorem q3666 : (Jvm.Cond.methodLink "FloatingDockLaw" (330 : Nat) ({ cls := "FloatingDockModel", name := "meanDirt", desc := "()D" } : Jvm.MethodName)) ∈ lw_all := lw_g (lw_at lw_m15 212 rfl) rfl
theorem q3670 : (Jvm.Cond.methodLink "FloatingDockLaw" (335 : Nat) ({ cls := "FloatingDockModel", name := "takenShare", desc := "()F" } : Jvm.MethodName)) ∈ lw_all := lw_g (lw_at lw_m15 216 rfl) rfl
theorem q3675 : (Jvm.Cond.methodLink "FloatingDockLaw" (339 : Nat) ({ cls := "FloatingDockModel", name := "isConsistent", desc := "()Z" } : Jvm.MethodName)) ∈ lw_all := lw_g (lw_at lw_m15 221 rfl) rfl
theorem q3679 : (Jvm.Cond.methodLink "FloatingDockLaw" (320 : Nat) ({ cls := "FloatingDockModel", name := "describeDock", desc := "()I" } : Jvm.MethodName)) ∈ lw_all := lw_g (lw_at lw_m15 225 rfl) rfl
theorem q3683 : (Jvm.Cond.methodLink "FloatingDockLaw" (323 : Nat) ({ cls := "FloatingDockModel", name := "describeBill", desc := "(I)I" } : Jvm.MethodName)) ∈ lw_all := lw_g (lw_at lw_m15 229 rfl) rfl
theorem q3695 : (Jvm.Cond.methodLink "FloatingDockLaw" (326 : Nat) ({ cls := "FloatingDockModel", name := "lineAt", desc := "(I)C" } : Jvm.MethodName)) ∈ lw_all := lw_g (lw_at lw_m16 1 rfl) rfl
theorem q3699 : (Jvm.Cond.methodLink "FloatingDockLaw" (307 : Nat) ({ cls := "FloatingDockModel", name := "append", desc := "(C)I" } : Jvm.MethodName)) ∈ lw_all := lw_g (lw_at lw_m16 5 rfl) rfl
theorem q3703 : (Jvm.Cond.methodLink "FloatingDockLaw" (310 : Nat) ({ cls := "FloatingDockModel", name := "run", desc := "()I" } : Jvm.MethodName)) ∈ lw_all := lw_g (lw_at lw_m16 9 rfl) rfl
theorem q3744 : (Jvm.Cond.methodLink "FloatingDockLaw" (313 : Nat) ({ cls := "FloatingDockModel", name := "errorPosition", desc := "()I" } : Jvm.MethodName)) ∈ lw_all := lw_g (lw_at lw_m16 50 rfl) rfl
theorem q3748 : (Jvm.Cond.methodLink "FloatingDockLaw" (316 : Nat) ({ cls := "FloatingDockModel", name := "failedCommand", desc := "()I" } : Jvm.MethodName)) ∈ lw_all := lw_g (lw_at lw_m16 54 rfl) rfl

/-! FloatingDock -/
def RX1 : String := "FloatingDock"
def TX1 : u_T := fun k => match k with
  | 0 => ("FloatingDock", "charges", "[LFloatingDock$Charge;", true)
  | 1 => ("FloatingDock", "gapFinders", "[LFloatingDock$GapFinder;", true)
  | 2 => ("FloatingDock", "packers", "[LFloatingDock$Packer;", true)
  | 3 => ("FloatingDock", "yard", "LFloatingDock$Yard;", false)
  | 4 => ("FloatingDock", "snapshot", "LFloatingDock$Yard;", false)
  | 5 => ("FloatingDock", "history", "Ljava/util/ArrayDeque;", true)
  | 6 => ("FloatingDock", "text", "Ljava/lang/StringBuilder;", true)
  | 7 => ("FloatingDock", "line", "Ljava/lang/String;", false)
  | 8 => ("FloatingDock", "errorPosition", "I", false)
  | 9 => ("FloatingDock", "failedCommand", "I", false)
  | _ => ("FloatingDock", "refusalReason", "I", false)
def tyX1 : Nat → FieldType := fun k => match k with
  | 0 => .array (.object "FloatingDock$Charge")
  | 1 => .array (.object "FloatingDock$GapFinder")
  | 2 => .array (.object "FloatingDock$Packer")
  | 3 => .object "FloatingDock$Yard"
  | 4 => .object "FloatingDock$Yard"
  | 5 => .object "java/util/ArrayDeque"
  | 6 => .object "java/lang/StringBuilder"
  | 7 => .object "java/lang/String"
  | 8 => .int
  | 9 => .int
  | _ => .int
abbrev wsX10 : List Cond := u_ws RX1 TX1 11
theorem nmX1 : ∀ a, a < 11 → ∀ b, b < 11 → a ≠ b → (TX1 a).2.1 ≠ (TX1 b).2.1 := by decide +kernel
theorem tyX1_ok : ∀ k, k < 11 → parseFieldDescriptor (TX1 k).2.2.1 = some (tyX1 k) := by decide +kernel
abbrev cX1_init : ByteArray := prog_1_method_1_code
def yX1_init : MethodName := ⟨RX1, "<init>", "()V"⟩
abbrev cX1_lambda_new_0 : ByteArray := prog_1_method_88_code
def yX1_lambda_new_0 : MethodName := ⟨RX1, "lambda$new$0", "(ILFloatingDock$Ship;II)I"⟩
abbrev cX1_lambda_new_1 : ByteArray := prog_1_method_87_code
def yX1_lambda_new_1 : MethodName := ⟨RX1, "lambda$new$1", "(ILFloatingDock$Ship;II)I"⟩
abbrev cX1_lambda_new_2 : ByteArray := prog_1_method_86_code
def yX1_lambda_new_2 : MethodName := ⟨RX1, "lambda$new$2", "(IIILFloatingDock$Ship;II)I"⟩
abbrev cX1_lambda_new_3 : ByteArray := prog_1_method_85_code
def yX1_lambda_new_3 : MethodName := ⟨RX1, "lambda$new$3", "(LFloatingDock$Yard;I)I"⟩
abbrev cX1_lambda_new_4 : ByteArray := prog_1_method_84_code
def yX1_lambda_new_4 : MethodName := ⟨RX1, "lambda$new$4", "(LFloatingDock$Yard;I)I"⟩
abbrev cX1_lambda_new_5 : ByteArray := prog_1_method_83_code
def yX1_lambda_new_5 : MethodName := ⟨RX1, "lambda$new$5", "(LFloatingDock$Yard;)I"⟩
abbrev cX1_lambda_new_6 : ByteArray := prog_1_method_82_code
def yX1_lambda_new_6 : MethodName := ⟨RX1, "lambda$new$6", "(LFloatingDock$Yard;)I"⟩
abbrev cX1_shipCount : ByteArray := prog_1_method_19_code
def yX1_shipCount : MethodName := ⟨RX1, "shipCount", "()I"⟩
abbrev cX1_isGateOpen : ByteArray := prog_1_method_29_code
def yX1_isGateOpen : MethodName := ⟨RX1, "isGateOpen", "()Z"⟩
abbrev cX1_level : ByteArray := prog_1_method_31_code
def yX1_level : MethodName := ⟨RX1, "level", "()I"⟩
abbrev cX1_hour : ByteArray := prog_1_method_35_code
def yX1_hour : MethodName := ⟨RX1, "hour", "()I"⟩
abbrev cX1_freeMetres : ByteArray := prog_1_method_47_code
def yX1_freeMetres : MethodName := ⟨RX1, "freeMetres", "()I"⟩
abbrev cX1_mostFitting : ByteArray := prog_1_method_48_code
def yX1_mostFitting : MethodName := ⟨RX1, "mostFitting", "()I"⟩
abbrev cX1_mostFittingByTable : ByteArray := prog_1_method_49_code
def yX1_mostFittingByTable : MethodName := ⟨RX1, "mostFittingByTable", "()I"⟩
abbrev cX1_mostFittingMetres : ByteArray := prog_1_method_50_code
def yX1_mostFittingMetres : MethodName := ⟨RX1, "mostFittingMetres", "()I"⟩
abbrev cX1_billTotal : ByteArray := prog_1_method_53_code
def yX1_billTotal : MethodName := ⟨RX1, "billTotal", "()I"⟩
abbrev cX1_billTotalByAccount : ByteArray := prog_1_method_54_code
def yX1_billTotalByAccount : MethodName := ⟨RX1, "billTotalByAccount", "()I"⟩
abbrev cX1_paidTotal : ByteArray := prog_1_method_55_code
def yX1_paidTotal : MethodName := ⟨RX1, "paidTotal", "()I"⟩
abbrev cX1_describeDock : ByteArray := prog_1_method_62_code
def yX1_describeDock : MethodName := ⟨RX1, "describeDock", "()I"⟩
abbrev cX1_isBetween : ByteArray := prog_1_method_2_code
def yX1_isBetween : MethodName := ⟨RX1, "isBetween", "(III)Z"⟩
abbrev cX1_takenShare : ByteArray := prog_1_method_66_code
def yX1_takenShare : MethodName := ⟨RX1, "takenShare", "()F"⟩
abbrev cX1_isConsistent : ByteArray := prog_1_method_67_code
def yX1_isConsistent : MethodName := ⟨RX1, "isConsistent", "()Z"⟩
abbrev cX1_seaLevelOf : ByteArray := prog_1_method_10_code
def yX1_seaLevelOf : MethodName := ⟨RX1, "seaLevelOf", "(I)I"⟩
abbrev cX1_seaLevelSteps : ByteArray := prog_1_method_11_code
def yX1_seaLevelSteps : MethodName := ⟨RX1, "seaLevelSteps", "(I)I"⟩
abbrev cX1_save : ByteArray := prog_1_method_69_code
def yX1_save : MethodName := ⟨RX1, "save", "()I"⟩
abbrev cX1_addShip : ByteArray := prog_1_method_14_code
def yX1_addShip : MethodName := ⟨RX1, "addShip", "(III)I"⟩
abbrev cX1_lambda_addShip_7 : ByteArray := prog_1_method_81_code
def yX1_lambda_addShip_7 : MethodName := ⟨RX1, "lambda$addShip$7", "(IIILFloatingDock$Yard;)I"⟩
abbrev cX1_checkArgument : ByteArray := prog_1_method_5_code
def yX1_checkArgument : MethodName := ⟨RX1, "checkArgument", "(Z)V"⟩
abbrev cX1_checkState : ByteArray := prog_1_method_6_code
def yX1_checkState : MethodName := ⟨RX1, "checkState", "(Z)V"⟩
abbrev cX1_change : ByteArray := prog_1_method_12_code
def yX1_change : MethodName := ⟨RX1, "change", "(LFloatingDock$Operation;)I"⟩
abbrev cX1_finish : ByteArray := prog_1_method_13_code
def yX1_finish : MethodName := ⟨RX1, "finish", "(LFloatingDock$Yard;I)I"⟩
abbrev cX1_removeShip : ByteArray := prog_1_method_15_code
def yX1_removeShip : MethodName := ⟨RX1, "removeShip", "(I)I"⟩
abbrev cX1_lambda_removeShip_8 : ByteArray := prog_1_method_80_code
def yX1_lambda_removeShip_8 : MethodName := ⟨RX1, "lambda$removeShip$8", "(ILFloatingDock$Yard;)I"⟩
abbrev cX1_checkElement : ByteArray := prog_1_method_7_code
def yX1_checkElement : MethodName := ⟨RX1, "checkElement", "(Z)V"⟩
abbrev cX1_enter : ByteArray := prog_1_method_16_code
def yX1_enter : MethodName := ⟨RX1, "enter", "(II)I"⟩
abbrev cX1_lambda_enter_9 : ByteArray := prog_1_method_79_code
def yX1_lambda_enter_9 : MethodName := ⟨RX1, "lambda$enter$9", "(IILFloatingDock$Yard;)I"⟩
abbrev cX1_refuseIf : ByteArray := prog_1_method_9_code
def yX1_refuseIf : MethodName := ⟨RX1, "refuseIf", "(ZI)V"⟩
abbrev cX1_leave : ByteArray := prog_1_method_17_code
def yX1_leave : MethodName := ⟨RX1, "leave", "(I)I"⟩
abbrev cX1_lambda_leave_10 : ByteArray := prog_1_method_78_code
def yX1_lambda_leave_10 : MethodName := ⟨RX1, "lambda$leave$10", "(ILFloatingDock$Yard;)I"⟩
abbrev cX1_setCleaning : ByteArray := prog_1_method_18_code
def yX1_setCleaning : MethodName := ⟨RX1, "setCleaning", "(IZ)Z"⟩
abbrev cX1_lambda_setCleaning_11 : ByteArray := prog_1_method_77_code
def yX1_lambda_setCleaning_11 : MethodName := ⟨RX1, "lambda$setCleaning$11", "(IZLFloatingDock$Yard;)I"⟩
abbrev cX1_shipAt : ByteArray := prog_1_method_20_code
def yX1_shipAt : MethodName := ⟨RX1, "shipAt", "(I)I"⟩
abbrev cX1_checkIndex : ByteArray := prog_1_method_4_code
def yX1_checkIndex : MethodName := ⟨RX1, "checkIndex", "(II)V"⟩
abbrev cX1_isInDock : ByteArray := prog_1_method_21_code
def yX1_isInDock : MethodName := ⟨RX1, "isInDock", "(I)Z"⟩
abbrev cX1_positionOf : ByteArray := prog_1_method_22_code
def yX1_positionOf : MethodName := ⟨RX1, "positionOf", "(I)I"⟩
abbrev cX1_dirtOf : ByteArray := prog_1_method_23_code
def yX1_dirtOf : MethodName := ⟨RX1, "dirtOf", "(I)I"⟩
abbrev cX1_damageOf : ByteArray := prog_1_method_24_code
def yX1_damageOf : MethodName := ⟨RX1, "damageOf", "(I)I"⟩
abbrev cX1_hoursAfloat : ByteArray := prog_1_method_25_code
def yX1_hoursAfloat : MethodName := ⟨RX1, "hoursAfloat", "(I)I"⟩
abbrev cX1_isAfloat : ByteArray := prog_1_method_26_code
def yX1_isAfloat : MethodName := ⟨RX1, "isAfloat", "(I)Z"⟩
abbrev cX1_refusalReason : ByteArray := prog_1_method_27_code
def yX1_refusalReason : MethodName := ⟨RX1, "refusalReason", "()I"⟩
abbrev cX1_setGate : ByteArray := prog_1_method_28_code
def yX1_setGate : MethodName := ⟨RX1, "setGate", "(Z)Z"⟩
abbrev cX1_lambda_setGate_12 : ByteArray := prog_1_method_76_code
def yX1_lambda_setGate_12 : MethodName := ⟨RX1, "lambda$setGate$12", "(ZLFloatingDock$Yard;)I"⟩
abbrev cX1_checkSupported : ByteArray := prog_1_method_8_code
def yX1_checkSupported : MethodName := ⟨RX1, "checkSupported", "(Z)V"⟩
abbrev cX1_setPump : ByteArray := prog_1_method_30_code
def yX1_setPump : MethodName := ⟨RX1, "setPump", "(I)I"⟩
abbrev cX1_lambda_setPump_13 : ByteArray := prog_1_method_75_code
def yX1_lambda_setPump_13 : MethodName := ⟨RX1, "lambda$setPump$13", "(ILFloatingDock$Yard;)I"⟩
abbrev cX1_seaLevel : ByteArray := prog_1_method_32_code
def yX1_seaLevel : MethodName := ⟨RX1, "seaLevel", "(I)I"⟩
abbrev cX1_seaLevelByHours : ByteArray := prog_1_method_33_code
def yX1_seaLevelByHours : MethodName := ⟨RX1, "seaLevelByHours", "(I)I"⟩
abbrev cX1_pass : ByteArray := prog_1_method_34_code
def yX1_pass : MethodName := ⟨RX1, "pass", "(I)I"⟩
abbrev cX1_lambda_pass_14 : ByteArray := prog_1_method_74_code
def yX1_lambda_pass_14 : MethodName := ⟨RX1, "lambda$pass$14", "(ILFloatingDock$Yard;)I"⟩
abbrev cX1_levelAfter : ByteArray := prog_1_method_36_code
def yX1_levelAfter : MethodName := ⟨RX1, "levelAfter", "(I)I"⟩
abbrev cX1_hoursUntilAfloat : ByteArray := prog_1_method_37_code
def yX1_hoursUntilAfloat : MethodName := ⟨RX1, "hoursUntilAfloat", "(I)I"⟩
abbrev cX1_placeBlock : ByteArray := prog_1_method_38_code
def yX1_placeBlock : MethodName := ⟨RX1, "placeBlock", "(I)I"⟩
abbrev cX1_lambda_placeBlock_15 : ByteArray := prog_1_method_73_code
def yX1_lambda_placeBlock_15 : MethodName := ⟨RX1, "lambda$placeBlock$15", "(ILFloatingDock$Yard;)I"⟩
abbrev cX1_isPosition : ByteArray := prog_1_method_3_code
def yX1_isPosition : MethodName := ⟨RX1, "isPosition", "(I)Z"⟩
abbrev cX1_removeBlock : ByteArray := prog_1_method_39_code
def yX1_removeBlock : MethodName := ⟨RX1, "removeBlock", "(I)I"⟩
abbrev cX1_lambda_removeBlock_16 : ByteArray := prog_1_method_72_code
def yX1_lambda_removeBlock_16 : MethodName := ⟨RX1, "lambda$removeBlock$16", "(ILFloatingDock$Yard;)I"⟩
abbrev cX1_hasBlock : ByteArray := prog_1_method_40_code
def yX1_hasBlock : MethodName := ⟨RX1, "hasBlock", "(I)Z"⟩
abbrev cX1_blocksBeneath : ByteArray := prog_1_method_41_code
def yX1_blocksBeneath : MethodName := ⟨RX1, "blocksBeneath", "(I)I"⟩
abbrev cX1_blocksBeneathByBlocks : ByteArray := prog_1_method_42_code
def yX1_blocksBeneathByBlocks : MethodName := ⟨RX1, "blocksBeneathByBlocks", "(I)I"⟩
abbrev cX1_shipAtPosition : ByteArray := prog_1_method_43_code
def yX1_shipAtPosition : MethodName := ⟨RX1, "shipAtPosition", "(I)I"⟩
abbrev cX1_firstGap : ByteArray := prog_1_method_45_code
def yX1_firstGap : MethodName := ⟨RX1, "firstGap", "(I)I"⟩
abbrev cX1_gap : ByteArray := prog_1_method_44_code
def yX1_gap : MethodName := ⟨RX1, "gap", "(II)I"⟩
abbrev cX1_firstGapByShips : ByteArray := prog_1_method_46_code
def yX1_firstGapByShips : MethodName := ⟨RX1, "firstGapByShips", "(I)I"⟩
abbrev cX1_billOf : ByteArray := prog_1_method_51_code
def yX1_billOf : MethodName := ⟨RX1, "billOf", "(I)I"⟩
abbrev cX1_pay : ByteArray := prog_1_method_52_code
def yX1_pay : MethodName := ⟨RX1, "pay", "(II)I"⟩
abbrev cX1_lambda_pay_17 : ByteArray := prog_1_method_71_code
def yX1_lambda_pay_17 : MethodName := ⟨RX1, "lambda$pay$17", "(IILFloatingDock$Yard;)I"⟩
abbrev cX1_shipAtRank : ByteArray := prog_1_method_56_code
def yX1_shipAtRank : MethodName := ⟨RX1, "shipAtRank", "(I)I"⟩
abbrev cX1_append : ByteArray := prog_1_method_57_code
def yX1_append : MethodName := ⟨RX1, "append", "(C)I"⟩
abbrev cX1_run : ByteArray := prog_1_method_59_code
def yX1_run : MethodName := ⟨RX1, "run", "()I"⟩
abbrev cX1_execute : ByteArray := prog_1_method_58_code
def yX1_execute : MethodName := ⟨RX1, "execute", "(LFloatingDock$Program;)I"⟩
abbrev cX1_errorPosition : ByteArray := prog_1_method_60_code
def yX1_errorPosition : MethodName := ⟨RX1, "errorPosition", "()I"⟩
abbrev cX1_failedCommand : ByteArray := prog_1_method_61_code
def yX1_failedCommand : MethodName := ⟨RX1, "failedCommand", "()I"⟩
abbrev cX1_describeBill : ByteArray := prog_1_method_63_code
def yX1_describeBill : MethodName := ⟨RX1, "describeBill", "(I)I"⟩
abbrev cX1_lineAt : ByteArray := prog_1_method_64_code
def yX1_lineAt : MethodName := ⟨RX1, "lineAt", "(I)C"⟩
abbrev cX1_meanDirt : ByteArray := prog_1_method_65_code
def yX1_meanDirt : MethodName := ⟨RX1, "meanDirt", "()D"⟩
abbrev cX1_undo : ByteArray := prog_1_method_68_code
def yX1_undo : MethodName := ⟨RX1, "undo", "()I"⟩
abbrev cX1_restore : ByteArray := prog_1_method_70_code
def yX1_restore : MethodName := ⟨RX1, "restore", "()I"⟩
theorem q95 : (Jvm.Cond.initialized "FloatingDock") ∈ lw_all := lw_g (lw_at lw_m1 1 rfl) rfl
theorem q159 : (Jvm.Cond.instantiable "FloatingDock" (11 : Nat)) ∈ lw_all := lw_g (lw_at lw_m1 65 rfl) rfl
theorem q161 : (Jvm.Cond.instanceMethod ({ cls := "FloatingDock", name := "<init>", desc := "()V" } : Jvm.MethodName)) ∈ lw_all := lw_g (lw_at lw_m1 67 rfl) rfl
theorem q162 : (Jvm.Cond.code ({ cls := "FloatingDock", name := "<init>", desc := "()V" } : Jvm.MethodName) prog_1_method_1_code (5 : Nat) (Option.none : Option Jvm.ClassFile.FieldType)) ∈ lw_all := lw_g (lw_at lw_m1 68 rfl) rfl
theorem q163 : (Jvm.Cond.methodLink "FloatingDock" (1 : Nat) ({ cls := "java/lang/Object", name := "<init>", desc := "()V" } : Jvm.MethodName)) ∈ lw_all := lw_g (lw_at lw_m1 69 rfl) rfl
theorem q166 : (Jvm.Cond.classLink "FloatingDock" (7 : Nat) "FloatingDock$Charge") ∈ lw_all := lw_g (lw_at lw_m1 72 rfl) rfl
theorem q168 : (Jvm.Cond.classLink "FloatingDock" (15 : Nat) "FloatingDock$GapFinder") ∈ lw_all := lw_g (lw_at lw_m1 74 rfl) rfl
theorem q170 : (Jvm.Cond.classLink "FloatingDock" (21 : Nat) "FloatingDock$Packer") ∈ lw_all := lw_g (lw_at lw_m1 76 rfl) rfl
theorem q172 : (Jvm.Cond.classLink "FloatingDock" (27 : Nat) "FloatingDock$Yard") ∈ lw_all := lw_g (lw_at lw_m1 78 rfl) rfl
theorem q174 : (Jvm.Cond.methodLink "FloatingDock" (29 : Nat) ({ cls := "FloatingDock$Yard", name := "<init>", desc := "()V" } : Jvm.MethodName)) ∈ lw_all := lw_g (lw_at lw_m1 80 rfl) rfl
theorem q268 : (Jvm.Cond.fieldLinkNest "FloatingDock" (151 : Nat) "FloatingDock$Yard" "ships" "Ljava/util/LinkedHashMap;" "FloatingDock") ∈ lw_tbl := lw_at lw_m1 174 rfl
theorem q272 : (Jvm.Cond.fieldLinkNest "FloatingDock" (184 : Nat) "FloatingDock$Yard" "level" "I" "FloatingDock") ∈ lw_tbl := lw_at lw_m1 178 rfl
theorem q274 : (Jvm.Cond.fieldLinkNest "FloatingDock" (215 : Nat) "FloatingDock$Yard" "hour" "I" "FloatingDock") ∈ lw_tbl := lw_at lw_m1 180 rfl
theorem q277 : (Jvm.Cond.fieldLinkNest "FloatingDock" (198 : Nat) "FloatingDock$Yard" "isGateOpen" "Z" "FloatingDock") ∈ lw_tbl := lw_at lw_m1 183 rfl
theorem q280 : (Jvm.Cond.fieldLinkNest "FloatingDock" (267 : Nat) "FloatingDock$Yard" "charged" "I" "FloatingDock") ∈ lw_tbl := lw_at lw_m1 186 rfl
theorem q282 : (Jvm.Cond.fieldLinkNest "FloatingDock" (270 : Nat) "FloatingDock$Yard" "paid" "I" "FloatingDock") ∈ lw_tbl := lw_at lw_m1 188 rfl
theorem q304 : (Jvm.Cond.classLink "FloatingDock" (34 : Nat) "java/util/ArrayDeque") ∈ lw_all := lw_g (lw_at lw_m1 210 rfl) rfl
theorem q306 : (Jvm.Cond.methodLink "FloatingDock" (36 : Nat) ({ cls := "java/util/ArrayDeque", name := "<init>", desc := "()V" } : Jvm.MethodName)) ∈ lw_all := lw_g (lw_at lw_m1 212 rfl) rfl
theorem q324 : (Jvm.Cond.classLink "FloatingDock" (41 : Nat) "java/lang/StringBuilder") ∈ lw_all := lw_g (lw_at lw_m1 230 rfl) rfl
theorem q326 : (Jvm.Cond.methodLink "FloatingDock" (43 : Nat) ({ cls := "java/lang/StringBuilder", name := "<init>", desc := "()V" } : Jvm.MethodName)) ∈ lw_all := lw_g (lw_at lw_m1 232 rfl) rfl
theorem q357 : (Jvm.Cond.stringRef "FloatingDock" (48 : Nat) "") ∈ lw_tbl := lw_at lw_m2 23 rfl
theorem q358 : (Jvm.Cond.static ({ cls := "FloatingDock", name := "lambda$new$0", desc := "(ILFloatingDock$Ship;II)I" } : Jvm.MethodName)) ∈ lw_all := lw_g (lw_at lw_m2 24 rfl) rfl
theorem q359 : (Jvm.Cond.code ({ cls := "FloatingDock", name := "lambda$new$0", desc := "(ILFloatingDock$Ship;II)I" } : Jvm.MethodName) prog_1_method_88_code (4 : Nat) (Option.some Jvm.ClassFile.FieldType.int)) ∈ lw_all := lw_g (lw_at lw_m2 25 rfl) rfl
theorem q360 : (Jvm.Cond.static ({ cls := "FloatingDock", name := "lambda$new$1", desc := "(ILFloatingDock$Ship;II)I" } : Jvm.MethodName)) ∈ lw_all := lw_g (lw_at lw_m2 26 rfl) rfl
theorem q361 : (Jvm.Cond.code ({ cls := "FloatingDock", name := "lambda$new$1", desc := "(ILFloatingDock$Ship;II)I" } : Jvm.MethodName) prog_1_method_87_code (4 : Nat) (Option.some Jvm.ClassFile.FieldType.int)) ∈ lw_all := lw_g (lw_at lw_m2 27 rfl) rfl
theorem q362 : (Jvm.Cond.methodLink "FloatingDock" (187 : Nat) ({ cls := "FloatingDock$Ship", name := "rests", desc := "(I)Z" } : Jvm.MethodName)) ∈ lw_all := lw_g (lw_at lw_m2 28 rfl) rfl
theorem q370 : (Jvm.Cond.static ({ cls := "FloatingDock", name := "lambda$new$2", desc := "(IIILFloatingDock$Ship;II)I" } : Jvm.MethodName)) ∈ lw_all := lw_g (lw_at lw_m2 36 rfl) rfl
theorem q371 : (Jvm.Cond.code ({ cls := "FloatingDock", name := "lambda$new$2", desc := "(IIILFloatingDock$Ship;II)I" } : Jvm.MethodName) prog_1_method_86_code (6 : Nat) (Option.some Jvm.ClassFile.FieldType.int)) ∈ lw_all := lw_g (lw_at lw_m2 37 rfl) rfl
theorem q372 : (Jvm.Cond.methodLink "FloatingDock" (405 : Nat) ({ cls := "FloatingDock$Ship", name := "clean", desc := "(I)I" } : Jvm.MethodName)) ∈ lw_all := lw_g (lw_at lw_m2 38 rfl) rfl
theorem q379 : (Jvm.Cond.static ({ cls := "FloatingDock", name := "lambda$new$3", desc := "(LFloatingDock$Yard;I)I" } : Jvm.MethodName)) ∈ lw_all := lw_g (lw_at lw_m2 45 rfl) rfl
theorem q380 : (Jvm.Cond.code ({ cls := "FloatingDock", name := "lambda$new$3", desc := "(LFloatingDock$Yard;I)I" } : Jvm.MethodName) prog_1_method_85_code (2 : Nat) (Option.some Jvm.ClassFile.FieldType.int)) ∈ lw_all := lw_g (lw_at lw_m2 46 rfl) rfl
theorem q381 : (Jvm.Cond.methodLink "FloatingDock" (402 : Nat) ({ cls := "FloatingDock$Yard", name := "firstGapByTrying", desc := "(I)I" } : Jvm.MethodName)) ∈ lw_all := lw_g (lw_at lw_m2 47 rfl) rfl
theorem q1136 : (Jvm.Cond.static ({ cls := "FloatingDock", name := "lambda$new$4", desc := "(LFloatingDock$Yard;I)I" } : Jvm.MethodName)) ∈ lw_all := lw_g (lw_at lw_m5 82 rfl) rfl
theorem q1137 : (Jvm.Cond.code ({ cls := "FloatingDock", name := "lambda$new$4", desc := "(LFloatingDock$Yard;I)I" } : Jvm.MethodName) prog_1_method_84_code (2 : Nat) (Option.some Jvm.ClassFile.FieldType.int)) ∈ lw_all := lw_g (lw_at lw_m5 83 rfl) rfl
theorem q1138 : (Jvm.Cond.methodLink "FloatingDock" (399 : Nat) ({ cls := "FloatingDock$Yard", name := "firstGapByShips", desc := "(I)I" } : Jvm.MethodName)) ∈ lw_all := lw_g (lw_at lw_m5 84 rfl) rfl
theorem q1236 : (Jvm.Cond.selects "FloatingDock" ({ cls := "java/lang/Object", name := "getClass", desc := "()Ljava/lang/Class;" } : Jvm.MethodName) ({ cls := "java/lang/Object", name := "getClass", desc := "()Ljava/lang/Class;" } : Jvm.MethodName)) ∈ lw_all := lw_g (lw_at lw_m5 182 rfl) rfl
theorem q1312 : (Jvm.Cond.static ({ cls := "FloatingDock", name := "lambda$new$5", desc := "(LFloatingDock$Yard;)I" } : Jvm.MethodName)) ∈ lw_all := lw_g (lw_at lw_m6 18 rfl) rfl
theorem q1313 : (Jvm.Cond.code ({ cls := "FloatingDock", name := "lambda$new$5", desc := "(LFloatingDock$Yard;)I" } : Jvm.MethodName) prog_1_method_83_code (1 : Nat) (Option.some Jvm.ClassFile.FieldType.int)) ∈ lw_all := lw_g (lw_at lw_m6 19 rfl) rfl
theorem q1314 : (Jvm.Cond.methodLink "FloatingDock" (396 : Nat) ({ cls := "FloatingDock$Yard", name := "mostByTrying", desc := "()I" } : Jvm.MethodName)) ∈ lw_all := lw_g (lw_at lw_m6 20 rfl) rfl
theorem q1358 : (Jvm.Cond.static ({ cls := "FloatingDock", name := "lambda$new$6", desc := "(LFloatingDock$Yard;)I" } : Jvm.MethodName)) ∈ lw_all := lw_g (lw_at lw_m6 64 rfl) rfl
theorem q1359 : (Jvm.Cond.code ({ cls := "FloatingDock", name := "lambda$new$6", desc := "(LFloatingDock$Yard;)I" } : Jvm.MethodName) prog_1_method_82_code (1 : Nat) (Option.some Jvm.ClassFile.FieldType.int)) ∈ lw_all := lw_g (lw_at lw_m6 65 rfl) rfl
theorem q1360 : (Jvm.Cond.methodLink "FloatingDock" (393 : Nat) ({ cls := "FloatingDock$Yard", name := "mostByTable", desc := "()I" } : Jvm.MethodName)) ∈ lw_all := lw_g (lw_at lw_m6 66 rfl) rfl
theorem q1381 : (Jvm.Cond.fieldLink "FloatingDock" (9 : Nat) "FloatingDock" "charges" "[LFloatingDock$Charge;") ∈ lw_all := lw_g (lw_at lw_m6 87 rfl) rfl
theorem q1383 : (Jvm.Cond.fieldLink "FloatingDock" (17 : Nat) "FloatingDock" "gapFinders" "[LFloatingDock$GapFinder;") ∈ lw_all := lw_g (lw_at lw_m6 89 rfl) rfl
theorem q1384 : (Jvm.Cond.fieldLink "FloatingDock" (23 : Nat) "FloatingDock" "packers" "[LFloatingDock$Packer;") ∈ lw_all := lw_g (lw_at lw_m6 90 rfl) rfl
theorem q1385 : (Jvm.Cond.fieldLink "FloatingDock" (30 : Nat) "FloatingDock" "yard" "LFloatingDock$Yard;") ∈ lw_all := lw_g (lw_at lw_m6 91 rfl) rfl
theorem q1386 : (Jvm.Cond.fieldLink "FloatingDock" (351 : Nat) "FloatingDock" "snapshot" "LFloatingDock$Yard;") ∈ lw_all := lw_g (lw_at lw_m6 92 rfl) rfl
theorem q1387 : (Jvm.Cond.fieldLink "FloatingDock" (37 : Nat) "FloatingDock" "history" "Ljava/util/ArrayDeque;") ∈ lw_all := lw_g (lw_at lw_m6 93 rfl) rfl
theorem q1388 : (Jvm.Cond.fieldLink "FloatingDock" (44 : Nat) "FloatingDock" "text" "Ljava/lang/StringBuilder;") ∈ lw_all := lw_g (lw_at lw_m6 94 rfl) rfl
theorem q1390 : (Jvm.Cond.fieldLink "FloatingDock" (50 : Nat) "FloatingDock" "line" "Ljava/lang/String;") ∈ lw_all := lw_g (lw_at lw_m6 96 rfl) rfl
theorem q1391 : (Jvm.Cond.fieldLink "FloatingDock" (54 : Nat) "FloatingDock" "errorPosition" "I") ∈ lw_all := lw_g (lw_at lw_m6 97 rfl) rfl
theorem q1392 : (Jvm.Cond.fieldLink "FloatingDock" (58 : Nat) "FloatingDock" "failedCommand" "I") ∈ lw_all := lw_g (lw_at lw_m6 98 rfl) rfl
theorem q1393 : (Jvm.Cond.fieldLink "FloatingDock" (119 : Nat) "FloatingDock" "refusalReason" "I") ∈ lw_all := lw_g (lw_at lw_m6 99 rfl) rfl
theorem q1394 : (Jvm.Cond.laysFinal "FloatingDock" "FloatingDock" "charges" "[LFloatingDock$Charge;") ∈ lw_all := lw_g (lw_at lw_m6 100 rfl) rfl
theorem q1395 : (Jvm.Cond.soleField "FloatingDock" "charges") ∈ lw_all := lw_g (lw_at lw_m6 101 rfl) rfl
theorem q1396 : (Jvm.Cond.laysFinal "FloatingDock" "FloatingDock" "gapFinders" "[LFloatingDock$GapFinder;") ∈ lw_all := lw_g (lw_at lw_m6 102 rfl) rfl
theorem q1397 : (Jvm.Cond.soleField "FloatingDock" "gapFinders") ∈ lw_all := lw_g (lw_at lw_m6 103 rfl) rfl
theorem q1398 : (Jvm.Cond.laysFinal "FloatingDock" "FloatingDock" "packers" "[LFloatingDock$Packer;") ∈ lw_all := lw_g (lw_at lw_m6 104 rfl) rfl
theorem q1399 : (Jvm.Cond.soleField "FloatingDock" "packers") ∈ lw_all := lw_g (lw_at lw_m6 105 rfl) rfl
theorem q1400 : (Jvm.Cond.lays "FloatingDock" "FloatingDock" "yard" "LFloatingDock$Yard;") ∈ lw_all := lw_g (lw_at lw_m6 106 rfl) rfl
theorem q1401 : (Jvm.Cond.soleField "FloatingDock" "yard") ∈ lw_all := lw_g (lw_at lw_m6 107 rfl) rfl
theorem q1402 : (Jvm.Cond.lays "FloatingDock" "FloatingDock" "snapshot" "LFloatingDock$Yard;") ∈ lw_all := lw_g (lw_at lw_m6 108 rfl) rfl
theorem q1403 : (Jvm.Cond.soleField "FloatingDock" "snapshot") ∈ lw_all := lw_g (lw_at lw_m6 109 rfl) rfl
theorem q1404 : (Jvm.Cond.laysFinal "FloatingDock" "FloatingDock" "history" "Ljava/util/ArrayDeque;") ∈ lw_all := lw_g (lw_at lw_m6 110 rfl) rfl
theorem q1405 : (Jvm.Cond.soleField "FloatingDock" "history") ∈ lw_all := lw_g (lw_at lw_m6 111 rfl) rfl
theorem q1406 : (Jvm.Cond.laysFinal "FloatingDock" "FloatingDock" "text" "Ljava/lang/StringBuilder;") ∈ lw_all := lw_g (lw_at lw_m6 112 rfl) rfl
theorem q1407 : (Jvm.Cond.soleField "FloatingDock" "text") ∈ lw_all := lw_g (lw_at lw_m6 113 rfl) rfl
theorem q1408 : (Jvm.Cond.lays "FloatingDock" "FloatingDock" "line" "Ljava/lang/String;") ∈ lw_all := lw_g (lw_at lw_m6 114 rfl) rfl
theorem q1409 : (Jvm.Cond.soleField "FloatingDock" "line") ∈ lw_all := lw_g (lw_at lw_m6 115 rfl) rfl
theorem q1410 : (Jvm.Cond.lays "FloatingDock" "FloatingDock" "errorPosition" "I") ∈ lw_all := lw_g (lw_at lw_m6 116 rfl) rfl
theorem q1411 : (Jvm.Cond.soleField "FloatingDock" "errorPosition") ∈ lw_all := lw_g (lw_at lw_m6 117 rfl) rfl
theorem q1412 : (Jvm.Cond.lays "FloatingDock" "FloatingDock" "failedCommand" "I") ∈ lw_all := lw_g (lw_at lw_m6 118 rfl) rfl
theorem q1413 : (Jvm.Cond.soleField "FloatingDock" "failedCommand") ∈ lw_all := lw_g (lw_at lw_m6 119 rfl) rfl
theorem q1414 : (Jvm.Cond.lays "FloatingDock" "FloatingDock" "refusalReason" "I") ∈ lw_all := lw_g (lw_at lw_m6 120 rfl) rfl
theorem q1415 : (Jvm.Cond.soleField "FloatingDock" "refusalReason") ∈ lw_all := lw_g (lw_at lw_m6 121 rfl) rfl
theorem q1416 : (Jvm.Cond.superclass "FloatingDock" "java/lang/Object") ∈ lw_all := lw_g (lw_at lw_m6 122 rfl) rfl
theorem q1419 : (Jvm.Cond.instanceMethod ({ cls := "FloatingDock", name := "shipCount", desc := "()I" } : Jvm.MethodName)) ∈ lw_all := lw_g (lw_at lw_m6 125 rfl) rfl
theorem q1420 : (Jvm.Cond.selects "FloatingDock" ({ cls := "FloatingDock", name := "shipCount", desc := "()I" } : Jvm.MethodName) ({ cls := "FloatingDock", name := "shipCount", desc := "()I" } : Jvm.MethodName)) ∈ lw_all := lw_g (lw_at lw_m6 126 rfl) rfl
theorem q1421 : (Jvm.Cond.code ({ cls := "FloatingDock", name := "shipCount", desc := "()I" } : Jvm.MethodName) prog_1_method_19_code (1 : Nat) (Option.some Jvm.ClassFile.FieldType.int)) ∈ lw_all := lw_g (lw_at lw_m6 127 rfl) rfl
theorem q1422 : (Jvm.Cond.methodLink "FloatingDock" (155 : Nat) ({ cls := "java/util/LinkedHashMap", name := "size", desc := "()I" } : Jvm.MethodName)) ∈ lw_all := lw_g (lw_at lw_m6 128 rfl) rfl
theorem q1429 : (Jvm.Cond.instanceMethod ({ cls := "FloatingDock", name := "isGateOpen", desc := "()Z" } : Jvm.MethodName)) ∈ lw_all := lw_g (lw_at lw_m6 135 rfl) rfl
theorem q1430 : (Jvm.Cond.selects "FloatingDock" ({ cls := "FloatingDock", name := "isGateOpen", desc := "()Z" } : Jvm.MethodName) ({ cls := "FloatingDock", name := "isGateOpen", desc := "()Z" } : Jvm.MethodName)) ∈ lw_all := lw_g (lw_at lw_m6 136 rfl) rfl
theorem q1431 : (Jvm.Cond.code ({ cls := "FloatingDock", name := "isGateOpen", desc := "()Z" } : Jvm.MethodName) prog_1_method_29_code (1 : Nat) (Option.some Jvm.ClassFile.FieldType.boolean)) ∈ lw_all := lw_g (lw_at lw_m6 137 rfl) rfl
theorem q1433 : (Jvm.Cond.instanceMethod ({ cls := "FloatingDock", name := "level", desc := "()I" } : Jvm.MethodName)) ∈ lw_all := lw_g (lw_at lw_m6 139 rfl) rfl
theorem q1434 : (Jvm.Cond.selects "FloatingDock" ({ cls := "FloatingDock", name := "level", desc := "()I" } : Jvm.MethodName) ({ cls := "FloatingDock", name := "level", desc := "()I" } : Jvm.MethodName)) ∈ lw_all := lw_g (lw_at lw_m6 140 rfl) rfl
theorem q1435 : (Jvm.Cond.code ({ cls := "FloatingDock", name := "level", desc := "()I" } : Jvm.MethodName) prog_1_method_31_code (1 : Nat) (Option.some Jvm.ClassFile.FieldType.int)) ∈ lw_all := lw_g (lw_at lw_m6 141 rfl) rfl
theorem q1437 : (Jvm.Cond.instanceMethod ({ cls := "FloatingDock", name := "hour", desc := "()I" } : Jvm.MethodName)) ∈ lw_all := lw_g (lw_at lw_m6 143 rfl) rfl
theorem q1438 : (Jvm.Cond.selects "FloatingDock" ({ cls := "FloatingDock", name := "hour", desc := "()I" } : Jvm.MethodName) ({ cls := "FloatingDock", name := "hour", desc := "()I" } : Jvm.MethodName)) ∈ lw_all := lw_g (lw_at lw_m6 144 rfl) rfl
theorem q1439 : (Jvm.Cond.code ({ cls := "FloatingDock", name := "hour", desc := "()I" } : Jvm.MethodName) prog_1_method_35_code (1 : Nat) (Option.some Jvm.ClassFile.FieldType.int)) ∈ lw_all := lw_g (lw_at lw_m6 145 rfl) rfl
theorem q1441 : (Jvm.Cond.instanceMethod ({ cls := "FloatingDock", name := "freeMetres", desc := "()I" } : Jvm.MethodName)) ∈ lw_all := lw_g (lw_at lw_m6 147 rfl) rfl
theorem q1442 : (Jvm.Cond.selects "FloatingDock" ({ cls := "FloatingDock", name := "freeMetres", desc := "()I" } : Jvm.MethodName) ({ cls := "FloatingDock", name := "freeMetres", desc := "()I" } : Jvm.MethodName)) ∈ lw_all := lw_g (lw_at lw_m6 148 rfl) rfl
theorem q1443 : (Jvm.Cond.code ({ cls := "FloatingDock", name := "freeMetres", desc := "()I" } : Jvm.MethodName) prog_1_method_47_code (1 : Nat) (Option.some Jvm.ClassFile.FieldType.int)) ∈ lw_all := lw_g (lw_at lw_m6 149 rfl) rfl
theorem q1444 : (Jvm.Cond.methodLink "FloatingDock" (252 : Nat) ({ cls := "FloatingDock$Yard", name := "freeMetres", desc := "()I" } : Jvm.MethodName)) ∈ lw_all := lw_g (lw_at lw_m6 150 rfl) rfl
theorem q1459 : (Jvm.Cond.instanceMethod ({ cls := "FloatingDock", name := "mostFitting", desc := "()I" } : Jvm.MethodName)) ∈ lw_all := lw_g (lw_at lw_m6 165 rfl) rfl
theorem q1460 : (Jvm.Cond.selects "FloatingDock" ({ cls := "FloatingDock", name := "mostFitting", desc := "()I" } : Jvm.MethodName) ({ cls := "FloatingDock", name := "mostFitting", desc := "()I" } : Jvm.MethodName)) ∈ lw_all := lw_g (lw_at lw_m6 166 rfl) rfl
theorem q1461 : (Jvm.Cond.code ({ cls := "FloatingDock", name := "mostFitting", desc := "()I" } : Jvm.MethodName) prog_1_method_48_code (1 : Nat) (Option.some Jvm.ClassFile.FieldType.int)) ∈ lw_all := lw_g (lw_at lw_m6 167 rfl) rfl
theorem q1462 : (Jvm.Cond.interfaceEntry "FloatingDock" (255 : Nat)) ∈ lw_tbl := lw_at lw_m6 168 rfl
theorem q1463 : (Jvm.Cond.methodLink "FloatingDock" (255 : Nat) ({ cls := "FloatingDock$Packer", name := "most", desc := "(LFloatingDock$Yard;)I" } : Jvm.MethodName)) ∈ lw_all := lw_g (lw_at lw_m6 169 rfl) rfl
theorem q1467 : (Jvm.Cond.instanceMethod ({ cls := "FloatingDock", name := "mostFittingByTable", desc := "()I" } : Jvm.MethodName)) ∈ lw_all := lw_g (lw_at lw_m6 173 rfl) rfl
theorem q1468 : (Jvm.Cond.selects "FloatingDock" ({ cls := "FloatingDock", name := "mostFittingByTable", desc := "()I" } : Jvm.MethodName) ({ cls := "FloatingDock", name := "mostFittingByTable", desc := "()I" } : Jvm.MethodName)) ∈ lw_all := lw_g (lw_at lw_m6 174 rfl) rfl
theorem q1469 : (Jvm.Cond.code ({ cls := "FloatingDock", name := "mostFittingByTable", desc := "()I" } : Jvm.MethodName) prog_1_method_49_code (1 : Nat) (Option.some Jvm.ClassFile.FieldType.int)) ∈ lw_all := lw_g (lw_at lw_m6 175 rfl) rfl
theorem q1471 : (Jvm.Cond.instanceMethod ({ cls := "FloatingDock", name := "mostFittingMetres", desc := "()I" } : Jvm.MethodName)) ∈ lw_all := lw_g (lw_at lw_m6 177 rfl) rfl
theorem q1472 : (Jvm.Cond.selects "FloatingDock" ({ cls := "FloatingDock", name := "mostFittingMetres", desc := "()I" } : Jvm.MethodName) ({ cls := "FloatingDock", name := "mostFittingMetres", desc := "()I" } : Jvm.MethodName)) ∈ lw_all := lw_g (lw_at lw_m6 178 rfl) rfl
theorem q1473 : (Jvm.Cond.code ({ cls := "FloatingDock", name := "mostFittingMetres", desc := "()I" } : Jvm.MethodName) prog_1_method_50_code (1 : Nat) (Option.some Jvm.ClassFile.FieldType.int)) ∈ lw_all := lw_g (lw_at lw_m6 179 rfl) rfl
theorem q1474 : (Jvm.Cond.methodLink "FloatingDock" (257 : Nat) ({ cls := "FloatingDock$Yard", name := "mostMetres", desc := "()I" } : Jvm.MethodName)) ∈ lw_all := lw_g (lw_at lw_m6 180 rfl) rfl
theorem q1479 : (Jvm.Cond.instanceMethod ({ cls := "FloatingDock", name := "billTotal", desc := "()I" } : Jvm.MethodName)) ∈ lw_all := lw_g (lw_at lw_m6 185 rfl) rfl
theorem q1480 : (Jvm.Cond.selects "FloatingDock" ({ cls := "FloatingDock", name := "billTotal", desc := "()I" } : Jvm.MethodName) ({ cls := "FloatingDock", name := "billTotal", desc := "()I" } : Jvm.MethodName)) ∈ lw_all := lw_g (lw_at lw_m6 186 rfl) rfl
theorem q1481 : (Jvm.Cond.code ({ cls := "FloatingDock", name := "billTotal", desc := "()I" } : Jvm.MethodName) prog_1_method_53_code (1 : Nat) (Option.some Jvm.ClassFile.FieldType.int)) ∈ lw_all := lw_g (lw_at lw_m6 187 rfl) rfl
theorem q1482 : (Jvm.Cond.methodLink "FloatingDock" (264 : Nat) ({ cls := "FloatingDock$Yard", name := "bills", desc := "()I" } : Jvm.MethodName)) ∈ lw_all := lw_g (lw_at lw_m6 188 rfl) rfl
theorem q1487 : (Jvm.Cond.instanceMethod ({ cls := "FloatingDock", name := "billTotalByAccount", desc := "()I" } : Jvm.MethodName)) ∈ lw_all := lw_g (lw_at lw_m6 193 rfl) rfl
theorem q1488 : (Jvm.Cond.selects "FloatingDock" ({ cls := "FloatingDock", name := "billTotalByAccount", desc := "()I" } : Jvm.MethodName) ({ cls := "FloatingDock", name := "billTotalByAccount", desc := "()I" } : Jvm.MethodName)) ∈ lw_all := lw_g (lw_at lw_m6 194 rfl) rfl
theorem q1489 : (Jvm.Cond.code ({ cls := "FloatingDock", name := "billTotalByAccount", desc := "()I" } : Jvm.MethodName) prog_1_method_54_code (1 : Nat) (Option.some Jvm.ClassFile.FieldType.int)) ∈ lw_all := lw_g (lw_at lw_m6 195 rfl) rfl
theorem q1491 : (Jvm.Cond.instanceMethod ({ cls := "FloatingDock", name := "paidTotal", desc := "()I" } : Jvm.MethodName)) ∈ lw_all := lw_g (lw_at lw_m6 197 rfl) rfl
theorem q1492 : (Jvm.Cond.selects "FloatingDock" ({ cls := "FloatingDock", name := "paidTotal", desc := "()I" } : Jvm.MethodName) ({ cls := "FloatingDock", name := "paidTotal", desc := "()I" } : Jvm.MethodName)) ∈ lw_all := lw_g (lw_at lw_m6 198 rfl) rfl
theorem q1493 : (Jvm.Cond.code ({ cls := "FloatingDock", name := "paidTotal", desc := "()I" } : Jvm.MethodName) prog_1_method_55_code (1 : Nat) (Option.some Jvm.ClassFile.FieldType.int)) ∈ lw_all := lw_g (lw_at lw_m6 199 rfl) rfl
theorem q1495 : (Jvm.Cond.instanceMethod ({ cls := "FloatingDock", name := "describeDock", desc := "()I" } : Jvm.MethodName)) ∈ lw_all := lw_g (lw_at lw_m6 201 rfl) rfl
theorem q1496 : (Jvm.Cond.selects "FloatingDock" ({ cls := "FloatingDock", name := "describeDock", desc := "()I" } : Jvm.MethodName) ({ cls := "FloatingDock", name := "describeDock", desc := "()I" } : Jvm.MethodName)) ∈ lw_all := lw_g (lw_at lw_m6 202 rfl) rfl
theorem q1497 : (Jvm.Cond.code ({ cls := "FloatingDock", name := "describeDock", desc := "()I" } : Jvm.MethodName) prog_1_method_62_code (1 : Nat) (Option.some Jvm.ClassFile.FieldType.int)) ∈ lw_all := lw_g (lw_at lw_m6 203 rfl) rfl
theorem q1498 : (Jvm.Cond.methodLink "FloatingDock" (314 : Nat) ({ cls := "FloatingDock$Yard", name := "describe", desc := "()Ljava/lang/String;" } : Jvm.MethodName)) ∈ lw_all := lw_g (lw_at lw_m6 204 rfl) rfl
theorem q1518 : (Jvm.Cond.static ({ cls := "FloatingDock", name := "isBetween", desc := "(III)Z" } : Jvm.MethodName)) ∈ lw_all := lw_g (lw_at lw_m6 224 rfl) rfl
theorem q1519 : (Jvm.Cond.code ({ cls := "FloatingDock", name := "isBetween", desc := "(III)Z" } : Jvm.MethodName) prog_1_method_2_code (3 : Nat) (Option.some Jvm.ClassFile.FieldType.boolean)) ∈ lw_all := lw_g (lw_at lw_m6 225 rfl) rfl
theorem q1559 : (Jvm.Cond.selects "FloatingDock" ({ cls := "java/lang/Object", name := "hashCode", desc := "()I" } : Jvm.MethodName) ({ cls := "java/lang/Object", name := "hashCode", desc := "()I" } : Jvm.MethodName)) ∈ lw_all := lw_g (lw_at lw_m7 25 rfl) rfl
theorem q1654 : (Jvm.Cond.selects "FloatingDock" ({ cls := "java/lang/Object", name := "equals", desc := "(Ljava/lang/Object;)Z" } : Jvm.MethodName) ({ cls := "java/lang/Object", name := "equals", desc := "(Ljava/lang/Object;)Z" } : Jvm.MethodName)) ∈ lw_all := lw_g (lw_at lw_m7 120 rfl) rfl
theorem q1927 : (Jvm.Cond.methodLink "FloatingDock" (318 : Nat) ({ cls := "java/lang/String", name := "length", desc := "()I" } : Jvm.MethodName)) ∈ lw_all := lw_g (lw_at lw_m8 153 rfl) rfl
theorem q1929 : (Jvm.Cond.instanceMethod ({ cls := "FloatingDock", name := "takenShare", desc := "()F" } : Jvm.MethodName)) ∈ lw_all := lw_g (lw_at lw_m8 155 rfl) rfl
theorem q1930 : (Jvm.Cond.selects "FloatingDock" ({ cls := "FloatingDock", name := "takenShare", desc := "()F" } : Jvm.MethodName) ({ cls := "FloatingDock", name := "takenShare", desc := "()F" } : Jvm.MethodName)) ∈ lw_all := lw_g (lw_at lw_m8 156 rfl) rfl
theorem q1931 : (Jvm.Cond.code ({ cls := "FloatingDock", name := "takenShare", desc := "()F" } : Jvm.MethodName) prog_1_method_66_code (1 : Nat) (Option.some Jvm.ClassFile.FieldType.float)) ∈ lw_all := lw_g (lw_at lw_m8 157 rfl) rfl
theorem q1932 : (Jvm.Cond.constantFloat "FloatingDock" (337 : Nat) (1114636288 : UInt32)) ∈ lw_all := lw_g (lw_at lw_m8 158 rfl) rfl
theorem q1934 : (Jvm.Cond.instanceMethod ({ cls := "FloatingDock", name := "isConsistent", desc := "()Z" } : Jvm.MethodName)) ∈ lw_all := lw_g (lw_at lw_m8 160 rfl) rfl
theorem q1935 : (Jvm.Cond.selects "FloatingDock" ({ cls := "FloatingDock", name := "isConsistent", desc := "()Z" } : Jvm.MethodName) ({ cls := "FloatingDock", name := "isConsistent", desc := "()Z" } : Jvm.MethodName)) ∈ lw_all := lw_g (lw_at lw_m8 161 rfl) rfl
theorem q1936 : (Jvm.Cond.code ({ cls := "FloatingDock", name := "isConsistent", desc := "()Z" } : Jvm.MethodName) prog_1_method_67_code (6 : Nat) (Option.some Jvm.ClassFile.FieldType.boolean)) ∈ lw_all := lw_g (lw_at lw_m8 162 rfl) rfl
theorem q1937 : (Jvm.Cond.methodLink "FloatingDock" (338 : Nat) ({ cls := "FloatingDock$Yard", name := "isConsistent", desc := "()Z" } : Jvm.MethodName)) ∈ lw_all := lw_g (lw_at lw_m8 163 rfl) rfl
theorem q1975 : (Jvm.Cond.static ({ cls := "FloatingDock", name := "seaLevelOf", desc := "(I)I" } : Jvm.MethodName)) ∈ lw_all := lw_g (lw_at lw_m8 201 rfl) rfl
theorem q1976 : (Jvm.Cond.code ({ cls := "FloatingDock", name := "seaLevelOf", desc := "(I)I" } : Jvm.MethodName) prog_1_method_10_code (2 : Nat) (Option.some Jvm.ClassFile.FieldType.int)) ∈ lw_all := lw_g (lw_at lw_m8 202 rfl) rfl
theorem q1978 : (Jvm.Cond.static ({ cls := "FloatingDock", name := "seaLevelSteps", desc := "(I)I" } : Jvm.MethodName)) ∈ lw_all := lw_g (lw_at lw_m8 204 rfl) rfl
theorem q1979 : (Jvm.Cond.code ({ cls := "FloatingDock", name := "seaLevelSteps", desc := "(I)I" } : Jvm.MethodName) prog_1_method_11_code (4 : Nat) (Option.some Jvm.ClassFile.FieldType.int)) ∈ lw_all := lw_g (lw_at lw_m8 205 rfl) rfl
theorem q1980 : (Jvm.Cond.methodLinkNest "FloatingDock" (341 : Nat) ({ cls := "FloatingDock$Yard", name := "areGapsAlike", desc := "([LFloatingDock$GapFinder;)Z" } : Jvm.MethodName) "FloatingDock") ∈ lw_tbl := lw_at lw_m8 206 rfl
theorem q1989 : (Jvm.Cond.instanceMethod ({ cls := "FloatingDock", name := "save", desc := "()I" } : Jvm.MethodName)) ∈ lw_all := lw_g (lw_at lw_m8 215 rfl) rfl
theorem q1990 : (Jvm.Cond.selects "FloatingDock" ({ cls := "FloatingDock", name := "save", desc := "()I" } : Jvm.MethodName) ({ cls := "FloatingDock", name := "save", desc := "()I" } : Jvm.MethodName)) ∈ lw_all := lw_g (lw_at lw_m8 216 rfl) rfl
theorem q1991 : (Jvm.Cond.code ({ cls := "FloatingDock", name := "save", desc := "()I" } : Jvm.MethodName) prog_1_method_69_code (1 : Nat) (Option.some Jvm.ClassFile.FieldType.int)) ∈ lw_all := lw_g (lw_at lw_m8 217 rfl) rfl
theorem q1992 : (Jvm.Cond.methodLink "FloatingDock" (103 : Nat) ({ cls := "FloatingDock$Yard", name := "<init>", desc := "(LFloatingDock$Yard;)V" } : Jvm.MethodName)) ∈ lw_all := lw_g (lw_at lw_m8 218 rfl) rfl
theorem q2006 : (Jvm.Cond.fieldLinkNest "FloatingDock" (243 : Nat) "FloatingDock$Ship" "id" "I" "FloatingDock") ∈ lw_tbl := lw_at lw_m8 232 rfl
theorem q2013 : (Jvm.Cond.fieldLinkNest "FloatingDock" (175 : Nat) "FloatingDock$Ship" "dirt" "I" "FloatingDock") ∈ lw_tbl := lw_at lw_m8 239 rfl
theorem q2016 : (Jvm.Cond.fieldLinkNest "FloatingDock" (178 : Nat) "FloatingDock$Ship" "damage" "I" "FloatingDock") ∈ lw_tbl := lw_at lw_m9 2 rfl
theorem q2019 : (Jvm.Cond.fieldLinkNest "FloatingDock" (260 : Nat) "FloatingDock$Ship" "bill" "I" "FloatingDock") ∈ lw_tbl := lw_at lw_m9 5 rfl
theorem q2022 : (Jvm.Cond.fieldLinkNest "FloatingDock" (181 : Nat) "FloatingDock$Ship" "hoursAfloat" "I" "FloatingDock") ∈ lw_tbl := lw_at lw_m9 8 rfl
theorem q2269 : (Jvm.Cond.instanceMethod ({ cls := "FloatingDock", name := "addShip", desc := "(III)I" } : Jvm.MethodName)) ∈ lw_all := lw_g (lw_at lw_m10 15 rfl) rfl
theorem q2270 : (Jvm.Cond.selects "FloatingDock" ({ cls := "FloatingDock", name := "addShip", desc := "(III)I" } : Jvm.MethodName) ({ cls := "FloatingDock", name := "addShip", desc := "(III)I" } : Jvm.MethodName)) ∈ lw_all := lw_g (lw_at lw_m10 16 rfl) rfl
theorem q2271 : (Jvm.Cond.code ({ cls := "FloatingDock", name := "addShip", desc := "(III)I" } : Jvm.MethodName) prog_1_method_14_code (4 : Nat) (Option.some Jvm.ClassFile.FieldType.int)) ∈ lw_all := lw_g (lw_at lw_m10 17 rfl) rfl
theorem q2272 : (Jvm.Cond.static ({ cls := "FloatingDock", name := "lambda$addShip$7", desc := "(IIILFloatingDock$Yard;)I" } : Jvm.MethodName)) ∈ lw_all := lw_g (lw_at lw_m10 18 rfl) rfl
theorem q2273 : (Jvm.Cond.code ({ cls := "FloatingDock", name := "lambda$addShip$7", desc := "(IIILFloatingDock$Yard;)I" } : Jvm.MethodName) prog_1_method_81_code (4 : Nat) (Option.some Jvm.ClassFile.FieldType.int)) ∈ lw_all := lw_g (lw_at lw_m10 19 rfl) rfl
theorem q2274 : (Jvm.Cond.methodLink "FloatingDock" (389 : Nat) ({ cls := "FloatingDock$Yard", name := "addShip", desc := "(III)I" } : Jvm.MethodName)) ∈ lw_all := lw_g (lw_at lw_m10 20 rfl) rfl
theorem q2280 : (Jvm.Cond.static ({ cls := "FloatingDock", name := "checkArgument", desc := "(Z)V" } : Jvm.MethodName)) ∈ lw_all := lw_g (lw_at lw_m10 26 rfl) rfl
theorem q2281 : (Jvm.Cond.code ({ cls := "FloatingDock", name := "checkArgument", desc := "(Z)V" } : Jvm.MethodName) prog_1_method_5_code (1 : Nat) (Option.none : Option Jvm.ClassFile.FieldType)) ∈ lw_all := lw_g (lw_at lw_m10 27 rfl) rfl
theorem q2282 : (Jvm.Cond.classLink "FloatingDock" (86 : Nat) "java/lang/IllegalArgumentException") ∈ lw_all := lw_g (lw_at lw_m10 28 rfl) rfl
theorem q2283 : (Jvm.Cond.methodLink "FloatingDock" (88 : Nat) ({ cls := "java/lang/IllegalArgumentException", name := "<init>", desc := "()V" } : Jvm.MethodName)) ∈ lw_all := lw_g (lw_at lw_m10 29 rfl) rfl
theorem q2289 : (Jvm.Cond.static ({ cls := "FloatingDock", name := "checkState", desc := "(Z)V" } : Jvm.MethodName)) ∈ lw_all := lw_g (lw_at lw_m10 35 rfl) rfl
theorem q2290 : (Jvm.Cond.code ({ cls := "FloatingDock", name := "checkState", desc := "(Z)V" } : Jvm.MethodName) prog_1_method_6_code (1 : Nat) (Option.none : Option Jvm.ClassFile.FieldType)) ∈ lw_all := lw_g (lw_at lw_m10 36 rfl) rfl
theorem q2291 : (Jvm.Cond.classLink "FloatingDock" (89 : Nat) "java/lang/IllegalStateException") ∈ lw_all := lw_g (lw_at lw_m10 37 rfl) rfl
theorem q2300 : (Jvm.Cond.methodLink "FloatingDock" (91 : Nat) ({ cls := "java/lang/IllegalStateException", name := "<init>", desc := "()V" } : Jvm.MethodName)) ∈ lw_all := lw_g (lw_at lw_m10 46 rfl) rfl
theorem q2307 : (Jvm.Cond.methodLink "FloatingDock" (137 : Nat) ({ cls := "FloatingDock", name := "change", desc := "(LFloatingDock$Operation;)I" } : Jvm.MethodName)) ∈ lw_all := lw_g (lw_at lw_m10 53 rfl) rfl
theorem q2308 : (Jvm.Cond.privateMethod ({ cls := "FloatingDock", name := "change", desc := "(LFloatingDock$Operation;)I" } : Jvm.MethodName)) ∈ lw_tbl := lw_at lw_m10 54 rfl
theorem q2309 : (Jvm.Cond.instanceMethod ({ cls := "FloatingDock", name := "change", desc := "(LFloatingDock$Operation;)I" } : Jvm.MethodName)) ∈ lw_all := lw_g (lw_at lw_m10 55 rfl) rfl
theorem q2310 : (Jvm.Cond.codeWith ({ cls := "FloatingDock", name := "change", desc := "(LFloatingDock$Operation;)I" } : Jvm.MethodName) prog_1_method_12_code (4 : Nat) (Option.some Jvm.ClassFile.FieldType.int) [((12 : Nat), (24 : Nat), (25 : Nat), (98 : Nat))]) ∈ lw_all := lw_g (lw_at lw_m10 56 rfl) rfl
theorem q2311 : (Jvm.Cond.classLink "FloatingDock" (98 : Nat) "FloatingDock$Refusal") ∈ lw_all := lw_g (lw_at lw_m10 57 rfl) rfl
theorem q2312 : (Jvm.Cond.interfaceEntry "FloatingDock" (106 : Nat)) ∈ lw_tbl := lw_at lw_m10 58 rfl
theorem q2313 : (Jvm.Cond.methodLink "FloatingDock" (106 : Nat) ({ cls := "FloatingDock$Operation", name := "apply", desc := "(LFloatingDock$Yard;)I" } : Jvm.MethodName)) ∈ lw_all := lw_g (lw_at lw_m10 59 rfl) rfl
theorem q2316 : (Jvm.Cond.methodLink "FloatingDock" (112 : Nat) ({ cls := "FloatingDock", name := "finish", desc := "(LFloatingDock$Yard;I)I" } : Jvm.MethodName)) ∈ lw_all := lw_g (lw_at lw_m10 62 rfl) rfl
theorem q2317 : (Jvm.Cond.privateMethod ({ cls := "FloatingDock", name := "finish", desc := "(LFloatingDock$Yard;I)I" } : Jvm.MethodName)) ∈ lw_tbl := lw_at lw_m10 63 rfl
theorem q2318 : (Jvm.Cond.instanceMethod ({ cls := "FloatingDock", name := "finish", desc := "(LFloatingDock$Yard;I)I" } : Jvm.MethodName)) ∈ lw_all := lw_g (lw_at lw_m10 64 rfl) rfl
theorem q2319 : (Jvm.Cond.code ({ cls := "FloatingDock", name := "finish", desc := "(LFloatingDock$Yard;I)I" } : Jvm.MethodName) prog_1_method_13_code (4 : Nat) (Option.some Jvm.ClassFile.FieldType.int)) ∈ lw_all := lw_g (lw_at lw_m10 65 rfl) rfl
theorem q2320 : (Jvm.Cond.methodLink "FloatingDock" (122 : Nat) ({ cls := "java/util/ArrayDeque", name := "addLast", desc := "(Ljava/lang/Object;)V" } : Jvm.MethodName)) ∈ lw_all := lw_g (lw_at lw_m10 66 rfl) rfl
theorem q2343 : (Jvm.Cond.methodLink "FloatingDock" (126 : Nat) ({ cls := "java/util/ArrayDeque", name := "size", desc := "()I" } : Jvm.MethodName)) ∈ lw_all := lw_g (lw_at lw_m10 89 rfl) rfl
theorem q2344 : (Jvm.Cond.methodLink "FloatingDock" (130 : Nat) ({ cls := "java/util/ArrayDeque", name := "removeFirst", desc := "()Ljava/lang/Object;" } : Jvm.MethodName)) ∈ lw_all := lw_g (lw_at lw_m10 90 rfl) rfl
theorem q2357 : (Jvm.Cond.classLink "FloatingDock" (95 : Nat) "java/lang/UnsupportedOperationException") ∈ lw_all := lw_g (lw_at lw_m10 103 rfl) rfl
theorem q2366 : (Jvm.Cond.methodLink "FloatingDock" (97 : Nat) ({ cls := "java/lang/UnsupportedOperationException", name := "<init>", desc := "()V" } : Jvm.MethodName)) ∈ lw_all := lw_g (lw_at lw_m10 112 rfl) rfl
theorem q2377 : (Jvm.Cond.instanceMethod ({ cls := "FloatingDock", name := "removeShip", desc := "(I)I" } : Jvm.MethodName)) ∈ lw_all := lw_g (lw_at lw_m10 123 rfl) rfl
theorem q2378 : (Jvm.Cond.selects "FloatingDock" ({ cls := "FloatingDock", name := "removeShip", desc := "(I)I" } : Jvm.MethodName) ({ cls := "FloatingDock", name := "removeShip", desc := "(I)I" } : Jvm.MethodName)) ∈ lw_all := lw_g (lw_at lw_m10 124 rfl) rfl
theorem q2379 : (Jvm.Cond.code ({ cls := "FloatingDock", name := "removeShip", desc := "(I)I" } : Jvm.MethodName) prog_1_method_15_code (2 : Nat) (Option.some Jvm.ClassFile.FieldType.int)) ∈ lw_all := lw_g (lw_at lw_m10 125 rfl) rfl
theorem q2380 : (Jvm.Cond.static ({ cls := "FloatingDock", name := "lambda$removeShip$8", desc := "(ILFloatingDock$Yard;)I" } : Jvm.MethodName)) ∈ lw_all := lw_g (lw_at lw_m10 126 rfl) rfl
theorem q2381 : (Jvm.Cond.code ({ cls := "FloatingDock", name := "lambda$removeShip$8", desc := "(ILFloatingDock$Yard;)I" } : Jvm.MethodName) prog_1_method_80_code (2 : Nat) (Option.some Jvm.ClassFile.FieldType.int)) ∈ lw_all := lw_g (lw_at lw_m10 127 rfl) rfl
theorem q2382 : (Jvm.Cond.methodLink "FloatingDock" (386 : Nat) ({ cls := "FloatingDock$Yard", name := "removeShip", desc := "(I)I" } : Jvm.MethodName)) ∈ lw_all := lw_g (lw_at lw_m10 128 rfl) rfl
theorem q2395 : (Jvm.Cond.static ({ cls := "FloatingDock", name := "checkElement", desc := "(Z)V" } : Jvm.MethodName)) ∈ lw_all := lw_g (lw_at lw_m10 141 rfl) rfl
theorem q2396 : (Jvm.Cond.code ({ cls := "FloatingDock", name := "checkElement", desc := "(Z)V" } : Jvm.MethodName) prog_1_method_7_code (1 : Nat) (Option.none : Option Jvm.ClassFile.FieldType)) ∈ lw_all := lw_g (lw_at lw_m10 142 rfl) rfl
theorem q2397 : (Jvm.Cond.classLink "FloatingDock" (92 : Nat) "java/util/NoSuchElementException") ∈ lw_all := lw_g (lw_at lw_m10 143 rfl) rfl
theorem q2398 : (Jvm.Cond.methodLink "FloatingDock" (94 : Nat) ({ cls := "java/util/NoSuchElementException", name := "<init>", desc := "()V" } : Jvm.MethodName)) ∈ lw_all := lw_g (lw_at lw_m10 144 rfl) rfl
theorem q2440 : (Jvm.Cond.instanceMethod ({ cls := "FloatingDock", name := "enter", desc := "(II)I" } : Jvm.MethodName)) ∈ lw_all := lw_g (lw_at lw_m10 186 rfl) rfl
theorem q2441 : (Jvm.Cond.selects "FloatingDock" ({ cls := "FloatingDock", name := "enter", desc := "(II)I" } : Jvm.MethodName) ({ cls := "FloatingDock", name := "enter", desc := "(II)I" } : Jvm.MethodName)) ∈ lw_all := lw_g (lw_at lw_m10 187 rfl) rfl
theorem q2442 : (Jvm.Cond.code ({ cls := "FloatingDock", name := "enter", desc := "(II)I" } : Jvm.MethodName) prog_1_method_16_code (3 : Nat) (Option.some Jvm.ClassFile.FieldType.int)) ∈ lw_all := lw_g (lw_at lw_m10 188 rfl) rfl
theorem q2443 : (Jvm.Cond.static ({ cls := "FloatingDock", name := "lambda$enter$9", desc := "(IILFloatingDock$Yard;)I" } : Jvm.MethodName)) ∈ lw_all := lw_g (lw_at lw_m10 189 rfl) rfl
theorem q2444 : (Jvm.Cond.code ({ cls := "FloatingDock", name := "lambda$enter$9", desc := "(IILFloatingDock$Yard;)I" } : Jvm.MethodName) prog_1_method_79_code (3 : Nat) (Option.some Jvm.ClassFile.FieldType.int)) ∈ lw_all := lw_g (lw_at lw_m10 190 rfl) rfl
theorem q2445 : (Jvm.Cond.methodLink "FloatingDock" (383 : Nat) ({ cls := "FloatingDock$Yard", name := "enter", desc := "(II)I" } : Jvm.MethodName)) ∈ lw_all := lw_g (lw_at lw_m10 191 rfl) rfl
theorem q2450 : (Jvm.Cond.static ({ cls := "FloatingDock", name := "refuseIf", desc := "(ZI)V" } : Jvm.MethodName)) ∈ lw_all := lw_g (lw_at lw_m10 196 rfl) rfl
theorem q2451 : (Jvm.Cond.code ({ cls := "FloatingDock", name := "refuseIf", desc := "(ZI)V" } : Jvm.MethodName) prog_1_method_9_code (2 : Nat) (Option.none : Option Jvm.ClassFile.FieldType)) ∈ lw_all := lw_g (lw_at lw_m10 197 rfl) rfl
theorem q2460 : (Jvm.Cond.methodLink "FloatingDock" (100 : Nat) ({ cls := "FloatingDock$Refusal", name := "<init>", desc := "(I)V" } : Jvm.MethodName)) ∈ lw_all := lw_g (lw_at lw_m10 206 rfl) rfl
theorem q2470 : (Jvm.Cond.fieldLinkNest "FloatingDock" (116 : Nat) "FloatingDock$Refusal" "reason" "I" "FloatingDock") ∈ lw_tbl := lw_at lw_m10 216 rfl
theorem q2491 : (Jvm.Cond.instanceMethod ({ cls := "FloatingDock", name := "leave", desc := "(I)I" } : Jvm.MethodName)) ∈ lw_all := lw_g (lw_at lw_m10 237 rfl) rfl
theorem q2492 : (Jvm.Cond.selects "FloatingDock" ({ cls := "FloatingDock", name := "leave", desc := "(I)I" } : Jvm.MethodName) ({ cls := "FloatingDock", name := "leave", desc := "(I)I" } : Jvm.MethodName)) ∈ lw_all := lw_g (lw_at lw_m10 238 rfl) rfl
theorem q2493 : (Jvm.Cond.code ({ cls := "FloatingDock", name := "leave", desc := "(I)I" } : Jvm.MethodName) prog_1_method_17_code (2 : Nat) (Option.some Jvm.ClassFile.FieldType.int)) ∈ lw_all := lw_g (lw_at lw_m10 239 rfl) rfl
theorem q2494 : (Jvm.Cond.static ({ cls := "FloatingDock", name := "lambda$leave$10", desc := "(ILFloatingDock$Yard;)I" } : Jvm.MethodName)) ∈ lw_all := lw_g (lw_at lw_m11 0 rfl) rfl
theorem q2495 : (Jvm.Cond.code ({ cls := "FloatingDock", name := "lambda$leave$10", desc := "(ILFloatingDock$Yard;)I" } : Jvm.MethodName) prog_1_method_78_code (2 : Nat) (Option.some Jvm.ClassFile.FieldType.int)) ∈ lw_all := lw_g (lw_at lw_m11 1 rfl) rfl
theorem q2496 : (Jvm.Cond.methodLink "FloatingDock" (380 : Nat) ({ cls := "FloatingDock$Yard", name := "leave", desc := "(I)I" } : Jvm.MethodName)) ∈ lw_all := lw_g (lw_at lw_m11 2 rfl) rfl
theorem q2509 : (Jvm.Cond.instanceMethod ({ cls := "FloatingDock", name := "setCleaning", desc := "(IZ)Z" } : Jvm.MethodName)) ∈ lw_all := lw_g (lw_at lw_m11 15 rfl) rfl
theorem q2510 : (Jvm.Cond.selects "FloatingDock" ({ cls := "FloatingDock", name := "setCleaning", desc := "(IZ)Z" } : Jvm.MethodName) ({ cls := "FloatingDock", name := "setCleaning", desc := "(IZ)Z" } : Jvm.MethodName)) ∈ lw_all := lw_g (lw_at lw_m11 16 rfl) rfl
theorem q2511 : (Jvm.Cond.code ({ cls := "FloatingDock", name := "setCleaning", desc := "(IZ)Z" } : Jvm.MethodName) prog_1_method_18_code (3 : Nat) (Option.some Jvm.ClassFile.FieldType.boolean)) ∈ lw_all := lw_g (lw_at lw_m11 17 rfl) rfl
theorem q2512 : (Jvm.Cond.static ({ cls := "FloatingDock", name := "lambda$setCleaning$11", desc := "(IZLFloatingDock$Yard;)I" } : Jvm.MethodName)) ∈ lw_all := lw_g (lw_at lw_m11 18 rfl) rfl
theorem q2513 : (Jvm.Cond.code ({ cls := "FloatingDock", name := "lambda$setCleaning$11", desc := "(IZLFloatingDock$Yard;)I" } : Jvm.MethodName) prog_1_method_77_code (3 : Nat) (Option.some Jvm.ClassFile.FieldType.int)) ∈ lw_all := lw_g (lw_at lw_m11 19 rfl) rfl
theorem q2514 : (Jvm.Cond.methodLink "FloatingDock" (376 : Nat) ({ cls := "FloatingDock$Yard", name := "setCleaning", desc := "(IZ)I" } : Jvm.MethodName)) ∈ lw_all := lw_g (lw_at lw_m11 20 rfl) rfl
theorem q2538 : (Jvm.Cond.instanceMethod ({ cls := "FloatingDock", name := "shipAt", desc := "(I)I" } : Jvm.MethodName)) ∈ lw_all := lw_g (lw_at lw_m11 44 rfl) rfl
theorem q2539 : (Jvm.Cond.selects "FloatingDock" ({ cls := "FloatingDock", name := "shipAt", desc := "(I)I" } : Jvm.MethodName) ({ cls := "FloatingDock", name := "shipAt", desc := "(I)I" } : Jvm.MethodName)) ∈ lw_all := lw_g (lw_at lw_m11 45 rfl) rfl
theorem q2540 : (Jvm.Cond.code ({ cls := "FloatingDock", name := "shipAt", desc := "(I)I" } : Jvm.MethodName) prog_1_method_20_code (2 : Nat) (Option.some Jvm.ClassFile.FieldType.int)) ∈ lw_all := lw_g (lw_at lw_m11 46 rfl) rfl
theorem q2541 : (Jvm.Cond.methodLink "FloatingDock" (158 : Nat) ({ cls := "FloatingDock$Yard", name := "shipAt", desc := "(I)I" } : Jvm.MethodName)) ∈ lw_all := lw_g (lw_at lw_m11 47 rfl) rfl
theorem q2546 : (Jvm.Cond.static ({ cls := "FloatingDock", name := "checkIndex", desc := "(II)V" } : Jvm.MethodName)) ∈ lw_all := lw_g (lw_at lw_m11 52 rfl) rfl
theorem q2547 : (Jvm.Cond.code ({ cls := "FloatingDock", name := "checkIndex", desc := "(II)V" } : Jvm.MethodName) prog_1_method_4_code (2 : Nat) (Option.none : Option Jvm.ClassFile.FieldType)) ∈ lw_all := lw_g (lw_at lw_m11 53 rfl) rfl
theorem q2548 : (Jvm.Cond.methodLink "FloatingDock" (79 : Nat) ({ cls := "FloatingDock", name := "isBetween", desc := "(III)Z" } : Jvm.MethodName)) ∈ lw_all := lw_g (lw_at lw_m11 54 rfl) rfl
theorem q2549 : (Jvm.Cond.classLink "FloatingDock" (83 : Nat) "java/lang/IndexOutOfBoundsException") ∈ lw_all := lw_g (lw_at lw_m11 55 rfl) rfl
theorem q2550 : (Jvm.Cond.methodLink "FloatingDock" (85 : Nat) ({ cls := "java/lang/IndexOutOfBoundsException", name := "<init>", desc := "()V" } : Jvm.MethodName)) ∈ lw_all := lw_g (lw_at lw_m11 56 rfl) rfl
theorem q2561 : (Jvm.Cond.instanceMethod ({ cls := "FloatingDock", name := "isInDock", desc := "(I)Z" } : Jvm.MethodName)) ∈ lw_all := lw_g (lw_at lw_m11 67 rfl) rfl
theorem q2562 : (Jvm.Cond.selects "FloatingDock" ({ cls := "FloatingDock", name := "isInDock", desc := "(I)Z" } : Jvm.MethodName) ({ cls := "FloatingDock", name := "isInDock", desc := "(I)Z" } : Jvm.MethodName)) ∈ lw_all := lw_g (lw_at lw_m11 68 rfl) rfl
theorem q2563 : (Jvm.Cond.code ({ cls := "FloatingDock", name := "isInDock", desc := "(I)Z" } : Jvm.MethodName) prog_1_method_21_code (2 : Nat) (Option.some Jvm.ClassFile.FieldType.boolean)) ∈ lw_all := lw_g (lw_at lw_m11 69 rfl) rfl
theorem q2564 : (Jvm.Cond.methodLink "FloatingDock" (162 : Nat) ({ cls := "FloatingDock$Yard", name := "ship", desc := "(I)LFloatingDock$Ship;" } : Jvm.MethodName)) ∈ lw_all := lw_g (lw_at lw_m11 70 rfl) rfl
theorem q2565 : (Jvm.Cond.methodLink "FloatingDock" (166 : Nat) ({ cls := "FloatingDock$Ship", name := "isInDock", desc := "()Z" } : Jvm.MethodName)) ∈ lw_all := lw_g (lw_at lw_m11 71 rfl) rfl
theorem q2570 : (Jvm.Cond.instanceMethod ({ cls := "FloatingDock", name := "positionOf", desc := "(I)I" } : Jvm.MethodName)) ∈ lw_all := lw_g (lw_at lw_m11 76 rfl) rfl
theorem q2571 : (Jvm.Cond.selects "FloatingDock" ({ cls := "FloatingDock", name := "positionOf", desc := "(I)I" } : Jvm.MethodName) ({ cls := "FloatingDock", name := "positionOf", desc := "(I)I" } : Jvm.MethodName)) ∈ lw_all := lw_g (lw_at lw_m11 77 rfl) rfl
theorem q2572 : (Jvm.Cond.code ({ cls := "FloatingDock", name := "positionOf", desc := "(I)I" } : Jvm.MethodName) prog_1_method_22_code (2 : Nat) (Option.some Jvm.ClassFile.FieldType.int)) ∈ lw_all := lw_g (lw_at lw_m11 78 rfl) rfl
theorem q2573 : (Jvm.Cond.methodLink "FloatingDock" (172 : Nat) ({ cls := "FloatingDock$Yard", name := "positionOf", desc := "(I)I" } : Jvm.MethodName)) ∈ lw_all := lw_g (lw_at lw_m11 79 rfl) rfl
theorem q2581 : (Jvm.Cond.instanceMethod ({ cls := "FloatingDock", name := "dirtOf", desc := "(I)I" } : Jvm.MethodName)) ∈ lw_all := lw_g (lw_at lw_m11 87 rfl) rfl
theorem q2582 : (Jvm.Cond.selects "FloatingDock" ({ cls := "FloatingDock", name := "dirtOf", desc := "(I)I" } : Jvm.MethodName) ({ cls := "FloatingDock", name := "dirtOf", desc := "(I)I" } : Jvm.MethodName)) ∈ lw_all := lw_g (lw_at lw_m11 88 rfl) rfl
theorem q2583 : (Jvm.Cond.code ({ cls := "FloatingDock", name := "dirtOf", desc := "(I)I" } : Jvm.MethodName) prog_1_method_23_code (2 : Nat) (Option.some Jvm.ClassFile.FieldType.int)) ∈ lw_all := lw_g (lw_at lw_m11 89 rfl) rfl
theorem q2588 : (Jvm.Cond.instanceMethod ({ cls := "FloatingDock", name := "damageOf", desc := "(I)I" } : Jvm.MethodName)) ∈ lw_all := lw_g (lw_at lw_m11 94 rfl) rfl
theorem q2589 : (Jvm.Cond.selects "FloatingDock" ({ cls := "FloatingDock", name := "damageOf", desc := "(I)I" } : Jvm.MethodName) ({ cls := "FloatingDock", name := "damageOf", desc := "(I)I" } : Jvm.MethodName)) ∈ lw_all := lw_g (lw_at lw_m11 95 rfl) rfl
theorem q2590 : (Jvm.Cond.code ({ cls := "FloatingDock", name := "damageOf", desc := "(I)I" } : Jvm.MethodName) prog_1_method_24_code (2 : Nat) (Option.some Jvm.ClassFile.FieldType.int)) ∈ lw_all := lw_g (lw_at lw_m11 96 rfl) rfl
theorem q2595 : (Jvm.Cond.instanceMethod ({ cls := "FloatingDock", name := "hoursAfloat", desc := "(I)I" } : Jvm.MethodName)) ∈ lw_all := lw_g (lw_at lw_m11 101 rfl) rfl
theorem q2596 : (Jvm.Cond.selects "FloatingDock" ({ cls := "FloatingDock", name := "hoursAfloat", desc := "(I)I" } : Jvm.MethodName) ({ cls := "FloatingDock", name := "hoursAfloat", desc := "(I)I" } : Jvm.MethodName)) ∈ lw_all := lw_g (lw_at lw_m11 102 rfl) rfl
theorem q2597 : (Jvm.Cond.code ({ cls := "FloatingDock", name := "hoursAfloat", desc := "(I)I" } : Jvm.MethodName) prog_1_method_25_code (2 : Nat) (Option.some Jvm.ClassFile.FieldType.int)) ∈ lw_all := lw_g (lw_at lw_m11 103 rfl) rfl
theorem q2602 : (Jvm.Cond.instanceMethod ({ cls := "FloatingDock", name := "isAfloat", desc := "(I)Z" } : Jvm.MethodName)) ∈ lw_all := lw_g (lw_at lw_m11 108 rfl) rfl
theorem q2603 : (Jvm.Cond.selects "FloatingDock" ({ cls := "FloatingDock", name := "isAfloat", desc := "(I)Z" } : Jvm.MethodName) ({ cls := "FloatingDock", name := "isAfloat", desc := "(I)Z" } : Jvm.MethodName)) ∈ lw_all := lw_g (lw_at lw_m11 109 rfl) rfl
theorem q2604 : (Jvm.Cond.code ({ cls := "FloatingDock", name := "isAfloat", desc := "(I)Z" } : Jvm.MethodName) prog_1_method_26_code (2 : Nat) (Option.some Jvm.ClassFile.FieldType.boolean)) ∈ lw_all := lw_g (lw_at lw_m11 110 rfl) rfl
theorem q2609 : (Jvm.Cond.instanceMethod ({ cls := "FloatingDock", name := "refusalReason", desc := "()I" } : Jvm.MethodName)) ∈ lw_all := lw_g (lw_at lw_m11 115 rfl) rfl
theorem q2610 : (Jvm.Cond.selects "FloatingDock" ({ cls := "FloatingDock", name := "refusalReason", desc := "()I" } : Jvm.MethodName) ({ cls := "FloatingDock", name := "refusalReason", desc := "()I" } : Jvm.MethodName)) ∈ lw_all := lw_g (lw_at lw_m11 116 rfl) rfl
theorem q2611 : (Jvm.Cond.code ({ cls := "FloatingDock", name := "refusalReason", desc := "()I" } : Jvm.MethodName) prog_1_method_27_code (1 : Nat) (Option.some Jvm.ClassFile.FieldType.int)) ∈ lw_all := lw_g (lw_at lw_m11 117 rfl) rfl
theorem q2612 : (Jvm.Cond.methodLink "FloatingDock" (191 : Nat) ({ cls := "FloatingDock", name := "checkElement", desc := "(Z)V" } : Jvm.MethodName)) ∈ lw_all := lw_g (lw_at lw_m11 118 rfl) rfl
theorem q2617 : (Jvm.Cond.instanceMethod ({ cls := "FloatingDock", name := "setGate", desc := "(Z)Z" } : Jvm.MethodName)) ∈ lw_all := lw_g (lw_at lw_m11 123 rfl) rfl
theorem q2618 : (Jvm.Cond.selects "FloatingDock" ({ cls := "FloatingDock", name := "setGate", desc := "(Z)Z" } : Jvm.MethodName) ({ cls := "FloatingDock", name := "setGate", desc := "(Z)Z" } : Jvm.MethodName)) ∈ lw_all := lw_g (lw_at lw_m11 124 rfl) rfl
theorem q2619 : (Jvm.Cond.code ({ cls := "FloatingDock", name := "setGate", desc := "(Z)Z" } : Jvm.MethodName) prog_1_method_28_code (2 : Nat) (Option.some Jvm.ClassFile.FieldType.boolean)) ∈ lw_all := lw_g (lw_at lw_m11 125 rfl) rfl
theorem q2620 : (Jvm.Cond.static ({ cls := "FloatingDock", name := "lambda$setGate$12", desc := "(ZLFloatingDock$Yard;)I" } : Jvm.MethodName)) ∈ lw_all := lw_g (lw_at lw_m11 126 rfl) rfl
theorem q2621 : (Jvm.Cond.code ({ cls := "FloatingDock", name := "lambda$setGate$12", desc := "(ZLFloatingDock$Yard;)I" } : Jvm.MethodName) prog_1_method_76_code (2 : Nat) (Option.some Jvm.ClassFile.FieldType.int)) ∈ lw_all := lw_g (lw_at lw_m11 127 rfl) rfl
theorem q2622 : (Jvm.Cond.methodLink "FloatingDock" (372 : Nat) ({ cls := "FloatingDock$Yard", name := "setGate", desc := "(Z)I" } : Jvm.MethodName)) ∈ lw_all := lw_g (lw_at lw_m11 128 rfl) rfl
theorem q2630 : (Jvm.Cond.static ({ cls := "FloatingDock", name := "checkSupported", desc := "(Z)V" } : Jvm.MethodName)) ∈ lw_all := lw_g (lw_at lw_m11 136 rfl) rfl
theorem q2631 : (Jvm.Cond.code ({ cls := "FloatingDock", name := "checkSupported", desc := "(Z)V" } : Jvm.MethodName) prog_1_method_8_code (1 : Nat) (Option.none : Option Jvm.ClassFile.FieldType)) ∈ lw_all := lw_g (lw_at lw_m11 137 rfl) rfl
theorem q2636 : (Jvm.Cond.instanceMethod ({ cls := "FloatingDock", name := "setPump", desc := "(I)I" } : Jvm.MethodName)) ∈ lw_all := lw_g (lw_at lw_m11 142 rfl) rfl
theorem q2637 : (Jvm.Cond.selects "FloatingDock" ({ cls := "FloatingDock", name := "setPump", desc := "(I)I" } : Jvm.MethodName) ({ cls := "FloatingDock", name := "setPump", desc := "(I)I" } : Jvm.MethodName)) ∈ lw_all := lw_g (lw_at lw_m11 143 rfl) rfl
theorem q2638 : (Jvm.Cond.code ({ cls := "FloatingDock", name := "setPump", desc := "(I)I" } : Jvm.MethodName) prog_1_method_30_code (2 : Nat) (Option.some Jvm.ClassFile.FieldType.int)) ∈ lw_all := lw_g (lw_at lw_m11 144 rfl) rfl
theorem q2639 : (Jvm.Cond.static ({ cls := "FloatingDock", name := "lambda$setPump$13", desc := "(ILFloatingDock$Yard;)I" } : Jvm.MethodName)) ∈ lw_all := lw_g (lw_at lw_m11 145 rfl) rfl
theorem q2640 : (Jvm.Cond.code ({ cls := "FloatingDock", name := "lambda$setPump$13", desc := "(ILFloatingDock$Yard;)I" } : Jvm.MethodName) prog_1_method_75_code (2 : Nat) (Option.some Jvm.ClassFile.FieldType.int)) ∈ lw_all := lw_g (lw_at lw_m11 146 rfl) rfl
theorem q2641 : (Jvm.Cond.methodLink "FloatingDock" (369 : Nat) ({ cls := "FloatingDock$Yard", name := "setPump", desc := "(I)I" } : Jvm.MethodName)) ∈ lw_all := lw_g (lw_at lw_m11 147 rfl) rfl
theorem q2649 : (Jvm.Cond.instanceMethod ({ cls := "FloatingDock", name := "seaLevel", desc := "(I)I" } : Jvm.MethodName)) ∈ lw_all := lw_g (lw_at lw_m11 155 rfl) rfl
theorem q2650 : (Jvm.Cond.selects "FloatingDock" ({ cls := "FloatingDock", name := "seaLevel", desc := "(I)I" } : Jvm.MethodName) ({ cls := "FloatingDock", name := "seaLevel", desc := "(I)I" } : Jvm.MethodName)) ∈ lw_all := lw_g (lw_at lw_m11 156 rfl) rfl
theorem q2651 : (Jvm.Cond.code ({ cls := "FloatingDock", name := "seaLevel", desc := "(I)I" } : Jvm.MethodName) prog_1_method_32_code (2 : Nat) (Option.some Jvm.ClassFile.FieldType.int)) ∈ lw_all := lw_g (lw_at lw_m11 157 rfl) rfl
theorem q2652 : (Jvm.Cond.methodLink "FloatingDock" (203 : Nat) ({ cls := "FloatingDock", name := "checkArgument", desc := "(Z)V" } : Jvm.MethodName)) ∈ lw_all := lw_g (lw_at lw_m11 158 rfl) rfl
theorem q2653 : (Jvm.Cond.methodLink "FloatingDock" (206 : Nat) ({ cls := "FloatingDock", name := "seaLevelOf", desc := "(I)I" } : Jvm.MethodName)) ∈ lw_all := lw_g (lw_at lw_m11 159 rfl) rfl
theorem q2658 : (Jvm.Cond.instanceMethod ({ cls := "FloatingDock", name := "seaLevelByHours", desc := "(I)I" } : Jvm.MethodName)) ∈ lw_all := lw_g (lw_at lw_m11 164 rfl) rfl
theorem q2659 : (Jvm.Cond.selects "FloatingDock" ({ cls := "FloatingDock", name := "seaLevelByHours", desc := "(I)I" } : Jvm.MethodName) ({ cls := "FloatingDock", name := "seaLevelByHours", desc := "(I)I" } : Jvm.MethodName)) ∈ lw_all := lw_g (lw_at lw_m11 165 rfl) rfl
theorem q2660 : (Jvm.Cond.code ({ cls := "FloatingDock", name := "seaLevelByHours", desc := "(I)I" } : Jvm.MethodName) prog_1_method_33_code (2 : Nat) (Option.some Jvm.ClassFile.FieldType.int)) ∈ lw_all := lw_g (lw_at lw_m11 166 rfl) rfl
theorem q2661 : (Jvm.Cond.methodLink "FloatingDock" (209 : Nat) ({ cls := "FloatingDock", name := "seaLevelSteps", desc := "(I)I" } : Jvm.MethodName)) ∈ lw_all := lw_g (lw_at lw_m11 167 rfl) rfl
theorem q2666 : (Jvm.Cond.instanceMethod ({ cls := "FloatingDock", name := "pass", desc := "(I)I" } : Jvm.MethodName)) ∈ lw_all := lw_g (lw_at lw_m11 172 rfl) rfl
theorem q2667 : (Jvm.Cond.selects "FloatingDock" ({ cls := "FloatingDock", name := "pass", desc := "(I)I" } : Jvm.MethodName) ({ cls := "FloatingDock", name := "pass", desc := "(I)I" } : Jvm.MethodName)) ∈ lw_all := lw_g (lw_at lw_m11 173 rfl) rfl
theorem q2668 : (Jvm.Cond.code ({ cls := "FloatingDock", name := "pass", desc := "(I)I" } : Jvm.MethodName) prog_1_method_34_code (2 : Nat) (Option.some Jvm.ClassFile.FieldType.int)) ∈ lw_all := lw_g (lw_at lw_m11 174 rfl) rfl
theorem q2669 : (Jvm.Cond.privateMethod ({ cls := "FloatingDock", name := "lambda$pass$14", desc := "(ILFloatingDock$Yard;)I" } : Jvm.MethodName)) ∈ lw_tbl := lw_at lw_m11 175 rfl
theorem q2670 : (Jvm.Cond.instanceMethod ({ cls := "FloatingDock", name := "lambda$pass$14", desc := "(ILFloatingDock$Yard;)I" } : Jvm.MethodName)) ∈ lw_all := lw_g (lw_at lw_m11 176 rfl) rfl
theorem q2671 : (Jvm.Cond.code ({ cls := "FloatingDock", name := "lambda$pass$14", desc := "(ILFloatingDock$Yard;)I" } : Jvm.MethodName) prog_1_method_74_code (3 : Nat) (Option.some Jvm.ClassFile.FieldType.int)) ∈ lw_all := lw_g (lw_at lw_m11 177 rfl) rfl
theorem q2672 : (Jvm.Cond.methodLink "FloatingDock" (366 : Nat) ({ cls := "FloatingDock$Yard", name := "pass", desc := "(I[LFloatingDock$Charge;)I" } : Jvm.MethodName)) ∈ lw_all := lw_g (lw_at lw_m11 178 rfl) rfl
theorem q2700 : (Jvm.Cond.instanceMethod ({ cls := "FloatingDock", name := "levelAfter", desc := "(I)I" } : Jvm.MethodName)) ∈ lw_all := lw_g (lw_at lw_m11 206 rfl) rfl
theorem q2701 : (Jvm.Cond.selects "FloatingDock" ({ cls := "FloatingDock", name := "levelAfter", desc := "(I)I" } : Jvm.MethodName) ({ cls := "FloatingDock", name := "levelAfter", desc := "(I)I" } : Jvm.MethodName)) ∈ lw_all := lw_g (lw_at lw_m11 207 rfl) rfl
theorem q2702 : (Jvm.Cond.code ({ cls := "FloatingDock", name := "levelAfter", desc := "(I)I" } : Jvm.MethodName) prog_1_method_36_code (2 : Nat) (Option.some Jvm.ClassFile.FieldType.int)) ∈ lw_all := lw_g (lw_at lw_m11 208 rfl) rfl
theorem q2703 : (Jvm.Cond.methodLink "FloatingDock" (218 : Nat) ({ cls := "FloatingDock$Yard", name := "levelAfter", desc := "(I[LFloatingDock$Charge;)I" } : Jvm.MethodName)) ∈ lw_all := lw_g (lw_at lw_m11 209 rfl) rfl
theorem q2713 : (Jvm.Cond.instanceMethod ({ cls := "FloatingDock", name := "hoursUntilAfloat", desc := "(I)I" } : Jvm.MethodName)) ∈ lw_all := lw_g (lw_at lw_m11 219 rfl) rfl
theorem q2714 : (Jvm.Cond.selects "FloatingDock" ({ cls := "FloatingDock", name := "hoursUntilAfloat", desc := "(I)I" } : Jvm.MethodName) ({ cls := "FloatingDock", name := "hoursUntilAfloat", desc := "(I)I" } : Jvm.MethodName)) ∈ lw_all := lw_g (lw_at lw_m11 220 rfl) rfl
theorem q2715 : (Jvm.Cond.code ({ cls := "FloatingDock", name := "hoursUntilAfloat", desc := "(I)I" } : Jvm.MethodName) prog_1_method_37_code (2 : Nat) (Option.some Jvm.ClassFile.FieldType.int)) ∈ lw_all := lw_g (lw_at lw_m11 221 rfl) rfl
theorem q2716 : (Jvm.Cond.methodLink "FloatingDock" (222 : Nat) ({ cls := "FloatingDock$Yard", name := "hoursUntilAfloat", desc := "(I[LFloatingDock$Charge;)I" } : Jvm.MethodName)) ∈ lw_all := lw_g (lw_at lw_m11 222 rfl) rfl
theorem q2726 : (Jvm.Cond.instanceMethod ({ cls := "FloatingDock", name := "placeBlock", desc := "(I)I" } : Jvm.MethodName)) ∈ lw_all := lw_g (lw_at lw_m11 232 rfl) rfl
theorem q2727 : (Jvm.Cond.selects "FloatingDock" ({ cls := "FloatingDock", name := "placeBlock", desc := "(I)I" } : Jvm.MethodName) ({ cls := "FloatingDock", name := "placeBlock", desc := "(I)I" } : Jvm.MethodName)) ∈ lw_all := lw_g (lw_at lw_m11 233 rfl) rfl
theorem q2728 : (Jvm.Cond.code ({ cls := "FloatingDock", name := "placeBlock", desc := "(I)I" } : Jvm.MethodName) prog_1_method_38_code (2 : Nat) (Option.some Jvm.ClassFile.FieldType.int)) ∈ lw_all := lw_g (lw_at lw_m11 234 rfl) rfl
theorem q2729 : (Jvm.Cond.static ({ cls := "FloatingDock", name := "lambda$placeBlock$15", desc := "(ILFloatingDock$Yard;)I" } : Jvm.MethodName)) ∈ lw_all := lw_g (lw_at lw_m11 235 rfl) rfl
theorem q2730 : (Jvm.Cond.code ({ cls := "FloatingDock", name := "lambda$placeBlock$15", desc := "(ILFloatingDock$Yard;)I" } : Jvm.MethodName) prog_1_method_73_code (2 : Nat) (Option.some Jvm.ClassFile.FieldType.int)) ∈ lw_all := lw_g (lw_at lw_m11 236 rfl) rfl
theorem q2731 : (Jvm.Cond.methodLink "FloatingDock" (363 : Nat) ({ cls := "FloatingDock$Yard", name := "placeBlock", desc := "(I)I" } : Jvm.MethodName)) ∈ lw_all := lw_g (lw_at lw_m11 237 rfl) rfl
theorem q2736 : (Jvm.Cond.static ({ cls := "FloatingDock", name := "isPosition", desc := "(I)Z" } : Jvm.MethodName)) ∈ lw_all := lw_g (lw_at lw_m12 2 rfl) rfl
theorem q2737 : (Jvm.Cond.code ({ cls := "FloatingDock", name := "isPosition", desc := "(I)Z" } : Jvm.MethodName) prog_1_method_3_code (1 : Nat) (Option.some Jvm.ClassFile.FieldType.boolean)) ∈ lw_all := lw_g (lw_at lw_m12 3 rfl) rfl
theorem q2751 : (Jvm.Cond.instanceMethod ({ cls := "FloatingDock", name := "removeBlock", desc := "(I)I" } : Jvm.MethodName)) ∈ lw_all := lw_g (lw_at lw_m12 17 rfl) rfl
theorem q2752 : (Jvm.Cond.selects "FloatingDock" ({ cls := "FloatingDock", name := "removeBlock", desc := "(I)I" } : Jvm.MethodName) ({ cls := "FloatingDock", name := "removeBlock", desc := "(I)I" } : Jvm.MethodName)) ∈ lw_all := lw_g (lw_at lw_m12 18 rfl) rfl
theorem q2753 : (Jvm.Cond.code ({ cls := "FloatingDock", name := "removeBlock", desc := "(I)I" } : Jvm.MethodName) prog_1_method_39_code (2 : Nat) (Option.some Jvm.ClassFile.FieldType.int)) ∈ lw_all := lw_g (lw_at lw_m12 19 rfl) rfl
theorem q2754 : (Jvm.Cond.static ({ cls := "FloatingDock", name := "lambda$removeBlock$16", desc := "(ILFloatingDock$Yard;)I" } : Jvm.MethodName)) ∈ lw_all := lw_g (lw_at lw_m12 20 rfl) rfl
theorem q2755 : (Jvm.Cond.code ({ cls := "FloatingDock", name := "lambda$removeBlock$16", desc := "(ILFloatingDock$Yard;)I" } : Jvm.MethodName) prog_1_method_72_code (2 : Nat) (Option.some Jvm.ClassFile.FieldType.int)) ∈ lw_all := lw_g (lw_at lw_m12 21 rfl) rfl
theorem q2756 : (Jvm.Cond.methodLink "FloatingDock" (360 : Nat) ({ cls := "FloatingDock$Yard", name := "removeBlock", desc := "(I)I" } : Jvm.MethodName)) ∈ lw_all := lw_g (lw_at lw_m12 22 rfl) rfl
theorem q2769 : (Jvm.Cond.instanceMethod ({ cls := "FloatingDock", name := "hasBlock", desc := "(I)Z" } : Jvm.MethodName)) ∈ lw_all := lw_g (lw_at lw_m12 35 rfl) rfl
theorem q2770 : (Jvm.Cond.selects "FloatingDock" ({ cls := "FloatingDock", name := "hasBlock", desc := "(I)Z" } : Jvm.MethodName) ({ cls := "FloatingDock", name := "hasBlock", desc := "(I)Z" } : Jvm.MethodName)) ∈ lw_all := lw_g (lw_at lw_m12 36 rfl) rfl
theorem q2771 : (Jvm.Cond.code ({ cls := "FloatingDock", name := "hasBlock", desc := "(I)Z" } : Jvm.MethodName) prog_1_method_40_code (2 : Nat) (Option.some Jvm.ClassFile.FieldType.boolean)) ∈ lw_all := lw_g (lw_at lw_m12 37 rfl) rfl
theorem q2772 : (Jvm.Cond.methodLink "FloatingDock" (227 : Nat) ({ cls := "FloatingDock", name := "isPosition", desc := "(I)Z" } : Jvm.MethodName)) ∈ lw_all := lw_g (lw_at lw_m12 38 rfl) rfl
theorem q2773 : (Jvm.Cond.methodLink "FloatingDock" (230 : Nat) ({ cls := "FloatingDock$Yard", name := "hasBlock", desc := "(I)Z" } : Jvm.MethodName)) ∈ lw_all := lw_g (lw_at lw_m12 39 rfl) rfl
theorem q2778 : (Jvm.Cond.instanceMethod ({ cls := "FloatingDock", name := "blocksBeneath", desc := "(I)I" } : Jvm.MethodName)) ∈ lw_all := lw_g (lw_at lw_m12 44 rfl) rfl
theorem q2779 : (Jvm.Cond.selects "FloatingDock" ({ cls := "FloatingDock", name := "blocksBeneath", desc := "(I)I" } : Jvm.MethodName) ({ cls := "FloatingDock", name := "blocksBeneath", desc := "(I)I" } : Jvm.MethodName)) ∈ lw_all := lw_g (lw_at lw_m12 45 rfl) rfl
theorem q2780 : (Jvm.Cond.code ({ cls := "FloatingDock", name := "blocksBeneath", desc := "(I)I" } : Jvm.MethodName) prog_1_method_41_code (2 : Nat) (Option.some Jvm.ClassFile.FieldType.int)) ∈ lw_all := lw_g (lw_at lw_m12 46 rfl) rfl
theorem q2781 : (Jvm.Cond.methodLink "FloatingDock" (233 : Nat) ({ cls := "FloatingDock$Yard", name := "blocksBeneathByMetres", desc := "(LFloatingDock$Ship;)I" } : Jvm.MethodName)) ∈ lw_all := lw_g (lw_at lw_m12 47 rfl) rfl
theorem q2786 : (Jvm.Cond.instanceMethod ({ cls := "FloatingDock", name := "blocksBeneathByBlocks", desc := "(I)I" } : Jvm.MethodName)) ∈ lw_all := lw_g (lw_at lw_m12 52 rfl) rfl
theorem q2787 : (Jvm.Cond.selects "FloatingDock" ({ cls := "FloatingDock", name := "blocksBeneathByBlocks", desc := "(I)I" } : Jvm.MethodName) ({ cls := "FloatingDock", name := "blocksBeneathByBlocks", desc := "(I)I" } : Jvm.MethodName)) ∈ lw_all := lw_g (lw_at lw_m12 53 rfl) rfl
theorem q2788 : (Jvm.Cond.code ({ cls := "FloatingDock", name := "blocksBeneathByBlocks", desc := "(I)I" } : Jvm.MethodName) prog_1_method_42_code (2 : Nat) (Option.some Jvm.ClassFile.FieldType.int)) ∈ lw_all := lw_g (lw_at lw_m12 54 rfl) rfl
theorem q2789 : (Jvm.Cond.methodLink "FloatingDock" (237 : Nat) ({ cls := "FloatingDock$Yard", name := "blocksBeneath", desc := "(LFloatingDock$Ship;)I" } : Jvm.MethodName)) ∈ lw_all := lw_g (lw_at lw_m12 55 rfl) rfl
theorem q2794 : (Jvm.Cond.instanceMethod ({ cls := "FloatingDock", name := "shipAtPosition", desc := "(I)I" } : Jvm.MethodName)) ∈ lw_all := lw_g (lw_at lw_m12 60 rfl) rfl
theorem q2795 : (Jvm.Cond.selects "FloatingDock" ({ cls := "FloatingDock", name := "shipAtPosition", desc := "(I)I" } : Jvm.MethodName) ({ cls := "FloatingDock", name := "shipAtPosition", desc := "(I)I" } : Jvm.MethodName)) ∈ lw_all := lw_g (lw_at lw_m12 61 rfl) rfl
theorem q2796 : (Jvm.Cond.code ({ cls := "FloatingDock", name := "shipAtPosition", desc := "(I)I" } : Jvm.MethodName) prog_1_method_43_code (3 : Nat) (Option.some Jvm.ClassFile.FieldType.int)) ∈ lw_all := lw_g (lw_at lw_m12 62 rfl) rfl
theorem q2797 : (Jvm.Cond.methodLink "FloatingDock" (240 : Nat) ({ cls := "FloatingDock$Yard", name := "shipAtPosition", desc := "(I)LFloatingDock$Ship;" } : Jvm.MethodName)) ∈ lw_all := lw_g (lw_at lw_m12 63 rfl) rfl
theorem q2802 : (Jvm.Cond.instanceMethod ({ cls := "FloatingDock", name := "firstGap", desc := "(I)I" } : Jvm.MethodName)) ∈ lw_all := lw_g (lw_at lw_m12 68 rfl) rfl
theorem q2803 : (Jvm.Cond.selects "FloatingDock" ({ cls := "FloatingDock", name := "firstGap", desc := "(I)I" } : Jvm.MethodName) ({ cls := "FloatingDock", name := "firstGap", desc := "(I)I" } : Jvm.MethodName)) ∈ lw_all := lw_g (lw_at lw_m12 69 rfl) rfl
theorem q2804 : (Jvm.Cond.code ({ cls := "FloatingDock", name := "firstGap", desc := "(I)I" } : Jvm.MethodName) prog_1_method_45_code (2 : Nat) (Option.some Jvm.ClassFile.FieldType.int)) ∈ lw_all := lw_g (lw_at lw_m12 70 rfl) rfl
theorem q2805 : (Jvm.Cond.methodLink "FloatingDock" (248 : Nat) ({ cls := "FloatingDock", name := "gap", desc := "(II)I" } : Jvm.MethodName)) ∈ lw_all := lw_g (lw_at lw_m12 71 rfl) rfl
theorem q2806 : (Jvm.Cond.privateMethod ({ cls := "FloatingDock", name := "gap", desc := "(II)I" } : Jvm.MethodName)) ∈ lw_tbl := lw_at lw_m12 72 rfl
theorem q2807 : (Jvm.Cond.instanceMethod ({ cls := "FloatingDock", name := "gap", desc := "(II)I" } : Jvm.MethodName)) ∈ lw_all := lw_g (lw_at lw_m12 73 rfl) rfl
theorem q2808 : (Jvm.Cond.code ({ cls := "FloatingDock", name := "gap", desc := "(II)I" } : Jvm.MethodName) prog_1_method_44_code (4 : Nat) (Option.some Jvm.ClassFile.FieldType.int)) ∈ lw_all := lw_g (lw_at lw_m12 74 rfl) rfl
theorem q2809 : (Jvm.Cond.interfaceEntry "FloatingDock" (246 : Nat)) ∈ lw_tbl := lw_at lw_m12 75 rfl
theorem q2810 : (Jvm.Cond.methodLink "FloatingDock" (246 : Nat) ({ cls := "FloatingDock$GapFinder", name := "find", desc := "(LFloatingDock$Yard;I)I" } : Jvm.MethodName)) ∈ lw_all := lw_g (lw_at lw_m12 76 rfl) rfl
theorem q2815 : (Jvm.Cond.instanceMethod ({ cls := "FloatingDock", name := "firstGapByShips", desc := "(I)I" } : Jvm.MethodName)) ∈ lw_all := lw_g (lw_at lw_m12 81 rfl) rfl
theorem q2816 : (Jvm.Cond.selects "FloatingDock" ({ cls := "FloatingDock", name := "firstGapByShips", desc := "(I)I" } : Jvm.MethodName) ({ cls := "FloatingDock", name := "firstGapByShips", desc := "(I)I" } : Jvm.MethodName)) ∈ lw_all := lw_g (lw_at lw_m12 82 rfl) rfl
theorem q2817 : (Jvm.Cond.code ({ cls := "FloatingDock", name := "firstGapByShips", desc := "(I)I" } : Jvm.MethodName) prog_1_method_46_code (2 : Nat) (Option.some Jvm.ClassFile.FieldType.int)) ∈ lw_all := lw_g (lw_at lw_m12 83 rfl) rfl
theorem q2822 : (Jvm.Cond.instanceMethod ({ cls := "FloatingDock", name := "billOf", desc := "(I)I" } : Jvm.MethodName)) ∈ lw_all := lw_g (lw_at lw_m12 88 rfl) rfl
theorem q2823 : (Jvm.Cond.selects "FloatingDock" ({ cls := "FloatingDock", name := "billOf", desc := "(I)I" } : Jvm.MethodName) ({ cls := "FloatingDock", name := "billOf", desc := "(I)I" } : Jvm.MethodName)) ∈ lw_all := lw_g (lw_at lw_m12 89 rfl) rfl
theorem q2824 : (Jvm.Cond.code ({ cls := "FloatingDock", name := "billOf", desc := "(I)I" } : Jvm.MethodName) prog_1_method_51_code (2 : Nat) (Option.some Jvm.ClassFile.FieldType.int)) ∈ lw_all := lw_g (lw_at lw_m12 90 rfl) rfl
theorem q2829 : (Jvm.Cond.instanceMethod ({ cls := "FloatingDock", name := "pay", desc := "(II)I" } : Jvm.MethodName)) ∈ lw_all := lw_g (lw_at lw_m12 95 rfl) rfl
theorem q2830 : (Jvm.Cond.selects "FloatingDock" ({ cls := "FloatingDock", name := "pay", desc := "(II)I" } : Jvm.MethodName) ({ cls := "FloatingDock", name := "pay", desc := "(II)I" } : Jvm.MethodName)) ∈ lw_all := lw_g (lw_at lw_m12 96 rfl) rfl
theorem q2831 : (Jvm.Cond.code ({ cls := "FloatingDock", name := "pay", desc := "(II)I" } : Jvm.MethodName) prog_1_method_52_code (3 : Nat) (Option.some Jvm.ClassFile.FieldType.int)) ∈ lw_all := lw_g (lw_at lw_m12 97 rfl) rfl
theorem q2832 : (Jvm.Cond.static ({ cls := "FloatingDock", name := "lambda$pay$17", desc := "(IILFloatingDock$Yard;)I" } : Jvm.MethodName)) ∈ lw_all := lw_g (lw_at lw_m12 98 rfl) rfl
theorem q2833 : (Jvm.Cond.code ({ cls := "FloatingDock", name := "lambda$pay$17", desc := "(IILFloatingDock$Yard;)I" } : Jvm.MethodName) prog_1_method_71_code (3 : Nat) (Option.some Jvm.ClassFile.FieldType.int)) ∈ lw_all := lw_g (lw_at lw_m12 99 rfl) rfl
theorem q2834 : (Jvm.Cond.methodLink "FloatingDock" (357 : Nat) ({ cls := "FloatingDock$Yard", name := "pay", desc := "(II)I" } : Jvm.MethodName)) ∈ lw_all := lw_g (lw_at lw_m12 100 rfl) rfl
theorem q2842 : (Jvm.Cond.instanceMethod ({ cls := "FloatingDock", name := "shipAtRank", desc := "(I)I" } : Jvm.MethodName)) ∈ lw_all := lw_g (lw_at lw_m12 108 rfl) rfl
theorem q2843 : (Jvm.Cond.selects "FloatingDock" ({ cls := "FloatingDock", name := "shipAtRank", desc := "(I)I" } : Jvm.MethodName) ({ cls := "FloatingDock", name := "shipAtRank", desc := "(I)I" } : Jvm.MethodName)) ∈ lw_all := lw_g (lw_at lw_m12 109 rfl) rfl
theorem q2844 : (Jvm.Cond.code ({ cls := "FloatingDock", name := "shipAtRank", desc := "(I)I" } : Jvm.MethodName) prog_1_method_56_code (2 : Nat) (Option.some Jvm.ClassFile.FieldType.int)) ∈ lw_all := lw_g (lw_at lw_m12 110 rfl) rfl
theorem q2845 : (Jvm.Cond.methodLink "FloatingDock" (273 : Nat) ({ cls := "FloatingDock$Yard", name := "shipAtRank", desc := "(I)I" } : Jvm.MethodName)) ∈ lw_all := lw_g (lw_at lw_m12 111 rfl) rfl
theorem q2859 : (Jvm.Cond.instanceMethod ({ cls := "FloatingDock", name := "append", desc := "(C)I" } : Jvm.MethodName)) ∈ lw_all := lw_g (lw_at lw_m12 125 rfl) rfl
theorem q2860 : (Jvm.Cond.selects "FloatingDock" ({ cls := "FloatingDock", name := "append", desc := "(C)I" } : Jvm.MethodName) ({ cls := "FloatingDock", name := "append", desc := "(C)I" } : Jvm.MethodName)) ∈ lw_all := lw_g (lw_at lw_m12 126 rfl) rfl
theorem q2861 : (Jvm.Cond.code ({ cls := "FloatingDock", name := "append", desc := "(C)I" } : Jvm.MethodName) prog_1_method_57_code (2 : Nat) (Option.some Jvm.ClassFile.FieldType.int)) ∈ lw_all := lw_g (lw_at lw_m12 127 rfl) rfl
theorem q2862 : (Jvm.Cond.methodLink "FloatingDock" (276 : Nat) ({ cls := "java/lang/StringBuilder", name := "length", desc := "()I" } : Jvm.MethodName)) ∈ lw_all := lw_g (lw_at lw_m12 128 rfl) rfl
theorem q2863 : (Jvm.Cond.methodLink "FloatingDock" (279 : Nat) ({ cls := "FloatingDock", name := "checkState", desc := "(Z)V" } : Jvm.MethodName)) ∈ lw_all := lw_g (lw_at lw_m12 129 rfl) rfl
theorem q2864 : (Jvm.Cond.methodLink "FloatingDock" (282 : Nat) ({ cls := "java/lang/StringBuilder", name := "append", desc := "(C)Ljava/lang/StringBuilder;" } : Jvm.MethodName)) ∈ lw_all := lw_g (lw_at lw_m12 130 rfl) rfl
theorem q2869 : (Jvm.Cond.instanceMethod ({ cls := "FloatingDock", name := "run", desc := "()I" } : Jvm.MethodName)) ∈ lw_all := lw_g (lw_at lw_m12 135 rfl) rfl
theorem q2870 : (Jvm.Cond.selects "FloatingDock" ({ cls := "FloatingDock", name := "run", desc := "()I" } : Jvm.MethodName) ({ cls := "FloatingDock", name := "run", desc := "()I" } : Jvm.MethodName)) ∈ lw_all := lw_g (lw_at lw_m12 136 rfl) rfl
theorem q2871 : (Jvm.Cond.codeWith ({ cls := "FloatingDock", name := "run", desc := "()I" } : Jvm.MethodName) prog_1_method_59_code (3 : Nat) (Option.some Jvm.ClassFile.FieldType.int) [((0 : Nat), (16 : Nat), (26 : Nat), (309 : Nat)), ((0 : Nat), (16 : Nat), (43 : Nat), (0 : Nat)), ((26 : Nat), (44 : Nat), (43 : Nat), (0 : Nat))]) ∈ lw_all := lw_g (lw_at lw_m12 137 rfl) rfl
theorem q2872 : (Jvm.Cond.classLink "FloatingDock" (309 : Nat) "FloatingDock$SyntaxError") ∈ lw_all := lw_g (lw_at lw_m12 138 rfl) rfl
theorem q2873 : (Jvm.Cond.classLink "FloatingDock" (293 : Nat) "FloatingDock$Parser") ∈ lw_all := lw_g (lw_at lw_m12 139 rfl) rfl
theorem q2875 : (Jvm.Cond.methodLinkNest "FloatingDock" (295 : Nat) ({ cls := "FloatingDock$Parser", name := "<init>", desc := "(LFloatingDock;)V" } : Jvm.MethodName) "FloatingDock") ∈ lw_tbl := lw_at lw_m12 141 rfl
theorem q2886 : (Jvm.Cond.methodLink "FloatingDock" (298 : Nat) ({ cls := "FloatingDock$Parser", name := "program", desc := "()LFloatingDock$Program;" } : Jvm.MethodName)) ∈ lw_all := lw_g (lw_at lw_m12 152 rfl) rfl
theorem q2900 : (Jvm.Cond.fieldLinkNest "FloatingDock" (286 : Nat) "FloatingDock$Program" "size" "I" "FloatingDock") ∈ lw_tbl := lw_at lw_m12 166 rfl
theorem q2970 : (Jvm.Cond.fieldLinkNest "FloatingDock" (311 : Nat) "FloatingDock$SyntaxError" "position" "I" "FloatingDock") ∈ lw_tbl := lw_at lw_m12 236 rfl
theorem q3061 : (Jvm.Cond.methodLink "FloatingDock" (302 : Nat) ({ cls := "FloatingDock", name := "execute", desc := "(LFloatingDock$Program;)I" } : Jvm.MethodName)) ∈ lw_all := lw_g (lw_at lw_m13 87 rfl) rfl
theorem q3062 : (Jvm.Cond.privateMethod ({ cls := "FloatingDock", name := "execute", desc := "(LFloatingDock$Program;)I" } : Jvm.MethodName)) ∈ lw_tbl := lw_at lw_m13 88 rfl
theorem q3063 : (Jvm.Cond.instanceMethod ({ cls := "FloatingDock", name := "execute", desc := "(LFloatingDock$Program;)I" } : Jvm.MethodName)) ∈ lw_all := lw_g (lw_at lw_m13 89 rfl) rfl
theorem q3064 : (Jvm.Cond.codeWith ({ cls := "FloatingDock", name := "execute", desc := "(LFloatingDock$Program;)I" } : Jvm.MethodName) prog_1_method_58_code (5 : Nat) (Option.some Jvm.ClassFile.FieldType.int) [((14 : Nat), (41 : Nat), (44 : Nat), (98 : Nat)), ((14 : Nat), (41 : Nat), (68 : Nat), (83 : Nat)), ((14 : Nat), (41 : Nat), (68 : Nat), (86 : Nat)), ((14 : Nat), (41 : Nat), (68 : Nat), (89 : Nat)), ((14 : Nat), (41 : Nat), (68 : Nat), (92 : Nat)), ((14 : Nat), (41 : Nat), (68 : Nat), (95 : Nat))]) ∈ lw_all := lw_g (lw_at lw_m13 90 rfl) rfl
theorem q3065 : (Jvm.Cond.methodLink "FloatingDock" (290 : Nat) ({ cls := "FloatingDock$Program", name := "at", desc := "(I)LFloatingDock$Operation;" } : Jvm.MethodName)) ∈ lw_all := lw_g (lw_at lw_m13 91 rfl) rfl
theorem q3069 : (Jvm.Cond.methodLink "FloatingDock" (306 : Nat) ({ cls := "java/lang/StringBuilder", name := "setLength", desc := "(I)V" } : Jvm.MethodName)) ∈ lw_all := lw_g (lw_at lw_m13 95 rfl) rfl
theorem q3125 : (Jvm.Cond.instanceMethod ({ cls := "FloatingDock", name := "errorPosition", desc := "()I" } : Jvm.MethodName)) ∈ lw_all := lw_g (lw_at lw_m13 151 rfl) rfl
theorem q3126 : (Jvm.Cond.selects "FloatingDock" ({ cls := "FloatingDock", name := "errorPosition", desc := "()I" } : Jvm.MethodName) ({ cls := "FloatingDock", name := "errorPosition", desc := "()I" } : Jvm.MethodName)) ∈ lw_all := lw_g (lw_at lw_m13 152 rfl) rfl
theorem q3127 : (Jvm.Cond.code ({ cls := "FloatingDock", name := "errorPosition", desc := "()I" } : Jvm.MethodName) prog_1_method_60_code (1 : Nat) (Option.some Jvm.ClassFile.FieldType.int)) ∈ lw_all := lw_g (lw_at lw_m13 153 rfl) rfl
theorem q3132 : (Jvm.Cond.instanceMethod ({ cls := "FloatingDock", name := "failedCommand", desc := "()I" } : Jvm.MethodName)) ∈ lw_all := lw_g (lw_at lw_m13 158 rfl) rfl
theorem q3133 : (Jvm.Cond.selects "FloatingDock" ({ cls := "FloatingDock", name := "failedCommand", desc := "()I" } : Jvm.MethodName) ({ cls := "FloatingDock", name := "failedCommand", desc := "()I" } : Jvm.MethodName)) ∈ lw_all := lw_g (lw_at lw_m13 159 rfl) rfl
theorem q3134 : (Jvm.Cond.code ({ cls := "FloatingDock", name := "failedCommand", desc := "()I" } : Jvm.MethodName) prog_1_method_61_code (1 : Nat) (Option.some Jvm.ClassFile.FieldType.int)) ∈ lw_all := lw_g (lw_at lw_m13 160 rfl) rfl
theorem q3139 : (Jvm.Cond.instanceMethod ({ cls := "FloatingDock", name := "describeBill", desc := "(I)I" } : Jvm.MethodName)) ∈ lw_all := lw_g (lw_at lw_m13 165 rfl) rfl
theorem q3140 : (Jvm.Cond.selects "FloatingDock" ({ cls := "FloatingDock", name := "describeBill", desc := "(I)I" } : Jvm.MethodName) ({ cls := "FloatingDock", name := "describeBill", desc := "(I)I" } : Jvm.MethodName)) ∈ lw_all := lw_g (lw_at lw_m13 166 rfl) rfl
theorem q3141 : (Jvm.Cond.code ({ cls := "FloatingDock", name := "describeBill", desc := "(I)I" } : Jvm.MethodName) prog_1_method_63_code (2 : Nat) (Option.some Jvm.ClassFile.FieldType.int)) ∈ lw_all := lw_g (lw_at lw_m13 167 rfl) rfl
theorem q3142 : (Jvm.Cond.methodLink "FloatingDock" (321 : Nat) ({ cls := "FloatingDock$Ship", name := "describeBill", desc := "(I)Ljava/lang/String;" } : Jvm.MethodName)) ∈ lw_all := lw_g (lw_at lw_m13 168 rfl) rfl
theorem q3159 : (Jvm.Cond.instanceMethod ({ cls := "FloatingDock", name := "lineAt", desc := "(I)C" } : Jvm.MethodName)) ∈ lw_all := lw_g (lw_at lw_m13 185 rfl) rfl
theorem q3160 : (Jvm.Cond.selects "FloatingDock" ({ cls := "FloatingDock", name := "lineAt", desc := "(I)C" } : Jvm.MethodName) ({ cls := "FloatingDock", name := "lineAt", desc := "(I)C" } : Jvm.MethodName)) ∈ lw_all := lw_g (lw_at lw_m13 186 rfl) rfl
theorem q3161 : (Jvm.Cond.code ({ cls := "FloatingDock", name := "lineAt", desc := "(I)C" } : Jvm.MethodName) prog_1_method_64_code (2 : Nat) (Option.some Jvm.ClassFile.FieldType.char)) ∈ lw_all := lw_g (lw_at lw_m13 187 rfl) rfl
theorem q3162 : (Jvm.Cond.methodLink "FloatingDock" (325 : Nat) ({ cls := "FloatingDock", name := "checkIndex", desc := "(II)V" } : Jvm.MethodName)) ∈ lw_all := lw_g (lw_at lw_m13 188 rfl) rfl
theorem q3163 : (Jvm.Cond.methodLink "FloatingDock" (329 : Nat) ({ cls := "java/lang/String", name := "charAt", desc := "(I)C" } : Jvm.MethodName)) ∈ lw_all := lw_g (lw_at lw_m13 189 rfl) rfl
theorem q3182 : (Jvm.Cond.instanceMethod ({ cls := "FloatingDock", name := "meanDirt", desc := "()D" } : Jvm.MethodName)) ∈ lw_all := lw_g (lw_at lw_m13 208 rfl) rfl
theorem q3183 : (Jvm.Cond.selects "FloatingDock" ({ cls := "FloatingDock", name := "meanDirt", desc := "()D" } : Jvm.MethodName) ({ cls := "FloatingDock", name := "meanDirt", desc := "()D" } : Jvm.MethodName)) ∈ lw_all := lw_g (lw_at lw_m13 209 rfl) rfl
theorem q3184 : (Jvm.Cond.code ({ cls := "FloatingDock", name := "meanDirt", desc := "()D" } : Jvm.MethodName) prog_1_method_65_code (1 : Nat) (Option.some Jvm.ClassFile.FieldType.double)) ∈ lw_all := lw_g (lw_at lw_m13 210 rfl) rfl
theorem q3185 : (Jvm.Cond.methodLink "FloatingDock" (333 : Nat) ({ cls := "FloatingDock$Yard", name := "meanDirt", desc := "()D" } : Jvm.MethodName)) ∈ lw_all := lw_g (lw_at lw_m13 211 rfl) rfl
theorem q3204 : (Jvm.Cond.instanceMethod ({ cls := "FloatingDock", name := "undo", desc := "()I" } : Jvm.MethodName)) ∈ lw_all := lw_g (lw_at lw_m13 230 rfl) rfl
theorem q3205 : (Jvm.Cond.selects "FloatingDock" ({ cls := "FloatingDock", name := "undo", desc := "()I" } : Jvm.MethodName) ({ cls := "FloatingDock", name := "undo", desc := "()I" } : Jvm.MethodName)) ∈ lw_all := lw_g (lw_at lw_m13 231 rfl) rfl
theorem q3206 : (Jvm.Cond.code ({ cls := "FloatingDock", name := "undo", desc := "()I" } : Jvm.MethodName) prog_1_method_68_code (1 : Nat) (Option.some Jvm.ClassFile.FieldType.int)) ∈ lw_all := lw_g (lw_at lw_m13 232 rfl) rfl
theorem q3207 : (Jvm.Cond.methodLink "FloatingDock" (345 : Nat) ({ cls := "java/util/ArrayDeque", name := "isEmpty", desc := "()Z" } : Jvm.MethodName)) ∈ lw_all := lw_g (lw_at lw_m13 233 rfl) rfl
theorem q3211 : (Jvm.Cond.methodLink "FloatingDock" (348 : Nat) ({ cls := "java/util/ArrayDeque", name := "removeLast", desc := "()Ljava/lang/Object;" } : Jvm.MethodName)) ∈ lw_all := lw_g (lw_at lw_m13 237 rfl) rfl
theorem q3226 : (Jvm.Cond.instanceMethod ({ cls := "FloatingDock", name := "restore", desc := "()I" } : Jvm.MethodName)) ∈ lw_all := lw_g (lw_at lw_m14 12 rfl) rfl
theorem q3227 : (Jvm.Cond.selects "FloatingDock" ({ cls := "FloatingDock", name := "restore", desc := "()I" } : Jvm.MethodName) ({ cls := "FloatingDock", name := "restore", desc := "()I" } : Jvm.MethodName)) ∈ lw_all := lw_g (lw_at lw_m14 13 rfl) rfl
theorem q3228 : (Jvm.Cond.code ({ cls := "FloatingDock", name := "restore", desc := "()I" } : Jvm.MethodName) prog_1_method_70_code (1 : Nat) (Option.some Jvm.ClassFile.FieldType.int)) ∈ lw_all := lw_g (lw_at lw_m14 14 rfl) rfl
theorem q3229 : (Jvm.Cond.methodLink "FloatingDock" (354 : Nat) ({ cls := "java/util/ArrayDeque", name := "clear", desc := "()V" } : Jvm.MethodName)) ∈ lw_all := lw_g (lw_at lw_m14 15 rfl) rfl
theorem q3797 : (Jvm.Cond.castable "FloatingDock" "java/lang/Object") ∈ lw_tbl := lw_at lw_m16 103 rfl
theorem in_X1 : ∀ w ∈ wsX10, w ∈ lw_all := lw_in wsX10 [1394, 1396, 1398, 1400, 1402, 1404, 1406, 1408, 1410, 1412, 1414] (by decide +kernel) (by decide +kernel)

/-! FloatingDock$Yard -/
def RX2 : String := "FloatingDock$Yard"
def TX2 : u_T := fun k => match k with
  | 0 => ("FloatingDock$Yard", "ships", "Ljava/util/LinkedHashMap;", true)
  | 1 => ("FloatingDock$Yard", "blocks", "Ljava/util/HashSet;", true)
  | 2 => ("FloatingDock$Yard", "nextId", "I", false)
  | 3 => ("FloatingDock$Yard", "level", "I", false)
  | 4 => ("FloatingDock$Yard", "hour", "I", false)
  | 5 => ("FloatingDock$Yard", "pump", "I", false)
  | 6 => ("FloatingDock$Yard", "isGateOpen", "Z", false)
  | 7 => ("FloatingDock$Yard", "cleaned", "I", false)
  | 8 => ("FloatingDock$Yard", "charged", "I", false)
  | _ => ("FloatingDock$Yard", "paid", "I", false)
def tyX2 : Nat → FieldType := fun k => match k with
  | 0 => .object "java/util/LinkedHashMap"
  | 1 => .object "java/util/HashSet"
  | 2 => .int
  | 3 => .int
  | 4 => .int
  | 5 => .int
  | 6 => .boolean
  | 7 => .int
  | 8 => .int
  | _ => .int
abbrev wsX20 : List Cond := u_ws RX2 TX2 10
theorem nmX2 : ∀ a, a < 10 → ∀ b, b < 10 → a ≠ b → (TX2 a).2.1 ≠ (TX2 b).2.1 := by decide +kernel
theorem tyX2_ok : ∀ k, k < 10 → parseFieldDescriptor (TX2 k).2.2.1 = some (tyX2 k) := by decide +kernel
abbrev cX2_init : ByteArray := prog_14_method_1_code
def yX2_init : MethodName := ⟨RX2, "<init>", "()V"⟩
abbrev cX2_firstGapByTrying : ByteArray := prog_14_method_33_code
def yX2_firstGapByTrying : MethodName := ⟨RX2, "firstGapByTrying", "(I)I"⟩
abbrev cX2_taken : ByteArray := prog_14_method_31_code
def yX2_taken : MethodName := ⟨RX2, "taken", "()Ljava/util/BitSet;"⟩
abbrev cX2_firstGapByShips : ByteArray := prog_14_method_34_code
def yX2_firstGapByShips : MethodName := ⟨RX2, "firstGapByShips", "(I)I"⟩
abbrev cX2_gaps : ByteArray := prog_14_method_35_code
def yX2_gaps : MethodName := ⟨RX2, "gaps", "()Ljava/util/ArrayList;"⟩
abbrev cX2_shipsByPosition : ByteArray := prog_14_method_6_code
def yX2_shipsByPosition : MethodName := ⟨RX2, "shipsByPosition", "()Ljava/util/ArrayList;"⟩
abbrev cX2_mostByTrying : ByteArray := prog_14_method_37_code
def yX2_mostByTrying : MethodName := ⟨RX2, "mostByTrying", "()I"⟩
abbrev cX2_waiting : ByteArray := prog_14_method_36_code
def yX2_waiting : MethodName := ⟨RX2, "waiting", "()Ljava/util/ArrayList;"⟩
abbrev cX2_mostByTable : ByteArray := prog_14_method_40_code
def yX2_mostByTable : MethodName := ⟨RX2, "mostByTable", "()I"⟩
abbrev cX2_lengths : ByteArray := prog_14_method_38_code
def yX2_lengths : MethodName := ⟨RX2, "lengths", "(Ljava/util/ArrayList;)[I"⟩
abbrev cX2_fitting : ByteArray := prog_14_method_39_code
def yX2_fitting : MethodName := ⟨RX2, "fitting", "([I)[Z"⟩
abbrev cX2_freeMetres : ByteArray := prog_14_method_32_code
def yX2_freeMetres : MethodName := ⟨RX2, "freeMetres", "()I"⟩
abbrev cX2_mostMetres : ByteArray := prog_14_method_41_code
def yX2_mostMetres : MethodName := ⟨RX2, "mostMetres", "()I"⟩
abbrev cX2_bills : ByteArray := prog_14_method_43_code
def yX2_bills : MethodName := ⟨RX2, "bills", "()I"⟩
abbrev cX2_describe : ByteArray := prog_14_method_46_code
def yX2_describe : MethodName := ⟨RX2, "describe", "()Ljava/lang/String;"⟩
abbrev cX2_shipAtPosition : ByteArray := prog_14_method_7_code
def yX2_shipAtPosition : MethodName := ⟨RX2, "shipAtPosition", "(I)LFloatingDock$Ship;"⟩
abbrev cX2_hasBlock : ByteArray := prog_14_method_25_code
def yX2_hasBlock : MethodName := ⟨RX2, "hasBlock", "(I)Z"⟩
abbrev cX2_isConsistent : ByteArray := prog_14_method_49_code
def yX2_isConsistent : MethodName := ⟨RX2, "isConsistent", "()Z"⟩
abbrev cX2_areApart : ByteArray := prog_14_method_47_code
def yX2_areApart : MethodName := ⟨RX2, "areApart", "()Z"⟩
abbrev cX2_blocksBeneath : ByteArray := prog_14_method_29_code
def yX2_blocksBeneath : MethodName := ⟨RX2, "blocksBeneath", "(LFloatingDock$Ship;)I"⟩
abbrev cX2_blocksBeneathByMetres : ByteArray := prog_14_method_30_code
def yX2_blocksBeneathByMetres : MethodName := ⟨RX2, "blocksBeneathByMetres", "(LFloatingDock$Ship;)I"⟩
abbrev cX2_areGapsAlike : ByteArray := prog_14_method_48_code
def yX2_areGapsAlike : MethodName := ⟨RX2, "areGapsAlike", "([LFloatingDock$GapFinder;)Z"⟩
abbrev cX2_init_2 : ByteArray := prog_14_method_2_code
def yX2_init_2 : MethodName := ⟨RX2, "<init>", "(LFloatingDock$Yard;)V"⟩
abbrev cX2_addShip : ByteArray := prog_14_method_9_code
def yX2_addShip : MethodName := ⟨RX2, "addShip", "(III)I"⟩
abbrev cX2_removeShip : ByteArray := prog_14_method_10_code
def yX2_removeShip : MethodName := ⟨RX2, "removeShip", "(I)I"⟩
abbrev cX2_ship : ByteArray := prog_14_method_3_code
def yX2_ship : MethodName := ⟨RX2, "ship", "(I)LFloatingDock$Ship;"⟩
abbrev cX2_enter : ByteArray := prog_14_method_12_code
def yX2_enter : MethodName := ⟨RX2, "enter", "(II)I"⟩
abbrev cX2_isFree : ByteArray := prog_14_method_11_code
def yX2_isFree : MethodName := ⟨RX2, "isFree", "(LFloatingDock$Stretch;)Z"⟩
abbrev cX2_countInDock : ByteArray := prog_14_method_8_code
def yX2_countInDock : MethodName := ⟨RX2, "countInDock", "()I"⟩
abbrev cX2_leave : ByteArray := prog_14_method_13_code
def yX2_leave : MethodName := ⟨RX2, "leave", "(I)I"⟩
abbrev cX2_shipInDock : ByteArray := prog_14_method_4_code
def yX2_shipInDock : MethodName := ⟨RX2, "shipInDock", "(I)LFloatingDock$Ship;"⟩
abbrev cX2_setCleaning : ByteArray := prog_14_method_14_code
def yX2_setCleaning : MethodName := ⟨RX2, "setCleaning", "(IZ)I"⟩
abbrev cX2_shipAt : ByteArray := prog_14_method_5_code
def yX2_shipAt : MethodName := ⟨RX2, "shipAt", "(I)I"⟩
abbrev cX2_positionOf : ByteArray := prog_14_method_15_code
def yX2_positionOf : MethodName := ⟨RX2, "positionOf", "(I)I"⟩
abbrev cX2_setGate : ByteArray := prog_14_method_16_code
def yX2_setGate : MethodName := ⟨RX2, "setGate", "(Z)I"⟩
abbrev cX2_setPump : ByteArray := prog_14_method_17_code
def yX2_setPump : MethodName := ⟨RX2, "setPump", "(I)I"⟩
abbrev cX2_pass : ByteArray := prog_14_method_22_code
def yX2_pass : MethodName := ⟨RX2, "pass", "(I[LFloatingDock$Charge;)I"⟩
abbrev cX2_passHour : ByteArray := prog_14_method_21_code
def yX2_passHour : MethodName := ⟨RX2, "passHour", "([LFloatingDock$Charge;)V"⟩
abbrev cX2_changeLevel : ByteArray := prog_14_method_19_code
def yX2_changeLevel : MethodName := ⟨RX2, "changeLevel", "()V"⟩
abbrev cX2_limited : ByteArray := prog_14_method_18_code
def yX2_limited : MethodName := ⟨RX2, "limited", "(III)I"⟩
abbrev cX2_spendHour : ByteArray := prog_14_method_20_code
def yX2_spendHour : MethodName := ⟨RX2, "spendHour", "(LFloatingDock$Ship;[LFloatingDock$Charge;)V"⟩
abbrev cX2_levelAfter : ByteArray := prog_14_method_23_code
def yX2_levelAfter : MethodName := ⟨RX2, "levelAfter", "(I[LFloatingDock$Charge;)I"⟩
abbrev cX2_hoursUntilAfloat : ByteArray := prog_14_method_24_code
def yX2_hoursUntilAfloat : MethodName := ⟨RX2, "hoursUntilAfloat", "(I[LFloatingDock$Charge;)I"⟩
abbrev cX2_placeBlock : ByteArray := prog_14_method_27_code
def yX2_placeBlock : MethodName := ⟨RX2, "placeBlock", "(I)I"⟩
abbrev cX2_isWorkable : ByteArray := prog_14_method_26_code
def yX2_isWorkable : MethodName := ⟨RX2, "isWorkable", "(I)Z"⟩
abbrev cX2_removeBlock : ByteArray := prog_14_method_28_code
def yX2_removeBlock : MethodName := ⟨RX2, "removeBlock", "(I)I"⟩
abbrev cX2_pay : ByteArray := prog_14_method_42_code
def yX2_pay : MethodName := ⟨RX2, "pay", "(II)I"⟩
abbrev cX2_shipAtRank : ByteArray := prog_14_method_44_code
def yX2_shipAtRank : MethodName := ⟨RX2, "shipAtRank", "(I)I"⟩
abbrev cX2_meanDirt : ByteArray := prog_14_method_45_code
def yX2_meanDirt : MethodName := ⟨RX2, "meanDirt", "()D"⟩
theorem q96 : (Jvm.Cond.initialized "FloatingDock$Yard") ∈ lw_all := lw_g (lw_at lw_m1 2 rfl) rfl
theorem q173 : (Jvm.Cond.instantiable "FloatingDock$Yard" (10 : Nat)) ∈ lw_all := lw_g (lw_at lw_m1 79 rfl) rfl
theorem q175 : (Jvm.Cond.instanceMethod ({ cls := "FloatingDock$Yard", name := "<init>", desc := "()V" } : Jvm.MethodName)) ∈ lw_all := lw_g (lw_at lw_m1 81 rfl) rfl
theorem q176 : (Jvm.Cond.code ({ cls := "FloatingDock$Yard", name := "<init>", desc := "()V" } : Jvm.MethodName) prog_14_method_1_code (1 : Nat) (Option.none : Option Jvm.ClassFile.FieldType)) ∈ lw_all := lw_g (lw_at lw_m1 82 rfl) rfl
theorem q177 : (Jvm.Cond.methodLink "FloatingDock$Yard" (3 : Nat) ({ cls := "java/lang/Object", name := "<init>", desc := "()V" } : Jvm.MethodName)) ∈ lw_all := lw_g (lw_at lw_m1 83 rfl) rfl
theorem q178 : (Jvm.Cond.classLink "FloatingDock$Yard" (9 : Nat) "java/util/LinkedHashMap") ∈ lw_all := lw_g (lw_at lw_m1 84 rfl) rfl
theorem q180 : (Jvm.Cond.methodLink "FloatingDock$Yard" (11 : Nat) ({ cls := "java/util/LinkedHashMap", name := "<init>", desc := "()V" } : Jvm.MethodName)) ∈ lw_all := lw_g (lw_at lw_m1 86 rfl) rfl
theorem q239 : (Jvm.Cond.classLink "FloatingDock$Yard" (18 : Nat) "java/util/HashSet") ∈ lw_all := lw_g (lw_at lw_m1 145 rfl) rfl
theorem q241 : (Jvm.Cond.methodLink "FloatingDock$Yard" (20 : Nat) ({ cls := "java/util/HashSet", name := "<init>", desc := "()V" } : Jvm.MethodName)) ∈ lw_all := lw_g (lw_at lw_m1 147 rfl) rfl
theorem q267 : (Jvm.Cond.fieldLink "FloatingDock$Yard" (12 : Nat) "FloatingDock$Yard" "ships" "Ljava/util/LinkedHashMap;") ∈ lw_all := lw_g (lw_at lw_m1 173 rfl) rfl
theorem q269 : (Jvm.Cond.fieldLink "FloatingDock$Yard" (21 : Nat) "FloatingDock$Yard" "blocks" "Ljava/util/HashSet;") ∈ lw_all := lw_g (lw_at lw_m1 175 rfl) rfl
theorem q270 : (Jvm.Cond.fieldLink "FloatingDock$Yard" (81 : Nat) "FloatingDock$Yard" "nextId" "I") ∈ lw_all := lw_g (lw_at lw_m1 176 rfl) rfl
theorem q271 : (Jvm.Cond.fieldLink "FloatingDock$Yard" (25 : Nat) "FloatingDock$Yard" "level" "I") ∈ lw_all := lw_g (lw_at lw_m1 177 rfl) rfl
theorem q273 : (Jvm.Cond.fieldLink "FloatingDock$Yard" (29 : Nat) "FloatingDock$Yard" "hour" "I") ∈ lw_all := lw_g (lw_at lw_m1 179 rfl) rfl
theorem q275 : (Jvm.Cond.fieldLink "FloatingDock$Yard" (84 : Nat) "FloatingDock$Yard" "pump" "I") ∈ lw_all := lw_g (lw_at lw_m1 181 rfl) rfl
theorem q276 : (Jvm.Cond.fieldLink "FloatingDock$Yard" (32 : Nat) "FloatingDock$Yard" "isGateOpen" "Z") ∈ lw_all := lw_g (lw_at lw_m1 182 rfl) rfl
theorem q278 : (Jvm.Cond.fieldLink "FloatingDock$Yard" (87 : Nat) "FloatingDock$Yard" "cleaned" "I") ∈ lw_all := lw_g (lw_at lw_m1 184 rfl) rfl
theorem q279 : (Jvm.Cond.fieldLink "FloatingDock$Yard" (90 : Nat) "FloatingDock$Yard" "charged" "I") ∈ lw_all := lw_g (lw_at lw_m1 185 rfl) rfl
theorem q281 : (Jvm.Cond.fieldLink "FloatingDock$Yard" (93 : Nat) "FloatingDock$Yard" "paid" "I") ∈ lw_all := lw_g (lw_at lw_m1 187 rfl) rfl
theorem q283 : (Jvm.Cond.laysFinal "FloatingDock$Yard" "FloatingDock$Yard" "ships" "Ljava/util/LinkedHashMap;") ∈ lw_all := lw_g (lw_at lw_m1 189 rfl) rfl
theorem q284 : (Jvm.Cond.soleField "FloatingDock$Yard" "ships") ∈ lw_all := lw_g (lw_at lw_m1 190 rfl) rfl
theorem q285 : (Jvm.Cond.laysFinal "FloatingDock$Yard" "FloatingDock$Yard" "blocks" "Ljava/util/HashSet;") ∈ lw_all := lw_g (lw_at lw_m1 191 rfl) rfl
theorem q286 : (Jvm.Cond.soleField "FloatingDock$Yard" "blocks") ∈ lw_all := lw_g (lw_at lw_m1 192 rfl) rfl
theorem q287 : (Jvm.Cond.lays "FloatingDock$Yard" "FloatingDock$Yard" "nextId" "I") ∈ lw_all := lw_g (lw_at lw_m1 193 rfl) rfl
theorem q288 : (Jvm.Cond.soleField "FloatingDock$Yard" "nextId") ∈ lw_all := lw_g (lw_at lw_m1 194 rfl) rfl
theorem q289 : (Jvm.Cond.lays "FloatingDock$Yard" "FloatingDock$Yard" "level" "I") ∈ lw_all := lw_g (lw_at lw_m1 195 rfl) rfl
theorem q290 : (Jvm.Cond.soleField "FloatingDock$Yard" "level") ∈ lw_all := lw_g (lw_at lw_m1 196 rfl) rfl
theorem q291 : (Jvm.Cond.lays "FloatingDock$Yard" "FloatingDock$Yard" "hour" "I") ∈ lw_all := lw_g (lw_at lw_m1 197 rfl) rfl
theorem q292 : (Jvm.Cond.soleField "FloatingDock$Yard" "hour") ∈ lw_all := lw_g (lw_at lw_m1 198 rfl) rfl
theorem q293 : (Jvm.Cond.lays "FloatingDock$Yard" "FloatingDock$Yard" "pump" "I") ∈ lw_all := lw_g (lw_at lw_m1 199 rfl) rfl
theorem q294 : (Jvm.Cond.soleField "FloatingDock$Yard" "pump") ∈ lw_all := lw_g (lw_at lw_m1 200 rfl) rfl
theorem q295 : (Jvm.Cond.lays "FloatingDock$Yard" "FloatingDock$Yard" "isGateOpen" "Z") ∈ lw_all := lw_g (lw_at lw_m1 201 rfl) rfl
theorem q296 : (Jvm.Cond.soleField "FloatingDock$Yard" "isGateOpen") ∈ lw_all := lw_g (lw_at lw_m1 202 rfl) rfl
theorem q297 : (Jvm.Cond.lays "FloatingDock$Yard" "FloatingDock$Yard" "cleaned" "I") ∈ lw_all := lw_g (lw_at lw_m1 203 rfl) rfl
theorem q298 : (Jvm.Cond.soleField "FloatingDock$Yard" "cleaned") ∈ lw_all := lw_g (lw_at lw_m1 204 rfl) rfl
theorem q299 : (Jvm.Cond.lays "FloatingDock$Yard" "FloatingDock$Yard" "charged" "I") ∈ lw_all := lw_g (lw_at lw_m1 205 rfl) rfl
theorem q300 : (Jvm.Cond.soleField "FloatingDock$Yard" "charged") ∈ lw_all := lw_g (lw_at lw_m1 206 rfl) rfl
theorem q301 : (Jvm.Cond.lays "FloatingDock$Yard" "FloatingDock$Yard" "paid" "I") ∈ lw_all := lw_g (lw_at lw_m1 207 rfl) rfl
theorem q302 : (Jvm.Cond.soleField "FloatingDock$Yard" "paid") ∈ lw_all := lw_g (lw_at lw_m1 208 rfl) rfl
theorem q303 : (Jvm.Cond.superclass "FloatingDock$Yard" "java/lang/Object") ∈ lw_all := lw_g (lw_at lw_m1 209 rfl) rfl
theorem q382 : (Jvm.Cond.instanceMethod ({ cls := "FloatingDock$Yard", name := "firstGapByTrying", desc := "(I)I" } : Jvm.MethodName)) ∈ lw_all := lw_g (lw_at lw_m2 48 rfl) rfl
theorem q383 : (Jvm.Cond.selects "FloatingDock$Yard" ({ cls := "FloatingDock$Yard", name := "firstGapByTrying", desc := "(I)I" } : Jvm.MethodName) ({ cls := "FloatingDock$Yard", name := "firstGapByTrying", desc := "(I)I" } : Jvm.MethodName)) ∈ lw_all := lw_g (lw_at lw_m2 49 rfl) rfl
theorem q384 : (Jvm.Cond.code ({ cls := "FloatingDock$Yard", name := "firstGapByTrying", desc := "(I)I" } : Jvm.MethodName) prog_14_method_33_code (5 : Nat) (Option.some Jvm.ClassFile.FieldType.int)) ∈ lw_all := lw_g (lw_at lw_m2 50 rfl) rfl
theorem q385 : (Jvm.Cond.methodLink "FloatingDock$Yard" (298 : Nat) ({ cls := "FloatingDock$Yard", name := "taken", desc := "()Ljava/util/BitSet;" } : Jvm.MethodName)) ∈ lw_all := lw_g (lw_at lw_m2 51 rfl) rfl
theorem q386 : (Jvm.Cond.instanceMethod ({ cls := "FloatingDock$Yard", name := "taken", desc := "()Ljava/util/BitSet;" } : Jvm.MethodName)) ∈ lw_all := lw_g (lw_at lw_m2 52 rfl) rfl
theorem q387 : (Jvm.Cond.selects "FloatingDock$Yard" ({ cls := "FloatingDock$Yard", name := "taken", desc := "()Ljava/util/BitSet;" } : Jvm.MethodName) ({ cls := "FloatingDock$Yard", name := "taken", desc := "()Ljava/util/BitSet;" } : Jvm.MethodName)) ∈ lw_all := lw_g (lw_at lw_m2 53 rfl) rfl
theorem q388 : (Jvm.Cond.code ({ cls := "FloatingDock$Yard", name := "taken", desc := "()Ljava/util/BitSet;" } : Jvm.MethodName) prog_14_method_31_code (4 : Nat) (Option.some (Jvm.ClassFile.FieldType.object "java/util/BitSet"))) ∈ lw_all := lw_g (lw_at lw_m2 54 rfl) rfl
theorem q389 : (Jvm.Cond.classLink "FloatingDock$Yard" (289 : Nat) "java/util/BitSet") ∈ lw_all := lw_g (lw_at lw_m2 55 rfl) rfl
theorem q391 : (Jvm.Cond.methodLink "FloatingDock$Yard" (291 : Nat) ({ cls := "java/util/BitSet", name := "<init>", desc := "(I)V" } : Jvm.MethodName)) ∈ lw_all := lw_g (lw_at lw_m2 57 rfl) rfl
theorem q413 : (Jvm.Cond.methodLink "FloatingDock$Yard" (36 : Nat) ({ cls := "java/util/LinkedHashMap", name := "values", desc := "()Ljava/util/Collection;" } : Jvm.MethodName)) ∈ lw_all := lw_g (lw_at lw_m2 79 rfl) rfl
theorem q435 : (Jvm.Cond.interfaceEntry "FloatingDock$Yard" (40 : Nat)) ∈ lw_tbl := lw_at lw_m2 101 rfl
theorem q436 : (Jvm.Cond.methodLink "FloatingDock$Yard" (40 : Nat) ({ cls := "java/util/Collection", name := "iterator", desc := "()Ljava/util/Iterator;" } : Jvm.MethodName)) ∈ lw_all := lw_g (lw_at lw_m2 102 rfl) rfl
theorem q628 : (Jvm.Cond.interfaceEntry "FloatingDock$Yard" (46 : Nat)) ∈ lw_tbl := lw_at lw_m3 54 rfl
theorem q629 : (Jvm.Cond.methodLink "FloatingDock$Yard" (46 : Nat) ({ cls := "java/util/Iterator", name := "hasNext", desc := "()Z" } : Jvm.MethodName)) ∈ lw_all := lw_g (lw_at lw_m3 55 rfl) rfl
theorem q669 : (Jvm.Cond.interfaceEntry "FloatingDock$Yard" (52 : Nat)) ∈ lw_tbl := lw_at lw_m3 95 rfl
theorem q670 : (Jvm.Cond.methodLink "FloatingDock$Yard" (52 : Nat) ({ cls := "java/util/Iterator", name := "next", desc := "()Ljava/lang/Object;" } : Jvm.MethodName)) ∈ lw_all := lw_g (lw_at lw_m3 96 rfl) rfl
theorem q836 : (Jvm.Cond.classLink "FloatingDock$Yard" (56 : Nat) "FloatingDock$Ship") ∈ lw_all := lw_g (lw_at lw_m4 22 rfl) rfl
theorem q837 : (Jvm.Cond.methodLink "FloatingDock$Yard" (111 : Nat) ({ cls := "FloatingDock$Ship", name := "isInDock", desc := "()Z" } : Jvm.MethodName)) ∈ lw_all := lw_g (lw_at lw_m4 23 rfl) rfl
theorem q838 : (Jvm.Cond.methodLink "FloatingDock$Yard" (292 : Nat) ({ cls := "FloatingDock$Stretch", name := "end", desc := "()I" } : Jvm.MethodName)) ∈ lw_all := lw_g (lw_at lw_m4 24 rfl) rfl
theorem q839 : (Jvm.Cond.methodLink "FloatingDock$Yard" (295 : Nat) ({ cls := "java/util/BitSet", name := "set", desc := "(II)V" } : Jvm.MethodName)) ∈ lw_all := lw_g (lw_at lw_m4 25 rfl) rfl
theorem q1125 : (Jvm.Cond.methodLink "FloatingDock$Yard" (305 : Nat) ({ cls := "java/util/BitSet", name := "nextSetBit", desc := "(I)I" } : Jvm.MethodName)) ∈ lw_all := lw_g (lw_at lw_m5 71 rfl) rfl
theorem q1139 : (Jvm.Cond.instanceMethod ({ cls := "FloatingDock$Yard", name := "firstGapByShips", desc := "(I)I" } : Jvm.MethodName)) ∈ lw_all := lw_g (lw_at lw_m5 85 rfl) rfl
theorem q1140 : (Jvm.Cond.selects "FloatingDock$Yard" ({ cls := "FloatingDock$Yard", name := "firstGapByShips", desc := "(I)I" } : Jvm.MethodName) ({ cls := "FloatingDock$Yard", name := "firstGapByShips", desc := "(I)I" } : Jvm.MethodName)) ∈ lw_all := lw_g (lw_at lw_m5 86 rfl) rfl
theorem q1141 : (Jvm.Cond.code ({ cls := "FloatingDock$Yard", name := "firstGapByShips", desc := "(I)I" } : Jvm.MethodName) prog_14_method_34_code (4 : Nat) (Option.some Jvm.ClassFile.FieldType.int)) ∈ lw_all := lw_g (lw_at lw_m5 87 rfl) rfl
theorem q1142 : (Jvm.Cond.methodLink "FloatingDock$Yard" (308 : Nat) ({ cls := "FloatingDock$Yard", name := "gaps", desc := "()Ljava/util/ArrayList;" } : Jvm.MethodName)) ∈ lw_all := lw_g (lw_at lw_m5 88 rfl) rfl
theorem q1143 : (Jvm.Cond.instanceMethod ({ cls := "FloatingDock$Yard", name := "gaps", desc := "()Ljava/util/ArrayList;" } : Jvm.MethodName)) ∈ lw_all := lw_g (lw_at lw_m5 89 rfl) rfl
theorem q1144 : (Jvm.Cond.selects "FloatingDock$Yard" ({ cls := "FloatingDock$Yard", name := "gaps", desc := "()Ljava/util/ArrayList;" } : Jvm.MethodName) ({ cls := "FloatingDock$Yard", name := "gaps", desc := "()Ljava/util/ArrayList;" } : Jvm.MethodName)) ∈ lw_all := lw_g (lw_at lw_m5 90 rfl) rfl
theorem q1145 : (Jvm.Cond.code ({ cls := "FloatingDock$Yard", name := "gaps", desc := "()Ljava/util/ArrayList;" } : Jvm.MethodName) prog_14_method_35_code (5 : Nat) (Option.some (Jvm.ClassFile.FieldType.object "java/util/ArrayList"))) ∈ lw_all := lw_g (lw_at lw_m5 91 rfl) rfl
theorem q1146 : (Jvm.Cond.classLink "FloatingDock$Yard" (135 : Nat) "java/util/ArrayList") ∈ lw_all := lw_g (lw_at lw_m5 92 rfl) rfl
theorem q1148 : (Jvm.Cond.methodLink "FloatingDock$Yard" (137 : Nat) ({ cls := "java/util/ArrayList", name := "<init>", desc := "(I)V" } : Jvm.MethodName)) ∈ lw_all := lw_g (lw_at lw_m5 94 rfl) rfl
theorem q1181 : (Jvm.Cond.methodLink "FloatingDock$Yard" (314 : Nat) ({ cls := "FloatingDock$Yard", name := "shipsByPosition", desc := "()Ljava/util/ArrayList;" } : Jvm.MethodName)) ∈ lw_all := lw_g (lw_at lw_m5 127 rfl) rfl
theorem q1182 : (Jvm.Cond.instanceMethod ({ cls := "FloatingDock$Yard", name := "shipsByPosition", desc := "()Ljava/util/ArrayList;" } : Jvm.MethodName)) ∈ lw_all := lw_g (lw_at lw_m5 128 rfl) rfl
theorem q1183 : (Jvm.Cond.selects "FloatingDock$Yard" ({ cls := "FloatingDock$Yard", name := "shipsByPosition", desc := "()Ljava/util/ArrayList;" } : Jvm.MethodName) ({ cls := "FloatingDock$Yard", name := "shipsByPosition", desc := "()Ljava/util/ArrayList;" } : Jvm.MethodName)) ∈ lw_all := lw_g (lw_at lw_m5 129 rfl) rfl
theorem q1184 : (Jvm.Cond.code ({ cls := "FloatingDock$Yard", name := "shipsByPosition", desc := "()Ljava/util/ArrayList;" } : Jvm.MethodName) prog_14_method_6_code (5 : Nat) (Option.some (Jvm.ClassFile.FieldType.object "java/util/ArrayList"))) ∈ lw_all := lw_g (lw_at lw_m5 130 rfl) rfl
theorem q1185 : (Jvm.Cond.methodLink "FloatingDock$Yard" (140 : Nat) ({ cls := "java/util/ArrayList", name := "size", desc := "()I" } : Jvm.MethodName)) ∈ lw_all := lw_g (lw_at lw_m5 131 rfl) rfl
theorem q1189 : (Jvm.Cond.methodLink "FloatingDock$Yard" (141 : Nat) ({ cls := "java/util/ArrayList", name := "get", desc := "(I)Ljava/lang/Object;" } : Jvm.MethodName)) ∈ lw_all := lw_g (lw_at lw_m5 135 rfl) rfl
theorem q1203 : (Jvm.Cond.methodLink "FloatingDock$Yard" (153 : Nat) ({ cls := "java/util/ArrayList", name := "add", desc := "(ILjava/lang/Object;)V" } : Jvm.MethodName)) ∈ lw_all := lw_g (lw_at lw_m5 149 rfl) rfl
theorem q1245 : (Jvm.Cond.selects "FloatingDock$Yard" ({ cls := "java/lang/Object", name := "getClass", desc := "()Ljava/lang/Class;" } : Jvm.MethodName) ({ cls := "java/lang/Object", name := "getClass", desc := "()Ljava/lang/Class;" } : Jvm.MethodName)) ∈ lw_all := lw_g (lw_at lw_m5 191 rfl) rfl
theorem q1286 : (Jvm.Cond.methodLink "FloatingDock$Yard" (312 : Nat) ({ cls := "java/util/ArrayList", name := "iterator", desc := "()Ljava/util/Iterator;" } : Jvm.MethodName)) ∈ lw_all := lw_g (lw_at lw_m5 232 rfl) rfl
theorem q1287 : (Jvm.Cond.classLink "FloatingDock$Yard" (149 : Nat) "FloatingDock$Stretch") ∈ lw_all := lw_g (lw_at lw_m5 233 rfl) rfl
theorem q1289 : (Jvm.Cond.methodLink "FloatingDock$Yard" (186 : Nat) ({ cls := "FloatingDock$Stretch", name := "<init>", desc := "(II)V" } : Jvm.MethodName)) ∈ lw_all := lw_g (lw_at lw_m5 235 rfl) rfl
theorem q1295 : (Jvm.Cond.fieldLinkNest "FloatingDock$Yard" (148 : Nat) "FloatingDock$Stretch" "first" "I" "FloatingDock") ∈ lw_tbl := lw_at lw_m6 1 rfl
theorem q1298 : (Jvm.Cond.fieldLinkNest "FloatingDock$Yard" (313 : Nat) "FloatingDock$Stretch" "length" "I" "FloatingDock") ∈ lw_tbl := lw_at lw_m6 4 rfl
theorem q1304 : (Jvm.Cond.methodLink "FloatingDock$Yard" (317 : Nat) ({ cls := "java/util/ArrayList", name := "add", desc := "(Ljava/lang/Object;)Z" } : Jvm.MethodName)) ∈ lw_all := lw_g (lw_at lw_m6 10 rfl) rfl
theorem q1315 : (Jvm.Cond.instanceMethod ({ cls := "FloatingDock$Yard", name := "mostByTrying", desc := "()I" } : Jvm.MethodName)) ∈ lw_all := lw_g (lw_at lw_m6 21 rfl) rfl
theorem q1316 : (Jvm.Cond.selects "FloatingDock$Yard" ({ cls := "FloatingDock$Yard", name := "mostByTrying", desc := "()I" } : Jvm.MethodName) ({ cls := "FloatingDock$Yard", name := "mostByTrying", desc := "()I" } : Jvm.MethodName)) ∈ lw_all := lw_g (lw_at lw_m6 22 rfl) rfl
theorem q1317 : (Jvm.Cond.code ({ cls := "FloatingDock$Yard", name := "mostByTrying", desc := "()I" } : Jvm.MethodName) prog_14_method_37_code (2 : Nat) (Option.some Jvm.ClassFile.FieldType.int)) ∈ lw_all := lw_g (lw_at lw_m6 23 rfl) rfl
theorem q1318 : (Jvm.Cond.classLink "FloatingDock$Yard" (318 : Nat) "FloatingDock$Yard$Search") ∈ lw_all := lw_g (lw_at lw_m6 24 rfl) rfl
theorem q1320 : (Jvm.Cond.methodLink "FloatingDock$Yard" (320 : Nat) ({ cls := "FloatingDock$Yard$Search", name := "<init>", desc := "(LFloatingDock$Yard;)V" } : Jvm.MethodName)) ∈ lw_all := lw_g (lw_at lw_m6 26 rfl) rfl
theorem q1325 : (Jvm.Cond.privateMethod ({ cls := "FloatingDock$Yard", name := "waiting", desc := "()Ljava/util/ArrayList;" } : Jvm.MethodName)) ∈ lw_tbl := lw_at lw_m6 31 rfl
theorem q1326 : (Jvm.Cond.instanceMethod ({ cls := "FloatingDock$Yard", name := "waiting", desc := "()Ljava/util/ArrayList;" } : Jvm.MethodName)) ∈ lw_all := lw_g (lw_at lw_m6 32 rfl) rfl
theorem q1327 : (Jvm.Cond.code ({ cls := "FloatingDock$Yard", name := "waiting", desc := "()Ljava/util/ArrayList;" } : Jvm.MethodName) prog_14_method_36_code (4 : Nat) (Option.some (Jvm.ClassFile.FieldType.object "java/util/ArrayList"))) ∈ lw_all := lw_g (lw_at lw_m6 33 rfl) rfl
theorem q1328 : (Jvm.Cond.methodLink "FloatingDock$Yard" (188 : Nat) ({ cls := "FloatingDock$Ship", name := "isDeepEnough", desc := "(I)Z" } : Jvm.MethodName)) ∈ lw_all := lw_g (lw_at lw_m6 34 rfl) rfl
theorem q1339 : (Jvm.Cond.fieldLinkNest "FloatingDock$Yard" (324 : Nat) "FloatingDock$Yard$Search" "most" "I" "FloatingDock") ∈ lw_tbl := lw_at lw_m6 45 rfl
theorem q1351 : (Jvm.Cond.methodLink "FloatingDock$Yard" (321 : Nat) ({ cls := "FloatingDock$Yard$Search", name := "pack", desc := "(II)V" } : Jvm.MethodName)) ∈ lw_all := lw_g (lw_at lw_m6 57 rfl) rfl
theorem q1361 : (Jvm.Cond.instanceMethod ({ cls := "FloatingDock$Yard", name := "mostByTable", desc := "()I" } : Jvm.MethodName)) ∈ lw_all := lw_g (lw_at lw_m6 67 rfl) rfl
theorem q1362 : (Jvm.Cond.selects "FloatingDock$Yard" ({ cls := "FloatingDock$Yard", name := "mostByTable", desc := "()I" } : Jvm.MethodName) ({ cls := "FloatingDock$Yard", name := "mostByTable", desc := "()I" } : Jvm.MethodName)) ∈ lw_all := lw_g (lw_at lw_m6 68 rfl) rfl
theorem q1363 : (Jvm.Cond.code ({ cls := "FloatingDock$Yard", name := "mostByTable", desc := "()I" } : Jvm.MethodName) prog_14_method_40_code (4 : Nat) (Option.some Jvm.ClassFile.FieldType.int)) ∈ lw_all := lw_g (lw_at lw_m6 69 rfl) rfl
theorem q1364 : (Jvm.Cond.methodLink "FloatingDock$Yard" (330 : Nat) ({ cls := "FloatingDock$Yard", name := "waiting", desc := "()Ljava/util/ArrayList;" } : Jvm.MethodName)) ∈ lw_all := lw_g (lw_at lw_m6 70 rfl) rfl
theorem q1365 : (Jvm.Cond.methodLink "FloatingDock$Yard" (333 : Nat) ({ cls := "FloatingDock$Yard", name := "lengths", desc := "(Ljava/util/ArrayList;)[I" } : Jvm.MethodName)) ∈ lw_all := lw_g (lw_at lw_m6 71 rfl) rfl
theorem q1366 : (Jvm.Cond.privateMethod ({ cls := "FloatingDock$Yard", name := "lengths", desc := "(Ljava/util/ArrayList;)[I" } : Jvm.MethodName)) ∈ lw_tbl := lw_at lw_m6 72 rfl
theorem q1367 : (Jvm.Cond.instanceMethod ({ cls := "FloatingDock$Yard", name := "lengths", desc := "(Ljava/util/ArrayList;)[I" } : Jvm.MethodName)) ∈ lw_all := lw_g (lw_at lw_m6 73 rfl) rfl
theorem q1368 : (Jvm.Cond.code ({ cls := "FloatingDock$Yard", name := "lengths", desc := "(Ljava/util/ArrayList;)[I" } : Jvm.MethodName) prog_14_method_38_code (5 : Nat) (Option.some (Jvm.ClassFile.FieldType.array Jvm.ClassFile.FieldType.int))) ∈ lw_all := lw_g (lw_at lw_m6 74 rfl) rfl
theorem q1369 : (Jvm.Cond.methodLink "FloatingDock$Yard" (327 : Nat) ({ cls := "java/lang/Integer", name := "numberOfTrailingZeros", desc := "(I)I" } : Jvm.MethodName)) ∈ lw_all := lw_g (lw_at lw_m6 75 rfl) rfl
theorem q1370 : (Jvm.Cond.methodLink "FloatingDock$Yard" (337 : Nat) ({ cls := "FloatingDock$Yard", name := "fitting", desc := "([I)[Z" } : Jvm.MethodName)) ∈ lw_all := lw_g (lw_at lw_m6 76 rfl) rfl
theorem q1371 : (Jvm.Cond.privateMethod ({ cls := "FloatingDock$Yard", name := "fitting", desc := "([I)[Z" } : Jvm.MethodName)) ∈ lw_tbl := lw_at lw_m6 77 rfl
theorem q1372 : (Jvm.Cond.instanceMethod ({ cls := "FloatingDock$Yard", name := "fitting", desc := "([I)[Z" } : Jvm.MethodName)) ∈ lw_all := lw_g (lw_at lw_m6 78 rfl) rfl
theorem q1373 : (Jvm.Cond.code ({ cls := "FloatingDock$Yard", name := "fitting", desc := "([I)[Z" } : Jvm.MethodName) prog_14_method_39_code (7 : Nat) (Option.some (Jvm.ClassFile.FieldType.array Jvm.ClassFile.FieldType.boolean))) ∈ lw_all := lw_g (lw_at lw_m6 79 rfl) rfl
theorem q1374 : (Jvm.Cond.methodLink "FloatingDock$Yard" (341 : Nat) ({ cls := "java/lang/Integer", name := "bitCount", desc := "(I)I" } : Jvm.MethodName)) ∈ lw_all := lw_g (lw_at lw_m6 80 rfl) rfl
theorem q1380 : (Jvm.Cond.methodLink "FloatingDock$Yard" (226 : Nat) ({ cls := "java/lang/Math", name := "max", desc := "(II)I" } : Jvm.MethodName)) ∈ lw_all := lw_g (lw_at lw_m6 86 rfl) rfl
theorem q1445 : (Jvm.Cond.instanceMethod ({ cls := "FloatingDock$Yard", name := "freeMetres", desc := "()I" } : Jvm.MethodName)) ∈ lw_all := lw_g (lw_at lw_m6 151 rfl) rfl
theorem q1446 : (Jvm.Cond.selects "FloatingDock$Yard" ({ cls := "FloatingDock$Yard", name := "freeMetres", desc := "()I" } : Jvm.MethodName) ({ cls := "FloatingDock$Yard", name := "freeMetres", desc := "()I" } : Jvm.MethodName)) ∈ lw_all := lw_g (lw_at lw_m6 152 rfl) rfl
theorem q1447 : (Jvm.Cond.code ({ cls := "FloatingDock$Yard", name := "freeMetres", desc := "()I" } : Jvm.MethodName) prog_14_method_32_code (1 : Nat) (Option.some Jvm.ClassFile.FieldType.int)) ∈ lw_all := lw_g (lw_at lw_m6 153 rfl) rfl
theorem q1448 : (Jvm.Cond.methodLink "FloatingDock$Yard" (302 : Nat) ({ cls := "java/util/BitSet", name := "cardinality", desc := "()I" } : Jvm.MethodName)) ∈ lw_all := lw_g (lw_at lw_m6 154 rfl) rfl
theorem q1475 : (Jvm.Cond.instanceMethod ({ cls := "FloatingDock$Yard", name := "mostMetres", desc := "()I" } : Jvm.MethodName)) ∈ lw_all := lw_g (lw_at lw_m6 181 rfl) rfl
theorem q1476 : (Jvm.Cond.selects "FloatingDock$Yard" ({ cls := "FloatingDock$Yard", name := "mostMetres", desc := "()I" } : Jvm.MethodName) ({ cls := "FloatingDock$Yard", name := "mostMetres", desc := "()I" } : Jvm.MethodName)) ∈ lw_all := lw_g (lw_at lw_m6 182 rfl) rfl
theorem q1477 : (Jvm.Cond.code ({ cls := "FloatingDock$Yard", name := "mostMetres", desc := "()I" } : Jvm.MethodName) prog_14_method_41_code (5 : Nat) (Option.some Jvm.ClassFile.FieldType.int)) ∈ lw_all := lw_g (lw_at lw_m6 183 rfl) rfl
theorem q1483 : (Jvm.Cond.instanceMethod ({ cls := "FloatingDock$Yard", name := "bills", desc := "()I" } : Jvm.MethodName)) ∈ lw_all := lw_g (lw_at lw_m6 189 rfl) rfl
theorem q1484 : (Jvm.Cond.selects "FloatingDock$Yard" ({ cls := "FloatingDock$Yard", name := "bills", desc := "()I" } : Jvm.MethodName) ({ cls := "FloatingDock$Yard", name := "bills", desc := "()I" } : Jvm.MethodName)) ∈ lw_all := lw_g (lw_at lw_m6 190 rfl) rfl
theorem q1485 : (Jvm.Cond.code ({ cls := "FloatingDock$Yard", name := "bills", desc := "()I" } : Jvm.MethodName) prog_14_method_43_code (4 : Nat) (Option.some Jvm.ClassFile.FieldType.int)) ∈ lw_all := lw_g (lw_at lw_m6 191 rfl) rfl
theorem q1499 : (Jvm.Cond.instanceMethod ({ cls := "FloatingDock$Yard", name := "describe", desc := "()Ljava/lang/String;" } : Jvm.MethodName)) ∈ lw_all := lw_g (lw_at lw_m6 205 rfl) rfl
theorem q1500 : (Jvm.Cond.selects "FloatingDock$Yard" ({ cls := "FloatingDock$Yard", name := "describe", desc := "()Ljava/lang/String;" } : Jvm.MethodName) ({ cls := "FloatingDock$Yard", name := "describe", desc := "()Ljava/lang/String;" } : Jvm.MethodName)) ∈ lw_all := lw_g (lw_at lw_m6 206 rfl) rfl
theorem q1501 : (Jvm.Cond.code ({ cls := "FloatingDock$Yard", name := "describe", desc := "()Ljava/lang/String;" } : Jvm.MethodName) prog_14_method_46_code (4 : Nat) (Option.some (Jvm.ClassFile.FieldType.object "java/lang/String"))) ∈ lw_all := lw_g (lw_at lw_m6 207 rfl) rfl
theorem q1502 : (Jvm.Cond.classLink "FloatingDock$Yard" (357 : Nat) "java/lang/StringBuilder") ∈ lw_all := lw_g (lw_at lw_m6 208 rfl) rfl
theorem q1503 : (Jvm.Cond.methodLink "FloatingDock$Yard" (359 : Nat) ({ cls := "java/lang/StringBuilder", name := "<init>", desc := "()V" } : Jvm.MethodName)) ∈ lw_all := lw_g (lw_at lw_m6 209 rfl) rfl
theorem q1504 : (Jvm.Cond.methodLink "FloatingDock$Yard" (270 : Nat) ({ cls := "FloatingDock$Yard", name := "shipAtPosition", desc := "(I)LFloatingDock$Ship;" } : Jvm.MethodName)) ∈ lw_all := lw_g (lw_at lw_m6 210 rfl) rfl
theorem q1505 : (Jvm.Cond.instanceMethod ({ cls := "FloatingDock$Yard", name := "shipAtPosition", desc := "(I)LFloatingDock$Ship;" } : Jvm.MethodName)) ∈ lw_all := lw_g (lw_at lw_m6 211 rfl) rfl
theorem q1506 : (Jvm.Cond.selects "FloatingDock$Yard" ({ cls := "FloatingDock$Yard", name := "shipAtPosition", desc := "(I)LFloatingDock$Ship;" } : Jvm.MethodName) ({ cls := "FloatingDock$Yard", name := "shipAtPosition", desc := "(I)LFloatingDock$Ship;" } : Jvm.MethodName)) ∈ lw_all := lw_g (lw_at lw_m6 212 rfl) rfl
theorem q1507 : (Jvm.Cond.code ({ cls := "FloatingDock$Yard", name := "shipAtPosition", desc := "(I)LFloatingDock$Ship;" } : Jvm.MethodName) prog_14_method_7_code (4 : Nat) (Option.some (Jvm.ClassFile.FieldType.object "FloatingDock$Ship"))) ∈ lw_all := lw_g (lw_at lw_m6 213 rfl) rfl
theorem q1508 : (Jvm.Cond.methodLink "FloatingDock$Yard" (156 : Nat) ({ cls := "FloatingDock$Ship", name := "isAt", desc := "(I)Z" } : Jvm.MethodName)) ∈ lw_all := lw_g (lw_at lw_m6 214 rfl) rfl
theorem q1520 : (Jvm.Cond.methodLink "FloatingDock$Yard" (360 : Nat) ({ cls := "java/lang/StringBuilder", name := "append", desc := "(I)Ljava/lang/StringBuilder;" } : Jvm.MethodName)) ∈ lw_all := lw_g (lw_at lw_m6 226 rfl) rfl
theorem q1521 : (Jvm.Cond.methodLink "FloatingDock$Yard" (277 : Nat) ({ cls := "FloatingDock$Yard", name := "hasBlock", desc := "(I)Z" } : Jvm.MethodName)) ∈ lw_all := lw_g (lw_at lw_m6 227 rfl) rfl
theorem q1522 : (Jvm.Cond.instanceMethod ({ cls := "FloatingDock$Yard", name := "hasBlock", desc := "(I)Z" } : Jvm.MethodName)) ∈ lw_all := lw_g (lw_at lw_m6 228 rfl) rfl
theorem q1523 : (Jvm.Cond.selects "FloatingDock$Yard" ({ cls := "FloatingDock$Yard", name := "hasBlock", desc := "(I)Z" } : Jvm.MethodName) ({ cls := "FloatingDock$Yard", name := "hasBlock", desc := "(I)Z" } : Jvm.MethodName)) ∈ lw_all := lw_g (lw_at lw_m6 229 rfl) rfl
theorem q1524 : (Jvm.Cond.code ({ cls := "FloatingDock$Yard", name := "hasBlock", desc := "(I)Z" } : Jvm.MethodName) prog_14_method_25_code (2 : Nat) (Option.some Jvm.ClassFile.FieldType.boolean)) ∈ lw_all := lw_g (lw_at lw_m6 230 rfl) rfl
theorem q1525 : (Jvm.Cond.classLink "FloatingDock$Yard" (75 : Nat) "FloatingDock$Metre") ∈ lw_all := lw_g (lw_at lw_m6 231 rfl) rfl
theorem q1527 : (Jvm.Cond.methodLink "FloatingDock$Yard" (266 : Nat) ({ cls := "FloatingDock$Metre", name := "<init>", desc := "(I)V" } : Jvm.MethodName)) ∈ lw_all := lw_g (lw_at lw_m6 233 rfl) rfl
theorem q1532 : (Jvm.Cond.fieldLinkNest "FloatingDock$Yard" (285 : Nat) "FloatingDock$Metre" "position" "I" "FloatingDock") ∈ lw_tbl := lw_at lw_m6 238 rfl
theorem q1536 : (Jvm.Cond.methodLink "FloatingDock$Yard" (267 : Nat) ({ cls := "java/util/HashSet", name := "contains", desc := "(Ljava/lang/Object;)Z" } : Jvm.MethodName)) ∈ lw_all := lw_g (lw_at lw_m7 2 rfl) rfl
theorem q1570 : (Jvm.Cond.selects "FloatingDock$Yard" ({ cls := "java/lang/Object", name := "hashCode", desc := "()I" } : Jvm.MethodName) ({ cls := "java/lang/Object", name := "hashCode", desc := "()I" } : Jvm.MethodName)) ∈ lw_all := lw_g (lw_at lw_m7 36 rfl) rfl
theorem q1666 : (Jvm.Cond.selects "FloatingDock$Yard" ({ cls := "java/lang/Object", name := "equals", desc := "(Ljava/lang/Object;)Z" } : Jvm.MethodName) ({ cls := "java/lang/Object", name := "equals", desc := "(Ljava/lang/Object;)Z" } : Jvm.MethodName)) ∈ lw_all := lw_g (lw_at lw_m7 132 rfl) rfl
theorem q1906 : (Jvm.Cond.methodLink "FloatingDock$Yard" (364 : Nat) ({ cls := "java/lang/StringBuilder", name := "append", desc := "(C)Ljava/lang/StringBuilder;" } : Jvm.MethodName)) ∈ lw_all := lw_g (lw_at lw_m8 132 rfl) rfl
theorem q1926 : (Jvm.Cond.methodLink "FloatingDock$Yard" (367 : Nat) ({ cls := "java/lang/StringBuilder", name := "toString", desc := "()Ljava/lang/String;" } : Jvm.MethodName)) ∈ lw_all := lw_g (lw_at lw_m8 152 rfl) rfl
theorem q1938 : (Jvm.Cond.instanceMethod ({ cls := "FloatingDock$Yard", name := "isConsistent", desc := "()Z" } : Jvm.MethodName)) ∈ lw_all := lw_g (lw_at lw_m8 164 rfl) rfl
theorem q1939 : (Jvm.Cond.selects "FloatingDock$Yard" ({ cls := "FloatingDock$Yard", name := "isConsistent", desc := "()Z" } : Jvm.MethodName) ({ cls := "FloatingDock$Yard", name := "isConsistent", desc := "()Z" } : Jvm.MethodName)) ∈ lw_all := lw_g (lw_at lw_m8 165 rfl) rfl
theorem q1940 : (Jvm.Cond.code ({ cls := "FloatingDock$Yard", name := "isConsistent", desc := "()Z" } : Jvm.MethodName) prog_14_method_49_code (4 : Nat) (Option.some Jvm.ClassFile.FieldType.boolean)) ∈ lw_all := lw_g (lw_at lw_m8 166 rfl) rfl
theorem q1941 : (Jvm.Cond.methodLink "FloatingDock$Yard" (377 : Nat) ({ cls := "FloatingDock$Yard", name := "areApart", desc := "()Z" } : Jvm.MethodName)) ∈ lw_all := lw_g (lw_at lw_m8 167 rfl) rfl
theorem q1942 : (Jvm.Cond.privateMethod ({ cls := "FloatingDock$Yard", name := "areApart", desc := "()Z" } : Jvm.MethodName)) ∈ lw_tbl := lw_at lw_m8 168 rfl
theorem q1943 : (Jvm.Cond.instanceMethod ({ cls := "FloatingDock$Yard", name := "areApart", desc := "()Z" } : Jvm.MethodName)) ∈ lw_all := lw_g (lw_at lw_m8 169 rfl) rfl
theorem q1944 : (Jvm.Cond.code ({ cls := "FloatingDock$Yard", name := "areApart", desc := "()Z" } : Jvm.MethodName) prog_14_method_47_code (4 : Nat) (Option.some Jvm.ClassFile.FieldType.boolean)) ∈ lw_all := lw_g (lw_at lw_m8 170 rfl) rfl
theorem q1945 : (Jvm.Cond.methodLink "FloatingDock$Yard" (380 : Nat) ({ cls := "FloatingDock$Yard", name := "bills", desc := "()I" } : Jvm.MethodName)) ∈ lw_all := lw_g (lw_at lw_m8 171 rfl) rfl
theorem q1946 : (Jvm.Cond.methodLink "FloatingDock$Yard" (233 : Nat) ({ cls := "FloatingDock$Yard", name := "blocksBeneath", desc := "(LFloatingDock$Ship;)I" } : Jvm.MethodName)) ∈ lw_all := lw_g (lw_at lw_m8 172 rfl) rfl
theorem q1947 : (Jvm.Cond.instanceMethod ({ cls := "FloatingDock$Yard", name := "blocksBeneath", desc := "(LFloatingDock$Ship;)I" } : Jvm.MethodName)) ∈ lw_all := lw_g (lw_at lw_m8 173 rfl) rfl
theorem q1948 : (Jvm.Cond.selects "FloatingDock$Yard" ({ cls := "FloatingDock$Yard", name := "blocksBeneath", desc := "(LFloatingDock$Ship;)I" } : Jvm.MethodName) ({ cls := "FloatingDock$Yard", name := "blocksBeneath", desc := "(LFloatingDock$Ship;)I" } : Jvm.MethodName)) ∈ lw_all := lw_g (lw_at lw_m8 174 rfl) rfl
theorem q1949 : (Jvm.Cond.code ({ cls := "FloatingDock$Yard", name := "blocksBeneath", desc := "(LFloatingDock$Ship;)I" } : Jvm.MethodName) prog_14_method_29_code (5 : Nat) (Option.some Jvm.ClassFile.FieldType.int)) ∈ lw_all := lw_g (lw_at lw_m8 175 rfl) rfl
theorem q1950 : (Jvm.Cond.methodLink "FloatingDock$Yard" (74 : Nat) ({ cls := "java/util/HashSet", name := "iterator", desc := "()Ljava/util/Iterator;" } : Jvm.MethodName)) ∈ lw_all := lw_g (lw_at lw_m8 176 rfl) rfl
theorem q1951 : (Jvm.Cond.methodLink "FloatingDock$Yard" (383 : Nat) ({ cls := "FloatingDock$Yard", name := "blocksBeneathByMetres", desc := "(LFloatingDock$Ship;)I" } : Jvm.MethodName)) ∈ lw_all := lw_g (lw_at lw_m8 177 rfl) rfl
theorem q1952 : (Jvm.Cond.instanceMethod ({ cls := "FloatingDock$Yard", name := "blocksBeneathByMetres", desc := "(LFloatingDock$Ship;)I" } : Jvm.MethodName)) ∈ lw_all := lw_g (lw_at lw_m8 178 rfl) rfl
theorem q1953 : (Jvm.Cond.selects "FloatingDock$Yard" ({ cls := "FloatingDock$Yard", name := "blocksBeneathByMetres", desc := "(LFloatingDock$Ship;)I" } : Jvm.MethodName) ({ cls := "FloatingDock$Yard", name := "blocksBeneathByMetres", desc := "(LFloatingDock$Ship;)I" } : Jvm.MethodName)) ∈ lw_all := lw_g (lw_at lw_m8 179 rfl) rfl
theorem q1954 : (Jvm.Cond.code ({ cls := "FloatingDock$Yard", name := "blocksBeneathByMetres", desc := "(LFloatingDock$Ship;)I" } : Jvm.MethodName) prog_14_method_30_code (5 : Nat) (Option.some Jvm.ClassFile.FieldType.int)) ∈ lw_all := lw_g (lw_at lw_m8 180 rfl) rfl
theorem q1955 : (Jvm.Cond.methodLink "FloatingDock$Yard" (288 : Nat) ({ cls := "FloatingDock$Stretch", name := "iterator", desc := "()Ljava/util/Iterator;" } : Jvm.MethodName)) ∈ lw_all := lw_g (lw_at lw_m8 181 rfl) rfl
theorem q1972 : (Jvm.Cond.classLink "FloatingDock$Yard" (62 : Nat) "java/lang/Integer") ∈ lw_all := lw_g (lw_at lw_m8 198 rfl) rfl
theorem q1973 : (Jvm.Cond.methodLink "FloatingDock$Yard" (132 : Nat) ({ cls := "java/lang/Integer", name := "intValue", desc := "()I" } : Jvm.MethodName)) ∈ lw_all := lw_g (lw_at lw_m8 199 rfl) rfl
theorem q1974 : (Jvm.Cond.methodLinkNest "FloatingDock$Yard" (210 : Nat) ({ cls := "FloatingDock", name := "seaLevelOf", desc := "(I)I" } : Jvm.MethodName) "FloatingDock") ∈ lw_tbl := lw_at lw_m8 200 rfl
theorem q1977 : (Jvm.Cond.methodLinkNest "FloatingDock$Yard" (386 : Nat) ({ cls := "FloatingDock", name := "seaLevelSteps", desc := "(I)I" } : Jvm.MethodName) "FloatingDock") ∈ lw_tbl := lw_at lw_m8 203 rfl
theorem q1981 : (Jvm.Cond.privateMethod ({ cls := "FloatingDock$Yard", name := "areGapsAlike", desc := "([LFloatingDock$GapFinder;)Z" } : Jvm.MethodName)) ∈ lw_tbl := lw_at lw_m8 207 rfl
theorem q1982 : (Jvm.Cond.instanceMethod ({ cls := "FloatingDock$Yard", name := "areGapsAlike", desc := "([LFloatingDock$GapFinder;)Z" } : Jvm.MethodName)) ∈ lw_all := lw_g (lw_at lw_m8 208 rfl) rfl
theorem q1983 : (Jvm.Cond.code ({ cls := "FloatingDock$Yard", name := "areGapsAlike", desc := "([LFloatingDock$GapFinder;)Z" } : Jvm.MethodName) prog_14_method_48_code (8 : Nat) (Option.some Jvm.ClassFile.FieldType.boolean)) ∈ lw_all := lw_g (lw_at lw_m8 209 rfl) rfl
theorem q1984 : (Jvm.Cond.interfaceEntry "FloatingDock$Yard" (371 : Nat)) ∈ lw_tbl := lw_at lw_m8 210 rfl
theorem q1985 : (Jvm.Cond.methodLink "FloatingDock$Yard" (371 : Nat) ({ cls := "FloatingDock$GapFinder", name := "find", desc := "(LFloatingDock$Yard;I)I" } : Jvm.MethodName)) ∈ lw_all := lw_g (lw_at lw_m8 211 rfl) rfl
theorem q1993 : (Jvm.Cond.instanceMethod ({ cls := "FloatingDock$Yard", name := "<init>", desc := "(LFloatingDock$Yard;)V" } : Jvm.MethodName)) ∈ lw_all := lw_g (lw_at lw_m8 219 rfl) rfl
theorem q1994 : (Jvm.Cond.code ({ cls := "FloatingDock$Yard", name := "<init>", desc := "(LFloatingDock$Yard;)V" } : Jvm.MethodName) prog_14_method_2_code (5 : Nat) (Option.none : Option Jvm.ClassFile.FieldType)) ∈ lw_all := lw_g (lw_at lw_m8 220 rfl) rfl
theorem q1995 : (Jvm.Cond.methodLink "FloatingDock$Yard" (61 : Nat) ({ cls := "java/lang/Integer", name := "valueOf", desc := "(I)Ljava/lang/Integer;" } : Jvm.MethodName)) ∈ lw_all := lw_g (lw_at lw_m8 221 rfl) rfl
theorem q1997 : (Jvm.Cond.methodLink "FloatingDock$Yard" (67 : Nat) ({ cls := "FloatingDock$Ship", name := "<init>", desc := "(LFloatingDock$Ship;)V" } : Jvm.MethodName)) ∈ lw_all := lw_g (lw_at lw_m8 223 rfl) rfl
theorem q2005 : (Jvm.Cond.fieldLinkNest "FloatingDock$Yard" (58 : Nat) "FloatingDock$Ship" "id" "I" "FloatingDock") ∈ lw_tbl := lw_at lw_m8 231 rfl
theorem q2009 : (Jvm.Cond.fieldLinkNest "FloatingDock$Yard" (183 : Nat) "FloatingDock$Ship" "length" "I" "FloatingDock") ∈ lw_tbl := lw_at lw_m8 235 rfl
theorem q2012 : (Jvm.Cond.fieldLinkNest "FloatingDock$Yard" (176 : Nat) "FloatingDock$Ship" "dirt" "I" "FloatingDock") ∈ lw_tbl := lw_at lw_m8 238 rfl
theorem q2015 : (Jvm.Cond.fieldLinkNest "FloatingDock$Yard" (240 : Nat) "FloatingDock$Ship" "damage" "I" "FloatingDock") ∈ lw_tbl := lw_at lw_m9 1 rfl
theorem q2018 : (Jvm.Cond.fieldLinkNest "FloatingDock$Yard" (170 : Nat) "FloatingDock$Ship" "bill" "I" "FloatingDock") ∈ lw_tbl := lw_at lw_m9 4 rfl
theorem q2021 : (Jvm.Cond.fieldLinkNest "FloatingDock$Yard" (237 : Nat) "FloatingDock$Ship" "hoursAfloat" "I" "FloatingDock") ∈ lw_tbl := lw_at lw_m9 7 rfl
theorem q2024 : (Jvm.Cond.fieldLinkNest "FloatingDock$Yard" (207 : Nat) "FloatingDock$Ship" "isCleaned" "Z" "FloatingDock") ∈ lw_tbl := lw_at lw_m9 10 rfl
theorem q2026 : (Jvm.Cond.fieldLinkNest "FloatingDock$Yard" (144 : Nat) "FloatingDock$Ship" "berth" "LFloatingDock$Stretch;" "FloatingDock") ∈ lw_tbl := lw_at lw_m9 12 rfl
theorem q2046 : (Jvm.Cond.methodLink "FloatingDock$Yard" (70 : Nat) ({ cls := "java/util/LinkedHashMap", name := "put", desc := "(Ljava/lang/Object;Ljava/lang/Object;)Ljava/lang/Object;" } : Jvm.MethodName)) ∈ lw_all := lw_g (lw_at lw_m9 32 rfl) rfl
theorem q2256 : (Jvm.Cond.methodLink "FloatingDock$Yard" (77 : Nat) ({ cls := "java/util/HashSet", name := "add", desc := "(Ljava/lang/Object;)Z" } : Jvm.MethodName)) ∈ lw_all := lw_g (lw_at lw_m10 2 rfl) rfl
theorem q2275 : (Jvm.Cond.instanceMethod ({ cls := "FloatingDock$Yard", name := "addShip", desc := "(III)I" } : Jvm.MethodName)) ∈ lw_all := lw_g (lw_at lw_m10 21 rfl) rfl
theorem q2276 : (Jvm.Cond.selects "FloatingDock$Yard" ({ cls := "FloatingDock$Yard", name := "addShip", desc := "(III)I" } : Jvm.MethodName) ({ cls := "FloatingDock$Yard", name := "addShip", desc := "(III)I" } : Jvm.MethodName)) ∈ lw_all := lw_g (lw_at lw_m10 22 rfl) rfl
theorem q2277 : (Jvm.Cond.code ({ cls := "FloatingDock$Yard", name := "addShip", desc := "(III)I" } : Jvm.MethodName) prog_14_method_9_code (5 : Nat) (Option.some Jvm.ClassFile.FieldType.int)) ∈ lw_all := lw_g (lw_at lw_m10 23 rfl) rfl
theorem q2278 : (Jvm.Cond.methodLinkNest "FloatingDock$Yard" (160 : Nat) ({ cls := "FloatingDock", name := "isBetween", desc := "(III)Z" } : Jvm.MethodName) "FloatingDock") ∈ lw_tbl := lw_at lw_m10 24 rfl
theorem q2279 : (Jvm.Cond.methodLinkNest "FloatingDock$Yard" (164 : Nat) ({ cls := "FloatingDock", name := "checkArgument", desc := "(Z)V" } : Jvm.MethodName) "FloatingDock") ∈ lw_tbl := lw_at lw_m10 25 rfl
theorem q2287 : (Jvm.Cond.methodLink "FloatingDock$Yard" (117 : Nat) ({ cls := "java/util/LinkedHashMap", name := "size", desc := "()I" } : Jvm.MethodName)) ∈ lw_all := lw_g (lw_at lw_m10 33 rfl) rfl
theorem q2288 : (Jvm.Cond.methodLinkNest "FloatingDock$Yard" (114 : Nat) ({ cls := "FloatingDock", name := "checkState", desc := "(Z)V" } : Jvm.MethodName) "FloatingDock") ∈ lw_tbl := lw_at lw_m10 34 rfl
theorem q2306 : (Jvm.Cond.methodLink "FloatingDock$Yard" (167 : Nat) ({ cls := "FloatingDock$Ship", name := "<init>", desc := "(IIII)V" } : Jvm.MethodName)) ∈ lw_all := lw_g (lw_at lw_m10 52 rfl) rfl
theorem q2383 : (Jvm.Cond.instanceMethod ({ cls := "FloatingDock$Yard", name := "removeShip", desc := "(I)I" } : Jvm.MethodName)) ∈ lw_all := lw_g (lw_at lw_m10 129 rfl) rfl
theorem q2384 : (Jvm.Cond.selects "FloatingDock$Yard" ({ cls := "FloatingDock$Yard", name := "removeShip", desc := "(I)I" } : Jvm.MethodName) ({ cls := "FloatingDock$Yard", name := "removeShip", desc := "(I)I" } : Jvm.MethodName)) ∈ lw_all := lw_g (lw_at lw_m10 130 rfl) rfl
theorem q2385 : (Jvm.Cond.code ({ cls := "FloatingDock$Yard", name := "removeShip", desc := "(I)I" } : Jvm.MethodName) prog_14_method_10_code (4 : Nat) (Option.some Jvm.ClassFile.FieldType.int)) ∈ lw_all := lw_g (lw_at lw_m10 131 rfl) rfl
theorem q2386 : (Jvm.Cond.methodLink "FloatingDock$Yard" (107 : Nat) ({ cls := "FloatingDock$Yard", name := "ship", desc := "(I)LFloatingDock$Ship;" } : Jvm.MethodName)) ∈ lw_all := lw_g (lw_at lw_m10 132 rfl) rfl
theorem q2387 : (Jvm.Cond.instanceMethod ({ cls := "FloatingDock$Yard", name := "ship", desc := "(I)LFloatingDock$Ship;" } : Jvm.MethodName)) ∈ lw_all := lw_g (lw_at lw_m10 133 rfl) rfl
theorem q2388 : (Jvm.Cond.selects "FloatingDock$Yard" ({ cls := "FloatingDock$Yard", name := "ship", desc := "(I)LFloatingDock$Ship;" } : Jvm.MethodName) ({ cls := "FloatingDock$Yard", name := "ship", desc := "(I)LFloatingDock$Ship;" } : Jvm.MethodName)) ∈ lw_all := lw_g (lw_at lw_m10 134 rfl) rfl
theorem q2389 : (Jvm.Cond.code ({ cls := "FloatingDock$Yard", name := "ship", desc := "(I)LFloatingDock$Ship;" } : Jvm.MethodName) prog_14_method_3_code (2 : Nat) (Option.some (Jvm.ClassFile.FieldType.object "FloatingDock$Ship"))) ∈ lw_all := lw_g (lw_at lw_m10 135 rfl) rfl
theorem q2390 : (Jvm.Cond.methodLink "FloatingDock$Yard" (96 : Nat) ({ cls := "java/util/LinkedHashMap", name := "containsKey", desc := "(Ljava/lang/Object;)Z" } : Jvm.MethodName)) ∈ lw_all := lw_g (lw_at lw_m10 136 rfl) rfl
theorem q2394 : (Jvm.Cond.methodLinkNest "FloatingDock$Yard" (99 : Nat) ({ cls := "FloatingDock", name := "checkElement", desc := "(Z)V" } : Jvm.MethodName) "FloatingDock") ∈ lw_tbl := lw_at lw_m10 140 rfl
theorem q2399 : (Jvm.Cond.methodLink "FloatingDock$Yard" (103 : Nat) ({ cls := "java/util/LinkedHashMap", name := "get", desc := "(Ljava/lang/Object;)Ljava/lang/Object;" } : Jvm.MethodName)) ∈ lw_all := lw_g (lw_at lw_m10 145 rfl) rfl
theorem q2408 : (Jvm.Cond.methodLink "FloatingDock$Yard" (173 : Nat) ({ cls := "java/util/LinkedHashMap", name := "remove", desc := "(Ljava/lang/Object;)Ljava/lang/Object;" } : Jvm.MethodName)) ∈ lw_all := lw_g (lw_at lw_m10 154 rfl) rfl
theorem q2446 : (Jvm.Cond.instanceMethod ({ cls := "FloatingDock$Yard", name := "enter", desc := "(II)I" } : Jvm.MethodName)) ∈ lw_all := lw_g (lw_at lw_m10 192 rfl) rfl
theorem q2447 : (Jvm.Cond.selects "FloatingDock$Yard" ({ cls := "FloatingDock$Yard", name := "enter", desc := "(II)I" } : Jvm.MethodName) ({ cls := "FloatingDock$Yard", name := "enter", desc := "(II)I" } : Jvm.MethodName)) ∈ lw_all := lw_g (lw_at lw_m10 193 rfl) rfl
theorem q2448 : (Jvm.Cond.code ({ cls := "FloatingDock$Yard", name := "enter", desc := "(II)I" } : Jvm.MethodName) prog_14_method_12_code (5 : Nat) (Option.some Jvm.ClassFile.FieldType.int)) ∈ lw_all := lw_g (lw_at lw_m10 194 rfl) rfl
theorem q2449 : (Jvm.Cond.methodLinkNest "FloatingDock$Yard" (191 : Nat) ({ cls := "FloatingDock", name := "refuseIf", desc := "(ZI)V" } : Jvm.MethodName) "FloatingDock") ∈ lw_tbl := lw_at lw_m10 195 rfl
theorem q2475 : (Jvm.Cond.methodLink "FloatingDock$Yard" (195 : Nat) ({ cls := "FloatingDock$Yard", name := "isFree", desc := "(LFloatingDock$Stretch;)Z" } : Jvm.MethodName)) ∈ lw_all := lw_g (lw_at lw_m10 221 rfl) rfl
theorem q2476 : (Jvm.Cond.privateMethod ({ cls := "FloatingDock$Yard", name := "isFree", desc := "(LFloatingDock$Stretch;)Z" } : Jvm.MethodName)) ∈ lw_tbl := lw_at lw_m10 222 rfl
theorem q2477 : (Jvm.Cond.instanceMethod ({ cls := "FloatingDock$Yard", name := "isFree", desc := "(LFloatingDock$Stretch;)Z" } : Jvm.MethodName)) ∈ lw_all := lw_g (lw_at lw_m10 223 rfl) rfl
theorem q2478 : (Jvm.Cond.code ({ cls := "FloatingDock$Yard", name := "isFree", desc := "(LFloatingDock$Stretch;)Z" } : Jvm.MethodName) prog_14_method_11_code (4 : Nat) (Option.some Jvm.ClassFile.FieldType.boolean)) ∈ lw_all := lw_g (lw_at lw_m10 224 rfl) rfl
theorem q2479 : (Jvm.Cond.methodLink "FloatingDock$Yard" (179 : Nat) ({ cls := "FloatingDock$Stretch", name := "overlaps", desc := "(LFloatingDock$Stretch;)Z" } : Jvm.MethodName)) ∈ lw_all := lw_g (lw_at lw_m10 225 rfl) rfl
theorem q2483 : (Jvm.Cond.methodLink "FloatingDock$Yard" (198 : Nat) ({ cls := "FloatingDock$Yard", name := "countInDock", desc := "()I" } : Jvm.MethodName)) ∈ lw_all := lw_g (lw_at lw_m10 229 rfl) rfl
theorem q2484 : (Jvm.Cond.instanceMethod ({ cls := "FloatingDock$Yard", name := "countInDock", desc := "()I" } : Jvm.MethodName)) ∈ lw_all := lw_g (lw_at lw_m10 230 rfl) rfl
theorem q2485 : (Jvm.Cond.selects "FloatingDock$Yard" ({ cls := "FloatingDock$Yard", name := "countInDock", desc := "()I" } : Jvm.MethodName) ({ cls := "FloatingDock$Yard", name := "countInDock", desc := "()I" } : Jvm.MethodName)) ∈ lw_all := lw_g (lw_at lw_m10 231 rfl) rfl
theorem q2486 : (Jvm.Cond.code ({ cls := "FloatingDock$Yard", name := "countInDock", desc := "()I" } : Jvm.MethodName) prog_14_method_8_code (4 : Nat) (Option.some Jvm.ClassFile.FieldType.int)) ∈ lw_all := lw_g (lw_at lw_m10 232 rfl) rfl
theorem q2497 : (Jvm.Cond.instanceMethod ({ cls := "FloatingDock$Yard", name := "leave", desc := "(I)I" } : Jvm.MethodName)) ∈ lw_all := lw_g (lw_at lw_m11 3 rfl) rfl
theorem q2498 : (Jvm.Cond.selects "FloatingDock$Yard" ({ cls := "FloatingDock$Yard", name := "leave", desc := "(I)I" } : Jvm.MethodName) ({ cls := "FloatingDock$Yard", name := "leave", desc := "(I)I" } : Jvm.MethodName)) ∈ lw_all := lw_g (lw_at lw_m11 4 rfl) rfl
theorem q2499 : (Jvm.Cond.code ({ cls := "FloatingDock$Yard", name := "leave", desc := "(I)I" } : Jvm.MethodName) prog_14_method_13_code (3 : Nat) (Option.some Jvm.ClassFile.FieldType.int)) ∈ lw_all := lw_g (lw_at lw_m11 5 rfl) rfl
theorem q2500 : (Jvm.Cond.methodLink "FloatingDock$Yard" (201 : Nat) ({ cls := "FloatingDock$Yard", name := "shipInDock", desc := "(I)LFloatingDock$Ship;" } : Jvm.MethodName)) ∈ lw_all := lw_g (lw_at lw_m11 6 rfl) rfl
theorem q2501 : (Jvm.Cond.privateMethod ({ cls := "FloatingDock$Yard", name := "shipInDock", desc := "(I)LFloatingDock$Ship;" } : Jvm.MethodName)) ∈ lw_tbl := lw_at lw_m11 7 rfl
theorem q2502 : (Jvm.Cond.instanceMethod ({ cls := "FloatingDock$Yard", name := "shipInDock", desc := "(I)LFloatingDock$Ship;" } : Jvm.MethodName)) ∈ lw_all := lw_g (lw_at lw_m11 8 rfl) rfl
theorem q2503 : (Jvm.Cond.code ({ cls := "FloatingDock$Yard", name := "shipInDock", desc := "(I)LFloatingDock$Ship;" } : Jvm.MethodName) prog_14_method_4_code (3 : Nat) (Option.some (Jvm.ClassFile.FieldType.object "FloatingDock$Ship"))) ∈ lw_all := lw_g (lw_at lw_m11 9 rfl) rfl
theorem q2504 : (Jvm.Cond.methodLink "FloatingDock$Yard" (204 : Nat) ({ cls := "FloatingDock$Ship", name := "rests", desc := "(I)Z" } : Jvm.MethodName)) ∈ lw_all := lw_g (lw_at lw_m11 10 rfl) rfl
theorem q2515 : (Jvm.Cond.instanceMethod ({ cls := "FloatingDock$Yard", name := "setCleaning", desc := "(IZ)I" } : Jvm.MethodName)) ∈ lw_all := lw_g (lw_at lw_m11 21 rfl) rfl
theorem q2516 : (Jvm.Cond.selects "FloatingDock$Yard" ({ cls := "FloatingDock$Yard", name := "setCleaning", desc := "(IZ)I" } : Jvm.MethodName) ({ cls := "FloatingDock$Yard", name := "setCleaning", desc := "(IZ)I" } : Jvm.MethodName)) ∈ lw_all := lw_g (lw_at lw_m11 22 rfl) rfl
theorem q2517 : (Jvm.Cond.code ({ cls := "FloatingDock$Yard", name := "setCleaning", desc := "(IZ)I" } : Jvm.MethodName) prog_14_method_14_code (5 : Nat) (Option.some Jvm.ClassFile.FieldType.int)) ∈ lw_all := lw_g (lw_at lw_m11 23 rfl) rfl
theorem q2542 : (Jvm.Cond.instanceMethod ({ cls := "FloatingDock$Yard", name := "shipAt", desc := "(I)I" } : Jvm.MethodName)) ∈ lw_all := lw_g (lw_at lw_m11 48 rfl) rfl
theorem q2543 : (Jvm.Cond.selects "FloatingDock$Yard" ({ cls := "FloatingDock$Yard", name := "shipAt", desc := "(I)I" } : Jvm.MethodName) ({ cls := "FloatingDock$Yard", name := "shipAt", desc := "(I)I" } : Jvm.MethodName)) ∈ lw_all := lw_g (lw_at lw_m11 49 rfl) rfl
theorem q2544 : (Jvm.Cond.code ({ cls := "FloatingDock$Yard", name := "shipAt", desc := "(I)I" } : Jvm.MethodName) prog_14_method_5_code (5 : Nat) (Option.some Jvm.ClassFile.FieldType.int)) ∈ lw_all := lw_g (lw_at lw_m11 50 rfl) rfl
theorem q2545 : (Jvm.Cond.methodLinkNest "FloatingDock$Yard" (121 : Nat) ({ cls := "FloatingDock", name := "checkIndex", desc := "(II)V" } : Jvm.MethodName) "FloatingDock") ∈ lw_tbl := lw_at lw_m11 51 rfl
theorem q2554 : (Jvm.Cond.methodLink "FloatingDock$Yard" (125 : Nat) ({ cls := "java/util/LinkedHashMap", name := "keySet", desc := "()Ljava/util/Set;" } : Jvm.MethodName)) ∈ lw_all := lw_g (lw_at lw_m11 60 rfl) rfl
theorem q2555 : (Jvm.Cond.interfaceEntry "FloatingDock$Yard" (129 : Nat)) ∈ lw_tbl := lw_at lw_m11 61 rfl
theorem q2556 : (Jvm.Cond.methodLink "FloatingDock$Yard" (129 : Nat) ({ cls := "java/util/Set", name := "iterator", desc := "()Ljava/util/Iterator;" } : Jvm.MethodName)) ∈ lw_all := lw_g (lw_at lw_m11 62 rfl) rfl
theorem q2574 : (Jvm.Cond.instanceMethod ({ cls := "FloatingDock$Yard", name := "positionOf", desc := "(I)I" } : Jvm.MethodName)) ∈ lw_all := lw_g (lw_at lw_m11 80 rfl) rfl
theorem q2575 : (Jvm.Cond.selects "FloatingDock$Yard" ({ cls := "FloatingDock$Yard", name := "positionOf", desc := "(I)I" } : Jvm.MethodName) ({ cls := "FloatingDock$Yard", name := "positionOf", desc := "(I)I" } : Jvm.MethodName)) ∈ lw_all := lw_g (lw_at lw_m11 81 rfl) rfl
theorem q2576 : (Jvm.Cond.code ({ cls := "FloatingDock$Yard", name := "positionOf", desc := "(I)I" } : Jvm.MethodName) prog_14_method_15_code (2 : Nat) (Option.some Jvm.ClassFile.FieldType.int)) ∈ lw_all := lw_g (lw_at lw_m11 82 rfl) rfl
theorem q2623 : (Jvm.Cond.instanceMethod ({ cls := "FloatingDock$Yard", name := "setGate", desc := "(Z)I" } : Jvm.MethodName)) ∈ lw_all := lw_g (lw_at lw_m11 129 rfl) rfl
theorem q2624 : (Jvm.Cond.selects "FloatingDock$Yard" ({ cls := "FloatingDock$Yard", name := "setGate", desc := "(Z)I" } : Jvm.MethodName) ({ cls := "FloatingDock$Yard", name := "setGate", desc := "(Z)I" } : Jvm.MethodName)) ∈ lw_all := lw_g (lw_at lw_m11 130 rfl) rfl
theorem q2625 : (Jvm.Cond.code ({ cls := "FloatingDock$Yard", name := "setGate", desc := "(Z)I" } : Jvm.MethodName) prog_14_method_16_code (3 : Nat) (Option.some Jvm.ClassFile.FieldType.int)) ∈ lw_all := lw_g (lw_at lw_m11 131 rfl) rfl
theorem q2626 : (Jvm.Cond.methodLink "FloatingDock$Yard" (214 : Nat) ({ cls := "java/lang/Math", name := "abs", desc := "(I)I" } : Jvm.MethodName)) ∈ lw_all := lw_g (lw_at lw_m11 132 rfl) rfl
theorem q2629 : (Jvm.Cond.methodLinkNest "FloatingDock$Yard" (219 : Nat) ({ cls := "FloatingDock", name := "checkSupported", desc := "(Z)V" } : Jvm.MethodName) "FloatingDock") ∈ lw_tbl := lw_at lw_m11 135 rfl
theorem q2642 : (Jvm.Cond.instanceMethod ({ cls := "FloatingDock$Yard", name := "setPump", desc := "(I)I" } : Jvm.MethodName)) ∈ lw_all := lw_g (lw_at lw_m11 148 rfl) rfl
theorem q2643 : (Jvm.Cond.selects "FloatingDock$Yard" ({ cls := "FloatingDock$Yard", name := "setPump", desc := "(I)I" } : Jvm.MethodName) ({ cls := "FloatingDock$Yard", name := "setPump", desc := "(I)I" } : Jvm.MethodName)) ∈ lw_all := lw_g (lw_at lw_m11 149 rfl) rfl
theorem q2644 : (Jvm.Cond.code ({ cls := "FloatingDock$Yard", name := "setPump", desc := "(I)I" } : Jvm.MethodName) prog_14_method_17_code (3 : Nat) (Option.some Jvm.ClassFile.FieldType.int)) ∈ lw_all := lw_g (lw_at lw_m11 150 rfl) rfl
theorem q2673 : (Jvm.Cond.instanceMethod ({ cls := "FloatingDock$Yard", name := "pass", desc := "(I[LFloatingDock$Charge;)I" } : Jvm.MethodName)) ∈ lw_all := lw_g (lw_at lw_m11 179 rfl) rfl
theorem q2674 : (Jvm.Cond.selects "FloatingDock$Yard" ({ cls := "FloatingDock$Yard", name := "pass", desc := "(I[LFloatingDock$Charge;)I" } : Jvm.MethodName) ({ cls := "FloatingDock$Yard", name := "pass", desc := "(I[LFloatingDock$Charge;)I" } : Jvm.MethodName)) ∈ lw_all := lw_g (lw_at lw_m11 180 rfl) rfl
theorem q2675 : (Jvm.Cond.code ({ cls := "FloatingDock$Yard", name := "pass", desc := "(I[LFloatingDock$Charge;)I" } : Jvm.MethodName) prog_14_method_22_code (5 : Nat) (Option.some Jvm.ClassFile.FieldType.int)) ∈ lw_all := lw_g (lw_at lw_m11 181 rfl) rfl
theorem q2676 : (Jvm.Cond.methodLink "FloatingDock$Yard" (256 : Nat) ({ cls := "FloatingDock$Yard", name := "passHour", desc := "([LFloatingDock$Charge;)V" } : Jvm.MethodName)) ∈ lw_all := lw_g (lw_at lw_m11 182 rfl) rfl
theorem q2677 : (Jvm.Cond.instanceMethod ({ cls := "FloatingDock$Yard", name := "passHour", desc := "([LFloatingDock$Charge;)V" } : Jvm.MethodName)) ∈ lw_all := lw_g (lw_at lw_m11 183 rfl) rfl
theorem q2678 : (Jvm.Cond.selects "FloatingDock$Yard" ({ cls := "FloatingDock$Yard", name := "passHour", desc := "([LFloatingDock$Charge;)V" } : Jvm.MethodName) ({ cls := "FloatingDock$Yard", name := "passHour", desc := "([LFloatingDock$Charge;)V" } : Jvm.MethodName)) ∈ lw_all := lw_g (lw_at lw_m11 184 rfl) rfl
theorem q2679 : (Jvm.Cond.code ({ cls := "FloatingDock$Yard", name := "passHour", desc := "([LFloatingDock$Charge;)V" } : Jvm.MethodName) prog_14_method_21_code (4 : Nat) (Option.none : Option Jvm.ClassFile.FieldType)) ∈ lw_all := lw_g (lw_at lw_m11 185 rfl) rfl
theorem q2680 : (Jvm.Cond.methodLink "FloatingDock$Yard" (249 : Nat) ({ cls := "FloatingDock$Yard", name := "changeLevel", desc := "()V" } : Jvm.MethodName)) ∈ lw_all := lw_g (lw_at lw_m11 186 rfl) rfl
theorem q2681 : (Jvm.Cond.privateMethod ({ cls := "FloatingDock$Yard", name := "changeLevel", desc := "()V" } : Jvm.MethodName)) ∈ lw_tbl := lw_at lw_m11 187 rfl
theorem q2682 : (Jvm.Cond.instanceMethod ({ cls := "FloatingDock$Yard", name := "changeLevel", desc := "()V" } : Jvm.MethodName)) ∈ lw_all := lw_g (lw_at lw_m11 188 rfl) rfl
theorem q2683 : (Jvm.Cond.code ({ cls := "FloatingDock$Yard", name := "changeLevel", desc := "()V" } : Jvm.MethodName) prog_14_method_19_code (1 : Nat) (Option.none : Option Jvm.ClassFile.FieldType)) ∈ lw_all := lw_g (lw_at lw_m11 189 rfl) rfl
theorem q2684 : (Jvm.Cond.methodLink "FloatingDock$Yard" (229 : Nat) ({ cls := "FloatingDock$Yard", name := "limited", desc := "(III)I" } : Jvm.MethodName)) ∈ lw_all := lw_g (lw_at lw_m11 190 rfl) rfl
theorem q2685 : (Jvm.Cond.static ({ cls := "FloatingDock$Yard", name := "limited", desc := "(III)I" } : Jvm.MethodName)) ∈ lw_all := lw_g (lw_at lw_m11 191 rfl) rfl
theorem q2686 : (Jvm.Cond.code ({ cls := "FloatingDock$Yard", name := "limited", desc := "(III)I" } : Jvm.MethodName) prog_14_method_18_code (3 : Nat) (Option.some Jvm.ClassFile.FieldType.int)) ∈ lw_all := lw_g (lw_at lw_m11 192 rfl) rfl
theorem q2687 : (Jvm.Cond.methodLink "FloatingDock$Yard" (222 : Nat) ({ cls := "java/lang/Math", name := "min", desc := "(II)I" } : Jvm.MethodName)) ∈ lw_all := lw_g (lw_at lw_m11 193 rfl) rfl
theorem q2688 : (Jvm.Cond.methodLink "FloatingDock$Yard" (252 : Nat) ({ cls := "FloatingDock$Yard", name := "spendHour", desc := "(LFloatingDock$Ship;[LFloatingDock$Charge;)V" } : Jvm.MethodName)) ∈ lw_all := lw_g (lw_at lw_m11 194 rfl) rfl
theorem q2689 : (Jvm.Cond.privateMethod ({ cls := "FloatingDock$Yard", name := "spendHour", desc := "(LFloatingDock$Ship;[LFloatingDock$Charge;)V" } : Jvm.MethodName)) ∈ lw_tbl := lw_at lw_m11 195 rfl
theorem q2690 : (Jvm.Cond.instanceMethod ({ cls := "FloatingDock$Yard", name := "spendHour", desc := "(LFloatingDock$Ship;[LFloatingDock$Charge;)V" } : Jvm.MethodName)) ∈ lw_all := lw_g (lw_at lw_m11 196 rfl) rfl
theorem q2691 : (Jvm.Cond.code ({ cls := "FloatingDock$Yard", name := "spendHour", desc := "(LFloatingDock$Ship;[LFloatingDock$Charge;)V" } : Jvm.MethodName) prog_14_method_20_code (10 : Nat) (Option.none : Option Jvm.ClassFile.FieldType)) ∈ lw_all := lw_g (lw_at lw_m11 197 rfl) rfl
theorem q2692 : (Jvm.Cond.interfaceEntry "FloatingDock$Yard" (243 : Nat)) ∈ lw_tbl := lw_at lw_m11 198 rfl
theorem q2693 : (Jvm.Cond.methodLink "FloatingDock$Yard" (243 : Nat) ({ cls := "FloatingDock$Charge", name := "coins", desc := "(LFloatingDock$Ship;II)I" } : Jvm.MethodName)) ∈ lw_all := lw_g (lw_at lw_m11 199 rfl) rfl
theorem q2704 : (Jvm.Cond.instanceMethod ({ cls := "FloatingDock$Yard", name := "levelAfter", desc := "(I[LFloatingDock$Charge;)I" } : Jvm.MethodName)) ∈ lw_all := lw_g (lw_at lw_m11 210 rfl) rfl
theorem q2705 : (Jvm.Cond.selects "FloatingDock$Yard" ({ cls := "FloatingDock$Yard", name := "levelAfter", desc := "(I[LFloatingDock$Charge;)I" } : Jvm.MethodName) ({ cls := "FloatingDock$Yard", name := "levelAfter", desc := "(I[LFloatingDock$Charge;)I" } : Jvm.MethodName)) ∈ lw_all := lw_g (lw_at lw_m11 211 rfl) rfl
theorem q2706 : (Jvm.Cond.code ({ cls := "FloatingDock$Yard", name := "levelAfter", desc := "(I[LFloatingDock$Charge;)I" } : Jvm.MethodName) prog_14_method_23_code (5 : Nat) (Option.some Jvm.ClassFile.FieldType.int)) ∈ lw_all := lw_g (lw_at lw_m11 212 rfl) rfl
theorem q2707 : (Jvm.Cond.classLink "FloatingDock$Yard" (13 : Nat) "FloatingDock$Yard") ∈ lw_all := lw_g (lw_at lw_m11 213 rfl) rfl
theorem q2708 : (Jvm.Cond.methodLink "FloatingDock$Yard" (260 : Nat) ({ cls := "FloatingDock$Yard", name := "<init>", desc := "(LFloatingDock$Yard;)V" } : Jvm.MethodName)) ∈ lw_all := lw_g (lw_at lw_m11 214 rfl) rfl
theorem q2717 : (Jvm.Cond.instanceMethod ({ cls := "FloatingDock$Yard", name := "hoursUntilAfloat", desc := "(I[LFloatingDock$Charge;)I" } : Jvm.MethodName)) ∈ lw_all := lw_g (lw_at lw_m11 223 rfl) rfl
theorem q2718 : (Jvm.Cond.selects "FloatingDock$Yard" ({ cls := "FloatingDock$Yard", name := "hoursUntilAfloat", desc := "(I[LFloatingDock$Charge;)I" } : Jvm.MethodName) ({ cls := "FloatingDock$Yard", name := "hoursUntilAfloat", desc := "(I[LFloatingDock$Charge;)I" } : Jvm.MethodName)) ∈ lw_all := lw_g (lw_at lw_m11 224 rfl) rfl
theorem q2719 : (Jvm.Cond.code ({ cls := "FloatingDock$Yard", name := "hoursUntilAfloat", desc := "(I[LFloatingDock$Charge;)I" } : Jvm.MethodName) prog_14_method_24_code (6 : Nat) (Option.some Jvm.ClassFile.FieldType.int)) ∈ lw_all := lw_g (lw_at lw_m11 225 rfl) rfl
theorem q2720 : (Jvm.Cond.classLink "FloatingDock$Yard" (263 : Nat) "java/lang/IllegalStateException") ∈ lw_all := lw_g (lw_at lw_m11 226 rfl) rfl
theorem q2721 : (Jvm.Cond.methodLink "FloatingDock$Yard" (265 : Nat) ({ cls := "java/lang/IllegalStateException", name := "<init>", desc := "()V" } : Jvm.MethodName)) ∈ lw_all := lw_g (lw_at lw_m11 227 rfl) rfl
theorem q2732 : (Jvm.Cond.instanceMethod ({ cls := "FloatingDock$Yard", name := "placeBlock", desc := "(I)I" } : Jvm.MethodName)) ∈ lw_all := lw_g (lw_at lw_m11 238 rfl) rfl
theorem q2733 : (Jvm.Cond.selects "FloatingDock$Yard" ({ cls := "FloatingDock$Yard", name := "placeBlock", desc := "(I)I" } : Jvm.MethodName) ({ cls := "FloatingDock$Yard", name := "placeBlock", desc := "(I)I" } : Jvm.MethodName)) ∈ lw_all := lw_g (lw_at lw_m11 239 rfl) rfl
theorem q2734 : (Jvm.Cond.code ({ cls := "FloatingDock$Yard", name := "placeBlock", desc := "(I)I" } : Jvm.MethodName) prog_14_method_27_code (3 : Nat) (Option.some Jvm.ClassFile.FieldType.int)) ∈ lw_all := lw_g (lw_at lw_m12 0 rfl) rfl
theorem q2735 : (Jvm.Cond.methodLinkNest "FloatingDock$Yard" (273 : Nat) ({ cls := "FloatingDock", name := "isPosition", desc := "(I)Z" } : Jvm.MethodName) "FloatingDock") ∈ lw_tbl := lw_at lw_m12 1 rfl
theorem q2738 : (Jvm.Cond.methodLink "FloatingDock$Yard" (276 : Nat) ({ cls := "java/util/HashSet", name := "size", desc := "()I" } : Jvm.MethodName)) ∈ lw_all := lw_g (lw_at lw_m12 4 rfl) rfl
theorem q2743 : (Jvm.Cond.methodLink "FloatingDock$Yard" (280 : Nat) ({ cls := "FloatingDock$Yard", name := "isWorkable", desc := "(I)Z" } : Jvm.MethodName)) ∈ lw_all := lw_g (lw_at lw_m12 9 rfl) rfl
theorem q2744 : (Jvm.Cond.privateMethod ({ cls := "FloatingDock$Yard", name := "isWorkable", desc := "(I)Z" } : Jvm.MethodName)) ∈ lw_tbl := lw_at lw_m12 10 rfl
theorem q2745 : (Jvm.Cond.instanceMethod ({ cls := "FloatingDock$Yard", name := "isWorkable", desc := "(I)Z" } : Jvm.MethodName)) ∈ lw_all := lw_g (lw_at lw_m12 11 rfl) rfl
theorem q2746 : (Jvm.Cond.code ({ cls := "FloatingDock$Yard", name := "isWorkable", desc := "(I)Z" } : Jvm.MethodName) prog_14_method_26_code (2 : Nat) (Option.some Jvm.ClassFile.FieldType.boolean)) ∈ lw_all := lw_g (lw_at lw_m12 12 rfl) rfl
theorem q2757 : (Jvm.Cond.instanceMethod ({ cls := "FloatingDock$Yard", name := "removeBlock", desc := "(I)I" } : Jvm.MethodName)) ∈ lw_all := lw_g (lw_at lw_m12 23 rfl) rfl
theorem q2758 : (Jvm.Cond.selects "FloatingDock$Yard" ({ cls := "FloatingDock$Yard", name := "removeBlock", desc := "(I)I" } : Jvm.MethodName) ({ cls := "FloatingDock$Yard", name := "removeBlock", desc := "(I)I" } : Jvm.MethodName)) ∈ lw_all := lw_g (lw_at lw_m12 24 rfl) rfl
theorem q2759 : (Jvm.Cond.code ({ cls := "FloatingDock$Yard", name := "removeBlock", desc := "(I)I" } : Jvm.MethodName) prog_14_method_28_code (3 : Nat) (Option.some Jvm.ClassFile.FieldType.int)) ∈ lw_all := lw_g (lw_at lw_m12 25 rfl) rfl
theorem q2760 : (Jvm.Cond.methodLink "FloatingDock$Yard" (283 : Nat) ({ cls := "java/util/HashSet", name := "remove", desc := "(Ljava/lang/Object;)Z" } : Jvm.MethodName)) ∈ lw_all := lw_g (lw_at lw_m12 26 rfl) rfl
theorem q2835 : (Jvm.Cond.instanceMethod ({ cls := "FloatingDock$Yard", name := "pay", desc := "(II)I" } : Jvm.MethodName)) ∈ lw_all := lw_g (lw_at lw_m12 101 rfl) rfl
theorem q2836 : (Jvm.Cond.selects "FloatingDock$Yard" ({ cls := "FloatingDock$Yard", name := "pay", desc := "(II)I" } : Jvm.MethodName) ({ cls := "FloatingDock$Yard", name := "pay", desc := "(II)I" } : Jvm.MethodName)) ∈ lw_all := lw_g (lw_at lw_m12 102 rfl) rfl
theorem q2837 : (Jvm.Cond.code ({ cls := "FloatingDock$Yard", name := "pay", desc := "(II)I" } : Jvm.MethodName) prog_14_method_42_code (4 : Nat) (Option.some Jvm.ClassFile.FieldType.int)) ∈ lw_all := lw_g (lw_at lw_m12 103 rfl) rfl
theorem q2846 : (Jvm.Cond.instanceMethod ({ cls := "FloatingDock$Yard", name := "shipAtRank", desc := "(I)I" } : Jvm.MethodName)) ∈ lw_all := lw_g (lw_at lw_m12 112 rfl) rfl
theorem q2847 : (Jvm.Cond.selects "FloatingDock$Yard" ({ cls := "FloatingDock$Yard", name := "shipAtRank", desc := "(I)I" } : Jvm.MethodName) ({ cls := "FloatingDock$Yard", name := "shipAtRank", desc := "(I)I" } : Jvm.MethodName)) ∈ lw_all := lw_g (lw_at lw_m12 113 rfl) rfl
theorem q2848 : (Jvm.Cond.code ({ cls := "FloatingDock$Yard", name := "shipAtRank", desc := "(I)I" } : Jvm.MethodName) prog_14_method_44_code (7 : Nat) (Option.some Jvm.ClassFile.FieldType.int)) ∈ lw_all := lw_g (lw_at lw_m12 114 rfl) rfl
theorem q2849 : (Jvm.Cond.methodLink "FloatingDock$Yard" (344 : Nat) ({ cls := "FloatingDock$Ship", name := "isAhead", desc := "(LFloatingDock$Ship;)Z" } : Jvm.MethodName)) ∈ lw_all := lw_g (lw_at lw_m12 115 rfl) rfl
theorem q2853 : (Jvm.Cond.classLink "FloatingDock$Yard" (348 : Nat) "java/lang/IndexOutOfBoundsException") ∈ lw_all := lw_g (lw_at lw_m12 119 rfl) rfl
theorem q2854 : (Jvm.Cond.methodLink "FloatingDock$Yard" (350 : Nat) ({ cls := "java/lang/IndexOutOfBoundsException", name := "<init>", desc := "()V" } : Jvm.MethodName)) ∈ lw_all := lw_g (lw_at lw_m12 120 rfl) rfl
theorem q3186 : (Jvm.Cond.instanceMethod ({ cls := "FloatingDock$Yard", name := "meanDirt", desc := "()D" } : Jvm.MethodName)) ∈ lw_all := lw_g (lw_at lw_m13 212 rfl) rfl
theorem q3187 : (Jvm.Cond.selects "FloatingDock$Yard" ({ cls := "FloatingDock$Yard", name := "meanDirt", desc := "()D" } : Jvm.MethodName) ({ cls := "FloatingDock$Yard", name := "meanDirt", desc := "()D" } : Jvm.MethodName)) ∈ lw_all := lw_g (lw_at lw_m13 213 rfl) rfl
theorem q3188 : (Jvm.Cond.code ({ cls := "FloatingDock$Yard", name := "meanDirt", desc := "()D" } : Jvm.MethodName) prog_14_method_45_code (4 : Nat) (Option.some Jvm.ClassFile.FieldType.double)) ∈ lw_all := lw_g (lw_at lw_m13 214 rfl) rfl
theorem q3189 : (Jvm.Cond.methodLink "FloatingDock$Yard" (351 : Nat) ({ cls := "java/util/LinkedHashMap", name := "isEmpty", desc := "()Z" } : Jvm.MethodName)) ∈ lw_all := lw_g (lw_at lw_m13 215 rfl) rfl
theorem q3195 : (Jvm.Cond.classLink "FloatingDock$Yard" (354 : Nat) "java/lang/ArithmeticException") ∈ lw_all := lw_g (lw_at lw_m13 221 rfl) rfl
theorem q3196 : (Jvm.Cond.methodLink "FloatingDock$Yard" (356 : Nat) ({ cls := "java/lang/ArithmeticException", name := "<init>", desc := "()V" } : Jvm.MethodName)) ∈ lw_all := lw_g (lw_at lw_m13 222 rfl) rfl
theorem q3798 : (Jvm.Cond.castable "FloatingDock$Yard" "java/lang/Object") ∈ lw_tbl := lw_at lw_m16 104 rfl
theorem in_X2 : ∀ w ∈ wsX20, w ∈ lw_all := lw_in wsX20 [283, 285, 287, 289, 291, 293, 295, 297, 299, 301] (by decide +kernel) (by decide +kernel)

/-! FloatingDock$Stretch -/
def RX3 : String := "FloatingDock$Stretch"
def TX3 : u_T := fun k => match k with
  | 0 => ("FloatingDock$Stretch", "first", "I", true)
  | _ => ("FloatingDock$Stretch", "length", "I", true)
def tyX3 : Nat → FieldType := fun k => match k with
  | 0 => .int
  | _ => .int
abbrev wsX30 : List Cond := u_ws RX3 TX3 2
theorem nmX3 : ∀ a, a < 2 → ∀ b, b < 2 → a ≠ b → (TX3 a).2.1 ≠ (TX3 b).2.1 := by decide +kernel
theorem tyX3_ok : ∀ k, k < 2 → parseFieldDescriptor (TX3 k).2.2.1 = some (tyX3 k) := by decide +kernel
abbrev cX3_end : ByteArray := prog_11_method_2_code
def yX3_end : MethodName := ⟨RX3, "end", "()I"⟩
abbrev cX3_init : ByteArray := prog_11_method_1_code
def yX3_init : MethodName := ⟨RX3, "<init>", "(II)V"⟩
abbrev cX3_contains : ByteArray := prog_11_method_3_code
def yX3_contains : MethodName := ⟨RX3, "contains", "(I)Z"⟩
abbrev cX3_iterator : ByteArray := prog_11_method_5_code
def yX3_iterator : MethodName := ⟨RX3, "iterator", "()Ljava/util/Iterator;"⟩
abbrev cX3_overlaps : ByteArray := prog_11_method_4_code
def yX3_overlaps : MethodName := ⟨RX3, "overlaps", "(LFloatingDock$Stretch;)Z"⟩
theorem q138 : (Jvm.Cond.initialized "FloatingDock$Stretch") ∈ lw_all := lw_g (lw_at lw_m1 44 rfl) rfl
theorem q639 : (Jvm.Cond.instanceMethod ({ cls := "FloatingDock$Stretch", name := "end", desc := "()I" } : Jvm.MethodName)) ∈ lw_all := lw_g (lw_at lw_m3 65 rfl) rfl
theorem q640 : (Jvm.Cond.selects "FloatingDock$Stretch" ({ cls := "FloatingDock$Stretch", name := "end", desc := "()I" } : Jvm.MethodName) ({ cls := "FloatingDock$Stretch", name := "end", desc := "()I" } : Jvm.MethodName)) ∈ lw_all := lw_g (lw_at lw_m3 66 rfl) rfl
theorem q641 : (Jvm.Cond.code ({ cls := "FloatingDock$Stretch", name := "end", desc := "()I" } : Jvm.MethodName) prog_11_method_2_code (1 : Nat) (Option.some Jvm.ClassFile.FieldType.int)) ∈ lw_all := lw_g (lw_at lw_m3 67 rfl) rfl
theorem q1242 : (Jvm.Cond.selects "FloatingDock$Stretch" ({ cls := "java/lang/Object", name := "getClass", desc := "()Ljava/lang/Class;" } : Jvm.MethodName) ({ cls := "java/lang/Object", name := "getClass", desc := "()Ljava/lang/Class;" } : Jvm.MethodName)) ∈ lw_all := lw_g (lw_at lw_m5 188 rfl) rfl
theorem q1288 : (Jvm.Cond.instantiable "FloatingDock$Stretch" (2 : Nat)) ∈ lw_all := lw_g (lw_at lw_m5 234 rfl) rfl
theorem q1290 : (Jvm.Cond.instanceMethod ({ cls := "FloatingDock$Stretch", name := "<init>", desc := "(II)V" } : Jvm.MethodName)) ∈ lw_all := lw_g (lw_at lw_m5 236 rfl) rfl
theorem q1291 : (Jvm.Cond.code ({ cls := "FloatingDock$Stretch", name := "<init>", desc := "(II)V" } : Jvm.MethodName) prog_11_method_1_code (3 : Nat) (Option.none : Option Jvm.ClassFile.FieldType)) ∈ lw_all := lw_g (lw_at lw_m5 237 rfl) rfl
theorem q1292 : (Jvm.Cond.methodLink "FloatingDock$Stretch" (1 : Nat) ({ cls := "java/lang/Object", name := "<init>", desc := "()V" } : Jvm.MethodName)) ∈ lw_all := lw_g (lw_at lw_m5 238 rfl) rfl
theorem q1293 : (Jvm.Cond.fieldLink "FloatingDock$Stretch" (7 : Nat) "FloatingDock$Stretch" "first" "I") ∈ lw_all := lw_g (lw_at lw_m5 239 rfl) rfl
theorem q1296 : (Jvm.Cond.fieldLink "FloatingDock$Stretch" (13 : Nat) "FloatingDock$Stretch" "length" "I") ∈ lw_all := lw_g (lw_at lw_m6 2 rfl) rfl
theorem q1299 : (Jvm.Cond.laysFinal "FloatingDock$Stretch" "FloatingDock$Stretch" "first" "I") ∈ lw_all := lw_g (lw_at lw_m6 5 rfl) rfl
theorem q1300 : (Jvm.Cond.soleField "FloatingDock$Stretch" "first") ∈ lw_all := lw_g (lw_at lw_m6 6 rfl) rfl
theorem q1301 : (Jvm.Cond.laysFinal "FloatingDock$Stretch" "FloatingDock$Stretch" "length" "I") ∈ lw_all := lw_g (lw_at lw_m6 7 rfl) rfl
theorem q1302 : (Jvm.Cond.soleField "FloatingDock$Stretch" "length") ∈ lw_all := lw_g (lw_at lw_m6 8 rfl) rfl
theorem q1303 : (Jvm.Cond.superclass "FloatingDock$Stretch" "java/lang/Object") ∈ lw_all := lw_g (lw_at lw_m6 9 rfl) rfl
theorem q1513 : (Jvm.Cond.instanceMethod ({ cls := "FloatingDock$Stretch", name := "contains", desc := "(I)Z" } : Jvm.MethodName)) ∈ lw_all := lw_g (lw_at lw_m6 219 rfl) rfl
theorem q1514 : (Jvm.Cond.selects "FloatingDock$Stretch" ({ cls := "FloatingDock$Stretch", name := "contains", desc := "(I)Z" } : Jvm.MethodName) ({ cls := "FloatingDock$Stretch", name := "contains", desc := "(I)Z" } : Jvm.MethodName)) ∈ lw_all := lw_g (lw_at lw_m6 220 rfl) rfl
theorem q1515 : (Jvm.Cond.code ({ cls := "FloatingDock$Stretch", name := "contains", desc := "(I)Z" } : Jvm.MethodName) prog_11_method_3_code (2 : Nat) (Option.some Jvm.ClassFile.FieldType.boolean)) ∈ lw_all := lw_g (lw_at lw_m6 221 rfl) rfl
theorem q1516 : (Jvm.Cond.methodLink "FloatingDock$Stretch" (16 : Nat) ({ cls := "FloatingDock$Stretch", name := "end", desc := "()I" } : Jvm.MethodName)) ∈ lw_all := lw_g (lw_at lw_m6 222 rfl) rfl
theorem q1517 : (Jvm.Cond.methodLinkNest "FloatingDock$Stretch" (20 : Nat) ({ cls := "FloatingDock", name := "isBetween", desc := "(III)Z" } : Jvm.MethodName) "FloatingDock") ∈ lw_tbl := lw_at lw_m6 223 rfl
theorem q1567 : (Jvm.Cond.selects "FloatingDock$Stretch" ({ cls := "java/lang/Object", name := "hashCode", desc := "()I" } : Jvm.MethodName) ({ cls := "java/lang/Object", name := "hashCode", desc := "()I" } : Jvm.MethodName)) ∈ lw_all := lw_g (lw_at lw_m7 33 rfl) rfl
theorem q1663 : (Jvm.Cond.selects "FloatingDock$Stretch" ({ cls := "java/lang/Object", name := "equals", desc := "(Ljava/lang/Object;)Z" } : Jvm.MethodName) ({ cls := "java/lang/Object", name := "equals", desc := "(Ljava/lang/Object;)Z" } : Jvm.MethodName)) ∈ lw_all := lw_g (lw_at lw_m7 129 rfl) rfl
theorem q1956 : (Jvm.Cond.instanceMethod ({ cls := "FloatingDock$Stretch", name := "iterator", desc := "()Ljava/util/Iterator;" } : Jvm.MethodName)) ∈ lw_all := lw_g (lw_at lw_m8 182 rfl) rfl
theorem q1957 : (Jvm.Cond.selects "FloatingDock$Stretch" ({ cls := "FloatingDock$Stretch", name := "iterator", desc := "()Ljava/util/Iterator;" } : Jvm.MethodName) ({ cls := "FloatingDock$Stretch", name := "iterator", desc := "()Ljava/util/Iterator;" } : Jvm.MethodName)) ∈ lw_all := lw_g (lw_at lw_m8 183 rfl) rfl
theorem q1958 : (Jvm.Cond.code ({ cls := "FloatingDock$Stretch", name := "iterator", desc := "()Ljava/util/Iterator;" } : Jvm.MethodName) prog_11_method_5_code (1 : Nat) (Option.some (Jvm.ClassFile.FieldType.object "java/util/Iterator"))) ∈ lw_all := lw_g (lw_at lw_m8 184 rfl) rfl
theorem q1959 : (Jvm.Cond.classLink "FloatingDock$Stretch" (26 : Nat) "FloatingDock$Stretch$1") ∈ lw_all := lw_g (lw_at lw_m8 185 rfl) rfl
theorem q1961 : (Jvm.Cond.methodLink "FloatingDock$Stretch" (28 : Nat) ({ cls := "FloatingDock$Stretch$1", name := "<init>", desc := "(LFloatingDock$Stretch;)V" } : Jvm.MethodName)) ∈ lw_all := lw_g (lw_at lw_m8 187 rfl) rfl
theorem q2480 : (Jvm.Cond.instanceMethod ({ cls := "FloatingDock$Stretch", name := "overlaps", desc := "(LFloatingDock$Stretch;)Z" } : Jvm.MethodName)) ∈ lw_all := lw_g (lw_at lw_m10 226 rfl) rfl
theorem q2481 : (Jvm.Cond.selects "FloatingDock$Stretch" ({ cls := "FloatingDock$Stretch", name := "overlaps", desc := "(LFloatingDock$Stretch;)Z" } : Jvm.MethodName) ({ cls := "FloatingDock$Stretch", name := "overlaps", desc := "(LFloatingDock$Stretch;)Z" } : Jvm.MethodName)) ∈ lw_all := lw_g (lw_at lw_m10 227 rfl) rfl
theorem q2482 : (Jvm.Cond.code ({ cls := "FloatingDock$Stretch", name := "overlaps", desc := "(LFloatingDock$Stretch;)Z" } : Jvm.MethodName) prog_11_method_4_code (2 : Nat) (Option.some Jvm.ClassFile.FieldType.boolean)) ∈ lw_all := lw_g (lw_at lw_m10 228 rfl) rfl
theorem q3817 : (Jvm.Cond.castable "FloatingDock$Stretch" "java/lang/Object") ∈ lw_tbl := lw_at lw_m16 123 rfl
theorem in_X3 : ∀ w ∈ wsX30, w ∈ lw_all := lw_in wsX30 [1299, 1301] (by decide +kernel) (by decide +kernel)

/-! FloatingDock$Yard$Search -/
def RX4 : String := "FloatingDock$Yard$Search"
def TX4 : u_T := fun k => match k with
  | 0 => ("FloatingDock$Yard$Search", "waiting", "Ljava/util/ArrayList;", true)
  | 1 => ("FloatingDock$Yard$Search", "room", "[I", true)
  | 2 => ("FloatingDock$Yard$Search", "most", "I", false)
  | _ => ("FloatingDock$Yard$Search", "this$0", "LFloatingDock$Yard;", true)
def tyX4 : Nat → FieldType := fun k => match k with
  | 0 => .object "java/util/ArrayList"
  | 1 => .array .int
  | 2 => .int
  | _ => .object "FloatingDock$Yard"
abbrev wsX40 : List Cond := u_ws RX4 TX4 4
theorem nmX4 : ∀ a, a < 4 → ∀ b, b < 4 → a ≠ b → (TX4 a).2.1 ≠ (TX4 b).2.1 := by decide +kernel
theorem tyX4_ok : ∀ k, k < 4 → parseFieldDescriptor (TX4 k).2.2.1 = some (tyX4 k) := by decide +kernel
abbrev cX4_init : ByteArray := prog_15_method_1_code
def yX4_init : MethodName := ⟨RX4, "<init>", "(LFloatingDock$Yard;)V"⟩
abbrev cX4_pack : ByteArray := prog_15_method_2_code
def yX4_pack : MethodName := ⟨RX4, "pack", "(II)V"⟩
theorem q139 : (Jvm.Cond.initialized "FloatingDock$Yard$Search") ∈ lw_all := lw_g (lw_at lw_m1 45 rfl) rfl
theorem q1246 : (Jvm.Cond.selects "FloatingDock$Yard$Search" ({ cls := "java/lang/Object", name := "getClass", desc := "()Ljava/lang/Class;" } : Jvm.MethodName) ({ cls := "java/lang/Object", name := "getClass", desc := "()Ljava/lang/Class;" } : Jvm.MethodName)) ∈ lw_all := lw_g (lw_at lw_m5 192 rfl) rfl
theorem q1297 : (Jvm.Cond.fieldLinkNest "FloatingDock$Yard$Search" (41 : Nat) "FloatingDock$Stretch" "length" "I" "FloatingDock") ∈ lw_tbl := lw_at lw_m6 3 rfl
theorem q1319 : (Jvm.Cond.instantiable "FloatingDock$Yard$Search" (4 : Nat)) ∈ lw_all := lw_g (lw_at lw_m6 25 rfl) rfl
theorem q1321 : (Jvm.Cond.instanceMethod ({ cls := "FloatingDock$Yard$Search", name := "<init>", desc := "(LFloatingDock$Yard;)V" } : Jvm.MethodName)) ∈ lw_all := lw_g (lw_at lw_m6 27 rfl) rfl
theorem q1322 : (Jvm.Cond.code ({ cls := "FloatingDock$Yard$Search", name := "<init>", desc := "(LFloatingDock$Yard;)V" } : Jvm.MethodName) prog_15_method_1_code (4 : Nat) (Option.none : Option Jvm.ClassFile.FieldType)) ∈ lw_all := lw_g (lw_at lw_m6 28 rfl) rfl
theorem q1323 : (Jvm.Cond.methodLink "FloatingDock$Yard$Search" (7 : Nat) ({ cls := "java/lang/Object", name := "<init>", desc := "()V" } : Jvm.MethodName)) ∈ lw_all := lw_g (lw_at lw_m6 29 rfl) rfl
theorem q1324 : (Jvm.Cond.methodLinkNest "FloatingDock$Yard$Search" (13 : Nat) ({ cls := "FloatingDock$Yard", name := "waiting", desc := "()Ljava/util/ArrayList;" } : Jvm.MethodName) "FloatingDock") ∈ lw_tbl := lw_at lw_m6 30 rfl
theorem q1332 : (Jvm.Cond.methodLink "FloatingDock$Yard$Search" (22 : Nat) ({ cls := "FloatingDock$Yard", name := "gaps", desc := "()Ljava/util/ArrayList;" } : Jvm.MethodName)) ∈ lw_all := lw_g (lw_at lw_m6 38 rfl) rfl
theorem q1333 : (Jvm.Cond.methodLink "FloatingDock$Yard$Search" (25 : Nat) ({ cls := "java/util/ArrayList", name := "size", desc := "()I" } : Jvm.MethodName)) ∈ lw_all := lw_g (lw_at lw_m6 39 rfl) rfl
theorem q1334 : (Jvm.Cond.methodLink "FloatingDock$Yard$Search" (35 : Nat) ({ cls := "java/util/ArrayList", name := "get", desc := "(I)Ljava/lang/Object;" } : Jvm.MethodName)) ∈ lw_all := lw_g (lw_at lw_m6 40 rfl) rfl
theorem q1335 : (Jvm.Cond.classLink "FloatingDock$Yard$Search" (39 : Nat) "FloatingDock$Stretch") ∈ lw_all := lw_g (lw_at lw_m6 41 rfl) rfl
theorem q1336 : (Jvm.Cond.fieldLink "FloatingDock$Yard$Search" (19 : Nat) "FloatingDock$Yard$Search" "waiting" "Ljava/util/ArrayList;") ∈ lw_all := lw_g (lw_at lw_m6 42 rfl) rfl
theorem q1337 : (Jvm.Cond.fieldLink "FloatingDock$Yard$Search" (31 : Nat) "FloatingDock$Yard$Search" "room" "[I") ∈ lw_all := lw_g (lw_at lw_m6 43 rfl) rfl
theorem q1338 : (Jvm.Cond.fieldLink "FloatingDock$Yard$Search" (45 : Nat) "FloatingDock$Yard$Search" "most" "I") ∈ lw_all := lw_g (lw_at lw_m6 44 rfl) rfl
theorem q1340 : (Jvm.Cond.fieldLink "FloatingDock$Yard$Search" (1 : Nat) "FloatingDock$Yard$Search" "this$0" "LFloatingDock$Yard;") ∈ lw_all := lw_g (lw_at lw_m6 46 rfl) rfl
theorem q1341 : (Jvm.Cond.laysFinal "FloatingDock$Yard$Search" "FloatingDock$Yard$Search" "waiting" "Ljava/util/ArrayList;") ∈ lw_all := lw_g (lw_at lw_m6 47 rfl) rfl
theorem q1342 : (Jvm.Cond.soleField "FloatingDock$Yard$Search" "waiting") ∈ lw_all := lw_g (lw_at lw_m6 48 rfl) rfl
theorem q1343 : (Jvm.Cond.laysFinal "FloatingDock$Yard$Search" "FloatingDock$Yard$Search" "room" "[I") ∈ lw_all := lw_g (lw_at lw_m6 49 rfl) rfl
theorem q1344 : (Jvm.Cond.soleField "FloatingDock$Yard$Search" "room") ∈ lw_all := lw_g (lw_at lw_m6 50 rfl) rfl
theorem q1345 : (Jvm.Cond.lays "FloatingDock$Yard$Search" "FloatingDock$Yard$Search" "most" "I") ∈ lw_all := lw_g (lw_at lw_m6 51 rfl) rfl
theorem q1346 : (Jvm.Cond.soleField "FloatingDock$Yard$Search" "most") ∈ lw_all := lw_g (lw_at lw_m6 52 rfl) rfl
theorem q1347 : (Jvm.Cond.laysFinal "FloatingDock$Yard$Search" "FloatingDock$Yard$Search" "this$0" "LFloatingDock$Yard;") ∈ lw_all := lw_g (lw_at lw_m6 53 rfl) rfl
theorem q1348 : (Jvm.Cond.soleField "FloatingDock$Yard$Search" "this$0") ∈ lw_all := lw_g (lw_at lw_m6 54 rfl) rfl
theorem q1349 : (Jvm.Cond.superclass "FloatingDock$Yard$Search" "java/lang/Object") ∈ lw_all := lw_g (lw_at lw_m6 55 rfl) rfl
theorem q1352 : (Jvm.Cond.instanceMethod ({ cls := "FloatingDock$Yard$Search", name := "pack", desc := "(II)V" } : Jvm.MethodName)) ∈ lw_all := lw_g (lw_at lw_m6 58 rfl) rfl
theorem q1353 : (Jvm.Cond.selects "FloatingDock$Yard$Search" ({ cls := "FloatingDock$Yard$Search", name := "pack", desc := "(II)V" } : Jvm.MethodName) ({ cls := "FloatingDock$Yard$Search", name := "pack", desc := "(II)V" } : Jvm.MethodName)) ∈ lw_all := lw_g (lw_at lw_m6 59 rfl) rfl
theorem q1354 : (Jvm.Cond.code ({ cls := "FloatingDock$Yard$Search", name := "pack", desc := "(II)V" } : Jvm.MethodName) prog_15_method_2_code (5 : Nat) (Option.none : Option Jvm.ClassFile.FieldType)) ∈ lw_all := lw_g (lw_at lw_m6 60 rfl) rfl
theorem q1355 : (Jvm.Cond.methodLink "FloatingDock$Yard$Search" (48 : Nat) ({ cls := "java/lang/Math", name := "max", desc := "(II)I" } : Jvm.MethodName)) ∈ lw_all := lw_g (lw_at lw_m6 61 rfl) rfl
theorem q1356 : (Jvm.Cond.classLink "FloatingDock$Yard$Search" (54 : Nat) "FloatingDock$Ship") ∈ lw_all := lw_g (lw_at lw_m6 62 rfl) rfl
theorem q1357 : (Jvm.Cond.methodLink "FloatingDock$Yard$Search" (57 : Nat) ({ cls := "FloatingDock$Yard$Search", name := "pack", desc := "(II)V" } : Jvm.MethodName)) ∈ lw_all := lw_g (lw_at lw_m6 63 rfl) rfl
theorem q1571 : (Jvm.Cond.selects "FloatingDock$Yard$Search" ({ cls := "java/lang/Object", name := "hashCode", desc := "()I" } : Jvm.MethodName) ({ cls := "java/lang/Object", name := "hashCode", desc := "()I" } : Jvm.MethodName)) ∈ lw_all := lw_g (lw_at lw_m7 37 rfl) rfl
theorem q1667 : (Jvm.Cond.selects "FloatingDock$Yard$Search" ({ cls := "java/lang/Object", name := "equals", desc := "(Ljava/lang/Object;)Z" } : Jvm.MethodName) ({ cls := "java/lang/Object", name := "equals", desc := "(Ljava/lang/Object;)Z" } : Jvm.MethodName)) ∈ lw_all := lw_g (lw_at lw_m7 133 rfl) rfl
theorem q2008 : (Jvm.Cond.fieldLinkNest "FloatingDock$Yard$Search" (56 : Nat) "FloatingDock$Ship" "length" "I" "FloatingDock") ∈ lw_tbl := lw_at lw_m8 234 rfl
theorem q3818 : (Jvm.Cond.castable "FloatingDock$Yard$Search" "java/lang/Object") ∈ lw_tbl := lw_at lw_m16 124 rfl
theorem in_X4 : ∀ w ∈ wsX40, w ∈ lw_all := lw_in wsX40 [1341, 1343, 1345, 1347] (by decide +kernel) (by decide +kernel)

/-! FloatingDockModel -/
def RX5 : String := "FloatingDockModel"
def TX5 : u_T := fun k => match k with
  | 0 => ("FloatingDockModel", "now", "[I", true)
  | 1 => ("FloatingDockModel", "before", "[I", true)
  | 2 => ("FloatingDockModel", "saved", "[I", true)
  | 3 => ("FloatingDockModel", "history", "[I", true)
  | 4 => ("FloatingDockModel", "isSaved", "Z", false)
  | 5 => ("FloatingDockModel", "remembered", "I", false)
  | 6 => ("FloatingDockModel", "errorAt", "I", false)
  | 7 => ("FloatingDockModel", "failedAt", "I", false)
  | 8 => ("FloatingDockModel", "reason", "I", false)
  | 9 => ("FloatingDockModel", "text", "[I", true)
  | 10 => ("FloatingDockModel", "typed", "I", false)
  | 11 => ("FloatingDockModel", "line", "[I", true)
  | 12 => ("FloatingDockModel", "lined", "I", false)
  | 13 => ("FloatingDockModel", "thrown", "I", false)
  | 14 => ("FloatingDockModel", "fits", "[Z", true)
  | 15 => ("FloatingDockModel", "size", "I", false)
  | 16 => ("FloatingDockModel", "spot", "I", false)
  | 17 => ("FloatingDockModel", "wrong", "I", false)
  | 18 => ("FloatingDockModel", "told", "I", false)
  | _ => ("FloatingDockModel", "numbers", "[I", true)
def tyX5 : Nat → FieldType := fun k => match k with
  | 0 => .array .int
  | 1 => .array .int
  | 2 => .array .int
  | 3 => .array .int
  | 4 => .boolean
  | 5 => .int
  | 6 => .int
  | 7 => .int
  | 8 => .int
  | 9 => .array .int
  | 10 => .int
  | 11 => .array .int
  | 12 => .int
  | 13 => .int
  | 14 => .array .boolean
  | 15 => .int
  | 16 => .int
  | 17 => .int
  | 18 => .int
  | _ => .array .int
abbrev wsX50 : List Cond := u_ws RX5 TX5 20
theorem nmX5 : ∀ a, a < 20 → ∀ b, b < 20 → a ≠ b → (TX5 a).2.1 ≠ (TX5 b).2.1 := by decide +kernel
theorem tyX5_ok : ∀ k, k < 20 → parseFieldDescriptor (TX5 k).2.2.1 = some (tyX5 k) := by decide +kernel
abbrev cX5_init : ByteArray := prog_17_method_1_code
def yX5_init : MethodName := ⟨RX5, "<init>", "()V"⟩
abbrev cX5_thrown : ByteArray := prog_17_method_2_code
def yX5_thrown : MethodName := ⟨RX5, "thrown", "()I"⟩
abbrev cX5_undo : ByteArray := prog_17_method_10_code
def yX5_undo : MethodName := ⟨RX5, "undo", "()I"⟩
abbrev cX5_goes : ByteArray := prog_17_method_6_code
def yX5_goes : MethodName := ⟨RX5, "goes", "(Z)Z"⟩
abbrev cX5_holds : ByteArray := prog_17_method_5_code
def yX5_holds : MethodName := ⟨RX5, "holds", "(ZZZZ)Z"⟩
abbrev cX5_copies : ByteArray := prog_17_method_4_code
def yX5_copies : MethodName := ⟨RX5, "copies", "([II[II)V"⟩
abbrev cX5_save : ByteArray := prog_17_method_11_code
def yX5_save : MethodName := ⟨RX5, "save", "()I"⟩
abbrev cX5_restore : ByteArray := prog_17_method_12_code
def yX5_restore : MethodName := ⟨RX5, "restore", "()I"⟩
abbrev cX5_addShip : ByteArray := prog_17_method_26_code
def yX5_addShip : MethodName := ⟨RX5, "addShip", "(III)I"⟩
abbrev cX5_begins : ByteArray := prog_17_method_7_code
def yX5_begins : MethodName := ⟨RX5, "begins", "()V"⟩
abbrev cX5_adds : ByteArray := prog_17_method_25_code
def yX5_adds : MethodName := ⟨RX5, "adds", "(III)I"⟩
abbrev cX5_isIn : ByteArray := prog_17_method_3_code
def yX5_isIn : MethodName := ⟨RX5, "isIn", "(III)Z"⟩
abbrev cX5_place : ByteArray := prog_17_method_14_code
def yX5_place : MethodName := ⟨RX5, "place", "(II)I"⟩
abbrev cX5_ends : ByteArray := prog_17_method_9_code
def yX5_ends : MethodName := ⟨RX5, "ends", "(I)I"⟩
abbrev cX5_remembers : ByteArray := prog_17_method_8_code
def yX5_remembers : MethodName := ⟨RX5, "remembers", "()V"⟩
abbrev cX5_removeShip : ByteArray := prog_17_method_28_code
def yX5_removeShip : MethodName := ⟨RX5, "removeShip", "(I)I"⟩
abbrev cX5_removes : ByteArray := prog_17_method_27_code
def yX5_removes : MethodName := ⟨RX5, "removes", "(I)I"⟩
abbrev cX5_find : ByteArray := prog_17_method_13_code
def yX5_find : MethodName := ⟨RX5, "find", "(I)I"⟩
abbrev cX5_of : ByteArray := prog_17_method_15_code
def yX5_of : MethodName := ⟨RX5, "of", "(II)I"⟩
abbrev cX5_isDocked : ByteArray := prog_17_method_16_code
def yX5_isDocked : MethodName := ⟨RX5, "isDocked", "(I)Z"⟩
abbrev cX5_enter : ByteArray := prog_17_method_31_code
def yX5_enter : MethodName := ⟨RX5, "enter", "(II)I"⟩
abbrev cX5_enters : ByteArray := prog_17_method_30_code
def yX5_enters : MethodName := ⟨RX5, "enters", "(II)I"⟩
abbrev cX5_isMetre : ByteArray := prog_17_method_21_code
def yX5_isMetre : MethodName := ⟨RX5, "isMetre", "(I)Z"⟩
abbrev cX5_isFree : ByteArray := prog_17_method_20_code
def yX5_isFree : MethodName := ⟨RX5, "isFree", "(II)Z"⟩
abbrev cX5_at : ByteArray := prog_17_method_19_code
def yX5_at : MethodName := ⟨RX5, "at", "(I)I"⟩
abbrev cX5_refuses : ByteArray := prog_17_method_29_code
def yX5_refuses : MethodName := ⟨RX5, "refuses", "(II)V"⟩
abbrev cX5_docked : ByteArray := prog_17_method_18_code
def yX5_docked : MethodName := ⟨RX5, "docked", "()I"⟩
abbrev cX5_leave : ByteArray := prog_17_method_33_code
def yX5_leave : MethodName := ⟨RX5, "leave", "(I)I"⟩
abbrev cX5_leaves : ByteArray := prog_17_method_32_code
def yX5_leaves : MethodName := ⟨RX5, "leaves", "(I)I"⟩
abbrev cX5_floats : ByteArray := prog_17_method_17_code
def yX5_floats : MethodName := ⟨RX5, "floats", "(I)Z"⟩
abbrev cX5_setCleaning : ByteArray := prog_17_method_35_code
def yX5_setCleaning : MethodName := ⟨RX5, "setCleaning", "(IZ)Z"⟩
abbrev cX5_cleans : ByteArray := prog_17_method_34_code
def yX5_cleans : MethodName := ⟨RX5, "cleans", "(II)I"⟩
abbrev cX5_pay : ByteArray := prog_17_method_37_code
def yX5_pay : MethodName := ⟨RX5, "pay", "(II)I"⟩
abbrev cX5_pays : ByteArray := prog_17_method_36_code
def yX5_pays : MethodName := ⟨RX5, "pays", "(II)I"⟩
abbrev cX5_setGate : ByteArray := prog_17_method_40_code
def yX5_setGate : MethodName := ⟨RX5, "setGate", "(Z)Z"⟩
abbrev cX5_gates : ByteArray := prog_17_method_39_code
def yX5_gates : MethodName := ⟨RX5, "gates", "(I)I"⟩
abbrev cX5_seaAt : ByteArray := prog_17_method_38_code
def yX5_seaAt : MethodName := ⟨RX5, "seaAt", "(I)I"⟩
abbrev cX5_setPump : ByteArray := prog_17_method_42_code
def yX5_setPump : MethodName := ⟨RX5, "setPump", "(I)I"⟩
abbrev cX5_pumps : ByteArray := prog_17_method_41_code
def yX5_pumps : MethodName := ⟨RX5, "pumps", "(I)I"⟩
abbrev cX5_placeBlock : ByteArray := prog_17_method_44_code
def yX5_placeBlock : MethodName := ⟨RX5, "placeBlock", "(I)I"⟩
abbrev cX5_lays : ByteArray := prog_17_method_43_code
def yX5_lays : MethodName := ⟨RX5, "lays", "(I)I"⟩
abbrev cX5_blocks : ByteArray := prog_17_method_23_code
def yX5_blocks : MethodName := ⟨RX5, "blocks", "()I"⟩
abbrev cX5_isBlock : ByteArray := prog_17_method_22_code
def yX5_isBlock : MethodName := ⟨RX5, "isBlock", "(I)Z"⟩
abbrev cX5_removeBlock : ByteArray := prog_17_method_46_code
def yX5_removeBlock : MethodName := ⟨RX5, "removeBlock", "(I)I"⟩
abbrev cX5_takes : ByteArray := prog_17_method_45_code
def yX5_takes : MethodName := ⟨RX5, "takes", "(I)I"⟩
abbrev cX5_pass : ByteArray := prog_17_method_51_code
def yX5_pass : MethodName := ⟨RX5, "pass", "(I)I"⟩
abbrev cX5_waits : ByteArray := prog_17_method_50_code
def yX5_waits : MethodName := ⟨RX5, "waits", "(I)I"⟩
abbrev cX5_levelThen : ByteArray := prog_17_method_47_code
def yX5_levelThen : MethodName := ⟨RX5, "levelThen", "(II)I"⟩
abbrev cX5_spends : ByteArray := prog_17_method_49_code
def yX5_spends : MethodName := ⟨RX5, "spends", "(I)I"⟩
abbrev cX5_beneath : ByteArray := prog_17_method_24_code
def yX5_beneath : MethodName := ⟨RX5, "beneath", "(I)I"⟩
abbrev cX5_charges : ByteArray := prog_17_method_48_code
def yX5_charges : MethodName := ⟨RX5, "charges", "(II)V"⟩
abbrev cX5_shipCount : ByteArray := prog_17_method_52_code
def yX5_shipCount : MethodName := ⟨RX5, "shipCount", "()I"⟩
abbrev cX5_shipAt : ByteArray := prog_17_method_53_code
def yX5_shipAt : MethodName := ⟨RX5, "shipAt", "(I)I"⟩
abbrev cX5_isInDock : ByteArray := prog_17_method_55_code
def yX5_isInDock : MethodName := ⟨RX5, "isInDock", "(I)Z"⟩
abbrev cX5_asks : ByteArray := prog_17_method_54_code
def yX5_asks : MethodName := ⟨RX5, "asks", "(II)I"⟩
abbrev cX5_positionOf : ByteArray := prog_17_method_56_code
def yX5_positionOf : MethodName := ⟨RX5, "positionOf", "(I)I"⟩
abbrev cX5_dirtOf : ByteArray := prog_17_method_57_code
def yX5_dirtOf : MethodName := ⟨RX5, "dirtOf", "(I)I"⟩
abbrev cX5_damageOf : ByteArray := prog_17_method_58_code
def yX5_damageOf : MethodName := ⟨RX5, "damageOf", "(I)I"⟩
abbrev cX5_hoursAfloat : ByteArray := prog_17_method_59_code
def yX5_hoursAfloat : MethodName := ⟨RX5, "hoursAfloat", "(I)I"⟩
abbrev cX5_isAfloat : ByteArray := prog_17_method_60_code
def yX5_isAfloat : MethodName := ⟨RX5, "isAfloat", "(I)Z"⟩
abbrev cX5_refusalReason : ByteArray := prog_17_method_61_code
def yX5_refusalReason : MethodName := ⟨RX5, "refusalReason", "()I"⟩
abbrev cX5_billOf : ByteArray := prog_17_method_62_code
def yX5_billOf : MethodName := ⟨RX5, "billOf", "(I)I"⟩
abbrev cX5_isGateOpen : ByteArray := prog_17_method_63_code
def yX5_isGateOpen : MethodName := ⟨RX5, "isGateOpen", "()Z"⟩
abbrev cX5_level : ByteArray := prog_17_method_64_code
def yX5_level : MethodName := ⟨RX5, "level", "()I"⟩
abbrev cX5_seaLevel : ByteArray := prog_17_method_66_code
def yX5_seaLevel : MethodName := ⟨RX5, "seaLevel", "(I)I"⟩
abbrev cX5_sea : ByteArray := prog_17_method_65_code
def yX5_sea : MethodName := ⟨RX5, "sea", "(I)I"⟩
abbrev cX5_seaLevelByHours : ByteArray := prog_17_method_67_code
def yX5_seaLevelByHours : MethodName := ⟨RX5, "seaLevelByHours", "(I)I"⟩
abbrev cX5_hour : ByteArray := prog_17_method_68_code
def yX5_hour : MethodName := ⟨RX5, "hour", "()I"⟩
abbrev cX5_levelAfter : ByteArray := prog_17_method_69_code
def yX5_levelAfter : MethodName := ⟨RX5, "levelAfter", "(I)I"⟩
abbrev cX5_hoursUntilAfloat : ByteArray := prog_17_method_70_code
def yX5_hoursUntilAfloat : MethodName := ⟨RX5, "hoursUntilAfloat", "(I)I"⟩
abbrev cX5_hasBlock : ByteArray := prog_17_method_71_code
def yX5_hasBlock : MethodName := ⟨RX5, "hasBlock", "(I)Z"⟩
abbrev cX5_blocksBeneath : ByteArray := prog_17_method_73_code
def yX5_blocksBeneath : MethodName := ⟨RX5, "blocksBeneath", "(I)I"⟩
abbrev cX5_asksBeneath : ByteArray := prog_17_method_72_code
def yX5_asksBeneath : MethodName := ⟨RX5, "asksBeneath", "(I)I"⟩
abbrev cX5_blocksBeneathByBlocks : ByteArray := prog_17_method_74_code
def yX5_blocksBeneathByBlocks : MethodName := ⟨RX5, "blocksBeneathByBlocks", "(I)I"⟩
abbrev cX5_shipAtPosition : ByteArray := prog_17_method_75_code
def yX5_shipAtPosition : MethodName := ⟨RX5, "shipAtPosition", "(I)I"⟩
abbrev cX5_firstGap : ByteArray := prog_17_method_77_code
def yX5_firstGap : MethodName := ⟨RX5, "firstGap", "(I)I"⟩
abbrev cX5_gap : ByteArray := prog_17_method_76_code
def yX5_gap : MethodName := ⟨RX5, "gap", "(I)I"⟩
abbrev cX5_firstGapByShips : ByteArray := prog_17_method_78_code
def yX5_firstGapByShips : MethodName := ⟨RX5, "firstGapByShips", "(I)I"⟩
abbrev cX5_freeMetres : ByteArray := prog_17_method_80_code
def yX5_freeMetres : MethodName := ⟨RX5, "freeMetres", "()I"⟩
abbrev cX5_freeOnes : ByteArray := prog_17_method_79_code
def yX5_freeOnes : MethodName := ⟨RX5, "freeOnes", "()I"⟩
abbrev cX5_mostFitting : ByteArray := prog_17_method_85_code
def yX5_mostFitting : MethodName := ⟨RX5, "mostFitting", "()I"⟩
abbrev cX5_mostOf : ByteArray := prog_17_method_84_code
def yX5_mostOf : MethodName := ⟨RX5, "mostOf", "(Z)I"⟩
abbrev cX5_packs : ByteArray := prog_17_method_83_code
def yX5_packs : MethodName := ⟨RX5, "packs", "()V"⟩
abbrev cX5_takesGap : ByteArray := prog_17_method_82_code
def yX5_takesGap : MethodName := ⟨RX5, "takesGap", "(I)V"⟩
abbrev cX5_metres : ByteArray := prog_17_method_81_code
def yX5_metres : MethodName := ⟨RX5, "metres", "(I)I"⟩
abbrev cX5_mostFittingByTable : ByteArray := prog_17_method_86_code
def yX5_mostFittingByTable : MethodName := ⟨RX5, "mostFittingByTable", "()I"⟩
abbrev cX5_mostFittingMetres : ByteArray := prog_17_method_87_code
def yX5_mostFittingMetres : MethodName := ⟨RX5, "mostFittingMetres", "()I"⟩
abbrev cX5_billTotal : ByteArray := prog_17_method_89_code
def yX5_billTotal : MethodName := ⟨RX5, "billTotal", "()I"⟩
abbrev cX5_sum : ByteArray := prog_17_method_88_code
def yX5_sum : MethodName := ⟨RX5, "sum", "(I)I"⟩
abbrev cX5_billTotalByAccount : ByteArray := prog_17_method_90_code
def yX5_billTotalByAccount : MethodName := ⟨RX5, "billTotalByAccount", "()I"⟩
abbrev cX5_paidTotal : ByteArray := prog_17_method_91_code
def yX5_paidTotal : MethodName := ⟨RX5, "paidTotal", "()I"⟩
abbrev cX5_shipAtRank : ByteArray := prog_17_method_92_code
def yX5_shipAtRank : MethodName := ⟨RX5, "shipAtRank", "(I)I"⟩
abbrev cX5_meanDirt : ByteArray := prog_17_method_93_code
def yX5_meanDirt : MethodName := ⟨RX5, "meanDirt", "()D"⟩
abbrev cX5_takenShare : ByteArray := prog_17_method_94_code
def yX5_takenShare : MethodName := ⟨RX5, "takenShare", "()F"⟩
abbrev cX5_isConsistent : ByteArray := prog_17_method_95_code
def yX5_isConsistent : MethodName := ⟨RX5, "isConsistent", "()Z"⟩
abbrev cX5_describeDock : ByteArray := prog_17_method_98_code
def yX5_describeDock : MethodName := ⟨RX5, "describeDock", "()I"⟩
abbrev cX5_describeBill : ByteArray := prog_17_method_99_code
def yX5_describeBill : MethodName := ⟨RX5, "describeBill", "(I)I"⟩
abbrev cX5_put : ByteArray := prog_17_method_96_code
def yX5_put : MethodName := ⟨RX5, "put", "(II)I"⟩
abbrev cX5_writesNumber : ByteArray := prog_17_method_97_code
def yX5_writesNumber : MethodName := ⟨RX5, "writesNumber", "(II)I"⟩
abbrev cX5_lineAt : ByteArray := prog_17_method_100_code
def yX5_lineAt : MethodName := ⟨RX5, "lineAt", "(I)C"⟩
abbrev cX5_append : ByteArray := prog_17_method_101_code
def yX5_append : MethodName := ⟨RX5, "append", "(C)I"⟩
abbrev cX5_run : ByteArray := prog_17_method_111_code
def yX5_run : MethodName := ⟨RX5, "run", "()I"⟩
abbrev cX5_readsAll : ByteArray := prog_17_method_109_code
def yX5_readsAll : MethodName := ⟨RX5, "readsAll", "()V"⟩
abbrev cX5_readsCommand : ByteArray := prog_17_method_108_code
def yX5_readsCommand : MethodName := ⟨RX5, "readsCommand", "()V"⟩
abbrev cX5_kindHere : ByteArray := prog_17_method_107_code
def yX5_kindHere : MethodName := ⟨RX5, "kindHere", "()I"⟩
abbrev cX5_startOf : ByteArray := prog_17_method_106_code
def yX5_startOf : MethodName := ⟨RX5, "startOf", "(I)I"⟩
abbrev cX5_letterHere : ByteArray := prog_17_method_102_code
def yX5_letterHere : MethodName := ⟨RX5, "letterHere", "()I"⟩
abbrev cX5_numberBehind : ByteArray := prog_17_method_105_code
def yX5_numberBehind : MethodName := ⟨RX5, "numberBehind", "(I)I"⟩
abbrev cX5_reads : ByteArray := prog_17_method_103_code
def yX5_reads : MethodName := ⟨RX5, "reads", "(II)I"⟩
abbrev cX5_number : ByteArray := prog_17_method_104_code
def yX5_number : MethodName := ⟨RX5, "number", "()I"⟩
abbrev cX5_does : ByteArray := prog_17_method_110_code
def yX5_does : MethodName := ⟨RX5, "does", "(I)I"⟩
abbrev cX5_errorPosition : ByteArray := prog_17_method_112_code
def yX5_errorPosition : MethodName := ⟨RX5, "errorPosition", "()I"⟩
abbrev cX5_failedCommand : ByteArray := prog_17_method_113_code
def yX5_failedCommand : MethodName := ⟨RX5, "failedCommand", "()I"⟩
theorem q140 : (Jvm.Cond.initialized "FloatingDockModel") ∈ lw_all := lw_g (lw_at lw_m1 46 rfl) rfl
theorem q1247 : (Jvm.Cond.selects "FloatingDockModel" ({ cls := "java/lang/Object", name := "getClass", desc := "()Ljava/lang/Class;" } : Jvm.MethodName) ({ cls := "java/lang/Object", name := "getClass", desc := "()Ljava/lang/Class;" } : Jvm.MethodName)) ∈ lw_all := lw_g (lw_at lw_m5 193 rfl) rfl
theorem q1572 : (Jvm.Cond.selects "FloatingDockModel" ({ cls := "java/lang/Object", name := "hashCode", desc := "()I" } : Jvm.MethodName) ({ cls := "java/lang/Object", name := "hashCode", desc := "()I" } : Jvm.MethodName)) ∈ lw_all := lw_g (lw_at lw_m7 38 rfl) rfl
theorem q1668 : (Jvm.Cond.selects "FloatingDockModel" ({ cls := "java/lang/Object", name := "equals", desc := "(Ljava/lang/Object;)Z" } : Jvm.MethodName) ({ cls := "java/lang/Object", name := "equals", desc := "(Ljava/lang/Object;)Z" } : Jvm.MethodName)) ∈ lw_all := lw_g (lw_at lw_m7 134 rfl) rfl
theorem q3237 : (Jvm.Cond.instantiable "FloatingDockModel" (20 : Nat)) ∈ lw_all := lw_g (lw_at lw_m14 23 rfl) rfl
theorem q3239 : (Jvm.Cond.instanceMethod ({ cls := "FloatingDockModel", name := "<init>", desc := "()V" } : Jvm.MethodName)) ∈ lw_all := lw_g (lw_at lw_m14 25 rfl) rfl
theorem q3240 : (Jvm.Cond.code ({ cls := "FloatingDockModel", name := "<init>", desc := "()V" } : Jvm.MethodName) prog_17_method_1_code (1 : Nat) (Option.none : Option Jvm.ClassFile.FieldType)) ∈ lw_all := lw_g (lw_at lw_m14 26 rfl) rfl
theorem q3241 : (Jvm.Cond.methodLink "FloatingDockModel" (3 : Nat) ({ cls := "java/lang/Object", name := "<init>", desc := "()V" } : Jvm.MethodName)) ∈ lw_all := lw_g (lw_at lw_m14 27 rfl) rfl
theorem q3242 : (Jvm.Cond.fieldLink "FloatingDockModel" (9 : Nat) "FloatingDockModel" "now" "[I") ∈ lw_all := lw_g (lw_at lw_m14 28 rfl) rfl
theorem q3243 : (Jvm.Cond.fieldLink "FloatingDockModel" (13 : Nat) "FloatingDockModel" "before" "[I") ∈ lw_all := lw_g (lw_at lw_m14 29 rfl) rfl
theorem q3244 : (Jvm.Cond.fieldLink "FloatingDockModel" (16 : Nat) "FloatingDockModel" "saved" "[I") ∈ lw_all := lw_g (lw_at lw_m14 30 rfl) rfl
theorem q3245 : (Jvm.Cond.fieldLink "FloatingDockModel" (19 : Nat) "FloatingDockModel" "history" "[I") ∈ lw_all := lw_g (lw_at lw_m14 31 rfl) rfl
theorem q3246 : (Jvm.Cond.fieldLink "FloatingDockModel" (63 : Nat) "FloatingDockModel" "isSaved" "Z") ∈ lw_all := lw_g (lw_at lw_m14 32 rfl) rfl
theorem q3247 : (Jvm.Cond.fieldLink "FloatingDockModel" (53 : Nat) "FloatingDockModel" "remembered" "I") ∈ lw_all := lw_g (lw_at lw_m14 33 rfl) rfl
theorem q3248 : (Jvm.Cond.fieldLink "FloatingDockModel" (22 : Nat) "FloatingDockModel" "errorAt" "I") ∈ lw_all := lw_g (lw_at lw_m14 34 rfl) rfl
theorem q3249 : (Jvm.Cond.fieldLink "FloatingDockModel" (26 : Nat) "FloatingDockModel" "failedAt" "I") ∈ lw_all := lw_g (lw_at lw_m14 35 rfl) rfl
theorem q3250 : (Jvm.Cond.fieldLink "FloatingDockModel" (110 : Nat) "FloatingDockModel" "reason" "I") ∈ lw_all := lw_g (lw_at lw_m14 36 rfl) rfl
theorem q3251 : (Jvm.Cond.fieldLink "FloatingDockModel" (29 : Nat) "FloatingDockModel" "text" "[I") ∈ lw_all := lw_g (lw_at lw_m14 37 rfl) rfl
theorem q3252 : (Jvm.Cond.fieldLink "FloatingDockModel" (229 : Nat) "FloatingDockModel" "typed" "I") ∈ lw_all := lw_g (lw_at lw_m14 38 rfl) rfl
theorem q3253 : (Jvm.Cond.fieldLink "FloatingDockModel" (32 : Nat) "FloatingDockModel" "line" "[I") ∈ lw_all := lw_g (lw_at lw_m14 39 rfl) rfl
theorem q3254 : (Jvm.Cond.fieldLink "FloatingDockModel" (223 : Nat) "FloatingDockModel" "lined" "I") ∈ lw_all := lw_g (lw_at lw_m14 40 rfl) rfl
theorem q3255 : (Jvm.Cond.fieldLink "FloatingDockModel" (42 : Nat) "FloatingDockModel" "thrown" "I") ∈ lw_all := lw_g (lw_at lw_m14 41 rfl) rfl
theorem q3256 : (Jvm.Cond.fieldLink "FloatingDockModel" (35 : Nat) "FloatingDockModel" "fits" "[Z") ∈ lw_all := lw_g (lw_at lw_m14 42 rfl) rfl
theorem q3257 : (Jvm.Cond.fieldLink "FloatingDockModel" (235 : Nat) "FloatingDockModel" "size" "I") ∈ lw_all := lw_g (lw_at lw_m14 43 rfl) rfl
theorem q3258 : (Jvm.Cond.fieldLink "FloatingDockModel" (232 : Nat) "FloatingDockModel" "spot" "I") ∈ lw_all := lw_g (lw_at lw_m14 44 rfl) rfl
theorem q3259 : (Jvm.Cond.fieldLink "FloatingDockModel" (238 : Nat) "FloatingDockModel" "wrong" "I") ∈ lw_all := lw_g (lw_at lw_m14 45 rfl) rfl
theorem q3260 : (Jvm.Cond.fieldLink "FloatingDockModel" (261 : Nat) "FloatingDockModel" "told" "I") ∈ lw_all := lw_g (lw_at lw_m14 46 rfl) rfl
theorem q3261 : (Jvm.Cond.fieldLink "FloatingDockModel" (39 : Nat) "FloatingDockModel" "numbers" "[I") ∈ lw_all := lw_g (lw_at lw_m14 47 rfl) rfl
theorem q3262 : (Jvm.Cond.laysFinal "FloatingDockModel" "FloatingDockModel" "now" "[I") ∈ lw_all := lw_g (lw_at lw_m14 48 rfl) rfl
theorem q3263 : (Jvm.Cond.soleField "FloatingDockModel" "now") ∈ lw_all := lw_g (lw_at lw_m14 49 rfl) rfl
theorem q3264 : (Jvm.Cond.laysFinal "FloatingDockModel" "FloatingDockModel" "before" "[I") ∈ lw_all := lw_g (lw_at lw_m14 50 rfl) rfl
theorem q3265 : (Jvm.Cond.soleField "FloatingDockModel" "before") ∈ lw_all := lw_g (lw_at lw_m14 51 rfl) rfl
theorem q3266 : (Jvm.Cond.laysFinal "FloatingDockModel" "FloatingDockModel" "saved" "[I") ∈ lw_all := lw_g (lw_at lw_m14 52 rfl) rfl
theorem q3267 : (Jvm.Cond.soleField "FloatingDockModel" "saved") ∈ lw_all := lw_g (lw_at lw_m14 53 rfl) rfl
theorem q3268 : (Jvm.Cond.laysFinal "FloatingDockModel" "FloatingDockModel" "history" "[I") ∈ lw_all := lw_g (lw_at lw_m14 54 rfl) rfl
theorem q3269 : (Jvm.Cond.soleField "FloatingDockModel" "history") ∈ lw_all := lw_g (lw_at lw_m14 55 rfl) rfl
theorem q3270 : (Jvm.Cond.lays "FloatingDockModel" "FloatingDockModel" "isSaved" "Z") ∈ lw_all := lw_g (lw_at lw_m14 56 rfl) rfl
theorem q3271 : (Jvm.Cond.soleField "FloatingDockModel" "isSaved") ∈ lw_all := lw_g (lw_at lw_m14 57 rfl) rfl
theorem q3272 : (Jvm.Cond.lays "FloatingDockModel" "FloatingDockModel" "remembered" "I") ∈ lw_all := lw_g (lw_at lw_m14 58 rfl) rfl
theorem q3273 : (Jvm.Cond.soleField "FloatingDockModel" "remembered") ∈ lw_all := lw_g (lw_at lw_m14 59 rfl) rfl
theorem q3274 : (Jvm.Cond.lays "FloatingDockModel" "FloatingDockModel" "errorAt" "I") ∈ lw_all := lw_g (lw_at lw_m14 60 rfl) rfl
theorem q3275 : (Jvm.Cond.soleField "FloatingDockModel" "errorAt") ∈ lw_all := lw_g (lw_at lw_m14 61 rfl) rfl
theorem q3276 : (Jvm.Cond.lays "FloatingDockModel" "FloatingDockModel" "failedAt" "I") ∈ lw_all := lw_g (lw_at lw_m14 62 rfl) rfl
theorem q3277 : (Jvm.Cond.soleField "FloatingDockModel" "failedAt") ∈ lw_all := lw_g (lw_at lw_m14 63 rfl) rfl
theorem q3278 : (Jvm.Cond.lays "FloatingDockModel" "FloatingDockModel" "reason" "I") ∈ lw_all := lw_g (lw_at lw_m14 64 rfl) rfl
theorem q3279 : (Jvm.Cond.soleField "FloatingDockModel" "reason") ∈ lw_all := lw_g (lw_at lw_m14 65 rfl) rfl
theorem q3280 : (Jvm.Cond.laysFinal "FloatingDockModel" "FloatingDockModel" "text" "[I") ∈ lw_all := lw_g (lw_at lw_m14 66 rfl) rfl
theorem q3281 : (Jvm.Cond.soleField "FloatingDockModel" "text") ∈ lw_all := lw_g (lw_at lw_m14 67 rfl) rfl
theorem q3282 : (Jvm.Cond.lays "FloatingDockModel" "FloatingDockModel" "typed" "I") ∈ lw_all := lw_g (lw_at lw_m14 68 rfl) rfl
theorem q3283 : (Jvm.Cond.soleField "FloatingDockModel" "typed") ∈ lw_all := lw_g (lw_at lw_m14 69 rfl) rfl
theorem q3284 : (Jvm.Cond.laysFinal "FloatingDockModel" "FloatingDockModel" "line" "[I") ∈ lw_all := lw_g (lw_at lw_m14 70 rfl) rfl
theorem q3285 : (Jvm.Cond.soleField "FloatingDockModel" "line") ∈ lw_all := lw_g (lw_at lw_m14 71 rfl) rfl
theorem q3286 : (Jvm.Cond.lays "FloatingDockModel" "FloatingDockModel" "lined" "I") ∈ lw_all := lw_g (lw_at lw_m14 72 rfl) rfl
theorem q3287 : (Jvm.Cond.soleField "FloatingDockModel" "lined") ∈ lw_all := lw_g (lw_at lw_m14 73 rfl) rfl
theorem q3288 : (Jvm.Cond.lays "FloatingDockModel" "FloatingDockModel" "thrown" "I") ∈ lw_all := lw_g (lw_at lw_m14 74 rfl) rfl
theorem q3289 : (Jvm.Cond.soleField "FloatingDockModel" "thrown") ∈ lw_all := lw_g (lw_at lw_m14 75 rfl) rfl
theorem q3290 : (Jvm.Cond.laysFinal "FloatingDockModel" "FloatingDockModel" "fits" "[Z") ∈ lw_all := lw_g (lw_at lw_m14 76 rfl) rfl
theorem q3291 : (Jvm.Cond.soleField "FloatingDockModel" "fits") ∈ lw_all := lw_g (lw_at lw_m14 77 rfl) rfl
theorem q3292 : (Jvm.Cond.lays "FloatingDockModel" "FloatingDockModel" "size" "I") ∈ lw_all := lw_g (lw_at lw_m14 78 rfl) rfl
theorem q3293 : (Jvm.Cond.soleField "FloatingDockModel" "size") ∈ lw_all := lw_g (lw_at lw_m14 79 rfl) rfl
theorem q3294 : (Jvm.Cond.lays "FloatingDockModel" "FloatingDockModel" "spot" "I") ∈ lw_all := lw_g (lw_at lw_m14 80 rfl) rfl
theorem q3295 : (Jvm.Cond.soleField "FloatingDockModel" "spot") ∈ lw_all := lw_g (lw_at lw_m14 81 rfl) rfl
theorem q3296 : (Jvm.Cond.lays "FloatingDockModel" "FloatingDockModel" "wrong" "I") ∈ lw_all := lw_g (lw_at lw_m14 82 rfl) rfl
theorem q3297 : (Jvm.Cond.soleField "FloatingDockModel" "wrong") ∈ lw_all := lw_g (lw_at lw_m14 83 rfl) rfl
theorem q3298 : (Jvm.Cond.lays "FloatingDockModel" "FloatingDockModel" "told" "I") ∈ lw_all := lw_g (lw_at lw_m14 84 rfl) rfl
theorem q3299 : (Jvm.Cond.soleField "FloatingDockModel" "told") ∈ lw_all := lw_g (lw_at lw_m14 85 rfl) rfl
theorem q3300 : (Jvm.Cond.laysFinal "FloatingDockModel" "FloatingDockModel" "numbers" "[I") ∈ lw_all := lw_g (lw_at lw_m14 86 rfl) rfl
theorem q3301 : (Jvm.Cond.soleField "FloatingDockModel" "numbers") ∈ lw_all := lw_g (lw_at lw_m14 87 rfl) rfl
theorem q3302 : (Jvm.Cond.superclass "FloatingDockModel" "java/lang/Object") ∈ lw_all := lw_g (lw_at lw_m14 88 rfl) rfl
theorem q3304 : (Jvm.Cond.instanceMethod ({ cls := "FloatingDockModel", name := "thrown", desc := "()I" } : Jvm.MethodName)) ∈ lw_all := lw_g (lw_at lw_m14 90 rfl) rfl
theorem q3305 : (Jvm.Cond.selects "FloatingDockModel" ({ cls := "FloatingDockModel", name := "thrown", desc := "()I" } : Jvm.MethodName) ({ cls := "FloatingDockModel", name := "thrown", desc := "()I" } : Jvm.MethodName)) ∈ lw_all := lw_g (lw_at lw_m14 91 rfl) rfl
theorem q3306 : (Jvm.Cond.code ({ cls := "FloatingDockModel", name := "thrown", desc := "()I" } : Jvm.MethodName) prog_17_method_2_code (1 : Nat) (Option.some Jvm.ClassFile.FieldType.int)) ∈ lw_all := lw_g (lw_at lw_m14 92 rfl) rfl
theorem q3308 : (Jvm.Cond.instanceMethod ({ cls := "FloatingDockModel", name := "undo", desc := "()I" } : Jvm.MethodName)) ∈ lw_all := lw_g (lw_at lw_m14 94 rfl) rfl
theorem q3309 : (Jvm.Cond.selects "FloatingDockModel" ({ cls := "FloatingDockModel", name := "undo", desc := "()I" } : Jvm.MethodName) ({ cls := "FloatingDockModel", name := "undo", desc := "()I" } : Jvm.MethodName)) ∈ lw_all := lw_g (lw_at lw_m14 95 rfl) rfl
theorem q3310 : (Jvm.Cond.code ({ cls := "FloatingDockModel", name := "undo", desc := "()I" } : Jvm.MethodName) prog_17_method_10_code (1 : Nat) (Option.some Jvm.ClassFile.FieldType.int)) ∈ lw_all := lw_g (lw_at lw_m14 96 rfl) rfl
theorem q3311 : (Jvm.Cond.methodLink "FloatingDockModel" (59 : Nat) ({ cls := "FloatingDockModel", name := "goes", desc := "(Z)Z" } : Jvm.MethodName)) ∈ lw_all := lw_g (lw_at lw_m14 97 rfl) rfl
theorem q3312 : (Jvm.Cond.privateMethod ({ cls := "FloatingDockModel", name := "goes", desc := "(Z)Z" } : Jvm.MethodName)) ∈ lw_tbl := lw_at lw_m14 98 rfl
theorem q3313 : (Jvm.Cond.instanceMethod ({ cls := "FloatingDockModel", name := "goes", desc := "(Z)Z" } : Jvm.MethodName)) ∈ lw_all := lw_g (lw_at lw_m14 99 rfl) rfl
theorem q3314 : (Jvm.Cond.code ({ cls := "FloatingDockModel", name := "goes", desc := "(Z)Z" } : Jvm.MethodName) prog_17_method_6_code (2 : Nat) (Option.some Jvm.ClassFile.FieldType.boolean)) ∈ lw_all := lw_g (lw_at lw_m14 100 rfl) rfl
theorem q3315 : (Jvm.Cond.methodLink "FloatingDockModel" (45 : Nat) ({ cls := "FloatingDockModel", name := "holds", desc := "(ZZZZ)Z" } : Jvm.MethodName)) ∈ lw_all := lw_g (lw_at lw_m14 101 rfl) rfl
theorem q3316 : (Jvm.Cond.privateMethod ({ cls := "FloatingDockModel", name := "holds", desc := "(ZZZZ)Z" } : Jvm.MethodName)) ∈ lw_tbl := lw_at lw_m14 102 rfl
theorem q3317 : (Jvm.Cond.instanceMethod ({ cls := "FloatingDockModel", name := "holds", desc := "(ZZZZ)Z" } : Jvm.MethodName)) ∈ lw_all := lw_g (lw_at lw_m14 103 rfl) rfl
theorem q3318 : (Jvm.Cond.code ({ cls := "FloatingDockModel", name := "holds", desc := "(ZZZZ)Z" } : Jvm.MethodName) prog_17_method_5_code (5 : Nat) (Option.some Jvm.ClassFile.FieldType.boolean)) ∈ lw_all := lw_g (lw_at lw_m14 104 rfl) rfl
theorem q3319 : (Jvm.Cond.methodLink "FloatingDockModel" (49 : Nat) ({ cls := "FloatingDockModel", name := "copies", desc := "([II[II)V" } : Jvm.MethodName)) ∈ lw_all := lw_g (lw_at lw_m14 105 rfl) rfl
theorem q3320 : (Jvm.Cond.static ({ cls := "FloatingDockModel", name := "copies", desc := "([II[II)V" } : Jvm.MethodName)) ∈ lw_all := lw_g (lw_at lw_m14 106 rfl) rfl
theorem q3321 : (Jvm.Cond.code ({ cls := "FloatingDockModel", name := "copies", desc := "([II[II)V" } : Jvm.MethodName) prog_17_method_4_code (5 : Nat) (Option.none : Option Jvm.ClassFile.FieldType)) ∈ lw_all := lw_g (lw_at lw_m14 107 rfl) rfl
theorem q3323 : (Jvm.Cond.instanceMethod ({ cls := "FloatingDockModel", name := "save", desc := "()I" } : Jvm.MethodName)) ∈ lw_all := lw_g (lw_at lw_m14 109 rfl) rfl
theorem q3324 : (Jvm.Cond.selects "FloatingDockModel" ({ cls := "FloatingDockModel", name := "save", desc := "()I" } : Jvm.MethodName) ({ cls := "FloatingDockModel", name := "save", desc := "()I" } : Jvm.MethodName)) ∈ lw_all := lw_g (lw_at lw_m14 110 rfl) rfl
theorem q3325 : (Jvm.Cond.code ({ cls := "FloatingDockModel", name := "save", desc := "()I" } : Jvm.MethodName) prog_17_method_11_code (1 : Nat) (Option.some Jvm.ClassFile.FieldType.int)) ∈ lw_all := lw_g (lw_at lw_m14 111 rfl) rfl
theorem q3327 : (Jvm.Cond.instanceMethod ({ cls := "FloatingDockModel", name := "restore", desc := "()I" } : Jvm.MethodName)) ∈ lw_all := lw_g (lw_at lw_m14 113 rfl) rfl
theorem q3328 : (Jvm.Cond.selects "FloatingDockModel" ({ cls := "FloatingDockModel", name := "restore", desc := "()I" } : Jvm.MethodName) ({ cls := "FloatingDockModel", name := "restore", desc := "()I" } : Jvm.MethodName)) ∈ lw_all := lw_g (lw_at lw_m14 114 rfl) rfl
theorem q3329 : (Jvm.Cond.code ({ cls := "FloatingDockModel", name := "restore", desc := "()I" } : Jvm.MethodName) prog_17_method_12_code (1 : Nat) (Option.some Jvm.ClassFile.FieldType.int)) ∈ lw_all := lw_g (lw_at lw_m14 115 rfl) rfl
theorem q3331 : (Jvm.Cond.instanceMethod ({ cls := "FloatingDockModel", name := "addShip", desc := "(III)I" } : Jvm.MethodName)) ∈ lw_all := lw_g (lw_at lw_m14 117 rfl) rfl
theorem q3332 : (Jvm.Cond.selects "FloatingDockModel" ({ cls := "FloatingDockModel", name := "addShip", desc := "(III)I" } : Jvm.MethodName) ({ cls := "FloatingDockModel", name := "addShip", desc := "(III)I" } : Jvm.MethodName)) ∈ lw_all := lw_g (lw_at lw_m14 118 rfl) rfl
theorem q3333 : (Jvm.Cond.code ({ cls := "FloatingDockModel", name := "addShip", desc := "(III)I" } : Jvm.MethodName) prog_17_method_26_code (4 : Nat) (Option.some Jvm.ClassFile.FieldType.int)) ∈ lw_all := lw_g (lw_at lw_m14 119 rfl) rfl
theorem q3334 : (Jvm.Cond.methodLink "FloatingDockModel" (94 : Nat) ({ cls := "FloatingDockModel", name := "begins", desc := "()V" } : Jvm.MethodName)) ∈ lw_all := lw_g (lw_at lw_m14 120 rfl) rfl
theorem q3335 : (Jvm.Cond.privateMethod ({ cls := "FloatingDockModel", name := "begins", desc := "()V" } : Jvm.MethodName)) ∈ lw_tbl := lw_at lw_m14 121 rfl
theorem q3336 : (Jvm.Cond.instanceMethod ({ cls := "FloatingDockModel", name := "begins", desc := "()V" } : Jvm.MethodName)) ∈ lw_all := lw_g (lw_at lw_m14 122 rfl) rfl
theorem q3337 : (Jvm.Cond.code ({ cls := "FloatingDockModel", name := "begins", desc := "()V" } : Jvm.MethodName) prog_17_method_7_code (1 : Nat) (Option.none : Option Jvm.ClassFile.FieldType)) ∈ lw_all := lw_g (lw_at lw_m14 123 rfl) rfl
theorem q3338 : (Jvm.Cond.methodLink "FloatingDockModel" (97 : Nat) ({ cls := "FloatingDockModel", name := "adds", desc := "(III)I" } : Jvm.MethodName)) ∈ lw_all := lw_g (lw_at lw_m14 124 rfl) rfl
theorem q3339 : (Jvm.Cond.privateMethod ({ cls := "FloatingDockModel", name := "adds", desc := "(III)I" } : Jvm.MethodName)) ∈ lw_tbl := lw_at lw_m14 125 rfl
theorem q3340 : (Jvm.Cond.instanceMethod ({ cls := "FloatingDockModel", name := "adds", desc := "(III)I" } : Jvm.MethodName)) ∈ lw_all := lw_g (lw_at lw_m14 126 rfl) rfl
theorem q3341 : (Jvm.Cond.code ({ cls := "FloatingDockModel", name := "adds", desc := "(III)I" } : Jvm.MethodName) prog_17_method_25_code (7 : Nat) (Option.some Jvm.ClassFile.FieldType.int)) ∈ lw_all := lw_g (lw_at lw_m14 127 rfl) rfl
theorem q3342 : (Jvm.Cond.methodLink "FloatingDockModel" (83 : Nat) ({ cls := "FloatingDockModel", name := "isIn", desc := "(III)Z" } : Jvm.MethodName)) ∈ lw_all := lw_g (lw_at lw_m14 128 rfl) rfl
theorem q3343 : (Jvm.Cond.static ({ cls := "FloatingDockModel", name := "isIn", desc := "(III)Z" } : Jvm.MethodName)) ∈ lw_all := lw_g (lw_at lw_m14 129 rfl) rfl
theorem q3344 : (Jvm.Cond.code ({ cls := "FloatingDockModel", name := "isIn", desc := "(III)Z" } : Jvm.MethodName) prog_17_method_3_code (3 : Nat) (Option.some Jvm.ClassFile.FieldType.boolean)) ∈ lw_all := lw_g (lw_at lw_m14 130 rfl) rfl
theorem q3345 : (Jvm.Cond.methodLink "FloatingDockModel" (76 : Nat) ({ cls := "FloatingDockModel", name := "place", desc := "(II)I" } : Jvm.MethodName)) ∈ lw_all := lw_g (lw_at lw_m14 131 rfl) rfl
theorem q3346 : (Jvm.Cond.static ({ cls := "FloatingDockModel", name := "place", desc := "(II)I" } : Jvm.MethodName)) ∈ lw_all := lw_g (lw_at lw_m14 132 rfl) rfl
theorem q3347 : (Jvm.Cond.code ({ cls := "FloatingDockModel", name := "place", desc := "(II)I" } : Jvm.MethodName) prog_17_method_14_code (2 : Nat) (Option.some Jvm.ClassFile.FieldType.int)) ∈ lw_all := lw_g (lw_at lw_m14 133 rfl) rfl
theorem q3348 : (Jvm.Cond.methodLink "FloatingDockModel" (71 : Nat) ({ cls := "java/lang/Math", name := "max", desc := "(II)I" } : Jvm.MethodName)) ∈ lw_all := lw_g (lw_at lw_m14 134 rfl) rfl
theorem q3349 : (Jvm.Cond.methodLink "FloatingDockModel" (101 : Nat) ({ cls := "FloatingDockModel", name := "ends", desc := "(I)I" } : Jvm.MethodName)) ∈ lw_all := lw_g (lw_at lw_m14 135 rfl) rfl
theorem q3350 : (Jvm.Cond.privateMethod ({ cls := "FloatingDockModel", name := "ends", desc := "(I)I" } : Jvm.MethodName)) ∈ lw_tbl := lw_at lw_m14 136 rfl
theorem q3351 : (Jvm.Cond.instanceMethod ({ cls := "FloatingDockModel", name := "ends", desc := "(I)I" } : Jvm.MethodName)) ∈ lw_all := lw_g (lw_at lw_m14 137 rfl) rfl
theorem q3352 : (Jvm.Cond.code ({ cls := "FloatingDockModel", name := "ends", desc := "(I)I" } : Jvm.MethodName) prog_17_method_9_code (2 : Nat) (Option.some Jvm.ClassFile.FieldType.int)) ∈ lw_all := lw_g (lw_at lw_m14 138 rfl) rfl
theorem q3353 : (Jvm.Cond.methodLink "FloatingDockModel" (56 : Nat) ({ cls := "FloatingDockModel", name := "remembers", desc := "()V" } : Jvm.MethodName)) ∈ lw_all := lw_g (lw_at lw_m14 139 rfl) rfl
theorem q3354 : (Jvm.Cond.privateMethod ({ cls := "FloatingDockModel", name := "remembers", desc := "()V" } : Jvm.MethodName)) ∈ lw_tbl := lw_at lw_m14 140 rfl
theorem q3355 : (Jvm.Cond.instanceMethod ({ cls := "FloatingDockModel", name := "remembers", desc := "()V" } : Jvm.MethodName)) ∈ lw_all := lw_g (lw_at lw_m14 141 rfl) rfl
theorem q3356 : (Jvm.Cond.code ({ cls := "FloatingDockModel", name := "remembers", desc := "()V" } : Jvm.MethodName) prog_17_method_8_code (2 : Nat) (Option.none : Option Jvm.ClassFile.FieldType)) ∈ lw_all := lw_g (lw_at lw_m14 142 rfl) rfl
theorem q3358 : (Jvm.Cond.instanceMethod ({ cls := "FloatingDockModel", name := "removeShip", desc := "(I)I" } : Jvm.MethodName)) ∈ lw_all := lw_g (lw_at lw_m14 144 rfl) rfl
theorem q3359 : (Jvm.Cond.selects "FloatingDockModel" ({ cls := "FloatingDockModel", name := "removeShip", desc := "(I)I" } : Jvm.MethodName) ({ cls := "FloatingDockModel", name := "removeShip", desc := "(I)I" } : Jvm.MethodName)) ∈ lw_all := lw_g (lw_at lw_m14 145 rfl) rfl
theorem q3360 : (Jvm.Cond.code ({ cls := "FloatingDockModel", name := "removeShip", desc := "(I)I" } : Jvm.MethodName) prog_17_method_28_code (2 : Nat) (Option.some Jvm.ClassFile.FieldType.int)) ∈ lw_all := lw_g (lw_at lw_m14 146 rfl) rfl
theorem q3361 : (Jvm.Cond.methodLink "FloatingDockModel" (107 : Nat) ({ cls := "FloatingDockModel", name := "removes", desc := "(I)I" } : Jvm.MethodName)) ∈ lw_all := lw_g (lw_at lw_m14 147 rfl) rfl
theorem q3362 : (Jvm.Cond.privateMethod ({ cls := "FloatingDockModel", name := "removes", desc := "(I)I" } : Jvm.MethodName)) ∈ lw_tbl := lw_at lw_m14 148 rfl
theorem q3363 : (Jvm.Cond.instanceMethod ({ cls := "FloatingDockModel", name := "removes", desc := "(I)I" } : Jvm.MethodName)) ∈ lw_all := lw_g (lw_at lw_m14 149 rfl) rfl
theorem q3364 : (Jvm.Cond.code ({ cls := "FloatingDockModel", name := "removes", desc := "(I)I" } : Jvm.MethodName) prog_17_method_27_code (5 : Nat) (Option.some Jvm.ClassFile.FieldType.int)) ∈ lw_all := lw_g (lw_at lw_m14 150 rfl) rfl
theorem q3365 : (Jvm.Cond.methodLink "FloatingDockModel" (104 : Nat) ({ cls := "FloatingDockModel", name := "find", desc := "(I)I" } : Jvm.MethodName)) ∈ lw_all := lw_g (lw_at lw_m14 151 rfl) rfl
theorem q3366 : (Jvm.Cond.privateMethod ({ cls := "FloatingDockModel", name := "find", desc := "(I)I" } : Jvm.MethodName)) ∈ lw_tbl := lw_at lw_m14 152 rfl
theorem q3367 : (Jvm.Cond.instanceMethod ({ cls := "FloatingDockModel", name := "find", desc := "(I)I" } : Jvm.MethodName)) ∈ lw_all := lw_g (lw_at lw_m14 153 rfl) rfl
theorem q3368 : (Jvm.Cond.code ({ cls := "FloatingDockModel", name := "find", desc := "(I)I" } : Jvm.MethodName) prog_17_method_13_code (4 : Nat) (Option.some Jvm.ClassFile.FieldType.int)) ∈ lw_all := lw_g (lw_at lw_m14 154 rfl) rfl
theorem q3369 : (Jvm.Cond.methodLink "FloatingDockModel" (67 : Nat) ({ cls := "FloatingDockModel", name := "of", desc := "(II)I" } : Jvm.MethodName)) ∈ lw_all := lw_g (lw_at lw_m14 155 rfl) rfl
theorem q3370 : (Jvm.Cond.privateMethod ({ cls := "FloatingDockModel", name := "of", desc := "(II)I" } : Jvm.MethodName)) ∈ lw_tbl := lw_at lw_m14 156 rfl
theorem q3371 : (Jvm.Cond.instanceMethod ({ cls := "FloatingDockModel", name := "of", desc := "(II)I" } : Jvm.MethodName)) ∈ lw_all := lw_g (lw_at lw_m14 157 rfl) rfl
theorem q3372 : (Jvm.Cond.code ({ cls := "FloatingDockModel", name := "of", desc := "(II)I" } : Jvm.MethodName) prog_17_method_15_code (3 : Nat) (Option.some Jvm.ClassFile.FieldType.int)) ∈ lw_all := lw_g (lw_at lw_m14 158 rfl) rfl
theorem q3373 : (Jvm.Cond.methodLink "FloatingDockModel" (79 : Nat) ({ cls := "FloatingDockModel", name := "isDocked", desc := "(I)Z" } : Jvm.MethodName)) ∈ lw_all := lw_g (lw_at lw_m14 159 rfl) rfl
theorem q3374 : (Jvm.Cond.privateMethod ({ cls := "FloatingDockModel", name := "isDocked", desc := "(I)Z" } : Jvm.MethodName)) ∈ lw_tbl := lw_at lw_m14 160 rfl
theorem q3375 : (Jvm.Cond.instanceMethod ({ cls := "FloatingDockModel", name := "isDocked", desc := "(I)Z" } : Jvm.MethodName)) ∈ lw_all := lw_g (lw_at lw_m14 161 rfl) rfl
theorem q3376 : (Jvm.Cond.code ({ cls := "FloatingDockModel", name := "isDocked", desc := "(I)Z" } : Jvm.MethodName) prog_17_method_16_code (2 : Nat) (Option.some Jvm.ClassFile.FieldType.boolean)) ∈ lw_all := lw_g (lw_at lw_m14 162 rfl) rfl
theorem q3378 : (Jvm.Cond.instanceMethod ({ cls := "FloatingDockModel", name := "enter", desc := "(II)I" } : Jvm.MethodName)) ∈ lw_all := lw_g (lw_at lw_m14 164 rfl) rfl
theorem q3379 : (Jvm.Cond.selects "FloatingDockModel" ({ cls := "FloatingDockModel", name := "enter", desc := "(II)I" } : Jvm.MethodName) ({ cls := "FloatingDockModel", name := "enter", desc := "(II)I" } : Jvm.MethodName)) ∈ lw_all := lw_g (lw_at lw_m14 165 rfl) rfl
theorem q3380 : (Jvm.Cond.code ({ cls := "FloatingDockModel", name := "enter", desc := "(II)I" } : Jvm.MethodName) prog_17_method_31_code (3 : Nat) (Option.some Jvm.ClassFile.FieldType.int)) ∈ lw_all := lw_g (lw_at lw_m14 166 rfl) rfl
theorem q3381 : (Jvm.Cond.methodLink "FloatingDockModel" (125 : Nat) ({ cls := "FloatingDockModel", name := "enters", desc := "(II)I" } : Jvm.MethodName)) ∈ lw_all := lw_g (lw_at lw_m14 167 rfl) rfl
theorem q3382 : (Jvm.Cond.privateMethod ({ cls := "FloatingDockModel", name := "enters", desc := "(II)I" } : Jvm.MethodName)) ∈ lw_tbl := lw_at lw_m14 168 rfl
theorem q3383 : (Jvm.Cond.instanceMethod ({ cls := "FloatingDockModel", name := "enters", desc := "(II)I" } : Jvm.MethodName)) ∈ lw_all := lw_g (lw_at lw_m14 169 rfl) rfl
theorem q3384 : (Jvm.Cond.code ({ cls := "FloatingDockModel", name := "enters", desc := "(II)I" } : Jvm.MethodName) prog_17_method_30_code (6 : Nat) (Option.some Jvm.ClassFile.FieldType.int)) ∈ lw_all := lw_g (lw_at lw_m14 170 rfl) rfl
theorem q3385 : (Jvm.Cond.methodLink "FloatingDockModel" (91 : Nat) ({ cls := "FloatingDockModel", name := "isMetre", desc := "(I)Z" } : Jvm.MethodName)) ∈ lw_all := lw_g (lw_at lw_m14 171 rfl) rfl
theorem q3386 : (Jvm.Cond.static ({ cls := "FloatingDockModel", name := "isMetre", desc := "(I)Z" } : Jvm.MethodName)) ∈ lw_all := lw_g (lw_at lw_m14 172 rfl) rfl
theorem q3387 : (Jvm.Cond.code ({ cls := "FloatingDockModel", name := "isMetre", desc := "(I)Z" } : Jvm.MethodName) prog_17_method_21_code (1 : Nat) (Option.some Jvm.ClassFile.FieldType.boolean)) ∈ lw_all := lw_g (lw_at lw_m14 173 rfl) rfl
theorem q3388 : (Jvm.Cond.methodLink "FloatingDockModel" (113 : Nat) ({ cls := "FloatingDockModel", name := "isFree", desc := "(II)Z" } : Jvm.MethodName)) ∈ lw_all := lw_g (lw_at lw_m14 174 rfl) rfl
theorem q3389 : (Jvm.Cond.privateMethod ({ cls := "FloatingDockModel", name := "isFree", desc := "(II)Z" } : Jvm.MethodName)) ∈ lw_tbl := lw_at lw_m14 175 rfl
theorem q3390 : (Jvm.Cond.instanceMethod ({ cls := "FloatingDockModel", name := "isFree", desc := "(II)Z" } : Jvm.MethodName)) ∈ lw_all := lw_g (lw_at lw_m14 176 rfl) rfl
theorem q3391 : (Jvm.Cond.code ({ cls := "FloatingDockModel", name := "isFree", desc := "(II)Z" } : Jvm.MethodName) prog_17_method_20_code (5 : Nat) (Option.some Jvm.ClassFile.FieldType.boolean)) ∈ lw_all := lw_g (lw_at lw_m14 177 rfl) rfl
theorem q3392 : (Jvm.Cond.methodLink "FloatingDockModel" (87 : Nat) ({ cls := "FloatingDockModel", name := "at", desc := "(I)I" } : Jvm.MethodName)) ∈ lw_all := lw_g (lw_at lw_m14 178 rfl) rfl
theorem q3393 : (Jvm.Cond.privateMethod ({ cls := "FloatingDockModel", name := "at", desc := "(I)I" } : Jvm.MethodName)) ∈ lw_tbl := lw_at lw_m14 179 rfl
theorem q3394 : (Jvm.Cond.instanceMethod ({ cls := "FloatingDockModel", name := "at", desc := "(I)I" } : Jvm.MethodName)) ∈ lw_all := lw_g (lw_at lw_m14 180 rfl) rfl
theorem q3395 : (Jvm.Cond.code ({ cls := "FloatingDockModel", name := "at", desc := "(I)I" } : Jvm.MethodName) prog_17_method_19_code (5 : Nat) (Option.some Jvm.ClassFile.FieldType.int)) ∈ lw_all := lw_g (lw_at lw_m14 181 rfl) rfl
theorem q3396 : (Jvm.Cond.methodLink "FloatingDockModel" (117 : Nat) ({ cls := "FloatingDockModel", name := "refuses", desc := "(II)V" } : Jvm.MethodName)) ∈ lw_all := lw_g (lw_at lw_m14 182 rfl) rfl
theorem q3397 : (Jvm.Cond.privateMethod ({ cls := "FloatingDockModel", name := "refuses", desc := "(II)V" } : Jvm.MethodName)) ∈ lw_tbl := lw_at lw_m14 183 rfl
theorem q3398 : (Jvm.Cond.instanceMethod ({ cls := "FloatingDockModel", name := "refuses", desc := "(II)V" } : Jvm.MethodName)) ∈ lw_all := lw_g (lw_at lw_m14 184 rfl) rfl
theorem q3399 : (Jvm.Cond.code ({ cls := "FloatingDockModel", name := "refuses", desc := "(II)V" } : Jvm.MethodName) prog_17_method_29_code (3 : Nat) (Option.none : Option Jvm.ClassFile.FieldType)) ∈ lw_all := lw_g (lw_at lw_m14 185 rfl) rfl
theorem q3400 : (Jvm.Cond.methodLink "FloatingDockModel" (121 : Nat) ({ cls := "FloatingDockModel", name := "docked", desc := "()I" } : Jvm.MethodName)) ∈ lw_all := lw_g (lw_at lw_m14 186 rfl) rfl
theorem q3401 : (Jvm.Cond.privateMethod ({ cls := "FloatingDockModel", name := "docked", desc := "()I" } : Jvm.MethodName)) ∈ lw_tbl := lw_at lw_m14 187 rfl
theorem q3402 : (Jvm.Cond.instanceMethod ({ cls := "FloatingDockModel", name := "docked", desc := "()I" } : Jvm.MethodName)) ∈ lw_all := lw_g (lw_at lw_m14 188 rfl) rfl
theorem q3403 : (Jvm.Cond.code ({ cls := "FloatingDockModel", name := "docked", desc := "()I" } : Jvm.MethodName) prog_17_method_18_code (3 : Nat) (Option.some Jvm.ClassFile.FieldType.int)) ∈ lw_all := lw_g (lw_at lw_m14 189 rfl) rfl
theorem q3405 : (Jvm.Cond.instanceMethod ({ cls := "FloatingDockModel", name := "leave", desc := "(I)I" } : Jvm.MethodName)) ∈ lw_all := lw_g (lw_at lw_m14 191 rfl) rfl
theorem q3406 : (Jvm.Cond.selects "FloatingDockModel" ({ cls := "FloatingDockModel", name := "leave", desc := "(I)I" } : Jvm.MethodName) ({ cls := "FloatingDockModel", name := "leave", desc := "(I)I" } : Jvm.MethodName)) ∈ lw_all := lw_g (lw_at lw_m14 192 rfl) rfl
theorem q3407 : (Jvm.Cond.code ({ cls := "FloatingDockModel", name := "leave", desc := "(I)I" } : Jvm.MethodName) prog_17_method_33_code (2 : Nat) (Option.some Jvm.ClassFile.FieldType.int)) ∈ lw_all := lw_g (lw_at lw_m14 193 rfl) rfl
theorem q3408 : (Jvm.Cond.methodLink "FloatingDockModel" (131 : Nat) ({ cls := "FloatingDockModel", name := "leaves", desc := "(I)I" } : Jvm.MethodName)) ∈ lw_all := lw_g (lw_at lw_m14 194 rfl) rfl
theorem q3409 : (Jvm.Cond.privateMethod ({ cls := "FloatingDockModel", name := "leaves", desc := "(I)I" } : Jvm.MethodName)) ∈ lw_tbl := lw_at lw_m14 195 rfl
theorem q3410 : (Jvm.Cond.instanceMethod ({ cls := "FloatingDockModel", name := "leaves", desc := "(I)I" } : Jvm.MethodName)) ∈ lw_all := lw_g (lw_at lw_m14 196 rfl) rfl
theorem q3411 : (Jvm.Cond.code ({ cls := "FloatingDockModel", name := "leaves", desc := "(I)I" } : Jvm.MethodName) prog_17_method_32_code (3 : Nat) (Option.some Jvm.ClassFile.FieldType.int)) ∈ lw_all := lw_g (lw_at lw_m14 197 rfl) rfl
theorem q3412 : (Jvm.Cond.methodLink "FloatingDockModel" (128 : Nat) ({ cls := "FloatingDockModel", name := "floats", desc := "(I)Z" } : Jvm.MethodName)) ∈ lw_all := lw_g (lw_at lw_m14 198 rfl) rfl
theorem q3413 : (Jvm.Cond.privateMethod ({ cls := "FloatingDockModel", name := "floats", desc := "(I)Z" } : Jvm.MethodName)) ∈ lw_tbl := lw_at lw_m14 199 rfl
theorem q3414 : (Jvm.Cond.instanceMethod ({ cls := "FloatingDockModel", name := "floats", desc := "(I)Z" } : Jvm.MethodName)) ∈ lw_all := lw_g (lw_at lw_m14 200 rfl) rfl
theorem q3415 : (Jvm.Cond.code ({ cls := "FloatingDockModel", name := "floats", desc := "(I)Z" } : Jvm.MethodName) prog_17_method_17_code (2 : Nat) (Option.some Jvm.ClassFile.FieldType.boolean)) ∈ lw_all := lw_g (lw_at lw_m14 201 rfl) rfl
theorem q3417 : (Jvm.Cond.instanceMethod ({ cls := "FloatingDockModel", name := "setCleaning", desc := "(IZ)Z" } : Jvm.MethodName)) ∈ lw_all := lw_g (lw_at lw_m14 203 rfl) rfl
theorem q3418 : (Jvm.Cond.selects "FloatingDockModel" ({ cls := "FloatingDockModel", name := "setCleaning", desc := "(IZ)Z" } : Jvm.MethodName) ({ cls := "FloatingDockModel", name := "setCleaning", desc := "(IZ)Z" } : Jvm.MethodName)) ∈ lw_all := lw_g (lw_at lw_m14 204 rfl) rfl
theorem q3419 : (Jvm.Cond.code ({ cls := "FloatingDockModel", name := "setCleaning", desc := "(IZ)Z" } : Jvm.MethodName) prog_17_method_35_code (3 : Nat) (Option.some Jvm.ClassFile.FieldType.boolean)) ∈ lw_all := lw_g (lw_at lw_m14 205 rfl) rfl
theorem q3420 : (Jvm.Cond.methodLink "FloatingDockModel" (134 : Nat) ({ cls := "FloatingDockModel", name := "cleans", desc := "(II)I" } : Jvm.MethodName)) ∈ lw_all := lw_g (lw_at lw_m14 206 rfl) rfl
theorem q3421 : (Jvm.Cond.privateMethod ({ cls := "FloatingDockModel", name := "cleans", desc := "(II)I" } : Jvm.MethodName)) ∈ lw_tbl := lw_at lw_m14 207 rfl
theorem q3422 : (Jvm.Cond.instanceMethod ({ cls := "FloatingDockModel", name := "cleans", desc := "(II)I" } : Jvm.MethodName)) ∈ lw_all := lw_g (lw_at lw_m14 208 rfl) rfl
theorem q3423 : (Jvm.Cond.code ({ cls := "FloatingDockModel", name := "cleans", desc := "(II)I" } : Jvm.MethodName) prog_17_method_34_code (5 : Nat) (Option.some Jvm.ClassFile.FieldType.int)) ∈ lw_all := lw_g (lw_at lw_m14 209 rfl) rfl
theorem q3425 : (Jvm.Cond.instanceMethod ({ cls := "FloatingDockModel", name := "pay", desc := "(II)I" } : Jvm.MethodName)) ∈ lw_all := lw_g (lw_at lw_m14 211 rfl) rfl
theorem q3426 : (Jvm.Cond.selects "FloatingDockModel" ({ cls := "FloatingDockModel", name := "pay", desc := "(II)I" } : Jvm.MethodName) ({ cls := "FloatingDockModel", name := "pay", desc := "(II)I" } : Jvm.MethodName)) ∈ lw_all := lw_g (lw_at lw_m14 212 rfl) rfl
theorem q3427 : (Jvm.Cond.code ({ cls := "FloatingDockModel", name := "pay", desc := "(II)I" } : Jvm.MethodName) prog_17_method_37_code (3 : Nat) (Option.some Jvm.ClassFile.FieldType.int)) ∈ lw_all := lw_g (lw_at lw_m14 213 rfl) rfl
theorem q3428 : (Jvm.Cond.methodLink "FloatingDockModel" (137 : Nat) ({ cls := "FloatingDockModel", name := "pays", desc := "(II)I" } : Jvm.MethodName)) ∈ lw_all := lw_g (lw_at lw_m14 214 rfl) rfl
theorem q3429 : (Jvm.Cond.privateMethod ({ cls := "FloatingDockModel", name := "pays", desc := "(II)I" } : Jvm.MethodName)) ∈ lw_tbl := lw_at lw_m14 215 rfl
theorem q3430 : (Jvm.Cond.instanceMethod ({ cls := "FloatingDockModel", name := "pays", desc := "(II)I" } : Jvm.MethodName)) ∈ lw_all := lw_g (lw_at lw_m14 216 rfl) rfl
theorem q3431 : (Jvm.Cond.code ({ cls := "FloatingDockModel", name := "pays", desc := "(II)I" } : Jvm.MethodName) prog_17_method_36_code (5 : Nat) (Option.some Jvm.ClassFile.FieldType.int)) ∈ lw_all := lw_g (lw_at lw_m14 217 rfl) rfl
theorem q3433 : (Jvm.Cond.instanceMethod ({ cls := "FloatingDockModel", name := "setGate", desc := "(Z)Z" } : Jvm.MethodName)) ∈ lw_all := lw_g (lw_at lw_m14 219 rfl) rfl
theorem q3434 : (Jvm.Cond.selects "FloatingDockModel" ({ cls := "FloatingDockModel", name := "setGate", desc := "(Z)Z" } : Jvm.MethodName) ({ cls := "FloatingDockModel", name := "setGate", desc := "(Z)Z" } : Jvm.MethodName)) ∈ lw_all := lw_g (lw_at lw_m14 220 rfl) rfl
theorem q3435 : (Jvm.Cond.code ({ cls := "FloatingDockModel", name := "setGate", desc := "(Z)Z" } : Jvm.MethodName) prog_17_method_40_code (2 : Nat) (Option.some Jvm.ClassFile.FieldType.boolean)) ∈ lw_all := lw_g (lw_at lw_m14 221 rfl) rfl
theorem q3436 : (Jvm.Cond.methodLink "FloatingDockModel" (146 : Nat) ({ cls := "FloatingDockModel", name := "gates", desc := "(I)I" } : Jvm.MethodName)) ∈ lw_all := lw_g (lw_at lw_m14 222 rfl) rfl
theorem q3437 : (Jvm.Cond.privateMethod ({ cls := "FloatingDockModel", name := "gates", desc := "(I)I" } : Jvm.MethodName)) ∈ lw_tbl := lw_at lw_m14 223 rfl
theorem q3438 : (Jvm.Cond.instanceMethod ({ cls := "FloatingDockModel", name := "gates", desc := "(I)I" } : Jvm.MethodName)) ∈ lw_all := lw_g (lw_at lw_m14 224 rfl) rfl
theorem q3439 : (Jvm.Cond.code ({ cls := "FloatingDockModel", name := "gates", desc := "(I)I" } : Jvm.MethodName) prog_17_method_39_code (4 : Nat) (Option.some Jvm.ClassFile.FieldType.int)) ∈ lw_all := lw_g (lw_at lw_m14 225 rfl) rfl
theorem q3440 : (Jvm.Cond.methodLink "FloatingDockModel" (140 : Nat) ({ cls := "FloatingDockModel", name := "seaAt", desc := "(I)I" } : Jvm.MethodName)) ∈ lw_all := lw_g (lw_at lw_m14 226 rfl) rfl
theorem q3441 : (Jvm.Cond.static ({ cls := "FloatingDockModel", name := "seaAt", desc := "(I)I" } : Jvm.MethodName)) ∈ lw_all := lw_g (lw_at lw_m14 227 rfl) rfl
theorem q3442 : (Jvm.Cond.code ({ cls := "FloatingDockModel", name := "seaAt", desc := "(I)I" } : Jvm.MethodName) prog_17_method_38_code (2 : Nat) (Option.some Jvm.ClassFile.FieldType.int)) ∈ lw_all := lw_g (lw_at lw_m14 228 rfl) rfl
theorem q3443 : (Jvm.Cond.methodLink "FloatingDockModel" (143 : Nat) ({ cls := "java/lang/Math", name := "abs", desc := "(I)I" } : Jvm.MethodName)) ∈ lw_all := lw_g (lw_at lw_m14 229 rfl) rfl
theorem q3445 : (Jvm.Cond.instanceMethod ({ cls := "FloatingDockModel", name := "setPump", desc := "(I)I" } : Jvm.MethodName)) ∈ lw_all := lw_g (lw_at lw_m14 231 rfl) rfl
theorem q3446 : (Jvm.Cond.selects "FloatingDockModel" ({ cls := "FloatingDockModel", name := "setPump", desc := "(I)I" } : Jvm.MethodName) ({ cls := "FloatingDockModel", name := "setPump", desc := "(I)I" } : Jvm.MethodName)) ∈ lw_all := lw_g (lw_at lw_m14 232 rfl) rfl
theorem q3447 : (Jvm.Cond.code ({ cls := "FloatingDockModel", name := "setPump", desc := "(I)I" } : Jvm.MethodName) prog_17_method_42_code (2 : Nat) (Option.some Jvm.ClassFile.FieldType.int)) ∈ lw_all := lw_g (lw_at lw_m14 233 rfl) rfl
theorem q3448 : (Jvm.Cond.methodLink "FloatingDockModel" (149 : Nat) ({ cls := "FloatingDockModel", name := "pumps", desc := "(I)I" } : Jvm.MethodName)) ∈ lw_all := lw_g (lw_at lw_m14 234 rfl) rfl
theorem q3449 : (Jvm.Cond.privateMethod ({ cls := "FloatingDockModel", name := "pumps", desc := "(I)I" } : Jvm.MethodName)) ∈ lw_tbl := lw_at lw_m14 235 rfl
theorem q3450 : (Jvm.Cond.instanceMethod ({ cls := "FloatingDockModel", name := "pumps", desc := "(I)I" } : Jvm.MethodName)) ∈ lw_all := lw_g (lw_at lw_m14 236 rfl) rfl
theorem q3451 : (Jvm.Cond.code ({ cls := "FloatingDockModel", name := "pumps", desc := "(I)I" } : Jvm.MethodName) prog_17_method_41_code (3 : Nat) (Option.some Jvm.ClassFile.FieldType.int)) ∈ lw_all := lw_g (lw_at lw_m14 237 rfl) rfl
theorem q3453 : (Jvm.Cond.instanceMethod ({ cls := "FloatingDockModel", name := "placeBlock", desc := "(I)I" } : Jvm.MethodName)) ∈ lw_all := lw_g (lw_at lw_m14 239 rfl) rfl
theorem q3454 : (Jvm.Cond.selects "FloatingDockModel" ({ cls := "FloatingDockModel", name := "placeBlock", desc := "(I)I" } : Jvm.MethodName) ({ cls := "FloatingDockModel", name := "placeBlock", desc := "(I)I" } : Jvm.MethodName)) ∈ lw_all := lw_g (lw_at lw_m15 0 rfl) rfl
theorem q3455 : (Jvm.Cond.code ({ cls := "FloatingDockModel", name := "placeBlock", desc := "(I)I" } : Jvm.MethodName) prog_17_method_44_code (2 : Nat) (Option.some Jvm.ClassFile.FieldType.int)) ∈ lw_all := lw_g (lw_at lw_m15 1 rfl) rfl
theorem q3456 : (Jvm.Cond.methodLink "FloatingDockModel" (158 : Nat) ({ cls := "FloatingDockModel", name := "lays", desc := "(I)I" } : Jvm.MethodName)) ∈ lw_all := lw_g (lw_at lw_m15 2 rfl) rfl
theorem q3457 : (Jvm.Cond.privateMethod ({ cls := "FloatingDockModel", name := "lays", desc := "(I)I" } : Jvm.MethodName)) ∈ lw_tbl := lw_at lw_m15 3 rfl
theorem q3458 : (Jvm.Cond.instanceMethod ({ cls := "FloatingDockModel", name := "lays", desc := "(I)I" } : Jvm.MethodName)) ∈ lw_all := lw_g (lw_at lw_m15 4 rfl) rfl
theorem q3459 : (Jvm.Cond.code ({ cls := "FloatingDockModel", name := "lays", desc := "(I)I" } : Jvm.MethodName) prog_17_method_43_code (3 : Nat) (Option.some Jvm.ClassFile.FieldType.int)) ∈ lw_all := lw_g (lw_at lw_m15 5 rfl) rfl
theorem q3460 : (Jvm.Cond.methodLink "FloatingDockModel" (152 : Nat) ({ cls := "FloatingDockModel", name := "blocks", desc := "()I" } : Jvm.MethodName)) ∈ lw_all := lw_g (lw_at lw_m15 6 rfl) rfl
theorem q3461 : (Jvm.Cond.privateMethod ({ cls := "FloatingDockModel", name := "blocks", desc := "()I" } : Jvm.MethodName)) ∈ lw_tbl := lw_at lw_m15 7 rfl
theorem q3462 : (Jvm.Cond.instanceMethod ({ cls := "FloatingDockModel", name := "blocks", desc := "()I" } : Jvm.MethodName)) ∈ lw_all := lw_g (lw_at lw_m15 8 rfl) rfl
theorem q3463 : (Jvm.Cond.code ({ cls := "FloatingDockModel", name := "blocks", desc := "()I" } : Jvm.MethodName) prog_17_method_23_code (3 : Nat) (Option.some Jvm.ClassFile.FieldType.int)) ∈ lw_all := lw_g (lw_at lw_m15 9 rfl) rfl
theorem q3464 : (Jvm.Cond.methodLink "FloatingDockModel" (155 : Nat) ({ cls := "FloatingDockModel", name := "isBlock", desc := "(I)Z" } : Jvm.MethodName)) ∈ lw_all := lw_g (lw_at lw_m15 10 rfl) rfl
theorem q3465 : (Jvm.Cond.privateMethod ({ cls := "FloatingDockModel", name := "isBlock", desc := "(I)Z" } : Jvm.MethodName)) ∈ lw_tbl := lw_at lw_m15 11 rfl
theorem q3466 : (Jvm.Cond.instanceMethod ({ cls := "FloatingDockModel", name := "isBlock", desc := "(I)Z" } : Jvm.MethodName)) ∈ lw_all := lw_g (lw_at lw_m15 12 rfl) rfl
theorem q3467 : (Jvm.Cond.code ({ cls := "FloatingDockModel", name := "isBlock", desc := "(I)Z" } : Jvm.MethodName) prog_17_method_22_code (2 : Nat) (Option.some Jvm.ClassFile.FieldType.boolean)) ∈ lw_all := lw_g (lw_at lw_m15 13 rfl) rfl
theorem q3469 : (Jvm.Cond.instanceMethod ({ cls := "FloatingDockModel", name := "removeBlock", desc := "(I)I" } : Jvm.MethodName)) ∈ lw_all := lw_g (lw_at lw_m15 15 rfl) rfl
theorem q3470 : (Jvm.Cond.selects "FloatingDockModel" ({ cls := "FloatingDockModel", name := "removeBlock", desc := "(I)I" } : Jvm.MethodName) ({ cls := "FloatingDockModel", name := "removeBlock", desc := "(I)I" } : Jvm.MethodName)) ∈ lw_all := lw_g (lw_at lw_m15 16 rfl) rfl
theorem q3471 : (Jvm.Cond.code ({ cls := "FloatingDockModel", name := "removeBlock", desc := "(I)I" } : Jvm.MethodName) prog_17_method_46_code (2 : Nat) (Option.some Jvm.ClassFile.FieldType.int)) ∈ lw_all := lw_g (lw_at lw_m15 17 rfl) rfl
theorem q3472 : (Jvm.Cond.methodLink "FloatingDockModel" (161 : Nat) ({ cls := "FloatingDockModel", name := "takes", desc := "(I)I" } : Jvm.MethodName)) ∈ lw_all := lw_g (lw_at lw_m15 18 rfl) rfl
theorem q3473 : (Jvm.Cond.privateMethod ({ cls := "FloatingDockModel", name := "takes", desc := "(I)I" } : Jvm.MethodName)) ∈ lw_tbl := lw_at lw_m15 19 rfl
theorem q3474 : (Jvm.Cond.instanceMethod ({ cls := "FloatingDockModel", name := "takes", desc := "(I)I" } : Jvm.MethodName)) ∈ lw_all := lw_g (lw_at lw_m15 20 rfl) rfl
theorem q3475 : (Jvm.Cond.code ({ cls := "FloatingDockModel", name := "takes", desc := "(I)I" } : Jvm.MethodName) prog_17_method_45_code (2 : Nat) (Option.some Jvm.ClassFile.FieldType.int)) ∈ lw_all := lw_g (lw_at lw_m15 21 rfl) rfl
theorem q3477 : (Jvm.Cond.instanceMethod ({ cls := "FloatingDockModel", name := "pass", desc := "(I)I" } : Jvm.MethodName)) ∈ lw_all := lw_g (lw_at lw_m15 23 rfl) rfl
theorem q3478 : (Jvm.Cond.selects "FloatingDockModel" ({ cls := "FloatingDockModel", name := "pass", desc := "(I)I" } : Jvm.MethodName) ({ cls := "FloatingDockModel", name := "pass", desc := "(I)I" } : Jvm.MethodName)) ∈ lw_all := lw_g (lw_at lw_m15 24 rfl) rfl
theorem q3479 : (Jvm.Cond.code ({ cls := "FloatingDockModel", name := "pass", desc := "(I)I" } : Jvm.MethodName) prog_17_method_51_code (2 : Nat) (Option.some Jvm.ClassFile.FieldType.int)) ∈ lw_all := lw_g (lw_at lw_m15 25 rfl) rfl
theorem q3480 : (Jvm.Cond.methodLink "FloatingDockModel" (179 : Nat) ({ cls := "FloatingDockModel", name := "waits", desc := "(I)I" } : Jvm.MethodName)) ∈ lw_all := lw_g (lw_at lw_m15 26 rfl) rfl
theorem q3481 : (Jvm.Cond.privateMethod ({ cls := "FloatingDockModel", name := "waits", desc := "(I)I" } : Jvm.MethodName)) ∈ lw_tbl := lw_at lw_m15 27 rfl
theorem q3482 : (Jvm.Cond.instanceMethod ({ cls := "FloatingDockModel", name := "waits", desc := "(I)I" } : Jvm.MethodName)) ∈ lw_all := lw_g (lw_at lw_m15 28 rfl) rfl
theorem q3483 : (Jvm.Cond.code ({ cls := "FloatingDockModel", name := "waits", desc := "(I)I" } : Jvm.MethodName) prog_17_method_50_code (5 : Nat) (Option.some Jvm.ClassFile.FieldType.int)) ∈ lw_all := lw_g (lw_at lw_m15 29 rfl) rfl
theorem q3484 : (Jvm.Cond.methodLink "FloatingDockModel" (173 : Nat) ({ cls := "FloatingDockModel", name := "levelThen", desc := "(II)I" } : Jvm.MethodName)) ∈ lw_all := lw_g (lw_at lw_m15 30 rfl) rfl
theorem q3485 : (Jvm.Cond.privateMethod ({ cls := "FloatingDockModel", name := "levelThen", desc := "(II)I" } : Jvm.MethodName)) ∈ lw_tbl := lw_at lw_m15 31 rfl
theorem q3486 : (Jvm.Cond.instanceMethod ({ cls := "FloatingDockModel", name := "levelThen", desc := "(II)I" } : Jvm.MethodName)) ∈ lw_all := lw_g (lw_at lw_m15 32 rfl) rfl
theorem q3487 : (Jvm.Cond.code ({ cls := "FloatingDockModel", name := "levelThen", desc := "(II)I" } : Jvm.MethodName) prog_17_method_47_code (3 : Nat) (Option.some Jvm.ClassFile.FieldType.int)) ∈ lw_all := lw_g (lw_at lw_m15 33 rfl) rfl
theorem q3488 : (Jvm.Cond.methodLink "FloatingDockModel" (164 : Nat) ({ cls := "java/lang/Math", name := "min", desc := "(II)I" } : Jvm.MethodName)) ∈ lw_all := lw_g (lw_at lw_m15 34 rfl) rfl
theorem q3489 : (Jvm.Cond.methodLink "FloatingDockModel" (176 : Nat) ({ cls := "FloatingDockModel", name := "spends", desc := "(I)I" } : Jvm.MethodName)) ∈ lw_all := lw_g (lw_at lw_m15 35 rfl) rfl
theorem q3490 : (Jvm.Cond.privateMethod ({ cls := "FloatingDockModel", name := "spends", desc := "(I)I" } : Jvm.MethodName)) ∈ lw_tbl := lw_at lw_m15 36 rfl
theorem q3491 : (Jvm.Cond.instanceMethod ({ cls := "FloatingDockModel", name := "spends", desc := "(I)I" } : Jvm.MethodName)) ∈ lw_all := lw_g (lw_at lw_m15 37 rfl) rfl
theorem q3492 : (Jvm.Cond.code ({ cls := "FloatingDockModel", name := "spends", desc := "(I)I" } : Jvm.MethodName) prog_17_method_49_code (4 : Nat) (Option.some Jvm.ClassFile.FieldType.int)) ∈ lw_all := lw_g (lw_at lw_m15 38 rfl) rfl
theorem q3493 : (Jvm.Cond.methodLink "FloatingDockModel" (167 : Nat) ({ cls := "FloatingDockModel", name := "beneath", desc := "(I)I" } : Jvm.MethodName)) ∈ lw_all := lw_g (lw_at lw_m15 39 rfl) rfl
theorem q3494 : (Jvm.Cond.privateMethod ({ cls := "FloatingDockModel", name := "beneath", desc := "(I)I" } : Jvm.MethodName)) ∈ lw_tbl := lw_at lw_m15 40 rfl
theorem q3495 : (Jvm.Cond.instanceMethod ({ cls := "FloatingDockModel", name := "beneath", desc := "(I)I" } : Jvm.MethodName)) ∈ lw_all := lw_g (lw_at lw_m15 41 rfl) rfl
theorem q3496 : (Jvm.Cond.code ({ cls := "FloatingDockModel", name := "beneath", desc := "(I)I" } : Jvm.MethodName) prog_17_method_24_code (4 : Nat) (Option.some Jvm.ClassFile.FieldType.int)) ∈ lw_all := lw_g (lw_at lw_m15 42 rfl) rfl
theorem q3497 : (Jvm.Cond.methodLink "FloatingDockModel" (170 : Nat) ({ cls := "FloatingDockModel", name := "charges", desc := "(II)V" } : Jvm.MethodName)) ∈ lw_all := lw_g (lw_at lw_m15 43 rfl) rfl
theorem q3498 : (Jvm.Cond.privateMethod ({ cls := "FloatingDockModel", name := "charges", desc := "(II)V" } : Jvm.MethodName)) ∈ lw_tbl := lw_at lw_m15 44 rfl
theorem q3499 : (Jvm.Cond.instanceMethod ({ cls := "FloatingDockModel", name := "charges", desc := "(II)V" } : Jvm.MethodName)) ∈ lw_all := lw_g (lw_at lw_m15 45 rfl) rfl
theorem q3500 : (Jvm.Cond.code ({ cls := "FloatingDockModel", name := "charges", desc := "(II)V" } : Jvm.MethodName) prog_17_method_48_code (3 : Nat) (Option.none : Option Jvm.ClassFile.FieldType)) ∈ lw_all := lw_g (lw_at lw_m15 46 rfl) rfl
theorem q3502 : (Jvm.Cond.instanceMethod ({ cls := "FloatingDockModel", name := "shipCount", desc := "()I" } : Jvm.MethodName)) ∈ lw_all := lw_g (lw_at lw_m15 48 rfl) rfl
theorem q3503 : (Jvm.Cond.selects "FloatingDockModel" ({ cls := "FloatingDockModel", name := "shipCount", desc := "()I" } : Jvm.MethodName) ({ cls := "FloatingDockModel", name := "shipCount", desc := "()I" } : Jvm.MethodName)) ∈ lw_all := lw_g (lw_at lw_m15 49 rfl) rfl
theorem q3504 : (Jvm.Cond.code ({ cls := "FloatingDockModel", name := "shipCount", desc := "()I" } : Jvm.MethodName) prog_17_method_52_code (1 : Nat) (Option.some Jvm.ClassFile.FieldType.int)) ∈ lw_all := lw_g (lw_at lw_m15 50 rfl) rfl
theorem q3506 : (Jvm.Cond.instanceMethod ({ cls := "FloatingDockModel", name := "shipAt", desc := "(I)I" } : Jvm.MethodName)) ∈ lw_all := lw_g (lw_at lw_m15 52 rfl) rfl
theorem q3507 : (Jvm.Cond.selects "FloatingDockModel" ({ cls := "FloatingDockModel", name := "shipAt", desc := "(I)I" } : Jvm.MethodName) ({ cls := "FloatingDockModel", name := "shipAt", desc := "(I)I" } : Jvm.MethodName)) ∈ lw_all := lw_g (lw_at lw_m15 53 rfl) rfl
theorem q3508 : (Jvm.Cond.code ({ cls := "FloatingDockModel", name := "shipAt", desc := "(I)I" } : Jvm.MethodName) prog_17_method_53_code (2 : Nat) (Option.some Jvm.ClassFile.FieldType.int)) ∈ lw_all := lw_g (lw_at lw_m15 54 rfl) rfl
theorem q3510 : (Jvm.Cond.instanceMethod ({ cls := "FloatingDockModel", name := "isInDock", desc := "(I)Z" } : Jvm.MethodName)) ∈ lw_all := lw_g (lw_at lw_m15 56 rfl) rfl
theorem q3511 : (Jvm.Cond.selects "FloatingDockModel" ({ cls := "FloatingDockModel", name := "isInDock", desc := "(I)Z" } : Jvm.MethodName) ({ cls := "FloatingDockModel", name := "isInDock", desc := "(I)Z" } : Jvm.MethodName)) ∈ lw_all := lw_g (lw_at lw_m15 57 rfl) rfl
theorem q3512 : (Jvm.Cond.code ({ cls := "FloatingDockModel", name := "isInDock", desc := "(I)Z" } : Jvm.MethodName) prog_17_method_55_code (2 : Nat) (Option.some Jvm.ClassFile.FieldType.boolean)) ∈ lw_all := lw_g (lw_at lw_m15 58 rfl) rfl
theorem q3513 : (Jvm.Cond.methodLink "FloatingDockModel" (182 : Nat) ({ cls := "FloatingDockModel", name := "asks", desc := "(II)I" } : Jvm.MethodName)) ∈ lw_all := lw_g (lw_at lw_m15 59 rfl) rfl
theorem q3514 : (Jvm.Cond.privateMethod ({ cls := "FloatingDockModel", name := "asks", desc := "(II)I" } : Jvm.MethodName)) ∈ lw_tbl := lw_at lw_m15 60 rfl
theorem q3515 : (Jvm.Cond.instanceMethod ({ cls := "FloatingDockModel", name := "asks", desc := "(II)I" } : Jvm.MethodName)) ∈ lw_all := lw_g (lw_at lw_m15 61 rfl) rfl
theorem q3516 : (Jvm.Cond.code ({ cls := "FloatingDockModel", name := "asks", desc := "(II)I" } : Jvm.MethodName) prog_17_method_54_code (4 : Nat) (Option.some Jvm.ClassFile.FieldType.int)) ∈ lw_all := lw_g (lw_at lw_m15 62 rfl) rfl
theorem q3518 : (Jvm.Cond.instanceMethod ({ cls := "FloatingDockModel", name := "positionOf", desc := "(I)I" } : Jvm.MethodName)) ∈ lw_all := lw_g (lw_at lw_m15 64 rfl) rfl
theorem q3519 : (Jvm.Cond.selects "FloatingDockModel" ({ cls := "FloatingDockModel", name := "positionOf", desc := "(I)I" } : Jvm.MethodName) ({ cls := "FloatingDockModel", name := "positionOf", desc := "(I)I" } : Jvm.MethodName)) ∈ lw_all := lw_g (lw_at lw_m15 65 rfl) rfl
theorem q3520 : (Jvm.Cond.code ({ cls := "FloatingDockModel", name := "positionOf", desc := "(I)I" } : Jvm.MethodName) prog_17_method_56_code (3 : Nat) (Option.some Jvm.ClassFile.FieldType.int)) ∈ lw_all := lw_g (lw_at lw_m15 66 rfl) rfl
theorem q3522 : (Jvm.Cond.instanceMethod ({ cls := "FloatingDockModel", name := "dirtOf", desc := "(I)I" } : Jvm.MethodName)) ∈ lw_all := lw_g (lw_at lw_m15 68 rfl) rfl
theorem q3523 : (Jvm.Cond.selects "FloatingDockModel" ({ cls := "FloatingDockModel", name := "dirtOf", desc := "(I)I" } : Jvm.MethodName) ({ cls := "FloatingDockModel", name := "dirtOf", desc := "(I)I" } : Jvm.MethodName)) ∈ lw_all := lw_g (lw_at lw_m15 69 rfl) rfl
theorem q3524 : (Jvm.Cond.code ({ cls := "FloatingDockModel", name := "dirtOf", desc := "(I)I" } : Jvm.MethodName) prog_17_method_57_code (2 : Nat) (Option.some Jvm.ClassFile.FieldType.int)) ∈ lw_all := lw_g (lw_at lw_m15 70 rfl) rfl
theorem q3526 : (Jvm.Cond.instanceMethod ({ cls := "FloatingDockModel", name := "damageOf", desc := "(I)I" } : Jvm.MethodName)) ∈ lw_all := lw_g (lw_at lw_m15 72 rfl) rfl
theorem q3527 : (Jvm.Cond.selects "FloatingDockModel" ({ cls := "FloatingDockModel", name := "damageOf", desc := "(I)I" } : Jvm.MethodName) ({ cls := "FloatingDockModel", name := "damageOf", desc := "(I)I" } : Jvm.MethodName)) ∈ lw_all := lw_g (lw_at lw_m15 73 rfl) rfl
theorem q3528 : (Jvm.Cond.code ({ cls := "FloatingDockModel", name := "damageOf", desc := "(I)I" } : Jvm.MethodName) prog_17_method_58_code (2 : Nat) (Option.some Jvm.ClassFile.FieldType.int)) ∈ lw_all := lw_g (lw_at lw_m15 74 rfl) rfl
theorem q3530 : (Jvm.Cond.instanceMethod ({ cls := "FloatingDockModel", name := "hoursAfloat", desc := "(I)I" } : Jvm.MethodName)) ∈ lw_all := lw_g (lw_at lw_m15 76 rfl) rfl
theorem q3531 : (Jvm.Cond.selects "FloatingDockModel" ({ cls := "FloatingDockModel", name := "hoursAfloat", desc := "(I)I" } : Jvm.MethodName) ({ cls := "FloatingDockModel", name := "hoursAfloat", desc := "(I)I" } : Jvm.MethodName)) ∈ lw_all := lw_g (lw_at lw_m15 77 rfl) rfl
theorem q3532 : (Jvm.Cond.code ({ cls := "FloatingDockModel", name := "hoursAfloat", desc := "(I)I" } : Jvm.MethodName) prog_17_method_59_code (2 : Nat) (Option.some Jvm.ClassFile.FieldType.int)) ∈ lw_all := lw_g (lw_at lw_m15 78 rfl) rfl
theorem q3534 : (Jvm.Cond.instanceMethod ({ cls := "FloatingDockModel", name := "isAfloat", desc := "(I)Z" } : Jvm.MethodName)) ∈ lw_all := lw_g (lw_at lw_m15 80 rfl) rfl
theorem q3535 : (Jvm.Cond.selects "FloatingDockModel" ({ cls := "FloatingDockModel", name := "isAfloat", desc := "(I)Z" } : Jvm.MethodName) ({ cls := "FloatingDockModel", name := "isAfloat", desc := "(I)Z" } : Jvm.MethodName)) ∈ lw_all := lw_g (lw_at lw_m15 81 rfl) rfl
theorem q3536 : (Jvm.Cond.code ({ cls := "FloatingDockModel", name := "isAfloat", desc := "(I)Z" } : Jvm.MethodName) prog_17_method_60_code (3 : Nat) (Option.some Jvm.ClassFile.FieldType.boolean)) ∈ lw_all := lw_g (lw_at lw_m15 82 rfl) rfl
theorem q3538 : (Jvm.Cond.instanceMethod ({ cls := "FloatingDockModel", name := "refusalReason", desc := "()I" } : Jvm.MethodName)) ∈ lw_all := lw_g (lw_at lw_m15 84 rfl) rfl
theorem q3539 : (Jvm.Cond.selects "FloatingDockModel" ({ cls := "FloatingDockModel", name := "refusalReason", desc := "()I" } : Jvm.MethodName) ({ cls := "FloatingDockModel", name := "refusalReason", desc := "()I" } : Jvm.MethodName)) ∈ lw_all := lw_g (lw_at lw_m15 85 rfl) rfl
theorem q3540 : (Jvm.Cond.code ({ cls := "FloatingDockModel", name := "refusalReason", desc := "()I" } : Jvm.MethodName) prog_17_method_61_code (1 : Nat) (Option.some Jvm.ClassFile.FieldType.int)) ∈ lw_all := lw_g (lw_at lw_m15 86 rfl) rfl
theorem q3542 : (Jvm.Cond.instanceMethod ({ cls := "FloatingDockModel", name := "billOf", desc := "(I)I" } : Jvm.MethodName)) ∈ lw_all := lw_g (lw_at lw_m15 88 rfl) rfl
theorem q3543 : (Jvm.Cond.selects "FloatingDockModel" ({ cls := "FloatingDockModel", name := "billOf", desc := "(I)I" } : Jvm.MethodName) ({ cls := "FloatingDockModel", name := "billOf", desc := "(I)I" } : Jvm.MethodName)) ∈ lw_all := lw_g (lw_at lw_m15 89 rfl) rfl
theorem q3544 : (Jvm.Cond.code ({ cls := "FloatingDockModel", name := "billOf", desc := "(I)I" } : Jvm.MethodName) prog_17_method_62_code (2 : Nat) (Option.some Jvm.ClassFile.FieldType.int)) ∈ lw_all := lw_g (lw_at lw_m15 90 rfl) rfl
theorem q3546 : (Jvm.Cond.instanceMethod ({ cls := "FloatingDockModel", name := "isGateOpen", desc := "()Z" } : Jvm.MethodName)) ∈ lw_all := lw_g (lw_at lw_m15 92 rfl) rfl
theorem q3547 : (Jvm.Cond.selects "FloatingDockModel" ({ cls := "FloatingDockModel", name := "isGateOpen", desc := "()Z" } : Jvm.MethodName) ({ cls := "FloatingDockModel", name := "isGateOpen", desc := "()Z" } : Jvm.MethodName)) ∈ lw_all := lw_g (lw_at lw_m15 93 rfl) rfl
theorem q3548 : (Jvm.Cond.code ({ cls := "FloatingDockModel", name := "isGateOpen", desc := "()Z" } : Jvm.MethodName) prog_17_method_63_code (1 : Nat) (Option.some Jvm.ClassFile.FieldType.boolean)) ∈ lw_all := lw_g (lw_at lw_m15 94 rfl) rfl
theorem q3550 : (Jvm.Cond.instanceMethod ({ cls := "FloatingDockModel", name := "level", desc := "()I" } : Jvm.MethodName)) ∈ lw_all := lw_g (lw_at lw_m15 96 rfl) rfl
theorem q3551 : (Jvm.Cond.selects "FloatingDockModel" ({ cls := "FloatingDockModel", name := "level", desc := "()I" } : Jvm.MethodName) ({ cls := "FloatingDockModel", name := "level", desc := "()I" } : Jvm.MethodName)) ∈ lw_all := lw_g (lw_at lw_m15 97 rfl) rfl
theorem q3552 : (Jvm.Cond.code ({ cls := "FloatingDockModel", name := "level", desc := "()I" } : Jvm.MethodName) prog_17_method_64_code (1 : Nat) (Option.some Jvm.ClassFile.FieldType.int)) ∈ lw_all := lw_g (lw_at lw_m15 98 rfl) rfl
theorem q3554 : (Jvm.Cond.instanceMethod ({ cls := "FloatingDockModel", name := "seaLevel", desc := "(I)I" } : Jvm.MethodName)) ∈ lw_all := lw_g (lw_at lw_m15 100 rfl) rfl
theorem q3555 : (Jvm.Cond.selects "FloatingDockModel" ({ cls := "FloatingDockModel", name := "seaLevel", desc := "(I)I" } : Jvm.MethodName) ({ cls := "FloatingDockModel", name := "seaLevel", desc := "(I)I" } : Jvm.MethodName)) ∈ lw_all := lw_g (lw_at lw_m15 101 rfl) rfl
theorem q3556 : (Jvm.Cond.code ({ cls := "FloatingDockModel", name := "seaLevel", desc := "(I)I" } : Jvm.MethodName) prog_17_method_66_code (2 : Nat) (Option.some Jvm.ClassFile.FieldType.int)) ∈ lw_all := lw_g (lw_at lw_m15 102 rfl) rfl
theorem q3557 : (Jvm.Cond.methodLink "FloatingDockModel" (185 : Nat) ({ cls := "FloatingDockModel", name := "sea", desc := "(I)I" } : Jvm.MethodName)) ∈ lw_all := lw_g (lw_at lw_m15 103 rfl) rfl
theorem q3558 : (Jvm.Cond.privateMethod ({ cls := "FloatingDockModel", name := "sea", desc := "(I)I" } : Jvm.MethodName)) ∈ lw_tbl := lw_at lw_m15 104 rfl
theorem q3559 : (Jvm.Cond.instanceMethod ({ cls := "FloatingDockModel", name := "sea", desc := "(I)I" } : Jvm.MethodName)) ∈ lw_all := lw_g (lw_at lw_m15 105 rfl) rfl
theorem q3560 : (Jvm.Cond.code ({ cls := "FloatingDockModel", name := "sea", desc := "(I)I" } : Jvm.MethodName) prog_17_method_65_code (2 : Nat) (Option.some Jvm.ClassFile.FieldType.int)) ∈ lw_all := lw_g (lw_at lw_m15 106 rfl) rfl
theorem q3562 : (Jvm.Cond.instanceMethod ({ cls := "FloatingDockModel", name := "seaLevelByHours", desc := "(I)I" } : Jvm.MethodName)) ∈ lw_all := lw_g (lw_at lw_m15 108 rfl) rfl
theorem q3563 : (Jvm.Cond.selects "FloatingDockModel" ({ cls := "FloatingDockModel", name := "seaLevelByHours", desc := "(I)I" } : Jvm.MethodName) ({ cls := "FloatingDockModel", name := "seaLevelByHours", desc := "(I)I" } : Jvm.MethodName)) ∈ lw_all := lw_g (lw_at lw_m15 109 rfl) rfl
theorem q3564 : (Jvm.Cond.code ({ cls := "FloatingDockModel", name := "seaLevelByHours", desc := "(I)I" } : Jvm.MethodName) prog_17_method_67_code (2 : Nat) (Option.some Jvm.ClassFile.FieldType.int)) ∈ lw_all := lw_g (lw_at lw_m15 110 rfl) rfl
theorem q3566 : (Jvm.Cond.instanceMethod ({ cls := "FloatingDockModel", name := "hour", desc := "()I" } : Jvm.MethodName)) ∈ lw_all := lw_g (lw_at lw_m15 112 rfl) rfl
theorem q3567 : (Jvm.Cond.selects "FloatingDockModel" ({ cls := "FloatingDockModel", name := "hour", desc := "()I" } : Jvm.MethodName) ({ cls := "FloatingDockModel", name := "hour", desc := "()I" } : Jvm.MethodName)) ∈ lw_all := lw_g (lw_at lw_m15 113 rfl) rfl
theorem q3568 : (Jvm.Cond.code ({ cls := "FloatingDockModel", name := "hour", desc := "()I" } : Jvm.MethodName) prog_17_method_68_code (1 : Nat) (Option.some Jvm.ClassFile.FieldType.int)) ∈ lw_all := lw_g (lw_at lw_m15 114 rfl) rfl
theorem q3570 : (Jvm.Cond.instanceMethod ({ cls := "FloatingDockModel", name := "levelAfter", desc := "(I)I" } : Jvm.MethodName)) ∈ lw_all := lw_g (lw_at lw_m15 116 rfl) rfl
theorem q3571 : (Jvm.Cond.selects "FloatingDockModel" ({ cls := "FloatingDockModel", name := "levelAfter", desc := "(I)I" } : Jvm.MethodName) ({ cls := "FloatingDockModel", name := "levelAfter", desc := "(I)I" } : Jvm.MethodName)) ∈ lw_all := lw_g (lw_at lw_m15 117 rfl) rfl
theorem q3572 : (Jvm.Cond.code ({ cls := "FloatingDockModel", name := "levelAfter", desc := "(I)I" } : Jvm.MethodName) prog_17_method_69_code (4 : Nat) (Option.some Jvm.ClassFile.FieldType.int)) ∈ lw_all := lw_g (lw_at lw_m15 118 rfl) rfl
theorem q3574 : (Jvm.Cond.instanceMethod ({ cls := "FloatingDockModel", name := "hoursUntilAfloat", desc := "(I)I" } : Jvm.MethodName)) ∈ lw_all := lw_g (lw_at lw_m15 120 rfl) rfl
theorem q3575 : (Jvm.Cond.selects "FloatingDockModel" ({ cls := "FloatingDockModel", name := "hoursUntilAfloat", desc := "(I)I" } : Jvm.MethodName) ({ cls := "FloatingDockModel", name := "hoursUntilAfloat", desc := "(I)I" } : Jvm.MethodName)) ∈ lw_all := lw_g (lw_at lw_m15 121 rfl) rfl
theorem q3576 : (Jvm.Cond.code ({ cls := "FloatingDockModel", name := "hoursUntilAfloat", desc := "(I)I" } : Jvm.MethodName) prog_17_method_70_code (6 : Nat) (Option.some Jvm.ClassFile.FieldType.int)) ∈ lw_all := lw_g (lw_at lw_m15 122 rfl) rfl
theorem q3578 : (Jvm.Cond.instanceMethod ({ cls := "FloatingDockModel", name := "hasBlock", desc := "(I)Z" } : Jvm.MethodName)) ∈ lw_all := lw_g (lw_at lw_m15 124 rfl) rfl
theorem q3579 : (Jvm.Cond.selects "FloatingDockModel" ({ cls := "FloatingDockModel", name := "hasBlock", desc := "(I)Z" } : Jvm.MethodName) ({ cls := "FloatingDockModel", name := "hasBlock", desc := "(I)Z" } : Jvm.MethodName)) ∈ lw_all := lw_g (lw_at lw_m15 125 rfl) rfl
theorem q3580 : (Jvm.Cond.code ({ cls := "FloatingDockModel", name := "hasBlock", desc := "(I)Z" } : Jvm.MethodName) prog_17_method_71_code (2 : Nat) (Option.some Jvm.ClassFile.FieldType.boolean)) ∈ lw_all := lw_g (lw_at lw_m15 126 rfl) rfl
theorem q3582 : (Jvm.Cond.instanceMethod ({ cls := "FloatingDockModel", name := "blocksBeneath", desc := "(I)I" } : Jvm.MethodName)) ∈ lw_all := lw_g (lw_at lw_m15 128 rfl) rfl
theorem q3583 : (Jvm.Cond.selects "FloatingDockModel" ({ cls := "FloatingDockModel", name := "blocksBeneath", desc := "(I)I" } : Jvm.MethodName) ({ cls := "FloatingDockModel", name := "blocksBeneath", desc := "(I)I" } : Jvm.MethodName)) ∈ lw_all := lw_g (lw_at lw_m15 129 rfl) rfl
theorem q3584 : (Jvm.Cond.code ({ cls := "FloatingDockModel", name := "blocksBeneath", desc := "(I)I" } : Jvm.MethodName) prog_17_method_73_code (2 : Nat) (Option.some Jvm.ClassFile.FieldType.int)) ∈ lw_all := lw_g (lw_at lw_m15 130 rfl) rfl
theorem q3585 : (Jvm.Cond.methodLink "FloatingDockModel" (188 : Nat) ({ cls := "FloatingDockModel", name := "asksBeneath", desc := "(I)I" } : Jvm.MethodName)) ∈ lw_all := lw_g (lw_at lw_m15 131 rfl) rfl
theorem q3586 : (Jvm.Cond.privateMethod ({ cls := "FloatingDockModel", name := "asksBeneath", desc := "(I)I" } : Jvm.MethodName)) ∈ lw_tbl := lw_at lw_m15 132 rfl
theorem q3587 : (Jvm.Cond.instanceMethod ({ cls := "FloatingDockModel", name := "asksBeneath", desc := "(I)I" } : Jvm.MethodName)) ∈ lw_all := lw_g (lw_at lw_m15 133 rfl) rfl
theorem q3588 : (Jvm.Cond.code ({ cls := "FloatingDockModel", name := "asksBeneath", desc := "(I)I" } : Jvm.MethodName) prog_17_method_72_code (3 : Nat) (Option.some Jvm.ClassFile.FieldType.int)) ∈ lw_all := lw_g (lw_at lw_m15 134 rfl) rfl
theorem q3590 : (Jvm.Cond.instanceMethod ({ cls := "FloatingDockModel", name := "blocksBeneathByBlocks", desc := "(I)I" } : Jvm.MethodName)) ∈ lw_all := lw_g (lw_at lw_m15 136 rfl) rfl
theorem q3591 : (Jvm.Cond.selects "FloatingDockModel" ({ cls := "FloatingDockModel", name := "blocksBeneathByBlocks", desc := "(I)I" } : Jvm.MethodName) ({ cls := "FloatingDockModel", name := "blocksBeneathByBlocks", desc := "(I)I" } : Jvm.MethodName)) ∈ lw_all := lw_g (lw_at lw_m15 137 rfl) rfl
theorem q3592 : (Jvm.Cond.code ({ cls := "FloatingDockModel", name := "blocksBeneathByBlocks", desc := "(I)I" } : Jvm.MethodName) prog_17_method_74_code (2 : Nat) (Option.some Jvm.ClassFile.FieldType.int)) ∈ lw_all := lw_g (lw_at lw_m15 138 rfl) rfl
theorem q3594 : (Jvm.Cond.instanceMethod ({ cls := "FloatingDockModel", name := "shipAtPosition", desc := "(I)I" } : Jvm.MethodName)) ∈ lw_all := lw_g (lw_at lw_m15 140 rfl) rfl
theorem q3595 : (Jvm.Cond.selects "FloatingDockModel" ({ cls := "FloatingDockModel", name := "shipAtPosition", desc := "(I)I" } : Jvm.MethodName) ({ cls := "FloatingDockModel", name := "shipAtPosition", desc := "(I)I" } : Jvm.MethodName)) ∈ lw_all := lw_g (lw_at lw_m15 141 rfl) rfl
theorem q3596 : (Jvm.Cond.code ({ cls := "FloatingDockModel", name := "shipAtPosition", desc := "(I)I" } : Jvm.MethodName) prog_17_method_75_code (3 : Nat) (Option.some Jvm.ClassFile.FieldType.int)) ∈ lw_all := lw_g (lw_at lw_m15 142 rfl) rfl
theorem q3598 : (Jvm.Cond.instanceMethod ({ cls := "FloatingDockModel", name := "firstGap", desc := "(I)I" } : Jvm.MethodName)) ∈ lw_all := lw_g (lw_at lw_m15 144 rfl) rfl
theorem q3599 : (Jvm.Cond.selects "FloatingDockModel" ({ cls := "FloatingDockModel", name := "firstGap", desc := "(I)I" } : Jvm.MethodName) ({ cls := "FloatingDockModel", name := "firstGap", desc := "(I)I" } : Jvm.MethodName)) ∈ lw_all := lw_g (lw_at lw_m15 145 rfl) rfl
theorem q3600 : (Jvm.Cond.code ({ cls := "FloatingDockModel", name := "firstGap", desc := "(I)I" } : Jvm.MethodName) prog_17_method_77_code (2 : Nat) (Option.some Jvm.ClassFile.FieldType.int)) ∈ lw_all := lw_g (lw_at lw_m15 146 rfl) rfl
theorem q3601 : (Jvm.Cond.methodLink "FloatingDockModel" (191 : Nat) ({ cls := "FloatingDockModel", name := "gap", desc := "(I)I" } : Jvm.MethodName)) ∈ lw_all := lw_g (lw_at lw_m15 147 rfl) rfl
theorem q3602 : (Jvm.Cond.privateMethod ({ cls := "FloatingDockModel", name := "gap", desc := "(I)I" } : Jvm.MethodName)) ∈ lw_tbl := lw_at lw_m15 148 rfl
theorem q3603 : (Jvm.Cond.instanceMethod ({ cls := "FloatingDockModel", name := "gap", desc := "(I)I" } : Jvm.MethodName)) ∈ lw_all := lw_g (lw_at lw_m15 149 rfl) rfl
theorem q3604 : (Jvm.Cond.code ({ cls := "FloatingDockModel", name := "gap", desc := "(I)I" } : Jvm.MethodName) prog_17_method_76_code (5 : Nat) (Option.some Jvm.ClassFile.FieldType.int)) ∈ lw_all := lw_g (lw_at lw_m15 150 rfl) rfl
theorem q3606 : (Jvm.Cond.instanceMethod ({ cls := "FloatingDockModel", name := "firstGapByShips", desc := "(I)I" } : Jvm.MethodName)) ∈ lw_all := lw_g (lw_at lw_m15 152 rfl) rfl
theorem q3607 : (Jvm.Cond.selects "FloatingDockModel" ({ cls := "FloatingDockModel", name := "firstGapByShips", desc := "(I)I" } : Jvm.MethodName) ({ cls := "FloatingDockModel", name := "firstGapByShips", desc := "(I)I" } : Jvm.MethodName)) ∈ lw_all := lw_g (lw_at lw_m15 153 rfl) rfl
theorem q3608 : (Jvm.Cond.code ({ cls := "FloatingDockModel", name := "firstGapByShips", desc := "(I)I" } : Jvm.MethodName) prog_17_method_78_code (2 : Nat) (Option.some Jvm.ClassFile.FieldType.int)) ∈ lw_all := lw_g (lw_at lw_m15 154 rfl) rfl
theorem q3610 : (Jvm.Cond.instanceMethod ({ cls := "FloatingDockModel", name := "freeMetres", desc := "()I" } : Jvm.MethodName)) ∈ lw_all := lw_g (lw_at lw_m15 156 rfl) rfl
theorem q3611 : (Jvm.Cond.selects "FloatingDockModel" ({ cls := "FloatingDockModel", name := "freeMetres", desc := "()I" } : Jvm.MethodName) ({ cls := "FloatingDockModel", name := "freeMetres", desc := "()I" } : Jvm.MethodName)) ∈ lw_all := lw_g (lw_at lw_m15 157 rfl) rfl
theorem q3612 : (Jvm.Cond.code ({ cls := "FloatingDockModel", name := "freeMetres", desc := "()I" } : Jvm.MethodName) prog_17_method_80_code (1 : Nat) (Option.some Jvm.ClassFile.FieldType.int)) ∈ lw_all := lw_g (lw_at lw_m15 158 rfl) rfl
theorem q3613 : (Jvm.Cond.methodLink "FloatingDockModel" (194 : Nat) ({ cls := "FloatingDockModel", name := "freeOnes", desc := "()I" } : Jvm.MethodName)) ∈ lw_all := lw_g (lw_at lw_m15 159 rfl) rfl
theorem q3614 : (Jvm.Cond.privateMethod ({ cls := "FloatingDockModel", name := "freeOnes", desc := "()I" } : Jvm.MethodName)) ∈ lw_tbl := lw_at lw_m15 160 rfl
theorem q3615 : (Jvm.Cond.instanceMethod ({ cls := "FloatingDockModel", name := "freeOnes", desc := "()I" } : Jvm.MethodName)) ∈ lw_all := lw_g (lw_at lw_m15 161 rfl) rfl
theorem q3616 : (Jvm.Cond.code ({ cls := "FloatingDockModel", name := "freeOnes", desc := "()I" } : Jvm.MethodName) prog_17_method_79_code (3 : Nat) (Option.some Jvm.ClassFile.FieldType.int)) ∈ lw_all := lw_g (lw_at lw_m15 162 rfl) rfl
theorem q3618 : (Jvm.Cond.instanceMethod ({ cls := "FloatingDockModel", name := "mostFitting", desc := "()I" } : Jvm.MethodName)) ∈ lw_all := lw_g (lw_at lw_m15 164 rfl) rfl
theorem q3619 : (Jvm.Cond.selects "FloatingDockModel" ({ cls := "FloatingDockModel", name := "mostFitting", desc := "()I" } : Jvm.MethodName) ({ cls := "FloatingDockModel", name := "mostFitting", desc := "()I" } : Jvm.MethodName)) ∈ lw_all := lw_g (lw_at lw_m15 165 rfl) rfl
theorem q3620 : (Jvm.Cond.code ({ cls := "FloatingDockModel", name := "mostFitting", desc := "()I" } : Jvm.MethodName) prog_17_method_85_code (1 : Nat) (Option.some Jvm.ClassFile.FieldType.int)) ∈ lw_all := lw_g (lw_at lw_m15 166 rfl) rfl
theorem q3621 : (Jvm.Cond.methodLink "FloatingDockModel" (212 : Nat) ({ cls := "FloatingDockModel", name := "mostOf", desc := "(Z)I" } : Jvm.MethodName)) ∈ lw_all := lw_g (lw_at lw_m15 167 rfl) rfl
theorem q3622 : (Jvm.Cond.privateMethod ({ cls := "FloatingDockModel", name := "mostOf", desc := "(Z)I" } : Jvm.MethodName)) ∈ lw_tbl := lw_at lw_m15 168 rfl
theorem q3623 : (Jvm.Cond.instanceMethod ({ cls := "FloatingDockModel", name := "mostOf", desc := "(Z)I" } : Jvm.MethodName)) ∈ lw_all := lw_g (lw_at lw_m15 169 rfl) rfl
theorem q3624 : (Jvm.Cond.code ({ cls := "FloatingDockModel", name := "mostOf", desc := "(Z)I" } : Jvm.MethodName) prog_17_method_84_code (4 : Nat) (Option.some Jvm.ClassFile.FieldType.int)) ∈ lw_all := lw_g (lw_at lw_m15 170 rfl) rfl
theorem q3625 : (Jvm.Cond.methodLink "FloatingDockModel" (204 : Nat) ({ cls := "FloatingDockModel", name := "packs", desc := "()V" } : Jvm.MethodName)) ∈ lw_all := lw_g (lw_at lw_m15 171 rfl) rfl
theorem q3626 : (Jvm.Cond.privateMethod ({ cls := "FloatingDockModel", name := "packs", desc := "()V" } : Jvm.MethodName)) ∈ lw_tbl := lw_at lw_m15 172 rfl
theorem q3627 : (Jvm.Cond.instanceMethod ({ cls := "FloatingDockModel", name := "packs", desc := "()V" } : Jvm.MethodName)) ∈ lw_all := lw_g (lw_at lw_m15 173 rfl) rfl
theorem q3628 : (Jvm.Cond.code ({ cls := "FloatingDockModel", name := "packs", desc := "()V" } : Jvm.MethodName) prog_17_method_83_code (3 : Nat) (Option.none : Option Jvm.ClassFile.FieldType)) ∈ lw_all := lw_g (lw_at lw_m15 174 rfl) rfl
theorem q3629 : (Jvm.Cond.methodLink "FloatingDockModel" (200 : Nat) ({ cls := "FloatingDockModel", name := "takesGap", desc := "(I)V" } : Jvm.MethodName)) ∈ lw_all := lw_g (lw_at lw_m15 175 rfl) rfl
theorem q3630 : (Jvm.Cond.privateMethod ({ cls := "FloatingDockModel", name := "takesGap", desc := "(I)V" } : Jvm.MethodName)) ∈ lw_tbl := lw_at lw_m15 176 rfl
theorem q3631 : (Jvm.Cond.instanceMethod ({ cls := "FloatingDockModel", name := "takesGap", desc := "(I)V" } : Jvm.MethodName)) ∈ lw_all := lw_g (lw_at lw_m15 177 rfl) rfl
theorem q3632 : (Jvm.Cond.code ({ cls := "FloatingDockModel", name := "takesGap", desc := "(I)V" } : Jvm.MethodName) prog_17_method_82_code (4 : Nat) (Option.none : Option Jvm.ClassFile.FieldType)) ∈ lw_all := lw_g (lw_at lw_m15 178 rfl) rfl
theorem q3633 : (Jvm.Cond.methodLink "FloatingDockModel" (197 : Nat) ({ cls := "FloatingDockModel", name := "metres", desc := "(I)I" } : Jvm.MethodName)) ∈ lw_all := lw_g (lw_at lw_m15 179 rfl) rfl
theorem q3634 : (Jvm.Cond.privateMethod ({ cls := "FloatingDockModel", name := "metres", desc := "(I)I" } : Jvm.MethodName)) ∈ lw_tbl := lw_at lw_m15 180 rfl
theorem q3635 : (Jvm.Cond.instanceMethod ({ cls := "FloatingDockModel", name := "metres", desc := "(I)I" } : Jvm.MethodName)) ∈ lw_all := lw_g (lw_at lw_m15 181 rfl) rfl
theorem q3636 : (Jvm.Cond.code ({ cls := "FloatingDockModel", name := "metres", desc := "(I)I" } : Jvm.MethodName) prog_17_method_81_code (6 : Nat) (Option.some Jvm.ClassFile.FieldType.int)) ∈ lw_all := lw_g (lw_at lw_m15 182 rfl) rfl
theorem q3637 : (Jvm.Cond.methodLink "FloatingDockModel" (207 : Nat) ({ cls := "java/lang/Integer", name := "bitCount", desc := "(I)I" } : Jvm.MethodName)) ∈ lw_all := lw_g (lw_at lw_m15 183 rfl) rfl
theorem q3639 : (Jvm.Cond.instanceMethod ({ cls := "FloatingDockModel", name := "mostFittingByTable", desc := "()I" } : Jvm.MethodName)) ∈ lw_all := lw_g (lw_at lw_m15 185 rfl) rfl
theorem q3640 : (Jvm.Cond.selects "FloatingDockModel" ({ cls := "FloatingDockModel", name := "mostFittingByTable", desc := "()I" } : Jvm.MethodName) ({ cls := "FloatingDockModel", name := "mostFittingByTable", desc := "()I" } : Jvm.MethodName)) ∈ lw_all := lw_g (lw_at lw_m15 186 rfl) rfl
theorem q3641 : (Jvm.Cond.code ({ cls := "FloatingDockModel", name := "mostFittingByTable", desc := "()I" } : Jvm.MethodName) prog_17_method_86_code (1 : Nat) (Option.some Jvm.ClassFile.FieldType.int)) ∈ lw_all := lw_g (lw_at lw_m15 187 rfl) rfl
theorem q3643 : (Jvm.Cond.instanceMethod ({ cls := "FloatingDockModel", name := "mostFittingMetres", desc := "()I" } : Jvm.MethodName)) ∈ lw_all := lw_g (lw_at lw_m15 189 rfl) rfl
theorem q3644 : (Jvm.Cond.selects "FloatingDockModel" ({ cls := "FloatingDockModel", name := "mostFittingMetres", desc := "()I" } : Jvm.MethodName) ({ cls := "FloatingDockModel", name := "mostFittingMetres", desc := "()I" } : Jvm.MethodName)) ∈ lw_all := lw_g (lw_at lw_m15 190 rfl) rfl
theorem q3645 : (Jvm.Cond.code ({ cls := "FloatingDockModel", name := "mostFittingMetres", desc := "()I" } : Jvm.MethodName) prog_17_method_87_code (1 : Nat) (Option.some Jvm.ClassFile.FieldType.int)) ∈ lw_all := lw_g (lw_at lw_m15 191 rfl) rfl
theorem q3647 : (Jvm.Cond.instanceMethod ({ cls := "FloatingDockModel", name := "billTotal", desc := "()I" } : Jvm.MethodName)) ∈ lw_all := lw_g (lw_at lw_m15 193 rfl) rfl
theorem q3648 : (Jvm.Cond.selects "FloatingDockModel" ({ cls := "FloatingDockModel", name := "billTotal", desc := "()I" } : Jvm.MethodName) ({ cls := "FloatingDockModel", name := "billTotal", desc := "()I" } : Jvm.MethodName)) ∈ lw_all := lw_g (lw_at lw_m15 194 rfl) rfl
theorem q3649 : (Jvm.Cond.code ({ cls := "FloatingDockModel", name := "billTotal", desc := "()I" } : Jvm.MethodName) prog_17_method_89_code (1 : Nat) (Option.some Jvm.ClassFile.FieldType.int)) ∈ lw_all := lw_g (lw_at lw_m15 195 rfl) rfl
theorem q3650 : (Jvm.Cond.methodLink "FloatingDockModel" (216 : Nat) ({ cls := "FloatingDockModel", name := "sum", desc := "(I)I" } : Jvm.MethodName)) ∈ lw_all := lw_g (lw_at lw_m15 196 rfl) rfl
theorem q3651 : (Jvm.Cond.privateMethod ({ cls := "FloatingDockModel", name := "sum", desc := "(I)I" } : Jvm.MethodName)) ∈ lw_tbl := lw_at lw_m15 197 rfl
theorem q3652 : (Jvm.Cond.instanceMethod ({ cls := "FloatingDockModel", name := "sum", desc := "(I)I" } : Jvm.MethodName)) ∈ lw_all := lw_g (lw_at lw_m15 198 rfl) rfl
theorem q3653 : (Jvm.Cond.code ({ cls := "FloatingDockModel", name := "sum", desc := "(I)I" } : Jvm.MethodName) prog_17_method_88_code (4 : Nat) (Option.some Jvm.ClassFile.FieldType.int)) ∈ lw_all := lw_g (lw_at lw_m15 199 rfl) rfl
theorem q3655 : (Jvm.Cond.instanceMethod ({ cls := "FloatingDockModel", name := "billTotalByAccount", desc := "()I" } : Jvm.MethodName)) ∈ lw_all := lw_g (lw_at lw_m15 201 rfl) rfl
theorem q3656 : (Jvm.Cond.selects "FloatingDockModel" ({ cls := "FloatingDockModel", name := "billTotalByAccount", desc := "()I" } : Jvm.MethodName) ({ cls := "FloatingDockModel", name := "billTotalByAccount", desc := "()I" } : Jvm.MethodName)) ∈ lw_all := lw_g (lw_at lw_m15 202 rfl) rfl
theorem q3657 : (Jvm.Cond.code ({ cls := "FloatingDockModel", name := "billTotalByAccount", desc := "()I" } : Jvm.MethodName) prog_17_method_90_code (1 : Nat) (Option.some Jvm.ClassFile.FieldType.int)) ∈ lw_all := lw_g (lw_at lw_m15 203 rfl) rfl
theorem q3659 : (Jvm.Cond.instanceMethod ({ cls := "FloatingDockModel", name := "paidTotal", desc := "()I" } : Jvm.MethodName)) ∈ lw_all := lw_g (lw_at lw_m15 205 rfl) rfl
theorem q3660 : (Jvm.Cond.selects "FloatingDockModel" ({ cls := "FloatingDockModel", name := "paidTotal", desc := "()I" } : Jvm.MethodName) ({ cls := "FloatingDockModel", name := "paidTotal", desc := "()I" } : Jvm.MethodName)) ∈ lw_all := lw_g (lw_at lw_m15 206 rfl) rfl
theorem q3661 : (Jvm.Cond.code ({ cls := "FloatingDockModel", name := "paidTotal", desc := "()I" } : Jvm.MethodName) prog_17_method_91_code (1 : Nat) (Option.some Jvm.ClassFile.FieldType.int)) ∈ lw_all := lw_g (lw_at lw_m15 207 rfl) rfl
theorem q3663 : (Jvm.Cond.instanceMethod ({ cls := "FloatingDockModel", name := "shipAtRank", desc := "(I)I" } : Jvm.MethodName)) ∈ lw_all := lw_g (lw_at lw_m15 209 rfl) rfl
theorem q3664 : (Jvm.Cond.selects "FloatingDockModel" ({ cls := "FloatingDockModel", name := "shipAtRank", desc := "(I)I" } : Jvm.MethodName) ({ cls := "FloatingDockModel", name := "shipAtRank", desc := "(I)I" } : Jvm.MethodName)) ∈ lw_all := lw_g (lw_at lw_m15 210 rfl) rfl
theorem q3665 : (Jvm.Cond.code ({ cls := "FloatingDockModel", name := "shipAtRank", desc := "(I)I" } : Jvm.MethodName) prog_17_method_92_code (8 : Nat) (Option.some Jvm.ClassFile.FieldType.int)) ∈ lw_all := lw_g (lw_at lw_m15 211 rfl) rfl
theorem q3667 : (Jvm.Cond.instanceMethod ({ cls := "FloatingDockModel", name := "meanDirt", desc := "()D" } : Jvm.MethodName)) ∈ lw_all := lw_g (lw_at lw_m15 213 rfl) rfl
theorem q3668 : (Jvm.Cond.selects "FloatingDockModel" ({ cls := "FloatingDockModel", name := "meanDirt", desc := "()D" } : Jvm.MethodName) ({ cls := "FloatingDockModel", name := "meanDirt", desc := "()D" } : Jvm.MethodName)) ∈ lw_all := lw_g (lw_at lw_m15 214 rfl) rfl
theorem q3669 : (Jvm.Cond.code ({ cls := "FloatingDockModel", name := "meanDirt", desc := "()D" } : Jvm.MethodName) prog_17_method_93_code (1 : Nat) (Option.some Jvm.ClassFile.FieldType.double)) ∈ lw_all := lw_g (lw_at lw_m15 215 rfl) rfl
theorem q3671 : (Jvm.Cond.instanceMethod ({ cls := "FloatingDockModel", name := "takenShare", desc := "()F" } : Jvm.MethodName)) ∈ lw_all := lw_g (lw_at lw_m15 217 rfl) rfl
theorem q3672 : (Jvm.Cond.selects "FloatingDockModel" ({ cls := "FloatingDockModel", name := "takenShare", desc := "()F" } : Jvm.MethodName) ({ cls := "FloatingDockModel", name := "takenShare", desc := "()F" } : Jvm.MethodName)) ∈ lw_all := lw_g (lw_at lw_m15 218 rfl) rfl
theorem q3673 : (Jvm.Cond.code ({ cls := "FloatingDockModel", name := "takenShare", desc := "()F" } : Jvm.MethodName) prog_17_method_94_code (1 : Nat) (Option.some Jvm.ClassFile.FieldType.float)) ∈ lw_all := lw_g (lw_at lw_m15 219 rfl) rfl
theorem q3674 : (Jvm.Cond.constantFloat "FloatingDockModel" (219 : Nat) (1114636288 : UInt32)) ∈ lw_all := lw_g (lw_at lw_m15 220 rfl) rfl
theorem q3676 : (Jvm.Cond.instanceMethod ({ cls := "FloatingDockModel", name := "isConsistent", desc := "()Z" } : Jvm.MethodName)) ∈ lw_all := lw_g (lw_at lw_m15 222 rfl) rfl
theorem q3677 : (Jvm.Cond.selects "FloatingDockModel" ({ cls := "FloatingDockModel", name := "isConsistent", desc := "()Z" } : Jvm.MethodName) ({ cls := "FloatingDockModel", name := "isConsistent", desc := "()Z" } : Jvm.MethodName)) ∈ lw_all := lw_g (lw_at lw_m15 223 rfl) rfl
theorem q3678 : (Jvm.Cond.code ({ cls := "FloatingDockModel", name := "isConsistent", desc := "()Z" } : Jvm.MethodName) prog_17_method_95_code (1 : Nat) (Option.some Jvm.ClassFile.FieldType.boolean)) ∈ lw_all := lw_g (lw_at lw_m15 224 rfl) rfl
theorem q3680 : (Jvm.Cond.instanceMethod ({ cls := "FloatingDockModel", name := "describeDock", desc := "()I" } : Jvm.MethodName)) ∈ lw_all := lw_g (lw_at lw_m15 226 rfl) rfl
theorem q3681 : (Jvm.Cond.selects "FloatingDockModel" ({ cls := "FloatingDockModel", name := "describeDock", desc := "()I" } : Jvm.MethodName) ({ cls := "FloatingDockModel", name := "describeDock", desc := "()I" } : Jvm.MethodName)) ∈ lw_all := lw_g (lw_at lw_m15 227 rfl) rfl
theorem q3682 : (Jvm.Cond.code ({ cls := "FloatingDockModel", name := "describeDock", desc := "()I" } : Jvm.MethodName) prog_17_method_98_code (3 : Nat) (Option.some Jvm.ClassFile.FieldType.int)) ∈ lw_all := lw_g (lw_at lw_m15 228 rfl) rfl
theorem q3684 : (Jvm.Cond.instanceMethod ({ cls := "FloatingDockModel", name := "describeBill", desc := "(I)I" } : Jvm.MethodName)) ∈ lw_all := lw_g (lw_at lw_m15 230 rfl) rfl
theorem q3685 : (Jvm.Cond.selects "FloatingDockModel" ({ cls := "FloatingDockModel", name := "describeBill", desc := "(I)I" } : Jvm.MethodName) ({ cls := "FloatingDockModel", name := "describeBill", desc := "(I)I" } : Jvm.MethodName)) ∈ lw_all := lw_g (lw_at lw_m15 231 rfl) rfl
theorem q3686 : (Jvm.Cond.code ({ cls := "FloatingDockModel", name := "describeBill", desc := "(I)I" } : Jvm.MethodName) prog_17_method_99_code (4 : Nat) (Option.some Jvm.ClassFile.FieldType.int)) ∈ lw_all := lw_g (lw_at lw_m15 232 rfl) rfl
theorem q3687 : (Jvm.Cond.methodLink "FloatingDockModel" (220 : Nat) ({ cls := "FloatingDockModel", name := "put", desc := "(II)I" } : Jvm.MethodName)) ∈ lw_all := lw_g (lw_at lw_m15 233 rfl) rfl
theorem q3688 : (Jvm.Cond.privateMethod ({ cls := "FloatingDockModel", name := "put", desc := "(II)I" } : Jvm.MethodName)) ∈ lw_tbl := lw_at lw_m15 234 rfl
theorem q3689 : (Jvm.Cond.instanceMethod ({ cls := "FloatingDockModel", name := "put", desc := "(II)I" } : Jvm.MethodName)) ∈ lw_all := lw_g (lw_at lw_m15 235 rfl) rfl
theorem q3690 : (Jvm.Cond.code ({ cls := "FloatingDockModel", name := "put", desc := "(II)I" } : Jvm.MethodName) prog_17_method_96_code (3 : Nat) (Option.some Jvm.ClassFile.FieldType.int)) ∈ lw_all := lw_g (lw_at lw_m15 236 rfl) rfl
theorem q3691 : (Jvm.Cond.methodLink "FloatingDockModel" (226 : Nat) ({ cls := "FloatingDockModel", name := "writesNumber", desc := "(II)I" } : Jvm.MethodName)) ∈ lw_all := lw_g (lw_at lw_m15 237 rfl) rfl
theorem q3692 : (Jvm.Cond.privateMethod ({ cls := "FloatingDockModel", name := "writesNumber", desc := "(II)I" } : Jvm.MethodName)) ∈ lw_tbl := lw_at lw_m15 238 rfl
theorem q3693 : (Jvm.Cond.instanceMethod ({ cls := "FloatingDockModel", name := "writesNumber", desc := "(II)I" } : Jvm.MethodName)) ∈ lw_all := lw_g (lw_at lw_m15 239 rfl) rfl
theorem q3694 : (Jvm.Cond.code ({ cls := "FloatingDockModel", name := "writesNumber", desc := "(II)I" } : Jvm.MethodName) prog_17_method_97_code (6 : Nat) (Option.some Jvm.ClassFile.FieldType.int)) ∈ lw_all := lw_g (lw_at lw_m16 0 rfl) rfl
theorem q3696 : (Jvm.Cond.instanceMethod ({ cls := "FloatingDockModel", name := "lineAt", desc := "(I)C" } : Jvm.MethodName)) ∈ lw_all := lw_g (lw_at lw_m16 2 rfl) rfl
theorem q3697 : (Jvm.Cond.selects "FloatingDockModel" ({ cls := "FloatingDockModel", name := "lineAt", desc := "(I)C" } : Jvm.MethodName) ({ cls := "FloatingDockModel", name := "lineAt", desc := "(I)C" } : Jvm.MethodName)) ∈ lw_all := lw_g (lw_at lw_m16 3 rfl) rfl
theorem q3698 : (Jvm.Cond.code ({ cls := "FloatingDockModel", name := "lineAt", desc := "(I)C" } : Jvm.MethodName) prog_17_method_100_code (2 : Nat) (Option.some Jvm.ClassFile.FieldType.char)) ∈ lw_all := lw_g (lw_at lw_m16 4 rfl) rfl
theorem q3700 : (Jvm.Cond.instanceMethod ({ cls := "FloatingDockModel", name := "append", desc := "(C)I" } : Jvm.MethodName)) ∈ lw_all := lw_g (lw_at lw_m16 6 rfl) rfl
theorem q3701 : (Jvm.Cond.selects "FloatingDockModel" ({ cls := "FloatingDockModel", name := "append", desc := "(C)I" } : Jvm.MethodName) ({ cls := "FloatingDockModel", name := "append", desc := "(C)I" } : Jvm.MethodName)) ∈ lw_all := lw_g (lw_at lw_m16 7 rfl) rfl
theorem q3702 : (Jvm.Cond.code ({ cls := "FloatingDockModel", name := "append", desc := "(C)I" } : Jvm.MethodName) prog_17_method_101_code (2 : Nat) (Option.some Jvm.ClassFile.FieldType.int)) ∈ lw_all := lw_g (lw_at lw_m16 8 rfl) rfl
theorem q3704 : (Jvm.Cond.instanceMethod ({ cls := "FloatingDockModel", name := "run", desc := "()I" } : Jvm.MethodName)) ∈ lw_all := lw_g (lw_at lw_m16 10 rfl) rfl
theorem q3705 : (Jvm.Cond.selects "FloatingDockModel" ({ cls := "FloatingDockModel", name := "run", desc := "()I" } : Jvm.MethodName) ({ cls := "FloatingDockModel", name := "run", desc := "()I" } : Jvm.MethodName)) ∈ lw_all := lw_g (lw_at lw_m16 11 rfl) rfl
theorem q3706 : (Jvm.Cond.code ({ cls := "FloatingDockModel", name := "run", desc := "()I" } : Jvm.MethodName) prog_17_method_111_code (3 : Nat) (Option.some Jvm.ClassFile.FieldType.int)) ∈ lw_all := lw_g (lw_at lw_m16 12 rfl) rfl
theorem q3707 : (Jvm.Cond.methodLink "FloatingDockModel" (273 : Nat) ({ cls := "FloatingDockModel", name := "readsAll", desc := "()V" } : Jvm.MethodName)) ∈ lw_all := lw_g (lw_at lw_m16 13 rfl) rfl
theorem q3708 : (Jvm.Cond.privateMethod ({ cls := "FloatingDockModel", name := "readsAll", desc := "()V" } : Jvm.MethodName)) ∈ lw_tbl := lw_at lw_m16 14 rfl
theorem q3709 : (Jvm.Cond.instanceMethod ({ cls := "FloatingDockModel", name := "readsAll", desc := "()V" } : Jvm.MethodName)) ∈ lw_all := lw_g (lw_at lw_m16 15 rfl) rfl
theorem q3710 : (Jvm.Cond.code ({ cls := "FloatingDockModel", name := "readsAll", desc := "()V" } : Jvm.MethodName) prog_17_method_109_code (2 : Nat) (Option.none : Option Jvm.ClassFile.FieldType)) ∈ lw_all := lw_g (lw_at lw_m16 16 rfl) rfl
theorem q3711 : (Jvm.Cond.methodLink "FloatingDockModel" (270 : Nat) ({ cls := "FloatingDockModel", name := "readsCommand", desc := "()V" } : Jvm.MethodName)) ∈ lw_all := lw_g (lw_at lw_m16 17 rfl) rfl
theorem q3712 : (Jvm.Cond.privateMethod ({ cls := "FloatingDockModel", name := "readsCommand", desc := "()V" } : Jvm.MethodName)) ∈ lw_tbl := lw_at lw_m16 18 rfl
theorem q3713 : (Jvm.Cond.instanceMethod ({ cls := "FloatingDockModel", name := "readsCommand", desc := "()V" } : Jvm.MethodName)) ∈ lw_all := lw_g (lw_at lw_m16 19 rfl) rfl
theorem q3714 : (Jvm.Cond.code ({ cls := "FloatingDockModel", name := "readsCommand", desc := "()V" } : Jvm.MethodName) prog_17_method_108_code (4 : Nat) (Option.none : Option Jvm.ClassFile.FieldType)) ∈ lw_all := lw_g (lw_at lw_m16 20 rfl) rfl
theorem q3715 : (Jvm.Cond.methodLink "FloatingDockModel" (264 : Nat) ({ cls := "FloatingDockModel", name := "kindHere", desc := "()I" } : Jvm.MethodName)) ∈ lw_all := lw_g (lw_at lw_m16 21 rfl) rfl
theorem q3716 : (Jvm.Cond.privateMethod ({ cls := "FloatingDockModel", name := "kindHere", desc := "()I" } : Jvm.MethodName)) ∈ lw_tbl := lw_at lw_m16 22 rfl
theorem q3717 : (Jvm.Cond.instanceMethod ({ cls := "FloatingDockModel", name := "kindHere", desc := "()I" } : Jvm.MethodName)) ∈ lw_all := lw_g (lw_at lw_m16 23 rfl) rfl
theorem q3718 : (Jvm.Cond.code ({ cls := "FloatingDockModel", name := "kindHere", desc := "()I" } : Jvm.MethodName) prog_17_method_107_code (6 : Nat) (Option.some Jvm.ClassFile.FieldType.int)) ∈ lw_all := lw_g (lw_at lw_m16 24 rfl) rfl
theorem q3719 : (Jvm.Cond.methodLink "FloatingDockModel" (250 : Nat) ({ cls := "FloatingDockModel", name := "startOf", desc := "(I)I" } : Jvm.MethodName)) ∈ lw_all := lw_g (lw_at lw_m16 25 rfl) rfl
theorem q3720 : (Jvm.Cond.static ({ cls := "FloatingDockModel", name := "startOf", desc := "(I)I" } : Jvm.MethodName)) ∈ lw_all := lw_g (lw_at lw_m16 26 rfl) rfl
theorem q3721 : (Jvm.Cond.code ({ cls := "FloatingDockModel", name := "startOf", desc := "(I)I" } : Jvm.MethodName) prog_17_method_106_code (1 : Nat) (Option.some Jvm.ClassFile.FieldType.int)) ∈ lw_all := lw_g (lw_at lw_m16 27 rfl) rfl
theorem q3722 : (Jvm.Cond.stringRef "FloatingDockModel" (253 : Nat) "ship enter leave clean stop openclosepump pass block unblock pay ") ∈ lw_tbl := lw_at lw_m16 28 rfl
theorem q3723 : (Jvm.Cond.methodLink "FloatingDockModel" (255 : Nat) ({ cls := "java/lang/String", name := "charAt", desc := "(I)C" } : Jvm.MethodName)) ∈ lw_all := lw_g (lw_at lw_m16 29 rfl) rfl
theorem q3724 : (Jvm.Cond.methodLink "FloatingDockModel" (241 : Nat) ({ cls := "FloatingDockModel", name := "letterHere", desc := "()I" } : Jvm.MethodName)) ∈ lw_all := lw_g (lw_at lw_m16 30 rfl) rfl
theorem q3725 : (Jvm.Cond.privateMethod ({ cls := "FloatingDockModel", name := "letterHere", desc := "()I" } : Jvm.MethodName)) ∈ lw_tbl := lw_at lw_m16 31 rfl
theorem q3726 : (Jvm.Cond.instanceMethod ({ cls := "FloatingDockModel", name := "letterHere", desc := "()I" } : Jvm.MethodName)) ∈ lw_all := lw_g (lw_at lw_m16 32 rfl) rfl
theorem q3727 : (Jvm.Cond.code ({ cls := "FloatingDockModel", name := "letterHere", desc := "()I" } : Jvm.MethodName) prog_17_method_102_code (1 : Nat) (Option.some Jvm.ClassFile.FieldType.int)) ∈ lw_all := lw_g (lw_at lw_m16 33 rfl) rfl
theorem q3728 : (Jvm.Cond.methodLink "FloatingDockModel" (267 : Nat) ({ cls := "FloatingDockModel", name := "numberBehind", desc := "(I)I" } : Jvm.MethodName)) ∈ lw_all := lw_g (lw_at lw_m16 34 rfl) rfl
theorem q3729 : (Jvm.Cond.privateMethod ({ cls := "FloatingDockModel", name := "numberBehind", desc := "(I)I" } : Jvm.MethodName)) ∈ lw_tbl := lw_at lw_m16 35 rfl
theorem q3730 : (Jvm.Cond.instanceMethod ({ cls := "FloatingDockModel", name := "numberBehind", desc := "(I)I" } : Jvm.MethodName)) ∈ lw_all := lw_g (lw_at lw_m16 36 rfl) rfl
theorem q3731 : (Jvm.Cond.code ({ cls := "FloatingDockModel", name := "numberBehind", desc := "(I)I" } : Jvm.MethodName) prog_17_method_105_code (3 : Nat) (Option.some Jvm.ClassFile.FieldType.int)) ∈ lw_all := lw_g (lw_at lw_m16 37 rfl) rfl
theorem q3732 : (Jvm.Cond.methodLink "FloatingDockModel" (244 : Nat) ({ cls := "FloatingDockModel", name := "reads", desc := "(II)I" } : Jvm.MethodName)) ∈ lw_all := lw_g (lw_at lw_m16 38 rfl) rfl
theorem q3733 : (Jvm.Cond.privateMethod ({ cls := "FloatingDockModel", name := "reads", desc := "(II)I" } : Jvm.MethodName)) ∈ lw_tbl := lw_at lw_m16 39 rfl
theorem q3734 : (Jvm.Cond.instanceMethod ({ cls := "FloatingDockModel", name := "reads", desc := "(II)I" } : Jvm.MethodName)) ∈ lw_all := lw_g (lw_at lw_m16 40 rfl) rfl
theorem q3735 : (Jvm.Cond.code ({ cls := "FloatingDockModel", name := "reads", desc := "(II)I" } : Jvm.MethodName) prog_17_method_103_code (3 : Nat) (Option.some Jvm.ClassFile.FieldType.int)) ∈ lw_all := lw_g (lw_at lw_m16 41 rfl) rfl
theorem q3736 : (Jvm.Cond.methodLink "FloatingDockModel" (247 : Nat) ({ cls := "FloatingDockModel", name := "number", desc := "()I" } : Jvm.MethodName)) ∈ lw_all := lw_g (lw_at lw_m16 42 rfl) rfl
theorem q3737 : (Jvm.Cond.privateMethod ({ cls := "FloatingDockModel", name := "number", desc := "()I" } : Jvm.MethodName)) ∈ lw_tbl := lw_at lw_m16 43 rfl
theorem q3738 : (Jvm.Cond.instanceMethod ({ cls := "FloatingDockModel", name := "number", desc := "()I" } : Jvm.MethodName)) ∈ lw_all := lw_g (lw_at lw_m16 44 rfl) rfl
theorem q3739 : (Jvm.Cond.code ({ cls := "FloatingDockModel", name := "number", desc := "()I" } : Jvm.MethodName) prog_17_method_104_code (3 : Nat) (Option.some Jvm.ClassFile.FieldType.int)) ∈ lw_all := lw_g (lw_at lw_m16 45 rfl) rfl
theorem q3740 : (Jvm.Cond.methodLink "FloatingDockModel" (276 : Nat) ({ cls := "FloatingDockModel", name := "does", desc := "(I)I" } : Jvm.MethodName)) ∈ lw_all := lw_g (lw_at lw_m16 46 rfl) rfl
theorem q3741 : (Jvm.Cond.privateMethod ({ cls := "FloatingDockModel", name := "does", desc := "(I)I" } : Jvm.MethodName)) ∈ lw_tbl := lw_at lw_m16 47 rfl
theorem q3742 : (Jvm.Cond.instanceMethod ({ cls := "FloatingDockModel", name := "does", desc := "(I)I" } : Jvm.MethodName)) ∈ lw_all := lw_g (lw_at lw_m16 48 rfl) rfl
theorem q3743 : (Jvm.Cond.code ({ cls := "FloatingDockModel", name := "does", desc := "(I)I" } : Jvm.MethodName) prog_17_method_110_code (4 : Nat) (Option.some Jvm.ClassFile.FieldType.int)) ∈ lw_all := lw_g (lw_at lw_m16 49 rfl) rfl
theorem q3745 : (Jvm.Cond.instanceMethod ({ cls := "FloatingDockModel", name := "errorPosition", desc := "()I" } : Jvm.MethodName)) ∈ lw_all := lw_g (lw_at lw_m16 51 rfl) rfl
theorem q3746 : (Jvm.Cond.selects "FloatingDockModel" ({ cls := "FloatingDockModel", name := "errorPosition", desc := "()I" } : Jvm.MethodName) ({ cls := "FloatingDockModel", name := "errorPosition", desc := "()I" } : Jvm.MethodName)) ∈ lw_all := lw_g (lw_at lw_m16 52 rfl) rfl
theorem q3747 : (Jvm.Cond.code ({ cls := "FloatingDockModel", name := "errorPosition", desc := "()I" } : Jvm.MethodName) prog_17_method_112_code (1 : Nat) (Option.some Jvm.ClassFile.FieldType.int)) ∈ lw_all := lw_g (lw_at lw_m16 53 rfl) rfl
theorem q3749 : (Jvm.Cond.instanceMethod ({ cls := "FloatingDockModel", name := "failedCommand", desc := "()I" } : Jvm.MethodName)) ∈ lw_all := lw_g (lw_at lw_m16 55 rfl) rfl
theorem q3750 : (Jvm.Cond.selects "FloatingDockModel" ({ cls := "FloatingDockModel", name := "failedCommand", desc := "()I" } : Jvm.MethodName) ({ cls := "FloatingDockModel", name := "failedCommand", desc := "()I" } : Jvm.MethodName)) ∈ lw_all := lw_g (lw_at lw_m16 56 rfl) rfl
theorem q3751 : (Jvm.Cond.code ({ cls := "FloatingDockModel", name := "failedCommand", desc := "()I" } : Jvm.MethodName) prog_17_method_113_code (1 : Nat) (Option.some Jvm.ClassFile.FieldType.int)) ∈ lw_all := lw_g (lw_at lw_m16 57 rfl) rfl
theorem q3819 : (Jvm.Cond.castable "FloatingDockModel" "java/lang/Object") ∈ lw_tbl := lw_at lw_m16 125 rfl
theorem in_X5 : ∀ w ∈ wsX50, w ∈ lw_all := lw_in wsX50 [3262, 3264, 3266, 3268, 3270, 3272, 3274, 3276, 3278, 3280, 3282, 3284, 3286, 3288, 3290, 3292, 3294, 3296, 3298, 3300] (by decide +kernel) (by decide +kernel)

/-! FloatingDock$Ship -/
def RX6 : String := "FloatingDock$Ship"
def TX6 : u_T := fun k => match k with
  | 0 => ("FloatingDock$Ship", "id", "I", true)
  | 1 => ("FloatingDock$Ship", "length", "I", true)
  | 2 => ("FloatingDock$Ship", "draught", "I", true)
  | 3 => ("FloatingDock$Ship", "dirt", "I", false)
  | 4 => ("FloatingDock$Ship", "damage", "I", false)
  | 5 => ("FloatingDock$Ship", "bill", "I", false)
  | 6 => ("FloatingDock$Ship", "hoursAfloat", "I", false)
  | 7 => ("FloatingDock$Ship", "isCleaned", "Z", false)
  | _ => ("FloatingDock$Ship", "berth", "LFloatingDock$Stretch;", false)
def tyX6 : Nat → FieldType := fun k => match k with
  | 0 => .int
  | 1 => .int
  | 2 => .int
  | 3 => .int
  | 4 => .int
  | 5 => .int
  | 6 => .int
  | 7 => .boolean
  | _ => .object "FloatingDock$Stretch"
abbrev wsX60 : List Cond := u_ws RX6 TX6 9
theorem nmX6 : ∀ a, a < 9 → ∀ b, b < 9 → a ≠ b → (TX6 a).2.1 ≠ (TX6 b).2.1 := by decide +kernel
theorem tyX6_ok : ∀ k, k < 9 → parseFieldDescriptor (TX6 k).2.2.1 = some (tyX6 k) := by decide +kernel
abbrev cX6_rests : ByteArray := prog_10_method_5_code
def yX6_rests : MethodName := ⟨RX6, "rests", "(I)Z"⟩
abbrev cX6_isInDock : ByteArray := prog_10_method_3_code
def yX6_isInDock : MethodName := ⟨RX6, "isInDock", "()Z"⟩
abbrev cX6_clean : ByteArray := prog_10_method_7_code
def yX6_clean : MethodName := ⟨RX6, "clean", "(I)I"⟩
abbrev cX6_isDeepEnough : ByteArray := prog_10_method_6_code
def yX6_isDeepEnough : MethodName := ⟨RX6, "isDeepEnough", "(I)Z"⟩
abbrev cX6_isAt : ByteArray := prog_10_method_4_code
def yX6_isAt : MethodName := ⟨RX6, "isAt", "(I)Z"⟩
abbrev cX6_init : ByteArray := prog_10_method_2_code
def yX6_init : MethodName := ⟨RX6, "<init>", "(LFloatingDock$Ship;)V"⟩
abbrev cX6_init_2 : ByteArray := prog_10_method_1_code
def yX6_init_2 : MethodName := ⟨RX6, "<init>", "(IIII)V"⟩
abbrev cX6_isAhead : ByteArray := prog_10_method_8_code
def yX6_isAhead : MethodName := ⟨RX6, "isAhead", "(LFloatingDock$Ship;)Z"⟩
abbrev cX6_describeBill : ByteArray := prog_10_method_9_code
def yX6_describeBill : MethodName := ⟨RX6, "describeBill", "(I)Ljava/lang/String;"⟩
theorem q142 : (Jvm.Cond.initialized "FloatingDock$Ship") ∈ lw_all := lw_g (lw_at lw_m1 48 rfl) rfl
theorem q363 : (Jvm.Cond.instanceMethod ({ cls := "FloatingDock$Ship", name := "rests", desc := "(I)Z" } : Jvm.MethodName)) ∈ lw_all := lw_g (lw_at lw_m2 29 rfl) rfl
theorem q364 : (Jvm.Cond.selects "FloatingDock$Ship" ({ cls := "FloatingDock$Ship", name := "rests", desc := "(I)Z" } : Jvm.MethodName) ({ cls := "FloatingDock$Ship", name := "rests", desc := "(I)Z" } : Jvm.MethodName)) ∈ lw_all := lw_g (lw_at lw_m2 30 rfl) rfl
theorem q365 : (Jvm.Cond.code ({ cls := "FloatingDock$Ship", name := "rests", desc := "(I)Z" } : Jvm.MethodName) prog_10_method_5_code (2 : Nat) (Option.some Jvm.ClassFile.FieldType.boolean)) ∈ lw_all := lw_g (lw_at lw_m2 31 rfl) rfl
theorem q366 : (Jvm.Cond.methodLink "FloatingDock$Ship" (44 : Nat) ({ cls := "FloatingDock$Ship", name := "isInDock", desc := "()Z" } : Jvm.MethodName)) ∈ lw_all := lw_g (lw_at lw_m2 32 rfl) rfl
theorem q367 : (Jvm.Cond.instanceMethod ({ cls := "FloatingDock$Ship", name := "isInDock", desc := "()Z" } : Jvm.MethodName)) ∈ lw_all := lw_g (lw_at lw_m2 33 rfl) rfl
theorem q368 : (Jvm.Cond.selects "FloatingDock$Ship" ({ cls := "FloatingDock$Ship", name := "isInDock", desc := "()Z" } : Jvm.MethodName) ({ cls := "FloatingDock$Ship", name := "isInDock", desc := "()Z" } : Jvm.MethodName)) ∈ lw_all := lw_g (lw_at lw_m2 34 rfl) rfl
theorem q369 : (Jvm.Cond.code ({ cls := "FloatingDock$Ship", name := "isInDock", desc := "()Z" } : Jvm.MethodName) prog_10_method_3_code (1 : Nat) (Option.some Jvm.ClassFile.FieldType.boolean)) ∈ lw_all := lw_g (lw_at lw_m2 35 rfl) rfl
theorem q373 : (Jvm.Cond.instanceMethod ({ cls := "FloatingDock$Ship", name := "clean", desc := "(I)I" } : Jvm.MethodName)) ∈ lw_all := lw_g (lw_at lw_m2 39 rfl) rfl
theorem q374 : (Jvm.Cond.selects "FloatingDock$Ship" ({ cls := "FloatingDock$Ship", name := "clean", desc := "(I)I" } : Jvm.MethodName) ({ cls := "FloatingDock$Ship", name := "clean", desc := "(I)I" } : Jvm.MethodName)) ∈ lw_all := lw_g (lw_at lw_m2 40 rfl) rfl
theorem q375 : (Jvm.Cond.code ({ cls := "FloatingDock$Ship", name := "clean", desc := "(I)I" } : Jvm.MethodName) prog_10_method_7_code (3 : Nat) (Option.some Jvm.ClassFile.FieldType.int)) ∈ lw_all := lw_g (lw_at lw_m2 41 rfl) rfl
theorem q376 : (Jvm.Cond.methodLink "FloatingDock$Ship" (54 : Nat) ({ cls := "java/lang/Math", name := "min", desc := "(II)I" } : Jvm.MethodName)) ∈ lw_all := lw_g (lw_at lw_m2 42 rfl) rfl
theorem q1241 : (Jvm.Cond.selects "FloatingDock$Ship" ({ cls := "java/lang/Object", name := "getClass", desc := "()Ljava/lang/Class;" } : Jvm.MethodName) ({ cls := "java/lang/Object", name := "getClass", desc := "()Ljava/lang/Class;" } : Jvm.MethodName)) ∈ lw_all := lw_g (lw_at lw_m5 187 rfl) rfl
theorem q1329 : (Jvm.Cond.instanceMethod ({ cls := "FloatingDock$Ship", name := "isDeepEnough", desc := "(I)Z" } : Jvm.MethodName)) ∈ lw_all := lw_g (lw_at lw_m6 35 rfl) rfl
theorem q1330 : (Jvm.Cond.selects "FloatingDock$Ship" ({ cls := "FloatingDock$Ship", name := "isDeepEnough", desc := "(I)Z" } : Jvm.MethodName) ({ cls := "FloatingDock$Ship", name := "isDeepEnough", desc := "(I)Z" } : Jvm.MethodName)) ∈ lw_all := lw_g (lw_at lw_m6 36 rfl) rfl
theorem q1331 : (Jvm.Cond.code ({ cls := "FloatingDock$Ship", name := "isDeepEnough", desc := "(I)Z" } : Jvm.MethodName) prog_10_method_6_code (2 : Nat) (Option.some Jvm.ClassFile.FieldType.boolean)) ∈ lw_all := lw_g (lw_at lw_m6 37 rfl) rfl
theorem q1509 : (Jvm.Cond.instanceMethod ({ cls := "FloatingDock$Ship", name := "isAt", desc := "(I)Z" } : Jvm.MethodName)) ∈ lw_all := lw_g (lw_at lw_m6 215 rfl) rfl
theorem q1510 : (Jvm.Cond.selects "FloatingDock$Ship" ({ cls := "FloatingDock$Ship", name := "isAt", desc := "(I)Z" } : Jvm.MethodName) ({ cls := "FloatingDock$Ship", name := "isAt", desc := "(I)Z" } : Jvm.MethodName)) ∈ lw_all := lw_g (lw_at lw_m6 216 rfl) rfl
theorem q1511 : (Jvm.Cond.code ({ cls := "FloatingDock$Ship", name := "isAt", desc := "(I)Z" } : Jvm.MethodName) prog_10_method_4_code (2 : Nat) (Option.some Jvm.ClassFile.FieldType.boolean)) ∈ lw_all := lw_g (lw_at lw_m6 217 rfl) rfl
theorem q1512 : (Jvm.Cond.methodLink "FloatingDock$Ship" (48 : Nat) ({ cls := "FloatingDock$Stretch", name := "contains", desc := "(I)Z" } : Jvm.MethodName)) ∈ lw_all := lw_g (lw_at lw_m6 218 rfl) rfl
theorem q1566 : (Jvm.Cond.selects "FloatingDock$Ship" ({ cls := "java/lang/Object", name := "hashCode", desc := "()I" } : Jvm.MethodName) ({ cls := "java/lang/Object", name := "hashCode", desc := "()I" } : Jvm.MethodName)) ∈ lw_all := lw_g (lw_at lw_m7 32 rfl) rfl
theorem q1662 : (Jvm.Cond.selects "FloatingDock$Ship" ({ cls := "java/lang/Object", name := "equals", desc := "(Ljava/lang/Object;)Z" } : Jvm.MethodName) ({ cls := "java/lang/Object", name := "equals", desc := "(Ljava/lang/Object;)Z" } : Jvm.MethodName)) ∈ lw_all := lw_g (lw_at lw_m7 128 rfl) rfl
theorem q1996 : (Jvm.Cond.instantiable "FloatingDock$Ship" (9 : Nat)) ∈ lw_all := lw_g (lw_at lw_m8 222 rfl) rfl
theorem q1998 : (Jvm.Cond.instanceMethod ({ cls := "FloatingDock$Ship", name := "<init>", desc := "(LFloatingDock$Ship;)V" } : Jvm.MethodName)) ∈ lw_all := lw_g (lw_at lw_m8 224 rfl) rfl
theorem q1999 : (Jvm.Cond.code ({ cls := "FloatingDock$Ship", name := "<init>", desc := "(LFloatingDock$Ship;)V" } : Jvm.MethodName) prog_10_method_2_code (2 : Nat) (Option.none : Option Jvm.ClassFile.FieldType)) ∈ lw_all := lw_g (lw_at lw_m8 225 rfl) rfl
theorem q2000 : (Jvm.Cond.methodLink "FloatingDock$Ship" (24 : Nat) ({ cls := "FloatingDock$Ship", name := "<init>", desc := "(IIII)V" } : Jvm.MethodName)) ∈ lw_all := lw_g (lw_at lw_m8 226 rfl) rfl
theorem q2001 : (Jvm.Cond.instanceMethod ({ cls := "FloatingDock$Ship", name := "<init>", desc := "(IIII)V" } : Jvm.MethodName)) ∈ lw_all := lw_g (lw_at lw_m8 227 rfl) rfl
theorem q2002 : (Jvm.Cond.code ({ cls := "FloatingDock$Ship", name := "<init>", desc := "(IIII)V" } : Jvm.MethodName) prog_10_method_1_code (5 : Nat) (Option.none : Option Jvm.ClassFile.FieldType)) ∈ lw_all := lw_g (lw_at lw_m8 228 rfl) rfl
theorem q2003 : (Jvm.Cond.methodLink "FloatingDock$Ship" (3 : Nat) ({ cls := "java/lang/Object", name := "<init>", desc := "()V" } : Jvm.MethodName)) ∈ lw_all := lw_g (lw_at lw_m8 229 rfl) rfl
theorem q2004 : (Jvm.Cond.fieldLink "FloatingDock$Ship" (9 : Nat) "FloatingDock$Ship" "id" "I") ∈ lw_all := lw_g (lw_at lw_m8 230 rfl) rfl
theorem q2007 : (Jvm.Cond.fieldLink "FloatingDock$Ship" (15 : Nat) "FloatingDock$Ship" "length" "I") ∈ lw_all := lw_g (lw_at lw_m8 233 rfl) rfl
theorem q2010 : (Jvm.Cond.fieldLink "FloatingDock$Ship" (18 : Nat) "FloatingDock$Ship" "draught" "I") ∈ lw_all := lw_g (lw_at lw_m8 236 rfl) rfl
theorem q2011 : (Jvm.Cond.fieldLink "FloatingDock$Ship" (21 : Nat) "FloatingDock$Ship" "dirt" "I") ∈ lw_all := lw_g (lw_at lw_m8 237 rfl) rfl
theorem q2014 : (Jvm.Cond.fieldLink "FloatingDock$Ship" (27 : Nat) "FloatingDock$Ship" "damage" "I") ∈ lw_all := lw_g (lw_at lw_m9 0 rfl) rfl
theorem q2017 : (Jvm.Cond.fieldLink "FloatingDock$Ship" (30 : Nat) "FloatingDock$Ship" "bill" "I") ∈ lw_all := lw_g (lw_at lw_m9 3 rfl) rfl
theorem q2020 : (Jvm.Cond.fieldLink "FloatingDock$Ship" (33 : Nat) "FloatingDock$Ship" "hoursAfloat" "I") ∈ lw_all := lw_g (lw_at lw_m9 6 rfl) rfl
theorem q2023 : (Jvm.Cond.fieldLink "FloatingDock$Ship" (36 : Nat) "FloatingDock$Ship" "isCleaned" "Z") ∈ lw_all := lw_g (lw_at lw_m9 9 rfl) rfl
theorem q2025 : (Jvm.Cond.fieldLink "FloatingDock$Ship" (40 : Nat) "FloatingDock$Ship" "berth" "LFloatingDock$Stretch;") ∈ lw_all := lw_g (lw_at lw_m9 11 rfl) rfl
theorem q2027 : (Jvm.Cond.laysFinal "FloatingDock$Ship" "FloatingDock$Ship" "id" "I") ∈ lw_all := lw_g (lw_at lw_m9 13 rfl) rfl
theorem q2028 : (Jvm.Cond.soleField "FloatingDock$Ship" "id") ∈ lw_all := lw_g (lw_at lw_m9 14 rfl) rfl
theorem q2029 : (Jvm.Cond.laysFinal "FloatingDock$Ship" "FloatingDock$Ship" "length" "I") ∈ lw_all := lw_g (lw_at lw_m9 15 rfl) rfl
theorem q2030 : (Jvm.Cond.soleField "FloatingDock$Ship" "length") ∈ lw_all := lw_g (lw_at lw_m9 16 rfl) rfl
theorem q2031 : (Jvm.Cond.laysFinal "FloatingDock$Ship" "FloatingDock$Ship" "draught" "I") ∈ lw_all := lw_g (lw_at lw_m9 17 rfl) rfl
theorem q2032 : (Jvm.Cond.soleField "FloatingDock$Ship" "draught") ∈ lw_all := lw_g (lw_at lw_m9 18 rfl) rfl
theorem q2033 : (Jvm.Cond.lays "FloatingDock$Ship" "FloatingDock$Ship" "dirt" "I") ∈ lw_all := lw_g (lw_at lw_m9 19 rfl) rfl
theorem q2034 : (Jvm.Cond.soleField "FloatingDock$Ship" "dirt") ∈ lw_all := lw_g (lw_at lw_m9 20 rfl) rfl
theorem q2035 : (Jvm.Cond.lays "FloatingDock$Ship" "FloatingDock$Ship" "damage" "I") ∈ lw_all := lw_g (lw_at lw_m9 21 rfl) rfl
theorem q2036 : (Jvm.Cond.soleField "FloatingDock$Ship" "damage") ∈ lw_all := lw_g (lw_at lw_m9 22 rfl) rfl
theorem q2037 : (Jvm.Cond.lays "FloatingDock$Ship" "FloatingDock$Ship" "bill" "I") ∈ lw_all := lw_g (lw_at lw_m9 23 rfl) rfl
theorem q2038 : (Jvm.Cond.soleField "FloatingDock$Ship" "bill") ∈ lw_all := lw_g (lw_at lw_m9 24 rfl) rfl
theorem q2039 : (Jvm.Cond.lays "FloatingDock$Ship" "FloatingDock$Ship" "hoursAfloat" "I") ∈ lw_all := lw_g (lw_at lw_m9 25 rfl) rfl
theorem q2040 : (Jvm.Cond.soleField "FloatingDock$Ship" "hoursAfloat") ∈ lw_all := lw_g (lw_at lw_m9 26 rfl) rfl
theorem q2041 : (Jvm.Cond.lays "FloatingDock$Ship" "FloatingDock$Ship" "isCleaned" "Z") ∈ lw_all := lw_g (lw_at lw_m9 27 rfl) rfl
theorem q2042 : (Jvm.Cond.soleField "FloatingDock$Ship" "isCleaned") ∈ lw_all := lw_g (lw_at lw_m9 28 rfl) rfl
theorem q2043 : (Jvm.Cond.lays "FloatingDock$Ship" "FloatingDock$Ship" "berth" "LFloatingDock$Stretch;") ∈ lw_all := lw_g (lw_at lw_m9 29 rfl) rfl
theorem q2044 : (Jvm.Cond.soleField "FloatingDock$Ship" "berth") ∈ lw_all := lw_g (lw_at lw_m9 30 rfl) rfl
theorem q2045 : (Jvm.Cond.superclass "FloatingDock$Ship" "java/lang/Object") ∈ lw_all := lw_g (lw_at lw_m9 31 rfl) rfl
theorem q2850 : (Jvm.Cond.instanceMethod ({ cls := "FloatingDock$Ship", name := "isAhead", desc := "(LFloatingDock$Ship;)Z" } : Jvm.MethodName)) ∈ lw_all := lw_g (lw_at lw_m12 116 rfl) rfl
theorem q2851 : (Jvm.Cond.selects "FloatingDock$Ship" ({ cls := "FloatingDock$Ship", name := "isAhead", desc := "(LFloatingDock$Ship;)Z" } : Jvm.MethodName) ({ cls := "FloatingDock$Ship", name := "isAhead", desc := "(LFloatingDock$Ship;)Z" } : Jvm.MethodName)) ∈ lw_all := lw_g (lw_at lw_m12 117 rfl) rfl
theorem q2852 : (Jvm.Cond.code ({ cls := "FloatingDock$Ship", name := "isAhead", desc := "(LFloatingDock$Ship;)Z" } : Jvm.MethodName) prog_10_method_8_code (2 : Nat) (Option.some Jvm.ClassFile.FieldType.boolean)) ∈ lw_all := lw_g (lw_at lw_m12 118 rfl) rfl
theorem q3143 : (Jvm.Cond.instanceMethod ({ cls := "FloatingDock$Ship", name := "describeBill", desc := "(I)Ljava/lang/String;" } : Jvm.MethodName)) ∈ lw_all := lw_g (lw_at lw_m13 169 rfl) rfl
theorem q3144 : (Jvm.Cond.selects "FloatingDock$Ship" ({ cls := "FloatingDock$Ship", name := "describeBill", desc := "(I)Ljava/lang/String;" } : Jvm.MethodName) ({ cls := "FloatingDock$Ship", name := "describeBill", desc := "(I)Ljava/lang/String;" } : Jvm.MethodName)) ∈ lw_all := lw_g (lw_at lw_m13 170 rfl) rfl
theorem q3145 : (Jvm.Cond.code ({ cls := "FloatingDock$Ship", name := "describeBill", desc := "(I)Ljava/lang/String;" } : Jvm.MethodName) prog_10_method_9_code (3 : Nat) (Option.some (Jvm.ClassFile.FieldType.object "java/lang/String"))) ∈ lw_all := lw_g (lw_at lw_m13 171 rfl) rfl
theorem q3146 : (Jvm.Cond.classLink "FloatingDock$Ship" (60 : Nat) "java/lang/StringBuilder") ∈ lw_all := lw_g (lw_at lw_m13 172 rfl) rfl
theorem q3147 : (Jvm.Cond.methodLink "FloatingDock$Ship" (62 : Nat) ({ cls := "java/lang/StringBuilder", name := "<init>", desc := "()V" } : Jvm.MethodName)) ∈ lw_all := lw_g (lw_at lw_m13 173 rfl) rfl
theorem q3148 : (Jvm.Cond.methodLink "FloatingDock$Ship" (63 : Nat) ({ cls := "java/lang/StringBuilder", name := "append", desc := "(C)Ljava/lang/StringBuilder;" } : Jvm.MethodName)) ∈ lw_all := lw_g (lw_at lw_m13 174 rfl) rfl
theorem q3149 : (Jvm.Cond.methodLink "FloatingDock$Ship" (67 : Nat) ({ cls := "java/lang/StringBuilder", name := "append", desc := "(I)Ljava/lang/StringBuilder;" } : Jvm.MethodName)) ∈ lw_all := lw_g (lw_at lw_m13 175 rfl) rfl
theorem q3150 : (Jvm.Cond.stringRef "FloatingDock$Ship" (70 : Nat) "!") ∈ lw_tbl := lw_at lw_m13 176 rfl
theorem q3151 : (Jvm.Cond.methodLink "FloatingDock$Ship" (72 : Nat) ({ cls := "java/lang/StringBuilder", name := "append", desc := "(Ljava/lang/String;)Ljava/lang/StringBuilder;" } : Jvm.MethodName)) ∈ lw_all := lw_g (lw_at lw_m13 177 rfl) rfl
theorem q3152 : (Jvm.Cond.methodLink "FloatingDock$Ship" (75 : Nat) ({ cls := "java/lang/StringBuilder", name := "toString", desc := "()Ljava/lang/String;" } : Jvm.MethodName)) ∈ lw_all := lw_g (lw_at lw_m13 178 rfl) rfl
theorem q3153 : (Jvm.Cond.stringRef "FloatingDock$Ship" (79 : Nat) "") ∈ lw_tbl := lw_at lw_m13 179 rfl
theorem q3154 : (Jvm.Cond.methodLink "FloatingDock$Ship" (81 : Nat) ({ cls := "FloatingDock$Ship", name := "rests", desc := "(I)Z" } : Jvm.MethodName)) ∈ lw_all := lw_g (lw_at lw_m13 180 rfl) rfl
theorem q3822 : (Jvm.Cond.castable "FloatingDock$Ship" "java/lang/Object") ∈ lw_tbl := lw_at lw_m16 128 rfl
theorem in_X6 : ∀ w ∈ wsX60, w ∈ lw_all := lw_in wsX60 [2027, 2029, 2031, 2033, 2035, 2037, 2039, 2041, 2043] (by decide +kernel) (by decide +kernel)

/-! FloatingDock$Refusal -/
def RX7 : String := "FloatingDock$Refusal"
def TX7 : u_T := fun k => match k with
  | 0 => ("java/lang/Throwable", "cause", "Ljava/lang/Throwable;", false)
  | 1 => ("java/lang/Throwable", "stackTrace", "[Ljava/lang/StackTraceElement;", false)
  | 2 => ("java/lang/Throwable", "suppressedExceptions", "Ljava/util/List;", false)
  | 3 => ("java/lang/Throwable", "detailMessage", "Ljava/lang/String;", false)
  | 4 => ("java/lang/Throwable", "backtrace", "Ljava/lang/Object;", false)
  | 5 => ("java/lang/Throwable", "depth", "I", false)
  | _ => ("FloatingDock$Refusal", "reason", "I", true)
def tyX7 : Nat → FieldType := fun k => match k with
  | 0 => .object "java/lang/Throwable"
  | 1 => .array (.object "java/lang/StackTraceElement")
  | 2 => .object "java/util/List"
  | 3 => .object "java/lang/String"
  | 4 => .object "java/lang/Object"
  | 5 => .int
  | _ => .int
abbrev wsX70 : List Cond := u_ws RX7 TX7 7
theorem nmX7 : ∀ a, a < 7 → ∀ b, b < 7 → a ≠ b → (TX7 a).2.1 ≠ (TX7 b).2.1 := by decide +kernel
theorem tyX7_ok : ∀ k, k < 7 → parseFieldDescriptor (TX7 k).2.2.1 = some (tyX7 k) := by decide +kernel
abbrev cX7_init : ByteArray := prog_9_method_1_code
def yX7_init : MethodName := ⟨RX7, "<init>", "(I)V"⟩
theorem q149 : (Jvm.Cond.initialized "FloatingDock$Refusal") ∈ lw_all := lw_g (lw_at lw_m1 55 rfl) rfl
theorem q740 : (Jvm.Cond.selects "FloatingDock$Refusal" ({ cls := "java/lang/Throwable", name := "fillInStackTrace", desc := "()Ljava/lang/Throwable;" } : Jvm.MethodName) ({ cls := "java/lang/Throwable", name := "fillInStackTrace", desc := "()Ljava/lang/Throwable;" } : Jvm.MethodName)) ∈ lw_all := lw_g (lw_at lw_m3 166 rfl) rfl
theorem q1240 : (Jvm.Cond.selects "FloatingDock$Refusal" ({ cls := "java/lang/Object", name := "getClass", desc := "()Ljava/lang/Class;" } : Jvm.MethodName) ({ cls := "java/lang/Object", name := "getClass", desc := "()Ljava/lang/Class;" } : Jvm.MethodName)) ∈ lw_all := lw_g (lw_at lw_m5 186 rfl) rfl
theorem q1565 : (Jvm.Cond.selects "FloatingDock$Refusal" ({ cls := "java/lang/Object", name := "hashCode", desc := "()I" } : Jvm.MethodName) ({ cls := "java/lang/Object", name := "hashCode", desc := "()I" } : Jvm.MethodName)) ∈ lw_all := lw_g (lw_at lw_m7 31 rfl) rfl
theorem q1661 : (Jvm.Cond.selects "FloatingDock$Refusal" ({ cls := "java/lang/Object", name := "equals", desc := "(Ljava/lang/Object;)Z" } : Jvm.MethodName) ({ cls := "java/lang/Object", name := "equals", desc := "(Ljava/lang/Object;)Z" } : Jvm.MethodName)) ∈ lw_all := lw_g (lw_at lw_m7 127 rfl) rfl
theorem q2452 : (Jvm.Cond.instantiable "FloatingDock$Refusal" (7 : Nat)) ∈ lw_all := lw_g (lw_at lw_m10 198 rfl) rfl
theorem q2453 : (Jvm.Cond.castable "FloatingDock$Refusal" "FloatingDock$Refusal") ∈ lw_tbl := lw_at lw_m10 199 rfl
theorem q2454 : (Jvm.Cond.selects "FloatingDock$Refusal" ({ cls := "java/lang/Throwable", name := "fillInStackTrace", desc := "(I)Ljava/lang/Throwable;" } : Jvm.MethodName) ({ cls := "java/lang/Throwable", name := "fillInStackTrace", desc := "(I)Ljava/lang/Throwable;" } : Jvm.MethodName)) ∈ lw_all := lw_g (lw_at lw_m10 200 rfl) rfl
theorem q2455 : (Jvm.Cond.lays "FloatingDock$Refusal" "java/lang/Throwable" "cause" "Ljava/lang/Throwable;") ∈ lw_all := lw_g (lw_at lw_m10 201 rfl) rfl
theorem q2456 : (Jvm.Cond.lays "FloatingDock$Refusal" "java/lang/Throwable" "stackTrace" "[Ljava/lang/StackTraceElement;") ∈ lw_all := lw_g (lw_at lw_m10 202 rfl) rfl
theorem q2457 : (Jvm.Cond.lays "FloatingDock$Refusal" "java/lang/Throwable" "suppressedExceptions" "Ljava/util/List;") ∈ lw_all := lw_g (lw_at lw_m10 203 rfl) rfl
theorem q2458 : (Jvm.Cond.lays "FloatingDock$Refusal" "java/lang/Throwable" "detailMessage" "Ljava/lang/String;") ∈ lw_all := lw_g (lw_at lw_m10 204 rfl) rfl
theorem q2459 : (Jvm.Cond.lays "FloatingDock$Refusal" "java/lang/Throwable" "backtrace" "Ljava/lang/Object;") ∈ lw_all := lw_g (lw_at lw_m10 205 rfl) rfl
theorem q2461 : (Jvm.Cond.instanceMethod ({ cls := "FloatingDock$Refusal", name := "<init>", desc := "(I)V" } : Jvm.MethodName)) ∈ lw_all := lw_g (lw_at lw_m10 207 rfl) rfl
theorem q2462 : (Jvm.Cond.code ({ cls := "FloatingDock$Refusal", name := "<init>", desc := "(I)V" } : Jvm.MethodName) prog_9_method_1_code (2 : Nat) (Option.none : Option Jvm.ClassFile.FieldType)) ∈ lw_all := lw_g (lw_at lw_m10 208 rfl) rfl
theorem q2463 : (Jvm.Cond.methodLink "FloatingDock$Refusal" (1 : Nat) ({ cls := "java/lang/Exception", name := "<init>", desc := "(Ljava/lang/String;Ljava/lang/Throwable;ZZ)V" } : Jvm.MethodName)) ∈ lw_all := lw_g (lw_at lw_m10 209 rfl) rfl
theorem q2469 : (Jvm.Cond.fieldLink "FloatingDock$Refusal" (7 : Nat) "FloatingDock$Refusal" "reason" "I") ∈ lw_all := lw_g (lw_at lw_m10 215 rfl) rfl
theorem q2471 : (Jvm.Cond.laysFinal "FloatingDock$Refusal" "FloatingDock$Refusal" "reason" "I") ∈ lw_all := lw_g (lw_at lw_m10 217 rfl) rfl
theorem q2472 : (Jvm.Cond.soleField "FloatingDock$Refusal" "reason") ∈ lw_all := lw_g (lw_at lw_m10 218 rfl) rfl
theorem q2473 : (Jvm.Cond.lays "FloatingDock$Refusal" "java/lang/Throwable" "depth" "I") ∈ lw_all := lw_g (lw_at lw_m10 219 rfl) rfl
theorem q2474 : (Jvm.Cond.superclass "FloatingDock$Refusal" "java/lang/Exception") ∈ lw_all := lw_g (lw_at lw_m10 220 rfl) rfl
theorem q3828 : (Jvm.Cond.castable "FloatingDock$Refusal" "java/lang/Object") ∈ lw_tbl := lw_at lw_m16 134 rfl
theorem in_X7 : ∀ w ∈ wsX70, w ∈ lw_all := lw_in wsX70 [2455, 2456, 2457, 2458, 2459, 2473, 2471] (by decide +kernel) (by decide +kernel)

/-! FloatingDock$Metre -/
def RX8 : String := "FloatingDock$Metre"
def TX8 : u_T := fun k => match k with
  | _ => ("FloatingDock$Metre", "position", "I", true)
def tyX8 : Nat → FieldType := fun k => match k with
  | _ => .int
abbrev wsX80 : List Cond := u_ws RX8 TX8 1
theorem nmX8 : ∀ a, a < 1 → ∀ b, b < 1 → a ≠ b → (TX8 a).2.1 ≠ (TX8 b).2.1 := by decide +kernel
theorem tyX8_ok : ∀ k, k < 1 → parseFieldDescriptor (TX8 k).2.2.1 = some (tyX8 k) := by decide +kernel
abbrev cX8_init : ByteArray := prog_4_method_1_code
def yX8_init : MethodName := ⟨RX8, "<init>", "(I)V"⟩
abbrev cX8_hashCode : ByteArray := prog_4_method_3_code
def yX8_hashCode : MethodName := ⟨RX8, "hashCode", "()I"⟩
abbrev cX8_equals : ByteArray := prog_4_method_2_code
def yX8_equals : MethodName := ⟨RX8, "equals", "(Ljava/lang/Object;)Z"⟩
theorem q151 : (Jvm.Cond.initialized "FloatingDock$Metre") ∈ lw_all := lw_g (lw_at lw_m1 57 rfl) rfl
theorem q1237 : (Jvm.Cond.selects "FloatingDock$Metre" ({ cls := "java/lang/Object", name := "getClass", desc := "()Ljava/lang/Class;" } : Jvm.MethodName) ({ cls := "java/lang/Object", name := "getClass", desc := "()Ljava/lang/Class;" } : Jvm.MethodName)) ∈ lw_all := lw_g (lw_at lw_m5 183 rfl) rfl
theorem q1526 : (Jvm.Cond.instantiable "FloatingDock$Metre" (1 : Nat)) ∈ lw_all := lw_g (lw_at lw_m6 232 rfl) rfl
theorem q1528 : (Jvm.Cond.instanceMethod ({ cls := "FloatingDock$Metre", name := "<init>", desc := "(I)V" } : Jvm.MethodName)) ∈ lw_all := lw_g (lw_at lw_m6 234 rfl) rfl
theorem q1529 : (Jvm.Cond.code ({ cls := "FloatingDock$Metre", name := "<init>", desc := "(I)V" } : Jvm.MethodName) prog_4_method_1_code (2 : Nat) (Option.none : Option Jvm.ClassFile.FieldType)) ∈ lw_all := lw_g (lw_at lw_m6 235 rfl) rfl
theorem q1530 : (Jvm.Cond.methodLink "FloatingDock$Metre" (1 : Nat) ({ cls := "java/lang/Object", name := "<init>", desc := "()V" } : Jvm.MethodName)) ∈ lw_all := lw_g (lw_at lw_m6 236 rfl) rfl
theorem q1531 : (Jvm.Cond.fieldLink "FloatingDock$Metre" (7 : Nat) "FloatingDock$Metre" "position" "I") ∈ lw_all := lw_g (lw_at lw_m6 237 rfl) rfl
theorem q1533 : (Jvm.Cond.laysFinal "FloatingDock$Metre" "FloatingDock$Metre" "position" "I") ∈ lw_all := lw_g (lw_at lw_m6 239 rfl) rfl
theorem q1534 : (Jvm.Cond.soleField "FloatingDock$Metre" "position") ∈ lw_all := lw_g (lw_at lw_m7 0 rfl) rfl
theorem q1535 : (Jvm.Cond.superclass "FloatingDock$Metre" "java/lang/Object") ∈ lw_all := lw_g (lw_at lw_m7 1 rfl) rfl
theorem q1560 : (Jvm.Cond.selects "FloatingDock$Metre" ({ cls := "java/lang/Object", name := "hashCode", desc := "()I" } : Jvm.MethodName) ({ cls := "FloatingDock$Metre", name := "hashCode", desc := "()I" } : Jvm.MethodName)) ∈ lw_all := lw_g (lw_at lw_m7 26 rfl) rfl
theorem q1561 : (Jvm.Cond.instanceMethod ({ cls := "FloatingDock$Metre", name := "hashCode", desc := "()I" } : Jvm.MethodName)) ∈ lw_all := lw_g (lw_at lw_m7 27 rfl) rfl
theorem q1562 : (Jvm.Cond.code ({ cls := "FloatingDock$Metre", name := "hashCode", desc := "()I" } : Jvm.MethodName) prog_4_method_3_code (1 : Nat) (Option.some Jvm.ClassFile.FieldType.int)) ∈ lw_all := lw_g (lw_at lw_m7 28 rfl) rfl
theorem q1655 : (Jvm.Cond.selects "FloatingDock$Metre" ({ cls := "java/lang/Object", name := "equals", desc := "(Ljava/lang/Object;)Z" } : Jvm.MethodName) ({ cls := "FloatingDock$Metre", name := "equals", desc := "(Ljava/lang/Object;)Z" } : Jvm.MethodName)) ∈ lw_all := lw_g (lw_at lw_m7 121 rfl) rfl
theorem q1656 : (Jvm.Cond.instanceMethod ({ cls := "FloatingDock$Metre", name := "equals", desc := "(Ljava/lang/Object;)Z" } : Jvm.MethodName)) ∈ lw_all := lw_g (lw_at lw_m7 122 rfl) rfl
theorem q1657 : (Jvm.Cond.code ({ cls := "FloatingDock$Metre", name := "equals", desc := "(Ljava/lang/Object;)Z" } : Jvm.MethodName) prog_4_method_2_code (3 : Nat) (Option.some Jvm.ClassFile.FieldType.boolean)) ∈ lw_all := lw_g (lw_at lw_m7 123 rfl) rfl
theorem q1658 : (Jvm.Cond.classLink "FloatingDock$Metre" (8 : Nat) "FloatingDock$Metre") ∈ lw_all := lw_g (lw_at lw_m7 124 rfl) rfl
theorem q3830 : (Jvm.Cond.castable "FloatingDock$Metre" "java/lang/Object") ∈ lw_tbl := lw_at lw_m16 136 rfl
theorem in_X8 : ∀ w ∈ wsX80, w ∈ lw_all := lw_in wsX80 [1533] (by decide +kernel) (by decide +kernel)

/-! FloatingDock$Stretch$1 -/
def RX9 : String := "FloatingDock$Stretch$1"
def TX9 : u_T := fun k => match k with
  | 0 => ("FloatingDock$Stretch$1", "next", "I", false)
  | _ => ("FloatingDock$Stretch$1", "this$0", "LFloatingDock$Stretch;", true)
def tyX9 : Nat → FieldType := fun k => match k with
  | 0 => .int
  | _ => .object "FloatingDock$Stretch"
abbrev wsX90 : List Cond := u_ws RX9 TX9 2
theorem nmX9 : ∀ a, a < 2 → ∀ b, b < 2 → a ≠ b → (TX9 a).2.1 ≠ (TX9 b).2.1 := by decide +kernel
theorem tyX9_ok : ∀ k, k < 2 → parseFieldDescriptor (TX9 k).2.2.1 = some (tyX9 k) := by decide +kernel
abbrev cX9_hasNext : ByteArray := prog_12_method_2_code
def yX9_hasNext : MethodName := ⟨RX9, "hasNext", "()Z"⟩
abbrev cX9_next : ByteArray := prog_12_method_4_code
def yX9_next : MethodName := ⟨RX9, "next", "()Ljava/lang/Object;"⟩
abbrev cX9_next_2 : ByteArray := prog_12_method_3_code
def yX9_next_2 : MethodName := ⟨RX9, "next", "()Ljava/lang/Integer;"⟩
abbrev cX9_init : ByteArray := prog_12_method_1_code
def yX9_init : MethodName := ⟨RX9, "<init>", "(LFloatingDock$Stretch;)V"⟩
theorem q152 : (Jvm.Cond.initialized "FloatingDock$Stretch$1") ∈ lw_all := lw_g (lw_at lw_m1 58 rfl) rfl
theorem q632 : (Jvm.Cond.castable "FloatingDock$Stretch$1" "java/util/Iterator") ∈ lw_tbl := lw_at lw_m3 58 rfl
theorem q633 : (Jvm.Cond.selects "FloatingDock$Stretch$1" ({ cls := "java/util/Iterator", name := "hasNext", desc := "()Z" } : Jvm.MethodName) ({ cls := "FloatingDock$Stretch$1", name := "hasNext", desc := "()Z" } : Jvm.MethodName)) ∈ lw_all := lw_g (lw_at lw_m3 59 rfl) rfl
theorem q634 : (Jvm.Cond.unhidden "FloatingDock$Stretch$1" "hasNext" "()Z") ∈ lw_tbl := lw_at lw_m3 60 rfl
theorem q635 : (Jvm.Cond.instanceMethod ({ cls := "FloatingDock$Stretch$1", name := "hasNext", desc := "()Z" } : Jvm.MethodName)) ∈ lw_all := lw_g (lw_at lw_m3 61 rfl) rfl
theorem q636 : (Jvm.Cond.publicMethod ({ cls := "FloatingDock$Stretch$1", name := "hasNext", desc := "()Z" } : Jvm.MethodName)) ∈ lw_tbl := lw_at lw_m3 62 rfl
theorem q637 : (Jvm.Cond.code ({ cls := "FloatingDock$Stretch$1", name := "hasNext", desc := "()Z" } : Jvm.MethodName) prog_12_method_2_code (1 : Nat) (Option.some Jvm.ClassFile.FieldType.boolean)) ∈ lw_all := lw_g (lw_at lw_m3 63 rfl) rfl
theorem q638 : (Jvm.Cond.methodLink "FloatingDock$Stretch$1" (22 : Nat) ({ cls := "FloatingDock$Stretch", name := "end", desc := "()I" } : Jvm.MethodName)) ∈ lw_all := lw_g (lw_at lw_m3 64 rfl) rfl
theorem q673 : (Jvm.Cond.selects "FloatingDock$Stretch$1" ({ cls := "java/util/Iterator", name := "next", desc := "()Ljava/lang/Object;" } : Jvm.MethodName) ({ cls := "FloatingDock$Stretch$1", name := "next", desc := "()Ljava/lang/Object;" } : Jvm.MethodName)) ∈ lw_all := lw_g (lw_at lw_m3 99 rfl) rfl
theorem q674 : (Jvm.Cond.unhidden "FloatingDock$Stretch$1" "next" "()Ljava/lang/Object;") ∈ lw_tbl := lw_at lw_m3 100 rfl
theorem q675 : (Jvm.Cond.instanceMethod ({ cls := "FloatingDock$Stretch$1", name := "next", desc := "()Ljava/lang/Object;" } : Jvm.MethodName)) ∈ lw_all := lw_g (lw_at lw_m3 101 rfl) rfl
theorem q676 : (Jvm.Cond.publicMethod ({ cls := "FloatingDock$Stretch$1", name := "next", desc := "()Ljava/lang/Object;" } : Jvm.MethodName)) ∈ lw_tbl := lw_at lw_m3 102 rfl
theorem q677 : (Jvm.Cond.code ({ cls := "FloatingDock$Stretch$1", name := "next", desc := "()Ljava/lang/Object;" } : Jvm.MethodName) prog_12_method_4_code (1 : Nat) (Option.some (Jvm.ClassFile.FieldType.object "java/lang/Object"))) ∈ lw_all := lw_g (lw_at lw_m3 103 rfl) rfl
theorem q678 : (Jvm.Cond.methodLink "FloatingDock$Stretch$1" (32 : Nat) ({ cls := "FloatingDock$Stretch$1", name := "next", desc := "()Ljava/lang/Integer;" } : Jvm.MethodName)) ∈ lw_all := lw_g (lw_at lw_m3 104 rfl) rfl
theorem q679 : (Jvm.Cond.instanceMethod ({ cls := "FloatingDock$Stretch$1", name := "next", desc := "()Ljava/lang/Integer;" } : Jvm.MethodName)) ∈ lw_all := lw_g (lw_at lw_m3 105 rfl) rfl
theorem q680 : (Jvm.Cond.selects "FloatingDock$Stretch$1" ({ cls := "FloatingDock$Stretch$1", name := "next", desc := "()Ljava/lang/Integer;" } : Jvm.MethodName) ({ cls := "FloatingDock$Stretch$1", name := "next", desc := "()Ljava/lang/Integer;" } : Jvm.MethodName)) ∈ lw_all := lw_g (lw_at lw_m3 106 rfl) rfl
theorem q681 : (Jvm.Cond.code ({ cls := "FloatingDock$Stretch$1", name := "next", desc := "()Ljava/lang/Integer;" } : Jvm.MethodName) prog_12_method_3_code (1 : Nat) (Option.some (Jvm.ClassFile.FieldType.object "java/lang/Integer"))) ∈ lw_all := lw_g (lw_at lw_m3 107 rfl) rfl
theorem q682 : (Jvm.Cond.methodLink "FloatingDock$Stretch$1" (26 : Nat) ({ cls := "java/lang/Integer", name := "valueOf", desc := "(I)Ljava/lang/Integer;" } : Jvm.MethodName)) ∈ lw_all := lw_g (lw_at lw_m3 108 rfl) rfl
theorem q1243 : (Jvm.Cond.selects "FloatingDock$Stretch$1" ({ cls := "java/lang/Object", name := "getClass", desc := "()Ljava/lang/Class;" } : Jvm.MethodName) ({ cls := "java/lang/Object", name := "getClass", desc := "()Ljava/lang/Class;" } : Jvm.MethodName)) ∈ lw_all := lw_g (lw_at lw_m5 189 rfl) rfl
theorem q1294 : (Jvm.Cond.fieldLinkNest "FloatingDock$Stretch$1" (13 : Nat) "FloatingDock$Stretch" "first" "I" "FloatingDock") ∈ lw_tbl := lw_at lw_m6 0 rfl
theorem q1568 : (Jvm.Cond.selects "FloatingDock$Stretch$1" ({ cls := "java/lang/Object", name := "hashCode", desc := "()I" } : Jvm.MethodName) ({ cls := "java/lang/Object", name := "hashCode", desc := "()I" } : Jvm.MethodName)) ∈ lw_all := lw_g (lw_at lw_m7 34 rfl) rfl
theorem q1664 : (Jvm.Cond.selects "FloatingDock$Stretch$1" ({ cls := "java/lang/Object", name := "equals", desc := "(Ljava/lang/Object;)Z" } : Jvm.MethodName) ({ cls := "java/lang/Object", name := "equals", desc := "(Ljava/lang/Object;)Z" } : Jvm.MethodName)) ∈ lw_all := lw_g (lw_at lw_m7 130 rfl) rfl
theorem q1960 : (Jvm.Cond.instantiable "FloatingDock$Stretch$1" (2 : Nat)) ∈ lw_all := lw_g (lw_at lw_m8 186 rfl) rfl
theorem q1962 : (Jvm.Cond.instanceMethod ({ cls := "FloatingDock$Stretch$1", name := "<init>", desc := "(LFloatingDock$Stretch;)V" } : Jvm.MethodName)) ∈ lw_all := lw_g (lw_at lw_m8 188 rfl) rfl
theorem q1963 : (Jvm.Cond.code ({ cls := "FloatingDock$Stretch$1", name := "<init>", desc := "(LFloatingDock$Stretch;)V" } : Jvm.MethodName) prog_12_method_1_code (2 : Nat) (Option.none : Option Jvm.ClassFile.FieldType)) ∈ lw_all := lw_g (lw_at lw_m8 189 rfl) rfl
theorem q1964 : (Jvm.Cond.methodLink "FloatingDock$Stretch$1" (7 : Nat) ({ cls := "java/lang/Object", name := "<init>", desc := "()V" } : Jvm.MethodName)) ∈ lw_all := lw_g (lw_at lw_m8 190 rfl) rfl
theorem q1965 : (Jvm.Cond.fieldLink "FloatingDock$Stretch$1" (19 : Nat) "FloatingDock$Stretch$1" "next" "I") ∈ lw_all := lw_g (lw_at lw_m8 191 rfl) rfl
theorem q1966 : (Jvm.Cond.fieldLink "FloatingDock$Stretch$1" (1 : Nat) "FloatingDock$Stretch$1" "this$0" "LFloatingDock$Stretch;") ∈ lw_all := lw_g (lw_at lw_m8 192 rfl) rfl
theorem q1967 : (Jvm.Cond.lays "FloatingDock$Stretch$1" "FloatingDock$Stretch$1" "next" "I") ∈ lw_all := lw_g (lw_at lw_m8 193 rfl) rfl
theorem q1968 : (Jvm.Cond.soleField "FloatingDock$Stretch$1" "next") ∈ lw_all := lw_g (lw_at lw_m8 194 rfl) rfl
theorem q1969 : (Jvm.Cond.laysFinal "FloatingDock$Stretch$1" "FloatingDock$Stretch$1" "this$0" "LFloatingDock$Stretch;") ∈ lw_all := lw_g (lw_at lw_m8 195 rfl) rfl
theorem q1970 : (Jvm.Cond.soleField "FloatingDock$Stretch$1" "this$0") ∈ lw_all := lw_g (lw_at lw_m8 196 rfl) rfl
theorem q1971 : (Jvm.Cond.superclass "FloatingDock$Stretch$1" "java/lang/Object") ∈ lw_all := lw_g (lw_at lw_m8 197 rfl) rfl
theorem q3831 : (Jvm.Cond.castable "FloatingDock$Stretch$1" "java/lang/Object") ∈ lw_tbl := lw_at lw_m16 137 rfl
theorem in_X9 : ∀ w ∈ wsX90, w ∈ lw_all := lw_in wsX90 [1967, 1969] (by decide +kernel) (by decide +kernel)

/-! FloatingDock$Parser -/
def RX10 : String := "FloatingDock$Parser"
def TX10 : u_T := fun k => match k with
  | 0 => ("FloatingDock$Parser", "position", "I", false)
  | _ => ("FloatingDock$Parser", "this$0", "LFloatingDock;", true)
def tyX10 : Nat → FieldType := fun k => match k with
  | 0 => .int
  | _ => .object "FloatingDock"
abbrev wsX100 : List Cond := u_ws RX10 TX10 2
theorem nmX10 : ∀ a, a < 2 → ∀ b, b < 2 → a ≠ b → (TX10 a).2.1 ≠ (TX10 b).2.1 := by decide +kernel
theorem tyX10_ok : ∀ k, k < 2 → parseFieldDescriptor (TX10 k).2.2.1 = some (tyX10 k) := by decide +kernel
abbrev cX10_init : ByteArray := prog_7_method_1_code
def yX10_init : MethodName := ⟨RX10, "<init>", "(LFloatingDock;)V"⟩
abbrev cX10_program : ByteArray := prog_7_method_16_code
def yX10_program : MethodName := ⟨RX10, "program", "()LFloatingDock$Program;"⟩
abbrev cX10_operation : ByteArray := prog_7_method_15_code
def yX10_operation : MethodName := ⟨RX10, "operation", "()LFloatingDock$Operation;"⟩
abbrev cX10_keyword : ByteArray := prog_7_method_6_code
def yX10_keyword : MethodName := ⟨RX10, "keyword", "([Ljava/lang/String;)Ljava/lang/String;"⟩
abbrev cX10_commonPrefix : ByteArray := prog_7_method_5_code
def yX10_commonPrefix : MethodName := ⟨RX10, "commonPrefix", "(Ljava/lang/String;)I"⟩
abbrev cX10_shipOperation : ByteArray := prog_7_method_10_code
def yX10_shipOperation : MethodName := ⟨RX10, "shipOperation", "()LFloatingDock$Operation;"⟩
abbrev cX10_number : ByteArray := prog_7_method_7_code
def yX10_number : MethodName := ⟨RX10, "number", "()I"⟩
abbrev cX10_current : ByteArray := prog_7_method_2_code
def yX10_current : MethodName := ⟨RX10, "current", "()I"⟩
abbrev cX10_require : ByteArray := prog_7_method_3_code
def yX10_require : MethodName := ⟨RX10, "require", "(Z)V"⟩
abbrev cX10_behind : ByteArray := prog_7_method_8_code
def yX10_behind : MethodName := ⟨RX10, "behind", "(C)I"⟩
abbrev cX10_accept : ByteArray := prog_7_method_4_code
def yX10_accept : MethodName := ⟨RX10, "accept", "(I)Z"⟩
abbrev cX10_lambda_shipOperation_0 : ByteArray := prog_7_method_28_code
def yX10_lambda_shipOperation_0 : MethodName := ⟨RX10, "lambda$shipOperation$0", "(IIILFloatingDock$Yard;)I"⟩
abbrev cX10_enterOperation : ByteArray := prog_7_method_11_code
def yX10_enterOperation : MethodName := ⟨RX10, "enterOperation", "()LFloatingDock$Operation;"⟩
abbrev cX10_lambda_enterOperation_1 : ByteArray := prog_7_method_27_code
def yX10_lambda_enterOperation_1 : MethodName := ⟨RX10, "lambda$enterOperation$1", "(IILFloatingDock$Yard;)I"⟩
abbrev cX10_payOperation : ByteArray := prog_7_method_12_code
def yX10_payOperation : MethodName := ⟨RX10, "payOperation", "()LFloatingDock$Operation;"⟩
abbrev cX10_lambda_payOperation_2 : ByteArray := prog_7_method_26_code
def yX10_lambda_payOperation_2 : MethodName := ⟨RX10, "lambda$payOperation$2", "(IILFloatingDock$Yard;)I"⟩
abbrev cX10_pumpOperation : ByteArray := prog_7_method_13_code
def yX10_pumpOperation : MethodName := ⟨RX10, "pumpOperation", "()LFloatingDock$Operation;"⟩
abbrev cX10_signed : ByteArray := prog_7_method_9_code
def yX10_signed : MethodName := ⟨RX10, "signed", "()I"⟩
abbrev cX10_lambda_pumpOperation_3 : ByteArray := prog_7_method_25_code
def yX10_lambda_pumpOperation_3 : MethodName := ⟨RX10, "lambda$pumpOperation$3", "(ILFloatingDock$Yard;)I"⟩
abbrev cX10_lambda_operation_10 : ByteArray := prog_7_method_18_code
def yX10_lambda_operation_10 : MethodName := ⟨RX10, "lambda$operation$10", "(LFloatingDock$Yard;)I"⟩
abbrev cX10_lambda_operation_11 : ByteArray := prog_7_method_17_code
def yX10_lambda_operation_11 : MethodName := ⟨RX10, "lambda$operation$11", "(LFloatingDock$Yard;)I"⟩
abbrev cX10_numberOperation : ByteArray := prog_7_method_14_code
def yX10_numberOperation : MethodName := ⟨RX10, "numberOperation", "(Ljava/lang/String;)LFloatingDock$Operation;"⟩
abbrev cX10_lambda_numberOperation_4 : ByteArray := prog_7_method_24_code
def yX10_lambda_numberOperation_4 : MethodName := ⟨RX10, "lambda$numberOperation$4", "(ILFloatingDock$Yard;)I"⟩
abbrev cX10_lambda_numberOperation_5 : ByteArray := prog_7_method_23_code
def yX10_lambda_numberOperation_5 : MethodName := ⟨RX10, "lambda$numberOperation$5", "(ILFloatingDock$Yard;)I"⟩
abbrev cX10_lambda_numberOperation_6 : ByteArray := prog_7_method_22_code
def yX10_lambda_numberOperation_6 : MethodName := ⟨RX10, "lambda$numberOperation$6", "(ILFloatingDock$Yard;)I"⟩
abbrev cX10_lambda_numberOperation_7 : ByteArray := prog_7_method_21_code
def yX10_lambda_numberOperation_7 : MethodName := ⟨RX10, "lambda$numberOperation$7", "(ILFloatingDock$Yard;)I"⟩
abbrev cX10_lambda_numberOperation_8 : ByteArray := prog_7_method_20_code
def yX10_lambda_numberOperation_8 : MethodName := ⟨RX10, "lambda$numberOperation$8", "(ILFloatingDock$Yard;)I"⟩
abbrev cX10_lambda_numberOperation_9 : ByteArray := prog_7_method_19_code
def yX10_lambda_numberOperation_9 : MethodName := ⟨RX10, "lambda$numberOperation$9", "(ILFloatingDock$Yard;)I"⟩
theorem q153 : (Jvm.Cond.initialized "FloatingDock$Parser") ∈ lw_all := lw_g (lw_at lw_m1 59 rfl) rfl
theorem q1238 : (Jvm.Cond.selects "FloatingDock$Parser" ({ cls := "java/lang/Object", name := "getClass", desc := "()Ljava/lang/Class;" } : Jvm.MethodName) ({ cls := "java/lang/Object", name := "getClass", desc := "()Ljava/lang/Class;" } : Jvm.MethodName)) ∈ lw_all := lw_g (lw_at lw_m5 184 rfl) rfl
theorem q1382 : (Jvm.Cond.fieldLinkNest "FloatingDock$Parser" (174 : Nat) "FloatingDock" "charges" "[LFloatingDock$Charge;" "FloatingDock") ∈ lw_tbl := lw_at lw_m6 88 rfl
theorem q1389 : (Jvm.Cond.fieldLinkNest "FloatingDock$Parser" (17 : Nat) "FloatingDock" "text" "Ljava/lang/StringBuilder;" "FloatingDock") ∈ lw_tbl := lw_at lw_m6 95 rfl
theorem q1563 : (Jvm.Cond.selects "FloatingDock$Parser" ({ cls := "java/lang/Object", name := "hashCode", desc := "()I" } : Jvm.MethodName) ({ cls := "java/lang/Object", name := "hashCode", desc := "()I" } : Jvm.MethodName)) ∈ lw_all := lw_g (lw_at lw_m7 29 rfl) rfl
theorem q1659 : (Jvm.Cond.selects "FloatingDock$Parser" ({ cls := "java/lang/Object", name := "equals", desc := "(Ljava/lang/Object;)Z" } : Jvm.MethodName) ({ cls := "java/lang/Object", name := "equals", desc := "(Ljava/lang/Object;)Z" } : Jvm.MethodName)) ∈ lw_all := lw_g (lw_at lw_m7 125 rfl) rfl
theorem q2874 : (Jvm.Cond.instantiable "FloatingDock$Parser" (2 : Nat)) ∈ lw_all := lw_g (lw_at lw_m12 140 rfl) rfl
theorem q2876 : (Jvm.Cond.instanceMethod ({ cls := "FloatingDock$Parser", name := "<init>", desc := "(LFloatingDock;)V" } : Jvm.MethodName)) ∈ lw_all := lw_g (lw_at lw_m12 142 rfl) rfl
theorem q2877 : (Jvm.Cond.code ({ cls := "FloatingDock$Parser", name := "<init>", desc := "(LFloatingDock;)V" } : Jvm.MethodName) prog_7_method_1_code (2 : Nat) (Option.none : Option Jvm.ClassFile.FieldType)) ∈ lw_all := lw_g (lw_at lw_m12 143 rfl) rfl
theorem q2878 : (Jvm.Cond.methodLink "FloatingDock$Parser" (7 : Nat) ({ cls := "java/lang/Object", name := "<init>", desc := "()V" } : Jvm.MethodName)) ∈ lw_all := lw_g (lw_at lw_m12 144 rfl) rfl
theorem q2879 : (Jvm.Cond.fieldLink "FloatingDock$Parser" (13 : Nat) "FloatingDock$Parser" "position" "I") ∈ lw_all := lw_g (lw_at lw_m12 145 rfl) rfl
theorem q2880 : (Jvm.Cond.fieldLink "FloatingDock$Parser" (1 : Nat) "FloatingDock$Parser" "this$0" "LFloatingDock;") ∈ lw_all := lw_g (lw_at lw_m12 146 rfl) rfl
theorem q2881 : (Jvm.Cond.lays "FloatingDock$Parser" "FloatingDock$Parser" "position" "I") ∈ lw_all := lw_g (lw_at lw_m12 147 rfl) rfl
theorem q2882 : (Jvm.Cond.soleField "FloatingDock$Parser" "position") ∈ lw_all := lw_g (lw_at lw_m12 148 rfl) rfl
theorem q2883 : (Jvm.Cond.laysFinal "FloatingDock$Parser" "FloatingDock$Parser" "this$0" "LFloatingDock;") ∈ lw_all := lw_g (lw_at lw_m12 149 rfl) rfl
theorem q2884 : (Jvm.Cond.soleField "FloatingDock$Parser" "this$0") ∈ lw_all := lw_g (lw_at lw_m12 150 rfl) rfl
theorem q2885 : (Jvm.Cond.superclass "FloatingDock$Parser" "java/lang/Object") ∈ lw_all := lw_g (lw_at lw_m12 151 rfl) rfl
theorem q2887 : (Jvm.Cond.instanceMethod ({ cls := "FloatingDock$Parser", name := "program", desc := "()LFloatingDock$Program;" } : Jvm.MethodName)) ∈ lw_all := lw_g (lw_at lw_m12 153 rfl) rfl
theorem q2888 : (Jvm.Cond.selects "FloatingDock$Parser" ({ cls := "FloatingDock$Parser", name := "program", desc := "()LFloatingDock$Program;" } : Jvm.MethodName) ({ cls := "FloatingDock$Parser", name := "program", desc := "()LFloatingDock$Program;" } : Jvm.MethodName)) ∈ lw_all := lw_g (lw_at lw_m12 154 rfl) rfl
theorem q2889 : (Jvm.Cond.code ({ cls := "FloatingDock$Parser", name := "program", desc := "()LFloatingDock$Program;" } : Jvm.MethodName) prog_7_method_16_code (2 : Nat) (Option.some (Jvm.ClassFile.FieldType.object "FloatingDock$Program"))) ∈ lw_all := lw_g (lw_at lw_m12 155 rfl) rfl
theorem q2890 : (Jvm.Cond.classLink "FloatingDock$Parser" (151 : Nat) "FloatingDock$Program") ∈ lw_all := lw_g (lw_at lw_m12 156 rfl) rfl
theorem q2892 : (Jvm.Cond.methodLinkNest "FloatingDock$Parser" (153 : Nat) ({ cls := "FloatingDock$Program", name := "<init>", desc := "()V" } : Jvm.MethodName) "FloatingDock") ∈ lw_tbl := lw_at lw_m12 158 rfl
theorem q2906 : (Jvm.Cond.methodLink "FloatingDock$Parser" (154 : Nat) ({ cls := "FloatingDock$Parser", name := "operation", desc := "()LFloatingDock$Operation;" } : Jvm.MethodName)) ∈ lw_all := lw_g (lw_at lw_m12 172 rfl) rfl
theorem q2907 : (Jvm.Cond.privateMethod ({ cls := "FloatingDock$Parser", name := "operation", desc := "()LFloatingDock$Operation;" } : Jvm.MethodName)) ∈ lw_tbl := lw_at lw_m12 173 rfl
theorem q2908 : (Jvm.Cond.instanceMethod ({ cls := "FloatingDock$Parser", name := "operation", desc := "()LFloatingDock$Operation;" } : Jvm.MethodName)) ∈ lw_all := lw_g (lw_at lw_m12 174 rfl) rfl
theorem q2909 : (Jvm.Cond.code ({ cls := "FloatingDock$Parser", name := "operation", desc := "()LFloatingDock$Operation;" } : Jvm.MethodName) prog_7_method_15_code (4 : Nat) (Option.some (Jvm.ClassFile.FieldType.object "FloatingDock$Operation"))) ∈ lw_all := lw_g (lw_at lw_m12 175 rfl) rfl
theorem q2910 : (Jvm.Cond.classLink "FloatingDock$Parser" (42 : Nat) "java/lang/String") ∈ lw_all := lw_g (lw_at lw_m12 176 rfl) rfl
theorem q2912 : (Jvm.Cond.stringRef "FloatingDock$Parser" (113 : Nat) "ship ") ∈ lw_tbl := lw_at lw_m12 178 rfl
theorem q2913 : (Jvm.Cond.stringRef "FloatingDock$Parser" (115 : Nat) "enter ") ∈ lw_tbl := lw_at lw_m12 179 rfl
theorem q2914 : (Jvm.Cond.stringRef "FloatingDock$Parser" (91 : Nat) "leave ") ∈ lw_tbl := lw_at lw_m12 180 rfl
theorem q2915 : (Jvm.Cond.stringRef "FloatingDock$Parser" (97 : Nat) "clean ") ∈ lw_tbl := lw_at lw_m12 181 rfl
theorem q2916 : (Jvm.Cond.stringRef "FloatingDock$Parser" (99 : Nat) "stop ") ∈ lw_tbl := lw_at lw_m12 182 rfl
theorem q2917 : (Jvm.Cond.stringRef "FloatingDock$Parser" (117 : Nat) "open") ∈ lw_tbl := lw_at lw_m12 183 rfl
theorem q2918 : (Jvm.Cond.stringRef "FloatingDock$Parser" (119 : Nat) "close") ∈ lw_tbl := lw_at lw_m12 184 rfl
theorem q2919 : (Jvm.Cond.stringRef "FloatingDock$Parser" (121 : Nat) "pump ") ∈ lw_tbl := lw_at lw_m12 185 rfl
theorem q2920 : (Jvm.Cond.stringRef "FloatingDock$Parser" (101 : Nat) "pass ") ∈ lw_tbl := lw_at lw_m12 186 rfl
theorem q2921 : (Jvm.Cond.stringRef "FloatingDock$Parser" (103 : Nat) "block ") ∈ lw_tbl := lw_at lw_m12 187 rfl
theorem q2922 : (Jvm.Cond.stringRef "FloatingDock$Parser" (123 : Nat) "unblock ") ∈ lw_tbl := lw_at lw_m12 188 rfl
theorem q2923 : (Jvm.Cond.stringRef "FloatingDock$Parser" (125 : Nat) "pay ") ∈ lw_tbl := lw_at lw_m12 189 rfl
theorem q2924 : (Jvm.Cond.methodLink "FloatingDock$Parser" (127 : Nat) ({ cls := "FloatingDock$Parser", name := "keyword", desc := "([Ljava/lang/String;)Ljava/lang/String;" } : Jvm.MethodName)) ∈ lw_all := lw_g (lw_at lw_m12 190 rfl) rfl
theorem q2925 : (Jvm.Cond.privateMethod ({ cls := "FloatingDock$Parser", name := "keyword", desc := "([Ljava/lang/String;)Ljava/lang/String;" } : Jvm.MethodName)) ∈ lw_tbl := lw_at lw_m12 191 rfl
theorem q2926 : (Jvm.Cond.instanceMethod ({ cls := "FloatingDock$Parser", name := "keyword", desc := "([Ljava/lang/String;)Ljava/lang/String;" } : Jvm.MethodName)) ∈ lw_all := lw_g (lw_at lw_m12 192 rfl) rfl
theorem q2927 : (Jvm.Cond.code ({ cls := "FloatingDock$Parser", name := "keyword", desc := "([Ljava/lang/String;)Ljava/lang/String;" } : Jvm.MethodName) prog_7_method_6_code (8 : Nat) (Option.some (Jvm.ClassFile.FieldType.object "java/lang/String"))) ∈ lw_all := lw_g (lw_at lw_m12 193 rfl) rfl
theorem q2928 : (Jvm.Cond.methodLink "FloatingDock$Parser" (45 : Nat) ({ cls := "FloatingDock$Parser", name := "commonPrefix", desc := "(Ljava/lang/String;)I" } : Jvm.MethodName)) ∈ lw_all := lw_g (lw_at lw_m12 194 rfl) rfl
theorem q2929 : (Jvm.Cond.privateMethod ({ cls := "FloatingDock$Parser", name := "commonPrefix", desc := "(Ljava/lang/String;)I" } : Jvm.MethodName)) ∈ lw_tbl := lw_at lw_m12 195 rfl
theorem q2930 : (Jvm.Cond.instanceMethod ({ cls := "FloatingDock$Parser", name := "commonPrefix", desc := "(Ljava/lang/String;)I" } : Jvm.MethodName)) ∈ lw_all := lw_g (lw_at lw_m12 196 rfl) rfl
theorem q2931 : (Jvm.Cond.code ({ cls := "FloatingDock$Parser", name := "commonPrefix", desc := "(Ljava/lang/String;)I" } : Jvm.MethodName) prog_7_method_5_code (3 : Nat) (Option.some Jvm.ClassFile.FieldType.int)) ∈ lw_all := lw_g (lw_at lw_m12 197 rfl) rfl
theorem q2932 : (Jvm.Cond.methodLink "FloatingDock$Parser" (41 : Nat) ({ cls := "java/lang/String", name := "length", desc := "()I" } : Jvm.MethodName)) ∈ lw_all := lw_g (lw_at lw_m12 198 rfl) rfl
theorem q2933 : (Jvm.Cond.methodLink "FloatingDock$Parser" (23 : Nat) ({ cls := "java/lang/StringBuilder", name := "length", desc := "()I" } : Jvm.MethodName)) ∈ lw_all := lw_g (lw_at lw_m12 199 rfl) rfl
theorem q2934 : (Jvm.Cond.methodLink "FloatingDock$Parser" (29 : Nat) ({ cls := "java/lang/StringBuilder", name := "charAt", desc := "(I)C" } : Jvm.MethodName)) ∈ lw_all := lw_g (lw_at lw_m12 200 rfl) rfl
theorem q2944 : (Jvm.Cond.methodLink "FloatingDock$Parser" (44 : Nat) ({ cls := "java/lang/String", name := "charAt", desc := "(I)C" } : Jvm.MethodName)) ∈ lw_all := lw_g (lw_at lw_m12 210 rfl) rfl
theorem q2955 : (Jvm.Cond.methodLink "FloatingDock$Parser" (49 : Nat) ({ cls := "java/lang/Math", name := "max", desc := "(II)I" } : Jvm.MethodName)) ∈ lw_all := lw_g (lw_at lw_m12 221 rfl) rfl
theorem q2956 : (Jvm.Cond.classLink "FloatingDock$Parser" (33 : Nat) "FloatingDock$SyntaxError") ∈ lw_all := lw_g (lw_at lw_m12 222 rfl) rfl
theorem q2965 : (Jvm.Cond.methodLink "FloatingDock$Parser" (35 : Nat) ({ cls := "FloatingDock$SyntaxError", name := "<init>", desc := "(I)V" } : Jvm.MethodName)) ∈ lw_all := lw_g (lw_at lw_m12 231 rfl) rfl
theorem q2975 : (Jvm.Cond.methodLink "FloatingDock$Parser" (88 : Nat) ({ cls := "java/lang/String", name := "hashCode", desc := "()I" } : Jvm.MethodName)) ∈ lw_all := lw_g (lw_at lw_m13 1 rfl) rfl
theorem q2976 : (Jvm.Cond.methodLink "FloatingDock$Parser" (93 : Nat) ({ cls := "java/lang/String", name := "equals", desc := "(Ljava/lang/Object;)Z" } : Jvm.MethodName)) ∈ lw_all := lw_g (lw_at lw_m13 2 rfl) rfl
theorem q2977 : (Jvm.Cond.methodLink "FloatingDock$Parser" (131 : Nat) ({ cls := "FloatingDock$Parser", name := "shipOperation", desc := "()LFloatingDock$Operation;" } : Jvm.MethodName)) ∈ lw_all := lw_g (lw_at lw_m13 3 rfl) rfl
theorem q2978 : (Jvm.Cond.privateMethod ({ cls := "FloatingDock$Parser", name := "shipOperation", desc := "()LFloatingDock$Operation;" } : Jvm.MethodName)) ∈ lw_tbl := lw_at lw_m13 4 rfl
theorem q2979 : (Jvm.Cond.instanceMethod ({ cls := "FloatingDock$Parser", name := "shipOperation", desc := "()LFloatingDock$Operation;" } : Jvm.MethodName)) ∈ lw_all := lw_g (lw_at lw_m13 5 rfl) rfl
theorem q2980 : (Jvm.Cond.code ({ cls := "FloatingDock$Parser", name := "shipOperation", desc := "()LFloatingDock$Operation;" } : Jvm.MethodName) prog_7_method_10_code (4 : Nat) (Option.some (Jvm.ClassFile.FieldType.object "FloatingDock$Operation"))) ∈ lw_all := lw_g (lw_at lw_m13 6 rfl) rfl
theorem q2981 : (Jvm.Cond.methodLink "FloatingDock$Parser" (67 : Nat) ({ cls := "FloatingDock$Parser", name := "number", desc := "()I" } : Jvm.MethodName)) ∈ lw_all := lw_g (lw_at lw_m13 7 rfl) rfl
theorem q2982 : (Jvm.Cond.privateMethod ({ cls := "FloatingDock$Parser", name := "number", desc := "()I" } : Jvm.MethodName)) ∈ lw_tbl := lw_at lw_m13 8 rfl
theorem q2983 : (Jvm.Cond.instanceMethod ({ cls := "FloatingDock$Parser", name := "number", desc := "()I" } : Jvm.MethodName)) ∈ lw_all := lw_g (lw_at lw_m13 9 rfl) rfl
theorem q2984 : (Jvm.Cond.code ({ cls := "FloatingDock$Parser", name := "number", desc := "()I" } : Jvm.MethodName) prog_7_method_7_code (3 : Nat) (Option.some Jvm.ClassFile.FieldType.int)) ∈ lw_all := lw_g (lw_at lw_m13 10 rfl) rfl
theorem q2985 : (Jvm.Cond.methodLink "FloatingDock$Parser" (38 : Nat) ({ cls := "FloatingDock$Parser", name := "current", desc := "()I" } : Jvm.MethodName)) ∈ lw_all := lw_g (lw_at lw_m13 11 rfl) rfl
theorem q2986 : (Jvm.Cond.privateMethod ({ cls := "FloatingDock$Parser", name := "current", desc := "()I" } : Jvm.MethodName)) ∈ lw_tbl := lw_at lw_m13 12 rfl
theorem q2987 : (Jvm.Cond.instanceMethod ({ cls := "FloatingDock$Parser", name := "current", desc := "()I" } : Jvm.MethodName)) ∈ lw_all := lw_g (lw_at lw_m13 13 rfl) rfl
theorem q2988 : (Jvm.Cond.code ({ cls := "FloatingDock$Parser", name := "current", desc := "()I" } : Jvm.MethodName) prog_7_method_2_code (1 : Nat) (Option.some Jvm.ClassFile.FieldType.int)) ∈ lw_all := lw_g (lw_at lw_m13 14 rfl) rfl
theorem q2989 : (Jvm.Cond.methodLinkNest "FloatingDock$Parser" (55 : Nat) ({ cls := "FloatingDock", name := "isBetween", desc := "(III)Z" } : Jvm.MethodName) "FloatingDock") ∈ lw_tbl := lw_at lw_m13 15 rfl
theorem q2990 : (Jvm.Cond.methodLink "FloatingDock$Parser" (59 : Nat) ({ cls := "FloatingDock$Parser", name := "require", desc := "(Z)V" } : Jvm.MethodName)) ∈ lw_all := lw_g (lw_at lw_m13 16 rfl) rfl
theorem q2991 : (Jvm.Cond.privateMethod ({ cls := "FloatingDock$Parser", name := "require", desc := "(Z)V" } : Jvm.MethodName)) ∈ lw_tbl := lw_at lw_m13 17 rfl
theorem q2992 : (Jvm.Cond.instanceMethod ({ cls := "FloatingDock$Parser", name := "require", desc := "(Z)V" } : Jvm.MethodName)) ∈ lw_all := lw_g (lw_at lw_m13 18 rfl) rfl
theorem q2993 : (Jvm.Cond.code ({ cls := "FloatingDock$Parser", name := "require", desc := "(Z)V" } : Jvm.MethodName) prog_7_method_3_code (2 : Nat) (Option.none : Option Jvm.ClassFile.FieldType)) ∈ lw_all := lw_g (lw_at lw_m13 19 rfl) rfl
theorem q2994 : (Jvm.Cond.methodLink "FloatingDock$Parser" (70 : Nat) ({ cls := "FloatingDock$Parser", name := "behind", desc := "(C)I" } : Jvm.MethodName)) ∈ lw_all := lw_g (lw_at lw_m13 20 rfl) rfl
theorem q2995 : (Jvm.Cond.privateMethod ({ cls := "FloatingDock$Parser", name := "behind", desc := "(C)I" } : Jvm.MethodName)) ∈ lw_tbl := lw_at lw_m13 21 rfl
theorem q2996 : (Jvm.Cond.instanceMethod ({ cls := "FloatingDock$Parser", name := "behind", desc := "(C)I" } : Jvm.MethodName)) ∈ lw_all := lw_g (lw_at lw_m13 22 rfl) rfl
theorem q2997 : (Jvm.Cond.code ({ cls := "FloatingDock$Parser", name := "behind", desc := "(C)I" } : Jvm.MethodName) prog_7_method_8_code (2 : Nat) (Option.some Jvm.ClassFile.FieldType.int)) ∈ lw_all := lw_g (lw_at lw_m13 23 rfl) rfl
theorem q2998 : (Jvm.Cond.methodLink "FloatingDock$Parser" (63 : Nat) ({ cls := "FloatingDock$Parser", name := "accept", desc := "(I)Z" } : Jvm.MethodName)) ∈ lw_all := lw_g (lw_at lw_m13 24 rfl) rfl
theorem q2999 : (Jvm.Cond.privateMethod ({ cls := "FloatingDock$Parser", name := "accept", desc := "(I)Z" } : Jvm.MethodName)) ∈ lw_tbl := lw_at lw_m13 25 rfl
theorem q3000 : (Jvm.Cond.instanceMethod ({ cls := "FloatingDock$Parser", name := "accept", desc := "(I)Z" } : Jvm.MethodName)) ∈ lw_all := lw_g (lw_at lw_m13 26 rfl) rfl
theorem q3001 : (Jvm.Cond.code ({ cls := "FloatingDock$Parser", name := "accept", desc := "(I)Z" } : Jvm.MethodName) prog_7_method_4_code (3 : Nat) (Option.some Jvm.ClassFile.FieldType.boolean)) ∈ lw_all := lw_g (lw_at lw_m13 27 rfl) rfl
theorem q3002 : (Jvm.Cond.static ({ cls := "FloatingDock$Parser", name := "lambda$shipOperation$0", desc := "(IIILFloatingDock$Yard;)I" } : Jvm.MethodName)) ∈ lw_all := lw_g (lw_at lw_m13 28 rfl) rfl
theorem q3003 : (Jvm.Cond.code ({ cls := "FloatingDock$Parser", name := "lambda$shipOperation$0", desc := "(IIILFloatingDock$Yard;)I" } : Jvm.MethodName) prog_7_method_28_code (4 : Nat) (Option.some Jvm.ClassFile.FieldType.int)) ∈ lw_all := lw_g (lw_at lw_m13 29 rfl) rfl
theorem q3004 : (Jvm.Cond.methodLink "FloatingDock$Parser" (198 : Nat) ({ cls := "FloatingDock$Yard", name := "addShip", desc := "(III)I" } : Jvm.MethodName)) ∈ lw_all := lw_g (lw_at lw_m13 30 rfl) rfl
theorem q3005 : (Jvm.Cond.methodLink "FloatingDock$Parser" (135 : Nat) ({ cls := "FloatingDock$Parser", name := "enterOperation", desc := "()LFloatingDock$Operation;" } : Jvm.MethodName)) ∈ lw_all := lw_g (lw_at lw_m13 31 rfl) rfl
theorem q3006 : (Jvm.Cond.privateMethod ({ cls := "FloatingDock$Parser", name := "enterOperation", desc := "()LFloatingDock$Operation;" } : Jvm.MethodName)) ∈ lw_tbl := lw_at lw_m13 32 rfl
theorem q3007 : (Jvm.Cond.instanceMethod ({ cls := "FloatingDock$Parser", name := "enterOperation", desc := "()LFloatingDock$Operation;" } : Jvm.MethodName)) ∈ lw_all := lw_g (lw_at lw_m13 33 rfl) rfl
theorem q3008 : (Jvm.Cond.code ({ cls := "FloatingDock$Parser", name := "enterOperation", desc := "()LFloatingDock$Operation;" } : Jvm.MethodName) prog_7_method_11_code (3 : Nat) (Option.some (Jvm.ClassFile.FieldType.object "FloatingDock$Operation"))) ∈ lw_all := lw_g (lw_at lw_m13 34 rfl) rfl
theorem q3009 : (Jvm.Cond.static ({ cls := "FloatingDock$Parser", name := "lambda$enterOperation$1", desc := "(IILFloatingDock$Yard;)I" } : Jvm.MethodName)) ∈ lw_all := lw_g (lw_at lw_m13 35 rfl) rfl
theorem q3010 : (Jvm.Cond.code ({ cls := "FloatingDock$Parser", name := "lambda$enterOperation$1", desc := "(IILFloatingDock$Yard;)I" } : Jvm.MethodName) prog_7_method_27_code (3 : Nat) (Option.some Jvm.ClassFile.FieldType.int)) ∈ lw_all := lw_g (lw_at lw_m13 36 rfl) rfl
theorem q3011 : (Jvm.Cond.methodLink "FloatingDock$Parser" (195 : Nat) ({ cls := "FloatingDock$Yard", name := "enter", desc := "(II)I" } : Jvm.MethodName)) ∈ lw_all := lw_g (lw_at lw_m13 37 rfl) rfl
theorem q3012 : (Jvm.Cond.methodLink "FloatingDock$Parser" (138 : Nat) ({ cls := "FloatingDock$Parser", name := "payOperation", desc := "()LFloatingDock$Operation;" } : Jvm.MethodName)) ∈ lw_all := lw_g (lw_at lw_m13 38 rfl) rfl
theorem q3013 : (Jvm.Cond.privateMethod ({ cls := "FloatingDock$Parser", name := "payOperation", desc := "()LFloatingDock$Operation;" } : Jvm.MethodName)) ∈ lw_tbl := lw_at lw_m13 39 rfl
theorem q3014 : (Jvm.Cond.instanceMethod ({ cls := "FloatingDock$Parser", name := "payOperation", desc := "()LFloatingDock$Operation;" } : Jvm.MethodName)) ∈ lw_all := lw_g (lw_at lw_m13 40 rfl) rfl
theorem q3015 : (Jvm.Cond.code ({ cls := "FloatingDock$Parser", name := "payOperation", desc := "()LFloatingDock$Operation;" } : Jvm.MethodName) prog_7_method_12_code (3 : Nat) (Option.some (Jvm.ClassFile.FieldType.object "FloatingDock$Operation"))) ∈ lw_all := lw_g (lw_at lw_m13 41 rfl) rfl
theorem q3016 : (Jvm.Cond.static ({ cls := "FloatingDock$Parser", name := "lambda$payOperation$2", desc := "(IILFloatingDock$Yard;)I" } : Jvm.MethodName)) ∈ lw_all := lw_g (lw_at lw_m13 42 rfl) rfl
theorem q3017 : (Jvm.Cond.code ({ cls := "FloatingDock$Parser", name := "lambda$payOperation$2", desc := "(IILFloatingDock$Yard;)I" } : Jvm.MethodName) prog_7_method_26_code (3 : Nat) (Option.some Jvm.ClassFile.FieldType.int)) ∈ lw_all := lw_g (lw_at lw_m13 43 rfl) rfl
theorem q3018 : (Jvm.Cond.methodLink "FloatingDock$Parser" (192 : Nat) ({ cls := "FloatingDock$Yard", name := "pay", desc := "(II)I" } : Jvm.MethodName)) ∈ lw_all := lw_g (lw_at lw_m13 44 rfl) rfl
theorem q3019 : (Jvm.Cond.methodLink "FloatingDock$Parser" (141 : Nat) ({ cls := "FloatingDock$Parser", name := "pumpOperation", desc := "()LFloatingDock$Operation;" } : Jvm.MethodName)) ∈ lw_all := lw_g (lw_at lw_m13 45 rfl) rfl
theorem q3020 : (Jvm.Cond.privateMethod ({ cls := "FloatingDock$Parser", name := "pumpOperation", desc := "()LFloatingDock$Operation;" } : Jvm.MethodName)) ∈ lw_tbl := lw_at lw_m13 46 rfl
theorem q3021 : (Jvm.Cond.instanceMethod ({ cls := "FloatingDock$Parser", name := "pumpOperation", desc := "()LFloatingDock$Operation;" } : Jvm.MethodName)) ∈ lw_all := lw_g (lw_at lw_m13 47 rfl) rfl
theorem q3022 : (Jvm.Cond.code ({ cls := "FloatingDock$Parser", name := "pumpOperation", desc := "()LFloatingDock$Operation;" } : Jvm.MethodName) prog_7_method_13_code (2 : Nat) (Option.some (Jvm.ClassFile.FieldType.object "FloatingDock$Operation"))) ∈ lw_all := lw_g (lw_at lw_m13 48 rfl) rfl
theorem q3023 : (Jvm.Cond.methodLink "FloatingDock$Parser" (82 : Nat) ({ cls := "FloatingDock$Parser", name := "signed", desc := "()I" } : Jvm.MethodName)) ∈ lw_all := lw_g (lw_at lw_m13 49 rfl) rfl
theorem q3024 : (Jvm.Cond.privateMethod ({ cls := "FloatingDock$Parser", name := "signed", desc := "()I" } : Jvm.MethodName)) ∈ lw_tbl := lw_at lw_m13 50 rfl
theorem q3025 : (Jvm.Cond.instanceMethod ({ cls := "FloatingDock$Parser", name := "signed", desc := "()I" } : Jvm.MethodName)) ∈ lw_all := lw_g (lw_at lw_m13 51 rfl) rfl
theorem q3026 : (Jvm.Cond.code ({ cls := "FloatingDock$Parser", name := "signed", desc := "()I" } : Jvm.MethodName) prog_7_method_9_code (1 : Nat) (Option.some Jvm.ClassFile.FieldType.int)) ∈ lw_all := lw_g (lw_at lw_m13 52 rfl) rfl
theorem q3027 : (Jvm.Cond.static ({ cls := "FloatingDock$Parser", name := "lambda$pumpOperation$3", desc := "(ILFloatingDock$Yard;)I" } : Jvm.MethodName)) ∈ lw_all := lw_g (lw_at lw_m13 53 rfl) rfl
theorem q3028 : (Jvm.Cond.code ({ cls := "FloatingDock$Parser", name := "lambda$pumpOperation$3", desc := "(ILFloatingDock$Yard;)I" } : Jvm.MethodName) prog_7_method_25_code (2 : Nat) (Option.some Jvm.ClassFile.FieldType.int)) ∈ lw_all := lw_g (lw_at lw_m13 54 rfl) rfl
theorem q3029 : (Jvm.Cond.methodLink "FloatingDock$Parser" (189 : Nat) ({ cls := "FloatingDock$Yard", name := "setPump", desc := "(I)I" } : Jvm.MethodName)) ∈ lw_all := lw_g (lw_at lw_m13 55 rfl) rfl
theorem q3030 : (Jvm.Cond.static ({ cls := "FloatingDock$Parser", name := "lambda$operation$10", desc := "(LFloatingDock$Yard;)I" } : Jvm.MethodName)) ∈ lw_all := lw_g (lw_at lw_m13 56 rfl) rfl
theorem q3031 : (Jvm.Cond.code ({ cls := "FloatingDock$Parser", name := "lambda$operation$10", desc := "(LFloatingDock$Yard;)I" } : Jvm.MethodName) prog_7_method_18_code (1 : Nat) (Option.some Jvm.ClassFile.FieldType.int)) ∈ lw_all := lw_g (lw_at lw_m13 57 rfl) rfl
theorem q3032 : (Jvm.Cond.methodLink "FloatingDock$Parser" (161 : Nat) ({ cls := "FloatingDock$Yard", name := "setGate", desc := "(Z)I" } : Jvm.MethodName)) ∈ lw_all := lw_g (lw_at lw_m13 58 rfl) rfl
theorem q3033 : (Jvm.Cond.static ({ cls := "FloatingDock$Parser", name := "lambda$operation$11", desc := "(LFloatingDock$Yard;)I" } : Jvm.MethodName)) ∈ lw_all := lw_g (lw_at lw_m13 59 rfl) rfl
theorem q3034 : (Jvm.Cond.code ({ cls := "FloatingDock$Parser", name := "lambda$operation$11", desc := "(LFloatingDock$Yard;)I" } : Jvm.MethodName) prog_7_method_17_code (1 : Nat) (Option.some Jvm.ClassFile.FieldType.int)) ∈ lw_all := lw_g (lw_at lw_m13 60 rfl) rfl
theorem q3035 : (Jvm.Cond.methodLink "FloatingDock$Parser" (147 : Nat) ({ cls := "FloatingDock$Parser", name := "numberOperation", desc := "(Ljava/lang/String;)LFloatingDock$Operation;" } : Jvm.MethodName)) ∈ lw_all := lw_g (lw_at lw_m13 61 rfl) rfl
theorem q3036 : (Jvm.Cond.privateMethod ({ cls := "FloatingDock$Parser", name := "numberOperation", desc := "(Ljava/lang/String;)LFloatingDock$Operation;" } : Jvm.MethodName)) ∈ lw_tbl := lw_at lw_m13 62 rfl
theorem q3037 : (Jvm.Cond.instanceMethod ({ cls := "FloatingDock$Parser", name := "numberOperation", desc := "(Ljava/lang/String;)LFloatingDock$Operation;" } : Jvm.MethodName)) ∈ lw_all := lw_g (lw_at lw_m13 63 rfl) rfl
theorem q3038 : (Jvm.Cond.code ({ cls := "FloatingDock$Parser", name := "numberOperation", desc := "(Ljava/lang/String;)LFloatingDock$Operation;" } : Jvm.MethodName) prog_7_method_14_code (5 : Nat) (Option.some (Jvm.ClassFile.FieldType.object "FloatingDock$Operation"))) ∈ lw_all := lw_g (lw_at lw_m13 64 rfl) rfl
theorem q3039 : (Jvm.Cond.static ({ cls := "FloatingDock$Parser", name := "lambda$numberOperation$4", desc := "(ILFloatingDock$Yard;)I" } : Jvm.MethodName)) ∈ lw_all := lw_g (lw_at lw_m13 65 rfl) rfl
theorem q3040 : (Jvm.Cond.code ({ cls := "FloatingDock$Parser", name := "lambda$numberOperation$4", desc := "(ILFloatingDock$Yard;)I" } : Jvm.MethodName) prog_7_method_24_code (2 : Nat) (Option.some Jvm.ClassFile.FieldType.int)) ∈ lw_all := lw_g (lw_at lw_m13 66 rfl) rfl
theorem q3041 : (Jvm.Cond.methodLink "FloatingDock$Parser" (186 : Nat) ({ cls := "FloatingDock$Yard", name := "leave", desc := "(I)I" } : Jvm.MethodName)) ∈ lw_all := lw_g (lw_at lw_m13 67 rfl) rfl
theorem q3042 : (Jvm.Cond.static ({ cls := "FloatingDock$Parser", name := "lambda$numberOperation$5", desc := "(ILFloatingDock$Yard;)I" } : Jvm.MethodName)) ∈ lw_all := lw_g (lw_at lw_m13 68 rfl) rfl
theorem q3043 : (Jvm.Cond.code ({ cls := "FloatingDock$Parser", name := "lambda$numberOperation$5", desc := "(ILFloatingDock$Yard;)I" } : Jvm.MethodName) prog_7_method_23_code (2 : Nat) (Option.some Jvm.ClassFile.FieldType.int)) ∈ lw_all := lw_g (lw_at lw_m13 69 rfl) rfl
theorem q3044 : (Jvm.Cond.methodLink "FloatingDock$Parser" (182 : Nat) ({ cls := "FloatingDock$Yard", name := "setCleaning", desc := "(IZ)I" } : Jvm.MethodName)) ∈ lw_all := lw_g (lw_at lw_m13 70 rfl) rfl
theorem q3045 : (Jvm.Cond.static ({ cls := "FloatingDock$Parser", name := "lambda$numberOperation$6", desc := "(ILFloatingDock$Yard;)I" } : Jvm.MethodName)) ∈ lw_all := lw_g (lw_at lw_m13 71 rfl) rfl
theorem q3046 : (Jvm.Cond.code ({ cls := "FloatingDock$Parser", name := "lambda$numberOperation$6", desc := "(ILFloatingDock$Yard;)I" } : Jvm.MethodName) prog_7_method_22_code (2 : Nat) (Option.some Jvm.ClassFile.FieldType.int)) ∈ lw_all := lw_g (lw_at lw_m13 72 rfl) rfl
theorem q3047 : (Jvm.Cond.privateMethod ({ cls := "FloatingDock$Parser", name := "lambda$numberOperation$7", desc := "(ILFloatingDock$Yard;)I" } : Jvm.MethodName)) ∈ lw_tbl := lw_at lw_m13 73 rfl
theorem q3048 : (Jvm.Cond.instanceMethod ({ cls := "FloatingDock$Parser", name := "lambda$numberOperation$7", desc := "(ILFloatingDock$Yard;)I" } : Jvm.MethodName)) ∈ lw_all := lw_g (lw_at lw_m13 74 rfl) rfl
theorem q3049 : (Jvm.Cond.code ({ cls := "FloatingDock$Parser", name := "lambda$numberOperation$7", desc := "(ILFloatingDock$Yard;)I" } : Jvm.MethodName) prog_7_method_21_code (3 : Nat) (Option.some Jvm.ClassFile.FieldType.int)) ∈ lw_all := lw_g (lw_at lw_m13 75 rfl) rfl
theorem q3050 : (Jvm.Cond.methodLink "FloatingDock$Parser" (178 : Nat) ({ cls := "FloatingDock$Yard", name := "pass", desc := "(I[LFloatingDock$Charge;)I" } : Jvm.MethodName)) ∈ lw_all := lw_g (lw_at lw_m13 76 rfl) rfl
theorem q3051 : (Jvm.Cond.static ({ cls := "FloatingDock$Parser", name := "lambda$numberOperation$8", desc := "(ILFloatingDock$Yard;)I" } : Jvm.MethodName)) ∈ lw_all := lw_g (lw_at lw_m13 77 rfl) rfl
theorem q3052 : (Jvm.Cond.code ({ cls := "FloatingDock$Parser", name := "lambda$numberOperation$8", desc := "(ILFloatingDock$Yard;)I" } : Jvm.MethodName) prog_7_method_20_code (2 : Nat) (Option.some Jvm.ClassFile.FieldType.int)) ∈ lw_all := lw_g (lw_at lw_m13 78 rfl) rfl
theorem q3053 : (Jvm.Cond.methodLink "FloatingDock$Parser" (171 : Nat) ({ cls := "FloatingDock$Yard", name := "placeBlock", desc := "(I)I" } : Jvm.MethodName)) ∈ lw_all := lw_g (lw_at lw_m13 79 rfl) rfl
theorem q3054 : (Jvm.Cond.static ({ cls := "FloatingDock$Parser", name := "lambda$numberOperation$9", desc := "(ILFloatingDock$Yard;)I" } : Jvm.MethodName)) ∈ lw_all := lw_g (lw_at lw_m13 80 rfl) rfl
theorem q3055 : (Jvm.Cond.code ({ cls := "FloatingDock$Parser", name := "lambda$numberOperation$9", desc := "(ILFloatingDock$Yard;)I" } : Jvm.MethodName) prog_7_method_19_code (2 : Nat) (Option.some Jvm.ClassFile.FieldType.int)) ∈ lw_all := lw_g (lw_at lw_m13 81 rfl) rfl
theorem q3056 : (Jvm.Cond.methodLink "FloatingDock$Parser" (167 : Nat) ({ cls := "FloatingDock$Yard", name := "removeBlock", desc := "(I)I" } : Jvm.MethodName)) ∈ lw_all := lw_g (lw_at lw_m13 82 rfl) rfl
theorem q3057 : (Jvm.Cond.methodLink "FloatingDock$Parser" (157 : Nat) ({ cls := "FloatingDock$Program", name := "add", desc := "(LFloatingDock$Operation;)V" } : Jvm.MethodName)) ∈ lw_all := lw_g (lw_at lw_m13 83 rfl) rfl
theorem q3832 : (Jvm.Cond.castable "FloatingDock$Parser" "java/lang/Object") ∈ lw_tbl := lw_at lw_m16 138 rfl
theorem in_X10 : ∀ w ∈ wsX100, w ∈ lw_all := lw_in wsX100 [2881, 2883] (by decide +kernel) (by decide +kernel)

/-! FloatingDock$Program -/
def RX11 : String := "FloatingDock$Program"
def TX11 : u_T := fun k => match k with
  | 0 => ("FloatingDock$Program", "operations", "[LFloatingDock$Operation;", true)
  | _ => ("FloatingDock$Program", "size", "I", false)
def tyX11 : Nat → FieldType := fun k => match k with
  | 0 => .array (.object "FloatingDock$Operation")
  | _ => .int
abbrev wsX110 : List Cond := u_ws RX11 TX11 2
theorem nmX11 : ∀ a, a < 2 → ∀ b, b < 2 → a ≠ b → (TX11 a).2.1 ≠ (TX11 b).2.1 := by decide +kernel
theorem tyX11_ok : ∀ k, k < 2 → parseFieldDescriptor (TX11 k).2.2.1 = some (tyX11 k) := by decide +kernel
abbrev cX11_init : ByteArray := prog_8_method_1_code
def yX11_init : MethodName := ⟨RX11, "<init>", "()V"⟩
abbrev cX11_add : ByteArray := prog_8_method_2_code
def yX11_add : MethodName := ⟨RX11, "add", "(LFloatingDock$Operation;)V"⟩
abbrev cX11_at : ByteArray := prog_8_method_3_code
def yX11_at : MethodName := ⟨RX11, "at", "(I)LFloatingDock$Operation;"⟩
theorem q154 : (Jvm.Cond.initialized "FloatingDock$Program") ∈ lw_all := lw_g (lw_at lw_m1 60 rfl) rfl
theorem q1239 : (Jvm.Cond.selects "FloatingDock$Program" ({ cls := "java/lang/Object", name := "getClass", desc := "()Ljava/lang/Class;" } : Jvm.MethodName) ({ cls := "java/lang/Object", name := "getClass", desc := "()Ljava/lang/Class;" } : Jvm.MethodName)) ∈ lw_all := lw_g (lw_at lw_m5 185 rfl) rfl
theorem q1564 : (Jvm.Cond.selects "FloatingDock$Program" ({ cls := "java/lang/Object", name := "hashCode", desc := "()I" } : Jvm.MethodName) ({ cls := "java/lang/Object", name := "hashCode", desc := "()I" } : Jvm.MethodName)) ∈ lw_all := lw_g (lw_at lw_m7 30 rfl) rfl
theorem q1660 : (Jvm.Cond.selects "FloatingDock$Program" ({ cls := "java/lang/Object", name := "equals", desc := "(Ljava/lang/Object;)Z" } : Jvm.MethodName) ({ cls := "java/lang/Object", name := "equals", desc := "(Ljava/lang/Object;)Z" } : Jvm.MethodName)) ∈ lw_all := lw_g (lw_at lw_m7 126 rfl) rfl
theorem q2891 : (Jvm.Cond.instantiable "FloatingDock$Program" (2 : Nat)) ∈ lw_all := lw_g (lw_at lw_m12 157 rfl) rfl
theorem q2893 : (Jvm.Cond.instanceMethod ({ cls := "FloatingDock$Program", name := "<init>", desc := "()V" } : Jvm.MethodName)) ∈ lw_all := lw_g (lw_at lw_m12 159 rfl) rfl
theorem q2894 : (Jvm.Cond.code ({ cls := "FloatingDock$Program", name := "<init>", desc := "()V" } : Jvm.MethodName) prog_8_method_1_code (1 : Nat) (Option.none : Option Jvm.ClassFile.FieldType)) ∈ lw_all := lw_g (lw_at lw_m12 160 rfl) rfl
theorem q2895 : (Jvm.Cond.methodLink "FloatingDock$Program" (3 : Nat) ({ cls := "java/lang/Object", name := "<init>", desc := "()V" } : Jvm.MethodName)) ∈ lw_all := lw_g (lw_at lw_m12 161 rfl) rfl
theorem q2896 : (Jvm.Cond.classLink "FloatingDock$Program" (9 : Nat) "FloatingDock$Operation") ∈ lw_all := lw_g (lw_at lw_m12 162 rfl) rfl
theorem q2898 : (Jvm.Cond.fieldLink "FloatingDock$Program" (11 : Nat) "FloatingDock$Program" "operations" "[LFloatingDock$Operation;") ∈ lw_all := lw_g (lw_at lw_m12 164 rfl) rfl
theorem q2899 : (Jvm.Cond.fieldLink "FloatingDock$Program" (17 : Nat) "FloatingDock$Program" "size" "I") ∈ lw_all := lw_g (lw_at lw_m12 165 rfl) rfl
theorem q2901 : (Jvm.Cond.laysFinal "FloatingDock$Program" "FloatingDock$Program" "operations" "[LFloatingDock$Operation;") ∈ lw_all := lw_g (lw_at lw_m12 167 rfl) rfl
theorem q2902 : (Jvm.Cond.soleField "FloatingDock$Program" "operations") ∈ lw_all := lw_g (lw_at lw_m12 168 rfl) rfl
theorem q2903 : (Jvm.Cond.lays "FloatingDock$Program" "FloatingDock$Program" "size" "I") ∈ lw_all := lw_g (lw_at lw_m12 169 rfl) rfl
theorem q2904 : (Jvm.Cond.soleField "FloatingDock$Program" "size") ∈ lw_all := lw_g (lw_at lw_m12 170 rfl) rfl
theorem q2905 : (Jvm.Cond.superclass "FloatingDock$Program" "java/lang/Object") ∈ lw_all := lw_g (lw_at lw_m12 171 rfl) rfl
theorem q3058 : (Jvm.Cond.instanceMethod ({ cls := "FloatingDock$Program", name := "add", desc := "(LFloatingDock$Operation;)V" } : Jvm.MethodName)) ∈ lw_all := lw_g (lw_at lw_m13 84 rfl) rfl
theorem q3059 : (Jvm.Cond.selects "FloatingDock$Program" ({ cls := "FloatingDock$Program", name := "add", desc := "(LFloatingDock$Operation;)V" } : Jvm.MethodName) ({ cls := "FloatingDock$Program", name := "add", desc := "(LFloatingDock$Operation;)V" } : Jvm.MethodName)) ∈ lw_all := lw_g (lw_at lw_m13 85 rfl) rfl
theorem q3060 : (Jvm.Cond.code ({ cls := "FloatingDock$Program", name := "add", desc := "(LFloatingDock$Operation;)V" } : Jvm.MethodName) prog_8_method_2_code (2 : Nat) (Option.none : Option Jvm.ClassFile.FieldType)) ∈ lw_all := lw_g (lw_at lw_m13 86 rfl) rfl
theorem q3066 : (Jvm.Cond.instanceMethod ({ cls := "FloatingDock$Program", name := "at", desc := "(I)LFloatingDock$Operation;" } : Jvm.MethodName)) ∈ lw_all := lw_g (lw_at lw_m13 92 rfl) rfl
theorem q3067 : (Jvm.Cond.selects "FloatingDock$Program" ({ cls := "FloatingDock$Program", name := "at", desc := "(I)LFloatingDock$Operation;" } : Jvm.MethodName) ({ cls := "FloatingDock$Program", name := "at", desc := "(I)LFloatingDock$Operation;" } : Jvm.MethodName)) ∈ lw_all := lw_g (lw_at lw_m13 93 rfl) rfl
theorem q3068 : (Jvm.Cond.code ({ cls := "FloatingDock$Program", name := "at", desc := "(I)LFloatingDock$Operation;" } : Jvm.MethodName) prog_8_method_3_code (2 : Nat) (Option.some (Jvm.ClassFile.FieldType.object "FloatingDock$Operation"))) ∈ lw_all := lw_g (lw_at lw_m13 94 rfl) rfl
theorem q3833 : (Jvm.Cond.castable "FloatingDock$Program" "java/lang/Object") ∈ lw_tbl := lw_at lw_m16 139 rfl
theorem in_X11 : ∀ w ∈ wsX110, w ∈ lw_all := lw_in wsX110 [2901, 2903] (by decide +kernel) (by decide +kernel)

/-! FloatingDock$SyntaxError -/
def RX12 : String := "FloatingDock$SyntaxError"
def TX12 : u_T := fun k => match k with
  | 0 => ("java/lang/Throwable", "cause", "Ljava/lang/Throwable;", false)
  | 1 => ("java/lang/Throwable", "stackTrace", "[Ljava/lang/StackTraceElement;", false)
  | 2 => ("java/lang/Throwable", "suppressedExceptions", "Ljava/util/List;", false)
  | 3 => ("java/lang/Throwable", "detailMessage", "Ljava/lang/String;", false)
  | 4 => ("java/lang/Throwable", "backtrace", "Ljava/lang/Object;", false)
  | 5 => ("java/lang/Throwable", "depth", "I", false)
  | _ => ("FloatingDock$SyntaxError", "position", "I", true)
def tyX12 : Nat → FieldType := fun k => match k with
  | 0 => .object "java/lang/Throwable"
  | 1 => .array (.object "java/lang/StackTraceElement")
  | 2 => .object "java/util/List"
  | 3 => .object "java/lang/String"
  | 4 => .object "java/lang/Object"
  | 5 => .int
  | _ => .int
abbrev wsX120 : List Cond := u_ws RX12 TX12 7
theorem nmX12 : ∀ a, a < 7 → ∀ b, b < 7 → a ≠ b → (TX12 a).2.1 ≠ (TX12 b).2.1 := by decide +kernel
theorem tyX12_ok : ∀ k, k < 7 → parseFieldDescriptor (TX12 k).2.2.1 = some (tyX12 k) := by decide +kernel
abbrev cX12_init : ByteArray := prog_13_method_1_code
def yX12_init : MethodName := ⟨RX12, "<init>", "(I)V"⟩
theorem q155 : (Jvm.Cond.initialized "FloatingDock$SyntaxError") ∈ lw_all := lw_g (lw_at lw_m1 61 rfl) rfl
theorem q741 : (Jvm.Cond.selects "FloatingDock$SyntaxError" ({ cls := "java/lang/Throwable", name := "fillInStackTrace", desc := "()Ljava/lang/Throwable;" } : Jvm.MethodName) ({ cls := "java/lang/Throwable", name := "fillInStackTrace", desc := "()Ljava/lang/Throwable;" } : Jvm.MethodName)) ∈ lw_all := lw_g (lw_at lw_m3 167 rfl) rfl
theorem q1244 : (Jvm.Cond.selects "FloatingDock$SyntaxError" ({ cls := "java/lang/Object", name := "getClass", desc := "()Ljava/lang/Class;" } : Jvm.MethodName) ({ cls := "java/lang/Object", name := "getClass", desc := "()Ljava/lang/Class;" } : Jvm.MethodName)) ∈ lw_all := lw_g (lw_at lw_m5 190 rfl) rfl
theorem q1569 : (Jvm.Cond.selects "FloatingDock$SyntaxError" ({ cls := "java/lang/Object", name := "hashCode", desc := "()I" } : Jvm.MethodName) ({ cls := "java/lang/Object", name := "hashCode", desc := "()I" } : Jvm.MethodName)) ∈ lw_all := lw_g (lw_at lw_m7 35 rfl) rfl
theorem q1665 : (Jvm.Cond.selects "FloatingDock$SyntaxError" ({ cls := "java/lang/Object", name := "equals", desc := "(Ljava/lang/Object;)Z" } : Jvm.MethodName) ({ cls := "java/lang/Object", name := "equals", desc := "(Ljava/lang/Object;)Z" } : Jvm.MethodName)) ∈ lw_all := lw_g (lw_at lw_m7 131 rfl) rfl
theorem q2957 : (Jvm.Cond.instantiable "FloatingDock$SyntaxError" (7 : Nat)) ∈ lw_all := lw_g (lw_at lw_m12 223 rfl) rfl
theorem q2958 : (Jvm.Cond.castable "FloatingDock$SyntaxError" "FloatingDock$SyntaxError") ∈ lw_tbl := lw_at lw_m12 224 rfl
theorem q2959 : (Jvm.Cond.selects "FloatingDock$SyntaxError" ({ cls := "java/lang/Throwable", name := "fillInStackTrace", desc := "(I)Ljava/lang/Throwable;" } : Jvm.MethodName) ({ cls := "java/lang/Throwable", name := "fillInStackTrace", desc := "(I)Ljava/lang/Throwable;" } : Jvm.MethodName)) ∈ lw_all := lw_g (lw_at lw_m12 225 rfl) rfl
theorem q2960 : (Jvm.Cond.lays "FloatingDock$SyntaxError" "java/lang/Throwable" "cause" "Ljava/lang/Throwable;") ∈ lw_all := lw_g (lw_at lw_m12 226 rfl) rfl
theorem q2961 : (Jvm.Cond.lays "FloatingDock$SyntaxError" "java/lang/Throwable" "stackTrace" "[Ljava/lang/StackTraceElement;") ∈ lw_all := lw_g (lw_at lw_m12 227 rfl) rfl
theorem q2962 : (Jvm.Cond.lays "FloatingDock$SyntaxError" "java/lang/Throwable" "suppressedExceptions" "Ljava/util/List;") ∈ lw_all := lw_g (lw_at lw_m12 228 rfl) rfl
theorem q2963 : (Jvm.Cond.lays "FloatingDock$SyntaxError" "java/lang/Throwable" "detailMessage" "Ljava/lang/String;") ∈ lw_all := lw_g (lw_at lw_m12 229 rfl) rfl
theorem q2964 : (Jvm.Cond.lays "FloatingDock$SyntaxError" "java/lang/Throwable" "backtrace" "Ljava/lang/Object;") ∈ lw_all := lw_g (lw_at lw_m12 230 rfl) rfl
theorem q2966 : (Jvm.Cond.instanceMethod ({ cls := "FloatingDock$SyntaxError", name := "<init>", desc := "(I)V" } : Jvm.MethodName)) ∈ lw_all := lw_g (lw_at lw_m12 232 rfl) rfl
theorem q2967 : (Jvm.Cond.code ({ cls := "FloatingDock$SyntaxError", name := "<init>", desc := "(I)V" } : Jvm.MethodName) prog_13_method_1_code (2 : Nat) (Option.none : Option Jvm.ClassFile.FieldType)) ∈ lw_all := lw_g (lw_at lw_m12 233 rfl) rfl
theorem q2968 : (Jvm.Cond.methodLink "FloatingDock$SyntaxError" (1 : Nat) ({ cls := "java/lang/Exception", name := "<init>", desc := "(Ljava/lang/String;Ljava/lang/Throwable;ZZ)V" } : Jvm.MethodName)) ∈ lw_all := lw_g (lw_at lw_m12 234 rfl) rfl
theorem q2969 : (Jvm.Cond.fieldLink "FloatingDock$SyntaxError" (7 : Nat) "FloatingDock$SyntaxError" "position" "I") ∈ lw_all := lw_g (lw_at lw_m12 235 rfl) rfl
theorem q2971 : (Jvm.Cond.laysFinal "FloatingDock$SyntaxError" "FloatingDock$SyntaxError" "position" "I") ∈ lw_all := lw_g (lw_at lw_m12 237 rfl) rfl
theorem q2972 : (Jvm.Cond.soleField "FloatingDock$SyntaxError" "position") ∈ lw_all := lw_g (lw_at lw_m12 238 rfl) rfl
theorem q2973 : (Jvm.Cond.lays "FloatingDock$SyntaxError" "java/lang/Throwable" "depth" "I") ∈ lw_all := lw_g (lw_at lw_m12 239 rfl) rfl
theorem q2974 : (Jvm.Cond.superclass "FloatingDock$SyntaxError" "java/lang/Exception") ∈ lw_all := lw_g (lw_at lw_m13 0 rfl) rfl
theorem q3834 : (Jvm.Cond.castable "FloatingDock$SyntaxError" "java/lang/Object") ∈ lw_tbl := lw_at lw_m16 140 rfl
theorem in_X12 : ∀ w ∈ wsX120, w ∈ lw_all := lw_in wsX120 [2960, 2961, 2962, 2963, 2964, 2973, 2971] (by decide +kernel) (by decide +kernel)

theorem q2694 : (Jvm.Cond.interfaceMethod "FloatingDock$Charge" "FloatingDock$Charge" "coins" "(LFloatingDock$Ship;II)I") ∈ lw_tbl := lw_at lw_m11 200 rfl
theorem q2695 : (Jvm.Cond.declares ({ cls := "FloatingDock$Charge", name := "coins", desc := "(LFloatingDock$Ship;II)I" } : Jvm.MethodName)) ∈ lw_tbl := lw_at lw_m11 201 rfl
theorem q3791 : (Jvm.Cond.castable "FloatingDock$Charge" "java/lang/Object") ∈ lw_tbl := lw_at lw_m16 97 rfl

theorem q1986 : (Jvm.Cond.interfaceMethod "FloatingDock$GapFinder" "FloatingDock$GapFinder" "find" "(LFloatingDock$Yard;I)I") ∈ lw_tbl := lw_at lw_m8 212 rfl
theorem q1987 : (Jvm.Cond.declares ({ cls := "FloatingDock$GapFinder", name := "find", desc := "(LFloatingDock$Yard;I)I" } : Jvm.MethodName)) ∈ lw_tbl := lw_at lw_m8 213 rfl
theorem q3792 : (Jvm.Cond.castable "FloatingDock$GapFinder" "java/lang/Object") ∈ lw_tbl := lw_at lw_m16 98 rfl

theorem q2314 : (Jvm.Cond.interfaceMethod "FloatingDock$Operation" "FloatingDock$Operation" "apply" "(LFloatingDock$Yard;)I") ∈ lw_tbl := lw_at lw_m10 60 rfl
theorem q2315 : (Jvm.Cond.declares ({ cls := "FloatingDock$Operation", name := "apply", desc := "(LFloatingDock$Yard;)I" } : Jvm.MethodName)) ∈ lw_tbl := lw_at lw_m10 61 rfl
theorem q3795 : (Jvm.Cond.castable "FloatingDock$Operation" "java/lang/Object") ∈ lw_tbl := lw_at lw_m16 101 rfl

theorem q1464 : (Jvm.Cond.interfaceMethod "FloatingDock$Packer" "FloatingDock$Packer" "most" "(LFloatingDock$Yard;)I") ∈ lw_tbl := lw_at lw_m6 170 rfl
theorem q1465 : (Jvm.Cond.declares ({ cls := "FloatingDock$Packer", name := "most", desc := "(LFloatingDock$Yard;)I" } : Jvm.MethodName)) ∈ lw_tbl := lw_at lw_m6 171 rfl
theorem q3793 : (Jvm.Cond.castable "FloatingDock$Packer" "java/lang/Object") ∈ lw_tbl := lw_at lw_m16 99 rfl

theorem q892 : (Jvm.Cond.sameMethod "[B" "java/lang/Object" "clone" "()Ljava/lang/Object;") ∈ lw_all := lw_g (lw_at lw_m4 78 rfl) rfl
theorem q895 : (Jvm.Cond.selects "[B" ({ cls := "[B", name := "clone", desc := "()Ljava/lang/Object;" } : Jvm.MethodName) ({ cls := "java/lang/Object", name := "clone", desc := "()Ljava/lang/Object;" } : Jvm.MethodName)) ∈ lw_all := lw_g (lw_at lw_m4 81 rfl) rfl
theorem q896 : (Jvm.Cond.castable "[B" "java/lang/Cloneable") ∈ lw_tbl := lw_at lw_m4 82 rfl
theorem q3847 : (Jvm.Cond.castable "[B" "java/lang/Object") ∈ lw_tbl := lw_at lw_m16 153 rfl

theorem q3854 : (Jvm.Cond.castable "[D" "java/lang/Object") ∈ lw_tbl := lw_at lw_m16 160 rfl

theorem q3849 : (Jvm.Cond.castable "[I" "java/lang/Object") ∈ lw_tbl := lw_at lw_m16 155 rfl

theorem q1114 : (Jvm.Cond.sameMethod "[J" "java/lang/Object" "clone" "()Ljava/lang/Object;") ∈ lw_all := lw_g (lw_at lw_m5 60 rfl) rfl
theorem q1115 : (Jvm.Cond.selects "[J" ({ cls := "[J", name := "clone", desc := "()Ljava/lang/Object;" } : Jvm.MethodName) ({ cls := "java/lang/Object", name := "clone", desc := "()Ljava/lang/Object;" } : Jvm.MethodName)) ∈ lw_all := lw_g (lw_at lw_m5 61 rfl) rfl
theorem q1116 : (Jvm.Cond.castable "[J" "java/lang/Cloneable") ∈ lw_tbl := lw_at lw_m5 62 rfl
theorem q3848 : (Jvm.Cond.castable "[J" "java/lang/Object") ∈ lw_tbl := lw_at lw_m16 154 rfl

theorem q3843 : (Jvm.Cond.castable "[LFloatingDock$Charge;" "java/lang/Object") ∈ lw_tbl := lw_at lw_m16 149 rfl

theorem q3844 : (Jvm.Cond.castable "[LFloatingDock$GapFinder;" "java/lang/Object") ∈ lw_tbl := lw_at lw_m16 150 rfl

theorem q3852 : (Jvm.Cond.castable "[LFloatingDock$Operation;" "java/lang/Object") ∈ lw_tbl := lw_at lw_m16 158 rfl

theorem q3845 : (Jvm.Cond.castable "[LFloatingDock$Packer;" "java/lang/Object") ∈ lw_tbl := lw_at lw_m16 151 rfl

theorem q3840 : (Jvm.Cond.sameMethod "[Ljava/lang/Object;" "java/lang/Object" "getClass" "()Ljava/lang/Class;") ∈ lw_all := lw_g (lw_at lw_m16 146 rfl) rfl
theorem q3841 : (Jvm.Cond.selects "[Ljava/lang/Object;" ({ cls := "java/lang/Object", name := "getClass", desc := "()Ljava/lang/Class;" } : Jvm.MethodName) ({ cls := "java/lang/Object", name := "getClass", desc := "()Ljava/lang/Class;" } : Jvm.MethodName)) ∈ lw_all := lw_g (lw_at lw_m16 147 rfl) rfl
theorem q3846 : (Jvm.Cond.castable "[Ljava/lang/Object;" "java/lang/Object") ∈ lw_tbl := lw_at lw_m16 152 rfl

theorem q3853 : (Jvm.Cond.castable "[Ljava/lang/String;" "java/lang/Object") ∈ lw_tbl := lw_at lw_m16 159 rfl

theorem q3851 : (Jvm.Cond.castable "[Ljava/util/HashMap$Node;" "java/lang/Object") ∈ lw_tbl := lw_at lw_m16 157 rfl

theorem q3850 : (Jvm.Cond.castable "[Z" "java/lang/Object") ∈ lw_tbl := lw_at lw_m16 156 rfl

theorem q1719 : (Jvm.Cond.interfaceMethod "java/lang/Comparable" "java/lang/Comparable" "compareTo" "(Ljava/lang/Object;)I") ∈ lw_tbl := lw_at lw_m7 185 rfl
theorem q1720 : (Jvm.Cond.declares ({ cls := "java/lang/Comparable", name := "compareTo", desc := "(Ljava/lang/Object;)I" } : Jvm.MethodName)) ∈ lw_tbl := lw_at lw_m7 186 rfl

theorem q122 : (Jvm.Cond.initialized "java/lang/Integer$IntegerCache") ∈ lw_all := lw_g (lw_at lw_m1 28 rfl) rfl
theorem q686 : (Jvm.Cond.laysStatic "java/lang/Integer$IntegerCache" "high" "I") ∈ lw_tbl := lw_at lw_m3 112 rfl
theorem q688 : (Jvm.Cond.laysStatic "java/lang/Integer$IntegerCache" "cache" "[Ljava/lang/Integer;") ∈ lw_tbl := lw_at lw_m3 114 rfl

theorem q130 : (Jvm.Cond.initialized "java/lang/System") ∈ lw_all := lw_g (lw_at lw_m1 36 rfl) rfl
theorem q900 : (Jvm.Cond.static ({ cls := "java/lang/System", name := "arraycopy", desc := "(Ljava/lang/Object;ILjava/lang/Object;II)V" } : Jvm.MethodName)) ∈ lw_all := lw_g (lw_at lw_m4 86 rfl) rfl
theorem q901 : (Jvm.Cond.native ({ cls := "java/lang/System", name := "arraycopy", desc := "(Ljava/lang/Object;ILjava/lang/Object;II)V" } : Jvm.MethodName)) ∈ lw_all := lw_g (lw_at lw_m4 87 rfl) rfl

theorem q437 : (Jvm.Cond.interfaceMethod "java/util/Collection" "java/util/Collection" "iterator" "()Ljava/util/Iterator;") ∈ lw_tbl := lw_at lw_m2 103 rfl
theorem q438 : (Jvm.Cond.declares ({ cls := "java/util/Collection", name := "iterator", desc := "()Ljava/util/Iterator;" } : Jvm.MethodName)) ∈ lw_tbl := lw_at lw_m2 104 rfl

theorem q630 : (Jvm.Cond.interfaceMethod "java/util/Iterator" "java/util/Iterator" "hasNext" "()Z") ∈ lw_tbl := lw_at lw_m3 56 rfl
theorem q631 : (Jvm.Cond.declares ({ cls := "java/util/Iterator", name := "hasNext", desc := "()Z" } : Jvm.MethodName)) ∈ lw_tbl := lw_at lw_m3 57 rfl
theorem q671 : (Jvm.Cond.interfaceMethod "java/util/Iterator" "java/util/Iterator" "next" "()Ljava/lang/Object;") ∈ lw_tbl := lw_at lw_m3 97 rfl
theorem q672 : (Jvm.Cond.declares ({ cls := "java/util/Iterator", name := "next", desc := "()Ljava/lang/Object;" } : Jvm.MethodName)) ∈ lw_tbl := lw_at lw_m3 98 rfl

theorem q571 : (Jvm.Cond.interfaceMethod "java/util/Set" "java/util/Set" "iterator" "()Ljava/util/Iterator;") ∈ lw_tbl := lw_at lw_m2 237 rfl
theorem q572 : (Jvm.Cond.declares ({ cls := "java/util/Set", name := "iterator", desc := "()Ljava/util/Iterator;" } : Jvm.MethodName)) ∈ lw_tbl := lw_at lw_m2 238 rfl

theorem q1608 : (Jvm.Cond.interfaceMethod "jdk/internal/access/JavaLangAccess" "jdk/internal/access/JavaLangAccess" "getUTF16Char" "([BI)C") ∈ lw_tbl := lw_at lw_m7 74 rfl
theorem q1609 : (Jvm.Cond.declares ({ cls := "jdk/internal/access/JavaLangAccess", name := "getUTF16Char", desc := "([BI)C" } : Jvm.MethodName)) ∈ lw_tbl := lw_at lw_m7 75 rfl

theorem q146 : (Jvm.Cond.initialized "jdk/internal/misc/UnsafeConstants") ∈ lw_all := lw_g (lw_at lw_m1 52 rfl) rfl
theorem q1791 : (Jvm.Cond.laysStatic "jdk/internal/misc/UnsafeConstants" "BIG_ENDIAN" "Z") ∈ lw_tbl := lw_at lw_m8 17 rfl

theorem q167 : (Jvm.Cond.arrayOver (Jvm.ClassFile.FieldType.object "FloatingDock$Charge")) ∈ lw_tbl := lw_at lw_m1 73 rfl
theorem q169 : (Jvm.Cond.arrayOver (Jvm.ClassFile.FieldType.object "FloatingDock$GapFinder")) ∈ lw_tbl := lw_at lw_m1 75 rfl
theorem q171 : (Jvm.Cond.arrayOver (Jvm.ClassFile.FieldType.object "FloatingDock$Packer")) ∈ lw_tbl := lw_at lw_m1 77 rfl
theorem q311 : (Jvm.Cond.arrayOver (Jvm.ClassFile.FieldType.object "java/lang/Object")) ∈ lw_tbl := lw_at lw_m1 217 rfl
theorem q356 : (Jvm.Cond.arrayClass Jvm.ClassFile.FieldType.byte) ∈ lw_all := lw_g (lw_at lw_m2 22 rfl) rfl
theorem q412 : (Jvm.Cond.arrayClass Jvm.ClassFile.FieldType.long) ∈ lw_all := lw_g (lw_at lw_m2 78 rfl) rfl
theorem q1350 : (Jvm.Cond.arrayClass Jvm.ClassFile.FieldType.int) ∈ lw_all := lw_g (lw_at lw_m6 56 rfl) rfl
theorem q1417 : (Jvm.Cond.arrayClass Jvm.ClassFile.FieldType.boolean) ∈ lw_all := lw_g (lw_at lw_m6 123 rfl) rfl
theorem q2068 : (Jvm.Cond.arrayOver (Jvm.ClassFile.FieldType.object "java/util/HashMap$Node")) ∈ lw_tbl := lw_at lw_m9 54 rfl
theorem q2897 : (Jvm.Cond.arrayOver (Jvm.ClassFile.FieldType.object "FloatingDock$Operation")) ∈ lw_tbl := lw_at lw_m12 163 rfl
theorem q2911 : (Jvm.Cond.arrayOver (Jvm.ClassFile.FieldType.object "java/lang/String")) ∈ lw_tbl := lw_at lw_m12 177 rfl
theorem q3752 : (Jvm.Cond.arrayClass Jvm.ClassFile.FieldType.double) ∈ lw_all := lw_g (lw_at lw_m16 58 rfl) rfl
theorem q3855 : (Jvm.Cond.arrayClass Jvm.ClassFile.FieldType.char) ∈ lw_all := lw_g (lw_at lw_m16 161 rfl) rfl
theorem q3856 : (Jvm.Cond.arrayClass Jvm.ClassFile.FieldType.short) ∈ lw_all := lw_g (lw_at lw_m16 162 rfl) rfl

