set_option maxRecDepth 100000
def RJ2 : String := "java/util/LinkedHashMap"
def TJ2 : u_T := fun k => match k with
  | 0 => ("java/util/AbstractMap", "keySet", "Ljava/util/Set;", false)
  | 1 => ("java/util/AbstractMap", "values", "Ljava/util/Collection;", false)
  | 2 => ("java/util/HashMap", "table", "[Ljava/util/HashMap$Node;", false)
  | 3 => ("java/util/HashMap", "entrySet", "Ljava/util/Set;", false)
  | 4 => ("java/util/HashMap", "size", "I", false)
  | 5 => ("java/util/HashMap", "modCount", "I", false)
  | 6 => ("java/util/HashMap", "threshold", "I", false)
  | 7 => ("java/util/HashMap", "loadFactor", "F", true)
  | 8 => ("java/util/LinkedHashMap", "head", "Ljava/util/LinkedHashMap$Entry;", false)
  | 9 => ("java/util/LinkedHashMap", "tail", "Ljava/util/LinkedHashMap$Entry;", false)
  | 10 => ("java/util/LinkedHashMap", "accessOrder", "Z", true)
  | _ => ("java/util/LinkedHashMap", "putMode", "I", false)
def tyJ2 : Nat → FieldType := fun k => match k with
  | 0 => .object "java/util/Set"
  | 1 => .object "java/util/Collection"
  | 2 => .array (.object "java/util/HashMap$Node")
  | 3 => .object "java/util/Set"
  | 4 => .int
  | 5 => .int
  | 6 => .int
  | 7 => .float
  | 8 => .object "java/util/LinkedHashMap$Entry"
  | 9 => .object "java/util/LinkedHashMap$Entry"
  | 10 => .boolean
  | _ => .int
abbrev wsJ20 : List Cond := u_ws RJ2 TJ2 12
theorem nmJ2 : ∀ a, a < 12 → ∀ b, b < 12 → a ≠ b → (TJ2 a).2.1 ≠ (TJ2 b).2.1 := by decide +kernel
theorem tyJ2_ok : ∀ k, k < 12 → parseFieldDescriptor (TJ2 k).2.2.1 = some (tyJ2 k) := by decide +kernel
abbrev cJ2_init : ByteArray := prog_35_method_16_code
def yJ2_init : MethodName := ⟨RJ2, "<init>", "()V"⟩
theorem dJ2_init_0 : decode cJ2_init 0 = .ok (.aload_n 0, 1) := by decide +kernel
theorem dJ2_init_1 : decode cJ2_init 1 = .ok (.invokespecial 87, 3) := by decide +kernel
theorem dJ2_init_4 : decode cJ2_init 4 = .ok (.aload_n 0, 1) := by decide +kernel
theorem dJ2_init_5 : decode cJ2_init 5 = .ok (.iconst 0, 1) := by decide +kernel
theorem dJ2_init_6 : decode cJ2_init 6 = .ok (.putfield 1, 3) := by decide +kernel
theorem dJ2_init_9 : decode cJ2_init 9 = .ok (.aload_n 0, 1) := by decide +kernel
theorem dJ2_init_10 : decode cJ2_init 10 = .ok (.iconst 0, 1) := by decide +kernel
theorem dJ2_init_11 : decode cJ2_init 11 = .ok (.putfield 64, 3) := by decide +kernel
theorem dJ2_init_14 : decode cJ2_init 14 = .ok (.return_, 1) := by decide +kernel
abbrev cJ2_init_2 : ByteArray := prog_35_method_18_code
def yJ2_init_2 : MethodName := ⟨RJ2, "<init>", "(IFZ)V"⟩
theorem dJ2_init_2_0 : decode cJ2_init_2 0 = .ok (.aload_n 0, 1) := by decide +kernel
theorem dJ2_init_2_1 : decode cJ2_init_2 1 = .ok (.iload_n 1, 1) := by decide +kernel
theorem dJ2_init_2_2 : decode cJ2_init_2 2 = .ok (.fload_n 2, 1) := by decide +kernel
theorem dJ2_init_2_3 : decode cJ2_init_2 3 = .ok (.invokespecial 81, 3) := by decide +kernel
theorem dJ2_init_2_6 : decode cJ2_init_2 6 = .ok (.aload_n 0, 1) := by decide +kernel
theorem dJ2_init_2_7 : decode cJ2_init_2 7 = .ok (.iconst 0, 1) := by decide +kernel
theorem dJ2_init_2_8 : decode cJ2_init_2 8 = .ok (.putfield 1, 3) := by decide +kernel
theorem dJ2_init_2_11 : decode cJ2_init_2 11 = .ok (.aload_n 0, 1) := by decide +kernel
theorem dJ2_init_2_12 : decode cJ2_init_2 12 = .ok (.iload_n 3, 1) := by decide +kernel
theorem dJ2_init_2_13 : decode cJ2_init_2 13 = .ok (.putfield 64, 3) := by decide +kernel
theorem dJ2_init_2_16 : decode cJ2_init_2 16 = .ok (.return_, 1) := by decide +kernel
abbrev cJ2_replacementNode : ByteArray := prog_35_method_5_code
def yJ2_replacementNode : MethodName := ⟨RJ2, "replacementNode", "(Ljava/util/HashMap$Node;Ljava/util/HashMap$Node;)Ljava/util/HashMap$Node;"⟩
theorem dJ2_replacementNode_0 : decode cJ2_replacementNode 0 = .ok (.aload_n 1, 1) := by decide +kernel
theorem dJ2_replacementNode_1 : decode cJ2_replacementNode 1 = .ok (.checkcast 15, 3) := by decide +kernel
theorem dJ2_replacementNode_4 : decode cJ2_replacementNode 4 = .ok (.astore_n 3, 1) := by decide +kernel
theorem dJ2_replacementNode_5 : decode cJ2_replacementNode 5 = .ok (.new 15, 3) := by decide +kernel
theorem dJ2_replacementNode_8 : decode cJ2_replacementNode 8 = .ok (.dup, 1) := by decide +kernel
theorem dJ2_replacementNode_9 : decode cJ2_replacementNode 9 = .ok (.aload_n 3, 1) := by decide +kernel
theorem dJ2_replacementNode_10 : decode cJ2_replacementNode 10 = .ok (.getfield 36, 3) := by decide +kernel
theorem dJ2_replacementNode_13 : decode cJ2_replacementNode 13 = .ok (.aload_n 3, 1) := by decide +kernel
theorem dJ2_replacementNode_14 : decode cJ2_replacementNode 14 = .ok (.getfield 39, 3) := by decide +kernel
theorem dJ2_replacementNode_17 : decode cJ2_replacementNode 17 = .ok (.aload_n 3, 1) := by decide +kernel
theorem dJ2_replacementNode_18 : decode cJ2_replacementNode 18 = .ok (.getfield 43, 3) := by decide +kernel
theorem dJ2_replacementNode_21 : decode cJ2_replacementNode 21 = .ok (.aload_n 2, 1) := by decide +kernel
theorem dJ2_replacementNode_22 : decode cJ2_replacementNode 22 = .ok (.invokespecial 28, 3) := by decide +kernel
theorem dJ2_replacementNode_25 : decode cJ2_replacementNode 25 = .ok (.astore 4, 2) := by decide +kernel
theorem dJ2_replacementNode_27 : decode cJ2_replacementNode 27 = .ok (.aload_n 0, 1) := by decide +kernel
theorem dJ2_replacementNode_28 : decode cJ2_replacementNode 28 = .ok (.aload_n 3, 1) := by decide +kernel
theorem dJ2_replacementNode_29 : decode cJ2_replacementNode 29 = .ok (.aload 4, 2) := by decide +kernel
theorem dJ2_replacementNode_31 : decode cJ2_replacementNode 31 = .ok (.invokevirtual 46, 3) := by decide +kernel
theorem dJ2_replacementNode_34 : decode cJ2_replacementNode 34 = .ok (.aload 4, 2) := by decide +kernel
theorem dJ2_replacementNode_36 : decode cJ2_replacementNode 36 = .ok (.areturn, 1) := by decide +kernel
abbrev cJ2_transferLinks : ByteArray := prog_35_method_2_code
def yJ2_transferLinks : MethodName := ⟨RJ2, "transferLinks", "(Ljava/util/LinkedHashMap$Entry;Ljava/util/LinkedHashMap$Entry;)V"⟩
theorem dJ2_transferLinks_0 : decode cJ2_transferLinks 0 = .ok (.aload_n 2, 1) := by decide +kernel
theorem dJ2_transferLinks_1 : decode cJ2_transferLinks 1 = .ok (.aload_n 1, 1) := by decide +kernel
theorem dJ2_transferLinks_2 : decode cJ2_transferLinks 2 = .ok (.getfield 19, 3) := by decide +kernel
theorem dJ2_transferLinks_5 : decode cJ2_transferLinks 5 = .ok (.dup_x1, 1) := by decide +kernel
theorem dJ2_transferLinks_6 : decode cJ2_transferLinks 6 = .ok (.putfield 19, 3) := by decide +kernel
theorem dJ2_transferLinks_9 : decode cJ2_transferLinks 9 = .ok (.astore_n 3, 1) := by decide +kernel
theorem dJ2_transferLinks_10 : decode cJ2_transferLinks 10 = .ok (.aload_n 2, 1) := by decide +kernel
theorem dJ2_transferLinks_11 : decode cJ2_transferLinks 11 = .ok (.aload_n 1, 1) := by decide +kernel
theorem dJ2_transferLinks_12 : decode cJ2_transferLinks 12 = .ok (.getfield 14, 3) := by decide +kernel
theorem dJ2_transferLinks_15 : decode cJ2_transferLinks 15 = .ok (.dup_x1, 1) := by decide +kernel
theorem dJ2_transferLinks_16 : decode cJ2_transferLinks 16 = .ok (.putfield 14, 3) := by decide +kernel
theorem dJ2_transferLinks_19 : decode cJ2_transferLinks 19 = .ok (.astore 4, 2) := by decide +kernel
theorem dJ2_transferLinks_21 : decode cJ2_transferLinks 21 = .ok (.aload_n 3, 1) := by decide +kernel
theorem dJ2_transferLinks_22 : decode cJ2_transferLinks 22 = .ok (.ifnonnull 11, 3) := by decide +kernel
theorem dJ2_transferLinks_25 : decode cJ2_transferLinks 25 = .ok (.aload_n 0, 1) := by decide +kernel
theorem dJ2_transferLinks_26 : decode cJ2_transferLinks 26 = .ok (.aload_n 2, 1) := by decide +kernel
theorem dJ2_transferLinks_27 : decode cJ2_transferLinks 27 = .ok (.putfield 7, 3) := by decide +kernel
theorem dJ2_transferLinks_30 : decode cJ2_transferLinks 30 = .ok (.goto 8, 3) := by decide +kernel
theorem dJ2_transferLinks_33 : decode cJ2_transferLinks 33 = .ok (.aload_n 3, 1) := by decide +kernel
theorem dJ2_transferLinks_34 : decode cJ2_transferLinks 34 = .ok (.aload_n 2, 1) := by decide +kernel
theorem dJ2_transferLinks_35 : decode cJ2_transferLinks 35 = .ok (.putfield 14, 3) := by decide +kernel
theorem dJ2_transferLinks_38 : decode cJ2_transferLinks 38 = .ok (.aload 4, 2) := by decide +kernel
theorem dJ2_transferLinks_40 : decode cJ2_transferLinks 40 = .ok (.ifnonnull 11, 3) := by decide +kernel
theorem dJ2_transferLinks_43 : decode cJ2_transferLinks 43 = .ok (.aload_n 0, 1) := by decide +kernel
theorem dJ2_transferLinks_44 : decode cJ2_transferLinks 44 = .ok (.aload_n 2, 1) := by decide +kernel
theorem dJ2_transferLinks_45 : decode cJ2_transferLinks 45 = .ok (.putfield 11, 3) := by decide +kernel
theorem dJ2_transferLinks_48 : decode cJ2_transferLinks 48 = .ok (.goto 9, 3) := by decide +kernel
theorem dJ2_transferLinks_51 : decode cJ2_transferLinks 51 = .ok (.aload 4, 2) := by decide +kernel
theorem dJ2_transferLinks_53 : decode cJ2_transferLinks 53 = .ok (.aload_n 2, 1) := by decide +kernel
theorem dJ2_transferLinks_54 : decode cJ2_transferLinks 54 = .ok (.putfield 19, 3) := by decide +kernel
theorem dJ2_transferLinks_57 : decode cJ2_transferLinks 57 = .ok (.return_, 1) := by decide +kernel
abbrev cJ2_newNode : ByteArray := prog_35_method_4_code
def yJ2_newNode : MethodName := ⟨RJ2, "newNode", "(ILjava/lang/Object;Ljava/lang/Object;Ljava/util/HashMap$Node;)Ljava/util/HashMap$Node;"⟩
theorem dJ2_newNode_0 : decode cJ2_newNode 0 = .ok (.new 15, 3) := by decide +kernel
theorem dJ2_newNode_3 : decode cJ2_newNode 3 = .ok (.dup, 1) := by decide +kernel
theorem dJ2_newNode_4 : decode cJ2_newNode 4 = .ok (.iload_n 1, 1) := by decide +kernel
theorem dJ2_newNode_5 : decode cJ2_newNode 5 = .ok (.aload_n 2, 1) := by decide +kernel
theorem dJ2_newNode_6 : decode cJ2_newNode 6 = .ok (.aload_n 3, 1) := by decide +kernel
theorem dJ2_newNode_7 : decode cJ2_newNode 7 = .ok (.aload 4, 2) := by decide +kernel
theorem dJ2_newNode_9 : decode cJ2_newNode 9 = .ok (.invokespecial 28, 3) := by decide +kernel
theorem dJ2_newNode_12 : decode cJ2_newNode 12 = .ok (.astore 5, 2) := by decide +kernel
theorem dJ2_newNode_14 : decode cJ2_newNode 14 = .ok (.aload_n 0, 1) := by decide +kernel
theorem dJ2_newNode_15 : decode cJ2_newNode 15 = .ok (.aload 5, 2) := by decide +kernel
theorem dJ2_newNode_17 : decode cJ2_newNode 17 = .ok (.invokevirtual 32, 3) := by decide +kernel
theorem dJ2_newNode_20 : decode cJ2_newNode 20 = .ok (.aload 5, 2) := by decide +kernel
theorem dJ2_newNode_22 : decode cJ2_newNode 22 = .ok (.areturn, 1) := by decide +kernel
abbrev cJ2_linkNodeAtEnd : ByteArray := prog_35_method_1_code
def yJ2_linkNodeAtEnd : MethodName := ⟨RJ2, "linkNodeAtEnd", "(Ljava/util/LinkedHashMap$Entry;)V"⟩
theorem dJ2_linkNodeAtEnd_0 : decode cJ2_linkNodeAtEnd 0 = .ok (.aload_n 0, 1) := by decide +kernel
theorem dJ2_linkNodeAtEnd_1 : decode cJ2_linkNodeAtEnd 1 = .ok (.getfield 1, 3) := by decide +kernel
theorem dJ2_linkNodeAtEnd_4 : decode cJ2_linkNodeAtEnd 4 = .ok (.iconst 1, 1) := by decide +kernel
theorem dJ2_linkNodeAtEnd_5 : decode cJ2_linkNodeAtEnd 5 = .ok (.if_icmp .ne 38, 3) := by decide +kernel
theorem dJ2_linkNodeAtEnd_8 : decode cJ2_linkNodeAtEnd 8 = .ok (.aload_n 0, 1) := by decide +kernel
theorem dJ2_linkNodeAtEnd_9 : decode cJ2_linkNodeAtEnd 9 = .ok (.getfield 7, 3) := by decide +kernel
theorem dJ2_linkNodeAtEnd_12 : decode cJ2_linkNodeAtEnd 12 = .ok (.astore_n 2, 1) := by decide +kernel
theorem dJ2_linkNodeAtEnd_13 : decode cJ2_linkNodeAtEnd 13 = .ok (.aload_n 0, 1) := by decide +kernel
theorem dJ2_linkNodeAtEnd_14 : decode cJ2_linkNodeAtEnd 14 = .ok (.aload_n 1, 1) := by decide +kernel
theorem dJ2_linkNodeAtEnd_15 : decode cJ2_linkNodeAtEnd 15 = .ok (.putfield 7, 3) := by decide +kernel
theorem dJ2_linkNodeAtEnd_18 : decode cJ2_linkNodeAtEnd 18 = .ok (.aload_n 2, 1) := by decide +kernel
theorem dJ2_linkNodeAtEnd_19 : decode cJ2_linkNodeAtEnd 19 = .ok (.ifnonnull 11, 3) := by decide +kernel
theorem dJ2_linkNodeAtEnd_22 : decode cJ2_linkNodeAtEnd 22 = .ok (.aload_n 0, 1) := by decide +kernel
theorem dJ2_linkNodeAtEnd_23 : decode cJ2_linkNodeAtEnd 23 = .ok (.aload_n 1, 1) := by decide +kernel
theorem dJ2_linkNodeAtEnd_24 : decode cJ2_linkNodeAtEnd 24 = .ok (.putfield 11, 3) := by decide +kernel
theorem dJ2_linkNodeAtEnd_27 : decode cJ2_linkNodeAtEnd 27 = .ok (.goto 13, 3) := by decide +kernel
theorem dJ2_linkNodeAtEnd_30 : decode cJ2_linkNodeAtEnd 30 = .ok (.aload_n 1, 1) := by decide +kernel
theorem dJ2_linkNodeAtEnd_31 : decode cJ2_linkNodeAtEnd 31 = .ok (.aload_n 2, 1) := by decide +kernel
theorem dJ2_linkNodeAtEnd_32 : decode cJ2_linkNodeAtEnd 32 = .ok (.putfield 14, 3) := by decide +kernel
theorem dJ2_linkNodeAtEnd_35 : decode cJ2_linkNodeAtEnd 35 = .ok (.aload_n 2, 1) := by decide +kernel
theorem dJ2_linkNodeAtEnd_36 : decode cJ2_linkNodeAtEnd 36 = .ok (.aload_n 1, 1) := by decide +kernel
theorem dJ2_linkNodeAtEnd_37 : decode cJ2_linkNodeAtEnd 37 = .ok (.putfield 19, 3) := by decide +kernel
theorem dJ2_linkNodeAtEnd_40 : decode cJ2_linkNodeAtEnd 40 = .ok (.goto 35, 3) := by decide +kernel
theorem dJ2_linkNodeAtEnd_43 : decode cJ2_linkNodeAtEnd 43 = .ok (.aload_n 0, 1) := by decide +kernel
theorem dJ2_linkNodeAtEnd_44 : decode cJ2_linkNodeAtEnd 44 = .ok (.getfield 11, 3) := by decide +kernel
theorem dJ2_linkNodeAtEnd_47 : decode cJ2_linkNodeAtEnd 47 = .ok (.astore_n 2, 1) := by decide +kernel
theorem dJ2_linkNodeAtEnd_48 : decode cJ2_linkNodeAtEnd 48 = .ok (.aload_n 0, 1) := by decide +kernel
theorem dJ2_linkNodeAtEnd_49 : decode cJ2_linkNodeAtEnd 49 = .ok (.aload_n 1, 1) := by decide +kernel
theorem dJ2_linkNodeAtEnd_50 : decode cJ2_linkNodeAtEnd 50 = .ok (.putfield 11, 3) := by decide +kernel
theorem dJ2_linkNodeAtEnd_53 : decode cJ2_linkNodeAtEnd 53 = .ok (.aload_n 2, 1) := by decide +kernel
theorem dJ2_linkNodeAtEnd_54 : decode cJ2_linkNodeAtEnd 54 = .ok (.ifnonnull 11, 3) := by decide +kernel
theorem dJ2_linkNodeAtEnd_57 : decode cJ2_linkNodeAtEnd 57 = .ok (.aload_n 0, 1) := by decide +kernel
theorem dJ2_linkNodeAtEnd_58 : decode cJ2_linkNodeAtEnd 58 = .ok (.aload_n 1, 1) := by decide +kernel
theorem dJ2_linkNodeAtEnd_59 : decode cJ2_linkNodeAtEnd 59 = .ok (.putfield 7, 3) := by decide +kernel
theorem dJ2_linkNodeAtEnd_62 : decode cJ2_linkNodeAtEnd 62 = .ok (.goto 13, 3) := by decide +kernel
theorem dJ2_linkNodeAtEnd_65 : decode cJ2_linkNodeAtEnd 65 = .ok (.aload_n 1, 1) := by decide +kernel
theorem dJ2_linkNodeAtEnd_66 : decode cJ2_linkNodeAtEnd 66 = .ok (.aload_n 2, 1) := by decide +kernel
theorem dJ2_linkNodeAtEnd_67 : decode cJ2_linkNodeAtEnd 67 = .ok (.putfield 19, 3) := by decide +kernel
theorem dJ2_linkNodeAtEnd_70 : decode cJ2_linkNodeAtEnd 70 = .ok (.aload_n 2, 1) := by decide +kernel
theorem dJ2_linkNodeAtEnd_71 : decode cJ2_linkNodeAtEnd 71 = .ok (.aload_n 1, 1) := by decide +kernel
theorem dJ2_linkNodeAtEnd_72 : decode cJ2_linkNodeAtEnd 72 = .ok (.putfield 14, 3) := by decide +kernel
theorem dJ2_linkNodeAtEnd_75 : decode cJ2_linkNodeAtEnd 75 = .ok (.return_, 1) := by decide +kernel
abbrev cJ2_newTreeNode : ByteArray := prog_35_method_6_code
def yJ2_newTreeNode : MethodName := ⟨RJ2, "newTreeNode", "(ILjava/lang/Object;Ljava/lang/Object;Ljava/util/HashMap$Node;)Ljava/util/HashMap$TreeNode;"⟩
theorem dJ2_newTreeNode_0 : decode cJ2_newTreeNode 0 = .ok (.new 50, 3) := by decide +kernel
theorem dJ2_newTreeNode_3 : decode cJ2_newTreeNode 3 = .ok (.dup, 1) := by decide +kernel
theorem dJ2_newTreeNode_4 : decode cJ2_newTreeNode 4 = .ok (.iload_n 1, 1) := by decide +kernel
theorem dJ2_newTreeNode_5 : decode cJ2_newTreeNode 5 = .ok (.aload_n 2, 1) := by decide +kernel
theorem dJ2_newTreeNode_6 : decode cJ2_newTreeNode 6 = .ok (.aload_n 3, 1) := by decide +kernel
theorem dJ2_newTreeNode_7 : decode cJ2_newTreeNode 7 = .ok (.aload 4, 2) := by decide +kernel
theorem dJ2_newTreeNode_9 : decode cJ2_newTreeNode 9 = .ok (.invokespecial 52, 3) := by decide +kernel
theorem dJ2_newTreeNode_12 : decode cJ2_newTreeNode 12 = .ok (.astore 5, 2) := by decide +kernel
theorem dJ2_newTreeNode_14 : decode cJ2_newTreeNode 14 = .ok (.aload_n 0, 1) := by decide +kernel
theorem dJ2_newTreeNode_15 : decode cJ2_newTreeNode 15 = .ok (.aload 5, 2) := by decide +kernel
theorem dJ2_newTreeNode_17 : decode cJ2_newTreeNode 17 = .ok (.invokevirtual 32, 3) := by decide +kernel
theorem dJ2_newTreeNode_20 : decode cJ2_newTreeNode 20 = .ok (.aload 5, 2) := by decide +kernel
theorem dJ2_newTreeNode_22 : decode cJ2_newTreeNode 22 = .ok (.areturn, 1) := by decide +kernel
abbrev cJ2_replacementTreeNode : ByteArray := prog_35_method_7_code
def yJ2_replacementTreeNode : MethodName := ⟨RJ2, "replacementTreeNode", "(Ljava/util/HashMap$Node;Ljava/util/HashMap$Node;)Ljava/util/HashMap$TreeNode;"⟩
theorem dJ2_replacementTreeNode_0 : decode cJ2_replacementTreeNode 0 = .ok (.aload_n 1, 1) := by decide +kernel
theorem dJ2_replacementTreeNode_1 : decode cJ2_replacementTreeNode 1 = .ok (.checkcast 15, 3) := by decide +kernel
theorem dJ2_replacementTreeNode_4 : decode cJ2_replacementTreeNode 4 = .ok (.astore_n 3, 1) := by decide +kernel
theorem dJ2_replacementTreeNode_5 : decode cJ2_replacementTreeNode 5 = .ok (.new 50, 3) := by decide +kernel
theorem dJ2_replacementTreeNode_8 : decode cJ2_replacementTreeNode 8 = .ok (.dup, 1) := by decide +kernel
theorem dJ2_replacementTreeNode_9 : decode cJ2_replacementTreeNode 9 = .ok (.aload_n 3, 1) := by decide +kernel
theorem dJ2_replacementTreeNode_10 : decode cJ2_replacementTreeNode 10 = .ok (.getfield 36, 3) := by decide +kernel
theorem dJ2_replacementTreeNode_13 : decode cJ2_replacementTreeNode 13 = .ok (.aload_n 3, 1) := by decide +kernel
theorem dJ2_replacementTreeNode_14 : decode cJ2_replacementTreeNode 14 = .ok (.getfield 39, 3) := by decide +kernel
theorem dJ2_replacementTreeNode_17 : decode cJ2_replacementTreeNode 17 = .ok (.aload_n 3, 1) := by decide +kernel
theorem dJ2_replacementTreeNode_18 : decode cJ2_replacementTreeNode 18 = .ok (.getfield 43, 3) := by decide +kernel
theorem dJ2_replacementTreeNode_21 : decode cJ2_replacementTreeNode 21 = .ok (.aload_n 2, 1) := by decide +kernel
theorem dJ2_replacementTreeNode_22 : decode cJ2_replacementTreeNode 22 = .ok (.invokespecial 52, 3) := by decide +kernel
theorem dJ2_replacementTreeNode_25 : decode cJ2_replacementTreeNode 25 = .ok (.astore 4, 2) := by decide +kernel
theorem dJ2_replacementTreeNode_27 : decode cJ2_replacementTreeNode 27 = .ok (.aload_n 0, 1) := by decide +kernel
theorem dJ2_replacementTreeNode_28 : decode cJ2_replacementTreeNode 28 = .ok (.aload_n 3, 1) := by decide +kernel
theorem dJ2_replacementTreeNode_29 : decode cJ2_replacementTreeNode 29 = .ok (.aload 4, 2) := by decide +kernel
theorem dJ2_replacementTreeNode_31 : decode cJ2_replacementTreeNode 31 = .ok (.invokevirtual 46, 3) := by decide +kernel
theorem dJ2_replacementTreeNode_34 : decode cJ2_replacementTreeNode 34 = .ok (.aload 4, 2) := by decide +kernel
theorem dJ2_replacementTreeNode_36 : decode cJ2_replacementTreeNode 36 = .ok (.areturn, 1) := by decide +kernel
abbrev cJ2_afterNodeAccess : ByteArray := prog_35_method_10_code
def yJ2_afterNodeAccess : MethodName := ⟨RJ2, "afterNodeAccess", "(Ljava/util/HashMap$Node;)V"⟩
theorem dJ2_afterNodeAccess_0 : decode cJ2_afterNodeAccess 0 = .ok (.aload_n 0, 1) := by decide +kernel
theorem dJ2_afterNodeAccess_1 : decode cJ2_afterNodeAccess 1 = .ok (.getfield 1, 3) := by decide +kernel
theorem dJ2_afterNodeAccess_4 : decode cJ2_afterNodeAccess 4 = .ok (.iconst 2, 1) := by decide +kernel
theorem dJ2_afterNodeAccess_5 : decode cJ2_afterNodeAccess 5 = .ok (.if_icmp .eq 17, 3) := by decide +kernel
theorem dJ2_afterNodeAccess_8 : decode cJ2_afterNodeAccess 8 = .ok (.aload_n 0, 1) := by decide +kernel
theorem dJ2_afterNodeAccess_9 : decode cJ2_afterNodeAccess 9 = .ok (.getfield 1, 3) := by decide +kernel
theorem dJ2_afterNodeAccess_12 : decode cJ2_afterNodeAccess 12 = .ok (.ifCond .ne 129, 3) := by decide +kernel
theorem dJ2_afterNodeAccess_15 : decode cJ2_afterNodeAccess 15 = .ok (.aload_n 0, 1) := by decide +kernel
theorem dJ2_afterNodeAccess_16 : decode cJ2_afterNodeAccess 16 = .ok (.getfield 64, 3) := by decide +kernel
theorem dJ2_afterNodeAccess_19 : decode cJ2_afterNodeAccess 19 = .ok (.ifCond .eq 122, 3) := by decide +kernel
theorem dJ2_afterNodeAccess_22 : decode cJ2_afterNodeAccess 22 = .ok (.aload_n 0, 1) := by decide +kernel
theorem dJ2_afterNodeAccess_23 : decode cJ2_afterNodeAccess 23 = .ok (.getfield 11, 3) := by decide +kernel
theorem dJ2_afterNodeAccess_26 : decode cJ2_afterNodeAccess 26 = .ok (.dup, 1) := by decide +kernel
theorem dJ2_afterNodeAccess_27 : decode cJ2_afterNodeAccess 27 = .ok (.astore_n 2, 1) := by decide +kernel
theorem dJ2_afterNodeAccess_28 : decode cJ2_afterNodeAccess 28 = .ok (.aload_n 1, 1) := by decide +kernel
theorem dJ2_afterNodeAccess_29 : decode cJ2_afterNodeAccess 29 = .ok (.if_acmp .eq 112, 3) := by decide +kernel
theorem dJ2_afterNodeAccess_32 : decode cJ2_afterNodeAccess 32 = .ok (.aload_n 1, 1) := by decide +kernel
theorem dJ2_afterNodeAccess_33 : decode cJ2_afterNodeAccess 33 = .ok (.checkcast 15, 3) := by decide +kernel
theorem dJ2_afterNodeAccess_36 : decode cJ2_afterNodeAccess 36 = .ok (.astore 4, 2) := by decide +kernel
theorem dJ2_afterNodeAccess_38 : decode cJ2_afterNodeAccess 38 = .ok (.aload 4, 2) := by decide +kernel
theorem dJ2_afterNodeAccess_40 : decode cJ2_afterNodeAccess 40 = .ok (.getfield 19, 3) := by decide +kernel
theorem dJ2_afterNodeAccess_43 : decode cJ2_afterNodeAccess 43 = .ok (.astore 5, 2) := by decide +kernel
theorem dJ2_afterNodeAccess_45 : decode cJ2_afterNodeAccess 45 = .ok (.aload 4, 2) := by decide +kernel
theorem dJ2_afterNodeAccess_47 : decode cJ2_afterNodeAccess 47 = .ok (.getfield 14, 3) := by decide +kernel
theorem dJ2_afterNodeAccess_50 : decode cJ2_afterNodeAccess 50 = .ok (.astore 6, 2) := by decide +kernel
theorem dJ2_afterNodeAccess_52 : decode cJ2_afterNodeAccess 52 = .ok (.aload 4, 2) := by decide +kernel
theorem dJ2_afterNodeAccess_54 : decode cJ2_afterNodeAccess 54 = .ok (.aconst_null, 1) := by decide +kernel
theorem dJ2_afterNodeAccess_55 : decode cJ2_afterNodeAccess 55 = .ok (.putfield 14, 3) := by decide +kernel
theorem dJ2_afterNodeAccess_58 : decode cJ2_afterNodeAccess 58 = .ok (.aload 5, 2) := by decide +kernel
theorem dJ2_afterNodeAccess_60 : decode cJ2_afterNodeAccess 60 = .ok (.ifnonnull 12, 3) := by decide +kernel
theorem dJ2_afterNodeAccess_63 : decode cJ2_afterNodeAccess 63 = .ok (.aload_n 0, 1) := by decide +kernel
theorem dJ2_afterNodeAccess_64 : decode cJ2_afterNodeAccess 64 = .ok (.aload 6, 2) := by decide +kernel
theorem dJ2_afterNodeAccess_66 : decode cJ2_afterNodeAccess 66 = .ok (.putfield 7, 3) := by decide +kernel
theorem dJ2_afterNodeAccess_69 : decode cJ2_afterNodeAccess 69 = .ok (.goto 10, 3) := by decide +kernel
theorem dJ2_afterNodeAccess_72 : decode cJ2_afterNodeAccess 72 = .ok (.aload 5, 2) := by decide +kernel
theorem dJ2_afterNodeAccess_74 : decode cJ2_afterNodeAccess 74 = .ok (.aload 6, 2) := by decide +kernel
theorem dJ2_afterNodeAccess_76 : decode cJ2_afterNodeAccess 76 = .ok (.putfield 14, 3) := by decide +kernel
theorem dJ2_afterNodeAccess_79 : decode cJ2_afterNodeAccess 79 = .ok (.aload 6, 2) := by decide +kernel
theorem dJ2_afterNodeAccess_81 : decode cJ2_afterNodeAccess 81 = .ok (.ifnull 13, 3) := by decide +kernel
theorem dJ2_afterNodeAccess_84 : decode cJ2_afterNodeAccess 84 = .ok (.aload 6, 2) := by decide +kernel
theorem dJ2_afterNodeAccess_86 : decode cJ2_afterNodeAccess 86 = .ok (.aload 5, 2) := by decide +kernel
theorem dJ2_afterNodeAccess_88 : decode cJ2_afterNodeAccess 88 = .ok (.putfield 19, 3) := by decide +kernel
theorem dJ2_afterNodeAccess_91 : decode cJ2_afterNodeAccess 91 = .ok (.goto 6, 3) := by decide +kernel
theorem dJ2_afterNodeAccess_94 : decode cJ2_afterNodeAccess 94 = .ok (.aload 5, 2) := by decide +kernel
theorem dJ2_afterNodeAccess_96 : decode cJ2_afterNodeAccess 96 = .ok (.astore_n 2, 1) := by decide +kernel
theorem dJ2_afterNodeAccess_97 : decode cJ2_afterNodeAccess 97 = .ok (.aload_n 2, 1) := by decide +kernel
theorem dJ2_afterNodeAccess_98 : decode cJ2_afterNodeAccess 98 = .ok (.ifnonnull 12, 3) := by decide +kernel
theorem dJ2_afterNodeAccess_101 : decode cJ2_afterNodeAccess 101 = .ok (.aload_n 0, 1) := by decide +kernel
theorem dJ2_afterNodeAccess_102 : decode cJ2_afterNodeAccess 102 = .ok (.aload 4, 2) := by decide +kernel
theorem dJ2_afterNodeAccess_104 : decode cJ2_afterNodeAccess 104 = .ok (.putfield 7, 3) := by decide +kernel
theorem dJ2_afterNodeAccess_107 : decode cJ2_afterNodeAccess 107 = .ok (.goto 15, 3) := by decide +kernel
theorem dJ2_afterNodeAccess_110 : decode cJ2_afterNodeAccess 110 = .ok (.aload 4, 2) := by decide +kernel
theorem dJ2_afterNodeAccess_112 : decode cJ2_afterNodeAccess 112 = .ok (.aload_n 2, 1) := by decide +kernel
theorem dJ2_afterNodeAccess_113 : decode cJ2_afterNodeAccess 113 = .ok (.putfield 19, 3) := by decide +kernel
theorem dJ2_afterNodeAccess_116 : decode cJ2_afterNodeAccess 116 = .ok (.aload_n 2, 1) := by decide +kernel
theorem dJ2_afterNodeAccess_117 : decode cJ2_afterNodeAccess 117 = .ok (.aload 4, 2) := by decide +kernel
theorem dJ2_afterNodeAccess_119 : decode cJ2_afterNodeAccess 119 = .ok (.putfield 14, 3) := by decide +kernel
theorem dJ2_afterNodeAccess_122 : decode cJ2_afterNodeAccess 122 = .ok (.aload_n 0, 1) := by decide +kernel
theorem dJ2_afterNodeAccess_123 : decode cJ2_afterNodeAccess 123 = .ok (.aload 4, 2) := by decide +kernel
theorem dJ2_afterNodeAccess_125 : decode cJ2_afterNodeAccess 125 = .ok (.putfield 11, 3) := by decide +kernel
theorem dJ2_afterNodeAccess_128 : decode cJ2_afterNodeAccess 128 = .ok (.aload_n 0, 1) := by decide +kernel
theorem dJ2_afterNodeAccess_129 : decode cJ2_afterNodeAccess 129 = .ok (.dup, 1) := by decide +kernel
theorem dJ2_afterNodeAccess_130 : decode cJ2_afterNodeAccess 130 = .ok (.getfield 68, 3) := by decide +kernel
theorem dJ2_afterNodeAccess_133 : decode cJ2_afterNodeAccess 133 = .ok (.iconst 1, 1) := by decide +kernel
theorem dJ2_afterNodeAccess_134 : decode cJ2_afterNodeAccess 134 = .ok (.iadd, 1) := by decide +kernel
theorem dJ2_afterNodeAccess_135 : decode cJ2_afterNodeAccess 135 = .ok (.putfield 68, 3) := by decide +kernel
theorem dJ2_afterNodeAccess_138 : decode cJ2_afterNodeAccess 138 = .ok (.goto 127, 3) := by decide +kernel
theorem dJ2_afterNodeAccess_141 : decode cJ2_afterNodeAccess 141 = .ok (.aload_n 0, 1) := by decide +kernel
theorem dJ2_afterNodeAccess_142 : decode cJ2_afterNodeAccess 142 = .ok (.getfield 1, 3) := by decide +kernel
theorem dJ2_afterNodeAccess_145 : decode cJ2_afterNodeAccess 145 = .ok (.iconst 1, 1) := by decide +kernel
theorem dJ2_afterNodeAccess_146 : decode cJ2_afterNodeAccess 146 = .ok (.if_icmp .ne 119, 3) := by decide +kernel
theorem dJ2_afterNodeAccess_149 : decode cJ2_afterNodeAccess 149 = .ok (.aload_n 0, 1) := by decide +kernel
theorem dJ2_afterNodeAccess_150 : decode cJ2_afterNodeAccess 150 = .ok (.getfield 7, 3) := by decide +kernel
theorem dJ2_afterNodeAccess_153 : decode cJ2_afterNodeAccess 153 = .ok (.dup, 1) := by decide +kernel
theorem dJ2_afterNodeAccess_154 : decode cJ2_afterNodeAccess 154 = .ok (.astore_n 3, 1) := by decide +kernel
theorem dJ2_afterNodeAccess_155 : decode cJ2_afterNodeAccess 155 = .ok (.aload_n 1, 1) := by decide +kernel
theorem dJ2_afterNodeAccess_156 : decode cJ2_afterNodeAccess 156 = .ok (.if_acmp .eq 109, 3) := by decide +kernel
theorem dJ2_afterNodeAccess_159 : decode cJ2_afterNodeAccess 159 = .ok (.aload_n 1, 1) := by decide +kernel
theorem dJ2_afterNodeAccess_160 : decode cJ2_afterNodeAccess 160 = .ok (.checkcast 15, 3) := by decide +kernel
theorem dJ2_afterNodeAccess_163 : decode cJ2_afterNodeAccess 163 = .ok (.astore 4, 2) := by decide +kernel
theorem dJ2_afterNodeAccess_165 : decode cJ2_afterNodeAccess 165 = .ok (.aload 4, 2) := by decide +kernel
theorem dJ2_afterNodeAccess_167 : decode cJ2_afterNodeAccess 167 = .ok (.getfield 19, 3) := by decide +kernel
theorem dJ2_afterNodeAccess_170 : decode cJ2_afterNodeAccess 170 = .ok (.astore 5, 2) := by decide +kernel
theorem dJ2_afterNodeAccess_172 : decode cJ2_afterNodeAccess 172 = .ok (.aload 4, 2) := by decide +kernel
theorem dJ2_afterNodeAccess_174 : decode cJ2_afterNodeAccess 174 = .ok (.getfield 14, 3) := by decide +kernel
theorem dJ2_afterNodeAccess_177 : decode cJ2_afterNodeAccess 177 = .ok (.astore 6, 2) := by decide +kernel
theorem dJ2_afterNodeAccess_179 : decode cJ2_afterNodeAccess 179 = .ok (.aload 4, 2) := by decide +kernel
theorem dJ2_afterNodeAccess_181 : decode cJ2_afterNodeAccess 181 = .ok (.aconst_null, 1) := by decide +kernel
theorem dJ2_afterNodeAccess_182 : decode cJ2_afterNodeAccess 182 = .ok (.putfield 19, 3) := by decide +kernel
theorem dJ2_afterNodeAccess_185 : decode cJ2_afterNodeAccess 185 = .ok (.aload 6, 2) := by decide +kernel
theorem dJ2_afterNodeAccess_187 : decode cJ2_afterNodeAccess 187 = .ok (.ifnonnull 12, 3) := by decide +kernel
theorem dJ2_afterNodeAccess_190 : decode cJ2_afterNodeAccess 190 = .ok (.aload_n 0, 1) := by decide +kernel
theorem dJ2_afterNodeAccess_191 : decode cJ2_afterNodeAccess 191 = .ok (.aload 5, 2) := by decide +kernel
theorem dJ2_afterNodeAccess_193 : decode cJ2_afterNodeAccess 193 = .ok (.putfield 11, 3) := by decide +kernel
theorem dJ2_afterNodeAccess_196 : decode cJ2_afterNodeAccess 196 = .ok (.goto 10, 3) := by decide +kernel
theorem dJ2_afterNodeAccess_199 : decode cJ2_afterNodeAccess 199 = .ok (.aload 6, 2) := by decide +kernel
theorem dJ2_afterNodeAccess_201 : decode cJ2_afterNodeAccess 201 = .ok (.aload 5, 2) := by decide +kernel
theorem dJ2_afterNodeAccess_203 : decode cJ2_afterNodeAccess 203 = .ok (.putfield 19, 3) := by decide +kernel
theorem dJ2_afterNodeAccess_206 : decode cJ2_afterNodeAccess 206 = .ok (.aload 5, 2) := by decide +kernel
theorem dJ2_afterNodeAccess_208 : decode cJ2_afterNodeAccess 208 = .ok (.ifnull 13, 3) := by decide +kernel
theorem dJ2_afterNodeAccess_211 : decode cJ2_afterNodeAccess 211 = .ok (.aload 5, 2) := by decide +kernel
theorem dJ2_afterNodeAccess_213 : decode cJ2_afterNodeAccess 213 = .ok (.aload 6, 2) := by decide +kernel
theorem dJ2_afterNodeAccess_215 : decode cJ2_afterNodeAccess 215 = .ok (.putfield 14, 3) := by decide +kernel
theorem dJ2_afterNodeAccess_218 : decode cJ2_afterNodeAccess 218 = .ok (.goto 6, 3) := by decide +kernel
theorem dJ2_afterNodeAccess_221 : decode cJ2_afterNodeAccess 221 = .ok (.aload 6, 2) := by decide +kernel
theorem dJ2_afterNodeAccess_223 : decode cJ2_afterNodeAccess 223 = .ok (.astore_n 3, 1) := by decide +kernel
theorem dJ2_afterNodeAccess_224 : decode cJ2_afterNodeAccess 224 = .ok (.aload_n 3, 1) := by decide +kernel
theorem dJ2_afterNodeAccess_225 : decode cJ2_afterNodeAccess 225 = .ok (.ifnonnull 12, 3) := by decide +kernel
theorem dJ2_afterNodeAccess_228 : decode cJ2_afterNodeAccess 228 = .ok (.aload_n 0, 1) := by decide +kernel
theorem dJ2_afterNodeAccess_229 : decode cJ2_afterNodeAccess 229 = .ok (.aload 4, 2) := by decide +kernel
theorem dJ2_afterNodeAccess_231 : decode cJ2_afterNodeAccess 231 = .ok (.putfield 11, 3) := by decide +kernel
theorem dJ2_afterNodeAccess_234 : decode cJ2_afterNodeAccess 234 = .ok (.goto 15, 3) := by decide +kernel
theorem dJ2_afterNodeAccess_237 : decode cJ2_afterNodeAccess 237 = .ok (.aload 4, 2) := by decide +kernel
theorem dJ2_afterNodeAccess_239 : decode cJ2_afterNodeAccess 239 = .ok (.aload_n 3, 1) := by decide +kernel
theorem dJ2_afterNodeAccess_240 : decode cJ2_afterNodeAccess 240 = .ok (.putfield 14, 3) := by decide +kernel
theorem dJ2_afterNodeAccess_243 : decode cJ2_afterNodeAccess 243 = .ok (.aload_n 3, 1) := by decide +kernel
theorem dJ2_afterNodeAccess_244 : decode cJ2_afterNodeAccess 244 = .ok (.aload 4, 2) := by decide +kernel
theorem dJ2_afterNodeAccess_246 : decode cJ2_afterNodeAccess 246 = .ok (.putfield 19, 3) := by decide +kernel
theorem dJ2_afterNodeAccess_249 : decode cJ2_afterNodeAccess 249 = .ok (.aload_n 0, 1) := by decide +kernel
theorem dJ2_afterNodeAccess_250 : decode cJ2_afterNodeAccess 250 = .ok (.aload 4, 2) := by decide +kernel
theorem dJ2_afterNodeAccess_252 : decode cJ2_afterNodeAccess 252 = .ok (.putfield 7, 3) := by decide +kernel
theorem dJ2_afterNodeAccess_255 : decode cJ2_afterNodeAccess 255 = .ok (.aload_n 0, 1) := by decide +kernel
theorem dJ2_afterNodeAccess_256 : decode cJ2_afterNodeAccess 256 = .ok (.dup, 1) := by decide +kernel
theorem dJ2_afterNodeAccess_257 : decode cJ2_afterNodeAccess 257 = .ok (.getfield 68, 3) := by decide +kernel
theorem dJ2_afterNodeAccess_260 : decode cJ2_afterNodeAccess 260 = .ok (.iconst 1, 1) := by decide +kernel
theorem dJ2_afterNodeAccess_261 : decode cJ2_afterNodeAccess 261 = .ok (.iadd, 1) := by decide +kernel
theorem dJ2_afterNodeAccess_262 : decode cJ2_afterNodeAccess 262 = .ok (.putfield 68, 3) := by decide +kernel
theorem dJ2_afterNodeAccess_265 : decode cJ2_afterNodeAccess 265 = .ok (.return_, 1) := by decide +kernel
abbrev cJ2_afterNodeInsertion : ByteArray := prog_35_method_9_code
def yJ2_afterNodeInsertion : MethodName := ⟨RJ2, "afterNodeInsertion", "(Z)V"⟩
theorem dJ2_afterNodeInsertion_0 : decode cJ2_afterNodeInsertion 0 = .ok (.iload_n 1, 1) := by decide +kernel
theorem dJ2_afterNodeInsertion_1 : decode cJ2_afterNodeInsertion 1 = .ok (.ifCond .eq 38, 3) := by decide +kernel
theorem dJ2_afterNodeInsertion_4 : decode cJ2_afterNodeInsertion 4 = .ok (.aload_n 0, 1) := by decide +kernel
theorem dJ2_afterNodeInsertion_5 : decode cJ2_afterNodeInsertion 5 = .ok (.getfield 7, 3) := by decide +kernel
theorem dJ2_afterNodeInsertion_8 : decode cJ2_afterNodeInsertion 8 = .ok (.dup, 1) := by decide +kernel
theorem dJ2_afterNodeInsertion_9 : decode cJ2_afterNodeInsertion 9 = .ok (.astore_n 2, 1) := by decide +kernel
theorem dJ2_afterNodeInsertion_10 : decode cJ2_afterNodeInsertion 10 = .ok (.ifnull 29, 3) := by decide +kernel
theorem dJ2_afterNodeInsertion_13 : decode cJ2_afterNodeInsertion 13 = .ok (.aload_n 0, 1) := by decide +kernel
theorem dJ2_afterNodeInsertion_14 : decode cJ2_afterNodeInsertion 14 = .ok (.aload_n 2, 1) := by decide +kernel
theorem dJ2_afterNodeInsertion_15 : decode cJ2_afterNodeInsertion 15 = .ok (.invokevirtual 53, 3) := by decide +kernel
theorem dJ2_afterNodeInsertion_18 : decode cJ2_afterNodeInsertion 18 = .ok (.ifCond .eq 21, 3) := by decide +kernel
theorem dJ2_afterNodeInsertion_21 : decode cJ2_afterNodeInsertion 21 = .ok (.aload_n 2, 1) := by decide +kernel
theorem dJ2_afterNodeInsertion_22 : decode cJ2_afterNodeInsertion 22 = .ok (.getfield 39, 3) := by decide +kernel
theorem dJ2_afterNodeInsertion_25 : decode cJ2_afterNodeInsertion 25 = .ok (.astore_n 3, 1) := by decide +kernel
theorem dJ2_afterNodeInsertion_26 : decode cJ2_afterNodeInsertion 26 = .ok (.aload_n 0, 1) := by decide +kernel
theorem dJ2_afterNodeInsertion_27 : decode cJ2_afterNodeInsertion 27 = .ok (.aload_n 3, 1) := by decide +kernel
theorem dJ2_afterNodeInsertion_28 : decode cJ2_afterNodeInsertion 28 = .ok (.invokestatic 57, 3) := by decide +kernel
theorem dJ2_afterNodeInsertion_31 : decode cJ2_afterNodeInsertion 31 = .ok (.aload_n 3, 1) := by decide +kernel
theorem dJ2_afterNodeInsertion_32 : decode cJ2_afterNodeInsertion 32 = .ok (.aconst_null, 1) := by decide +kernel
theorem dJ2_afterNodeInsertion_33 : decode cJ2_afterNodeInsertion 33 = .ok (.iconst 0, 1) := by decide +kernel
theorem dJ2_afterNodeInsertion_34 : decode cJ2_afterNodeInsertion 34 = .ok (.iconst 1, 1) := by decide +kernel
theorem dJ2_afterNodeInsertion_35 : decode cJ2_afterNodeInsertion 35 = .ok (.invokevirtual 60, 3) := by decide +kernel
theorem dJ2_afterNodeInsertion_38 : decode cJ2_afterNodeInsertion 38 = .ok (.pop, 1) := by decide +kernel
theorem dJ2_afterNodeInsertion_39 : decode cJ2_afterNodeInsertion 39 = .ok (.return_, 1) := by decide +kernel
abbrev cJ2_removeEldestEntry : ByteArray := prog_35_method_23_code
def yJ2_removeEldestEntry : MethodName := ⟨RJ2, "removeEldestEntry", "(Ljava/util/Map$Entry;)Z"⟩
theorem dJ2_removeEldestEntry_0 : decode cJ2_removeEldestEntry 0 = .ok (.iconst 0, 1) := by decide +kernel
theorem dJ2_removeEldestEntry_1 : decode cJ2_removeEldestEntry 1 = .ok (.ireturn, 1) := by decide +kernel
abbrev cJ2_get : ByteArray := prog_35_method_20_code
def yJ2_get : MethodName := ⟨RJ2, "get", "(Ljava/lang/Object;)Ljava/lang/Object;"⟩
theorem dJ2_get_0 : decode cJ2_get 0 = .ok (.aload_n 0, 1) := by decide +kernel
theorem dJ2_get_1 : decode cJ2_get 1 = .ok (.aload_n 1, 1) := by decide +kernel
theorem dJ2_get_2 : decode cJ2_get 2 = .ok (.invokevirtual 99, 3) := by decide +kernel
theorem dJ2_get_5 : decode cJ2_get 5 = .ok (.dup, 1) := by decide +kernel
theorem dJ2_get_6 : decode cJ2_get 6 = .ok (.astore_n 2, 1) := by decide +kernel
theorem dJ2_get_7 : decode cJ2_get 7 = .ok (.ifnonnull 5, 3) := by decide +kernel
theorem dJ2_get_10 : decode cJ2_get 10 = .ok (.aconst_null, 1) := by decide +kernel
theorem dJ2_get_11 : decode cJ2_get 11 = .ok (.areturn, 1) := by decide +kernel
theorem dJ2_get_12 : decode cJ2_get 12 = .ok (.aload_n 0, 1) := by decide +kernel
theorem dJ2_get_13 : decode cJ2_get 13 = .ok (.getfield 64, 3) := by decide +kernel
theorem dJ2_get_16 : decode cJ2_get 16 = .ok (.ifCond .eq 8, 3) := by decide +kernel
theorem dJ2_get_19 : decode cJ2_get 19 = .ok (.aload_n 0, 1) := by decide +kernel
theorem dJ2_get_20 : decode cJ2_get 20 = .ok (.aload_n 2, 1) := by decide +kernel
theorem dJ2_get_21 : decode cJ2_get 21 = .ok (.invokevirtual 103, 3) := by decide +kernel
theorem dJ2_get_24 : decode cJ2_get 24 = .ok (.aload_n 2, 1) := by decide +kernel
theorem dJ2_get_25 : decode cJ2_get 25 = .ok (.getfield 107, 3) := by decide +kernel
theorem dJ2_get_28 : decode cJ2_get 28 = .ok (.areturn, 1) := by decide +kernel
abbrev cJ2_getOrDefault : ByteArray := prog_35_method_21_code
def yJ2_getOrDefault : MethodName := ⟨RJ2, "getOrDefault", "(Ljava/lang/Object;Ljava/lang/Object;)Ljava/lang/Object;"⟩
theorem dJ2_getOrDefault_0 : decode cJ2_getOrDefault 0 = .ok (.aload_n 0, 1) := by decide +kernel
theorem dJ2_getOrDefault_1 : decode cJ2_getOrDefault 1 = .ok (.aload_n 1, 1) := by decide +kernel
theorem dJ2_getOrDefault_2 : decode cJ2_getOrDefault 2 = .ok (.invokevirtual 99, 3) := by decide +kernel
theorem dJ2_getOrDefault_5 : decode cJ2_getOrDefault 5 = .ok (.dup, 1) := by decide +kernel
theorem dJ2_getOrDefault_6 : decode cJ2_getOrDefault 6 = .ok (.astore_n 3, 1) := by decide +kernel
theorem dJ2_getOrDefault_7 : decode cJ2_getOrDefault 7 = .ok (.ifnonnull 5, 3) := by decide +kernel
theorem dJ2_getOrDefault_10 : decode cJ2_getOrDefault 10 = .ok (.aload_n 2, 1) := by decide +kernel
theorem dJ2_getOrDefault_11 : decode cJ2_getOrDefault 11 = .ok (.areturn, 1) := by decide +kernel
theorem dJ2_getOrDefault_12 : decode cJ2_getOrDefault 12 = .ok (.aload_n 0, 1) := by decide +kernel
theorem dJ2_getOrDefault_13 : decode cJ2_getOrDefault 13 = .ok (.getfield 64, 3) := by decide +kernel
theorem dJ2_getOrDefault_16 : decode cJ2_getOrDefault 16 = .ok (.ifCond .eq 8, 3) := by decide +kernel
theorem dJ2_getOrDefault_19 : decode cJ2_getOrDefault 19 = .ok (.aload_n 0, 1) := by decide +kernel
theorem dJ2_getOrDefault_20 : decode cJ2_getOrDefault 20 = .ok (.aload_n 3, 1) := by decide +kernel
theorem dJ2_getOrDefault_21 : decode cJ2_getOrDefault 21 = .ok (.invokevirtual 103, 3) := by decide +kernel
theorem dJ2_getOrDefault_24 : decode cJ2_getOrDefault 24 = .ok (.aload_n 3, 1) := by decide +kernel
theorem dJ2_getOrDefault_25 : decode cJ2_getOrDefault 25 = .ok (.getfield 107, 3) := by decide +kernel
theorem dJ2_getOrDefault_28 : decode cJ2_getOrDefault 28 = .ok (.areturn, 1) := by decide +kernel
abbrev cJ2_afterNodeRemoval : ByteArray := prog_35_method_8_code
def yJ2_afterNodeRemoval : MethodName := ⟨RJ2, "afterNodeRemoval", "(Ljava/util/HashMap$Node;)V"⟩
theorem dJ2_afterNodeRemoval_0 : decode cJ2_afterNodeRemoval 0 = .ok (.aload_n 1, 1) := by decide +kernel
theorem dJ2_afterNodeRemoval_1 : decode cJ2_afterNodeRemoval 1 = .ok (.checkcast 15, 3) := by decide +kernel
theorem dJ2_afterNodeRemoval_4 : decode cJ2_afterNodeRemoval 4 = .ok (.astore_n 2, 1) := by decide +kernel
theorem dJ2_afterNodeRemoval_5 : decode cJ2_afterNodeRemoval 5 = .ok (.aload_n 2, 1) := by decide +kernel
theorem dJ2_afterNodeRemoval_6 : decode cJ2_afterNodeRemoval 6 = .ok (.getfield 19, 3) := by decide +kernel
theorem dJ2_afterNodeRemoval_9 : decode cJ2_afterNodeRemoval 9 = .ok (.astore_n 3, 1) := by decide +kernel
theorem dJ2_afterNodeRemoval_10 : decode cJ2_afterNodeRemoval 10 = .ok (.aload_n 2, 1) := by decide +kernel
theorem dJ2_afterNodeRemoval_11 : decode cJ2_afterNodeRemoval 11 = .ok (.getfield 14, 3) := by decide +kernel
theorem dJ2_afterNodeRemoval_14 : decode cJ2_afterNodeRemoval 14 = .ok (.astore 4, 2) := by decide +kernel
theorem dJ2_afterNodeRemoval_16 : decode cJ2_afterNodeRemoval 16 = .ok (.aload_n 2, 1) := by decide +kernel
theorem dJ2_afterNodeRemoval_17 : decode cJ2_afterNodeRemoval 17 = .ok (.aload_n 2, 1) := by decide +kernel
theorem dJ2_afterNodeRemoval_18 : decode cJ2_afterNodeRemoval 18 = .ok (.aconst_null, 1) := by decide +kernel
theorem dJ2_afterNodeRemoval_19 : decode cJ2_afterNodeRemoval 19 = .ok (.dup_x1, 1) := by decide +kernel
theorem dJ2_afterNodeRemoval_20 : decode cJ2_afterNodeRemoval 20 = .ok (.putfield 14, 3) := by decide +kernel
theorem dJ2_afterNodeRemoval_23 : decode cJ2_afterNodeRemoval 23 = .ok (.putfield 19, 3) := by decide +kernel
theorem dJ2_afterNodeRemoval_26 : decode cJ2_afterNodeRemoval 26 = .ok (.aload_n 3, 1) := by decide +kernel
theorem dJ2_afterNodeRemoval_27 : decode cJ2_afterNodeRemoval 27 = .ok (.ifnonnull 12, 3) := by decide +kernel
theorem dJ2_afterNodeRemoval_30 : decode cJ2_afterNodeRemoval 30 = .ok (.aload_n 0, 1) := by decide +kernel
theorem dJ2_afterNodeRemoval_31 : decode cJ2_afterNodeRemoval 31 = .ok (.aload 4, 2) := by decide +kernel
theorem dJ2_afterNodeRemoval_33 : decode cJ2_afterNodeRemoval 33 = .ok (.putfield 7, 3) := by decide +kernel
theorem dJ2_afterNodeRemoval_36 : decode cJ2_afterNodeRemoval 36 = .ok (.goto 9, 3) := by decide +kernel
theorem dJ2_afterNodeRemoval_39 : decode cJ2_afterNodeRemoval 39 = .ok (.aload_n 3, 1) := by decide +kernel
theorem dJ2_afterNodeRemoval_40 : decode cJ2_afterNodeRemoval 40 = .ok (.aload 4, 2) := by decide +kernel
theorem dJ2_afterNodeRemoval_42 : decode cJ2_afterNodeRemoval 42 = .ok (.putfield 14, 3) := by decide +kernel
theorem dJ2_afterNodeRemoval_45 : decode cJ2_afterNodeRemoval 45 = .ok (.aload 4, 2) := by decide +kernel
theorem dJ2_afterNodeRemoval_47 : decode cJ2_afterNodeRemoval 47 = .ok (.ifnonnull 11, 3) := by decide +kernel
theorem dJ2_afterNodeRemoval_50 : decode cJ2_afterNodeRemoval 50 = .ok (.aload_n 0, 1) := by decide +kernel
theorem dJ2_afterNodeRemoval_51 : decode cJ2_afterNodeRemoval 51 = .ok (.aload_n 3, 1) := by decide +kernel
theorem dJ2_afterNodeRemoval_52 : decode cJ2_afterNodeRemoval 52 = .ok (.putfield 11, 3) := by decide +kernel
theorem dJ2_afterNodeRemoval_55 : decode cJ2_afterNodeRemoval 55 = .ok (.goto 9, 3) := by decide +kernel
theorem dJ2_afterNodeRemoval_58 : decode cJ2_afterNodeRemoval 58 = .ok (.aload 4, 2) := by decide +kernel
theorem dJ2_afterNodeRemoval_60 : decode cJ2_afterNodeRemoval 60 = .ok (.aload_n 3, 1) := by decide +kernel
theorem dJ2_afterNodeRemoval_61 : decode cJ2_afterNodeRemoval 61 = .ok (.putfield 19, 3) := by decide +kernel
theorem dJ2_afterNodeRemoval_64 : decode cJ2_afterNodeRemoval 64 = .ok (.return_, 1) := by decide +kernel
abbrev cJ2_containsValue : ByteArray := prog_35_method_19_code
def yJ2_containsValue : MethodName := ⟨RJ2, "containsValue", "(Ljava/lang/Object;)Z"⟩
theorem dJ2_containsValue_0 : decode cJ2_containsValue 0 = .ok (.aload_n 0, 1) := by decide +kernel
theorem dJ2_containsValue_1 : decode cJ2_containsValue 1 = .ok (.getfield 7, 3) := by decide +kernel
theorem dJ2_containsValue_4 : decode cJ2_containsValue 4 = .ok (.astore_n 2, 1) := by decide +kernel
theorem dJ2_containsValue_5 : decode cJ2_containsValue 5 = .ok (.aload_n 2, 1) := by decide +kernel
theorem dJ2_containsValue_6 : decode cJ2_containsValue 6 = .ok (.ifnull 35, 3) := by decide +kernel
theorem dJ2_containsValue_9 : decode cJ2_containsValue 9 = .ok (.aload_n 2, 1) := by decide +kernel
theorem dJ2_containsValue_10 : decode cJ2_containsValue 10 = .ok (.getfield 43, 3) := by decide +kernel
theorem dJ2_containsValue_13 : decode cJ2_containsValue 13 = .ok (.astore_n 3, 1) := by decide +kernel
theorem dJ2_containsValue_14 : decode cJ2_containsValue 14 = .ok (.aload_n 3, 1) := by decide +kernel
theorem dJ2_containsValue_15 : decode cJ2_containsValue 15 = .ok (.aload_n 1, 1) := by decide +kernel
theorem dJ2_containsValue_16 : decode cJ2_containsValue 16 = .ok (.if_acmp .eq 15, 3) := by decide +kernel
theorem dJ2_containsValue_19 : decode cJ2_containsValue 19 = .ok (.aload_n 1, 1) := by decide +kernel
theorem dJ2_containsValue_20 : decode cJ2_containsValue 20 = .ok (.ifnull 13, 3) := by decide +kernel
theorem dJ2_containsValue_23 : decode cJ2_containsValue 23 = .ok (.aload_n 1, 1) := by decide +kernel
theorem dJ2_containsValue_24 : decode cJ2_containsValue 24 = .ok (.aload_n 3, 1) := by decide +kernel
theorem dJ2_containsValue_25 : decode cJ2_containsValue 25 = .ok (.invokevirtual 93, 3) := by decide +kernel
theorem dJ2_containsValue_28 : decode cJ2_containsValue 28 = .ok (.ifCond .eq 5, 3) := by decide +kernel
theorem dJ2_containsValue_31 : decode cJ2_containsValue 31 = .ok (.iconst 1, 1) := by decide +kernel
theorem dJ2_containsValue_32 : decode cJ2_containsValue 32 = .ok (.ireturn, 1) := by decide +kernel
theorem dJ2_containsValue_33 : decode cJ2_containsValue 33 = .ok (.aload_n 2, 1) := by decide +kernel
theorem dJ2_containsValue_34 : decode cJ2_containsValue 34 = .ok (.getfield 14, 3) := by decide +kernel
theorem dJ2_containsValue_37 : decode cJ2_containsValue 37 = .ok (.astore_n 2, 1) := by decide +kernel
theorem dJ2_containsValue_38 : decode cJ2_containsValue 38 = .ok (.goto (-33), 3) := by decide +kernel
theorem dJ2_containsValue_41 : decode cJ2_containsValue 41 = .ok (.iconst 0, 1) := by decide +kernel
theorem dJ2_containsValue_42 : decode cJ2_containsValue 42 = .ok (.ireturn, 1) := by decide +kernel
abbrev cJ2_clear : ByteArray := prog_35_method_22_code
def yJ2_clear : MethodName := ⟨RJ2, "clear", "()V"⟩
theorem dJ2_clear_0 : decode cJ2_clear 0 = .ok (.aload_n 0, 1) := by decide +kernel
theorem dJ2_clear_1 : decode cJ2_clear 1 = .ok (.invokespecial 110, 3) := by decide +kernel
theorem dJ2_clear_4 : decode cJ2_clear 4 = .ok (.aload_n 0, 1) := by decide +kernel
theorem dJ2_clear_5 : decode cJ2_clear 5 = .ok (.aload_n 0, 1) := by decide +kernel
theorem dJ2_clear_6 : decode cJ2_clear 6 = .ok (.aconst_null, 1) := by decide +kernel
theorem dJ2_clear_7 : decode cJ2_clear 7 = .ok (.dup_x1, 1) := by decide +kernel
theorem dJ2_clear_8 : decode cJ2_clear 8 = .ok (.putfield 11, 3) := by decide +kernel
theorem dJ2_clear_11 : decode cJ2_clear 11 = .ok (.putfield 7, 3) := by decide +kernel
theorem dJ2_clear_14 : decode cJ2_clear 14 = .ok (.return_, 1) := by decide +kernel
abbrev cJ2_keySet : ByteArray := prog_35_method_24_code
def yJ2_keySet : MethodName := ⟨RJ2, "keySet", "()Ljava/util/Set;"⟩
theorem dJ2_keySet_0 : decode cJ2_keySet 0 = .ok (.aload_n 0, 1) := by decide +kernel
theorem dJ2_keySet_1 : decode cJ2_keySet 1 = .ok (.invokevirtual 113, 3) := by decide +kernel
theorem dJ2_keySet_4 : decode cJ2_keySet 4 = .ok (.areturn, 1) := by decide +kernel
abbrev cJ2_sequencedKeySet : ByteArray := prog_35_method_25_code
def yJ2_sequencedKeySet : MethodName := ⟨RJ2, "sequencedKeySet", "()Ljava/util/SequencedSet;"⟩
theorem dJ2_sequencedKeySet_0 : decode cJ2_sequencedKeySet 0 = .ok (.aload_n 0, 1) := by decide +kernel
theorem dJ2_sequencedKeySet_1 : decode cJ2_sequencedKeySet 1 = .ok (.getfield 117, 3) := by decide +kernel
theorem dJ2_sequencedKeySet_4 : decode cJ2_sequencedKeySet 4 = .ok (.astore_n 1, 1) := by decide +kernel
theorem dJ2_sequencedKeySet_5 : decode cJ2_sequencedKeySet 5 = .ok (.aload_n 1, 1) := by decide +kernel
theorem dJ2_sequencedKeySet_6 : decode cJ2_sequencedKeySet 6 = .ok (.ifnonnull 20, 3) := by decide +kernel
theorem dJ2_sequencedKeySet_9 : decode cJ2_sequencedKeySet 9 = .ok (.new 121, 3) := by decide +kernel
theorem dJ2_sequencedKeySet_12 : decode cJ2_sequencedKeySet 12 = .ok (.dup, 1) := by decide +kernel
theorem dJ2_sequencedKeySet_13 : decode cJ2_sequencedKeySet 13 = .ok (.aload_n 0, 1) := by decide +kernel
theorem dJ2_sequencedKeySet_14 : decode cJ2_sequencedKeySet 14 = .ok (.iconst 0, 1) := by decide +kernel
theorem dJ2_sequencedKeySet_15 : decode cJ2_sequencedKeySet 15 = .ok (.invokespecial 123, 3) := by decide +kernel
theorem dJ2_sequencedKeySet_18 : decode cJ2_sequencedKeySet 18 = .ok (.astore_n 2, 1) := by decide +kernel
theorem dJ2_sequencedKeySet_19 : decode cJ2_sequencedKeySet 19 = .ok (.aload_n 0, 1) := by decide +kernel
theorem dJ2_sequencedKeySet_20 : decode cJ2_sequencedKeySet 20 = .ok (.aload_n 2, 1) := by decide +kernel
theorem dJ2_sequencedKeySet_21 : decode cJ2_sequencedKeySet 21 = .ok (.putfield 117, 3) := by decide +kernel
theorem dJ2_sequencedKeySet_24 : decode cJ2_sequencedKeySet 24 = .ok (.aload_n 2, 1) := by decide +kernel
theorem dJ2_sequencedKeySet_25 : decode cJ2_sequencedKeySet 25 = .ok (.areturn, 1) := by decide +kernel
theorem dJ2_sequencedKeySet_26 : decode cJ2_sequencedKeySet 26 = .ok (.aload_n 1, 1) := by decide +kernel
theorem dJ2_sequencedKeySet_27 : decode cJ2_sequencedKeySet 27 = .ok (.checkcast 126, 3) := by decide +kernel
theorem dJ2_sequencedKeySet_30 : decode cJ2_sequencedKeySet 30 = .ok (.areturn, 1) := by decide +kernel
abbrev cJ2_entrySet : ByteArray := prog_35_method_32_code
def yJ2_entrySet : MethodName := ⟨RJ2, "entrySet", "()Ljava/util/Set;"⟩
theorem dJ2_entrySet_0 : decode cJ2_entrySet 0 = .ok (.aload_n 0, 1) := by decide +kernel
theorem dJ2_entrySet_1 : decode cJ2_entrySet 1 = .ok (.invokevirtual 148, 3) := by decide +kernel
theorem dJ2_entrySet_4 : decode cJ2_entrySet 4 = .ok (.areturn, 1) := by decide +kernel
abbrev cJ2_sequencedEntrySet : ByteArray := prog_35_method_33_code
def yJ2_sequencedEntrySet : MethodName := ⟨RJ2, "sequencedEntrySet", "()Ljava/util/SequencedSet;"⟩
theorem dJ2_sequencedEntrySet_0 : decode cJ2_sequencedEntrySet 0 = .ok (.aload_n 0, 1) := by decide +kernel
theorem dJ2_sequencedEntrySet_1 : decode cJ2_sequencedEntrySet 1 = .ok (.getfield 151, 3) := by decide +kernel
theorem dJ2_sequencedEntrySet_4 : decode cJ2_sequencedEntrySet 4 = .ok (.astore_n 1, 1) := by decide +kernel
theorem dJ2_sequencedEntrySet_5 : decode cJ2_sequencedEntrySet 5 = .ok (.aload_n 1, 1) := by decide +kernel
theorem dJ2_sequencedEntrySet_6 : decode cJ2_sequencedEntrySet 6 = .ok (.ifnonnull 20, 3) := by decide +kernel
theorem dJ2_sequencedEntrySet_9 : decode cJ2_sequencedEntrySet 9 = .ok (.new 154, 3) := by decide +kernel
theorem dJ2_sequencedEntrySet_12 : decode cJ2_sequencedEntrySet 12 = .ok (.dup, 1) := by decide +kernel
theorem dJ2_sequencedEntrySet_13 : decode cJ2_sequencedEntrySet 13 = .ok (.aload_n 0, 1) := by decide +kernel
theorem dJ2_sequencedEntrySet_14 : decode cJ2_sequencedEntrySet 14 = .ok (.iconst 0, 1) := by decide +kernel
theorem dJ2_sequencedEntrySet_15 : decode cJ2_sequencedEntrySet 15 = .ok (.invokespecial 156, 3) := by decide +kernel
theorem dJ2_sequencedEntrySet_18 : decode cJ2_sequencedEntrySet 18 = .ok (.astore_n 2, 1) := by decide +kernel
theorem dJ2_sequencedEntrySet_19 : decode cJ2_sequencedEntrySet 19 = .ok (.aload_n 0, 1) := by decide +kernel
theorem dJ2_sequencedEntrySet_20 : decode cJ2_sequencedEntrySet 20 = .ok (.aload_n 2, 1) := by decide +kernel
theorem dJ2_sequencedEntrySet_21 : decode cJ2_sequencedEntrySet 21 = .ok (.putfield 151, 3) := by decide +kernel
theorem dJ2_sequencedEntrySet_24 : decode cJ2_sequencedEntrySet 24 = .ok (.aload_n 2, 1) := by decide +kernel
theorem dJ2_sequencedEntrySet_25 : decode cJ2_sequencedEntrySet 25 = .ok (.areturn, 1) := by decide +kernel
theorem dJ2_sequencedEntrySet_26 : decode cJ2_sequencedEntrySet 26 = .ok (.aload_n 1, 1) := by decide +kernel
theorem dJ2_sequencedEntrySet_27 : decode cJ2_sequencedEntrySet 27 = .ok (.checkcast 126, 3) := by decide +kernel
theorem dJ2_sequencedEntrySet_30 : decode cJ2_sequencedEntrySet 30 = .ok (.areturn, 1) := by decide +kernel
theorem q12 : (Jvm.Cond.initialized "java/util/LinkedHashMap") ∈ lw_all := lw_g (lw_at lw_m1 4 rfl) rfl
theorem q60 : (Jvm.Cond.fieldLink "java/util/LinkedHashMap" (151 : Nat) "java/util/LinkedHashMap" "entrySet" "Ljava/util/Set;") ∈ lw_all := lw_g (lw_at lw_m1 52 rfl) rfl
theorem q61 : (Jvm.Cond.sameField "java/util/LinkedHashMap" "java/util/HashMap" "entrySet" "Ljava/util/Set;") ∈ lw_all := lw_g (lw_at lw_m1 53 rfl) rfl
theorem q66 : (Jvm.Cond.sameField "java/util/LinkedHashMap" "java/util/HashMap" "size" "I") ∈ lw_all := lw_g (lw_at lw_m1 58 rfl) rfl
theorem q71 : (Jvm.Cond.sameField "java/util/LinkedHashMap" "java/util/HashMap" "modCount" "I") ∈ lw_all := lw_g (lw_at lw_m1 63 rfl) rfl
theorem q72 : (Jvm.Cond.fieldLink "java/util/LinkedHashMap" (68 : Nat) "java/util/LinkedHashMap" "modCount" "I") ∈ lw_all := lw_g (lw_at lw_m1 64 rfl) rfl
theorem q78 : (Jvm.Cond.fieldLink "java/util/LinkedHashMap" (117 : Nat) "java/util/LinkedHashMap" "keySet" "Ljava/util/Set;") ∈ lw_all := lw_g (lw_at lw_m1 70 rfl) rfl
theorem q79 : (Jvm.Cond.sameField "java/util/LinkedHashMap" "java/util/AbstractMap" "keySet" "Ljava/util/Set;") ∈ lw_all := lw_g (lw_at lw_m1 71 rfl) rfl
theorem q98 : (Jvm.Cond.instantiable "java/util/LinkedHashMap" (12 : Nat)) ∈ lw_all := lw_g (lw_at lw_m1 90 rfl) rfl
theorem q100 : (Jvm.Cond.instanceMethod ({ cls := "java/util/LinkedHashMap", name := "<init>", desc := "()V" } : Jvm.MethodName)) ∈ lw_all := lw_g (lw_at lw_m1 92 rfl) rfl
theorem q101 : (Jvm.Cond.code ({ cls := "java/util/LinkedHashMap", name := "<init>", desc := "()V" } : Jvm.MethodName) prog_35_method_16_code (1 : Nat) (Option.none : Option Jvm.ClassFile.FieldType)) ∈ lw_all := lw_g (lw_at lw_m1 93 rfl) rfl
theorem q102 : (Jvm.Cond.methodLink "java/util/LinkedHashMap" (87 : Nat) ({ cls := "java/util/HashMap", name := "<init>", desc := "()V" } : Jvm.MethodName)) ∈ lw_all := lw_g (lw_at lw_m1 94 rfl) rfl
theorem q103 : (Jvm.Cond.fieldLink "java/util/LinkedHashMap" (7 : Nat) "java/util/LinkedHashMap" "head" "Ljava/util/LinkedHashMap$Entry;") ∈ lw_all := lw_g (lw_at lw_m1 95 rfl) rfl
theorem q106 : (Jvm.Cond.fieldLink "java/util/LinkedHashMap" (11 : Nat) "java/util/LinkedHashMap" "tail" "Ljava/util/LinkedHashMap$Entry;") ∈ lw_all := lw_g (lw_at lw_m1 98 rfl) rfl
theorem q107 : (Jvm.Cond.fieldLink "java/util/LinkedHashMap" (64 : Nat) "java/util/LinkedHashMap" "accessOrder" "Z") ∈ lw_all := lw_g (lw_at lw_m1 99 rfl) rfl
theorem q108 : (Jvm.Cond.fieldLink "java/util/LinkedHashMap" (1 : Nat) "java/util/LinkedHashMap" "putMode" "I") ∈ lw_all := lw_g (lw_at lw_m1 100 rfl) rfl
theorem q109 : (Jvm.Cond.lays "java/util/LinkedHashMap" "java/util/LinkedHashMap" "head" "Ljava/util/LinkedHashMap$Entry;") ∈ lw_all := lw_g (lw_at lw_m1 101 rfl) rfl
theorem q110 : (Jvm.Cond.soleField "java/util/LinkedHashMap" "head") ∈ lw_all := lw_g (lw_at lw_m1 102 rfl) rfl
theorem q111 : (Jvm.Cond.lays "java/util/LinkedHashMap" "java/util/LinkedHashMap" "tail" "Ljava/util/LinkedHashMap$Entry;") ∈ lw_all := lw_g (lw_at lw_m1 103 rfl) rfl
theorem q112 : (Jvm.Cond.soleField "java/util/LinkedHashMap" "tail") ∈ lw_all := lw_g (lw_at lw_m1 104 rfl) rfl
theorem q113 : (Jvm.Cond.laysFinal "java/util/LinkedHashMap" "java/util/LinkedHashMap" "accessOrder" "Z") ∈ lw_all := lw_g (lw_at lw_m1 105 rfl) rfl
theorem q114 : (Jvm.Cond.soleField "java/util/LinkedHashMap" "accessOrder") ∈ lw_all := lw_g (lw_at lw_m1 106 rfl) rfl
theorem q115 : (Jvm.Cond.lays "java/util/LinkedHashMap" "java/util/LinkedHashMap" "putMode" "I") ∈ lw_all := lw_g (lw_at lw_m1 107 rfl) rfl
theorem q116 : (Jvm.Cond.soleField "java/util/LinkedHashMap" "putMode") ∈ lw_all := lw_g (lw_at lw_m1 108 rfl) rfl
theorem q117 : (Jvm.Cond.lays "java/util/LinkedHashMap" "java/util/HashMap" "table" "[Ljava/util/HashMap$Node;") ∈ lw_all := lw_g (lw_at lw_m1 109 rfl) rfl
theorem q118 : (Jvm.Cond.lays "java/util/LinkedHashMap" "java/util/HashMap" "entrySet" "Ljava/util/Set;") ∈ lw_all := lw_g (lw_at lw_m1 110 rfl) rfl
theorem q119 : (Jvm.Cond.lays "java/util/LinkedHashMap" "java/util/HashMap" "size" "I") ∈ lw_all := lw_g (lw_at lw_m1 111 rfl) rfl
theorem q120 : (Jvm.Cond.lays "java/util/LinkedHashMap" "java/util/HashMap" "modCount" "I") ∈ lw_all := lw_g (lw_at lw_m1 112 rfl) rfl
theorem q121 : (Jvm.Cond.lays "java/util/LinkedHashMap" "java/util/HashMap" "threshold" "I") ∈ lw_all := lw_g (lw_at lw_m1 113 rfl) rfl
theorem q122 : (Jvm.Cond.laysFinal "java/util/LinkedHashMap" "java/util/HashMap" "loadFactor" "F") ∈ lw_all := lw_g (lw_at lw_m1 114 rfl) rfl
theorem q123 : (Jvm.Cond.lays "java/util/LinkedHashMap" "java/util/AbstractMap" "keySet" "Ljava/util/Set;") ∈ lw_all := lw_g (lw_at lw_m1 115 rfl) rfl
theorem q124 : (Jvm.Cond.lays "java/util/LinkedHashMap" "java/util/AbstractMap" "values" "Ljava/util/Collection;") ∈ lw_all := lw_g (lw_at lw_m1 116 rfl) rfl
theorem q125 : (Jvm.Cond.superclass "java/util/LinkedHashMap" "java/util/HashMap") ∈ lw_all := lw_g (lw_at lw_m1 117 rfl) rfl
theorem q128 : (Jvm.Cond.instanceMethod ({ cls := "java/util/LinkedHashMap", name := "<init>", desc := "(IFZ)V" } : Jvm.MethodName)) ∈ lw_all := lw_g (lw_at lw_m1 120 rfl) rfl
theorem q129 : (Jvm.Cond.code ({ cls := "java/util/LinkedHashMap", name := "<init>", desc := "(IFZ)V" } : Jvm.MethodName) prog_35_method_18_code (4 : Nat) (Option.none : Option Jvm.ClassFile.FieldType)) ∈ lw_all := lw_g (lw_at lw_m1 121 rfl) rfl
theorem q130 : (Jvm.Cond.methodLink "java/util/LinkedHashMap" (81 : Nat) ({ cls := "java/util/HashMap", name := "<init>", desc := "(IF)V" } : Jvm.MethodName)) ∈ lw_all := lw_g (lw_at lw_m1 122 rfl) rfl
theorem q187 : (Jvm.Cond.selects "java/util/LinkedHashMap" ({ cls := "java/util/HashMap", name := "put", desc := "(Ljava/lang/Object;Ljava/lang/Object;)Ljava/lang/Object;" } : Jvm.MethodName) ({ cls := "java/util/HashMap", name := "put", desc := "(Ljava/lang/Object;Ljava/lang/Object;)Ljava/lang/Object;" } : Jvm.MethodName)) ∈ lw_all := lw_g (lw_at lw_m1 179 rfl) rfl
theorem q210 : (Jvm.Cond.selects "java/util/LinkedHashMap" ({ cls := "java/util/HashMap", name := "putVal", desc := "(ILjava/lang/Object;Ljava/lang/Object;ZZ)Ljava/lang/Object;" } : Jvm.MethodName) ({ cls := "java/util/HashMap", name := "putVal", desc := "(ILjava/lang/Object;Ljava/lang/Object;ZZ)Ljava/lang/Object;" } : Jvm.MethodName)) ∈ lw_all := lw_g (lw_at lw_m1 202 rfl) rfl
theorem q216 : (Jvm.Cond.selects "java/util/LinkedHashMap" ({ cls := "java/util/HashMap", name := "resize", desc := "()[Ljava/util/HashMap$Node;" } : Jvm.MethodName) ({ cls := "java/util/HashMap", name := "resize", desc := "()[Ljava/util/HashMap$Node;" } : Jvm.MethodName)) ∈ lw_all := lw_g (lw_at lw_m1 208 rfl) rfl
theorem q236 : (Jvm.Cond.selects "java/util/LinkedHashMap" ({ cls := "java/util/HashMap", name := "replacementNode", desc := "(Ljava/util/HashMap$Node;Ljava/util/HashMap$Node;)Ljava/util/HashMap$Node;" } : Jvm.MethodName) ({ cls := "java/util/LinkedHashMap", name := "replacementNode", desc := "(Ljava/util/HashMap$Node;Ljava/util/HashMap$Node;)Ljava/util/HashMap$Node;" } : Jvm.MethodName)) ∈ lw_all := lw_g (lw_at lw_m1 228 rfl) rfl
theorem q237 : (Jvm.Cond.instanceMethod ({ cls := "java/util/LinkedHashMap", name := "replacementNode", desc := "(Ljava/util/HashMap$Node;Ljava/util/HashMap$Node;)Ljava/util/HashMap$Node;" } : Jvm.MethodName)) ∈ lw_all := lw_g (lw_at lw_m1 229 rfl) rfl
theorem q238 : (Jvm.Cond.code ({ cls := "java/util/LinkedHashMap", name := "replacementNode", desc := "(Ljava/util/HashMap$Node;Ljava/util/HashMap$Node;)Ljava/util/HashMap$Node;" } : Jvm.MethodName) prog_35_method_5_code (5 : Nat) (Option.some (Jvm.ClassFile.FieldType.object "java/util/HashMap$Node"))) ∈ lw_all := lw_g (lw_at lw_m1 230 rfl) rfl
theorem q239 : (Jvm.Cond.classLink "java/util/LinkedHashMap" (15 : Nat) "java/util/LinkedHashMap$Entry") ∈ lw_all := lw_g (lw_at lw_m1 231 rfl) rfl
theorem q241 : (Jvm.Cond.methodLink "java/util/LinkedHashMap" (28 : Nat) ({ cls := "java/util/LinkedHashMap$Entry", name := "<init>", desc := "(ILjava/lang/Object;Ljava/lang/Object;Ljava/util/HashMap$Node;)V" } : Jvm.MethodName)) ∈ lw_all := lw_g (lw_at lw_m1 233 rfl) rfl
theorem q248 : (Jvm.Cond.fieldLink "java/util/LinkedHashMap" (19 : Nat) "java/util/LinkedHashMap$Entry" "before" "Ljava/util/LinkedHashMap$Entry;") ∈ lw_all := lw_g (lw_at lw_m2 0 rfl) rfl
theorem q250 : (Jvm.Cond.fieldLink "java/util/LinkedHashMap" (14 : Nat) "java/util/LinkedHashMap$Entry" "after" "Ljava/util/LinkedHashMap$Entry;") ∈ lw_all := lw_g (lw_at lw_m2 2 rfl) rfl
theorem q257 : (Jvm.Cond.fieldLink "java/util/LinkedHashMap" (36 : Nat) "java/util/LinkedHashMap$Entry" "hash" "I") ∈ lw_all := lw_g (lw_at lw_m2 9 rfl) rfl
theorem q266 : (Jvm.Cond.fieldLink "java/util/LinkedHashMap" (39 : Nat) "java/util/LinkedHashMap$Entry" "key" "Ljava/lang/Object;") ∈ lw_all := lw_g (lw_at lw_m2 18 rfl) rfl
theorem q270 : (Jvm.Cond.fieldLink "java/util/LinkedHashMap" (43 : Nat) "java/util/LinkedHashMap$Entry" "value" "Ljava/lang/Object;") ∈ lw_all := lw_g (lw_at lw_m2 22 rfl) rfl
theorem q273 : (Jvm.Cond.fieldLink "java/util/LinkedHashMap" (107 : Nat) "java/util/HashMap$Node" "value" "Ljava/lang/Object;") ∈ lw_all := lw_g (lw_at lw_m2 25 rfl) rfl
theorem q294 : (Jvm.Cond.methodLink "java/util/LinkedHashMap" (46 : Nat) ({ cls := "java/util/LinkedHashMap", name := "transferLinks", desc := "(Ljava/util/LinkedHashMap$Entry;Ljava/util/LinkedHashMap$Entry;)V" } : Jvm.MethodName)) ∈ lw_all := lw_g (lw_at lw_m2 46 rfl) rfl
theorem q295 : (Jvm.Cond.privateMethod ({ cls := "java/util/LinkedHashMap", name := "transferLinks", desc := "(Ljava/util/LinkedHashMap$Entry;Ljava/util/LinkedHashMap$Entry;)V" } : Jvm.MethodName)) ∈ lw_tbl := lw_at lw_m2 47 rfl
theorem q296 : (Jvm.Cond.instanceMethod ({ cls := "java/util/LinkedHashMap", name := "transferLinks", desc := "(Ljava/util/LinkedHashMap$Entry;Ljava/util/LinkedHashMap$Entry;)V" } : Jvm.MethodName)) ∈ lw_all := lw_g (lw_at lw_m2 48 rfl) rfl
theorem q297 : (Jvm.Cond.code ({ cls := "java/util/LinkedHashMap", name := "transferLinks", desc := "(Ljava/util/LinkedHashMap$Entry;Ljava/util/LinkedHashMap$Entry;)V" } : Jvm.MethodName) prog_35_method_2_code (5 : Nat) (Option.none : Option Jvm.ClassFile.FieldType)) ∈ lw_all := lw_g (lw_at lw_m2 49 rfl) rfl
theorem q328 : (Jvm.Cond.selects "java/util/LinkedHashMap" ({ cls := "java/lang/Object", name := "getClass", desc := "()Ljava/lang/Class;" } : Jvm.MethodName) ({ cls := "java/lang/Object", name := "getClass", desc := "()Ljava/lang/Class;" } : Jvm.MethodName)) ∈ lw_all := lw_g (lw_at lw_m2 80 rfl) rfl
theorem q373 : (Jvm.Cond.selects "java/util/LinkedHashMap" ({ cls := "java/util/HashMap", name := "newNode", desc := "(ILjava/lang/Object;Ljava/lang/Object;Ljava/util/HashMap$Node;)Ljava/util/HashMap$Node;" } : Jvm.MethodName) ({ cls := "java/util/LinkedHashMap", name := "newNode", desc := "(ILjava/lang/Object;Ljava/lang/Object;Ljava/util/HashMap$Node;)Ljava/util/HashMap$Node;" } : Jvm.MethodName)) ∈ lw_all := lw_g (lw_at lw_m2 125 rfl) rfl
theorem q374 : (Jvm.Cond.instanceMethod ({ cls := "java/util/LinkedHashMap", name := "newNode", desc := "(ILjava/lang/Object;Ljava/lang/Object;Ljava/util/HashMap$Node;)Ljava/util/HashMap$Node;" } : Jvm.MethodName)) ∈ lw_all := lw_g (lw_at lw_m2 126 rfl) rfl
theorem q375 : (Jvm.Cond.code ({ cls := "java/util/LinkedHashMap", name := "newNode", desc := "(ILjava/lang/Object;Ljava/lang/Object;Ljava/util/HashMap$Node;)Ljava/util/HashMap$Node;" } : Jvm.MethodName) prog_35_method_4_code (6 : Nat) (Option.some (Jvm.ClassFile.FieldType.object "java/util/HashMap$Node"))) ∈ lw_all := lw_g (lw_at lw_m2 127 rfl) rfl
theorem q376 : (Jvm.Cond.methodLink "java/util/LinkedHashMap" (32 : Nat) ({ cls := "java/util/LinkedHashMap", name := "linkNodeAtEnd", desc := "(Ljava/util/LinkedHashMap$Entry;)V" } : Jvm.MethodName)) ∈ lw_all := lw_g (lw_at lw_m2 128 rfl) rfl
theorem q377 : (Jvm.Cond.privateMethod ({ cls := "java/util/LinkedHashMap", name := "linkNodeAtEnd", desc := "(Ljava/util/LinkedHashMap$Entry;)V" } : Jvm.MethodName)) ∈ lw_tbl := lw_at lw_m2 129 rfl
theorem q378 : (Jvm.Cond.instanceMethod ({ cls := "java/util/LinkedHashMap", name := "linkNodeAtEnd", desc := "(Ljava/util/LinkedHashMap$Entry;)V" } : Jvm.MethodName)) ∈ lw_all := lw_g (lw_at lw_m2 130 rfl) rfl
theorem q379 : (Jvm.Cond.code ({ cls := "java/util/LinkedHashMap", name := "linkNodeAtEnd", desc := "(Ljava/util/LinkedHashMap$Entry;)V" } : Jvm.MethodName) prog_35_method_1_code (3 : Nat) (Option.none : Option Jvm.ClassFile.FieldType)) ∈ lw_all := lw_g (lw_at lw_m2 131 rfl) rfl
theorem q413 : (Jvm.Cond.selects "java/util/LinkedHashMap" ({ cls := "java/util/HashMap", name := "newTreeNode", desc := "(ILjava/lang/Object;Ljava/lang/Object;Ljava/util/HashMap$Node;)Ljava/util/HashMap$TreeNode;" } : Jvm.MethodName) ({ cls := "java/util/LinkedHashMap", name := "newTreeNode", desc := "(ILjava/lang/Object;Ljava/lang/Object;Ljava/util/HashMap$Node;)Ljava/util/HashMap$TreeNode;" } : Jvm.MethodName)) ∈ lw_all := lw_g (lw_at lw_m2 165 rfl) rfl
theorem q414 : (Jvm.Cond.instanceMethod ({ cls := "java/util/LinkedHashMap", name := "newTreeNode", desc := "(ILjava/lang/Object;Ljava/lang/Object;Ljava/util/HashMap$Node;)Ljava/util/HashMap$TreeNode;" } : Jvm.MethodName)) ∈ lw_all := lw_g (lw_at lw_m2 166 rfl) rfl
theorem q415 : (Jvm.Cond.code ({ cls := "java/util/LinkedHashMap", name := "newTreeNode", desc := "(ILjava/lang/Object;Ljava/lang/Object;Ljava/util/HashMap$Node;)Ljava/util/HashMap$TreeNode;" } : Jvm.MethodName) prog_35_method_6_code (6 : Nat) (Option.some (Jvm.ClassFile.FieldType.object "java/util/HashMap$TreeNode"))) ∈ lw_all := lw_g (lw_at lw_m2 167 rfl) rfl
theorem q416 : (Jvm.Cond.classLink "java/util/LinkedHashMap" (50 : Nat) "java/util/HashMap$TreeNode") ∈ lw_all := lw_g (lw_at lw_m2 168 rfl) rfl
theorem q418 : (Jvm.Cond.methodLink "java/util/LinkedHashMap" (52 : Nat) ({ cls := "java/util/HashMap$TreeNode", name := "<init>", desc := "(ILjava/lang/Object;Ljava/lang/Object;Ljava/util/HashMap$Node;)V" } : Jvm.MethodName)) ∈ lw_all := lw_g (lw_at lw_m2 170 rfl) rfl
theorem q451 : (Jvm.Cond.selects "java/util/LinkedHashMap" ({ cls := "java/util/HashMap", name := "treeifyBin", desc := "([Ljava/util/HashMap$Node;I)V" } : Jvm.MethodName) ({ cls := "java/util/HashMap", name := "treeifyBin", desc := "([Ljava/util/HashMap$Node;I)V" } : Jvm.MethodName)) ∈ lw_all := lw_g (lw_at lw_m2 203 rfl) rfl
theorem q457 : (Jvm.Cond.selects "java/util/LinkedHashMap" ({ cls := "java/util/HashMap", name := "replacementTreeNode", desc := "(Ljava/util/HashMap$Node;Ljava/util/HashMap$Node;)Ljava/util/HashMap$TreeNode;" } : Jvm.MethodName) ({ cls := "java/util/LinkedHashMap", name := "replacementTreeNode", desc := "(Ljava/util/HashMap$Node;Ljava/util/HashMap$Node;)Ljava/util/HashMap$TreeNode;" } : Jvm.MethodName)) ∈ lw_all := lw_g (lw_at lw_m2 209 rfl) rfl
theorem q458 : (Jvm.Cond.instanceMethod ({ cls := "java/util/LinkedHashMap", name := "replacementTreeNode", desc := "(Ljava/util/HashMap$Node;Ljava/util/HashMap$Node;)Ljava/util/HashMap$TreeNode;" } : Jvm.MethodName)) ∈ lw_all := lw_g (lw_at lw_m2 210 rfl) rfl
theorem q459 : (Jvm.Cond.code ({ cls := "java/util/LinkedHashMap", name := "replacementTreeNode", desc := "(Ljava/util/HashMap$Node;Ljava/util/HashMap$Node;)Ljava/util/HashMap$TreeNode;" } : Jvm.MethodName) prog_35_method_7_code (5 : Nat) (Option.some (Jvm.ClassFile.FieldType.object "java/util/HashMap$TreeNode"))) ∈ lw_all := lw_g (lw_at lw_m2 211 rfl) rfl
theorem q466 : (Jvm.Cond.selects "java/util/LinkedHashMap" ({ cls := "java/util/HashMap", name := "afterNodeAccess", desc := "(Ljava/util/HashMap$Node;)V" } : Jvm.MethodName) ({ cls := "java/util/LinkedHashMap", name := "afterNodeAccess", desc := "(Ljava/util/HashMap$Node;)V" } : Jvm.MethodName)) ∈ lw_all := lw_g (lw_at lw_m2 218 rfl) rfl
theorem q467 : (Jvm.Cond.instanceMethod ({ cls := "java/util/LinkedHashMap", name := "afterNodeAccess", desc := "(Ljava/util/HashMap$Node;)V" } : Jvm.MethodName)) ∈ lw_all := lw_g (lw_at lw_m2 219 rfl) rfl
theorem q468 : (Jvm.Cond.code ({ cls := "java/util/LinkedHashMap", name := "afterNodeAccess", desc := "(Ljava/util/HashMap$Node;)V" } : Jvm.MethodName) prog_35_method_10_code (7 : Nat) (Option.none : Option Jvm.ClassFile.FieldType)) ∈ lw_all := lw_g (lw_at lw_m2 220 rfl) rfl
theorem q474 : (Jvm.Cond.selects "java/util/LinkedHashMap" ({ cls := "java/util/HashMap", name := "afterNodeInsertion", desc := "(Z)V" } : Jvm.MethodName) ({ cls := "java/util/LinkedHashMap", name := "afterNodeInsertion", desc := "(Z)V" } : Jvm.MethodName)) ∈ lw_all := lw_g (lw_at lw_m2 226 rfl) rfl
theorem q475 : (Jvm.Cond.instanceMethod ({ cls := "java/util/LinkedHashMap", name := "afterNodeInsertion", desc := "(Z)V" } : Jvm.MethodName)) ∈ lw_all := lw_g (lw_at lw_m2 227 rfl) rfl
theorem q476 : (Jvm.Cond.code ({ cls := "java/util/LinkedHashMap", name := "afterNodeInsertion", desc := "(Z)V" } : Jvm.MethodName) prog_35_method_9_code (4 : Nat) (Option.none : Option Jvm.ClassFile.FieldType)) ∈ lw_all := lw_g (lw_at lw_m2 228 rfl) rfl
theorem q477 : (Jvm.Cond.methodLink "java/util/LinkedHashMap" (53 : Nat) ({ cls := "java/util/LinkedHashMap", name := "removeEldestEntry", desc := "(Ljava/util/Map$Entry;)Z" } : Jvm.MethodName)) ∈ lw_all := lw_g (lw_at lw_m2 229 rfl) rfl
theorem q478 : (Jvm.Cond.instanceMethod ({ cls := "java/util/LinkedHashMap", name := "removeEldestEntry", desc := "(Ljava/util/Map$Entry;)Z" } : Jvm.MethodName)) ∈ lw_all := lw_g (lw_at lw_m2 230 rfl) rfl
theorem q479 : (Jvm.Cond.selects "java/util/LinkedHashMap" ({ cls := "java/util/LinkedHashMap", name := "removeEldestEntry", desc := "(Ljava/util/Map$Entry;)Z" } : Jvm.MethodName) ({ cls := "java/util/LinkedHashMap", name := "removeEldestEntry", desc := "(Ljava/util/Map$Entry;)Z" } : Jvm.MethodName)) ∈ lw_all := lw_g (lw_at lw_m2 231 rfl) rfl
theorem q480 : (Jvm.Cond.code ({ cls := "java/util/LinkedHashMap", name := "removeEldestEntry", desc := "(Ljava/util/Map$Entry;)Z" } : Jvm.MethodName) prog_35_method_23_code (2 : Nat) (Option.some Jvm.ClassFile.FieldType.boolean)) ∈ lw_all := lw_g (lw_at lw_m2 232 rfl) rfl
theorem q496 : (Jvm.Cond.selects "java/util/LinkedHashMap" ({ cls := "java/util/HashMap", name := "putIfAbsent", desc := "(Ljava/lang/Object;Ljava/lang/Object;)Ljava/lang/Object;" } : Jvm.MethodName) ({ cls := "java/util/HashMap", name := "putIfAbsent", desc := "(Ljava/lang/Object;Ljava/lang/Object;)Ljava/lang/Object;" } : Jvm.MethodName)) ∈ lw_all := lw_g (lw_at lw_m3 8 rfl) rfl
theorem q506 : (Jvm.Cond.selects "java/util/LinkedHashMap" ({ cls := "java/util/HashMap", name := "get", desc := "(Ljava/lang/Object;)Ljava/lang/Object;" } : Jvm.MethodName) ({ cls := "java/util/LinkedHashMap", name := "get", desc := "(Ljava/lang/Object;)Ljava/lang/Object;" } : Jvm.MethodName)) ∈ lw_all := lw_g (lw_at lw_m3 18 rfl) rfl
theorem q507 : (Jvm.Cond.instanceMethod ({ cls := "java/util/LinkedHashMap", name := "get", desc := "(Ljava/lang/Object;)Ljava/lang/Object;" } : Jvm.MethodName)) ∈ lw_all := lw_g (lw_at lw_m3 19 rfl) rfl
theorem q508 : (Jvm.Cond.code ({ cls := "java/util/LinkedHashMap", name := "get", desc := "(Ljava/lang/Object;)Ljava/lang/Object;" } : Jvm.MethodName) prog_35_method_20_code (3 : Nat) (Option.some (Jvm.ClassFile.FieldType.object "java/lang/Object"))) ∈ lw_all := lw_g (lw_at lw_m3 20 rfl) rfl
theorem q509 : (Jvm.Cond.methodLink "java/util/LinkedHashMap" (99 : Nat) ({ cls := "java/util/LinkedHashMap", name := "getNode", desc := "(Ljava/lang/Object;)Ljava/util/HashMap$Node;" } : Jvm.MethodName)) ∈ lw_all := lw_g (lw_at lw_m3 21 rfl) rfl
theorem q510 : (Jvm.Cond.sameMethod "java/util/LinkedHashMap" "java/util/HashMap" "getNode" "(Ljava/lang/Object;)Ljava/util/HashMap$Node;") ∈ lw_all := lw_g (lw_at lw_m3 22 rfl) rfl
theorem q512 : (Jvm.Cond.selects "java/util/LinkedHashMap" ({ cls := "java/util/LinkedHashMap", name := "getNode", desc := "(Ljava/lang/Object;)Ljava/util/HashMap$Node;" } : Jvm.MethodName) ({ cls := "java/util/HashMap", name := "getNode", desc := "(Ljava/lang/Object;)Ljava/util/HashMap$Node;" } : Jvm.MethodName)) ∈ lw_all := lw_g (lw_at lw_m3 24 rfl) rfl
theorem q519 : (Jvm.Cond.methodLink "java/util/LinkedHashMap" (103 : Nat) ({ cls := "java/util/LinkedHashMap", name := "afterNodeAccess", desc := "(Ljava/util/HashMap$Node;)V" } : Jvm.MethodName)) ∈ lw_all := lw_g (lw_at lw_m3 31 rfl) rfl
theorem q530 : (Jvm.Cond.selects "java/util/LinkedHashMap" ({ cls := "java/util/HashMap", name := "getOrDefault", desc := "(Ljava/lang/Object;Ljava/lang/Object;)Ljava/lang/Object;" } : Jvm.MethodName) ({ cls := "java/util/LinkedHashMap", name := "getOrDefault", desc := "(Ljava/lang/Object;Ljava/lang/Object;)Ljava/lang/Object;" } : Jvm.MethodName)) ∈ lw_all := lw_g (lw_at lw_m3 42 rfl) rfl
theorem q531 : (Jvm.Cond.instanceMethod ({ cls := "java/util/LinkedHashMap", name := "getOrDefault", desc := "(Ljava/lang/Object;Ljava/lang/Object;)Ljava/lang/Object;" } : Jvm.MethodName)) ∈ lw_all := lw_g (lw_at lw_m3 43 rfl) rfl
theorem q532 : (Jvm.Cond.code ({ cls := "java/util/LinkedHashMap", name := "getOrDefault", desc := "(Ljava/lang/Object;Ljava/lang/Object;)Ljava/lang/Object;" } : Jvm.MethodName) prog_35_method_21_code (4 : Nat) (Option.some (Jvm.ClassFile.FieldType.object "java/lang/Object"))) ∈ lw_all := lw_g (lw_at lw_m3 44 rfl) rfl
theorem q542 : (Jvm.Cond.selects "java/util/LinkedHashMap" ({ cls := "java/util/HashMap", name := "remove", desc := "(Ljava/lang/Object;)Ljava/lang/Object;" } : Jvm.MethodName) ({ cls := "java/util/HashMap", name := "remove", desc := "(Ljava/lang/Object;)Ljava/lang/Object;" } : Jvm.MethodName)) ∈ lw_all := lw_g (lw_at lw_m3 54 rfl) rfl
theorem q548 : (Jvm.Cond.selects "java/util/LinkedHashMap" ({ cls := "java/util/HashMap", name := "removeNode", desc := "(ILjava/lang/Object;Ljava/lang/Object;ZZ)Ljava/util/HashMap$Node;" } : Jvm.MethodName) ({ cls := "java/util/HashMap", name := "removeNode", desc := "(ILjava/lang/Object;Ljava/lang/Object;ZZ)Ljava/util/HashMap$Node;" } : Jvm.MethodName)) ∈ lw_all := lw_g (lw_at lw_m3 60 rfl) rfl
theorem q561 : (Jvm.Cond.selects "java/util/LinkedHashMap" ({ cls := "java/util/HashMap", name := "afterNodeRemoval", desc := "(Ljava/util/HashMap$Node;)V" } : Jvm.MethodName) ({ cls := "java/util/LinkedHashMap", name := "afterNodeRemoval", desc := "(Ljava/util/HashMap$Node;)V" } : Jvm.MethodName)) ∈ lw_all := lw_g (lw_at lw_m3 73 rfl) rfl
theorem q562 : (Jvm.Cond.instanceMethod ({ cls := "java/util/LinkedHashMap", name := "afterNodeRemoval", desc := "(Ljava/util/HashMap$Node;)V" } : Jvm.MethodName)) ∈ lw_all := lw_g (lw_at lw_m3 74 rfl) rfl
theorem q563 : (Jvm.Cond.code ({ cls := "java/util/LinkedHashMap", name := "afterNodeRemoval", desc := "(Ljava/util/HashMap$Node;)V" } : Jvm.MethodName) prog_35_method_8_code (5 : Nat) (Option.none : Option Jvm.ClassFile.FieldType)) ∈ lw_all := lw_g (lw_at lw_m3 75 rfl) rfl
theorem q573 : (Jvm.Cond.selects "java/util/LinkedHashMap" ({ cls := "java/util/HashMap", name := "remove", desc := "(Ljava/lang/Object;Ljava/lang/Object;)Z" } : Jvm.MethodName) ({ cls := "java/util/HashMap", name := "remove", desc := "(Ljava/lang/Object;Ljava/lang/Object;)Z" } : Jvm.MethodName)) ∈ lw_all := lw_g (lw_at lw_m3 85 rfl) rfl
theorem q583 : (Jvm.Cond.selects "java/util/LinkedHashMap" ({ cls := "java/util/HashMap", name := "containsKey", desc := "(Ljava/lang/Object;)Z" } : Jvm.MethodName) ({ cls := "java/util/HashMap", name := "containsKey", desc := "(Ljava/lang/Object;)Z" } : Jvm.MethodName)) ∈ lw_all := lw_g (lw_at lw_m3 95 rfl) rfl
theorem q589 : (Jvm.Cond.selects "java/util/LinkedHashMap" ({ cls := "java/util/HashMap", name := "containsValue", desc := "(Ljava/lang/Object;)Z" } : Jvm.MethodName) ({ cls := "java/util/LinkedHashMap", name := "containsValue", desc := "(Ljava/lang/Object;)Z" } : Jvm.MethodName)) ∈ lw_all := lw_g (lw_at lw_m3 101 rfl) rfl
theorem q590 : (Jvm.Cond.instanceMethod ({ cls := "java/util/LinkedHashMap", name := "containsValue", desc := "(Ljava/lang/Object;)Z" } : Jvm.MethodName)) ∈ lw_all := lw_g (lw_at lw_m3 102 rfl) rfl
theorem q591 : (Jvm.Cond.code ({ cls := "java/util/LinkedHashMap", name := "containsValue", desc := "(Ljava/lang/Object;)Z" } : Jvm.MethodName) prog_35_method_19_code (4 : Nat) (Option.some Jvm.ClassFile.FieldType.boolean)) ∈ lw_all := lw_g (lw_at lw_m3 103 rfl) rfl
theorem q592 : (Jvm.Cond.methodLink "java/util/LinkedHashMap" (93 : Nat) ({ cls := "java/lang/Object", name := "equals", desc := "(Ljava/lang/Object;)Z" } : Jvm.MethodName)) ∈ lw_all := lw_g (lw_at lw_m3 104 rfl) rfl
theorem q602 : (Jvm.Cond.selects "java/util/LinkedHashMap" ({ cls := "java/util/HashMap", name := "size", desc := "()I" } : Jvm.MethodName) ({ cls := "java/util/HashMap", name := "size", desc := "()I" } : Jvm.MethodName)) ∈ lw_all := lw_g (lw_at lw_m3 114 rfl) rfl
theorem q612 : (Jvm.Cond.selects "java/util/LinkedHashMap" ({ cls := "java/util/HashMap", name := "clear", desc := "()V" } : Jvm.MethodName) ({ cls := "java/util/LinkedHashMap", name := "clear", desc := "()V" } : Jvm.MethodName)) ∈ lw_all := lw_g (lw_at lw_m3 124 rfl) rfl
theorem q613 : (Jvm.Cond.instanceMethod ({ cls := "java/util/LinkedHashMap", name := "clear", desc := "()V" } : Jvm.MethodName)) ∈ lw_all := lw_g (lw_at lw_m3 125 rfl) rfl
theorem q614 : (Jvm.Cond.code ({ cls := "java/util/LinkedHashMap", name := "clear", desc := "()V" } : Jvm.MethodName) prog_35_method_22_code (1 : Nat) (Option.none : Option Jvm.ClassFile.FieldType)) ∈ lw_all := lw_g (lw_at lw_m3 126 rfl) rfl
theorem q615 : (Jvm.Cond.methodLink "java/util/LinkedHashMap" (110 : Nat) ({ cls := "java/util/HashMap", name := "clear", desc := "()V" } : Jvm.MethodName)) ∈ lw_all := lw_g (lw_at lw_m3 127 rfl) rfl
theorem q628 : (Jvm.Cond.selects "java/util/LinkedHashMap" ({ cls := "java/util/HashMap", name := "keySet", desc := "()Ljava/util/Set;" } : Jvm.MethodName) ({ cls := "java/util/LinkedHashMap", name := "keySet", desc := "()Ljava/util/Set;" } : Jvm.MethodName)) ∈ lw_all := lw_g (lw_at lw_m3 140 rfl) rfl
theorem q629 : (Jvm.Cond.instanceMethod ({ cls := "java/util/LinkedHashMap", name := "keySet", desc := "()Ljava/util/Set;" } : Jvm.MethodName)) ∈ lw_all := lw_g (lw_at lw_m3 141 rfl) rfl
theorem q630 : (Jvm.Cond.code ({ cls := "java/util/LinkedHashMap", name := "keySet", desc := "()Ljava/util/Set;" } : Jvm.MethodName) prog_35_method_24_code (1 : Nat) (Option.some (Jvm.ClassFile.FieldType.object "java/util/Set"))) ∈ lw_all := lw_g (lw_at lw_m3 142 rfl) rfl
theorem q631 : (Jvm.Cond.methodLink "java/util/LinkedHashMap" (113 : Nat) ({ cls := "java/util/LinkedHashMap", name := "sequencedKeySet", desc := "()Ljava/util/SequencedSet;" } : Jvm.MethodName)) ∈ lw_all := lw_g (lw_at lw_m3 143 rfl) rfl
theorem q632 : (Jvm.Cond.instanceMethod ({ cls := "java/util/LinkedHashMap", name := "sequencedKeySet", desc := "()Ljava/util/SequencedSet;" } : Jvm.MethodName)) ∈ lw_all := lw_g (lw_at lw_m3 144 rfl) rfl
theorem q633 : (Jvm.Cond.selects "java/util/LinkedHashMap" ({ cls := "java/util/LinkedHashMap", name := "sequencedKeySet", desc := "()Ljava/util/SequencedSet;" } : Jvm.MethodName) ({ cls := "java/util/LinkedHashMap", name := "sequencedKeySet", desc := "()Ljava/util/SequencedSet;" } : Jvm.MethodName)) ∈ lw_all := lw_g (lw_at lw_m3 145 rfl) rfl
theorem q634 : (Jvm.Cond.code ({ cls := "java/util/LinkedHashMap", name := "sequencedKeySet", desc := "()Ljava/util/SequencedSet;" } : Jvm.MethodName) prog_35_method_25_code (3 : Nat) (Option.some (Jvm.ClassFile.FieldType.object "java/util/SequencedSet"))) ∈ lw_all := lw_g (lw_at lw_m3 146 rfl) rfl
theorem q635 : (Jvm.Cond.classLink "java/util/LinkedHashMap" (121 : Nat) "java/util/LinkedHashMap$LinkedKeySet") ∈ lw_all := lw_g (lw_at lw_m3 147 rfl) rfl
theorem q637 : (Jvm.Cond.methodLink "java/util/LinkedHashMap" (123 : Nat) ({ cls := "java/util/LinkedHashMap$LinkedKeySet", name := "<init>", desc := "(Ljava/util/LinkedHashMap;Z)V" } : Jvm.MethodName)) ∈ lw_all := lw_g (lw_at lw_m3 149 rfl) rfl
theorem q654 : (Jvm.Cond.classLink "java/util/LinkedHashMap" (126 : Nat) "java/util/SequencedSet") ∈ lw_all := lw_g (lw_at lw_m3 166 rfl) rfl
theorem q851 : (Jvm.Cond.selects "java/util/LinkedHashMap" ({ cls := "java/util/HashMap", name := "putAll", desc := "(Ljava/util/Map;)V" } : Jvm.MethodName) ({ cls := "java/util/HashMap", name := "putAll", desc := "(Ljava/util/Map;)V" } : Jvm.MethodName)) ∈ lw_all := lw_g (lw_at lw_m4 123 rfl) rfl
theorem q857 : (Jvm.Cond.selects "java/util/LinkedHashMap" ({ cls := "java/util/HashMap", name := "putMapEntries", desc := "(Ljava/util/Map;Z)V" } : Jvm.MethodName) ({ cls := "java/util/HashMap", name := "putMapEntries", desc := "(Ljava/util/Map;Z)V" } : Jvm.MethodName)) ∈ lw_all := lw_g (lw_at lw_m4 129 rfl) rfl
theorem q867 : (Jvm.Cond.castable "java/util/LinkedHashMap" "java/util/Map") ∈ lw_tbl := lw_at lw_m4 139 rfl
theorem q868 : (Jvm.Cond.selects "java/util/LinkedHashMap" ({ cls := "java/util/Map", name := "size", desc := "()I" } : Jvm.MethodName) ({ cls := "java/util/HashMap", name := "size", desc := "()I" } : Jvm.MethodName)) ∈ lw_all := lw_g (lw_at lw_m4 140 rfl) rfl
theorem q869 : (Jvm.Cond.unhidden "java/util/LinkedHashMap" "size" "()I") ∈ lw_tbl := lw_at lw_m4 141 rfl
theorem q916 : (Jvm.Cond.selects "java/util/LinkedHashMap" ({ cls := "java/util/Map", name := "entrySet", desc := "()Ljava/util/Set;" } : Jvm.MethodName) ({ cls := "java/util/LinkedHashMap", name := "entrySet", desc := "()Ljava/util/Set;" } : Jvm.MethodName)) ∈ lw_all := lw_g (lw_at lw_m4 188 rfl) rfl
theorem q917 : (Jvm.Cond.unhidden "java/util/LinkedHashMap" "entrySet" "()Ljava/util/Set;") ∈ lw_tbl := lw_at lw_m4 189 rfl
theorem q918 : (Jvm.Cond.instanceMethod ({ cls := "java/util/LinkedHashMap", name := "entrySet", desc := "()Ljava/util/Set;" } : Jvm.MethodName)) ∈ lw_all := lw_g (lw_at lw_m4 190 rfl) rfl
theorem q919 : (Jvm.Cond.publicMethod ({ cls := "java/util/LinkedHashMap", name := "entrySet", desc := "()Ljava/util/Set;" } : Jvm.MethodName)) ∈ lw_tbl := lw_at lw_m4 191 rfl
theorem q920 : (Jvm.Cond.code ({ cls := "java/util/LinkedHashMap", name := "entrySet", desc := "()Ljava/util/Set;" } : Jvm.MethodName) prog_35_method_32_code (1 : Nat) (Option.some (Jvm.ClassFile.FieldType.object "java/util/Set"))) ∈ lw_all := lw_g (lw_at lw_m4 192 rfl) rfl
theorem q921 : (Jvm.Cond.methodLink "java/util/LinkedHashMap" (148 : Nat) ({ cls := "java/util/LinkedHashMap", name := "sequencedEntrySet", desc := "()Ljava/util/SequencedSet;" } : Jvm.MethodName)) ∈ lw_all := lw_g (lw_at lw_m4 193 rfl) rfl
theorem q922 : (Jvm.Cond.instanceMethod ({ cls := "java/util/LinkedHashMap", name := "sequencedEntrySet", desc := "()Ljava/util/SequencedSet;" } : Jvm.MethodName)) ∈ lw_all := lw_g (lw_at lw_m4 194 rfl) rfl
theorem q923 : (Jvm.Cond.selects "java/util/LinkedHashMap" ({ cls := "java/util/LinkedHashMap", name := "sequencedEntrySet", desc := "()Ljava/util/SequencedSet;" } : Jvm.MethodName) ({ cls := "java/util/LinkedHashMap", name := "sequencedEntrySet", desc := "()Ljava/util/SequencedSet;" } : Jvm.MethodName)) ∈ lw_all := lw_g (lw_at lw_m4 195 rfl) rfl
theorem q924 : (Jvm.Cond.code ({ cls := "java/util/LinkedHashMap", name := "sequencedEntrySet", desc := "()Ljava/util/SequencedSet;" } : Jvm.MethodName) prog_35_method_33_code (3 : Nat) (Option.some (Jvm.ClassFile.FieldType.object "java/util/SequencedSet"))) ∈ lw_all := lw_g (lw_at lw_m4 196 rfl) rfl
theorem q925 : (Jvm.Cond.classLink "java/util/LinkedHashMap" (154 : Nat) "java/util/LinkedHashMap$LinkedEntrySet") ∈ lw_all := lw_g (lw_at lw_m4 197 rfl) rfl
theorem q927 : (Jvm.Cond.methodLink "java/util/LinkedHashMap" (156 : Nat) ({ cls := "java/util/LinkedHashMap$LinkedEntrySet", name := "<init>", desc := "(Ljava/util/LinkedHashMap;Z)V" } : Jvm.MethodName)) ∈ lw_all := lw_g (lw_at lw_m4 199 rfl) rfl
theorem q1016 : (Jvm.Cond.sameMethod "java/util/LinkedHashMap" "java/util/HashMap" "removeNode" "(ILjava/lang/Object;Ljava/lang/Object;ZZ)Ljava/util/HashMap$Node;") ∈ lw_all := lw_g (lw_at lw_m5 48 rfl) rfl
theorem q1018 : (Jvm.Cond.selects "java/util/LinkedHashMap" ({ cls := "java/util/LinkedHashMap", name := "removeNode", desc := "(ILjava/lang/Object;Ljava/lang/Object;ZZ)Ljava/util/HashMap$Node;" } : Jvm.MethodName) ({ cls := "java/util/HashMap", name := "removeNode", desc := "(ILjava/lang/Object;Ljava/lang/Object;ZZ)Ljava/util/HashMap$Node;" } : Jvm.MethodName)) ∈ lw_all := lw_g (lw_at lw_m5 50 rfl) rfl
theorem q1046 : (Jvm.Cond.selects "java/util/LinkedHashMap" ({ cls := "java/util/HashMap", name := "equals", desc := "(Ljava/lang/Object;)Z" } : Jvm.MethodName) ({ cls := "java/util/AbstractMap", name := "equals", desc := "(Ljava/lang/Object;)Z" } : Jvm.MethodName)) ∈ lw_all := lw_g (lw_at lw_m5 78 rfl) rfl
theorem q1056 : (Jvm.Cond.selects "java/util/LinkedHashMap" ({ cls := "java/util/AbstractMap", name := "size", desc := "()I" } : Jvm.MethodName) ({ cls := "java/util/HashMap", name := "size", desc := "()I" } : Jvm.MethodName)) ∈ lw_all := lw_g (lw_at lw_m5 88 rfl) rfl
theorem q1062 : (Jvm.Cond.selects "java/util/LinkedHashMap" ({ cls := "java/util/AbstractMap", name := "entrySet", desc := "()Ljava/util/Set;" } : Jvm.MethodName) ({ cls := "java/util/LinkedHashMap", name := "entrySet", desc := "()Ljava/util/Set;" } : Jvm.MethodName)) ∈ lw_all := lw_g (lw_at lw_m5 94 rfl) rfl
theorem q1081 : (Jvm.Cond.selects "java/util/LinkedHashMap" ({ cls := "java/util/Map", name := "get", desc := "(Ljava/lang/Object;)Ljava/lang/Object;" } : Jvm.MethodName) ({ cls := "java/util/LinkedHashMap", name := "get", desc := "(Ljava/lang/Object;)Ljava/lang/Object;" } : Jvm.MethodName)) ∈ lw_all := lw_g (lw_at lw_m5 113 rfl) rfl
theorem q1082 : (Jvm.Cond.unhidden "java/util/LinkedHashMap" "get" "(Ljava/lang/Object;)Ljava/lang/Object;") ∈ lw_tbl := lw_at lw_m5 114 rfl
theorem q1083 : (Jvm.Cond.publicMethod ({ cls := "java/util/LinkedHashMap", name := "get", desc := "(Ljava/lang/Object;)Ljava/lang/Object;" } : Jvm.MethodName)) ∈ lw_tbl := lw_at lw_m5 115 rfl
theorem q1091 : (Jvm.Cond.selects "java/util/LinkedHashMap" ({ cls := "java/util/Map", name := "containsKey", desc := "(Ljava/lang/Object;)Z" } : Jvm.MethodName) ({ cls := "java/util/HashMap", name := "containsKey", desc := "(Ljava/lang/Object;)Z" } : Jvm.MethodName)) ∈ lw_all := lw_g (lw_at lw_m5 123 rfl) rfl
theorem q1092 : (Jvm.Cond.unhidden "java/util/LinkedHashMap" "containsKey" "(Ljava/lang/Object;)Z") ∈ lw_tbl := lw_at lw_m5 124 rfl
theorem q1283 : (Jvm.Cond.selects "java/util/LinkedHashMap" ({ cls := "java/util/LinkedHashMap", name := "afterNodeAccess", desc := "(Ljava/util/HashMap$Node;)V" } : Jvm.MethodName) ({ cls := "java/util/LinkedHashMap", name := "afterNodeAccess", desc := "(Ljava/util/HashMap$Node;)V" } : Jvm.MethodName)) ∈ lw_all := lw_g (lw_at lw_m6 75 rfl) rfl
theorem q1286 : (Jvm.Cond.selects "java/util/LinkedHashMap" ({ cls := "java/util/HashMap", name := "getNode", desc := "(Ljava/lang/Object;)Ljava/util/HashMap$Node;" } : Jvm.MethodName) ({ cls := "java/util/HashMap", name := "getNode", desc := "(Ljava/lang/Object;)Ljava/util/HashMap$Node;" } : Jvm.MethodName)) ∈ lw_all := lw_g (lw_at lw_m6 78 rfl) rfl
theorem q1289 : (Jvm.Cond.selects "java/util/LinkedHashMap" ({ cls := "java/util/HashMap", name := "entrySet", desc := "()Ljava/util/Set;" } : Jvm.MethodName) ({ cls := "java/util/LinkedHashMap", name := "entrySet", desc := "()Ljava/util/Set;" } : Jvm.MethodName)) ∈ lw_all := lw_g (lw_at lw_m6 81 rfl) rfl
theorem q1297 : (Jvm.Cond.castable "java/util/LinkedHashMap" "java/lang/Object") ∈ lw_tbl := lw_at lw_m6 89 rfl
theorem in_J2 : ∀ w ∈ wsJ20, w ∈ lw_all := lw_in wsJ20 [123, 124, 117, 118, 119, 120, 121, 122, 109, 111, 113, 115] (by decide +kernel) (by decide +kernel)
