set_option maxRecDepth 100000
def RJ1 : String := "java/util/HashMap"
def TJ1 : u_T := fun k => match k with
  | 0 => ("java/util/AbstractMap", "keySet", "Ljava/util/Set;", false)
  | 1 => ("java/util/AbstractMap", "values", "Ljava/util/Collection;", false)
  | 2 => ("java/util/HashMap", "table", "[Ljava/util/HashMap$Node;", false)
  | 3 => ("java/util/HashMap", "entrySet", "Ljava/util/Set;", false)
  | 4 => ("java/util/HashMap", "size", "I", false)
  | 5 => ("java/util/HashMap", "modCount", "I", false)
  | 6 => ("java/util/HashMap", "threshold", "I", false)
  | _ => ("java/util/HashMap", "loadFactor", "F", true)
def tyJ1 : Nat → FieldType := fun k => match k with
  | 0 => .object "java/util/Set"
  | 1 => .object "java/util/Collection"
  | 2 => .array (.object "java/util/HashMap$Node")
  | 3 => .object "java/util/Set"
  | 4 => .int
  | 5 => .int
  | 6 => .int
  | _ => .float
abbrev wsJ10 : List Cond := u_ws RJ1 TJ1 8
theorem nmJ1 : ∀ a, a < 8 → ∀ b, b < 8 → a ≠ b → (TJ1 a).2.1 ≠ (TJ1 b).2.1 := by decide +kernel
theorem tyJ1_ok : ∀ k, k < 8 → parseFieldDescriptor (TJ1 k).2.2.1 = some (tyJ1 k) := by decide +kernel
abbrev cJ1_init : ByteArray := prog_26_method_7_code
def yJ1_init : MethodName := ⟨RJ1, "<init>", "()V"⟩
theorem dJ1_init_0 : decode cJ1_init 0 = .ok (.aload_n 0, 1) := by decide +kernel
theorem dJ1_init_1 : decode cJ1_init 1 = .ok (.invokespecial 43, 3) := by decide +kernel
theorem dJ1_init_4 : decode cJ1_init 4 = .ok (.aload_n 0, 1) := by decide +kernel
theorem dJ1_init_5 : decode cJ1_init 5 = .ok (.ldc 92, 2) := by decide +kernel
theorem dJ1_init_7 : decode cJ1_init 7 = .ok (.putfield 81, 3) := by decide +kernel
theorem dJ1_init_10 : decode cJ1_init 10 = .ok (.return_, 1) := by decide +kernel
abbrev cJ1_init_2 : ByteArray := prog_26_method_5_code
def yJ1_init_2 : MethodName := ⟨RJ1, "<init>", "(IF)V"⟩
theorem dJ1_init_2_0 : decode cJ1_init_2 0 = .ok (.aload_n 0, 1) := by decide +kernel
theorem dJ1_init_2_1 : decode cJ1_init_2 1 = .ok (.invokespecial 43, 3) := by decide +kernel
theorem dJ1_init_2_4 : decode cJ1_init_2 4 = .ok (.iload_n 1, 1) := by decide +kernel
theorem dJ1_init_2_5 : decode cJ1_init_2 5 = .ok (.ifCond .ge 30, 3) := by decide +kernel
theorem dJ1_init_2_8 : decode cJ1_init_2 8 = .ok (.new 49, 3) := by decide +kernel
theorem dJ1_init_2_11 : decode cJ1_init_2 11 = .ok (.dup, 1) := by decide +kernel
theorem dJ1_init_2_12 : decode cJ1_init_2 12 = .ok (.new 51, 3) := by decide +kernel
theorem dJ1_init_2_15 : decode cJ1_init_2 15 = .ok (.dup, 1) := by decide +kernel
theorem dJ1_init_2_16 : decode cJ1_init_2 16 = .ok (.invokespecial 53, 3) := by decide +kernel
theorem dJ1_init_2_19 : decode cJ1_init_2 19 = .ok (.ldc 54, 2) := by decide +kernel
theorem dJ1_init_2_21 : decode cJ1_init_2 21 = .ok (.invokevirtual 56, 3) := by decide +kernel
theorem dJ1_init_2_24 : decode cJ1_init_2 24 = .ok (.iload_n 1, 1) := by decide +kernel
theorem dJ1_init_2_25 : decode cJ1_init_2 25 = .ok (.invokevirtual 60, 3) := by decide +kernel
theorem dJ1_init_2_28 : decode cJ1_init_2 28 = .ok (.invokevirtual 63, 3) := by decide +kernel
theorem dJ1_init_2_31 : decode cJ1_init_2 31 = .ok (.invokespecial 67, 3) := by decide +kernel
theorem dJ1_init_2_34 : decode cJ1_init_2 34 = .ok (.athrow, 1) := by decide +kernel
theorem dJ1_init_2_35 : decode cJ1_init_2 35 = .ok (.iload_n 1, 1) := by decide +kernel
theorem dJ1_init_2_36 : decode cJ1_init_2 36 = .ok (.ldc 42, 2) := by decide +kernel
theorem dJ1_init_2_38 : decode cJ1_init_2 38 = .ok (.if_icmp .le 6, 3) := by decide +kernel
theorem dJ1_init_2_41 : decode cJ1_init_2 41 = .ok (.ldc 42, 2) := by decide +kernel
theorem dJ1_init_2_43 : decode cJ1_init_2 43 = .ok (.istore_n 1, 1) := by decide +kernel
theorem dJ1_init_2_44 : decode cJ1_init_2 44 = .ok (.fload_n 2, 1) := by decide +kernel
theorem dJ1_init_2_45 : decode cJ1_init_2 45 = .ok (.fconst 0, 1) := by decide +kernel
theorem dJ1_init_2_46 : decode cJ1_init_2 46 = .ok (.fcmp .g, 1) := by decide +kernel
theorem dJ1_init_2_47 : decode cJ1_init_2 47 = .ok (.ifCond .le 10, 3) := by decide +kernel
theorem dJ1_init_2_50 : decode cJ1_init_2 50 = .ok (.fload_n 2, 1) := by decide +kernel
theorem dJ1_init_2_51 : decode cJ1_init_2 51 = .ok (.invokestatic 70, 3) := by decide +kernel
theorem dJ1_init_2_54 : decode cJ1_init_2 54 = .ok (.ifCond .eq 30, 3) := by decide +kernel
theorem dJ1_init_2_57 : decode cJ1_init_2 57 = .ok (.new 49, 3) := by decide +kernel
theorem dJ1_init_2_60 : decode cJ1_init_2 60 = .ok (.dup, 1) := by decide +kernel
theorem dJ1_init_2_61 : decode cJ1_init_2 61 = .ok (.new 51, 3) := by decide +kernel
theorem dJ1_init_2_64 : decode cJ1_init_2 64 = .ok (.dup, 1) := by decide +kernel
theorem dJ1_init_2_65 : decode cJ1_init_2 65 = .ok (.invokespecial 53, 3) := by decide +kernel
theorem dJ1_init_2_68 : decode cJ1_init_2 68 = .ok (.ldc 76, 2) := by decide +kernel
theorem dJ1_init_2_70 : decode cJ1_init_2 70 = .ok (.invokevirtual 56, 3) := by decide +kernel
theorem dJ1_init_2_73 : decode cJ1_init_2 73 = .ok (.fload_n 2, 1) := by decide +kernel
theorem dJ1_init_2_74 : decode cJ1_init_2 74 = .ok (.invokevirtual 78, 3) := by decide +kernel
theorem dJ1_init_2_77 : decode cJ1_init_2 77 = .ok (.invokevirtual 63, 3) := by decide +kernel
theorem dJ1_init_2_80 : decode cJ1_init_2 80 = .ok (.invokespecial 67, 3) := by decide +kernel
theorem dJ1_init_2_83 : decode cJ1_init_2 83 = .ok (.athrow, 1) := by decide +kernel
theorem dJ1_init_2_84 : decode cJ1_init_2 84 = .ok (.aload_n 0, 1) := by decide +kernel
theorem dJ1_init_2_85 : decode cJ1_init_2 85 = .ok (.fload_n 2, 1) := by decide +kernel
theorem dJ1_init_2_86 : decode cJ1_init_2 86 = .ok (.putfield 81, 3) := by decide +kernel
theorem dJ1_init_2_89 : decode cJ1_init_2 89 = .ok (.aload_n 0, 1) := by decide +kernel
theorem dJ1_init_2_90 : decode cJ1_init_2 90 = .ok (.iload_n 1, 1) := by decide +kernel
theorem dJ1_init_2_91 : decode cJ1_init_2 91 = .ok (.invokestatic 85, 3) := by decide +kernel
theorem dJ1_init_2_94 : decode cJ1_init_2 94 = .ok (.putfield 88, 3) := by decide +kernel
theorem dJ1_init_2_97 : decode cJ1_init_2 97 = .ok (.return_, 1) := by decide +kernel
abbrev cJ1_tableSizeFor : ByteArray := prog_26_method_4_code
def yJ1_tableSizeFor : MethodName := ⟨RJ1, "tableSizeFor", "(I)I"⟩
theorem dJ1_tableSizeFor_0 : decode cJ1_tableSizeFor 0 = .ok (.iconst (-1), 1) := by decide +kernel
theorem dJ1_tableSizeFor_1 : decode cJ1_tableSizeFor 1 = .ok (.iload_n 0, 1) := by decide +kernel
theorem dJ1_tableSizeFor_2 : decode cJ1_tableSizeFor 2 = .ok (.iconst 1, 1) := by decide +kernel
theorem dJ1_tableSizeFor_3 : decode cJ1_tableSizeFor 3 = .ok (.isub, 1) := by decide +kernel
theorem dJ1_tableSizeFor_4 : decode cJ1_tableSizeFor 4 = .ok (.invokestatic 34, 3) := by decide +kernel
theorem dJ1_tableSizeFor_7 : decode cJ1_tableSizeFor 7 = .ok (.iushr, 1) := by decide +kernel
theorem dJ1_tableSizeFor_8 : decode cJ1_tableSizeFor 8 = .ok (.istore_n 1, 1) := by decide +kernel
theorem dJ1_tableSizeFor_9 : decode cJ1_tableSizeFor 9 = .ok (.iload_n 1, 1) := by decide +kernel
theorem dJ1_tableSizeFor_10 : decode cJ1_tableSizeFor 10 = .ok (.ifCond .ge 7, 3) := by decide +kernel
theorem dJ1_tableSizeFor_13 : decode cJ1_tableSizeFor 13 = .ok (.iconst 1, 1) := by decide +kernel
theorem dJ1_tableSizeFor_14 : decode cJ1_tableSizeFor 14 = .ok (.goto 17, 3) := by decide +kernel
theorem dJ1_tableSizeFor_17 : decode cJ1_tableSizeFor 17 = .ok (.iload_n 1, 1) := by decide +kernel
theorem dJ1_tableSizeFor_18 : decode cJ1_tableSizeFor 18 = .ok (.ldc 42, 2) := by decide +kernel
theorem dJ1_tableSizeFor_20 : decode cJ1_tableSizeFor 20 = .ok (.if_icmp .lt 8, 3) := by decide +kernel
theorem dJ1_tableSizeFor_23 : decode cJ1_tableSizeFor 23 = .ok (.ldc 42, 2) := by decide +kernel
theorem dJ1_tableSizeFor_25 : decode cJ1_tableSizeFor 25 = .ok (.goto 6, 3) := by decide +kernel
theorem dJ1_tableSizeFor_28 : decode cJ1_tableSizeFor 28 = .ok (.iload_n 1, 1) := by decide +kernel
theorem dJ1_tableSizeFor_29 : decode cJ1_tableSizeFor 29 = .ok (.iconst 1, 1) := by decide +kernel
theorem dJ1_tableSizeFor_30 : decode cJ1_tableSizeFor 30 = .ok (.iadd, 1) := by decide +kernel
theorem dJ1_tableSizeFor_31 : decode cJ1_tableSizeFor 31 = .ok (.ireturn, 1) := by decide +kernel
abbrev cJ1_put : ByteArray := prog_26_method_15_code
def yJ1_put : MethodName := ⟨RJ1, "put", "(Ljava/lang/Object;Ljava/lang/Object;)Ljava/lang/Object;"⟩
theorem dJ1_put_0 : decode cJ1_put 0 = .ok (.aload_n 0, 1) := by decide +kernel
theorem dJ1_put_1 : decode cJ1_put 1 = .ok (.aload_n 1, 1) := by decide +kernel
theorem dJ1_put_2 : decode cJ1_put 2 = .ok (.invokestatic 149, 3) := by decide +kernel
theorem dJ1_put_5 : decode cJ1_put 5 = .ok (.aload_n 1, 1) := by decide +kernel
theorem dJ1_put_6 : decode cJ1_put 6 = .ok (.aload_n 2, 1) := by decide +kernel
theorem dJ1_put_7 : decode cJ1_put 7 = .ok (.iconst 0, 1) := by decide +kernel
theorem dJ1_put_8 : decode cJ1_put 8 = .ok (.iconst 1, 1) := by decide +kernel
theorem dJ1_put_9 : decode cJ1_put 9 = .ok (.invokevirtual 152, 3) := by decide +kernel
theorem dJ1_put_12 : decode cJ1_put 12 = .ok (.areturn, 1) := by decide +kernel
abbrev cJ1_hash : ByteArray := prog_26_method_1_code
def yJ1_hash : MethodName := ⟨RJ1, "hash", "(Ljava/lang/Object;)I"⟩
theorem dJ1_hash_0 : decode cJ1_hash 0 = .ok (.aload_n 0, 1) := by decide +kernel
theorem dJ1_hash_1 : decode cJ1_hash 1 = .ok (.ifnonnull 7, 3) := by decide +kernel
theorem dJ1_hash_4 : decode cJ1_hash 4 = .ok (.iconst 0, 1) := by decide +kernel
theorem dJ1_hash_5 : decode cJ1_hash 5 = .ok (.goto 14, 3) := by decide +kernel
theorem dJ1_hash_8 : decode cJ1_hash 8 = .ok (.aload_n 0, 1) := by decide +kernel
theorem dJ1_hash_9 : decode cJ1_hash 9 = .ok (.invokevirtual 1, 3) := by decide +kernel
theorem dJ1_hash_12 : decode cJ1_hash 12 = .ok (.dup, 1) := by decide +kernel
theorem dJ1_hash_13 : decode cJ1_hash 13 = .ok (.istore_n 1, 1) := by decide +kernel
theorem dJ1_hash_14 : decode cJ1_hash 14 = .ok (.iload_n 1, 1) := by decide +kernel
theorem dJ1_hash_15 : decode cJ1_hash 15 = .ok (.bipush 16, 2) := by decide +kernel
theorem dJ1_hash_17 : decode cJ1_hash 17 = .ok (.iushr, 1) := by decide +kernel
theorem dJ1_hash_18 : decode cJ1_hash 18 = .ok (.ixor, 1) := by decide +kernel
theorem dJ1_hash_19 : decode cJ1_hash 19 = .ok (.ireturn, 1) := by decide +kernel
abbrev cJ1_putVal : ByteArray := prog_26_method_16_code
def yJ1_putVal : MethodName := ⟨RJ1, "putVal", "(ILjava/lang/Object;Ljava/lang/Object;ZZ)Ljava/lang/Object;"⟩
theorem dJ1_putVal_0 : decode cJ1_putVal 0 = .ok (.aload_n 0, 1) := by decide +kernel
theorem dJ1_putVal_1 : decode cJ1_putVal 1 = .ok (.getfield 105, 3) := by decide +kernel
theorem dJ1_putVal_4 : decode cJ1_putVal 4 = .ok (.dup, 1) := by decide +kernel
theorem dJ1_putVal_5 : decode cJ1_putVal 5 = .ok (.astore 6, 2) := by decide +kernel
theorem dJ1_putVal_7 : decode cJ1_putVal 7 = .ok (.ifnull 12, 3) := by decide +kernel
theorem dJ1_putVal_10 : decode cJ1_putVal 10 = .ok (.aload 6, 2) := by decide +kernel
theorem dJ1_putVal_12 : decode cJ1_putVal 12 = .ok (.arraylength, 1) := by decide +kernel
theorem dJ1_putVal_13 : decode cJ1_putVal 13 = .ok (.dup, 1) := by decide +kernel
theorem dJ1_putVal_14 : decode cJ1_putVal 14 = .ok (.istore 8, 2) := by decide +kernel
theorem dJ1_putVal_16 : decode cJ1_putVal 16 = .ok (.ifCond .ne 13, 3) := by decide +kernel
theorem dJ1_putVal_19 : decode cJ1_putVal 19 = .ok (.aload_n 0, 1) := by decide +kernel
theorem dJ1_putVal_20 : decode cJ1_putVal 20 = .ok (.invokevirtual 117, 3) := by decide +kernel
theorem dJ1_putVal_23 : decode cJ1_putVal 23 = .ok (.dup, 1) := by decide +kernel
theorem dJ1_putVal_24 : decode cJ1_putVal 24 = .ok (.astore 6, 2) := by decide +kernel
theorem dJ1_putVal_26 : decode cJ1_putVal 26 = .ok (.arraylength, 1) := by decide +kernel
theorem dJ1_putVal_27 : decode cJ1_putVal 27 = .ok (.istore 8, 2) := by decide +kernel
theorem dJ1_putVal_29 : decode cJ1_putVal 29 = .ok (.aload 6, 2) := by decide +kernel
theorem dJ1_putVal_31 : decode cJ1_putVal 31 = .ok (.iload 8, 2) := by decide +kernel
theorem dJ1_putVal_33 : decode cJ1_putVal 33 = .ok (.iconst 1, 1) := by decide +kernel
theorem dJ1_putVal_34 : decode cJ1_putVal 34 = .ok (.isub, 1) := by decide +kernel
theorem dJ1_putVal_35 : decode cJ1_putVal 35 = .ok (.iload_n 1, 1) := by decide +kernel
theorem dJ1_putVal_36 : decode cJ1_putVal 36 = .ok (.iand, 1) := by decide +kernel
theorem dJ1_putVal_37 : decode cJ1_putVal 37 = .ok (.dup, 1) := by decide +kernel
theorem dJ1_putVal_38 : decode cJ1_putVal 38 = .ok (.istore 9, 2) := by decide +kernel
theorem dJ1_putVal_40 : decode cJ1_putVal 40 = .ok (.aaload, 1) := by decide +kernel
theorem dJ1_putVal_41 : decode cJ1_putVal 41 = .ok (.dup, 1) := by decide +kernel
theorem dJ1_putVal_42 : decode cJ1_putVal 42 = .ok (.astore 7, 2) := by decide +kernel
theorem dJ1_putVal_44 : decode cJ1_putVal 44 = .ok (.ifnonnull 19, 3) := by decide +kernel
theorem dJ1_putVal_47 : decode cJ1_putVal 47 = .ok (.aload 6, 2) := by decide +kernel
theorem dJ1_putVal_49 : decode cJ1_putVal 49 = .ok (.iload 9, 2) := by decide +kernel
theorem dJ1_putVal_51 : decode cJ1_putVal 51 = .ok (.aload_n 0, 1) := by decide +kernel
theorem dJ1_putVal_52 : decode cJ1_putVal 52 = .ok (.iload_n 1, 1) := by decide +kernel
theorem dJ1_putVal_53 : decode cJ1_putVal 53 = .ok (.aload_n 2, 1) := by decide +kernel
theorem dJ1_putVal_54 : decode cJ1_putVal 54 = .ok (.aload_n 3, 1) := by decide +kernel
theorem dJ1_putVal_55 : decode cJ1_putVal 55 = .ok (.aconst_null, 1) := by decide +kernel
theorem dJ1_putVal_56 : decode cJ1_putVal 56 = .ok (.invokevirtual 186, 3) := by decide +kernel
theorem dJ1_putVal_59 : decode cJ1_putVal 59 = .ok (.aastore, 1) := by decide +kernel
theorem dJ1_putVal_60 : decode cJ1_putVal 60 = .ok (.goto 199, 3) := by decide +kernel
theorem dJ1_putVal_63 : decode cJ1_putVal 63 = .ok (.aload 7, 2) := by decide +kernel
theorem dJ1_putVal_65 : decode cJ1_putVal 65 = .ok (.getfield 168, 3) := by decide +kernel
theorem dJ1_putVal_68 : decode cJ1_putVal 68 = .ok (.iload_n 1, 1) := by decide +kernel
theorem dJ1_putVal_69 : decode cJ1_putVal 69 = .ok (.if_icmp .ne 35, 3) := by decide +kernel
theorem dJ1_putVal_72 : decode cJ1_putVal 72 = .ok (.aload 7, 2) := by decide +kernel
theorem dJ1_putVal_74 : decode cJ1_putVal 74 = .ok (.getfield 170, 3) := by decide +kernel
theorem dJ1_putVal_77 : decode cJ1_putVal 77 = .ok (.dup, 1) := by decide +kernel
theorem dJ1_putVal_78 : decode cJ1_putVal 78 = .ok (.astore 11, 2) := by decide +kernel
theorem dJ1_putVal_80 : decode cJ1_putVal 80 = .ok (.aload_n 2, 1) := by decide +kernel
theorem dJ1_putVal_81 : decode cJ1_putVal 81 = .ok (.if_acmp .eq 16, 3) := by decide +kernel
theorem dJ1_putVal_84 : decode cJ1_putVal 84 = .ok (.aload_n 2, 1) := by decide +kernel
theorem dJ1_putVal_85 : decode cJ1_putVal 85 = .ok (.ifnull 19, 3) := by decide +kernel
theorem dJ1_putVal_88 : decode cJ1_putVal 88 = .ok (.aload_n 2, 1) := by decide +kernel
theorem dJ1_putVal_89 : decode cJ1_putVal 89 = .ok (.aload 11, 2) := by decide +kernel
theorem dJ1_putVal_91 : decode cJ1_putVal 91 = .ok (.invokevirtual 173, 3) := by decide +kernel
theorem dJ1_putVal_94 : decode cJ1_putVal 94 = .ok (.ifCond .eq 10, 3) := by decide +kernel
theorem dJ1_putVal_97 : decode cJ1_putVal 97 = .ok (.aload 7, 2) := by decide +kernel
theorem dJ1_putVal_99 : decode cJ1_putVal 99 = .ok (.astore 10, 2) := by decide +kernel
theorem dJ1_putVal_101 : decode cJ1_putVal 101 = .ok (.goto 121, 3) := by decide +kernel
theorem dJ1_putVal_104 : decode cJ1_putVal 104 = .ok (.aload 7, 2) := by decide +kernel
theorem dJ1_putVal_106 : decode cJ1_putVal 106 = .ok (.instanceof 180, 3) := by decide +kernel
theorem dJ1_putVal_109 : decode cJ1_putVal 109 = .ok (.ifCond .eq 22, 3) := by decide +kernel
theorem dJ1_putVal_112 : decode cJ1_putVal 112 = .ok (.aload 7, 2) := by decide +kernel
theorem dJ1_putVal_114 : decode cJ1_putVal 114 = .ok (.checkcast 180, 3) := by decide +kernel
theorem dJ1_putVal_117 : decode cJ1_putVal 117 = .ok (.aload_n 0, 1) := by decide +kernel
theorem dJ1_putVal_118 : decode cJ1_putVal 118 = .ok (.aload 6, 2) := by decide +kernel
theorem dJ1_putVal_120 : decode cJ1_putVal 120 = .ok (.iload_n 1, 1) := by decide +kernel
theorem dJ1_putVal_121 : decode cJ1_putVal 121 = .ok (.aload_n 2, 1) := by decide +kernel
theorem dJ1_putVal_122 : decode cJ1_putVal 122 = .ok (.aload_n 3, 1) := by decide +kernel
theorem dJ1_putVal_123 : decode cJ1_putVal 123 = .ok (.invokevirtual 190, 3) := by decide +kernel
theorem dJ1_putVal_126 : decode cJ1_putVal 126 = .ok (.astore 10, 2) := by decide +kernel
theorem dJ1_putVal_128 : decode cJ1_putVal 128 = .ok (.goto 94, 3) := by decide +kernel
theorem dJ1_putVal_131 : decode cJ1_putVal 131 = .ok (.iconst 0, 1) := by decide +kernel
theorem dJ1_putVal_132 : decode cJ1_putVal 132 = .ok (.istore 12, 2) := by decide +kernel
theorem dJ1_putVal_134 : decode cJ1_putVal 134 = .ok (.aload 7, 2) := by decide +kernel
theorem dJ1_putVal_136 : decode cJ1_putVal 136 = .ok (.getfield 177, 3) := by decide +kernel
theorem dJ1_putVal_139 : decode cJ1_putVal 139 = .ok (.dup, 1) := by decide +kernel
theorem dJ1_putVal_140 : decode cJ1_putVal 140 = .ok (.astore 10, 2) := by decide +kernel
theorem dJ1_putVal_142 : decode cJ1_putVal 142 = .ok (.ifnonnull 33, 3) := by decide +kernel
theorem dJ1_putVal_145 : decode cJ1_putVal 145 = .ok (.aload 7, 2) := by decide +kernel
theorem dJ1_putVal_147 : decode cJ1_putVal 147 = .ok (.aload_n 0, 1) := by decide +kernel
theorem dJ1_putVal_148 : decode cJ1_putVal 148 = .ok (.iload_n 1, 1) := by decide +kernel
theorem dJ1_putVal_149 : decode cJ1_putVal 149 = .ok (.aload_n 2, 1) := by decide +kernel
theorem dJ1_putVal_150 : decode cJ1_putVal 150 = .ok (.aload_n 3, 1) := by decide +kernel
theorem dJ1_putVal_151 : decode cJ1_putVal 151 = .ok (.aconst_null, 1) := by decide +kernel
theorem dJ1_putVal_152 : decode cJ1_putVal 152 = .ok (.invokevirtual 186, 3) := by decide +kernel
theorem dJ1_putVal_155 : decode cJ1_putVal 155 = .ok (.putfield 177, 3) := by decide +kernel
theorem dJ1_putVal_158 : decode cJ1_putVal 158 = .ok (.iload 12, 2) := by decide +kernel
theorem dJ1_putVal_160 : decode cJ1_putVal 160 = .ok (.bipush 7, 2) := by decide +kernel
theorem dJ1_putVal_162 : decode cJ1_putVal 162 = .ok (.if_icmp .lt 60, 3) := by decide +kernel
theorem dJ1_putVal_165 : decode cJ1_putVal 165 = .ok (.aload_n 0, 1) := by decide +kernel
theorem dJ1_putVal_166 : decode cJ1_putVal 166 = .ok (.aload 6, 2) := by decide +kernel
theorem dJ1_putVal_168 : decode cJ1_putVal 168 = .ok (.iload_n 1, 1) := by decide +kernel
theorem dJ1_putVal_169 : decode cJ1_putVal 169 = .ok (.invokevirtual 194, 3) := by decide +kernel
theorem dJ1_putVal_172 : decode cJ1_putVal 172 = .ok (.goto 50, 3) := by decide +kernel
theorem dJ1_putVal_175 : decode cJ1_putVal 175 = .ok (.aload 10, 2) := by decide +kernel
theorem dJ1_putVal_177 : decode cJ1_putVal 177 = .ok (.getfield 168, 3) := by decide +kernel
theorem dJ1_putVal_180 : decode cJ1_putVal 180 = .ok (.iload_n 1, 1) := by decide +kernel
theorem dJ1_putVal_181 : decode cJ1_putVal 181 = .ok (.if_icmp .ne 31, 3) := by decide +kernel
theorem dJ1_putVal_184 : decode cJ1_putVal 184 = .ok (.aload 10, 2) := by decide +kernel
theorem dJ1_putVal_186 : decode cJ1_putVal 186 = .ok (.getfield 170, 3) := by decide +kernel
theorem dJ1_putVal_189 : decode cJ1_putVal 189 = .ok (.dup, 1) := by decide +kernel
theorem dJ1_putVal_190 : decode cJ1_putVal 190 = .ok (.astore 11, 2) := by decide +kernel
theorem dJ1_putVal_192 : decode cJ1_putVal 192 = .ok (.aload_n 2, 1) := by decide +kernel
theorem dJ1_putVal_193 : decode cJ1_putVal 193 = .ok (.if_acmp .eq 29, 3) := by decide +kernel
theorem dJ1_putVal_196 : decode cJ1_putVal 196 = .ok (.aload_n 2, 1) := by decide +kernel
theorem dJ1_putVal_197 : decode cJ1_putVal 197 = .ok (.ifnull 15, 3) := by decide +kernel
theorem dJ1_putVal_200 : decode cJ1_putVal 200 = .ok (.aload_n 2, 1) := by decide +kernel
theorem dJ1_putVal_201 : decode cJ1_putVal 201 = .ok (.aload 11, 2) := by decide +kernel
theorem dJ1_putVal_203 : decode cJ1_putVal 203 = .ok (.invokevirtual 173, 3) := by decide +kernel
theorem dJ1_putVal_206 : decode cJ1_putVal 206 = .ok (.ifCond .eq 6, 3) := by decide +kernel
theorem dJ1_putVal_209 : decode cJ1_putVal 209 = .ok (.goto 13, 3) := by decide +kernel
theorem dJ1_putVal_212 : decode cJ1_putVal 212 = .ok (.aload 10, 2) := by decide +kernel
theorem dJ1_putVal_214 : decode cJ1_putVal 214 = .ok (.astore 7, 2) := by decide +kernel
theorem dJ1_putVal_216 : decode cJ1_putVal 216 = .ok (.iinc 12 1, 3) := by decide +kernel
theorem dJ1_putVal_219 : decode cJ1_putVal 219 = .ok (.goto (-85), 3) := by decide +kernel
theorem dJ1_putVal_222 : decode cJ1_putVal 222 = .ok (.aload 10, 2) := by decide +kernel
theorem dJ1_putVal_224 : decode cJ1_putVal 224 = .ok (.ifnull 35, 3) := by decide +kernel
theorem dJ1_putVal_227 : decode cJ1_putVal 227 = .ok (.aload 10, 2) := by decide +kernel
theorem dJ1_putVal_229 : decode cJ1_putVal 229 = .ok (.getfield 162, 3) := by decide +kernel
theorem dJ1_putVal_232 : decode cJ1_putVal 232 = .ok (.astore 12, 2) := by decide +kernel
theorem dJ1_putVal_234 : decode cJ1_putVal 234 = .ok (.iload 4, 2) := by decide +kernel
theorem dJ1_putVal_236 : decode cJ1_putVal 236 = .ok (.ifCond .eq 8, 3) := by decide +kernel
theorem dJ1_putVal_239 : decode cJ1_putVal 239 = .ok (.aload 12, 2) := by decide +kernel
theorem dJ1_putVal_241 : decode cJ1_putVal 241 = .ok (.ifnonnull 9, 3) := by decide +kernel
theorem dJ1_putVal_244 : decode cJ1_putVal 244 = .ok (.aload 10, 2) := by decide +kernel
theorem dJ1_putVal_246 : decode cJ1_putVal 246 = .ok (.aload_n 3, 1) := by decide +kernel
theorem dJ1_putVal_247 : decode cJ1_putVal 247 = .ok (.putfield 162, 3) := by decide +kernel
theorem dJ1_putVal_250 : decode cJ1_putVal 250 = .ok (.aload_n 0, 1) := by decide +kernel
theorem dJ1_putVal_251 : decode cJ1_putVal 251 = .ok (.aload 10, 2) := by decide +kernel
theorem dJ1_putVal_253 : decode cJ1_putVal 253 = .ok (.invokevirtual 198, 3) := by decide +kernel
theorem dJ1_putVal_256 : decode cJ1_putVal 256 = .ok (.aload 12, 2) := by decide +kernel
theorem dJ1_putVal_258 : decode cJ1_putVal 258 = .ok (.areturn, 1) := by decide +kernel
theorem dJ1_putVal_259 : decode cJ1_putVal 259 = .ok (.aload_n 0, 1) := by decide +kernel
theorem dJ1_putVal_260 : decode cJ1_putVal 260 = .ok (.dup, 1) := by decide +kernel
theorem dJ1_putVal_261 : decode cJ1_putVal 261 = .ok (.getfield 202, 3) := by decide +kernel
theorem dJ1_putVal_264 : decode cJ1_putVal 264 = .ok (.iconst 1, 1) := by decide +kernel
theorem dJ1_putVal_265 : decode cJ1_putVal 265 = .ok (.iadd, 1) := by decide +kernel
theorem dJ1_putVal_266 : decode cJ1_putVal 266 = .ok (.putfield 202, 3) := by decide +kernel
theorem dJ1_putVal_269 : decode cJ1_putVal 269 = .ok (.aload_n 0, 1) := by decide +kernel
theorem dJ1_putVal_270 : decode cJ1_putVal 270 = .ok (.dup, 1) := by decide +kernel
theorem dJ1_putVal_271 : decode cJ1_putVal 271 = .ok (.getfield 156, 3) := by decide +kernel
theorem dJ1_putVal_274 : decode cJ1_putVal 274 = .ok (.iconst 1, 1) := by decide +kernel
theorem dJ1_putVal_275 : decode cJ1_putVal 275 = .ok (.iadd, 1) := by decide +kernel
theorem dJ1_putVal_276 : decode cJ1_putVal 276 = .ok (.dup_x1, 1) := by decide +kernel
theorem dJ1_putVal_277 : decode cJ1_putVal 277 = .ok (.putfield 156, 3) := by decide +kernel
theorem dJ1_putVal_280 : decode cJ1_putVal 280 = .ok (.aload_n 0, 1) := by decide +kernel
theorem dJ1_putVal_281 : decode cJ1_putVal 281 = .ok (.getfield 88, 3) := by decide +kernel
theorem dJ1_putVal_284 : decode cJ1_putVal 284 = .ok (.if_icmp .le 8, 3) := by decide +kernel
theorem dJ1_putVal_287 : decode cJ1_putVal 287 = .ok (.aload_n 0, 1) := by decide +kernel
theorem dJ1_putVal_288 : decode cJ1_putVal 288 = .ok (.invokevirtual 117, 3) := by decide +kernel
theorem dJ1_putVal_291 : decode cJ1_putVal 291 = .ok (.pop, 1) := by decide +kernel
theorem dJ1_putVal_292 : decode cJ1_putVal 292 = .ok (.aload_n 0, 1) := by decide +kernel
theorem dJ1_putVal_293 : decode cJ1_putVal 293 = .ok (.iload 5, 2) := by decide +kernel
theorem dJ1_putVal_295 : decode cJ1_putVal 295 = .ok (.invokevirtual 205, 3) := by decide +kernel
theorem dJ1_putVal_298 : decode cJ1_putVal 298 = .ok (.aconst_null, 1) := by decide +kernel
theorem dJ1_putVal_299 : decode cJ1_putVal 299 = .ok (.areturn, 1) := by decide +kernel
abbrev cJ1_resize : ByteArray := prog_26_method_17_code
def yJ1_resize : MethodName := ⟨RJ1, "resize", "()[Ljava/util/HashMap$Node;"⟩
theorem dJ1_resize_0 : decode cJ1_resize 0 = .ok (.aload_n 0, 1) := by decide +kernel
theorem dJ1_resize_1 : decode cJ1_resize 1 = .ok (.getfield 105, 3) := by decide +kernel
theorem dJ1_resize_4 : decode cJ1_resize 4 = .ok (.astore_n 1, 1) := by decide +kernel
theorem dJ1_resize_5 : decode cJ1_resize 5 = .ok (.aload_n 1, 1) := by decide +kernel
theorem dJ1_resize_6 : decode cJ1_resize 6 = .ok (.ifnonnull 7, 3) := by decide +kernel
theorem dJ1_resize_9 : decode cJ1_resize 9 = .ok (.iconst 0, 1) := by decide +kernel
theorem dJ1_resize_10 : decode cJ1_resize 10 = .ok (.goto 5, 3) := by decide +kernel
theorem dJ1_resize_13 : decode cJ1_resize 13 = .ok (.aload_n 1, 1) := by decide +kernel
theorem dJ1_resize_14 : decode cJ1_resize 14 = .ok (.arraylength, 1) := by decide +kernel
theorem dJ1_resize_15 : decode cJ1_resize 15 = .ok (.istore_n 2, 1) := by decide +kernel
theorem dJ1_resize_16 : decode cJ1_resize 16 = .ok (.aload_n 0, 1) := by decide +kernel
theorem dJ1_resize_17 : decode cJ1_resize 17 = .ok (.getfield 88, 3) := by decide +kernel
theorem dJ1_resize_20 : decode cJ1_resize 20 = .ok (.istore_n 3, 1) := by decide +kernel
theorem dJ1_resize_21 : decode cJ1_resize 21 = .ok (.iconst 0, 1) := by decide +kernel
theorem dJ1_resize_22 : decode cJ1_resize 22 = .ok (.istore 5, 2) := by decide +kernel
theorem dJ1_resize_24 : decode cJ1_resize 24 = .ok (.iload_n 2, 1) := by decide +kernel
theorem dJ1_resize_25 : decode cJ1_resize 25 = .ok (.ifCond .le 42, 3) := by decide +kernel
theorem dJ1_resize_28 : decode cJ1_resize 28 = .ok (.iload_n 2, 1) := by decide +kernel
theorem dJ1_resize_29 : decode cJ1_resize 29 = .ok (.ldc 42, 2) := by decide +kernel
theorem dJ1_resize_31 : decode cJ1_resize 31 = .ok (.if_icmp .lt 11, 3) := by decide +kernel
theorem dJ1_resize_34 : decode cJ1_resize 34 = .ok (.aload_n 0, 1) := by decide +kernel
theorem dJ1_resize_35 : decode cJ1_resize 35 = .ok (.ldc 209, 2) := by decide +kernel
theorem dJ1_resize_37 : decode cJ1_resize 37 = .ok (.putfield 88, 3) := by decide +kernel
theorem dJ1_resize_40 : decode cJ1_resize 40 = .ok (.aload_n 1, 1) := by decide +kernel
theorem dJ1_resize_41 : decode cJ1_resize 41 = .ok (.areturn, 1) := by decide +kernel
theorem dJ1_resize_42 : decode cJ1_resize 42 = .ok (.iload_n 2, 1) := by decide +kernel
theorem dJ1_resize_43 : decode cJ1_resize 43 = .ok (.iconst 1, 1) := by decide +kernel
theorem dJ1_resize_44 : decode cJ1_resize 44 = .ok (.ishl, 1) := by decide +kernel
theorem dJ1_resize_45 : decode cJ1_resize 45 = .ok (.dup, 1) := by decide +kernel
theorem dJ1_resize_46 : decode cJ1_resize 46 = .ok (.istore 4, 2) := by decide +kernel
theorem dJ1_resize_48 : decode cJ1_resize 48 = .ok (.ldc 42, 2) := by decide +kernel
theorem dJ1_resize_50 : decode cJ1_resize 50 = .ok (.if_icmp .ge 35, 3) := by decide +kernel
theorem dJ1_resize_53 : decode cJ1_resize 53 = .ok (.iload_n 2, 1) := by decide +kernel
theorem dJ1_resize_54 : decode cJ1_resize 54 = .ok (.bipush 16, 2) := by decide +kernel
theorem dJ1_resize_56 : decode cJ1_resize 56 = .ok (.if_icmp .lt 29, 3) := by decide +kernel
theorem dJ1_resize_59 : decode cJ1_resize 59 = .ok (.iload_n 3, 1) := by decide +kernel
theorem dJ1_resize_60 : decode cJ1_resize 60 = .ok (.iconst 1, 1) := by decide +kernel
theorem dJ1_resize_61 : decode cJ1_resize 61 = .ok (.ishl, 1) := by decide +kernel
theorem dJ1_resize_62 : decode cJ1_resize 62 = .ok (.istore 5, 2) := by decide +kernel
theorem dJ1_resize_64 : decode cJ1_resize 64 = .ok (.goto 21, 3) := by decide +kernel
theorem dJ1_resize_67 : decode cJ1_resize 67 = .ok (.iload_n 3, 1) := by decide +kernel
theorem dJ1_resize_68 : decode cJ1_resize 68 = .ok (.ifCond .le 9, 3) := by decide +kernel
theorem dJ1_resize_71 : decode cJ1_resize 71 = .ok (.iload_n 3, 1) := by decide +kernel
theorem dJ1_resize_72 : decode cJ1_resize 72 = .ok (.istore 4, 2) := by decide +kernel
theorem dJ1_resize_74 : decode cJ1_resize 74 = .ok (.goto 11, 3) := by decide +kernel
theorem dJ1_resize_77 : decode cJ1_resize 77 = .ok (.bipush 16, 2) := by decide +kernel
theorem dJ1_resize_79 : decode cJ1_resize 79 = .ok (.istore 4, 2) := by decide +kernel
theorem dJ1_resize_81 : decode cJ1_resize 81 = .ok (.bipush 12, 2) := by decide +kernel
theorem dJ1_resize_83 : decode cJ1_resize 83 = .ok (.istore 5, 2) := by decide +kernel
theorem dJ1_resize_85 : decode cJ1_resize 85 = .ok (.iload 5, 2) := by decide +kernel
theorem dJ1_resize_87 : decode cJ1_resize 87 = .ok (.ifCond .ne 38, 3) := by decide +kernel
theorem dJ1_resize_90 : decode cJ1_resize 90 = .ok (.iload 4, 2) := by decide +kernel
theorem dJ1_resize_92 : decode cJ1_resize 92 = .ok (.i2f, 1) := by decide +kernel
theorem dJ1_resize_93 : decode cJ1_resize 93 = .ok (.aload_n 0, 1) := by decide +kernel
theorem dJ1_resize_94 : decode cJ1_resize 94 = .ok (.getfield 81, 3) := by decide +kernel
theorem dJ1_resize_97 : decode cJ1_resize 97 = .ok (.fmul, 1) := by decide +kernel
theorem dJ1_resize_98 : decode cJ1_resize 98 = .ok (.fstore 6, 2) := by decide +kernel
theorem dJ1_resize_100 : decode cJ1_resize 100 = .ok (.iload 4, 2) := by decide +kernel
theorem dJ1_resize_102 : decode cJ1_resize 102 = .ok (.ldc 42, 2) := by decide +kernel
theorem dJ1_resize_104 : decode cJ1_resize 104 = .ok (.if_icmp .ge 17, 3) := by decide +kernel
theorem dJ1_resize_107 : decode cJ1_resize 107 = .ok (.fload 6, 2) := by decide +kernel
theorem dJ1_resize_109 : decode cJ1_resize 109 = .ok (.ldc 210, 2) := by decide +kernel
theorem dJ1_resize_111 : decode cJ1_resize 111 = .ok (.fcmp .g, 1) := by decide +kernel
theorem dJ1_resize_112 : decode cJ1_resize 112 = .ok (.ifCond .ge 9, 3) := by decide +kernel
theorem dJ1_resize_115 : decode cJ1_resize 115 = .ok (.fload 6, 2) := by decide +kernel
theorem dJ1_resize_117 : decode cJ1_resize 117 = .ok (.f2i, 1) := by decide +kernel
theorem dJ1_resize_118 : decode cJ1_resize 118 = .ok (.goto 5, 3) := by decide +kernel
theorem dJ1_resize_121 : decode cJ1_resize 121 = .ok (.ldc 209, 2) := by decide +kernel
theorem dJ1_resize_123 : decode cJ1_resize 123 = .ok (.istore 5, 2) := by decide +kernel
theorem dJ1_resize_125 : decode cJ1_resize 125 = .ok (.aload_n 0, 1) := by decide +kernel
theorem dJ1_resize_126 : decode cJ1_resize 126 = .ok (.iload 5, 2) := by decide +kernel
theorem dJ1_resize_128 : decode cJ1_resize 128 = .ok (.putfield 88, 3) := by decide +kernel
theorem dJ1_resize_131 : decode cJ1_resize 131 = .ok (.iload 4, 2) := by decide +kernel
theorem dJ1_resize_133 : decode cJ1_resize 133 = .ok (.anewarray 163, 3) := by decide +kernel
theorem dJ1_resize_136 : decode cJ1_resize 136 = .ok (.astore 6, 2) := by decide +kernel
theorem dJ1_resize_138 : decode cJ1_resize 138 = .ok (.aload_n 0, 1) := by decide +kernel
theorem dJ1_resize_139 : decode cJ1_resize 139 = .ok (.aload 6, 2) := by decide +kernel
theorem dJ1_resize_141 : decode cJ1_resize 141 = .ok (.putfield 105, 3) := by decide +kernel
theorem dJ1_resize_144 : decode cJ1_resize 144 = .ok (.aload_n 1, 1) := by decide +kernel
theorem dJ1_resize_145 : decode cJ1_resize 145 = .ok (.ifnull 208, 3) := by decide +kernel
theorem dJ1_resize_148 : decode cJ1_resize 148 = .ok (.iconst 0, 1) := by decide +kernel
theorem dJ1_resize_149 : decode cJ1_resize 149 = .ok (.istore 7, 2) := by decide +kernel
theorem dJ1_resize_151 : decode cJ1_resize 151 = .ok (.iload 7, 2) := by decide +kernel
theorem dJ1_resize_153 : decode cJ1_resize 153 = .ok (.iload_n 2, 1) := by decide +kernel
theorem dJ1_resize_154 : decode cJ1_resize 154 = .ok (.if_icmp .ge 199, 3) := by decide +kernel
theorem dJ1_resize_157 : decode cJ1_resize 157 = .ok (.aload_n 1, 1) := by decide +kernel
theorem dJ1_resize_158 : decode cJ1_resize 158 = .ok (.iload 7, 2) := by decide +kernel
theorem dJ1_resize_160 : decode cJ1_resize 160 = .ok (.aaload, 1) := by decide +kernel
theorem dJ1_resize_161 : decode cJ1_resize 161 = .ok (.dup, 1) := by decide +kernel
theorem dJ1_resize_162 : decode cJ1_resize 162 = .ok (.astore 8, 2) := by decide +kernel
theorem dJ1_resize_164 : decode cJ1_resize 164 = .ok (.ifnull 183, 3) := by decide +kernel
theorem dJ1_resize_167 : decode cJ1_resize 167 = .ok (.aload_n 1, 1) := by decide +kernel
theorem dJ1_resize_168 : decode cJ1_resize 168 = .ok (.iload 7, 2) := by decide +kernel
theorem dJ1_resize_170 : decode cJ1_resize 170 = .ok (.aconst_null, 1) := by decide +kernel
theorem dJ1_resize_171 : decode cJ1_resize 171 = .ok (.aastore, 1) := by decide +kernel
theorem dJ1_resize_172 : decode cJ1_resize 172 = .ok (.aload 8, 2) := by decide +kernel
theorem dJ1_resize_174 : decode cJ1_resize 174 = .ok (.getfield 177, 3) := by decide +kernel
theorem dJ1_resize_177 : decode cJ1_resize 177 = .ok (.ifnonnull 21, 3) := by decide +kernel
theorem dJ1_resize_180 : decode cJ1_resize 180 = .ok (.aload 6, 2) := by decide +kernel
theorem dJ1_resize_182 : decode cJ1_resize 182 = .ok (.aload 8, 2) := by decide +kernel
theorem dJ1_resize_184 : decode cJ1_resize 184 = .ok (.getfield 168, 3) := by decide +kernel
theorem dJ1_resize_187 : decode cJ1_resize 187 = .ok (.iload 4, 2) := by decide +kernel
theorem dJ1_resize_189 : decode cJ1_resize 189 = .ok (.iconst 1, 1) := by decide +kernel
theorem dJ1_resize_190 : decode cJ1_resize 190 = .ok (.isub, 1) := by decide +kernel
theorem dJ1_resize_191 : decode cJ1_resize 191 = .ok (.iand, 1) := by decide +kernel
theorem dJ1_resize_192 : decode cJ1_resize 192 = .ok (.aload 8, 2) := by decide +kernel
theorem dJ1_resize_194 : decode cJ1_resize 194 = .ok (.aastore, 1) := by decide +kernel
theorem dJ1_resize_195 : decode cJ1_resize 195 = .ok (.goto 152, 3) := by decide +kernel
theorem dJ1_resize_198 : decode cJ1_resize 198 = .ok (.aload 8, 2) := by decide +kernel
theorem dJ1_resize_200 : decode cJ1_resize 200 = .ok (.instanceof 180, 3) := by decide +kernel
theorem dJ1_resize_203 : decode cJ1_resize 203 = .ok (.ifCond .eq 20, 3) := by decide +kernel
theorem dJ1_resize_206 : decode cJ1_resize 206 = .ok (.aload 8, 2) := by decide +kernel
theorem dJ1_resize_208 : decode cJ1_resize 208 = .ok (.checkcast 180, 3) := by decide +kernel
theorem dJ1_resize_211 : decode cJ1_resize 211 = .ok (.aload_n 0, 1) := by decide +kernel
theorem dJ1_resize_212 : decode cJ1_resize 212 = .ok (.aload 6, 2) := by decide +kernel
theorem dJ1_resize_214 : decode cJ1_resize 214 = .ok (.iload 7, 2) := by decide +kernel
theorem dJ1_resize_216 : decode cJ1_resize 216 = .ok (.iload_n 2, 1) := by decide +kernel
theorem dJ1_resize_217 : decode cJ1_resize 217 = .ok (.invokevirtual 211, 3) := by decide +kernel
theorem dJ1_resize_220 : decode cJ1_resize 220 = .ok (.goto 127, 3) := by decide +kernel
theorem dJ1_resize_223 : decode cJ1_resize 223 = .ok (.aconst_null, 1) := by decide +kernel
theorem dJ1_resize_224 : decode cJ1_resize 224 = .ok (.astore 9, 2) := by decide +kernel
theorem dJ1_resize_226 : decode cJ1_resize 226 = .ok (.aconst_null, 1) := by decide +kernel
theorem dJ1_resize_227 : decode cJ1_resize 227 = .ok (.astore 10, 2) := by decide +kernel
theorem dJ1_resize_229 : decode cJ1_resize 229 = .ok (.aconst_null, 1) := by decide +kernel
theorem dJ1_resize_230 : decode cJ1_resize 230 = .ok (.astore 11, 2) := by decide +kernel
theorem dJ1_resize_232 : decode cJ1_resize 232 = .ok (.aconst_null, 1) := by decide +kernel
theorem dJ1_resize_233 : decode cJ1_resize 233 = .ok (.astore 12, 2) := by decide +kernel
theorem dJ1_resize_235 : decode cJ1_resize 235 = .ok (.aload 8, 2) := by decide +kernel
theorem dJ1_resize_237 : decode cJ1_resize 237 = .ok (.getfield 177, 3) := by decide +kernel
theorem dJ1_resize_240 : decode cJ1_resize 240 = .ok (.astore 13, 2) := by decide +kernel
theorem dJ1_resize_242 : decode cJ1_resize 242 = .ok (.aload 8, 2) := by decide +kernel
theorem dJ1_resize_244 : decode cJ1_resize 244 = .ok (.getfield 168, 3) := by decide +kernel
theorem dJ1_resize_247 : decode cJ1_resize 247 = .ok (.iload_n 2, 1) := by decide +kernel
theorem dJ1_resize_248 : decode cJ1_resize 248 = .ok (.iand, 1) := by decide +kernel
theorem dJ1_resize_249 : decode cJ1_resize 249 = .ok (.ifCond .ne 29, 3) := by decide +kernel
theorem dJ1_resize_252 : decode cJ1_resize 252 = .ok (.aload 10, 2) := by decide +kernel
theorem dJ1_resize_254 : decode cJ1_resize 254 = .ok (.ifnonnull 10, 3) := by decide +kernel
theorem dJ1_resize_257 : decode cJ1_resize 257 = .ok (.aload 8, 2) := by decide +kernel
theorem dJ1_resize_259 : decode cJ1_resize 259 = .ok (.astore 9, 2) := by decide +kernel
theorem dJ1_resize_261 : decode cJ1_resize 261 = .ok (.goto 10, 3) := by decide +kernel
theorem dJ1_resize_264 : decode cJ1_resize 264 = .ok (.aload 10, 2) := by decide +kernel
theorem dJ1_resize_266 : decode cJ1_resize 266 = .ok (.aload 8, 2) := by decide +kernel
theorem dJ1_resize_268 : decode cJ1_resize 268 = .ok (.putfield 177, 3) := by decide +kernel
theorem dJ1_resize_271 : decode cJ1_resize 271 = .ok (.aload 8, 2) := by decide +kernel
theorem dJ1_resize_273 : decode cJ1_resize 273 = .ok (.astore 10, 2) := by decide +kernel
theorem dJ1_resize_275 : decode cJ1_resize 275 = .ok (.goto 26, 3) := by decide +kernel
theorem dJ1_resize_278 : decode cJ1_resize 278 = .ok (.aload 12, 2) := by decide +kernel
theorem dJ1_resize_280 : decode cJ1_resize 280 = .ok (.ifnonnull 10, 3) := by decide +kernel
theorem dJ1_resize_283 : decode cJ1_resize 283 = .ok (.aload 8, 2) := by decide +kernel
theorem dJ1_resize_285 : decode cJ1_resize 285 = .ok (.astore 11, 2) := by decide +kernel
theorem dJ1_resize_287 : decode cJ1_resize 287 = .ok (.goto 10, 3) := by decide +kernel
theorem dJ1_resize_290 : decode cJ1_resize 290 = .ok (.aload 12, 2) := by decide +kernel
theorem dJ1_resize_292 : decode cJ1_resize 292 = .ok (.aload 8, 2) := by decide +kernel
theorem dJ1_resize_294 : decode cJ1_resize 294 = .ok (.putfield 177, 3) := by decide +kernel
theorem dJ1_resize_297 : decode cJ1_resize 297 = .ok (.aload 8, 2) := by decide +kernel
theorem dJ1_resize_299 : decode cJ1_resize 299 = .ok (.astore 12, 2) := by decide +kernel
theorem dJ1_resize_301 : decode cJ1_resize 301 = .ok (.aload 13, 2) := by decide +kernel
theorem dJ1_resize_303 : decode cJ1_resize 303 = .ok (.dup, 1) := by decide +kernel
theorem dJ1_resize_304 : decode cJ1_resize 304 = .ok (.astore 8, 2) := by decide +kernel
theorem dJ1_resize_306 : decode cJ1_resize 306 = .ok (.ifnonnull (-71), 3) := by decide +kernel
theorem dJ1_resize_309 : decode cJ1_resize 309 = .ok (.aload 10, 2) := by decide +kernel
theorem dJ1_resize_311 : decode cJ1_resize 311 = .ok (.ifnull 16, 3) := by decide +kernel
theorem dJ1_resize_314 : decode cJ1_resize 314 = .ok (.aload 10, 2) := by decide +kernel
theorem dJ1_resize_316 : decode cJ1_resize 316 = .ok (.aconst_null, 1) := by decide +kernel
theorem dJ1_resize_317 : decode cJ1_resize 317 = .ok (.putfield 177, 3) := by decide +kernel
theorem dJ1_resize_320 : decode cJ1_resize 320 = .ok (.aload 6, 2) := by decide +kernel
theorem dJ1_resize_322 : decode cJ1_resize 322 = .ok (.iload 7, 2) := by decide +kernel
theorem dJ1_resize_324 : decode cJ1_resize 324 = .ok (.aload 9, 2) := by decide +kernel
theorem dJ1_resize_326 : decode cJ1_resize 326 = .ok (.aastore, 1) := by decide +kernel
theorem dJ1_resize_327 : decode cJ1_resize 327 = .ok (.aload 12, 2) := by decide +kernel
theorem dJ1_resize_329 : decode cJ1_resize 329 = .ok (.ifnull 18, 3) := by decide +kernel
theorem dJ1_resize_332 : decode cJ1_resize 332 = .ok (.aload 12, 2) := by decide +kernel
theorem dJ1_resize_334 : decode cJ1_resize 334 = .ok (.aconst_null, 1) := by decide +kernel
theorem dJ1_resize_335 : decode cJ1_resize 335 = .ok (.putfield 177, 3) := by decide +kernel
theorem dJ1_resize_338 : decode cJ1_resize 338 = .ok (.aload 6, 2) := by decide +kernel
theorem dJ1_resize_340 : decode cJ1_resize 340 = .ok (.iload 7, 2) := by decide +kernel
theorem dJ1_resize_342 : decode cJ1_resize 342 = .ok (.iload_n 2, 1) := by decide +kernel
theorem dJ1_resize_343 : decode cJ1_resize 343 = .ok (.iadd, 1) := by decide +kernel
theorem dJ1_resize_344 : decode cJ1_resize 344 = .ok (.aload 11, 2) := by decide +kernel
theorem dJ1_resize_346 : decode cJ1_resize 346 = .ok (.aastore, 1) := by decide +kernel
theorem dJ1_resize_347 : decode cJ1_resize 347 = .ok (.iinc 7 1, 3) := by decide +kernel
theorem dJ1_resize_350 : decode cJ1_resize 350 = .ok (.goto (-199), 3) := by decide +kernel
theorem dJ1_resize_353 : decode cJ1_resize 353 = .ok (.aload 6, 2) := by decide +kernel
theorem dJ1_resize_355 : decode cJ1_resize 355 = .ok (.areturn, 1) := by decide +kernel
abbrev cJ1_replacementNode : ByteArray := prog_26_method_47_code
def yJ1_replacementNode : MethodName := ⟨RJ1, "replacementNode", "(Ljava/util/HashMap$Node;Ljava/util/HashMap$Node;)Ljava/util/HashMap$Node;"⟩
theorem dJ1_replacementNode_0 : decode cJ1_replacementNode 0 = .ok (.new 163, 3) := by decide +kernel
theorem dJ1_replacementNode_3 : decode cJ1_replacementNode 3 = .ok (.dup, 1) := by decide +kernel
theorem dJ1_replacementNode_4 : decode cJ1_replacementNode 4 = .ok (.aload_n 1, 1) := by decide +kernel
theorem dJ1_replacementNode_5 : decode cJ1_replacementNode 5 = .ok (.getfield 168, 3) := by decide +kernel
theorem dJ1_replacementNode_8 : decode cJ1_replacementNode 8 = .ok (.aload_n 1, 1) := by decide +kernel
theorem dJ1_replacementNode_9 : decode cJ1_replacementNode 9 = .ok (.getfield 170, 3) := by decide +kernel
theorem dJ1_replacementNode_12 : decode cJ1_replacementNode 12 = .ok (.aload_n 1, 1) := by decide +kernel
theorem dJ1_replacementNode_13 : decode cJ1_replacementNode 13 = .ok (.getfield 162, 3) := by decide +kernel
theorem dJ1_replacementNode_16 : decode cJ1_replacementNode 16 = .ok (.aload_n 2, 1) := by decide +kernel
theorem dJ1_replacementNode_17 : decode cJ1_replacementNode 17 = .ok (.invokespecial 375, 3) := by decide +kernel
theorem dJ1_replacementNode_20 : decode cJ1_replacementNode 20 = .ok (.areturn, 1) := by decide +kernel
abbrev cJ1_comparableClassFor : ByteArray := prog_26_method_2_code
def yJ1_comparableClassFor : MethodName := ⟨RJ1, "comparableClassFor", "(Ljava/lang/Object;)Ljava/lang/Class;"⟩
theorem dJ1_comparableClassFor_0 : decode cJ1_comparableClassFor 0 = .ok (.aload_n 0, 1) := by decide +kernel
theorem dJ1_comparableClassFor_1 : decode cJ1_comparableClassFor 1 = .ok (.instanceof 7, 3) := by decide +kernel
theorem dJ1_comparableClassFor_4 : decode cJ1_comparableClassFor 4 = .ok (.ifCond .eq 109, 3) := by decide +kernel
theorem dJ1_comparableClassFor_7 : decode cJ1_comparableClassFor 7 = .ok (.aload_n 0, 1) := by decide +kernel
theorem dJ1_comparableClassFor_8 : decode cJ1_comparableClassFor 8 = .ok (.invokevirtual 9, 3) := by decide +kernel
theorem dJ1_comparableClassFor_11 : decode cJ1_comparableClassFor 11 = .ok (.dup, 1) := by decide +kernel
theorem dJ1_comparableClassFor_12 : decode cJ1_comparableClassFor 12 = .ok (.astore_n 1, 1) := by decide +kernel
theorem dJ1_comparableClassFor_13 : decode cJ1_comparableClassFor 13 = .ok (.ldc 13, 2) := by decide +kernel
theorem dJ1_comparableClassFor_15 : decode cJ1_comparableClassFor 15 = .ok (.if_acmp .ne 5, 3) := by decide +kernel
theorem dJ1_comparableClassFor_18 : decode cJ1_comparableClassFor 18 = .ok (.aload_n 1, 1) := by decide +kernel
theorem dJ1_comparableClassFor_19 : decode cJ1_comparableClassFor 19 = .ok (.areturn, 1) := by decide +kernel
theorem dJ1_comparableClassFor_20 : decode cJ1_comparableClassFor 20 = .ok (.aload_n 1, 1) := by decide +kernel
theorem dJ1_comparableClassFor_21 : decode cJ1_comparableClassFor 21 = .ok (.invokevirtual 15, 3) := by decide +kernel
theorem dJ1_comparableClassFor_24 : decode cJ1_comparableClassFor 24 = .ok (.dup, 1) := by decide +kernel
theorem dJ1_comparableClassFor_25 : decode cJ1_comparableClassFor 25 = .ok (.astore_n 2, 1) := by decide +kernel
theorem dJ1_comparableClassFor_26 : decode cJ1_comparableClassFor 26 = .ok (.ifnull 87, 3) := by decide +kernel
theorem dJ1_comparableClassFor_29 : decode cJ1_comparableClassFor 29 = .ok (.aload_n 2, 1) := by decide +kernel
theorem dJ1_comparableClassFor_30 : decode cJ1_comparableClassFor 30 = .ok (.astore 5, 2) := by decide +kernel
theorem dJ1_comparableClassFor_32 : decode cJ1_comparableClassFor 32 = .ok (.aload 5, 2) := by decide +kernel
theorem dJ1_comparableClassFor_34 : decode cJ1_comparableClassFor 34 = .ok (.arraylength, 1) := by decide +kernel
theorem dJ1_comparableClassFor_35 : decode cJ1_comparableClassFor 35 = .ok (.istore 6, 2) := by decide +kernel
theorem dJ1_comparableClassFor_37 : decode cJ1_comparableClassFor 37 = .ok (.iconst 0, 1) := by decide +kernel
theorem dJ1_comparableClassFor_38 : decode cJ1_comparableClassFor 38 = .ok (.istore 7, 2) := by decide +kernel
theorem dJ1_comparableClassFor_40 : decode cJ1_comparableClassFor 40 = .ok (.iload 7, 2) := by decide +kernel
theorem dJ1_comparableClassFor_42 : decode cJ1_comparableClassFor 42 = .ok (.iload 6, 2) := by decide +kernel
theorem dJ1_comparableClassFor_44 : decode cJ1_comparableClassFor 44 = .ok (.if_icmp .ge 69, 3) := by decide +kernel
theorem dJ1_comparableClassFor_47 : decode cJ1_comparableClassFor 47 = .ok (.aload 5, 2) := by decide +kernel
theorem dJ1_comparableClassFor_49 : decode cJ1_comparableClassFor 49 = .ok (.iload 7, 2) := by decide +kernel
theorem dJ1_comparableClassFor_51 : decode cJ1_comparableClassFor 51 = .ok (.aaload, 1) := by decide +kernel
theorem dJ1_comparableClassFor_52 : decode cJ1_comparableClassFor 52 = .ok (.astore 8, 2) := by decide +kernel
theorem dJ1_comparableClassFor_54 : decode cJ1_comparableClassFor 54 = .ok (.aload 8, 2) := by decide +kernel
theorem dJ1_comparableClassFor_56 : decode cJ1_comparableClassFor 56 = .ok (.instanceof 21, 3) := by decide +kernel
theorem dJ1_comparableClassFor_59 : decode cJ1_comparableClassFor 59 = .ok (.ifCond .eq 48, 3) := by decide +kernel
theorem dJ1_comparableClassFor_62 : decode cJ1_comparableClassFor 62 = .ok (.aload 8, 2) := by decide +kernel
theorem dJ1_comparableClassFor_64 : decode cJ1_comparableClassFor 64 = .ok (.checkcast 21, 3) := by decide +kernel
theorem dJ1_comparableClassFor_67 : decode cJ1_comparableClassFor 67 = .ok (.dup, 1) := by decide +kernel
theorem dJ1_comparableClassFor_68 : decode cJ1_comparableClassFor 68 = .ok (.astore 4, 2) := by decide +kernel
theorem dJ1_comparableClassFor_70 : decode cJ1_comparableClassFor 70 = .ok (.invokeinterface 23 1, 5) := by decide +kernel
theorem dJ1_comparableClassFor_75 : decode cJ1_comparableClassFor 75 = .ok (.ldc 7, 2) := by decide +kernel
theorem dJ1_comparableClassFor_77 : decode cJ1_comparableClassFor 77 = .ok (.if_acmp .ne 30, 3) := by decide +kernel
theorem dJ1_comparableClassFor_80 : decode cJ1_comparableClassFor 80 = .ok (.aload 4, 2) := by decide +kernel
theorem dJ1_comparableClassFor_82 : decode cJ1_comparableClassFor 82 = .ok (.invokeinterface 27 1, 5) := by decide +kernel
theorem dJ1_comparableClassFor_87 : decode cJ1_comparableClassFor 87 = .ok (.dup, 1) := by decide +kernel
theorem dJ1_comparableClassFor_88 : decode cJ1_comparableClassFor 88 = .ok (.astore_n 3, 1) := by decide +kernel
theorem dJ1_comparableClassFor_89 : decode cJ1_comparableClassFor 89 = .ok (.ifnull 18, 3) := by decide +kernel
theorem dJ1_comparableClassFor_92 : decode cJ1_comparableClassFor 92 = .ok (.aload_n 3, 1) := by decide +kernel
theorem dJ1_comparableClassFor_93 : decode cJ1_comparableClassFor 93 = .ok (.arraylength, 1) := by decide +kernel
theorem dJ1_comparableClassFor_94 : decode cJ1_comparableClassFor 94 = .ok (.iconst 1, 1) := by decide +kernel
theorem dJ1_comparableClassFor_95 : decode cJ1_comparableClassFor 95 = .ok (.if_icmp .ne 12, 3) := by decide +kernel
theorem dJ1_comparableClassFor_98 : decode cJ1_comparableClassFor 98 = .ok (.aload_n 3, 1) := by decide +kernel
theorem dJ1_comparableClassFor_99 : decode cJ1_comparableClassFor 99 = .ok (.iconst 0, 1) := by decide +kernel
theorem dJ1_comparableClassFor_100 : decode cJ1_comparableClassFor 100 = .ok (.aaload, 1) := by decide +kernel
theorem dJ1_comparableClassFor_101 : decode cJ1_comparableClassFor 101 = .ok (.aload_n 1, 1) := by decide +kernel
theorem dJ1_comparableClassFor_102 : decode cJ1_comparableClassFor 102 = .ok (.if_acmp .ne 5, 3) := by decide +kernel
theorem dJ1_comparableClassFor_105 : decode cJ1_comparableClassFor 105 = .ok (.aload_n 1, 1) := by decide +kernel
theorem dJ1_comparableClassFor_106 : decode cJ1_comparableClassFor 106 = .ok (.areturn, 1) := by decide +kernel
theorem dJ1_comparableClassFor_107 : decode cJ1_comparableClassFor 107 = .ok (.iinc 7 1, 3) := by decide +kernel
theorem dJ1_comparableClassFor_110 : decode cJ1_comparableClassFor 110 = .ok (.goto (-70), 3) := by decide +kernel
theorem dJ1_comparableClassFor_113 : decode cJ1_comparableClassFor 113 = .ok (.aconst_null, 1) := by decide +kernel
theorem dJ1_comparableClassFor_114 : decode cJ1_comparableClassFor 114 = .ok (.areturn, 1) := by decide +kernel
abbrev cJ1_compareComparables : ByteArray := prog_26_method_3_code
def yJ1_compareComparables : MethodName := ⟨RJ1, "compareComparables", "(Ljava/lang/Class;Ljava/lang/Object;Ljava/lang/Object;)I"⟩
theorem dJ1_compareComparables_0 : decode cJ1_compareComparables 0 = .ok (.aload_n 2, 1) := by decide +kernel
theorem dJ1_compareComparables_1 : decode cJ1_compareComparables 1 = .ok (.ifnull 11, 3) := by decide +kernel
theorem dJ1_compareComparables_4 : decode cJ1_compareComparables 4 = .ok (.aload_n 2, 1) := by decide +kernel
theorem dJ1_compareComparables_5 : decode cJ1_compareComparables 5 = .ok (.invokevirtual 9, 3) := by decide +kernel
theorem dJ1_compareComparables_8 : decode cJ1_compareComparables 8 = .ok (.aload_n 0, 1) := by decide +kernel
theorem dJ1_compareComparables_9 : decode cJ1_compareComparables 9 = .ok (.if_acmp .eq 7, 3) := by decide +kernel
theorem dJ1_compareComparables_12 : decode cJ1_compareComparables 12 = .ok (.iconst 0, 1) := by decide +kernel
theorem dJ1_compareComparables_13 : decode cJ1_compareComparables 13 = .ok (.goto 13, 3) := by decide +kernel
theorem dJ1_compareComparables_16 : decode cJ1_compareComparables 16 = .ok (.aload_n 1, 1) := by decide +kernel
theorem dJ1_compareComparables_17 : decode cJ1_compareComparables 17 = .ok (.checkcast 7, 3) := by decide +kernel
theorem dJ1_compareComparables_20 : decode cJ1_compareComparables 20 = .ok (.aload_n 2, 1) := by decide +kernel
theorem dJ1_compareComparables_21 : decode cJ1_compareComparables 21 = .ok (.invokeinterface 30 2, 5) := by decide +kernel
theorem dJ1_compareComparables_26 : decode cJ1_compareComparables 26 = .ok (.ireturn, 1) := by decide +kernel
abbrev cJ1_newNode : ByteArray := prog_26_method_46_code
def yJ1_newNode : MethodName := ⟨RJ1, "newNode", "(ILjava/lang/Object;Ljava/lang/Object;Ljava/util/HashMap$Node;)Ljava/util/HashMap$Node;"⟩
theorem dJ1_newNode_0 : decode cJ1_newNode 0 = .ok (.new 163, 3) := by decide +kernel
theorem dJ1_newNode_3 : decode cJ1_newNode 3 = .ok (.dup, 1) := by decide +kernel
theorem dJ1_newNode_4 : decode cJ1_newNode 4 = .ok (.iload_n 1, 1) := by decide +kernel
theorem dJ1_newNode_5 : decode cJ1_newNode 5 = .ok (.aload_n 2, 1) := by decide +kernel
theorem dJ1_newNode_6 : decode cJ1_newNode 6 = .ok (.aload_n 3, 1) := by decide +kernel
theorem dJ1_newNode_7 : decode cJ1_newNode 7 = .ok (.aload 4, 2) := by decide +kernel
theorem dJ1_newNode_9 : decode cJ1_newNode 9 = .ok (.invokespecial 375, 3) := by decide +kernel
theorem dJ1_newNode_12 : decode cJ1_newNode 12 = .ok (.areturn, 1) := by decide +kernel
abbrev cJ1_newTreeNode : ByteArray := prog_26_method_48_code
def yJ1_newTreeNode : MethodName := ⟨RJ1, "newTreeNode", "(ILjava/lang/Object;Ljava/lang/Object;Ljava/util/HashMap$Node;)Ljava/util/HashMap$TreeNode;"⟩
theorem dJ1_newTreeNode_0 : decode cJ1_newTreeNode 0 = .ok (.new 180, 3) := by decide +kernel
theorem dJ1_newTreeNode_3 : decode cJ1_newTreeNode 3 = .ok (.dup, 1) := by decide +kernel
theorem dJ1_newTreeNode_4 : decode cJ1_newTreeNode 4 = .ok (.iload_n 1, 1) := by decide +kernel
theorem dJ1_newTreeNode_5 : decode cJ1_newTreeNode 5 = .ok (.aload_n 2, 1) := by decide +kernel
theorem dJ1_newTreeNode_6 : decode cJ1_newTreeNode 6 = .ok (.aload_n 3, 1) := by decide +kernel
theorem dJ1_newTreeNode_7 : decode cJ1_newTreeNode 7 = .ok (.aload 4, 2) := by decide +kernel
theorem dJ1_newTreeNode_9 : decode cJ1_newTreeNode 9 = .ok (.invokespecial 378, 3) := by decide +kernel
theorem dJ1_newTreeNode_12 : decode cJ1_newTreeNode 12 = .ok (.areturn, 1) := by decide +kernel
abbrev cJ1_treeifyBin : ByteArray := prog_26_method_18_code
def yJ1_treeifyBin : MethodName := ⟨RJ1, "treeifyBin", "([Ljava/util/HashMap$Node;I)V"⟩
theorem dJ1_treeifyBin_0 : decode cJ1_treeifyBin 0 = .ok (.aload_n 1, 1) := by decide +kernel
theorem dJ1_treeifyBin_1 : decode cJ1_treeifyBin 1 = .ok (.ifnull 12, 3) := by decide +kernel
theorem dJ1_treeifyBin_4 : decode cJ1_treeifyBin 4 = .ok (.aload_n 1, 1) := by decide +kernel
theorem dJ1_treeifyBin_5 : decode cJ1_treeifyBin 5 = .ok (.arraylength, 1) := by decide +kernel
theorem dJ1_treeifyBin_6 : decode cJ1_treeifyBin 6 = .ok (.dup, 1) := by decide +kernel
theorem dJ1_treeifyBin_7 : decode cJ1_treeifyBin 7 = .ok (.istore_n 3, 1) := by decide +kernel
theorem dJ1_treeifyBin_8 : decode cJ1_treeifyBin 8 = .ok (.bipush 64, 2) := by decide +kernel
theorem dJ1_treeifyBin_10 : decode cJ1_treeifyBin 10 = .ok (.if_icmp .ge 11, 3) := by decide +kernel
theorem dJ1_treeifyBin_13 : decode cJ1_treeifyBin 13 = .ok (.aload_n 0, 1) := by decide +kernel
theorem dJ1_treeifyBin_14 : decode cJ1_treeifyBin 14 = .ok (.invokevirtual 117, 3) := by decide +kernel
theorem dJ1_treeifyBin_17 : decode cJ1_treeifyBin 17 = .ok (.pop, 1) := by decide +kernel
theorem dJ1_treeifyBin_18 : decode cJ1_treeifyBin 18 = .ok (.goto 91, 3) := by decide +kernel
theorem dJ1_treeifyBin_21 : decode cJ1_treeifyBin 21 = .ok (.aload_n 1, 1) := by decide +kernel
theorem dJ1_treeifyBin_22 : decode cJ1_treeifyBin 22 = .ok (.iload_n 3, 1) := by decide +kernel
theorem dJ1_treeifyBin_23 : decode cJ1_treeifyBin 23 = .ok (.iconst 1, 1) := by decide +kernel
theorem dJ1_treeifyBin_24 : decode cJ1_treeifyBin 24 = .ok (.isub, 1) := by decide +kernel
theorem dJ1_treeifyBin_25 : decode cJ1_treeifyBin 25 = .ok (.iload_n 2, 1) := by decide +kernel
theorem dJ1_treeifyBin_26 : decode cJ1_treeifyBin 26 = .ok (.iand, 1) := by decide +kernel
theorem dJ1_treeifyBin_27 : decode cJ1_treeifyBin 27 = .ok (.dup, 1) := by decide +kernel
theorem dJ1_treeifyBin_28 : decode cJ1_treeifyBin 28 = .ok (.istore 4, 2) := by decide +kernel
theorem dJ1_treeifyBin_30 : decode cJ1_treeifyBin 30 = .ok (.aaload, 1) := by decide +kernel
theorem dJ1_treeifyBin_31 : decode cJ1_treeifyBin 31 = .ok (.dup, 1) := by decide +kernel
theorem dJ1_treeifyBin_32 : decode cJ1_treeifyBin 32 = .ok (.astore 5, 2) := by decide +kernel
theorem dJ1_treeifyBin_34 : decode cJ1_treeifyBin 34 = .ok (.ifnull 75, 3) := by decide +kernel
theorem dJ1_treeifyBin_37 : decode cJ1_treeifyBin 37 = .ok (.aconst_null, 1) := by decide +kernel
theorem dJ1_treeifyBin_38 : decode cJ1_treeifyBin 38 = .ok (.astore 6, 2) := by decide +kernel
theorem dJ1_treeifyBin_40 : decode cJ1_treeifyBin 40 = .ok (.aconst_null, 1) := by decide +kernel
theorem dJ1_treeifyBin_41 : decode cJ1_treeifyBin 41 = .ok (.astore 7, 2) := by decide +kernel
theorem dJ1_treeifyBin_43 : decode cJ1_treeifyBin 43 = .ok (.aload_n 0, 1) := by decide +kernel
theorem dJ1_treeifyBin_44 : decode cJ1_treeifyBin 44 = .ok (.aload 5, 2) := by decide +kernel
theorem dJ1_treeifyBin_46 : decode cJ1_treeifyBin 46 = .ok (.aconst_null, 1) := by decide +kernel
theorem dJ1_treeifyBin_47 : decode cJ1_treeifyBin 47 = .ok (.invokevirtual 215, 3) := by decide +kernel
theorem dJ1_treeifyBin_50 : decode cJ1_treeifyBin 50 = .ok (.astore 8, 2) := by decide +kernel
theorem dJ1_treeifyBin_52 : decode cJ1_treeifyBin 52 = .ok (.aload 7, 2) := by decide +kernel
theorem dJ1_treeifyBin_54 : decode cJ1_treeifyBin 54 = .ok (.ifnonnull 10, 3) := by decide +kernel
theorem dJ1_treeifyBin_57 : decode cJ1_treeifyBin 57 = .ok (.aload 8, 2) := by decide +kernel
theorem dJ1_treeifyBin_59 : decode cJ1_treeifyBin 59 = .ok (.astore 6, 2) := by decide +kernel
theorem dJ1_treeifyBin_61 : decode cJ1_treeifyBin 61 = .ok (.goto 17, 3) := by decide +kernel
theorem dJ1_treeifyBin_64 : decode cJ1_treeifyBin 64 = .ok (.aload 8, 2) := by decide +kernel
theorem dJ1_treeifyBin_66 : decode cJ1_treeifyBin 66 = .ok (.aload 7, 2) := by decide +kernel
theorem dJ1_treeifyBin_68 : decode cJ1_treeifyBin 68 = .ok (.putfield 219, 3) := by decide +kernel
theorem dJ1_treeifyBin_71 : decode cJ1_treeifyBin 71 = .ok (.aload 7, 2) := by decide +kernel
theorem dJ1_treeifyBin_73 : decode cJ1_treeifyBin 73 = .ok (.aload 8, 2) := by decide +kernel
theorem dJ1_treeifyBin_75 : decode cJ1_treeifyBin 75 = .ok (.putfield 223, 3) := by decide +kernel
theorem dJ1_treeifyBin_78 : decode cJ1_treeifyBin 78 = .ok (.aload 8, 2) := by decide +kernel
theorem dJ1_treeifyBin_80 : decode cJ1_treeifyBin 80 = .ok (.astore 7, 2) := by decide +kernel
theorem dJ1_treeifyBin_82 : decode cJ1_treeifyBin 82 = .ok (.aload 5, 2) := by decide +kernel
theorem dJ1_treeifyBin_84 : decode cJ1_treeifyBin 84 = .ok (.getfield 177, 3) := by decide +kernel
theorem dJ1_treeifyBin_87 : decode cJ1_treeifyBin 87 = .ok (.dup, 1) := by decide +kernel
theorem dJ1_treeifyBin_88 : decode cJ1_treeifyBin 88 = .ok (.astore 5, 2) := by decide +kernel
theorem dJ1_treeifyBin_90 : decode cJ1_treeifyBin 90 = .ok (.ifnonnull (-47), 3) := by decide +kernel
theorem dJ1_treeifyBin_93 : decode cJ1_treeifyBin 93 = .ok (.aload_n 1, 1) := by decide +kernel
theorem dJ1_treeifyBin_94 : decode cJ1_treeifyBin 94 = .ok (.iload 4, 2) := by decide +kernel
theorem dJ1_treeifyBin_96 : decode cJ1_treeifyBin 96 = .ok (.aload 6, 2) := by decide +kernel
theorem dJ1_treeifyBin_98 : decode cJ1_treeifyBin 98 = .ok (.dup_x2, 1) := by decide +kernel
theorem dJ1_treeifyBin_99 : decode cJ1_treeifyBin 99 = .ok (.aastore, 1) := by decide +kernel
theorem dJ1_treeifyBin_100 : decode cJ1_treeifyBin 100 = .ok (.ifnull 9, 3) := by decide +kernel
theorem dJ1_treeifyBin_103 : decode cJ1_treeifyBin 103 = .ok (.aload 6, 2) := by decide +kernel
theorem dJ1_treeifyBin_105 : decode cJ1_treeifyBin 105 = .ok (.aload_n 1, 1) := by decide +kernel
theorem dJ1_treeifyBin_106 : decode cJ1_treeifyBin 106 = .ok (.invokevirtual 224, 3) := by decide +kernel
theorem dJ1_treeifyBin_109 : decode cJ1_treeifyBin 109 = .ok (.return_, 1) := by decide +kernel
abbrev cJ1_replacementTreeNode : ByteArray := prog_26_method_49_code
def yJ1_replacementTreeNode : MethodName := ⟨RJ1, "replacementTreeNode", "(Ljava/util/HashMap$Node;Ljava/util/HashMap$Node;)Ljava/util/HashMap$TreeNode;"⟩
theorem dJ1_replacementTreeNode_0 : decode cJ1_replacementTreeNode 0 = .ok (.new 180, 3) := by decide +kernel
theorem dJ1_replacementTreeNode_3 : decode cJ1_replacementTreeNode 3 = .ok (.dup, 1) := by decide +kernel
theorem dJ1_replacementTreeNode_4 : decode cJ1_replacementTreeNode 4 = .ok (.aload_n 1, 1) := by decide +kernel
theorem dJ1_replacementTreeNode_5 : decode cJ1_replacementTreeNode 5 = .ok (.getfield 168, 3) := by decide +kernel
theorem dJ1_replacementTreeNode_8 : decode cJ1_replacementTreeNode 8 = .ok (.aload_n 1, 1) := by decide +kernel
theorem dJ1_replacementTreeNode_9 : decode cJ1_replacementTreeNode 9 = .ok (.getfield 170, 3) := by decide +kernel
theorem dJ1_replacementTreeNode_12 : decode cJ1_replacementTreeNode 12 = .ok (.aload_n 1, 1) := by decide +kernel
theorem dJ1_replacementTreeNode_13 : decode cJ1_replacementTreeNode 13 = .ok (.getfield 162, 3) := by decide +kernel
theorem dJ1_replacementTreeNode_16 : decode cJ1_replacementTreeNode 16 = .ok (.aload_n 2, 1) := by decide +kernel
theorem dJ1_replacementTreeNode_17 : decode cJ1_replacementTreeNode 17 = .ok (.invokespecial 378, 3) := by decide +kernel
theorem dJ1_replacementTreeNode_20 : decode cJ1_replacementTreeNode 20 = .ok (.areturn, 1) := by decide +kernel
abbrev cJ1_afterNodeAccess : ByteArray := prog_26_method_51_code
def yJ1_afterNodeAccess : MethodName := ⟨RJ1, "afterNodeAccess", "(Ljava/util/HashMap$Node;)V"⟩
theorem dJ1_afterNodeAccess_0 : decode cJ1_afterNodeAccess 0 = .ok (.return_, 1) := by decide +kernel
abbrev cJ1_afterNodeInsertion : ByteArray := prog_26_method_52_code
def yJ1_afterNodeInsertion : MethodName := ⟨RJ1, "afterNodeInsertion", "(Z)V"⟩
theorem dJ1_afterNodeInsertion_0 : decode cJ1_afterNodeInsertion 0 = .ok (.return_, 1) := by decide +kernel
abbrev cJ1_putIfAbsent : ByteArray := prog_26_method_31_code
def yJ1_putIfAbsent : MethodName := ⟨RJ1, "putIfAbsent", "(Ljava/lang/Object;Ljava/lang/Object;)Ljava/lang/Object;"⟩
theorem dJ1_putIfAbsent_0 : decode cJ1_putIfAbsent 0 = .ok (.aload_n 0, 1) := by decide +kernel
theorem dJ1_putIfAbsent_1 : decode cJ1_putIfAbsent 1 = .ok (.aload_n 1, 1) := by decide +kernel
theorem dJ1_putIfAbsent_2 : decode cJ1_putIfAbsent 2 = .ok (.invokestatic 149, 3) := by decide +kernel
theorem dJ1_putIfAbsent_5 : decode cJ1_putIfAbsent 5 = .ok (.aload_n 1, 1) := by decide +kernel
theorem dJ1_putIfAbsent_6 : decode cJ1_putIfAbsent 6 = .ok (.aload_n 2, 1) := by decide +kernel
theorem dJ1_putIfAbsent_7 : decode cJ1_putIfAbsent 7 = .ok (.iconst 1, 1) := by decide +kernel
theorem dJ1_putIfAbsent_8 : decode cJ1_putIfAbsent 8 = .ok (.iconst 1, 1) := by decide +kernel
theorem dJ1_putIfAbsent_9 : decode cJ1_putIfAbsent 9 = .ok (.invokevirtual 152, 3) := by decide +kernel
theorem dJ1_putIfAbsent_12 : decode cJ1_putIfAbsent 12 = .ok (.areturn, 1) := by decide +kernel
abbrev cJ1_getNode : ByteArray := prog_26_method_13_code
def yJ1_getNode : MethodName := ⟨RJ1, "getNode", "(Ljava/lang/Object;)Ljava/util/HashMap$Node;"⟩
theorem dJ1_getNode_0 : decode cJ1_getNode 0 = .ok (.aload_n 0, 1) := by decide +kernel
theorem dJ1_getNode_1 : decode cJ1_getNode 1 = .ok (.getfield 105, 3) := by decide +kernel
theorem dJ1_getNode_4 : decode cJ1_getNode 4 = .ok (.dup, 1) := by decide +kernel
theorem dJ1_getNode_5 : decode cJ1_getNode 5 = .ok (.astore_n 2, 1) := by decide +kernel
theorem dJ1_getNode_6 : decode cJ1_getNode 6 = .ok (.ifnull 142, 3) := by decide +kernel
theorem dJ1_getNode_9 : decode cJ1_getNode 9 = .ok (.aload_n 2, 1) := by decide +kernel
theorem dJ1_getNode_10 : decode cJ1_getNode 10 = .ok (.arraylength, 1) := by decide +kernel
theorem dJ1_getNode_11 : decode cJ1_getNode 11 = .ok (.dup, 1) := by decide +kernel
theorem dJ1_getNode_12 : decode cJ1_getNode 12 = .ok (.istore 5, 2) := by decide +kernel
theorem dJ1_getNode_14 : decode cJ1_getNode 14 = .ok (.ifCond .le 134, 3) := by decide +kernel
theorem dJ1_getNode_17 : decode cJ1_getNode 17 = .ok (.aload_n 2, 1) := by decide +kernel
theorem dJ1_getNode_18 : decode cJ1_getNode 18 = .ok (.iload 5, 2) := by decide +kernel
theorem dJ1_getNode_20 : decode cJ1_getNode 20 = .ok (.iconst 1, 1) := by decide +kernel
theorem dJ1_getNode_21 : decode cJ1_getNode 21 = .ok (.isub, 1) := by decide +kernel
theorem dJ1_getNode_22 : decode cJ1_getNode 22 = .ok (.aload_n 1, 1) := by decide +kernel
theorem dJ1_getNode_23 : decode cJ1_getNode 23 = .ok (.invokestatic 149, 3) := by decide +kernel
theorem dJ1_getNode_26 : decode cJ1_getNode 26 = .ok (.dup, 1) := by decide +kernel
theorem dJ1_getNode_27 : decode cJ1_getNode 27 = .ok (.istore 6, 2) := by decide +kernel
theorem dJ1_getNode_29 : decode cJ1_getNode 29 = .ok (.iand, 1) := by decide +kernel
theorem dJ1_getNode_30 : decode cJ1_getNode 30 = .ok (.aaload, 1) := by decide +kernel
theorem dJ1_getNode_31 : decode cJ1_getNode 31 = .ok (.dup, 1) := by decide +kernel
theorem dJ1_getNode_32 : decode cJ1_getNode 32 = .ok (.astore_n 3, 1) := by decide +kernel
theorem dJ1_getNode_33 : decode cJ1_getNode 33 = .ok (.ifnull 115, 3) := by decide +kernel
theorem dJ1_getNode_36 : decode cJ1_getNode 36 = .ok (.aload_n 3, 1) := by decide +kernel
theorem dJ1_getNode_37 : decode cJ1_getNode 37 = .ok (.getfield 168, 3) := by decide +kernel
theorem dJ1_getNode_40 : decode cJ1_getNode 40 = .ok (.iload 6, 2) := by decide +kernel
theorem dJ1_getNode_42 : decode cJ1_getNode 42 = .ok (.if_icmp .ne 29, 3) := by decide +kernel
theorem dJ1_getNode_45 : decode cJ1_getNode 45 = .ok (.aload_n 3, 1) := by decide +kernel
theorem dJ1_getNode_46 : decode cJ1_getNode 46 = .ok (.getfield 170, 3) := by decide +kernel
theorem dJ1_getNode_49 : decode cJ1_getNode 49 = .ok (.dup, 1) := by decide +kernel
theorem dJ1_getNode_50 : decode cJ1_getNode 50 = .ok (.astore 7, 2) := by decide +kernel
theorem dJ1_getNode_52 : decode cJ1_getNode 52 = .ok (.aload_n 1, 1) := by decide +kernel
theorem dJ1_getNode_53 : decode cJ1_getNode 53 = .ok (.if_acmp .eq 16, 3) := by decide +kernel
theorem dJ1_getNode_56 : decode cJ1_getNode 56 = .ok (.aload_n 1, 1) := by decide +kernel
theorem dJ1_getNode_57 : decode cJ1_getNode 57 = .ok (.ifnull 14, 3) := by decide +kernel
theorem dJ1_getNode_60 : decode cJ1_getNode 60 = .ok (.aload_n 1, 1) := by decide +kernel
theorem dJ1_getNode_61 : decode cJ1_getNode 61 = .ok (.aload 7, 2) := by decide +kernel
theorem dJ1_getNode_63 : decode cJ1_getNode 63 = .ok (.invokevirtual 173, 3) := by decide +kernel
theorem dJ1_getNode_66 : decode cJ1_getNode 66 = .ok (.ifCond .eq 5, 3) := by decide +kernel
theorem dJ1_getNode_69 : decode cJ1_getNode 69 = .ok (.aload_n 3, 1) := by decide +kernel
theorem dJ1_getNode_70 : decode cJ1_getNode 70 = .ok (.areturn, 1) := by decide +kernel
theorem dJ1_getNode_71 : decode cJ1_getNode 71 = .ok (.aload_n 3, 1) := by decide +kernel
theorem dJ1_getNode_72 : decode cJ1_getNode 72 = .ok (.getfield 177, 3) := by decide +kernel
theorem dJ1_getNode_75 : decode cJ1_getNode 75 = .ok (.dup, 1) := by decide +kernel
theorem dJ1_getNode_76 : decode cJ1_getNode 76 = .ok (.astore 4, 2) := by decide +kernel
theorem dJ1_getNode_78 : decode cJ1_getNode 78 = .ok (.ifnull 70, 3) := by decide +kernel
theorem dJ1_getNode_81 : decode cJ1_getNode 81 = .ok (.aload_n 3, 1) := by decide +kernel
theorem dJ1_getNode_82 : decode cJ1_getNode 82 = .ok (.instanceof 180, 3) := by decide +kernel
theorem dJ1_getNode_85 : decode cJ1_getNode 85 = .ok (.ifCond .eq 14, 3) := by decide +kernel
theorem dJ1_getNode_88 : decode cJ1_getNode 88 = .ok (.aload_n 3, 1) := by decide +kernel
theorem dJ1_getNode_89 : decode cJ1_getNode 89 = .ok (.checkcast 180, 3) := by decide +kernel
theorem dJ1_getNode_92 : decode cJ1_getNode 92 = .ok (.iload 6, 2) := by decide +kernel
theorem dJ1_getNode_94 : decode cJ1_getNode 94 = .ok (.aload_n 1, 1) := by decide +kernel
theorem dJ1_getNode_95 : decode cJ1_getNode 95 = .ok (.invokevirtual 182, 3) := by decide +kernel
theorem dJ1_getNode_98 : decode cJ1_getNode 98 = .ok (.areturn, 1) := by decide +kernel
theorem dJ1_getNode_99 : decode cJ1_getNode 99 = .ok (.aload 4, 2) := by decide +kernel
theorem dJ1_getNode_101 : decode cJ1_getNode 101 = .ok (.getfield 168, 3) := by decide +kernel
theorem dJ1_getNode_104 : decode cJ1_getNode 104 = .ok (.iload 6, 2) := by decide +kernel
theorem dJ1_getNode_106 : decode cJ1_getNode 106 = .ok (.if_icmp .ne 31, 3) := by decide +kernel
theorem dJ1_getNode_109 : decode cJ1_getNode 109 = .ok (.aload 4, 2) := by decide +kernel
theorem dJ1_getNode_111 : decode cJ1_getNode 111 = .ok (.getfield 170, 3) := by decide +kernel
theorem dJ1_getNode_114 : decode cJ1_getNode 114 = .ok (.dup, 1) := by decide +kernel
theorem dJ1_getNode_115 : decode cJ1_getNode 115 = .ok (.astore 7, 2) := by decide +kernel
theorem dJ1_getNode_117 : decode cJ1_getNode 117 = .ok (.aload_n 1, 1) := by decide +kernel
theorem dJ1_getNode_118 : decode cJ1_getNode 118 = .ok (.if_acmp .eq 16, 3) := by decide +kernel
theorem dJ1_getNode_121 : decode cJ1_getNode 121 = .ok (.aload_n 1, 1) := by decide +kernel
theorem dJ1_getNode_122 : decode cJ1_getNode 122 = .ok (.ifnull 15, 3) := by decide +kernel
theorem dJ1_getNode_125 : decode cJ1_getNode 125 = .ok (.aload_n 1, 1) := by decide +kernel
theorem dJ1_getNode_126 : decode cJ1_getNode 126 = .ok (.aload 7, 2) := by decide +kernel
theorem dJ1_getNode_128 : decode cJ1_getNode 128 = .ok (.invokevirtual 173, 3) := by decide +kernel
theorem dJ1_getNode_131 : decode cJ1_getNode 131 = .ok (.ifCond .eq 6, 3) := by decide +kernel
theorem dJ1_getNode_134 : decode cJ1_getNode 134 = .ok (.aload 4, 2) := by decide +kernel
theorem dJ1_getNode_136 : decode cJ1_getNode 136 = .ok (.areturn, 1) := by decide +kernel
theorem dJ1_getNode_137 : decode cJ1_getNode 137 = .ok (.aload 4, 2) := by decide +kernel
theorem dJ1_getNode_139 : decode cJ1_getNode 139 = .ok (.getfield 177, 3) := by decide +kernel
theorem dJ1_getNode_142 : decode cJ1_getNode 142 = .ok (.dup, 1) := by decide +kernel
theorem dJ1_getNode_143 : decode cJ1_getNode 143 = .ok (.astore 4, 2) := by decide +kernel
theorem dJ1_getNode_145 : decode cJ1_getNode 145 = .ok (.ifnonnull (-46), 3) := by decide +kernel
theorem dJ1_getNode_148 : decode cJ1_getNode 148 = .ok (.aconst_null, 1) := by decide +kernel
theorem dJ1_getNode_149 : decode cJ1_getNode 149 = .ok (.areturn, 1) := by decide +kernel
abbrev cJ1_get : ByteArray := prog_26_method_12_code
def yJ1_get : MethodName := ⟨RJ1, "get", "(Ljava/lang/Object;)Ljava/lang/Object;"⟩
theorem dJ1_get_0 : decode cJ1_get 0 = .ok (.aload_n 0, 1) := by decide +kernel
theorem dJ1_get_1 : decode cJ1_get 1 = .ok (.aload_n 1, 1) := by decide +kernel
theorem dJ1_get_2 : decode cJ1_get 2 = .ok (.invokevirtual 158, 3) := by decide +kernel
theorem dJ1_get_5 : decode cJ1_get 5 = .ok (.dup, 1) := by decide +kernel
theorem dJ1_get_6 : decode cJ1_get 6 = .ok (.astore_n 2, 1) := by decide +kernel
theorem dJ1_get_7 : decode cJ1_get 7 = .ok (.ifnonnull 7, 3) := by decide +kernel
theorem dJ1_get_10 : decode cJ1_get 10 = .ok (.aconst_null, 1) := by decide +kernel
theorem dJ1_get_11 : decode cJ1_get 11 = .ok (.goto 7, 3) := by decide +kernel
theorem dJ1_get_14 : decode cJ1_get 14 = .ok (.aload_n 2, 1) := by decide +kernel
theorem dJ1_get_15 : decode cJ1_get 15 = .ok (.getfield 162, 3) := by decide +kernel
theorem dJ1_get_18 : decode cJ1_get 18 = .ok (.areturn, 1) := by decide +kernel
abbrev cJ1_getOrDefault : ByteArray := prog_26_method_30_code
def yJ1_getOrDefault : MethodName := ⟨RJ1, "getOrDefault", "(Ljava/lang/Object;Ljava/lang/Object;)Ljava/lang/Object;"⟩
theorem dJ1_getOrDefault_0 : decode cJ1_getOrDefault 0 = .ok (.aload_n 0, 1) := by decide +kernel
theorem dJ1_getOrDefault_1 : decode cJ1_getOrDefault 1 = .ok (.aload_n 1, 1) := by decide +kernel
theorem dJ1_getOrDefault_2 : decode cJ1_getOrDefault 2 = .ok (.invokevirtual 158, 3) := by decide +kernel
theorem dJ1_getOrDefault_5 : decode cJ1_getOrDefault 5 = .ok (.dup, 1) := by decide +kernel
theorem dJ1_getOrDefault_6 : decode cJ1_getOrDefault 6 = .ok (.astore_n 3, 1) := by decide +kernel
theorem dJ1_getOrDefault_7 : decode cJ1_getOrDefault 7 = .ok (.ifnonnull 7, 3) := by decide +kernel
theorem dJ1_getOrDefault_10 : decode cJ1_getOrDefault 10 = .ok (.aload_n 2, 1) := by decide +kernel
theorem dJ1_getOrDefault_11 : decode cJ1_getOrDefault 11 = .ok (.goto 7, 3) := by decide +kernel
theorem dJ1_getOrDefault_14 : decode cJ1_getOrDefault 14 = .ok (.aload_n 3, 1) := by decide +kernel
theorem dJ1_getOrDefault_15 : decode cJ1_getOrDefault 15 = .ok (.getfield 162, 3) := by decide +kernel
theorem dJ1_getOrDefault_18 : decode cJ1_getOrDefault 18 = .ok (.areturn, 1) := by decide +kernel
abbrev cJ1_remove : ByteArray := prog_26_method_20_code
def yJ1_remove : MethodName := ⟨RJ1, "remove", "(Ljava/lang/Object;)Ljava/lang/Object;"⟩
theorem dJ1_remove_0 : decode cJ1_remove 0 = .ok (.aload_n 0, 1) := by decide +kernel
theorem dJ1_remove_1 : decode cJ1_remove 1 = .ok (.aload_n 1, 1) := by decide +kernel
theorem dJ1_remove_2 : decode cJ1_remove 2 = .ok (.invokestatic 149, 3) := by decide +kernel
theorem dJ1_remove_5 : decode cJ1_remove 5 = .ok (.aload_n 1, 1) := by decide +kernel
theorem dJ1_remove_6 : decode cJ1_remove 6 = .ok (.aconst_null, 1) := by decide +kernel
theorem dJ1_remove_7 : decode cJ1_remove 7 = .ok (.iconst 0, 1) := by decide +kernel
theorem dJ1_remove_8 : decode cJ1_remove 8 = .ok (.iconst 1, 1) := by decide +kernel
theorem dJ1_remove_9 : decode cJ1_remove 9 = .ok (.invokevirtual 228, 3) := by decide +kernel
theorem dJ1_remove_12 : decode cJ1_remove 12 = .ok (.dup, 1) := by decide +kernel
theorem dJ1_remove_13 : decode cJ1_remove 13 = .ok (.astore_n 2, 1) := by decide +kernel
theorem dJ1_remove_14 : decode cJ1_remove 14 = .ok (.ifnonnull 7, 3) := by decide +kernel
theorem dJ1_remove_17 : decode cJ1_remove 17 = .ok (.aconst_null, 1) := by decide +kernel
theorem dJ1_remove_18 : decode cJ1_remove 18 = .ok (.goto 7, 3) := by decide +kernel
theorem dJ1_remove_21 : decode cJ1_remove 21 = .ok (.aload_n 2, 1) := by decide +kernel
theorem dJ1_remove_22 : decode cJ1_remove 22 = .ok (.getfield 162, 3) := by decide +kernel
theorem dJ1_remove_25 : decode cJ1_remove 25 = .ok (.areturn, 1) := by decide +kernel
abbrev cJ1_removeNode : ByteArray := prog_26_method_21_code
def yJ1_removeNode : MethodName := ⟨RJ1, "removeNode", "(ILjava/lang/Object;Ljava/lang/Object;ZZ)Ljava/util/HashMap$Node;"⟩
theorem dJ1_removeNode_0 : decode cJ1_removeNode 0 = .ok (.aload_n 0, 1) := by decide +kernel
theorem dJ1_removeNode_1 : decode cJ1_removeNode 1 = .ok (.getfield 105, 3) := by decide +kernel
theorem dJ1_removeNode_4 : decode cJ1_removeNode 4 = .ok (.dup, 1) := by decide +kernel
theorem dJ1_removeNode_5 : decode cJ1_removeNode 5 = .ok (.astore 6, 2) := by decide +kernel
theorem dJ1_removeNode_7 : decode cJ1_removeNode 7 = .ok (.ifnull 282, 3) := by decide +kernel
theorem dJ1_removeNode_10 : decode cJ1_removeNode 10 = .ok (.aload 6, 2) := by decide +kernel
theorem dJ1_removeNode_12 : decode cJ1_removeNode 12 = .ok (.arraylength, 1) := by decide +kernel
theorem dJ1_removeNode_13 : decode cJ1_removeNode 13 = .ok (.dup, 1) := by decide +kernel
theorem dJ1_removeNode_14 : decode cJ1_removeNode 14 = .ok (.istore 8, 2) := by decide +kernel
theorem dJ1_removeNode_16 : decode cJ1_removeNode 16 = .ok (.ifCond .le 273, 3) := by decide +kernel
theorem dJ1_removeNode_19 : decode cJ1_removeNode 19 = .ok (.aload 6, 2) := by decide +kernel
theorem dJ1_removeNode_21 : decode cJ1_removeNode 21 = .ok (.iload 8, 2) := by decide +kernel
theorem dJ1_removeNode_23 : decode cJ1_removeNode 23 = .ok (.iconst 1, 1) := by decide +kernel
theorem dJ1_removeNode_24 : decode cJ1_removeNode 24 = .ok (.isub, 1) := by decide +kernel
theorem dJ1_removeNode_25 : decode cJ1_removeNode 25 = .ok (.iload_n 1, 1) := by decide +kernel
theorem dJ1_removeNode_26 : decode cJ1_removeNode 26 = .ok (.iand, 1) := by decide +kernel
theorem dJ1_removeNode_27 : decode cJ1_removeNode 27 = .ok (.dup, 1) := by decide +kernel
theorem dJ1_removeNode_28 : decode cJ1_removeNode 28 = .ok (.istore 9, 2) := by decide +kernel
theorem dJ1_removeNode_30 : decode cJ1_removeNode 30 = .ok (.aaload, 1) := by decide +kernel
theorem dJ1_removeNode_31 : decode cJ1_removeNode 31 = .ok (.dup, 1) := by decide +kernel
theorem dJ1_removeNode_32 : decode cJ1_removeNode 32 = .ok (.astore 7, 2) := by decide +kernel
theorem dJ1_removeNode_34 : decode cJ1_removeNode 34 = .ok (.ifnull 255, 3) := by decide +kernel
theorem dJ1_removeNode_37 : decode cJ1_removeNode 37 = .ok (.aconst_null, 1) := by decide +kernel
theorem dJ1_removeNode_38 : decode cJ1_removeNode 38 = .ok (.astore 10, 2) := by decide +kernel
theorem dJ1_removeNode_40 : decode cJ1_removeNode 40 = .ok (.aload 7, 2) := by decide +kernel
theorem dJ1_removeNode_42 : decode cJ1_removeNode 42 = .ok (.getfield 168, 3) := by decide +kernel
theorem dJ1_removeNode_45 : decode cJ1_removeNode 45 = .ok (.iload_n 1, 1) := by decide +kernel
theorem dJ1_removeNode_46 : decode cJ1_removeNode 46 = .ok (.if_icmp .ne 35, 3) := by decide +kernel
theorem dJ1_removeNode_49 : decode cJ1_removeNode 49 = .ok (.aload 7, 2) := by decide +kernel
theorem dJ1_removeNode_51 : decode cJ1_removeNode 51 = .ok (.getfield 170, 3) := by decide +kernel
theorem dJ1_removeNode_54 : decode cJ1_removeNode 54 = .ok (.dup, 1) := by decide +kernel
theorem dJ1_removeNode_55 : decode cJ1_removeNode 55 = .ok (.astore 12, 2) := by decide +kernel
theorem dJ1_removeNode_57 : decode cJ1_removeNode 57 = .ok (.aload_n 2, 1) := by decide +kernel
theorem dJ1_removeNode_58 : decode cJ1_removeNode 58 = .ok (.if_acmp .eq 16, 3) := by decide +kernel
theorem dJ1_removeNode_61 : decode cJ1_removeNode 61 = .ok (.aload_n 2, 1) := by decide +kernel
theorem dJ1_removeNode_62 : decode cJ1_removeNode 62 = .ok (.ifnull 19, 3) := by decide +kernel
theorem dJ1_removeNode_65 : decode cJ1_removeNode 65 = .ok (.aload_n 2, 1) := by decide +kernel
theorem dJ1_removeNode_66 : decode cJ1_removeNode 66 = .ok (.aload 12, 2) := by decide +kernel
theorem dJ1_removeNode_68 : decode cJ1_removeNode 68 = .ok (.invokevirtual 173, 3) := by decide +kernel
theorem dJ1_removeNode_71 : decode cJ1_removeNode 71 = .ok (.ifCond .eq 10, 3) := by decide +kernel
theorem dJ1_removeNode_74 : decode cJ1_removeNode 74 = .ok (.aload 7, 2) := by decide +kernel
theorem dJ1_removeNode_76 : decode cJ1_removeNode 76 = .ok (.astore 10, 2) := by decide +kernel
theorem dJ1_removeNode_78 : decode cJ1_removeNode 78 = .ok (.goto 93, 3) := by decide +kernel
theorem dJ1_removeNode_81 : decode cJ1_removeNode 81 = .ok (.aload 7, 2) := by decide +kernel
theorem dJ1_removeNode_83 : decode cJ1_removeNode 83 = .ok (.getfield 177, 3) := by decide +kernel
theorem dJ1_removeNode_86 : decode cJ1_removeNode 86 = .ok (.dup, 1) := by decide +kernel
theorem dJ1_removeNode_87 : decode cJ1_removeNode 87 = .ok (.astore 11, 2) := by decide +kernel
theorem dJ1_removeNode_89 : decode cJ1_removeNode 89 = .ok (.ifnull 82, 3) := by decide +kernel
theorem dJ1_removeNode_92 : decode cJ1_removeNode 92 = .ok (.aload 7, 2) := by decide +kernel
theorem dJ1_removeNode_94 : decode cJ1_removeNode 94 = .ok (.instanceof 180, 3) := by decide +kernel
theorem dJ1_removeNode_97 : decode cJ1_removeNode 97 = .ok (.ifCond .eq 18, 3) := by decide +kernel
theorem dJ1_removeNode_100 : decode cJ1_removeNode 100 = .ok (.aload 7, 2) := by decide +kernel
theorem dJ1_removeNode_102 : decode cJ1_removeNode 102 = .ok (.checkcast 180, 3) := by decide +kernel
theorem dJ1_removeNode_105 : decode cJ1_removeNode 105 = .ok (.iload_n 1, 1) := by decide +kernel
theorem dJ1_removeNode_106 : decode cJ1_removeNode 106 = .ok (.aload_n 2, 1) := by decide +kernel
theorem dJ1_removeNode_107 : decode cJ1_removeNode 107 = .ok (.invokevirtual 182, 3) := by decide +kernel
theorem dJ1_removeNode_110 : decode cJ1_removeNode 110 = .ok (.astore 10, 2) := by decide +kernel
theorem dJ1_removeNode_112 : decode cJ1_removeNode 112 = .ok (.goto 59, 3) := by decide +kernel
theorem dJ1_removeNode_115 : decode cJ1_removeNode 115 = .ok (.aload 11, 2) := by decide +kernel
theorem dJ1_removeNode_117 : decode cJ1_removeNode 117 = .ok (.getfield 168, 3) := by decide +kernel
theorem dJ1_removeNode_120 : decode cJ1_removeNode 120 = .ok (.iload_n 1, 1) := by decide +kernel
theorem dJ1_removeNode_121 : decode cJ1_removeNode 121 = .ok (.if_icmp .ne 35, 3) := by decide +kernel
theorem dJ1_removeNode_124 : decode cJ1_removeNode 124 = .ok (.aload 11, 2) := by decide +kernel
theorem dJ1_removeNode_126 : decode cJ1_removeNode 126 = .ok (.getfield 170, 3) := by decide +kernel
theorem dJ1_removeNode_129 : decode cJ1_removeNode 129 = .ok (.dup, 1) := by decide +kernel
theorem dJ1_removeNode_130 : decode cJ1_removeNode 130 = .ok (.astore 12, 2) := by decide +kernel
theorem dJ1_removeNode_132 : decode cJ1_removeNode 132 = .ok (.aload_n 2, 1) := by decide +kernel
theorem dJ1_removeNode_133 : decode cJ1_removeNode 133 = .ok (.if_acmp .eq 16, 3) := by decide +kernel
theorem dJ1_removeNode_136 : decode cJ1_removeNode 136 = .ok (.aload_n 2, 1) := by decide +kernel
theorem dJ1_removeNode_137 : decode cJ1_removeNode 137 = .ok (.ifnull 19, 3) := by decide +kernel
theorem dJ1_removeNode_140 : decode cJ1_removeNode 140 = .ok (.aload_n 2, 1) := by decide +kernel
theorem dJ1_removeNode_141 : decode cJ1_removeNode 141 = .ok (.aload 12, 2) := by decide +kernel
theorem dJ1_removeNode_143 : decode cJ1_removeNode 143 = .ok (.invokevirtual 173, 3) := by decide +kernel
theorem dJ1_removeNode_146 : decode cJ1_removeNode 146 = .ok (.ifCond .eq 10, 3) := by decide +kernel
theorem dJ1_removeNode_149 : decode cJ1_removeNode 149 = .ok (.aload 11, 2) := by decide +kernel
theorem dJ1_removeNode_151 : decode cJ1_removeNode 151 = .ok (.astore 10, 2) := by decide +kernel
theorem dJ1_removeNode_153 : decode cJ1_removeNode 153 = .ok (.goto 18, 3) := by decide +kernel
theorem dJ1_removeNode_156 : decode cJ1_removeNode 156 = .ok (.aload 11, 2) := by decide +kernel
theorem dJ1_removeNode_158 : decode cJ1_removeNode 158 = .ok (.astore 7, 2) := by decide +kernel
theorem dJ1_removeNode_160 : decode cJ1_removeNode 160 = .ok (.aload 11, 2) := by decide +kernel
theorem dJ1_removeNode_162 : decode cJ1_removeNode 162 = .ok (.getfield 177, 3) := by decide +kernel
theorem dJ1_removeNode_165 : decode cJ1_removeNode 165 = .ok (.dup, 1) := by decide +kernel
theorem dJ1_removeNode_166 : decode cJ1_removeNode 166 = .ok (.astore 11, 2) := by decide +kernel
theorem dJ1_removeNode_168 : decode cJ1_removeNode 168 = .ok (.ifnonnull (-53), 3) := by decide +kernel
theorem dJ1_removeNode_171 : decode cJ1_removeNode 171 = .ok (.aload 10, 2) := by decide +kernel
theorem dJ1_removeNode_173 : decode cJ1_removeNode 173 = .ok (.ifnull 116, 3) := by decide +kernel
theorem dJ1_removeNode_176 : decode cJ1_removeNode 176 = .ok (.iload 4, 2) := by decide +kernel
theorem dJ1_removeNode_178 : decode cJ1_removeNode 178 = .ok (.ifCond .eq 28, 3) := by decide +kernel
theorem dJ1_removeNode_181 : decode cJ1_removeNode 181 = .ok (.aload 10, 2) := by decide +kernel
theorem dJ1_removeNode_183 : decode cJ1_removeNode 183 = .ok (.getfield 162, 3) := by decide +kernel
theorem dJ1_removeNode_186 : decode cJ1_removeNode 186 = .ok (.dup, 1) := by decide +kernel
theorem dJ1_removeNode_187 : decode cJ1_removeNode 187 = .ok (.astore 13, 2) := by decide +kernel
theorem dJ1_removeNode_189 : decode cJ1_removeNode 189 = .ok (.aload_n 3, 1) := by decide +kernel
theorem dJ1_removeNode_190 : decode cJ1_removeNode 190 = .ok (.if_acmp .eq 16, 3) := by decide +kernel
theorem dJ1_removeNode_193 : decode cJ1_removeNode 193 = .ok (.aload_n 3, 1) := by decide +kernel
theorem dJ1_removeNode_194 : decode cJ1_removeNode 194 = .ok (.ifnull 95, 3) := by decide +kernel
theorem dJ1_removeNode_197 : decode cJ1_removeNode 197 = .ok (.aload_n 3, 1) := by decide +kernel
theorem dJ1_removeNode_198 : decode cJ1_removeNode 198 = .ok (.aload 13, 2) := by decide +kernel
theorem dJ1_removeNode_200 : decode cJ1_removeNode 200 = .ok (.invokevirtual 173, 3) := by decide +kernel
theorem dJ1_removeNode_203 : decode cJ1_removeNode 203 = .ok (.ifCond .eq 86, 3) := by decide +kernel
theorem dJ1_removeNode_206 : decode cJ1_removeNode 206 = .ok (.aload 10, 2) := by decide +kernel
theorem dJ1_removeNode_208 : decode cJ1_removeNode 208 = .ok (.instanceof 180, 3) := by decide +kernel
theorem dJ1_removeNode_211 : decode cJ1_removeNode 211 = .ok (.ifCond .eq 19, 3) := by decide +kernel
theorem dJ1_removeNode_214 : decode cJ1_removeNode 214 = .ok (.aload 10, 2) := by decide +kernel
theorem dJ1_removeNode_216 : decode cJ1_removeNode 216 = .ok (.checkcast 180, 3) := by decide +kernel
theorem dJ1_removeNode_219 : decode cJ1_removeNode 219 = .ok (.aload_n 0, 1) := by decide +kernel
theorem dJ1_removeNode_220 : decode cJ1_removeNode 220 = .ok (.aload 6, 2) := by decide +kernel
theorem dJ1_removeNode_222 : decode cJ1_removeNode 222 = .ok (.iload 5, 2) := by decide +kernel
theorem dJ1_removeNode_224 : decode cJ1_removeNode 224 = .ok (.invokevirtual 232, 3) := by decide +kernel
theorem dJ1_removeNode_227 : decode cJ1_removeNode 227 = .ok (.goto 33, 3) := by decide +kernel
theorem dJ1_removeNode_230 : decode cJ1_removeNode 230 = .ok (.aload 10, 2) := by decide +kernel
theorem dJ1_removeNode_232 : decode cJ1_removeNode 232 = .ok (.aload 7, 2) := by decide +kernel
theorem dJ1_removeNode_234 : decode cJ1_removeNode 234 = .ok (.if_acmp .ne 16, 3) := by decide +kernel
theorem dJ1_removeNode_237 : decode cJ1_removeNode 237 = .ok (.aload 6, 2) := by decide +kernel
theorem dJ1_removeNode_239 : decode cJ1_removeNode 239 = .ok (.iload 9, 2) := by decide +kernel
theorem dJ1_removeNode_241 : decode cJ1_removeNode 241 = .ok (.aload 10, 2) := by decide +kernel
theorem dJ1_removeNode_243 : decode cJ1_removeNode 243 = .ok (.getfield 177, 3) := by decide +kernel
theorem dJ1_removeNode_246 : decode cJ1_removeNode 246 = .ok (.aastore, 1) := by decide +kernel
theorem dJ1_removeNode_247 : decode cJ1_removeNode 247 = .ok (.goto 13, 3) := by decide +kernel
theorem dJ1_removeNode_250 : decode cJ1_removeNode 250 = .ok (.aload 7, 2) := by decide +kernel
theorem dJ1_removeNode_252 : decode cJ1_removeNode 252 = .ok (.aload 10, 2) := by decide +kernel
theorem dJ1_removeNode_254 : decode cJ1_removeNode 254 = .ok (.getfield 177, 3) := by decide +kernel
theorem dJ1_removeNode_257 : decode cJ1_removeNode 257 = .ok (.putfield 177, 3) := by decide +kernel
theorem dJ1_removeNode_260 : decode cJ1_removeNode 260 = .ok (.aload_n 0, 1) := by decide +kernel
theorem dJ1_removeNode_261 : decode cJ1_removeNode 261 = .ok (.dup, 1) := by decide +kernel
theorem dJ1_removeNode_262 : decode cJ1_removeNode 262 = .ok (.getfield 202, 3) := by decide +kernel
theorem dJ1_removeNode_265 : decode cJ1_removeNode 265 = .ok (.iconst 1, 1) := by decide +kernel
theorem dJ1_removeNode_266 : decode cJ1_removeNode 266 = .ok (.iadd, 1) := by decide +kernel
theorem dJ1_removeNode_267 : decode cJ1_removeNode 267 = .ok (.putfield 202, 3) := by decide +kernel
theorem dJ1_removeNode_270 : decode cJ1_removeNode 270 = .ok (.aload_n 0, 1) := by decide +kernel
theorem dJ1_removeNode_271 : decode cJ1_removeNode 271 = .ok (.dup, 1) := by decide +kernel
theorem dJ1_removeNode_272 : decode cJ1_removeNode 272 = .ok (.getfield 156, 3) := by decide +kernel
theorem dJ1_removeNode_275 : decode cJ1_removeNode 275 = .ok (.iconst 1, 1) := by decide +kernel
theorem dJ1_removeNode_276 : decode cJ1_removeNode 276 = .ok (.isub, 1) := by decide +kernel
theorem dJ1_removeNode_277 : decode cJ1_removeNode 277 = .ok (.putfield 156, 3) := by decide +kernel
theorem dJ1_removeNode_280 : decode cJ1_removeNode 280 = .ok (.aload_n 0, 1) := by decide +kernel
theorem dJ1_removeNode_281 : decode cJ1_removeNode 281 = .ok (.aload 10, 2) := by decide +kernel
theorem dJ1_removeNode_283 : decode cJ1_removeNode 283 = .ok (.invokevirtual 236, 3) := by decide +kernel
theorem dJ1_removeNode_286 : decode cJ1_removeNode 286 = .ok (.aload 10, 2) := by decide +kernel
theorem dJ1_removeNode_288 : decode cJ1_removeNode 288 = .ok (.areturn, 1) := by decide +kernel
theorem dJ1_removeNode_289 : decode cJ1_removeNode 289 = .ok (.aconst_null, 1) := by decide +kernel
theorem dJ1_removeNode_290 : decode cJ1_removeNode 290 = .ok (.areturn, 1) := by decide +kernel
abbrev cJ1_afterNodeRemoval : ByteArray := prog_26_method_53_code
def yJ1_afterNodeRemoval : MethodName := ⟨RJ1, "afterNodeRemoval", "(Ljava/util/HashMap$Node;)V"⟩
theorem dJ1_afterNodeRemoval_0 : decode cJ1_afterNodeRemoval 0 = .ok (.return_, 1) := by decide +kernel
abbrev cJ1_remove_2 : ByteArray := prog_26_method_32_code
def yJ1_remove_2 : MethodName := ⟨RJ1, "remove", "(Ljava/lang/Object;Ljava/lang/Object;)Z"⟩
theorem dJ1_remove_2_0 : decode cJ1_remove_2 0 = .ok (.aload_n 0, 1) := by decide +kernel
theorem dJ1_remove_2_1 : decode cJ1_remove_2 1 = .ok (.aload_n 1, 1) := by decide +kernel
theorem dJ1_remove_2_2 : decode cJ1_remove_2 2 = .ok (.invokestatic 149, 3) := by decide +kernel
theorem dJ1_remove_2_5 : decode cJ1_remove_2 5 = .ok (.aload_n 1, 1) := by decide +kernel
theorem dJ1_remove_2_6 : decode cJ1_remove_2 6 = .ok (.aload_n 2, 1) := by decide +kernel
theorem dJ1_remove_2_7 : decode cJ1_remove_2 7 = .ok (.iconst 1, 1) := by decide +kernel
theorem dJ1_remove_2_8 : decode cJ1_remove_2 8 = .ok (.iconst 1, 1) := by decide +kernel
theorem dJ1_remove_2_9 : decode cJ1_remove_2 9 = .ok (.invokevirtual 228, 3) := by decide +kernel
theorem dJ1_remove_2_12 : decode cJ1_remove_2 12 = .ok (.ifnull 7, 3) := by decide +kernel
theorem dJ1_remove_2_15 : decode cJ1_remove_2 15 = .ok (.iconst 1, 1) := by decide +kernel
theorem dJ1_remove_2_16 : decode cJ1_remove_2 16 = .ok (.goto 4, 3) := by decide +kernel
theorem dJ1_remove_2_19 : decode cJ1_remove_2 19 = .ok (.iconst 0, 1) := by decide +kernel
theorem dJ1_remove_2_20 : decode cJ1_remove_2 20 = .ok (.ireturn, 1) := by decide +kernel
abbrev cJ1_containsKey : ByteArray := prog_26_method_14_code
def yJ1_containsKey : MethodName := ⟨RJ1, "containsKey", "(Ljava/lang/Object;)Z"⟩
theorem dJ1_containsKey_0 : decode cJ1_containsKey 0 = .ok (.aload_n 0, 1) := by decide +kernel
theorem dJ1_containsKey_1 : decode cJ1_containsKey 1 = .ok (.aload_n 1, 1) := by decide +kernel
theorem dJ1_containsKey_2 : decode cJ1_containsKey 2 = .ok (.invokevirtual 158, 3) := by decide +kernel
theorem dJ1_containsKey_5 : decode cJ1_containsKey 5 = .ok (.ifnull 7, 3) := by decide +kernel
theorem dJ1_containsKey_8 : decode cJ1_containsKey 8 = .ok (.iconst 1, 1) := by decide +kernel
theorem dJ1_containsKey_9 : decode cJ1_containsKey 9 = .ok (.goto 4, 3) := by decide +kernel
theorem dJ1_containsKey_12 : decode cJ1_containsKey 12 = .ok (.iconst 0, 1) := by decide +kernel
theorem dJ1_containsKey_13 : decode cJ1_containsKey 13 = .ok (.ireturn, 1) := by decide +kernel
abbrev cJ1_containsValue : ByteArray := prog_26_method_23_code
def yJ1_containsValue : MethodName := ⟨RJ1, "containsValue", "(Ljava/lang/Object;)Z"⟩
theorem dJ1_containsValue_0 : decode cJ1_containsValue 0 = .ok (.aload_n 0, 1) := by decide +kernel
theorem dJ1_containsValue_1 : decode cJ1_containsValue 1 = .ok (.getfield 105, 3) := by decide +kernel
theorem dJ1_containsValue_4 : decode cJ1_containsValue 4 = .ok (.dup, 1) := by decide +kernel
theorem dJ1_containsValue_5 : decode cJ1_containsValue 5 = .ok (.astore_n 2, 1) := by decide +kernel
theorem dJ1_containsValue_6 : decode cJ1_containsValue 6 = .ok (.ifnull 81, 3) := by decide +kernel
theorem dJ1_containsValue_9 : decode cJ1_containsValue 9 = .ok (.aload_n 0, 1) := by decide +kernel
theorem dJ1_containsValue_10 : decode cJ1_containsValue 10 = .ok (.getfield 156, 3) := by decide +kernel
theorem dJ1_containsValue_13 : decode cJ1_containsValue 13 = .ok (.ifCond .le 74, 3) := by decide +kernel
theorem dJ1_containsValue_16 : decode cJ1_containsValue 16 = .ok (.aload_n 2, 1) := by decide +kernel
theorem dJ1_containsValue_17 : decode cJ1_containsValue 17 = .ok (.astore 4, 2) := by decide +kernel
theorem dJ1_containsValue_19 : decode cJ1_containsValue 19 = .ok (.aload 4, 2) := by decide +kernel
theorem dJ1_containsValue_21 : decode cJ1_containsValue 21 = .ok (.arraylength, 1) := by decide +kernel
theorem dJ1_containsValue_22 : decode cJ1_containsValue 22 = .ok (.istore 5, 2) := by decide +kernel
theorem dJ1_containsValue_24 : decode cJ1_containsValue 24 = .ok (.iconst 0, 1) := by decide +kernel
theorem dJ1_containsValue_25 : decode cJ1_containsValue 25 = .ok (.istore 6, 2) := by decide +kernel
theorem dJ1_containsValue_27 : decode cJ1_containsValue 27 = .ok (.iload 6, 2) := by decide +kernel
theorem dJ1_containsValue_29 : decode cJ1_containsValue 29 = .ok (.iload 5, 2) := by decide +kernel
theorem dJ1_containsValue_31 : decode cJ1_containsValue 31 = .ok (.if_icmp .ge 56, 3) := by decide +kernel
theorem dJ1_containsValue_34 : decode cJ1_containsValue 34 = .ok (.aload 4, 2) := by decide +kernel
theorem dJ1_containsValue_36 : decode cJ1_containsValue 36 = .ok (.iload 6, 2) := by decide +kernel
theorem dJ1_containsValue_38 : decode cJ1_containsValue 38 = .ok (.aaload, 1) := by decide +kernel
theorem dJ1_containsValue_39 : decode cJ1_containsValue 39 = .ok (.astore 7, 2) := by decide +kernel
theorem dJ1_containsValue_41 : decode cJ1_containsValue 41 = .ok (.aload 7, 2) := by decide +kernel
theorem dJ1_containsValue_43 : decode cJ1_containsValue 43 = .ok (.ifnull 38, 3) := by decide +kernel
theorem dJ1_containsValue_46 : decode cJ1_containsValue 46 = .ok (.aload 7, 2) := by decide +kernel
theorem dJ1_containsValue_48 : decode cJ1_containsValue 48 = .ok (.getfield 162, 3) := by decide +kernel
theorem dJ1_containsValue_51 : decode cJ1_containsValue 51 = .ok (.dup, 1) := by decide +kernel
theorem dJ1_containsValue_52 : decode cJ1_containsValue 52 = .ok (.astore_n 3, 1) := by decide +kernel
theorem dJ1_containsValue_53 : decode cJ1_containsValue 53 = .ok (.aload_n 1, 1) := by decide +kernel
theorem dJ1_containsValue_54 : decode cJ1_containsValue 54 = .ok (.if_acmp .eq 15, 3) := by decide +kernel
theorem dJ1_containsValue_57 : decode cJ1_containsValue 57 = .ok (.aload_n 1, 1) := by decide +kernel
theorem dJ1_containsValue_58 : decode cJ1_containsValue 58 = .ok (.ifnull 13, 3) := by decide +kernel
theorem dJ1_containsValue_61 : decode cJ1_containsValue 61 = .ok (.aload_n 1, 1) := by decide +kernel
theorem dJ1_containsValue_62 : decode cJ1_containsValue 62 = .ok (.aload_n 3, 1) := by decide +kernel
theorem dJ1_containsValue_63 : decode cJ1_containsValue 63 = .ok (.invokevirtual 173, 3) := by decide +kernel
theorem dJ1_containsValue_66 : decode cJ1_containsValue 66 = .ok (.ifCond .eq 5, 3) := by decide +kernel
theorem dJ1_containsValue_69 : decode cJ1_containsValue 69 = .ok (.iconst 1, 1) := by decide +kernel
theorem dJ1_containsValue_70 : decode cJ1_containsValue 70 = .ok (.ireturn, 1) := by decide +kernel
theorem dJ1_containsValue_71 : decode cJ1_containsValue 71 = .ok (.aload 7, 2) := by decide +kernel
theorem dJ1_containsValue_73 : decode cJ1_containsValue 73 = .ok (.getfield 177, 3) := by decide +kernel
theorem dJ1_containsValue_76 : decode cJ1_containsValue 76 = .ok (.astore 7, 2) := by decide +kernel
theorem dJ1_containsValue_78 : decode cJ1_containsValue 78 = .ok (.goto (-37), 3) := by decide +kernel
theorem dJ1_containsValue_81 : decode cJ1_containsValue 81 = .ok (.iinc 6 1, 3) := by decide +kernel
theorem dJ1_containsValue_84 : decode cJ1_containsValue 84 = .ok (.goto (-57), 3) := by decide +kernel
theorem dJ1_containsValue_87 : decode cJ1_containsValue 87 = .ok (.iconst 0, 1) := by decide +kernel
theorem dJ1_containsValue_88 : decode cJ1_containsValue 88 = .ok (.ireturn, 1) := by decide +kernel
abbrev cJ1_size : ByteArray := prog_26_method_10_code
def yJ1_size : MethodName := ⟨RJ1, "size", "()I"⟩
theorem dJ1_size_0 : decode cJ1_size 0 = .ok (.aload_n 0, 1) := by decide +kernel
theorem dJ1_size_1 : decode cJ1_size 1 = .ok (.getfield 156, 3) := by decide +kernel
theorem dJ1_size_4 : decode cJ1_size 4 = .ok (.ireturn, 1) := by decide +kernel
abbrev cJ1_clear : ByteArray := prog_26_method_22_code
def yJ1_clear : MethodName := ⟨RJ1, "clear", "()V"⟩
theorem dJ1_clear_0 : decode cJ1_clear 0 = .ok (.aload_n 0, 1) := by decide +kernel
theorem dJ1_clear_1 : decode cJ1_clear 1 = .ok (.dup, 1) := by decide +kernel
theorem dJ1_clear_2 : decode cJ1_clear 2 = .ok (.getfield 202, 3) := by decide +kernel
theorem dJ1_clear_5 : decode cJ1_clear 5 = .ok (.iconst 1, 1) := by decide +kernel
theorem dJ1_clear_6 : decode cJ1_clear 6 = .ok (.iadd, 1) := by decide +kernel
theorem dJ1_clear_7 : decode cJ1_clear 7 = .ok (.putfield 202, 3) := by decide +kernel
theorem dJ1_clear_10 : decode cJ1_clear 10 = .ok (.aload_n 0, 1) := by decide +kernel
theorem dJ1_clear_11 : decode cJ1_clear 11 = .ok (.getfield 105, 3) := by decide +kernel
theorem dJ1_clear_14 : decode cJ1_clear 14 = .ok (.dup, 1) := by decide +kernel
theorem dJ1_clear_15 : decode cJ1_clear 15 = .ok (.astore_n 1, 1) := by decide +kernel
theorem dJ1_clear_16 : decode cJ1_clear 16 = .ok (.ifnull 33, 3) := by decide +kernel
theorem dJ1_clear_19 : decode cJ1_clear 19 = .ok (.aload_n 0, 1) := by decide +kernel
theorem dJ1_clear_20 : decode cJ1_clear 20 = .ok (.getfield 156, 3) := by decide +kernel
theorem dJ1_clear_23 : decode cJ1_clear 23 = .ok (.ifCond .le 26, 3) := by decide +kernel
theorem dJ1_clear_26 : decode cJ1_clear 26 = .ok (.aload_n 0, 1) := by decide +kernel
theorem dJ1_clear_27 : decode cJ1_clear 27 = .ok (.iconst 0, 1) := by decide +kernel
theorem dJ1_clear_28 : decode cJ1_clear 28 = .ok (.putfield 156, 3) := by decide +kernel
theorem dJ1_clear_31 : decode cJ1_clear 31 = .ok (.iconst 0, 1) := by decide +kernel
theorem dJ1_clear_32 : decode cJ1_clear 32 = .ok (.istore_n 2, 1) := by decide +kernel
theorem dJ1_clear_33 : decode cJ1_clear 33 = .ok (.iload_n 2, 1) := by decide +kernel
theorem dJ1_clear_34 : decode cJ1_clear 34 = .ok (.aload_n 1, 1) := by decide +kernel
theorem dJ1_clear_35 : decode cJ1_clear 35 = .ok (.arraylength, 1) := by decide +kernel
theorem dJ1_clear_36 : decode cJ1_clear 36 = .ok (.if_icmp .ge 13, 3) := by decide +kernel
theorem dJ1_clear_39 : decode cJ1_clear 39 = .ok (.aload_n 1, 1) := by decide +kernel
theorem dJ1_clear_40 : decode cJ1_clear 40 = .ok (.iload_n 2, 1) := by decide +kernel
theorem dJ1_clear_41 : decode cJ1_clear 41 = .ok (.aconst_null, 1) := by decide +kernel
theorem dJ1_clear_42 : decode cJ1_clear 42 = .ok (.aastore, 1) := by decide +kernel
theorem dJ1_clear_43 : decode cJ1_clear 43 = .ok (.iinc 2 1, 3) := by decide +kernel
theorem dJ1_clear_46 : decode cJ1_clear 46 = .ok (.goto (-13), 3) := by decide +kernel
theorem dJ1_clear_49 : decode cJ1_clear 49 = .ok (.return_, 1) := by decide +kernel
abbrev cJ1_keySet : ByteArray := prog_26_method_24_code
def yJ1_keySet : MethodName := ⟨RJ1, "keySet", "()Ljava/util/Set;"⟩
theorem dJ1_keySet_0 : decode cJ1_keySet 0 = .ok (.aload_n 0, 1) := by decide +kernel
theorem dJ1_keySet_1 : decode cJ1_keySet 1 = .ok (.getfield 239, 3) := by decide +kernel
theorem dJ1_keySet_4 : decode cJ1_keySet 4 = .ok (.astore_n 1, 1) := by decide +kernel
theorem dJ1_keySet_5 : decode cJ1_keySet 5 = .ok (.aload_n 1, 1) := by decide +kernel
theorem dJ1_keySet_6 : decode cJ1_keySet 6 = .ok (.ifnonnull 17, 3) := by decide +kernel
theorem dJ1_keySet_9 : decode cJ1_keySet 9 = .ok (.new 243, 3) := by decide +kernel
theorem dJ1_keySet_12 : decode cJ1_keySet 12 = .ok (.dup, 1) := by decide +kernel
theorem dJ1_keySet_13 : decode cJ1_keySet 13 = .ok (.aload_n 0, 1) := by decide +kernel
theorem dJ1_keySet_14 : decode cJ1_keySet 14 = .ok (.invokespecial 245, 3) := by decide +kernel
theorem dJ1_keySet_17 : decode cJ1_keySet 17 = .ok (.astore_n 1, 1) := by decide +kernel
theorem dJ1_keySet_18 : decode cJ1_keySet 18 = .ok (.aload_n 0, 1) := by decide +kernel
theorem dJ1_keySet_19 : decode cJ1_keySet 19 = .ok (.aload_n 1, 1) := by decide +kernel
theorem dJ1_keySet_20 : decode cJ1_keySet 20 = .ok (.putfield 239, 3) := by decide +kernel
theorem dJ1_keySet_23 : decode cJ1_keySet 23 = .ok (.aload_n 1, 1) := by decide +kernel
theorem dJ1_keySet_24 : decode cJ1_keySet 24 = .ok (.areturn, 1) := by decide +kernel
abbrev cJ1_putAll : ByteArray := prog_26_method_19_code
def yJ1_putAll : MethodName := ⟨RJ1, "putAll", "(Ljava/util/Map;)V"⟩
theorem dJ1_putAll_0 : decode cJ1_putAll 0 = .ok (.aload_n 0, 1) := by decide +kernel
theorem dJ1_putAll_1 : decode cJ1_putAll 1 = .ok (.aload_n 1, 1) := by decide +kernel
theorem dJ1_putAll_2 : decode cJ1_putAll 2 = .ok (.iconst 1, 1) := by decide +kernel
theorem dJ1_putAll_3 : decode cJ1_putAll 3 = .ok (.invokevirtual 96, 3) := by decide +kernel
theorem dJ1_putAll_6 : decode cJ1_putAll 6 = .ok (.return_, 1) := by decide +kernel
abbrev cJ1_putMapEntries : ByteArray := prog_26_method_9_code
def yJ1_putMapEntries : MethodName := ⟨RJ1, "putMapEntries", "(Ljava/util/Map;Z)V"⟩
theorem dJ1_putMapEntries_0 : decode cJ1_putMapEntries 0 = .ok (.aload_n 1, 1) := by decide +kernel
theorem dJ1_putMapEntries_1 : decode cJ1_putMapEntries 1 = .ok (.invokeinterface 100 1, 5) := by decide +kernel
theorem dJ1_putMapEntries_6 : decode cJ1_putMapEntries 6 = .ok (.istore_n 3, 1) := by decide +kernel
theorem dJ1_putMapEntries_7 : decode cJ1_putMapEntries 7 = .ok (.iload_n 3, 1) := by decide +kernel
theorem dJ1_putMapEntries_8 : decode cJ1_putMapEntries 8 = .ok (.ifCond .le 161, 3) := by decide +kernel
theorem dJ1_putMapEntries_11 : decode cJ1_putMapEntries 11 = .ok (.aload_n 0, 1) := by decide +kernel
theorem dJ1_putMapEntries_12 : decode cJ1_putMapEntries 12 = .ok (.getfield 105, 3) := by decide +kernel
theorem dJ1_putMapEntries_15 : decode cJ1_putMapEntries 15 = .ok (.ifnonnull 56, 3) := by decide +kernel
theorem dJ1_putMapEntries_18 : decode cJ1_putMapEntries 18 = .ok (.iload_n 3, 1) := by decide +kernel
theorem dJ1_putMapEntries_19 : decode cJ1_putMapEntries 19 = .ok (.i2d, 1) := by decide +kernel
theorem dJ1_putMapEntries_20 : decode cJ1_putMapEntries 20 = .ok (.aload_n 0, 1) := by decide +kernel
theorem dJ1_putMapEntries_21 : decode cJ1_putMapEntries 21 = .ok (.getfield 81, 3) := by decide +kernel
theorem dJ1_putMapEntries_24 : decode cJ1_putMapEntries 24 = .ok (.f2d, 1) := by decide +kernel
theorem dJ1_putMapEntries_25 : decode cJ1_putMapEntries 25 = .ok (.ddiv, 1) := by decide +kernel
theorem dJ1_putMapEntries_26 : decode cJ1_putMapEntries 26 = .ok (.invokestatic 109, 3) := by decide +kernel
theorem dJ1_putMapEntries_29 : decode cJ1_putMapEntries 29 = .ok (.dstore 4, 2) := by decide +kernel
theorem dJ1_putMapEntries_31 : decode cJ1_putMapEntries 31 = .ok (.dload 4, 2) := by decide +kernel
theorem dJ1_putMapEntries_33 : decode cJ1_putMapEntries 33 = .ok (.ldc2_w 115, 3) := by decide +kernel
theorem dJ1_putMapEntries_36 : decode cJ1_putMapEntries 36 = .ok (.dcmp .g, 1) := by decide +kernel
theorem dJ1_putMapEntries_37 : decode cJ1_putMapEntries 37 = .ok (.ifCond .ge 9, 3) := by decide +kernel
theorem dJ1_putMapEntries_40 : decode cJ1_putMapEntries 40 = .ok (.dload 4, 2) := by decide +kernel
theorem dJ1_putMapEntries_42 : decode cJ1_putMapEntries 42 = .ok (.d2i, 1) := by decide +kernel
theorem dJ1_putMapEntries_43 : decode cJ1_putMapEntries 43 = .ok (.goto 5, 3) := by decide +kernel
theorem dJ1_putMapEntries_46 : decode cJ1_putMapEntries 46 = .ok (.ldc 42, 2) := by decide +kernel
theorem dJ1_putMapEntries_48 : decode cJ1_putMapEntries 48 = .ok (.istore 6, 2) := by decide +kernel
theorem dJ1_putMapEntries_50 : decode cJ1_putMapEntries 50 = .ok (.iload 6, 2) := by decide +kernel
theorem dJ1_putMapEntries_52 : decode cJ1_putMapEntries 52 = .ok (.aload_n 0, 1) := by decide +kernel
theorem dJ1_putMapEntries_53 : decode cJ1_putMapEntries 53 = .ok (.getfield 88, 3) := by decide +kernel
theorem dJ1_putMapEntries_56 : decode cJ1_putMapEntries 56 = .ok (.if_icmp .le 12, 3) := by decide +kernel
theorem dJ1_putMapEntries_59 : decode cJ1_putMapEntries 59 = .ok (.aload_n 0, 1) := by decide +kernel
theorem dJ1_putMapEntries_60 : decode cJ1_putMapEntries 60 = .ok (.iload 6, 2) := by decide +kernel
theorem dJ1_putMapEntries_62 : decode cJ1_putMapEntries 62 = .ok (.invokestatic 85, 3) := by decide +kernel
theorem dJ1_putMapEntries_65 : decode cJ1_putMapEntries 65 = .ok (.putfield 88, 3) := by decide +kernel
theorem dJ1_putMapEntries_68 : decode cJ1_putMapEntries 68 = .ok (.goto 29, 3) := by decide +kernel
theorem dJ1_putMapEntries_71 : decode cJ1_putMapEntries 71 = .ok (.iload_n 3, 1) := by decide +kernel
theorem dJ1_putMapEntries_72 : decode cJ1_putMapEntries 72 = .ok (.aload_n 0, 1) := by decide +kernel
theorem dJ1_putMapEntries_73 : decode cJ1_putMapEntries 73 = .ok (.getfield 88, 3) := by decide +kernel
theorem dJ1_putMapEntries_76 : decode cJ1_putMapEntries 76 = .ok (.if_icmp .le 21, 3) := by decide +kernel
theorem dJ1_putMapEntries_79 : decode cJ1_putMapEntries 79 = .ok (.aload_n 0, 1) := by decide +kernel
theorem dJ1_putMapEntries_80 : decode cJ1_putMapEntries 80 = .ok (.getfield 105, 3) := by decide +kernel
theorem dJ1_putMapEntries_83 : decode cJ1_putMapEntries 83 = .ok (.arraylength, 1) := by decide +kernel
theorem dJ1_putMapEntries_84 : decode cJ1_putMapEntries 84 = .ok (.ldc 42, 2) := by decide +kernel
theorem dJ1_putMapEntries_86 : decode cJ1_putMapEntries 86 = .ok (.if_icmp .ge 11, 3) := by decide +kernel
theorem dJ1_putMapEntries_89 : decode cJ1_putMapEntries 89 = .ok (.aload_n 0, 1) := by decide +kernel
theorem dJ1_putMapEntries_90 : decode cJ1_putMapEntries 90 = .ok (.invokevirtual 117, 3) := by decide +kernel
theorem dJ1_putMapEntries_93 : decode cJ1_putMapEntries 93 = .ok (.pop, 1) := by decide +kernel
theorem dJ1_putMapEntries_94 : decode cJ1_putMapEntries 94 = .ok (.goto (-23), 3) := by decide +kernel
theorem dJ1_putMapEntries_97 : decode cJ1_putMapEntries 97 = .ok (.aload_n 1, 1) := by decide +kernel
theorem dJ1_putMapEntries_98 : decode cJ1_putMapEntries 98 = .ok (.invokeinterface 121 1, 5) := by decide +kernel
theorem dJ1_putMapEntries_103 : decode cJ1_putMapEntries 103 = .ok (.invokeinterface 125 1, 5) := by decide +kernel
theorem dJ1_putMapEntries_108 : decode cJ1_putMapEntries 108 = .ok (.astore 4, 2) := by decide +kernel
theorem dJ1_putMapEntries_110 : decode cJ1_putMapEntries 110 = .ok (.aload 4, 2) := by decide +kernel
theorem dJ1_putMapEntries_112 : decode cJ1_putMapEntries 112 = .ok (.invokeinterface 131 1, 5) := by decide +kernel
theorem dJ1_putMapEntries_117 : decode cJ1_putMapEntries 117 = .ok (.ifCond .eq 52, 3) := by decide +kernel
theorem dJ1_putMapEntries_120 : decode cJ1_putMapEntries 120 = .ok (.aload 4, 2) := by decide +kernel
theorem dJ1_putMapEntries_122 : decode cJ1_putMapEntries 122 = .ok (.invokeinterface 137 1, 5) := by decide +kernel
theorem dJ1_putMapEntries_127 : decode cJ1_putMapEntries 127 = .ok (.checkcast 141, 3) := by decide +kernel
theorem dJ1_putMapEntries_130 : decode cJ1_putMapEntries 130 = .ok (.astore 5, 2) := by decide +kernel
theorem dJ1_putMapEntries_132 : decode cJ1_putMapEntries 132 = .ok (.aload 5, 2) := by decide +kernel
theorem dJ1_putMapEntries_134 : decode cJ1_putMapEntries 134 = .ok (.invokeinterface 143 1, 5) := by decide +kernel
theorem dJ1_putMapEntries_139 : decode cJ1_putMapEntries 139 = .ok (.astore 6, 2) := by decide +kernel
theorem dJ1_putMapEntries_141 : decode cJ1_putMapEntries 141 = .ok (.aload 5, 2) := by decide +kernel
theorem dJ1_putMapEntries_143 : decode cJ1_putMapEntries 143 = .ok (.invokeinterface 146 1, 5) := by decide +kernel
theorem dJ1_putMapEntries_148 : decode cJ1_putMapEntries 148 = .ok (.astore 7, 2) := by decide +kernel
theorem dJ1_putMapEntries_150 : decode cJ1_putMapEntries 150 = .ok (.aload_n 0, 1) := by decide +kernel
theorem dJ1_putMapEntries_151 : decode cJ1_putMapEntries 151 = .ok (.aload 6, 2) := by decide +kernel
theorem dJ1_putMapEntries_153 : decode cJ1_putMapEntries 153 = .ok (.invokestatic 149, 3) := by decide +kernel
theorem dJ1_putMapEntries_156 : decode cJ1_putMapEntries 156 = .ok (.aload 6, 2) := by decide +kernel
theorem dJ1_putMapEntries_158 : decode cJ1_putMapEntries 158 = .ok (.aload 7, 2) := by decide +kernel
theorem dJ1_putMapEntries_160 : decode cJ1_putMapEntries 160 = .ok (.iconst 0, 1) := by decide +kernel
theorem dJ1_putMapEntries_161 : decode cJ1_putMapEntries 161 = .ok (.iload_n 2, 1) := by decide +kernel
theorem dJ1_putMapEntries_162 : decode cJ1_putMapEntries 162 = .ok (.invokevirtual 152, 3) := by decide +kernel
theorem dJ1_putMapEntries_165 : decode cJ1_putMapEntries 165 = .ok (.pop, 1) := by decide +kernel
theorem dJ1_putMapEntries_166 : decode cJ1_putMapEntries 166 = .ok (.goto (-56), 3) := by decide +kernel
theorem dJ1_putMapEntries_169 : decode cJ1_putMapEntries 169 = .ok (.return_, 1) := by decide +kernel
abbrev cJ1_entrySet : ByteArray := prog_26_method_29_code
def yJ1_entrySet : MethodName := ⟨RJ1, "entrySet", "()Ljava/util/Set;"⟩
theorem dJ1_entrySet_0 : decode cJ1_entrySet 0 = .ok (.aload_n 0, 1) := by decide +kernel
theorem dJ1_entrySet_1 : decode cJ1_entrySet 1 = .ok (.getfield 266, 3) := by decide +kernel
theorem dJ1_entrySet_4 : decode cJ1_entrySet 4 = .ok (.dup, 1) := by decide +kernel
theorem dJ1_entrySet_5 : decode cJ1_entrySet 5 = .ok (.astore_n 1, 1) := by decide +kernel
theorem dJ1_entrySet_6 : decode cJ1_entrySet 6 = .ok (.ifnonnull 19, 3) := by decide +kernel
theorem dJ1_entrySet_9 : decode cJ1_entrySet 9 = .ok (.aload_n 0, 1) := by decide +kernel
theorem dJ1_entrySet_10 : decode cJ1_entrySet 10 = .ok (.new 268, 3) := by decide +kernel
theorem dJ1_entrySet_13 : decode cJ1_entrySet 13 = .ok (.dup, 1) := by decide +kernel
theorem dJ1_entrySet_14 : decode cJ1_entrySet 14 = .ok (.aload_n 0, 1) := by decide +kernel
theorem dJ1_entrySet_15 : decode cJ1_entrySet 15 = .ok (.invokespecial 270, 3) := by decide +kernel
theorem dJ1_entrySet_18 : decode cJ1_entrySet 18 = .ok (.dup_x1, 1) := by decide +kernel
theorem dJ1_entrySet_19 : decode cJ1_entrySet 19 = .ok (.putfield 266, 3) := by decide +kernel
theorem dJ1_entrySet_22 : decode cJ1_entrySet 22 = .ok (.goto 4, 3) := by decide +kernel
theorem dJ1_entrySet_25 : decode cJ1_entrySet 25 = .ok (.aload_n 1, 1) := by decide +kernel
theorem dJ1_entrySet_26 : decode cJ1_entrySet 26 = .ok (.areturn, 1) := by decide +kernel
theorem q11 : (Jvm.Cond.initialized "java/util/HashMap") ∈ lw_all := lw_g (lw_at lw_m1 3 rfl) rfl
theorem q48 : (Jvm.Cond.instantiable "java/util/HashMap" (8 : Nat)) ∈ lw_all := lw_g (lw_at lw_m1 40 rfl) rfl
theorem q50 : (Jvm.Cond.instanceMethod ({ cls := "java/util/HashMap", name := "<init>", desc := "()V" } : Jvm.MethodName)) ∈ lw_all := lw_g (lw_at lw_m1 42 rfl) rfl
theorem q51 : (Jvm.Cond.code ({ cls := "java/util/HashMap", name := "<init>", desc := "()V" } : Jvm.MethodName) prog_26_method_7_code (1 : Nat) (Option.none : Option Jvm.ClassFile.FieldType)) ∈ lw_all := lw_g (lw_at lw_m1 43 rfl) rfl
theorem q52 : (Jvm.Cond.methodLink "java/util/HashMap" (43 : Nat) ({ cls := "java/util/AbstractMap", name := "<init>", desc := "()V" } : Jvm.MethodName)) ∈ lw_all := lw_g (lw_at lw_m1 44 rfl) rfl
theorem q56 : (Jvm.Cond.constantFloat "java/util/HashMap" (92 : Nat) (1061158912 : UInt32)) ∈ lw_all := lw_g (lw_at lw_m1 48 rfl) rfl
theorem q58 : (Jvm.Cond.fieldLink "java/util/HashMap" (105 : Nat) "java/util/HashMap" "table" "[Ljava/util/HashMap$Node;") ∈ lw_all := lw_g (lw_at lw_m1 50 rfl) rfl
theorem q59 : (Jvm.Cond.fieldLink "java/util/HashMap" (266 : Nat) "java/util/HashMap" "entrySet" "Ljava/util/Set;") ∈ lw_all := lw_g (lw_at lw_m1 51 rfl) rfl
theorem q68 : (Jvm.Cond.fieldLink "java/util/HashMap" (156 : Nat) "java/util/HashMap" "size" "I") ∈ lw_all := lw_g (lw_at lw_m1 60 rfl) rfl
theorem q73 : (Jvm.Cond.fieldLink "java/util/HashMap" (202 : Nat) "java/util/HashMap" "modCount" "I") ∈ lw_all := lw_g (lw_at lw_m1 65 rfl) rfl
theorem q74 : (Jvm.Cond.fieldLink "java/util/HashMap" (88 : Nat) "java/util/HashMap" "threshold" "I") ∈ lw_all := lw_g (lw_at lw_m1 66 rfl) rfl
theorem q75 : (Jvm.Cond.fieldLink "java/util/HashMap" (81 : Nat) "java/util/HashMap" "loadFactor" "F") ∈ lw_all := lw_g (lw_at lw_m1 67 rfl) rfl
theorem q76 : (Jvm.Cond.fieldLink "java/util/HashMap" (239 : Nat) "java/util/HashMap" "keySet" "Ljava/util/Set;") ∈ lw_all := lw_g (lw_at lw_m1 68 rfl) rfl
theorem q77 : (Jvm.Cond.sameField "java/util/HashMap" "java/util/AbstractMap" "keySet" "Ljava/util/Set;") ∈ lw_all := lw_g (lw_at lw_m1 69 rfl) rfl
theorem q80 : (Jvm.Cond.lays "java/util/HashMap" "java/util/HashMap" "table" "[Ljava/util/HashMap$Node;") ∈ lw_all := lw_g (lw_at lw_m1 72 rfl) rfl
theorem q81 : (Jvm.Cond.soleField "java/util/HashMap" "table") ∈ lw_all := lw_g (lw_at lw_m1 73 rfl) rfl
theorem q82 : (Jvm.Cond.lays "java/util/HashMap" "java/util/HashMap" "entrySet" "Ljava/util/Set;") ∈ lw_all := lw_g (lw_at lw_m1 74 rfl) rfl
theorem q83 : (Jvm.Cond.soleField "java/util/HashMap" "entrySet") ∈ lw_all := lw_g (lw_at lw_m1 75 rfl) rfl
theorem q84 : (Jvm.Cond.lays "java/util/HashMap" "java/util/HashMap" "size" "I") ∈ lw_all := lw_g (lw_at lw_m1 76 rfl) rfl
theorem q85 : (Jvm.Cond.soleField "java/util/HashMap" "size") ∈ lw_all := lw_g (lw_at lw_m1 77 rfl) rfl
theorem q86 : (Jvm.Cond.lays "java/util/HashMap" "java/util/HashMap" "modCount" "I") ∈ lw_all := lw_g (lw_at lw_m1 78 rfl) rfl
theorem q87 : (Jvm.Cond.soleField "java/util/HashMap" "modCount") ∈ lw_all := lw_g (lw_at lw_m1 79 rfl) rfl
theorem q88 : (Jvm.Cond.lays "java/util/HashMap" "java/util/HashMap" "threshold" "I") ∈ lw_all := lw_g (lw_at lw_m1 80 rfl) rfl
theorem q89 : (Jvm.Cond.soleField "java/util/HashMap" "threshold") ∈ lw_all := lw_g (lw_at lw_m1 81 rfl) rfl
theorem q90 : (Jvm.Cond.laysFinal "java/util/HashMap" "java/util/HashMap" "loadFactor" "F") ∈ lw_all := lw_g (lw_at lw_m1 82 rfl) rfl
theorem q91 : (Jvm.Cond.soleField "java/util/HashMap" "loadFactor") ∈ lw_all := lw_g (lw_at lw_m1 83 rfl) rfl
theorem q92 : (Jvm.Cond.lays "java/util/HashMap" "java/util/AbstractMap" "keySet" "Ljava/util/Set;") ∈ lw_all := lw_g (lw_at lw_m1 84 rfl) rfl
theorem q94 : (Jvm.Cond.lays "java/util/HashMap" "java/util/AbstractMap" "values" "Ljava/util/Collection;") ∈ lw_all := lw_g (lw_at lw_m1 86 rfl) rfl
theorem q96 : (Jvm.Cond.superclass "java/util/HashMap" "java/util/AbstractMap") ∈ lw_all := lw_g (lw_at lw_m1 88 rfl) rfl
theorem q131 : (Jvm.Cond.instanceMethod ({ cls := "java/util/HashMap", name := "<init>", desc := "(IF)V" } : Jvm.MethodName)) ∈ lw_all := lw_g (lw_at lw_m1 123 rfl) rfl
theorem q132 : (Jvm.Cond.code ({ cls := "java/util/HashMap", name := "<init>", desc := "(IF)V" } : Jvm.MethodName) prog_26_method_5_code (3 : Nat) (Option.none : Option Jvm.ClassFile.FieldType)) ∈ lw_all := lw_g (lw_at lw_m1 124 rfl) rfl
theorem q133 : (Jvm.Cond.constant "java/util/HashMap" (42 : Nat) (1073741824 : Int32)) ∈ lw_all := lw_g (lw_at lw_m1 125 rfl) rfl
theorem q134 : (Jvm.Cond.methodLink "java/util/HashMap" (70 : Nat) ({ cls := "java/lang/Float", name := "isNaN", desc := "(F)Z" } : Jvm.MethodName)) ∈ lw_all := lw_g (lw_at lw_m1 126 rfl) rfl
theorem q137 : (Jvm.Cond.methodLink "java/util/HashMap" (85 : Nat) ({ cls := "java/util/HashMap", name := "tableSizeFor", desc := "(I)I" } : Jvm.MethodName)) ∈ lw_all := lw_g (lw_at lw_m1 129 rfl) rfl
theorem q138 : (Jvm.Cond.static ({ cls := "java/util/HashMap", name := "tableSizeFor", desc := "(I)I" } : Jvm.MethodName)) ∈ lw_all := lw_g (lw_at lw_m1 130 rfl) rfl
theorem q139 : (Jvm.Cond.code ({ cls := "java/util/HashMap", name := "tableSizeFor", desc := "(I)I" } : Jvm.MethodName) prog_26_method_4_code (2 : Nat) (Option.some Jvm.ClassFile.FieldType.int)) ∈ lw_all := lw_g (lw_at lw_m1 131 rfl) rfl
theorem q140 : (Jvm.Cond.methodLink "java/util/HashMap" (34 : Nat) ({ cls := "java/lang/Integer", name := "numberOfLeadingZeros", desc := "(I)I" } : Jvm.MethodName)) ∈ lw_all := lw_g (lw_at lw_m1 132 rfl) rfl
theorem q184 : (Jvm.Cond.instanceMethod ({ cls := "java/util/HashMap", name := "put", desc := "(Ljava/lang/Object;Ljava/lang/Object;)Ljava/lang/Object;" } : Jvm.MethodName)) ∈ lw_all := lw_g (lw_at lw_m1 176 rfl) rfl
theorem q185 : (Jvm.Cond.selects "java/util/HashMap" ({ cls := "java/util/HashMap", name := "put", desc := "(Ljava/lang/Object;Ljava/lang/Object;)Ljava/lang/Object;" } : Jvm.MethodName) ({ cls := "java/util/HashMap", name := "put", desc := "(Ljava/lang/Object;Ljava/lang/Object;)Ljava/lang/Object;" } : Jvm.MethodName)) ∈ lw_all := lw_g (lw_at lw_m1 177 rfl) rfl
theorem q186 : (Jvm.Cond.sameMethod "java/util/HashMap" "java/util/HashMap" "put" "(Ljava/lang/Object;Ljava/lang/Object;)Ljava/lang/Object;") ∈ lw_all := lw_g (lw_at lw_m1 178 rfl) rfl
theorem q188 : (Jvm.Cond.code ({ cls := "java/util/HashMap", name := "put", desc := "(Ljava/lang/Object;Ljava/lang/Object;)Ljava/lang/Object;" } : Jvm.MethodName) prog_26_method_15_code (3 : Nat) (Option.some (Jvm.ClassFile.FieldType.object "java/lang/Object"))) ∈ lw_all := lw_g (lw_at lw_m1 180 rfl) rfl
theorem q189 : (Jvm.Cond.methodLink "java/util/HashMap" (149 : Nat) ({ cls := "java/util/HashMap", name := "hash", desc := "(Ljava/lang/Object;)I" } : Jvm.MethodName)) ∈ lw_all := lw_g (lw_at lw_m1 181 rfl) rfl
theorem q190 : (Jvm.Cond.static ({ cls := "java/util/HashMap", name := "hash", desc := "(Ljava/lang/Object;)I" } : Jvm.MethodName)) ∈ lw_all := lw_g (lw_at lw_m1 182 rfl) rfl
theorem q191 : (Jvm.Cond.code ({ cls := "java/util/HashMap", name := "hash", desc := "(Ljava/lang/Object;)I" } : Jvm.MethodName) prog_26_method_1_code (2 : Nat) (Option.some Jvm.ClassFile.FieldType.int)) ∈ lw_all := lw_g (lw_at lw_m1 183 rfl) rfl
theorem q193 : (Jvm.Cond.methodLink "java/util/HashMap" (1 : Nat) ({ cls := "java/lang/Object", name := "hashCode", desc := "()I" } : Jvm.MethodName)) ∈ lw_all := lw_g (lw_at lw_m1 185 rfl) rfl
theorem q206 : (Jvm.Cond.methodLink "java/util/HashMap" (152 : Nat) ({ cls := "java/util/HashMap", name := "putVal", desc := "(ILjava/lang/Object;Ljava/lang/Object;ZZ)Ljava/lang/Object;" } : Jvm.MethodName)) ∈ lw_all := lw_g (lw_at lw_m1 198 rfl) rfl
theorem q207 : (Jvm.Cond.instanceMethod ({ cls := "java/util/HashMap", name := "putVal", desc := "(ILjava/lang/Object;Ljava/lang/Object;ZZ)Ljava/lang/Object;" } : Jvm.MethodName)) ∈ lw_all := lw_g (lw_at lw_m1 199 rfl) rfl
theorem q208 : (Jvm.Cond.selects "java/util/HashMap" ({ cls := "java/util/HashMap", name := "putVal", desc := "(ILjava/lang/Object;Ljava/lang/Object;ZZ)Ljava/lang/Object;" } : Jvm.MethodName) ({ cls := "java/util/HashMap", name := "putVal", desc := "(ILjava/lang/Object;Ljava/lang/Object;ZZ)Ljava/lang/Object;" } : Jvm.MethodName)) ∈ lw_all := lw_g (lw_at lw_m1 200 rfl) rfl
theorem q209 : (Jvm.Cond.sameMethod "java/util/HashMap" "java/util/HashMap" "putVal" "(ILjava/lang/Object;Ljava/lang/Object;ZZ)Ljava/lang/Object;") ∈ lw_all := lw_g (lw_at lw_m1 201 rfl) rfl
theorem q211 : (Jvm.Cond.code ({ cls := "java/util/HashMap", name := "putVal", desc := "(ILjava/lang/Object;Ljava/lang/Object;ZZ)Ljava/lang/Object;" } : Jvm.MethodName) prog_26_method_16_code (13 : Nat) (Option.some (Jvm.ClassFile.FieldType.object "java/lang/Object"))) ∈ lw_all := lw_g (lw_at lw_m1 203 rfl) rfl
theorem q212 : (Jvm.Cond.methodLink "java/util/HashMap" (117 : Nat) ({ cls := "java/util/HashMap", name := "resize", desc := "()[Ljava/util/HashMap$Node;" } : Jvm.MethodName)) ∈ lw_all := lw_g (lw_at lw_m1 204 rfl) rfl
theorem q213 : (Jvm.Cond.instanceMethod ({ cls := "java/util/HashMap", name := "resize", desc := "()[Ljava/util/HashMap$Node;" } : Jvm.MethodName)) ∈ lw_all := lw_g (lw_at lw_m1 205 rfl) rfl
theorem q214 : (Jvm.Cond.selects "java/util/HashMap" ({ cls := "java/util/HashMap", name := "resize", desc := "()[Ljava/util/HashMap$Node;" } : Jvm.MethodName) ({ cls := "java/util/HashMap", name := "resize", desc := "()[Ljava/util/HashMap$Node;" } : Jvm.MethodName)) ∈ lw_all := lw_g (lw_at lw_m1 206 rfl) rfl
theorem q215 : (Jvm.Cond.sameMethod "java/util/HashMap" "java/util/HashMap" "resize" "()[Ljava/util/HashMap$Node;") ∈ lw_all := lw_g (lw_at lw_m1 207 rfl) rfl
theorem q217 : (Jvm.Cond.code ({ cls := "java/util/HashMap", name := "resize", desc := "()[Ljava/util/HashMap$Node;" } : Jvm.MethodName) prog_26_method_17_code (14 : Nat) (Option.some (Jvm.ClassFile.FieldType.array (Jvm.ClassFile.FieldType.object "java/util/HashMap$Node")))) ∈ lw_all := lw_g (lw_at lw_m1 209 rfl) rfl
theorem q218 : (Jvm.Cond.constant "java/util/HashMap" (209 : Nat) (2147483647 : Int32)) ∈ lw_all := lw_g (lw_at lw_m1 210 rfl) rfl
theorem q219 : (Jvm.Cond.constantFloat "java/util/HashMap" (210 : Nat) (1317011456 : UInt32)) ∈ lw_all := lw_g (lw_at lw_m1 211 rfl) rfl
theorem q220 : (Jvm.Cond.classLink "java/util/HashMap" (163 : Nat) "java/util/HashMap$Node") ∈ lw_all := lw_g (lw_at lw_m1 212 rfl) rfl
theorem q222 : (Jvm.Cond.classLink "java/util/HashMap" (180 : Nat) "java/util/HashMap$TreeNode") ∈ lw_all := lw_g (lw_at lw_m1 214 rfl) rfl
theorem q223 : (Jvm.Cond.methodLink "java/util/HashMap" (211 : Nat) ({ cls := "java/util/HashMap$TreeNode", name := "split", desc := "(Ljava/util/HashMap;[Ljava/util/HashMap$Node;II)V" } : Jvm.MethodName)) ∈ lw_all := lw_g (lw_at lw_m1 215 rfl) rfl
theorem q233 : (Jvm.Cond.instanceMethod ({ cls := "java/util/HashMap", name := "replacementNode", desc := "(Ljava/util/HashMap$Node;Ljava/util/HashMap$Node;)Ljava/util/HashMap$Node;" } : Jvm.MethodName)) ∈ lw_all := lw_g (lw_at lw_m1 225 rfl) rfl
theorem q234 : (Jvm.Cond.selects "java/util/HashMap" ({ cls := "java/util/HashMap", name := "replacementNode", desc := "(Ljava/util/HashMap$Node;Ljava/util/HashMap$Node;)Ljava/util/HashMap$Node;" } : Jvm.MethodName) ({ cls := "java/util/HashMap", name := "replacementNode", desc := "(Ljava/util/HashMap$Node;Ljava/util/HashMap$Node;)Ljava/util/HashMap$Node;" } : Jvm.MethodName)) ∈ lw_all := lw_g (lw_at lw_m1 226 rfl) rfl
theorem q235 : (Jvm.Cond.sameMethod "java/util/HashMap" "java/util/HashMap" "replacementNode" "(Ljava/util/HashMap$Node;Ljava/util/HashMap$Node;)Ljava/util/HashMap$Node;") ∈ lw_all := lw_g (lw_at lw_m1 227 rfl) rfl
theorem q259 : (Jvm.Cond.fieldLink "java/util/HashMap" (168 : Nat) "java/util/HashMap$Node" "hash" "I") ∈ lw_all := lw_g (lw_at lw_m2 11 rfl) rfl
theorem q268 : (Jvm.Cond.fieldLink "java/util/HashMap" (170 : Nat) "java/util/HashMap$Node" "key" "Ljava/lang/Object;") ∈ lw_all := lw_g (lw_at lw_m2 20 rfl) rfl
theorem q272 : (Jvm.Cond.fieldLink "java/util/HashMap" (162 : Nat) "java/util/HashMap$Node" "value" "Ljava/lang/Object;") ∈ lw_all := lw_g (lw_at lw_m2 24 rfl) rfl
theorem q279 : (Jvm.Cond.fieldLink "java/util/HashMap" (177 : Nat) "java/util/HashMap$Node" "next" "Ljava/util/HashMap$Node;") ∈ lw_all := lw_g (lw_at lw_m2 31 rfl) rfl
theorem q280 : (Jvm.Cond.fieldLink "java/util/HashMap" (223 : Nat) "java/util/HashMap$TreeNode" "next" "Ljava/util/HashMap$Node;") ∈ lw_all := lw_g (lw_at lw_m2 32 rfl) rfl
theorem q298 : (Jvm.Cond.code ({ cls := "java/util/HashMap", name := "replacementNode", desc := "(Ljava/util/HashMap$Node;Ljava/util/HashMap$Node;)Ljava/util/HashMap$Node;" } : Jvm.MethodName) prog_26_method_47_code (3 : Nat) (Option.some (Jvm.ClassFile.FieldType.object "java/util/HashMap$Node"))) ∈ lw_all := lw_g (lw_at lw_m2 50 rfl) rfl
theorem q300 : (Jvm.Cond.methodLink "java/util/HashMap" (375 : Nat) ({ cls := "java/util/HashMap$Node", name := "<init>", desc := "(ILjava/lang/Object;Ljava/lang/Object;Ljava/util/HashMap$Node;)V" } : Jvm.MethodName)) ∈ lw_all := lw_g (lw_at lw_m2 52 rfl) rfl
theorem q311 : (Jvm.Cond.static ({ cls := "java/util/HashMap", name := "comparableClassFor", desc := "(Ljava/lang/Object;)Ljava/lang/Class;" } : Jvm.MethodName)) ∈ lw_all := lw_g (lw_at lw_m2 63 rfl) rfl
theorem q312 : (Jvm.Cond.code ({ cls := "java/util/HashMap", name := "comparableClassFor", desc := "(Ljava/lang/Object;)Ljava/lang/Class;" } : Jvm.MethodName) prog_26_method_2_code (9 : Nat) (Option.some (Jvm.ClassFile.FieldType.object "java/lang/Class"))) ∈ lw_all := lw_g (lw_at lw_m2 64 rfl) rfl
theorem q313 : (Jvm.Cond.classLink "java/util/HashMap" (7 : Nat) "java/lang/Comparable") ∈ lw_all := lw_g (lw_at lw_m2 65 rfl) rfl
theorem q314 : (Jvm.Cond.methodLink "java/util/HashMap" (9 : Nat) ({ cls := "java/lang/Object", name := "getClass", desc := "()Ljava/lang/Class;" } : Jvm.MethodName)) ∈ lw_all := lw_g (lw_at lw_m2 66 rfl) rfl
theorem q321 : (Jvm.Cond.selects "java/util/HashMap" ({ cls := "java/lang/Object", name := "getClass", desc := "()Ljava/lang/Class;" } : Jvm.MethodName) ({ cls := "java/lang/Object", name := "getClass", desc := "()Ljava/lang/Class;" } : Jvm.MethodName)) ∈ lw_all := lw_g (lw_at lw_m2 73 rfl) rfl
theorem q336 : (Jvm.Cond.static ({ cls := "java/util/HashMap", name := "compareComparables", desc := "(Ljava/lang/Class;Ljava/lang/Object;Ljava/lang/Object;)I" } : Jvm.MethodName)) ∈ lw_all := lw_g (lw_at lw_m2 88 rfl) rfl
theorem q337 : (Jvm.Cond.code ({ cls := "java/util/HashMap", name := "compareComparables", desc := "(Ljava/lang/Class;Ljava/lang/Object;Ljava/lang/Object;)I" } : Jvm.MethodName) prog_26_method_3_code (3 : Nat) (Option.some Jvm.ClassFile.FieldType.int)) ∈ lw_all := lw_g (lw_at lw_m2 89 rfl) rfl
theorem q338 : (Jvm.Cond.interfaceEntry "java/util/HashMap" (30 : Nat)) ∈ lw_tbl := lw_at lw_m2 90 rfl
theorem q339 : (Jvm.Cond.methodLink "java/util/HashMap" (30 : Nat) ({ cls := "java/lang/Comparable", name := "compareTo", desc := "(Ljava/lang/Object;)I" } : Jvm.MethodName)) ∈ lw_all := lw_g (lw_at lw_m2 91 rfl) rfl
theorem q369 : (Jvm.Cond.methodLink "java/util/HashMap" (186 : Nat) ({ cls := "java/util/HashMap", name := "newNode", desc := "(ILjava/lang/Object;Ljava/lang/Object;Ljava/util/HashMap$Node;)Ljava/util/HashMap$Node;" } : Jvm.MethodName)) ∈ lw_all := lw_g (lw_at lw_m2 121 rfl) rfl
theorem q370 : (Jvm.Cond.instanceMethod ({ cls := "java/util/HashMap", name := "newNode", desc := "(ILjava/lang/Object;Ljava/lang/Object;Ljava/util/HashMap$Node;)Ljava/util/HashMap$Node;" } : Jvm.MethodName)) ∈ lw_all := lw_g (lw_at lw_m2 122 rfl) rfl
theorem q371 : (Jvm.Cond.selects "java/util/HashMap" ({ cls := "java/util/HashMap", name := "newNode", desc := "(ILjava/lang/Object;Ljava/lang/Object;Ljava/util/HashMap$Node;)Ljava/util/HashMap$Node;" } : Jvm.MethodName) ({ cls := "java/util/HashMap", name := "newNode", desc := "(ILjava/lang/Object;Ljava/lang/Object;Ljava/util/HashMap$Node;)Ljava/util/HashMap$Node;" } : Jvm.MethodName)) ∈ lw_all := lw_g (lw_at lw_m2 123 rfl) rfl
theorem q372 : (Jvm.Cond.sameMethod "java/util/HashMap" "java/util/HashMap" "newNode" "(ILjava/lang/Object;Ljava/lang/Object;Ljava/util/HashMap$Node;)Ljava/util/HashMap$Node;") ∈ lw_all := lw_g (lw_at lw_m2 124 rfl) rfl
theorem q380 : (Jvm.Cond.code ({ cls := "java/util/HashMap", name := "newNode", desc := "(ILjava/lang/Object;Ljava/lang/Object;Ljava/util/HashMap$Node;)Ljava/util/HashMap$Node;" } : Jvm.MethodName) prog_26_method_46_code (5 : Nat) (Option.some (Jvm.ClassFile.FieldType.object "java/util/HashMap$Node"))) ∈ lw_all := lw_g (lw_at lw_m2 132 rfl) rfl
theorem q382 : (Jvm.Cond.methodLink "java/util/HashMap" (173 : Nat) ({ cls := "java/lang/Object", name := "equals", desc := "(Ljava/lang/Object;)Z" } : Jvm.MethodName)) ∈ lw_all := lw_g (lw_at lw_m2 134 rfl) rfl
theorem q396 : (Jvm.Cond.methodLink "java/util/HashMap" (190 : Nat) ({ cls := "java/util/HashMap$TreeNode", name := "putTreeVal", desc := "(Ljava/util/HashMap;[Ljava/util/HashMap$Node;ILjava/lang/Object;Ljava/lang/Object;)Ljava/util/HashMap$TreeNode;" } : Jvm.MethodName)) ∈ lw_all := lw_g (lw_at lw_m2 148 rfl) rfl
theorem q410 : (Jvm.Cond.instanceMethod ({ cls := "java/util/HashMap", name := "newTreeNode", desc := "(ILjava/lang/Object;Ljava/lang/Object;Ljava/util/HashMap$Node;)Ljava/util/HashMap$TreeNode;" } : Jvm.MethodName)) ∈ lw_all := lw_g (lw_at lw_m2 162 rfl) rfl
theorem q411 : (Jvm.Cond.selects "java/util/HashMap" ({ cls := "java/util/HashMap", name := "newTreeNode", desc := "(ILjava/lang/Object;Ljava/lang/Object;Ljava/util/HashMap$Node;)Ljava/util/HashMap$TreeNode;" } : Jvm.MethodName) ({ cls := "java/util/HashMap", name := "newTreeNode", desc := "(ILjava/lang/Object;Ljava/lang/Object;Ljava/util/HashMap$Node;)Ljava/util/HashMap$TreeNode;" } : Jvm.MethodName)) ∈ lw_all := lw_g (lw_at lw_m2 163 rfl) rfl
theorem q412 : (Jvm.Cond.sameMethod "java/util/HashMap" "java/util/HashMap" "newTreeNode" "(ILjava/lang/Object;Ljava/lang/Object;Ljava/util/HashMap$Node;)Ljava/util/HashMap$TreeNode;") ∈ lw_all := lw_g (lw_at lw_m2 164 rfl) rfl
theorem q426 : (Jvm.Cond.fieldLink "java/util/HashMap" (219 : Nat) "java/util/HashMap$TreeNode" "prev" "Ljava/util/HashMap$TreeNode;") ∈ lw_all := lw_g (lw_at lw_m2 178 rfl) rfl
theorem q445 : (Jvm.Cond.code ({ cls := "java/util/HashMap", name := "newTreeNode", desc := "(ILjava/lang/Object;Ljava/lang/Object;Ljava/util/HashMap$Node;)Ljava/util/HashMap$TreeNode;" } : Jvm.MethodName) prog_26_method_48_code (5 : Nat) (Option.some (Jvm.ClassFile.FieldType.object "java/util/HashMap$TreeNode"))) ∈ lw_all := lw_g (lw_at lw_m2 197 rfl) rfl
theorem q446 : (Jvm.Cond.methodLink "java/util/HashMap" (378 : Nat) ({ cls := "java/util/HashMap$TreeNode", name := "<init>", desc := "(ILjava/lang/Object;Ljava/lang/Object;Ljava/util/HashMap$Node;)V" } : Jvm.MethodName)) ∈ lw_all := lw_g (lw_at lw_m2 198 rfl) rfl
theorem q447 : (Jvm.Cond.methodLink "java/util/HashMap" (194 : Nat) ({ cls := "java/util/HashMap", name := "treeifyBin", desc := "([Ljava/util/HashMap$Node;I)V" } : Jvm.MethodName)) ∈ lw_all := lw_g (lw_at lw_m2 199 rfl) rfl
theorem q448 : (Jvm.Cond.instanceMethod ({ cls := "java/util/HashMap", name := "treeifyBin", desc := "([Ljava/util/HashMap$Node;I)V" } : Jvm.MethodName)) ∈ lw_all := lw_g (lw_at lw_m2 200 rfl) rfl
theorem q449 : (Jvm.Cond.selects "java/util/HashMap" ({ cls := "java/util/HashMap", name := "treeifyBin", desc := "([Ljava/util/HashMap$Node;I)V" } : Jvm.MethodName) ({ cls := "java/util/HashMap", name := "treeifyBin", desc := "([Ljava/util/HashMap$Node;I)V" } : Jvm.MethodName)) ∈ lw_all := lw_g (lw_at lw_m2 201 rfl) rfl
theorem q450 : (Jvm.Cond.sameMethod "java/util/HashMap" "java/util/HashMap" "treeifyBin" "([Ljava/util/HashMap$Node;I)V") ∈ lw_all := lw_g (lw_at lw_m2 202 rfl) rfl
theorem q452 : (Jvm.Cond.code ({ cls := "java/util/HashMap", name := "treeifyBin", desc := "([Ljava/util/HashMap$Node;I)V" } : Jvm.MethodName) prog_26_method_18_code (9 : Nat) (Option.none : Option Jvm.ClassFile.FieldType)) ∈ lw_all := lw_g (lw_at lw_m2 204 rfl) rfl
theorem q453 : (Jvm.Cond.methodLink "java/util/HashMap" (215 : Nat) ({ cls := "java/util/HashMap", name := "replacementTreeNode", desc := "(Ljava/util/HashMap$Node;Ljava/util/HashMap$Node;)Ljava/util/HashMap$TreeNode;" } : Jvm.MethodName)) ∈ lw_all := lw_g (lw_at lw_m2 205 rfl) rfl
theorem q454 : (Jvm.Cond.instanceMethod ({ cls := "java/util/HashMap", name := "replacementTreeNode", desc := "(Ljava/util/HashMap$Node;Ljava/util/HashMap$Node;)Ljava/util/HashMap$TreeNode;" } : Jvm.MethodName)) ∈ lw_all := lw_g (lw_at lw_m2 206 rfl) rfl
theorem q455 : (Jvm.Cond.selects "java/util/HashMap" ({ cls := "java/util/HashMap", name := "replacementTreeNode", desc := "(Ljava/util/HashMap$Node;Ljava/util/HashMap$Node;)Ljava/util/HashMap$TreeNode;" } : Jvm.MethodName) ({ cls := "java/util/HashMap", name := "replacementTreeNode", desc := "(Ljava/util/HashMap$Node;Ljava/util/HashMap$Node;)Ljava/util/HashMap$TreeNode;" } : Jvm.MethodName)) ∈ lw_all := lw_g (lw_at lw_m2 207 rfl) rfl
theorem q456 : (Jvm.Cond.sameMethod "java/util/HashMap" "java/util/HashMap" "replacementTreeNode" "(Ljava/util/HashMap$Node;Ljava/util/HashMap$Node;)Ljava/util/HashMap$TreeNode;") ∈ lw_all := lw_g (lw_at lw_m2 208 rfl) rfl
theorem q460 : (Jvm.Cond.code ({ cls := "java/util/HashMap", name := "replacementTreeNode", desc := "(Ljava/util/HashMap$Node;Ljava/util/HashMap$Node;)Ljava/util/HashMap$TreeNode;" } : Jvm.MethodName) prog_26_method_49_code (3 : Nat) (Option.some (Jvm.ClassFile.FieldType.object "java/util/HashMap$TreeNode"))) ∈ lw_all := lw_g (lw_at lw_m2 212 rfl) rfl
theorem q461 : (Jvm.Cond.methodLink "java/util/HashMap" (224 : Nat) ({ cls := "java/util/HashMap$TreeNode", name := "treeify", desc := "([Ljava/util/HashMap$Node;)V" } : Jvm.MethodName)) ∈ lw_all := lw_g (lw_at lw_m2 213 rfl) rfl
theorem q462 : (Jvm.Cond.methodLink "java/util/HashMap" (198 : Nat) ({ cls := "java/util/HashMap", name := "afterNodeAccess", desc := "(Ljava/util/HashMap$Node;)V" } : Jvm.MethodName)) ∈ lw_all := lw_g (lw_at lw_m2 214 rfl) rfl
theorem q463 : (Jvm.Cond.instanceMethod ({ cls := "java/util/HashMap", name := "afterNodeAccess", desc := "(Ljava/util/HashMap$Node;)V" } : Jvm.MethodName)) ∈ lw_all := lw_g (lw_at lw_m2 215 rfl) rfl
theorem q464 : (Jvm.Cond.selects "java/util/HashMap" ({ cls := "java/util/HashMap", name := "afterNodeAccess", desc := "(Ljava/util/HashMap$Node;)V" } : Jvm.MethodName) ({ cls := "java/util/HashMap", name := "afterNodeAccess", desc := "(Ljava/util/HashMap$Node;)V" } : Jvm.MethodName)) ∈ lw_all := lw_g (lw_at lw_m2 216 rfl) rfl
theorem q465 : (Jvm.Cond.sameMethod "java/util/HashMap" "java/util/HashMap" "afterNodeAccess" "(Ljava/util/HashMap$Node;)V") ∈ lw_all := lw_g (lw_at lw_m2 217 rfl) rfl
theorem q469 : (Jvm.Cond.code ({ cls := "java/util/HashMap", name := "afterNodeAccess", desc := "(Ljava/util/HashMap$Node;)V" } : Jvm.MethodName) prog_26_method_51_code (2 : Nat) (Option.none : Option Jvm.ClassFile.FieldType)) ∈ lw_all := lw_g (lw_at lw_m2 221 rfl) rfl
theorem q470 : (Jvm.Cond.methodLink "java/util/HashMap" (205 : Nat) ({ cls := "java/util/HashMap", name := "afterNodeInsertion", desc := "(Z)V" } : Jvm.MethodName)) ∈ lw_all := lw_g (lw_at lw_m2 222 rfl) rfl
theorem q471 : (Jvm.Cond.instanceMethod ({ cls := "java/util/HashMap", name := "afterNodeInsertion", desc := "(Z)V" } : Jvm.MethodName)) ∈ lw_all := lw_g (lw_at lw_m2 223 rfl) rfl
theorem q472 : (Jvm.Cond.selects "java/util/HashMap" ({ cls := "java/util/HashMap", name := "afterNodeInsertion", desc := "(Z)V" } : Jvm.MethodName) ({ cls := "java/util/HashMap", name := "afterNodeInsertion", desc := "(Z)V" } : Jvm.MethodName)) ∈ lw_all := lw_g (lw_at lw_m2 224 rfl) rfl
theorem q473 : (Jvm.Cond.sameMethod "java/util/HashMap" "java/util/HashMap" "afterNodeInsertion" "(Z)V") ∈ lw_all := lw_g (lw_at lw_m2 225 rfl) rfl
theorem q481 : (Jvm.Cond.code ({ cls := "java/util/HashMap", name := "afterNodeInsertion", desc := "(Z)V" } : Jvm.MethodName) prog_26_method_52_code (2 : Nat) (Option.none : Option Jvm.ClassFile.FieldType)) ∈ lw_all := lw_g (lw_at lw_m2 233 rfl) rfl
theorem q493 : (Jvm.Cond.instanceMethod ({ cls := "java/util/HashMap", name := "putIfAbsent", desc := "(Ljava/lang/Object;Ljava/lang/Object;)Ljava/lang/Object;" } : Jvm.MethodName)) ∈ lw_all := lw_g (lw_at lw_m3 5 rfl) rfl
theorem q494 : (Jvm.Cond.selects "java/util/HashMap" ({ cls := "java/util/HashMap", name := "putIfAbsent", desc := "(Ljava/lang/Object;Ljava/lang/Object;)Ljava/lang/Object;" } : Jvm.MethodName) ({ cls := "java/util/HashMap", name := "putIfAbsent", desc := "(Ljava/lang/Object;Ljava/lang/Object;)Ljava/lang/Object;" } : Jvm.MethodName)) ∈ lw_all := lw_g (lw_at lw_m3 6 rfl) rfl
theorem q495 : (Jvm.Cond.sameMethod "java/util/HashMap" "java/util/HashMap" "putIfAbsent" "(Ljava/lang/Object;Ljava/lang/Object;)Ljava/lang/Object;") ∈ lw_all := lw_g (lw_at lw_m3 7 rfl) rfl
theorem q497 : (Jvm.Cond.code ({ cls := "java/util/HashMap", name := "putIfAbsent", desc := "(Ljava/lang/Object;Ljava/lang/Object;)Ljava/lang/Object;" } : Jvm.MethodName) prog_26_method_31_code (3 : Nat) (Option.some (Jvm.ClassFile.FieldType.object "java/lang/Object"))) ∈ lw_all := lw_g (lw_at lw_m3 9 rfl) rfl
theorem q503 : (Jvm.Cond.instanceMethod ({ cls := "java/util/HashMap", name := "get", desc := "(Ljava/lang/Object;)Ljava/lang/Object;" } : Jvm.MethodName)) ∈ lw_all := lw_g (lw_at lw_m3 15 rfl) rfl
theorem q504 : (Jvm.Cond.selects "java/util/HashMap" ({ cls := "java/util/HashMap", name := "get", desc := "(Ljava/lang/Object;)Ljava/lang/Object;" } : Jvm.MethodName) ({ cls := "java/util/HashMap", name := "get", desc := "(Ljava/lang/Object;)Ljava/lang/Object;" } : Jvm.MethodName)) ∈ lw_all := lw_g (lw_at lw_m3 16 rfl) rfl
theorem q505 : (Jvm.Cond.sameMethod "java/util/HashMap" "java/util/HashMap" "get" "(Ljava/lang/Object;)Ljava/lang/Object;") ∈ lw_all := lw_g (lw_at lw_m3 17 rfl) rfl
theorem q511 : (Jvm.Cond.declares ({ cls := "java/util/HashMap", name := "getNode", desc := "(Ljava/lang/Object;)Ljava/util/HashMap$Node;" } : Jvm.MethodName)) ∈ lw_tbl := lw_at lw_m3 23 rfl
theorem q513 : (Jvm.Cond.instanceMethod ({ cls := "java/util/HashMap", name := "getNode", desc := "(Ljava/lang/Object;)Ljava/util/HashMap$Node;" } : Jvm.MethodName)) ∈ lw_all := lw_g (lw_at lw_m3 25 rfl) rfl
theorem q514 : (Jvm.Cond.code ({ cls := "java/util/HashMap", name := "getNode", desc := "(Ljava/lang/Object;)Ljava/util/HashMap$Node;" } : Jvm.MethodName) prog_26_method_13_code (8 : Nat) (Option.some (Jvm.ClassFile.FieldType.object "java/util/HashMap$Node"))) ∈ lw_all := lw_g (lw_at lw_m3 26 rfl) rfl
theorem q515 : (Jvm.Cond.methodLink "java/util/HashMap" (182 : Nat) ({ cls := "java/util/HashMap$TreeNode", name := "getTreeNode", desc := "(ILjava/lang/Object;)Ljava/util/HashMap$TreeNode;" } : Jvm.MethodName)) ∈ lw_all := lw_g (lw_at lw_m3 27 rfl) rfl
theorem q520 : (Jvm.Cond.code ({ cls := "java/util/HashMap", name := "get", desc := "(Ljava/lang/Object;)Ljava/lang/Object;" } : Jvm.MethodName) prog_26_method_12_code (3 : Nat) (Option.some (Jvm.ClassFile.FieldType.object "java/lang/Object"))) ∈ lw_all := lw_g (lw_at lw_m3 32 rfl) rfl
theorem q521 : (Jvm.Cond.methodLink "java/util/HashMap" (158 : Nat) ({ cls := "java/util/HashMap", name := "getNode", desc := "(Ljava/lang/Object;)Ljava/util/HashMap$Node;" } : Jvm.MethodName)) ∈ lw_all := lw_g (lw_at lw_m3 33 rfl) rfl
theorem q527 : (Jvm.Cond.instanceMethod ({ cls := "java/util/HashMap", name := "getOrDefault", desc := "(Ljava/lang/Object;Ljava/lang/Object;)Ljava/lang/Object;" } : Jvm.MethodName)) ∈ lw_all := lw_g (lw_at lw_m3 39 rfl) rfl
theorem q528 : (Jvm.Cond.selects "java/util/HashMap" ({ cls := "java/util/HashMap", name := "getOrDefault", desc := "(Ljava/lang/Object;Ljava/lang/Object;)Ljava/lang/Object;" } : Jvm.MethodName) ({ cls := "java/util/HashMap", name := "getOrDefault", desc := "(Ljava/lang/Object;Ljava/lang/Object;)Ljava/lang/Object;" } : Jvm.MethodName)) ∈ lw_all := lw_g (lw_at lw_m3 40 rfl) rfl
theorem q529 : (Jvm.Cond.sameMethod "java/util/HashMap" "java/util/HashMap" "getOrDefault" "(Ljava/lang/Object;Ljava/lang/Object;)Ljava/lang/Object;") ∈ lw_all := lw_g (lw_at lw_m3 41 rfl) rfl
theorem q533 : (Jvm.Cond.code ({ cls := "java/util/HashMap", name := "getOrDefault", desc := "(Ljava/lang/Object;Ljava/lang/Object;)Ljava/lang/Object;" } : Jvm.MethodName) prog_26_method_30_code (4 : Nat) (Option.some (Jvm.ClassFile.FieldType.object "java/lang/Object"))) ∈ lw_all := lw_g (lw_at lw_m3 45 rfl) rfl
theorem q539 : (Jvm.Cond.instanceMethod ({ cls := "java/util/HashMap", name := "remove", desc := "(Ljava/lang/Object;)Ljava/lang/Object;" } : Jvm.MethodName)) ∈ lw_all := lw_g (lw_at lw_m3 51 rfl) rfl
theorem q540 : (Jvm.Cond.selects "java/util/HashMap" ({ cls := "java/util/HashMap", name := "remove", desc := "(Ljava/lang/Object;)Ljava/lang/Object;" } : Jvm.MethodName) ({ cls := "java/util/HashMap", name := "remove", desc := "(Ljava/lang/Object;)Ljava/lang/Object;" } : Jvm.MethodName)) ∈ lw_all := lw_g (lw_at lw_m3 52 rfl) rfl
theorem q541 : (Jvm.Cond.sameMethod "java/util/HashMap" "java/util/HashMap" "remove" "(Ljava/lang/Object;)Ljava/lang/Object;") ∈ lw_all := lw_g (lw_at lw_m3 53 rfl) rfl
theorem q543 : (Jvm.Cond.code ({ cls := "java/util/HashMap", name := "remove", desc := "(Ljava/lang/Object;)Ljava/lang/Object;" } : Jvm.MethodName) prog_26_method_20_code (3 : Nat) (Option.some (Jvm.ClassFile.FieldType.object "java/lang/Object"))) ∈ lw_all := lw_g (lw_at lw_m3 55 rfl) rfl
theorem q544 : (Jvm.Cond.methodLink "java/util/HashMap" (228 : Nat) ({ cls := "java/util/HashMap", name := "removeNode", desc := "(ILjava/lang/Object;Ljava/lang/Object;ZZ)Ljava/util/HashMap$Node;" } : Jvm.MethodName)) ∈ lw_all := lw_g (lw_at lw_m3 56 rfl) rfl
theorem q545 : (Jvm.Cond.instanceMethod ({ cls := "java/util/HashMap", name := "removeNode", desc := "(ILjava/lang/Object;Ljava/lang/Object;ZZ)Ljava/util/HashMap$Node;" } : Jvm.MethodName)) ∈ lw_all := lw_g (lw_at lw_m3 57 rfl) rfl
theorem q546 : (Jvm.Cond.selects "java/util/HashMap" ({ cls := "java/util/HashMap", name := "removeNode", desc := "(ILjava/lang/Object;Ljava/lang/Object;ZZ)Ljava/util/HashMap$Node;" } : Jvm.MethodName) ({ cls := "java/util/HashMap", name := "removeNode", desc := "(ILjava/lang/Object;Ljava/lang/Object;ZZ)Ljava/util/HashMap$Node;" } : Jvm.MethodName)) ∈ lw_all := lw_g (lw_at lw_m3 58 rfl) rfl
theorem q547 : (Jvm.Cond.sameMethod "java/util/HashMap" "java/util/HashMap" "removeNode" "(ILjava/lang/Object;Ljava/lang/Object;ZZ)Ljava/util/HashMap$Node;") ∈ lw_all := lw_g (lw_at lw_m3 59 rfl) rfl
theorem q549 : (Jvm.Cond.code ({ cls := "java/util/HashMap", name := "removeNode", desc := "(ILjava/lang/Object;Ljava/lang/Object;ZZ)Ljava/util/HashMap$Node;" } : Jvm.MethodName) prog_26_method_21_code (14 : Nat) (Option.some (Jvm.ClassFile.FieldType.object "java/util/HashMap$Node"))) ∈ lw_all := lw_g (lw_at lw_m3 61 rfl) rfl
theorem q550 : (Jvm.Cond.methodLink "java/util/HashMap" (232 : Nat) ({ cls := "java/util/HashMap$TreeNode", name := "removeTreeNode", desc := "(Ljava/util/HashMap;[Ljava/util/HashMap$Node;Z)V" } : Jvm.MethodName)) ∈ lw_all := lw_g (lw_at lw_m3 62 rfl) rfl
theorem q557 : (Jvm.Cond.methodLink "java/util/HashMap" (236 : Nat) ({ cls := "java/util/HashMap", name := "afterNodeRemoval", desc := "(Ljava/util/HashMap$Node;)V" } : Jvm.MethodName)) ∈ lw_all := lw_g (lw_at lw_m3 69 rfl) rfl
theorem q558 : (Jvm.Cond.instanceMethod ({ cls := "java/util/HashMap", name := "afterNodeRemoval", desc := "(Ljava/util/HashMap$Node;)V" } : Jvm.MethodName)) ∈ lw_all := lw_g (lw_at lw_m3 70 rfl) rfl
theorem q559 : (Jvm.Cond.selects "java/util/HashMap" ({ cls := "java/util/HashMap", name := "afterNodeRemoval", desc := "(Ljava/util/HashMap$Node;)V" } : Jvm.MethodName) ({ cls := "java/util/HashMap", name := "afterNodeRemoval", desc := "(Ljava/util/HashMap$Node;)V" } : Jvm.MethodName)) ∈ lw_all := lw_g (lw_at lw_m3 71 rfl) rfl
theorem q560 : (Jvm.Cond.sameMethod "java/util/HashMap" "java/util/HashMap" "afterNodeRemoval" "(Ljava/util/HashMap$Node;)V") ∈ lw_all := lw_g (lw_at lw_m3 72 rfl) rfl
theorem q564 : (Jvm.Cond.code ({ cls := "java/util/HashMap", name := "afterNodeRemoval", desc := "(Ljava/util/HashMap$Node;)V" } : Jvm.MethodName) prog_26_method_53_code (2 : Nat) (Option.none : Option Jvm.ClassFile.FieldType)) ∈ lw_all := lw_g (lw_at lw_m3 76 rfl) rfl
theorem q570 : (Jvm.Cond.instanceMethod ({ cls := "java/util/HashMap", name := "remove", desc := "(Ljava/lang/Object;Ljava/lang/Object;)Z" } : Jvm.MethodName)) ∈ lw_all := lw_g (lw_at lw_m3 82 rfl) rfl
theorem q571 : (Jvm.Cond.selects "java/util/HashMap" ({ cls := "java/util/HashMap", name := "remove", desc := "(Ljava/lang/Object;Ljava/lang/Object;)Z" } : Jvm.MethodName) ({ cls := "java/util/HashMap", name := "remove", desc := "(Ljava/lang/Object;Ljava/lang/Object;)Z" } : Jvm.MethodName)) ∈ lw_all := lw_g (lw_at lw_m3 83 rfl) rfl
theorem q572 : (Jvm.Cond.sameMethod "java/util/HashMap" "java/util/HashMap" "remove" "(Ljava/lang/Object;Ljava/lang/Object;)Z") ∈ lw_all := lw_g (lw_at lw_m3 84 rfl) rfl
theorem q574 : (Jvm.Cond.code ({ cls := "java/util/HashMap", name := "remove", desc := "(Ljava/lang/Object;Ljava/lang/Object;)Z" } : Jvm.MethodName) prog_26_method_32_code (3 : Nat) (Option.some Jvm.ClassFile.FieldType.boolean)) ∈ lw_all := lw_g (lw_at lw_m3 86 rfl) rfl
theorem q580 : (Jvm.Cond.instanceMethod ({ cls := "java/util/HashMap", name := "containsKey", desc := "(Ljava/lang/Object;)Z" } : Jvm.MethodName)) ∈ lw_all := lw_g (lw_at lw_m3 92 rfl) rfl
theorem q581 : (Jvm.Cond.selects "java/util/HashMap" ({ cls := "java/util/HashMap", name := "containsKey", desc := "(Ljava/lang/Object;)Z" } : Jvm.MethodName) ({ cls := "java/util/HashMap", name := "containsKey", desc := "(Ljava/lang/Object;)Z" } : Jvm.MethodName)) ∈ lw_all := lw_g (lw_at lw_m3 93 rfl) rfl
theorem q582 : (Jvm.Cond.sameMethod "java/util/HashMap" "java/util/HashMap" "containsKey" "(Ljava/lang/Object;)Z") ∈ lw_all := lw_g (lw_at lw_m3 94 rfl) rfl
theorem q584 : (Jvm.Cond.code ({ cls := "java/util/HashMap", name := "containsKey", desc := "(Ljava/lang/Object;)Z" } : Jvm.MethodName) prog_26_method_14_code (2 : Nat) (Option.some Jvm.ClassFile.FieldType.boolean)) ∈ lw_all := lw_g (lw_at lw_m3 96 rfl) rfl
theorem q586 : (Jvm.Cond.instanceMethod ({ cls := "java/util/HashMap", name := "containsValue", desc := "(Ljava/lang/Object;)Z" } : Jvm.MethodName)) ∈ lw_all := lw_g (lw_at lw_m3 98 rfl) rfl
theorem q587 : (Jvm.Cond.selects "java/util/HashMap" ({ cls := "java/util/HashMap", name := "containsValue", desc := "(Ljava/lang/Object;)Z" } : Jvm.MethodName) ({ cls := "java/util/HashMap", name := "containsValue", desc := "(Ljava/lang/Object;)Z" } : Jvm.MethodName)) ∈ lw_all := lw_g (lw_at lw_m3 99 rfl) rfl
theorem q588 : (Jvm.Cond.sameMethod "java/util/HashMap" "java/util/HashMap" "containsValue" "(Ljava/lang/Object;)Z") ∈ lw_all := lw_g (lw_at lw_m3 100 rfl) rfl
theorem q593 : (Jvm.Cond.code ({ cls := "java/util/HashMap", name := "containsValue", desc := "(Ljava/lang/Object;)Z" } : Jvm.MethodName) prog_26_method_23_code (8 : Nat) (Option.some Jvm.ClassFile.FieldType.boolean)) ∈ lw_all := lw_g (lw_at lw_m3 105 rfl) rfl
theorem q599 : (Jvm.Cond.instanceMethod ({ cls := "java/util/HashMap", name := "size", desc := "()I" } : Jvm.MethodName)) ∈ lw_all := lw_g (lw_at lw_m3 111 rfl) rfl
theorem q600 : (Jvm.Cond.selects "java/util/HashMap" ({ cls := "java/util/HashMap", name := "size", desc := "()I" } : Jvm.MethodName) ({ cls := "java/util/HashMap", name := "size", desc := "()I" } : Jvm.MethodName)) ∈ lw_all := lw_g (lw_at lw_m3 112 rfl) rfl
theorem q601 : (Jvm.Cond.sameMethod "java/util/HashMap" "java/util/HashMap" "size" "()I") ∈ lw_all := lw_g (lw_at lw_m3 113 rfl) rfl
theorem q603 : (Jvm.Cond.code ({ cls := "java/util/HashMap", name := "size", desc := "()I" } : Jvm.MethodName) prog_26_method_10_code (1 : Nat) (Option.some Jvm.ClassFile.FieldType.int)) ∈ lw_all := lw_g (lw_at lw_m3 115 rfl) rfl
theorem q609 : (Jvm.Cond.instanceMethod ({ cls := "java/util/HashMap", name := "clear", desc := "()V" } : Jvm.MethodName)) ∈ lw_all := lw_g (lw_at lw_m3 121 rfl) rfl
theorem q610 : (Jvm.Cond.selects "java/util/HashMap" ({ cls := "java/util/HashMap", name := "clear", desc := "()V" } : Jvm.MethodName) ({ cls := "java/util/HashMap", name := "clear", desc := "()V" } : Jvm.MethodName)) ∈ lw_all := lw_g (lw_at lw_m3 122 rfl) rfl
theorem q611 : (Jvm.Cond.sameMethod "java/util/HashMap" "java/util/HashMap" "clear" "()V") ∈ lw_all := lw_g (lw_at lw_m3 123 rfl) rfl
theorem q616 : (Jvm.Cond.code ({ cls := "java/util/HashMap", name := "clear", desc := "()V" } : Jvm.MethodName) prog_26_method_22_code (3 : Nat) (Option.none : Option Jvm.ClassFile.FieldType)) ∈ lw_all := lw_g (lw_at lw_m3 128 rfl) rfl
theorem q625 : (Jvm.Cond.instanceMethod ({ cls := "java/util/HashMap", name := "keySet", desc := "()Ljava/util/Set;" } : Jvm.MethodName)) ∈ lw_all := lw_g (lw_at lw_m3 137 rfl) rfl
theorem q626 : (Jvm.Cond.selects "java/util/HashMap" ({ cls := "java/util/HashMap", name := "keySet", desc := "()Ljava/util/Set;" } : Jvm.MethodName) ({ cls := "java/util/HashMap", name := "keySet", desc := "()Ljava/util/Set;" } : Jvm.MethodName)) ∈ lw_all := lw_g (lw_at lw_m3 138 rfl) rfl
theorem q627 : (Jvm.Cond.sameMethod "java/util/HashMap" "java/util/HashMap" "keySet" "()Ljava/util/Set;") ∈ lw_all := lw_g (lw_at lw_m3 139 rfl) rfl
theorem q655 : (Jvm.Cond.code ({ cls := "java/util/HashMap", name := "keySet", desc := "()Ljava/util/Set;" } : Jvm.MethodName) prog_26_method_24_code (2 : Nat) (Option.some (Jvm.ClassFile.FieldType.object "java/util/Set"))) ∈ lw_all := lw_g (lw_at lw_m3 167 rfl) rfl
theorem q656 : (Jvm.Cond.classLink "java/util/HashMap" (243 : Nat) "java/util/HashMap$KeySet") ∈ lw_all := lw_g (lw_at lw_m3 168 rfl) rfl
theorem q658 : (Jvm.Cond.methodLink "java/util/HashMap" (245 : Nat) ({ cls := "java/util/HashMap$KeySet", name := "<init>", desc := "(Ljava/util/HashMap;)V" } : Jvm.MethodName)) ∈ lw_all := lw_g (lw_at lw_m3 170 rfl) rfl
theorem q848 : (Jvm.Cond.instanceMethod ({ cls := "java/util/HashMap", name := "putAll", desc := "(Ljava/util/Map;)V" } : Jvm.MethodName)) ∈ lw_all := lw_g (lw_at lw_m4 120 rfl) rfl
theorem q849 : (Jvm.Cond.selects "java/util/HashMap" ({ cls := "java/util/HashMap", name := "putAll", desc := "(Ljava/util/Map;)V" } : Jvm.MethodName) ({ cls := "java/util/HashMap", name := "putAll", desc := "(Ljava/util/Map;)V" } : Jvm.MethodName)) ∈ lw_all := lw_g (lw_at lw_m4 121 rfl) rfl
theorem q850 : (Jvm.Cond.sameMethod "java/util/HashMap" "java/util/HashMap" "putAll" "(Ljava/util/Map;)V") ∈ lw_all := lw_g (lw_at lw_m4 122 rfl) rfl
theorem q852 : (Jvm.Cond.code ({ cls := "java/util/HashMap", name := "putAll", desc := "(Ljava/util/Map;)V" } : Jvm.MethodName) prog_26_method_19_code (2 : Nat) (Option.none : Option Jvm.ClassFile.FieldType)) ∈ lw_all := lw_g (lw_at lw_m4 124 rfl) rfl
theorem q853 : (Jvm.Cond.methodLink "java/util/HashMap" (96 : Nat) ({ cls := "java/util/HashMap", name := "putMapEntries", desc := "(Ljava/util/Map;Z)V" } : Jvm.MethodName)) ∈ lw_all := lw_g (lw_at lw_m4 125 rfl) rfl
theorem q854 : (Jvm.Cond.instanceMethod ({ cls := "java/util/HashMap", name := "putMapEntries", desc := "(Ljava/util/Map;Z)V" } : Jvm.MethodName)) ∈ lw_all := lw_g (lw_at lw_m4 126 rfl) rfl
theorem q855 : (Jvm.Cond.selects "java/util/HashMap" ({ cls := "java/util/HashMap", name := "putMapEntries", desc := "(Ljava/util/Map;Z)V" } : Jvm.MethodName) ({ cls := "java/util/HashMap", name := "putMapEntries", desc := "(Ljava/util/Map;Z)V" } : Jvm.MethodName)) ∈ lw_all := lw_g (lw_at lw_m4 127 rfl) rfl
theorem q856 : (Jvm.Cond.sameMethod "java/util/HashMap" "java/util/HashMap" "putMapEntries" "(Ljava/util/Map;Z)V") ∈ lw_all := lw_g (lw_at lw_m4 128 rfl) rfl
theorem q858 : (Jvm.Cond.code ({ cls := "java/util/HashMap", name := "putMapEntries", desc := "(Ljava/util/Map;Z)V" } : Jvm.MethodName) prog_26_method_9_code (8 : Nat) (Option.none : Option Jvm.ClassFile.FieldType)) ∈ lw_all := lw_g (lw_at lw_m4 130 rfl) rfl
theorem q859 : (Jvm.Cond.interfaceEntry "java/util/HashMap" (100 : Nat)) ∈ lw_tbl := lw_at lw_m4 131 rfl
theorem q860 : (Jvm.Cond.methodLink "java/util/HashMap" (100 : Nat) ({ cls := "java/util/Map", name := "size", desc := "()I" } : Jvm.MethodName)) ∈ lw_all := lw_g (lw_at lw_m4 132 rfl) rfl
theorem q863 : (Jvm.Cond.castable "java/util/HashMap" "java/util/Map") ∈ lw_tbl := lw_at lw_m4 135 rfl
theorem q864 : (Jvm.Cond.selects "java/util/HashMap" ({ cls := "java/util/Map", name := "size", desc := "()I" } : Jvm.MethodName) ({ cls := "java/util/HashMap", name := "size", desc := "()I" } : Jvm.MethodName)) ∈ lw_all := lw_g (lw_at lw_m4 136 rfl) rfl
theorem q865 : (Jvm.Cond.unhidden "java/util/HashMap" "size" "()I") ∈ lw_tbl := lw_at lw_m4 137 rfl
theorem q866 : (Jvm.Cond.publicMethod ({ cls := "java/util/HashMap", name := "size", desc := "()I" } : Jvm.MethodName)) ∈ lw_tbl := lw_at lw_m4 138 rfl
theorem q870 : (Jvm.Cond.methodLink "java/util/HashMap" (109 : Nat) ({ cls := "java/lang/Math", name := "ceil", desc := "(D)D" } : Jvm.MethodName)) ∈ lw_all := lw_g (lw_at lw_m4 142 rfl) rfl
theorem q896 : (Jvm.Cond.constantDouble "java/util/HashMap" (115 : Nat) (4742290407621132288 : UInt64)) ∈ lw_all := lw_g (lw_at lw_m4 168 rfl) rfl
theorem q897 : (Jvm.Cond.interfaceEntry "java/util/HashMap" (121 : Nat)) ∈ lw_tbl := lw_at lw_m4 169 rfl
theorem q898 : (Jvm.Cond.methodLink "java/util/HashMap" (121 : Nat) ({ cls := "java/util/Map", name := "entrySet", desc := "()Ljava/util/Set;" } : Jvm.MethodName)) ∈ lw_all := lw_g (lw_at lw_m4 170 rfl) rfl
theorem q901 : (Jvm.Cond.selects "java/util/HashMap" ({ cls := "java/util/Map", name := "entrySet", desc := "()Ljava/util/Set;" } : Jvm.MethodName) ({ cls := "java/util/HashMap", name := "entrySet", desc := "()Ljava/util/Set;" } : Jvm.MethodName)) ∈ lw_all := lw_g (lw_at lw_m4 173 rfl) rfl
theorem q902 : (Jvm.Cond.unhidden "java/util/HashMap" "entrySet" "()Ljava/util/Set;") ∈ lw_tbl := lw_at lw_m4 174 rfl
theorem q903 : (Jvm.Cond.instanceMethod ({ cls := "java/util/HashMap", name := "entrySet", desc := "()Ljava/util/Set;" } : Jvm.MethodName)) ∈ lw_all := lw_g (lw_at lw_m4 175 rfl) rfl
theorem q904 : (Jvm.Cond.publicMethod ({ cls := "java/util/HashMap", name := "entrySet", desc := "()Ljava/util/Set;" } : Jvm.MethodName)) ∈ lw_tbl := lw_at lw_m4 176 rfl
theorem q905 : (Jvm.Cond.code ({ cls := "java/util/HashMap", name := "entrySet", desc := "()Ljava/util/Set;" } : Jvm.MethodName) prog_26_method_29_code (2 : Nat) (Option.some (Jvm.ClassFile.FieldType.object "java/util/Set"))) ∈ lw_all := lw_g (lw_at lw_m4 177 rfl) rfl
theorem q906 : (Jvm.Cond.classLink "java/util/HashMap" (268 : Nat) "java/util/HashMap$EntrySet") ∈ lw_all := lw_g (lw_at lw_m4 178 rfl) rfl
theorem q908 : (Jvm.Cond.methodLink "java/util/HashMap" (270 : Nat) ({ cls := "java/util/HashMap$EntrySet", name := "<init>", desc := "(Ljava/util/HashMap;)V" } : Jvm.MethodName)) ∈ lw_all := lw_g (lw_at lw_m4 180 rfl) rfl
theorem q938 : (Jvm.Cond.interfaceEntry "java/util/HashMap" (125 : Nat)) ∈ lw_tbl := lw_at lw_m4 210 rfl
theorem q939 : (Jvm.Cond.methodLink "java/util/HashMap" (125 : Nat) ({ cls := "java/util/Set", name := "iterator", desc := "()Ljava/util/Iterator;" } : Jvm.MethodName)) ∈ lw_all := lw_g (lw_at lw_m4 211 rfl) rfl
theorem q940 : (Jvm.Cond.interfaceEntry "java/util/HashMap" (131 : Nat)) ∈ lw_tbl := lw_at lw_m4 212 rfl
theorem q941 : (Jvm.Cond.methodLink "java/util/HashMap" (131 : Nat) ({ cls := "java/util/Iterator", name := "hasNext", desc := "()Z" } : Jvm.MethodName)) ∈ lw_all := lw_g (lw_at lw_m4 213 rfl) rfl
theorem q942 : (Jvm.Cond.interfaceEntry "java/util/HashMap" (137 : Nat)) ∈ lw_tbl := lw_at lw_m4 214 rfl
theorem q943 : (Jvm.Cond.methodLink "java/util/HashMap" (137 : Nat) ({ cls := "java/util/Iterator", name := "next", desc := "()Ljava/lang/Object;" } : Jvm.MethodName)) ∈ lw_all := lw_g (lw_at lw_m4 215 rfl) rfl
theorem q944 : (Jvm.Cond.classLink "java/util/HashMap" (141 : Nat) "java/util/Map$Entry") ∈ lw_all := lw_g (lw_at lw_m4 216 rfl) rfl
theorem q945 : (Jvm.Cond.interfaceEntry "java/util/HashMap" (143 : Nat)) ∈ lw_tbl := lw_at lw_m4 217 rfl
theorem q946 : (Jvm.Cond.methodLink "java/util/HashMap" (143 : Nat) ({ cls := "java/util/Map$Entry", name := "getKey", desc := "()Ljava/lang/Object;" } : Jvm.MethodName)) ∈ lw_all := lw_g (lw_at lw_m4 218 rfl) rfl
theorem q959 : (Jvm.Cond.interfaceEntry "java/util/HashMap" (146 : Nat)) ∈ lw_tbl := lw_at lw_m4 231 rfl
theorem q960 : (Jvm.Cond.methodLink "java/util/HashMap" (146 : Nat) ({ cls := "java/util/Map$Entry", name := "getValue", desc := "()Ljava/lang/Object;" } : Jvm.MethodName)) ∈ lw_all := lw_g (lw_at lw_m4 232 rfl) rfl
theorem q1017 : (Jvm.Cond.declares ({ cls := "java/util/HashMap", name := "removeNode", desc := "(ILjava/lang/Object;Ljava/lang/Object;ZZ)Ljava/util/HashMap$Node;" } : Jvm.MethodName)) ∈ lw_tbl := lw_at lw_m5 49 rfl
theorem q1043 : (Jvm.Cond.sameMethod "java/util/HashMap" "java/util/AbstractMap" "equals" "(Ljava/lang/Object;)Z") ∈ lw_all := lw_g (lw_at lw_m5 75 rfl) rfl
theorem q1045 : (Jvm.Cond.selects "java/util/HashMap" ({ cls := "java/util/HashMap", name := "equals", desc := "(Ljava/lang/Object;)Z" } : Jvm.MethodName) ({ cls := "java/util/AbstractMap", name := "equals", desc := "(Ljava/lang/Object;)Z" } : Jvm.MethodName)) ∈ lw_all := lw_g (lw_at lw_m5 77 rfl) rfl
theorem q1055 : (Jvm.Cond.selects "java/util/HashMap" ({ cls := "java/util/AbstractMap", name := "size", desc := "()I" } : Jvm.MethodName) ({ cls := "java/util/HashMap", name := "size", desc := "()I" } : Jvm.MethodName)) ∈ lw_all := lw_g (lw_at lw_m5 87 rfl) rfl
theorem q1061 : (Jvm.Cond.selects "java/util/HashMap" ({ cls := "java/util/AbstractMap", name := "entrySet", desc := "()Ljava/util/Set;" } : Jvm.MethodName) ({ cls := "java/util/HashMap", name := "entrySet", desc := "()Ljava/util/Set;" } : Jvm.MethodName)) ∈ lw_all := lw_g (lw_at lw_m5 93 rfl) rfl
theorem q1078 : (Jvm.Cond.selects "java/util/HashMap" ({ cls := "java/util/Map", name := "get", desc := "(Ljava/lang/Object;)Ljava/lang/Object;" } : Jvm.MethodName) ({ cls := "java/util/HashMap", name := "get", desc := "(Ljava/lang/Object;)Ljava/lang/Object;" } : Jvm.MethodName)) ∈ lw_all := lw_g (lw_at lw_m5 110 rfl) rfl
theorem q1079 : (Jvm.Cond.unhidden "java/util/HashMap" "get" "(Ljava/lang/Object;)Ljava/lang/Object;") ∈ lw_tbl := lw_at lw_m5 111 rfl
theorem q1080 : (Jvm.Cond.publicMethod ({ cls := "java/util/HashMap", name := "get", desc := "(Ljava/lang/Object;)Ljava/lang/Object;" } : Jvm.MethodName)) ∈ lw_tbl := lw_at lw_m5 112 rfl
theorem q1088 : (Jvm.Cond.selects "java/util/HashMap" ({ cls := "java/util/Map", name := "containsKey", desc := "(Ljava/lang/Object;)Z" } : Jvm.MethodName) ({ cls := "java/util/HashMap", name := "containsKey", desc := "(Ljava/lang/Object;)Z" } : Jvm.MethodName)) ∈ lw_all := lw_g (lw_at lw_m5 120 rfl) rfl
theorem q1089 : (Jvm.Cond.unhidden "java/util/HashMap" "containsKey" "(Ljava/lang/Object;)Z") ∈ lw_tbl := lw_at lw_m5 121 rfl
theorem q1090 : (Jvm.Cond.publicMethod ({ cls := "java/util/HashMap", name := "containsKey", desc := "(Ljava/lang/Object;)Z" } : Jvm.MethodName)) ∈ lw_tbl := lw_at lw_m5 122 rfl
theorem q1284 : (Jvm.Cond.sameMethod "java/util/HashMap" "java/util/HashMap" "getNode" "(Ljava/lang/Object;)Ljava/util/HashMap$Node;") ∈ lw_all := lw_g (lw_at lw_m6 76 rfl) rfl
theorem q1285 : (Jvm.Cond.selects "java/util/HashMap" ({ cls := "java/util/HashMap", name := "getNode", desc := "(Ljava/lang/Object;)Ljava/util/HashMap$Node;" } : Jvm.MethodName) ({ cls := "java/util/HashMap", name := "getNode", desc := "(Ljava/lang/Object;)Ljava/util/HashMap$Node;" } : Jvm.MethodName)) ∈ lw_all := lw_g (lw_at lw_m6 77 rfl) rfl
theorem q1287 : (Jvm.Cond.sameMethod "java/util/HashMap" "java/util/HashMap" "entrySet" "()Ljava/util/Set;") ∈ lw_all := lw_g (lw_at lw_m6 79 rfl) rfl
theorem q1288 : (Jvm.Cond.selects "java/util/HashMap" ({ cls := "java/util/HashMap", name := "entrySet", desc := "()Ljava/util/Set;" } : Jvm.MethodName) ({ cls := "java/util/HashMap", name := "entrySet", desc := "()Ljava/util/Set;" } : Jvm.MethodName)) ∈ lw_all := lw_g (lw_at lw_m6 80 rfl) rfl
theorem q1296 : (Jvm.Cond.castable "java/util/HashMap" "java/lang/Object") ∈ lw_tbl := lw_at lw_m6 88 rfl
theorem in_J1 : ∀ w ∈ wsJ10, w ∈ lw_all := lw_in wsJ10 [92, 94, 80, 82, 84, 86, 88, 90] (by decide +kernel) (by decide +kernel)
