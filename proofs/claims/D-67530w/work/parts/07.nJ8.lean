set_option maxRecDepth 100000
def RJ8 : String := "java/util/HashMap$TreeNode"
def TJ8 : u_T := fun k => match k with
  | 0 => ("java/util/HashMap$Node", "hash", "I", true)
  | 1 => ("java/util/HashMap$Node", "key", "Ljava/lang/Object;", true)
  | 2 => ("java/util/HashMap$Node", "value", "Ljava/lang/Object;", false)
  | 3 => ("java/util/HashMap$Node", "next", "Ljava/util/HashMap$Node;", false)
  | 4 => ("java/util/LinkedHashMap$Entry", "before", "Ljava/util/LinkedHashMap$Entry;", false)
  | 5 => ("java/util/LinkedHashMap$Entry", "after", "Ljava/util/LinkedHashMap$Entry;", false)
  | 6 => ("java/util/HashMap$TreeNode", "parent", "Ljava/util/HashMap$TreeNode;", false)
  | 7 => ("java/util/HashMap$TreeNode", "left", "Ljava/util/HashMap$TreeNode;", false)
  | 8 => ("java/util/HashMap$TreeNode", "right", "Ljava/util/HashMap$TreeNode;", false)
  | 9 => ("java/util/HashMap$TreeNode", "prev", "Ljava/util/HashMap$TreeNode;", false)
  | _ => ("java/util/HashMap$TreeNode", "red", "Z", false)
def tyJ8 : Nat → FieldType := fun k => match k with
  | 0 => .int
  | 1 => .object "java/lang/Object"
  | 2 => .object "java/lang/Object"
  | 3 => .object "java/util/HashMap$Node"
  | 4 => .object "java/util/LinkedHashMap$Entry"
  | 5 => .object "java/util/LinkedHashMap$Entry"
  | 6 => .object "java/util/HashMap$TreeNode"
  | 7 => .object "java/util/HashMap$TreeNode"
  | 8 => .object "java/util/HashMap$TreeNode"
  | 9 => .object "java/util/HashMap$TreeNode"
  | _ => .boolean
abbrev wsJ80 : List Cond := u_ws RJ8 TJ8 11
theorem nmJ8 : ∀ a, a < 11 → ∀ b, b < 11 → a ≠ b → (TJ8 a).2.1 ≠ (TJ8 b).2.1 := by decide +kernel
theorem tyJ8_ok : ∀ k, k < 11 → parseFieldDescriptor (TJ8 k).2.2.1 = some (tyJ8 k) := by decide +kernel
abbrev cJ8_split : ByteArray := prog_33_method_11_code
def yJ8_split : MethodName := ⟨RJ8, "split", "(Ljava/util/HashMap;[Ljava/util/HashMap$Node;II)V"⟩
theorem dJ8_split_0 : decode cJ8_split 0 = .ok (.aload_n 0, 1) := by decide +kernel
theorem dJ8_split_1 : decode cJ8_split 1 = .ok (.astore 5, 2) := by decide +kernel
theorem dJ8_split_3 : decode cJ8_split 3 = .ok (.aconst_null, 1) := by decide +kernel
theorem dJ8_split_4 : decode cJ8_split 4 = .ok (.astore 6, 2) := by decide +kernel
theorem dJ8_split_6 : decode cJ8_split 6 = .ok (.aconst_null, 1) := by decide +kernel
theorem dJ8_split_7 : decode cJ8_split 7 = .ok (.astore 7, 2) := by decide +kernel
theorem dJ8_split_9 : decode cJ8_split 9 = .ok (.aconst_null, 1) := by decide +kernel
theorem dJ8_split_10 : decode cJ8_split 10 = .ok (.astore 8, 2) := by decide +kernel
theorem dJ8_split_12 : decode cJ8_split 12 = .ok (.aconst_null, 1) := by decide +kernel
theorem dJ8_split_13 : decode cJ8_split 13 = .ok (.astore 9, 2) := by decide +kernel
theorem dJ8_split_15 : decode cJ8_split 15 = .ok (.iconst 0, 1) := by decide +kernel
theorem dJ8_split_16 : decode cJ8_split 16 = .ok (.istore 10, 2) := by decide +kernel
theorem dJ8_split_18 : decode cJ8_split 18 = .ok (.iconst 0, 1) := by decide +kernel
theorem dJ8_split_19 : decode cJ8_split 19 = .ok (.istore 11, 2) := by decide +kernel
theorem dJ8_split_21 : decode cJ8_split 21 = .ok (.aload 5, 2) := by decide +kernel
theorem dJ8_split_23 : decode cJ8_split 23 = .ok (.astore 12, 2) := by decide +kernel
theorem dJ8_split_25 : decode cJ8_split 25 = .ok (.aload 12, 2) := by decide +kernel
theorem dJ8_split_27 : decode cJ8_split 27 = .ok (.ifnull 104, 3) := by decide +kernel
theorem dJ8_split_30 : decode cJ8_split 30 = .ok (.aload 12, 2) := by decide +kernel
theorem dJ8_split_32 : decode cJ8_split 32 = .ok (.getfield 22, 3) := by decide +kernel
theorem dJ8_split_35 : decode cJ8_split 35 = .ok (.checkcast 10, 3) := by decide +kernel
theorem dJ8_split_38 : decode cJ8_split 38 = .ok (.astore 13, 2) := by decide +kernel
theorem dJ8_split_40 : decode cJ8_split 40 = .ok (.aload 12, 2) := by decide +kernel
theorem dJ8_split_42 : decode cJ8_split 42 = .ok (.aconst_null, 1) := by decide +kernel
theorem dJ8_split_43 : decode cJ8_split 43 = .ok (.putfield 22, 3) := by decide +kernel
theorem dJ8_split_46 : decode cJ8_split 46 = .ok (.aload 12, 2) := by decide +kernel
theorem dJ8_split_48 : decode cJ8_split 48 = .ok (.getfield 15, 3) := by decide +kernel
theorem dJ8_split_51 : decode cJ8_split 51 = .ok (.iload 4, 2) := by decide +kernel
theorem dJ8_split_53 : decode cJ8_split 53 = .ok (.iand, 1) := by decide +kernel
theorem dJ8_split_54 : decode cJ8_split 54 = .ok (.ifCond .ne 38, 3) := by decide +kernel
theorem dJ8_split_57 : decode cJ8_split 57 = .ok (.aload 12, 2) := by decide +kernel
theorem dJ8_split_59 : decode cJ8_split 59 = .ok (.aload 7, 2) := by decide +kernel
theorem dJ8_split_61 : decode cJ8_split 61 = .ok (.dup_x1, 1) := by decide +kernel
theorem dJ8_split_62 : decode cJ8_split 62 = .ok (.putfield 19, 3) := by decide +kernel
theorem dJ8_split_65 : decode cJ8_split 65 = .ok (.ifnonnull 10, 3) := by decide +kernel
theorem dJ8_split_68 : decode cJ8_split 68 = .ok (.aload 12, 2) := by decide +kernel
theorem dJ8_split_70 : decode cJ8_split 70 = .ok (.astore 6, 2) := by decide +kernel
theorem dJ8_split_72 : decode cJ8_split 72 = .ok (.goto 10, 3) := by decide +kernel
theorem dJ8_split_75 : decode cJ8_split 75 = .ok (.aload 7, 2) := by decide +kernel
theorem dJ8_split_77 : decode cJ8_split 77 = .ok (.aload 12, 2) := by decide +kernel
theorem dJ8_split_79 : decode cJ8_split 79 = .ok (.putfield 22, 3) := by decide +kernel
theorem dJ8_split_82 : decode cJ8_split 82 = .ok (.aload 12, 2) := by decide +kernel
theorem dJ8_split_84 : decode cJ8_split 84 = .ok (.astore 7, 2) := by decide +kernel
theorem dJ8_split_86 : decode cJ8_split 86 = .ok (.iinc 10 1, 3) := by decide +kernel
theorem dJ8_split_89 : decode cJ8_split 89 = .ok (.goto 35, 3) := by decide +kernel
theorem dJ8_split_92 : decode cJ8_split 92 = .ok (.aload 12, 2) := by decide +kernel
theorem dJ8_split_94 : decode cJ8_split 94 = .ok (.aload 9, 2) := by decide +kernel
theorem dJ8_split_96 : decode cJ8_split 96 = .ok (.dup_x1, 1) := by decide +kernel
theorem dJ8_split_97 : decode cJ8_split 97 = .ok (.putfield 19, 3) := by decide +kernel
theorem dJ8_split_100 : decode cJ8_split 100 = .ok (.ifnonnull 10, 3) := by decide +kernel
theorem dJ8_split_103 : decode cJ8_split 103 = .ok (.aload 12, 2) := by decide +kernel
theorem dJ8_split_105 : decode cJ8_split 105 = .ok (.astore 8, 2) := by decide +kernel
theorem dJ8_split_107 : decode cJ8_split 107 = .ok (.goto 10, 3) := by decide +kernel
theorem dJ8_split_110 : decode cJ8_split 110 = .ok (.aload 9, 2) := by decide +kernel
theorem dJ8_split_112 : decode cJ8_split 112 = .ok (.aload 12, 2) := by decide +kernel
theorem dJ8_split_114 : decode cJ8_split 114 = .ok (.putfield 22, 3) := by decide +kernel
theorem dJ8_split_117 : decode cJ8_split 117 = .ok (.aload 12, 2) := by decide +kernel
theorem dJ8_split_119 : decode cJ8_split 119 = .ok (.astore 9, 2) := by decide +kernel
theorem dJ8_split_121 : decode cJ8_split 121 = .ok (.iinc 11 1, 3) := by decide +kernel
theorem dJ8_split_124 : decode cJ8_split 124 = .ok (.aload 13, 2) := by decide +kernel
theorem dJ8_split_126 : decode cJ8_split 126 = .ok (.astore 12, 2) := by decide +kernel
theorem dJ8_split_128 : decode cJ8_split 128 = .ok (.goto (-103), 3) := by decide +kernel
theorem dJ8_split_131 : decode cJ8_split 131 = .ok (.aload 6, 2) := by decide +kernel
theorem dJ8_split_133 : decode cJ8_split 133 = .ok (.ifnull 38, 3) := by decide +kernel
theorem dJ8_split_136 : decode cJ8_split 136 = .ok (.iload 10, 2) := by decide +kernel
theorem dJ8_split_138 : decode cJ8_split 138 = .ok (.bipush 6, 2) := by decide +kernel
theorem dJ8_split_140 : decode cJ8_split 140 = .ok (.if_icmp .gt 15, 3) := by decide +kernel
theorem dJ8_split_143 : decode cJ8_split 143 = .ok (.aload_n 2, 1) := by decide +kernel
theorem dJ8_split_144 : decode cJ8_split 144 = .ok (.iload_n 3, 1) := by decide +kernel
theorem dJ8_split_145 : decode cJ8_split 145 = .ok (.aload 6, 2) := by decide +kernel
theorem dJ8_split_147 : decode cJ8_split 147 = .ok (.aload_n 1, 1) := by decide +kernel
theorem dJ8_split_148 : decode cJ8_split 148 = .ok (.invokevirtual 119, 3) := by decide +kernel
theorem dJ8_split_151 : decode cJ8_split 151 = .ok (.aastore, 1) := by decide +kernel
theorem dJ8_split_152 : decode cJ8_split 152 = .ok (.goto 19, 3) := by decide +kernel
theorem dJ8_split_155 : decode cJ8_split 155 = .ok (.aload_n 2, 1) := by decide +kernel
theorem dJ8_split_156 : decode cJ8_split 156 = .ok (.iload_n 3, 1) := by decide +kernel
theorem dJ8_split_157 : decode cJ8_split 157 = .ok (.aload 6, 2) := by decide +kernel
theorem dJ8_split_159 : decode cJ8_split 159 = .ok (.aastore, 1) := by decide +kernel
theorem dJ8_split_160 : decode cJ8_split 160 = .ok (.aload 8, 2) := by decide +kernel
theorem dJ8_split_162 : decode cJ8_split 162 = .ok (.ifnull 9, 3) := by decide +kernel
theorem dJ8_split_165 : decode cJ8_split 165 = .ok (.aload 6, 2) := by decide +kernel
theorem dJ8_split_167 : decode cJ8_split 167 = .ok (.aload_n 2, 1) := by decide +kernel
theorem dJ8_split_168 : decode cJ8_split 168 = .ok (.invokevirtual 126, 3) := by decide +kernel
theorem dJ8_split_171 : decode cJ8_split 171 = .ok (.aload 8, 2) := by decide +kernel
theorem dJ8_split_173 : decode cJ8_split 173 = .ok (.ifnull 44, 3) := by decide +kernel
theorem dJ8_split_176 : decode cJ8_split 176 = .ok (.iload 11, 2) := by decide +kernel
theorem dJ8_split_178 : decode cJ8_split 178 = .ok (.bipush 6, 2) := by decide +kernel
theorem dJ8_split_180 : decode cJ8_split 180 = .ok (.if_icmp .gt 18, 3) := by decide +kernel
theorem dJ8_split_183 : decode cJ8_split 183 = .ok (.aload_n 2, 1) := by decide +kernel
theorem dJ8_split_184 : decode cJ8_split 184 = .ok (.iload_n 3, 1) := by decide +kernel
theorem dJ8_split_185 : decode cJ8_split 185 = .ok (.iload 4, 2) := by decide +kernel
theorem dJ8_split_187 : decode cJ8_split 187 = .ok (.iadd, 1) := by decide +kernel
theorem dJ8_split_188 : decode cJ8_split 188 = .ok (.aload 8, 2) := by decide +kernel
theorem dJ8_split_190 : decode cJ8_split 190 = .ok (.aload_n 1, 1) := by decide +kernel
theorem dJ8_split_191 : decode cJ8_split 191 = .ok (.invokevirtual 119, 3) := by decide +kernel
theorem dJ8_split_194 : decode cJ8_split 194 = .ok (.aastore, 1) := by decide +kernel
theorem dJ8_split_195 : decode cJ8_split 195 = .ok (.goto 22, 3) := by decide +kernel
theorem dJ8_split_198 : decode cJ8_split 198 = .ok (.aload_n 2, 1) := by decide +kernel
theorem dJ8_split_199 : decode cJ8_split 199 = .ok (.iload_n 3, 1) := by decide +kernel
theorem dJ8_split_200 : decode cJ8_split 200 = .ok (.iload 4, 2) := by decide +kernel
theorem dJ8_split_202 : decode cJ8_split 202 = .ok (.iadd, 1) := by decide +kernel
theorem dJ8_split_203 : decode cJ8_split 203 = .ok (.aload 8, 2) := by decide +kernel
theorem dJ8_split_205 : decode cJ8_split 205 = .ok (.aastore, 1) := by decide +kernel
theorem dJ8_split_206 : decode cJ8_split 206 = .ok (.aload 6, 2) := by decide +kernel
theorem dJ8_split_208 : decode cJ8_split 208 = .ok (.ifnull 9, 3) := by decide +kernel
theorem dJ8_split_211 : decode cJ8_split 211 = .ok (.aload 8, 2) := by decide +kernel
theorem dJ8_split_213 : decode cJ8_split 213 = .ok (.aload_n 2, 1) := by decide +kernel
theorem dJ8_split_214 : decode cJ8_split 214 = .ok (.invokevirtual 126, 3) := by decide +kernel
theorem dJ8_split_217 : decode cJ8_split 217 = .ok (.return_, 1) := by decide +kernel
abbrev cJ8_untreeify : ByteArray := prog_33_method_8_code
def yJ8_untreeify : MethodName := ⟨RJ8, "untreeify", "(Ljava/util/HashMap;)Ljava/util/HashMap$Node;"⟩
theorem dJ8_untreeify_0 : decode cJ8_untreeify 0 = .ok (.aconst_null, 1) := by decide +kernel
theorem dJ8_untreeify_1 : decode cJ8_untreeify 1 = .ok (.astore_n 2, 1) := by decide +kernel
theorem dJ8_untreeify_2 : decode cJ8_untreeify 2 = .ok (.aconst_null, 1) := by decide +kernel
theorem dJ8_untreeify_3 : decode cJ8_untreeify 3 = .ok (.astore_n 3, 1) := by decide +kernel
theorem dJ8_untreeify_4 : decode cJ8_untreeify 4 = .ok (.aload_n 0, 1) := by decide +kernel
theorem dJ8_untreeify_5 : decode cJ8_untreeify 5 = .ok (.astore 4, 2) := by decide +kernel
theorem dJ8_untreeify_7 : decode cJ8_untreeify 7 = .ok (.aload 4, 2) := by decide +kernel
theorem dJ8_untreeify_9 : decode cJ8_untreeify 9 = .ok (.ifnull 41, 3) := by decide +kernel
theorem dJ8_untreeify_12 : decode cJ8_untreeify 12 = .ok (.aload_n 1, 1) := by decide +kernel
theorem dJ8_untreeify_13 : decode cJ8_untreeify 13 = .ok (.aload 4, 2) := by decide +kernel
theorem dJ8_untreeify_15 : decode cJ8_untreeify 15 = .ok (.aconst_null, 1) := by decide +kernel
theorem dJ8_untreeify_16 : decode cJ8_untreeify 16 = .ok (.invokevirtual 108, 3) := by decide +kernel
theorem dJ8_untreeify_19 : decode cJ8_untreeify 19 = .ok (.astore 5, 2) := by decide +kernel
theorem dJ8_untreeify_21 : decode cJ8_untreeify 21 = .ok (.aload_n 3, 1) := by decide +kernel
theorem dJ8_untreeify_22 : decode cJ8_untreeify 22 = .ok (.ifnonnull 9, 3) := by decide +kernel
theorem dJ8_untreeify_25 : decode cJ8_untreeify 25 = .ok (.aload 5, 2) := by decide +kernel
theorem dJ8_untreeify_27 : decode cJ8_untreeify 27 = .ok (.astore_n 2, 1) := by decide +kernel
theorem dJ8_untreeify_28 : decode cJ8_untreeify 28 = .ok (.goto 9, 3) := by decide +kernel
theorem dJ8_untreeify_31 : decode cJ8_untreeify 31 = .ok (.aload_n 3, 1) := by decide +kernel
theorem dJ8_untreeify_32 : decode cJ8_untreeify 32 = .ok (.aload 5, 2) := by decide +kernel
theorem dJ8_untreeify_34 : decode cJ8_untreeify 34 = .ok (.putfield 112, 3) := by decide +kernel
theorem dJ8_untreeify_37 : decode cJ8_untreeify 37 = .ok (.aload 5, 2) := by decide +kernel
theorem dJ8_untreeify_39 : decode cJ8_untreeify 39 = .ok (.astore_n 3, 1) := by decide +kernel
theorem dJ8_untreeify_40 : decode cJ8_untreeify 40 = .ok (.aload 4, 2) := by decide +kernel
theorem dJ8_untreeify_42 : decode cJ8_untreeify 42 = .ok (.getfield 112, 3) := by decide +kernel
theorem dJ8_untreeify_45 : decode cJ8_untreeify 45 = .ok (.astore 4, 2) := by decide +kernel
theorem dJ8_untreeify_47 : decode cJ8_untreeify 47 = .ok (.goto (-40), 3) := by decide +kernel
theorem dJ8_untreeify_50 : decode cJ8_untreeify 50 = .ok (.aload_n 2, 1) := by decide +kernel
theorem dJ8_untreeify_51 : decode cJ8_untreeify 51 = .ok (.areturn, 1) := by decide +kernel
abbrev cJ8_treeify : ByteArray := prog_33_method_7_code
def yJ8_treeify : MethodName := ⟨RJ8, "treeify", "([Ljava/util/HashMap$Node;)V"⟩
theorem dJ8_treeify_0 : decode cJ8_treeify 0 = .ok (.aconst_null, 1) := by decide +kernel
theorem dJ8_treeify_1 : decode cJ8_treeify 1 = .ok (.astore_n 2, 1) := by decide +kernel
theorem dJ8_treeify_2 : decode cJ8_treeify 2 = .ok (.aload_n 0, 1) := by decide +kernel
theorem dJ8_treeify_3 : decode cJ8_treeify 3 = .ok (.astore_n 3, 1) := by decide +kernel
theorem dJ8_treeify_4 : decode cJ8_treeify 4 = .ok (.aload_n 3, 1) := by decide +kernel
theorem dJ8_treeify_5 : decode cJ8_treeify 5 = .ok (.ifnull 210, 3) := by decide +kernel
theorem dJ8_treeify_8 : decode cJ8_treeify 8 = .ok (.aload_n 3, 1) := by decide +kernel
theorem dJ8_treeify_9 : decode cJ8_treeify 9 = .ok (.getfield 22, 3) := by decide +kernel
theorem dJ8_treeify_12 : decode cJ8_treeify 12 = .ok (.checkcast 10, 3) := by decide +kernel
theorem dJ8_treeify_15 : decode cJ8_treeify 15 = .ok (.astore 4, 2) := by decide +kernel
theorem dJ8_treeify_17 : decode cJ8_treeify 17 = .ok (.aload_n 3, 1) := by decide +kernel
theorem dJ8_treeify_18 : decode cJ8_treeify 18 = .ok (.aload_n 3, 1) := by decide +kernel
theorem dJ8_treeify_19 : decode cJ8_treeify 19 = .ok (.aconst_null, 1) := by decide +kernel
theorem dJ8_treeify_20 : decode cJ8_treeify 20 = .ok (.dup_x1, 1) := by decide +kernel
theorem dJ8_treeify_21 : decode cJ8_treeify 21 = .ok (.putfield 42, 3) := by decide +kernel
theorem dJ8_treeify_24 : decode cJ8_treeify 24 = .ok (.putfield 39, 3) := by decide +kernel
theorem dJ8_treeify_27 : decode cJ8_treeify 27 = .ok (.aload_n 2, 1) := by decide +kernel
theorem dJ8_treeify_28 : decode cJ8_treeify 28 = .ok (.ifnonnull 18, 3) := by decide +kernel
theorem dJ8_treeify_31 : decode cJ8_treeify 31 = .ok (.aload_n 3, 1) := by decide +kernel
theorem dJ8_treeify_32 : decode cJ8_treeify 32 = .ok (.aconst_null, 1) := by decide +kernel
theorem dJ8_treeify_33 : decode cJ8_treeify 33 = .ok (.putfield 9, 3) := by decide +kernel
theorem dJ8_treeify_36 : decode cJ8_treeify 36 = .ok (.aload_n 3, 1) := by decide +kernel
theorem dJ8_treeify_37 : decode cJ8_treeify 37 = .ok (.iconst 0, 1) := by decide +kernel
theorem dJ8_treeify_38 : decode cJ8_treeify 38 = .ok (.putfield 93, 3) := by decide +kernel
theorem dJ8_treeify_41 : decode cJ8_treeify 41 = .ok (.aload_n 3, 1) := by decide +kernel
theorem dJ8_treeify_42 : decode cJ8_treeify 42 = .ok (.astore_n 2, 1) := by decide +kernel
theorem dJ8_treeify_43 : decode cJ8_treeify 43 = .ok (.goto 166, 3) := by decide +kernel
theorem dJ8_treeify_46 : decode cJ8_treeify 46 = .ok (.aload_n 3, 1) := by decide +kernel
theorem dJ8_treeify_47 : decode cJ8_treeify 47 = .ok (.getfield 45, 3) := by decide +kernel
theorem dJ8_treeify_50 : decode cJ8_treeify 50 = .ok (.astore 5, 2) := by decide +kernel
theorem dJ8_treeify_52 : decode cJ8_treeify 52 = .ok (.aload_n 3, 1) := by decide +kernel
theorem dJ8_treeify_53 : decode cJ8_treeify 53 = .ok (.getfield 15, 3) := by decide +kernel
theorem dJ8_treeify_56 : decode cJ8_treeify 56 = .ok (.istore 6, 2) := by decide +kernel
theorem dJ8_treeify_58 : decode cJ8_treeify 58 = .ok (.aconst_null, 1) := by decide +kernel
theorem dJ8_treeify_59 : decode cJ8_treeify 59 = .ok (.astore 7, 2) := by decide +kernel
theorem dJ8_treeify_61 : decode cJ8_treeify 61 = .ok (.aload_n 2, 1) := by decide +kernel
theorem dJ8_treeify_62 : decode cJ8_treeify 62 = .ok (.astore 8, 2) := by decide +kernel
theorem dJ8_treeify_64 : decode cJ8_treeify 64 = .ok (.aload 8, 2) := by decide +kernel
theorem dJ8_treeify_66 : decode cJ8_treeify 66 = .ok (.getfield 45, 3) := by decide +kernel
theorem dJ8_treeify_69 : decode cJ8_treeify 69 = .ok (.astore 11, 2) := by decide +kernel
theorem dJ8_treeify_71 : decode cJ8_treeify 71 = .ok (.aload 8, 2) := by decide +kernel
theorem dJ8_treeify_73 : decode cJ8_treeify 73 = .ok (.getfield 15, 3) := by decide +kernel
theorem dJ8_treeify_76 : decode cJ8_treeify 76 = .ok (.dup, 1) := by decide +kernel
theorem dJ8_treeify_77 : decode cJ8_treeify 77 = .ok (.istore 10, 2) := by decide +kernel
theorem dJ8_treeify_79 : decode cJ8_treeify 79 = .ok (.iload 6, 2) := by decide +kernel
theorem dJ8_treeify_81 : decode cJ8_treeify 81 = .ok (.if_icmp .le 9, 3) := by decide +kernel
theorem dJ8_treeify_84 : decode cJ8_treeify 84 = .ok (.iconst (-1), 1) := by decide +kernel
theorem dJ8_treeify_85 : decode cJ8_treeify 85 = .ok (.istore 9, 2) := by decide +kernel
theorem dJ8_treeify_87 : decode cJ8_treeify 87 = .ok (.goto 56, 3) := by decide +kernel
theorem dJ8_treeify_90 : decode cJ8_treeify 90 = .ok (.iload 10, 2) := by decide +kernel
theorem dJ8_treeify_92 : decode cJ8_treeify 92 = .ok (.iload 6, 2) := by decide +kernel
theorem dJ8_treeify_94 : decode cJ8_treeify 94 = .ok (.if_icmp .ge 9, 3) := by decide +kernel
theorem dJ8_treeify_97 : decode cJ8_treeify 97 = .ok (.iconst 1, 1) := by decide +kernel
theorem dJ8_treeify_98 : decode cJ8_treeify 98 = .ok (.istore 9, 2) := by decide +kernel
theorem dJ8_treeify_100 : decode cJ8_treeify 100 = .ok (.goto 43, 3) := by decide +kernel
theorem dJ8_treeify_103 : decode cJ8_treeify 103 = .ok (.aload 7, 2) := by decide +kernel
theorem dJ8_treeify_105 : decode cJ8_treeify 105 = .ok (.ifnonnull 14, 3) := by decide +kernel
theorem dJ8_treeify_108 : decode cJ8_treeify 108 = .ok (.aload 5, 2) := by decide +kernel
theorem dJ8_treeify_110 : decode cJ8_treeify 110 = .ok (.invokestatic 55, 3) := by decide +kernel
theorem dJ8_treeify_113 : decode cJ8_treeify 113 = .ok (.dup, 1) := by decide +kernel
theorem dJ8_treeify_114 : decode cJ8_treeify 114 = .ok (.astore 7, 2) := by decide +kernel
theorem dJ8_treeify_116 : decode cJ8_treeify 116 = .ok (.ifnull 18, 3) := by decide +kernel
theorem dJ8_treeify_119 : decode cJ8_treeify 119 = .ok (.aload 7, 2) := by decide +kernel
theorem dJ8_treeify_121 : decode cJ8_treeify 121 = .ok (.aload 5, 2) := by decide +kernel
theorem dJ8_treeify_123 : decode cJ8_treeify 123 = .ok (.aload 11, 2) := by decide +kernel
theorem dJ8_treeify_125 : decode cJ8_treeify 125 = .ok (.invokestatic 59, 3) := by decide +kernel
theorem dJ8_treeify_128 : decode cJ8_treeify 128 = .ok (.dup, 1) := by decide +kernel
theorem dJ8_treeify_129 : decode cJ8_treeify 129 = .ok (.istore 9, 2) := by decide +kernel
theorem dJ8_treeify_131 : decode cJ8_treeify 131 = .ok (.ifCond .ne 12, 3) := by decide +kernel
theorem dJ8_treeify_134 : decode cJ8_treeify 134 = .ok (.aload 5, 2) := by decide +kernel
theorem dJ8_treeify_136 : decode cJ8_treeify 136 = .ok (.aload 11, 2) := by decide +kernel
theorem dJ8_treeify_138 : decode cJ8_treeify 138 = .ok (.invokestatic 96, 3) := by decide +kernel
theorem dJ8_treeify_141 : decode cJ8_treeify 141 = .ok (.istore 9, 2) := by decide +kernel
theorem dJ8_treeify_143 : decode cJ8_treeify 143 = .ok (.aload 8, 2) := by decide +kernel
theorem dJ8_treeify_145 : decode cJ8_treeify 145 = .ok (.astore 12, 2) := by decide +kernel
theorem dJ8_treeify_147 : decode cJ8_treeify 147 = .ok (.iload 9, 2) := by decide +kernel
theorem dJ8_treeify_149 : decode cJ8_treeify 149 = .ok (.ifCond .gt 11, 3) := by decide +kernel
theorem dJ8_treeify_152 : decode cJ8_treeify 152 = .ok (.aload 8, 2) := by decide +kernel
theorem dJ8_treeify_154 : decode cJ8_treeify 154 = .ok (.getfield 39, 3) := by decide +kernel
theorem dJ8_treeify_157 : decode cJ8_treeify 157 = .ok (.goto 8, 3) := by decide +kernel
theorem dJ8_treeify_160 : decode cJ8_treeify 160 = .ok (.aload 8, 2) := by decide +kernel
theorem dJ8_treeify_162 : decode cJ8_treeify 162 = .ok (.getfield 42, 3) := by decide +kernel
theorem dJ8_treeify_165 : decode cJ8_treeify 165 = .ok (.dup, 1) := by decide +kernel
theorem dJ8_treeify_166 : decode cJ8_treeify 166 = .ok (.astore 8, 2) := by decide +kernel
theorem dJ8_treeify_168 : decode cJ8_treeify 168 = .ok (.ifnonnull 38, 3) := by decide +kernel
theorem dJ8_treeify_171 : decode cJ8_treeify 171 = .ok (.aload_n 3, 1) := by decide +kernel
theorem dJ8_treeify_172 : decode cJ8_treeify 172 = .ok (.aload 12, 2) := by decide +kernel
theorem dJ8_treeify_174 : decode cJ8_treeify 174 = .ok (.putfield 9, 3) := by decide +kernel
theorem dJ8_treeify_177 : decode cJ8_treeify 177 = .ok (.iload 9, 2) := by decide +kernel
theorem dJ8_treeify_179 : decode cJ8_treeify 179 = .ok (.ifCond .gt 12, 3) := by decide +kernel
theorem dJ8_treeify_182 : decode cJ8_treeify 182 = .ok (.aload 12, 2) := by decide +kernel
theorem dJ8_treeify_184 : decode cJ8_treeify 184 = .ok (.aload_n 3, 1) := by decide +kernel
theorem dJ8_treeify_185 : decode cJ8_treeify 185 = .ok (.putfield 39, 3) := by decide +kernel
theorem dJ8_treeify_188 : decode cJ8_treeify 188 = .ok (.goto 9, 3) := by decide +kernel
theorem dJ8_treeify_191 : decode cJ8_treeify 191 = .ok (.aload 12, 2) := by decide +kernel
theorem dJ8_treeify_193 : decode cJ8_treeify 193 = .ok (.aload_n 3, 1) := by decide +kernel
theorem dJ8_treeify_194 : decode cJ8_treeify 194 = .ok (.putfield 42, 3) := by decide +kernel
theorem dJ8_treeify_197 : decode cJ8_treeify 197 = .ok (.aload_n 2, 1) := by decide +kernel
theorem dJ8_treeify_198 : decode cJ8_treeify 198 = .ok (.aload_n 3, 1) := by decide +kernel
theorem dJ8_treeify_199 : decode cJ8_treeify 199 = .ok (.invokestatic 100, 3) := by decide +kernel
theorem dJ8_treeify_202 : decode cJ8_treeify 202 = .ok (.astore_n 2, 1) := by decide +kernel
theorem dJ8_treeify_203 : decode cJ8_treeify 203 = .ok (.goto 6, 3) := by decide +kernel
theorem dJ8_treeify_206 : decode cJ8_treeify 206 = .ok (.goto (-142), 3) := by decide +kernel
theorem dJ8_treeify_209 : decode cJ8_treeify 209 = .ok (.aload 4, 2) := by decide +kernel
theorem dJ8_treeify_211 : decode cJ8_treeify 211 = .ok (.astore_n 3, 1) := by decide +kernel
theorem dJ8_treeify_212 : decode cJ8_treeify 212 = .ok (.goto (-208), 3) := by decide +kernel
theorem dJ8_treeify_215 : decode cJ8_treeify 215 = .ok (.aload_n 1, 1) := by decide +kernel
theorem dJ8_treeify_216 : decode cJ8_treeify 216 = .ok (.aload_n 2, 1) := by decide +kernel
theorem dJ8_treeify_217 : decode cJ8_treeify 217 = .ok (.invokestatic 104, 3) := by decide +kernel
theorem dJ8_treeify_220 : decode cJ8_treeify 220 = .ok (.return_, 1) := by decide +kernel
abbrev cJ8_balanceInsertion : ByteArray := prog_33_method_14_code
def yJ8_balanceInsertion : MethodName := ⟨RJ8, "balanceInsertion", "(Ljava/util/HashMap$TreeNode;Ljava/util/HashMap$TreeNode;)Ljava/util/HashMap$TreeNode;"⟩
theorem dJ8_balanceInsertion_0 : decode cJ8_balanceInsertion 0 = .ok (.aload_n 1, 1) := by decide +kernel
theorem dJ8_balanceInsertion_1 : decode cJ8_balanceInsertion 1 = .ok (.iconst 1, 1) := by decide +kernel
theorem dJ8_balanceInsertion_2 : decode cJ8_balanceInsertion 2 = .ok (.putfield 93, 3) := by decide +kernel
theorem dJ8_balanceInsertion_5 : decode cJ8_balanceInsertion 5 = .ok (.aload_n 1, 1) := by decide +kernel
theorem dJ8_balanceInsertion_6 : decode cJ8_balanceInsertion 6 = .ok (.getfield 9, 3) := by decide +kernel
theorem dJ8_balanceInsertion_9 : decode cJ8_balanceInsertion 9 = .ok (.dup, 1) := by decide +kernel
theorem dJ8_balanceInsertion_10 : decode cJ8_balanceInsertion 10 = .ok (.astore_n 2, 1) := by decide +kernel
theorem dJ8_balanceInsertion_11 : decode cJ8_balanceInsertion 11 = .ok (.ifnonnull 10, 3) := by decide +kernel
theorem dJ8_balanceInsertion_14 : decode cJ8_balanceInsertion 14 = .ok (.aload_n 1, 1) := by decide +kernel
theorem dJ8_balanceInsertion_15 : decode cJ8_balanceInsertion 15 = .ok (.iconst 0, 1) := by decide +kernel
theorem dJ8_balanceInsertion_16 : decode cJ8_balanceInsertion 16 = .ok (.putfield 93, 3) := by decide +kernel
theorem dJ8_balanceInsertion_19 : decode cJ8_balanceInsertion 19 = .ok (.aload_n 1, 1) := by decide +kernel
theorem dJ8_balanceInsertion_20 : decode cJ8_balanceInsertion 20 = .ok (.areturn, 1) := by decide +kernel
theorem dJ8_balanceInsertion_21 : decode cJ8_balanceInsertion 21 = .ok (.aload_n 2, 1) := by decide +kernel
theorem dJ8_balanceInsertion_22 : decode cJ8_balanceInsertion 22 = .ok (.getfield 93, 3) := by decide +kernel
theorem dJ8_balanceInsertion_25 : decode cJ8_balanceInsertion 25 = .ok (.ifCond .eq 12, 3) := by decide +kernel
theorem dJ8_balanceInsertion_28 : decode cJ8_balanceInsertion 28 = .ok (.aload_n 2, 1) := by decide +kernel
theorem dJ8_balanceInsertion_29 : decode cJ8_balanceInsertion 29 = .ok (.getfield 9, 3) := by decide +kernel
theorem dJ8_balanceInsertion_32 : decode cJ8_balanceInsertion 32 = .ok (.dup, 1) := by decide +kernel
theorem dJ8_balanceInsertion_33 : decode cJ8_balanceInsertion 33 = .ok (.astore_n 3, 1) := by decide +kernel
theorem dJ8_balanceInsertion_34 : decode cJ8_balanceInsertion 34 = .ok (.ifnonnull 5, 3) := by decide +kernel
theorem dJ8_balanceInsertion_37 : decode cJ8_balanceInsertion 37 = .ok (.aload_n 0, 1) := by decide +kernel
theorem dJ8_balanceInsertion_38 : decode cJ8_balanceInsertion 38 = .ok (.areturn, 1) := by decide +kernel
theorem dJ8_balanceInsertion_39 : decode cJ8_balanceInsertion 39 = .ok (.aload_n 2, 1) := by decide +kernel
theorem dJ8_balanceInsertion_40 : decode cJ8_balanceInsertion 40 = .ok (.aload_n 3, 1) := by decide +kernel
theorem dJ8_balanceInsertion_41 : decode cJ8_balanceInsertion 41 = .ok (.getfield 39, 3) := by decide +kernel
theorem dJ8_balanceInsertion_44 : decode cJ8_balanceInsertion 44 = .ok (.dup, 1) := by decide +kernel
theorem dJ8_balanceInsertion_45 : decode cJ8_balanceInsertion 45 = .ok (.astore 4, 2) := by decide +kernel
theorem dJ8_balanceInsertion_47 : decode cJ8_balanceInsertion 47 = .ok (.if_acmp .ne 103, 3) := by decide +kernel
theorem dJ8_balanceInsertion_50 : decode cJ8_balanceInsertion 50 = .ok (.aload_n 3, 1) := by decide +kernel
theorem dJ8_balanceInsertion_51 : decode cJ8_balanceInsertion 51 = .ok (.getfield 42, 3) := by decide +kernel
theorem dJ8_balanceInsertion_54 : decode cJ8_balanceInsertion 54 = .ok (.dup, 1) := by decide +kernel
theorem dJ8_balanceInsertion_55 : decode cJ8_balanceInsertion 55 = .ok (.astore 5, 2) := by decide +kernel
theorem dJ8_balanceInsertion_57 : decode cJ8_balanceInsertion 57 = .ok (.ifnull 32, 3) := by decide +kernel
theorem dJ8_balanceInsertion_60 : decode cJ8_balanceInsertion 60 = .ok (.aload 5, 2) := by decide +kernel
theorem dJ8_balanceInsertion_62 : decode cJ8_balanceInsertion 62 = .ok (.getfield 93, 3) := by decide +kernel
theorem dJ8_balanceInsertion_65 : decode cJ8_balanceInsertion 65 = .ok (.ifCond .eq 24, 3) := by decide +kernel
theorem dJ8_balanceInsertion_68 : decode cJ8_balanceInsertion 68 = .ok (.aload 5, 2) := by decide +kernel
theorem dJ8_balanceInsertion_70 : decode cJ8_balanceInsertion 70 = .ok (.iconst 0, 1) := by decide +kernel
theorem dJ8_balanceInsertion_71 : decode cJ8_balanceInsertion 71 = .ok (.putfield 93, 3) := by decide +kernel
theorem dJ8_balanceInsertion_74 : decode cJ8_balanceInsertion 74 = .ok (.aload_n 2, 1) := by decide +kernel
theorem dJ8_balanceInsertion_75 : decode cJ8_balanceInsertion 75 = .ok (.iconst 0, 1) := by decide +kernel
theorem dJ8_balanceInsertion_76 : decode cJ8_balanceInsertion 76 = .ok (.putfield 93, 3) := by decide +kernel
theorem dJ8_balanceInsertion_79 : decode cJ8_balanceInsertion 79 = .ok (.aload_n 3, 1) := by decide +kernel
theorem dJ8_balanceInsertion_80 : decode cJ8_balanceInsertion 80 = .ok (.iconst 1, 1) := by decide +kernel
theorem dJ8_balanceInsertion_81 : decode cJ8_balanceInsertion 81 = .ok (.putfield 93, 3) := by decide +kernel
theorem dJ8_balanceInsertion_84 : decode cJ8_balanceInsertion 84 = .ok (.aload_n 3, 1) := by decide +kernel
theorem dJ8_balanceInsertion_85 : decode cJ8_balanceInsertion 85 = .ok (.astore_n 1, 1) := by decide +kernel
theorem dJ8_balanceInsertion_86 : decode cJ8_balanceInsertion 86 = .ok (.goto (-81), 3) := by decide +kernel
theorem dJ8_balanceInsertion_89 : decode cJ8_balanceInsertion 89 = .ok (.aload_n 1, 1) := by decide +kernel
theorem dJ8_balanceInsertion_90 : decode cJ8_balanceInsertion 90 = .ok (.aload_n 2, 1) := by decide +kernel
theorem dJ8_balanceInsertion_91 : decode cJ8_balanceInsertion 91 = .ok (.getfield 42, 3) := by decide +kernel
theorem dJ8_balanceInsertion_94 : decode cJ8_balanceInsertion 94 = .ok (.if_acmp .ne 29, 3) := by decide +kernel
theorem dJ8_balanceInsertion_97 : decode cJ8_balanceInsertion 97 = .ok (.aload_n 0, 1) := by decide +kernel
theorem dJ8_balanceInsertion_98 : decode cJ8_balanceInsertion 98 = .ok (.aload_n 2, 1) := by decide +kernel
theorem dJ8_balanceInsertion_99 : decode cJ8_balanceInsertion 99 = .ok (.dup, 1) := by decide +kernel
theorem dJ8_balanceInsertion_100 : decode cJ8_balanceInsertion 100 = .ok (.astore_n 1, 1) := by decide +kernel
theorem dJ8_balanceInsertion_101 : decode cJ8_balanceInsertion 101 = .ok (.invokestatic 130, 3) := by decide +kernel
theorem dJ8_balanceInsertion_104 : decode cJ8_balanceInsertion 104 = .ok (.astore_n 0, 1) := by decide +kernel
theorem dJ8_balanceInsertion_105 : decode cJ8_balanceInsertion 105 = .ok (.aload_n 1, 1) := by decide +kernel
theorem dJ8_balanceInsertion_106 : decode cJ8_balanceInsertion 106 = .ok (.getfield 9, 3) := by decide +kernel
theorem dJ8_balanceInsertion_109 : decode cJ8_balanceInsertion 109 = .ok (.dup, 1) := by decide +kernel
theorem dJ8_balanceInsertion_110 : decode cJ8_balanceInsertion 110 = .ok (.astore_n 2, 1) := by decide +kernel
theorem dJ8_balanceInsertion_111 : decode cJ8_balanceInsertion 111 = .ok (.ifnonnull 7, 3) := by decide +kernel
theorem dJ8_balanceInsertion_114 : decode cJ8_balanceInsertion 114 = .ok (.aconst_null, 1) := by decide +kernel
theorem dJ8_balanceInsertion_115 : decode cJ8_balanceInsertion 115 = .ok (.goto 7, 3) := by decide +kernel
theorem dJ8_balanceInsertion_118 : decode cJ8_balanceInsertion 118 = .ok (.aload_n 2, 1) := by decide +kernel
theorem dJ8_balanceInsertion_119 : decode cJ8_balanceInsertion 119 = .ok (.getfield 9, 3) := by decide +kernel
theorem dJ8_balanceInsertion_122 : decode cJ8_balanceInsertion 122 = .ok (.astore_n 3, 1) := by decide +kernel
theorem dJ8_balanceInsertion_123 : decode cJ8_balanceInsertion 123 = .ok (.aload_n 2, 1) := by decide +kernel
theorem dJ8_balanceInsertion_124 : decode cJ8_balanceInsertion 124 = .ok (.ifnull (-119), 3) := by decide +kernel
theorem dJ8_balanceInsertion_127 : decode cJ8_balanceInsertion 127 = .ok (.aload_n 2, 1) := by decide +kernel
theorem dJ8_balanceInsertion_128 : decode cJ8_balanceInsertion 128 = .ok (.iconst 0, 1) := by decide +kernel
theorem dJ8_balanceInsertion_129 : decode cJ8_balanceInsertion 129 = .ok (.putfield 93, 3) := by decide +kernel
theorem dJ8_balanceInsertion_132 : decode cJ8_balanceInsertion 132 = .ok (.aload_n 3, 1) := by decide +kernel
theorem dJ8_balanceInsertion_133 : decode cJ8_balanceInsertion 133 = .ok (.ifnull (-128), 3) := by decide +kernel
theorem dJ8_balanceInsertion_136 : decode cJ8_balanceInsertion 136 = .ok (.aload_n 3, 1) := by decide +kernel
theorem dJ8_balanceInsertion_137 : decode cJ8_balanceInsertion 137 = .ok (.iconst 1, 1) := by decide +kernel
theorem dJ8_balanceInsertion_138 : decode cJ8_balanceInsertion 138 = .ok (.putfield 93, 3) := by decide +kernel
theorem dJ8_balanceInsertion_141 : decode cJ8_balanceInsertion 141 = .ok (.aload_n 0, 1) := by decide +kernel
theorem dJ8_balanceInsertion_142 : decode cJ8_balanceInsertion 142 = .ok (.aload_n 3, 1) := by decide +kernel
theorem dJ8_balanceInsertion_143 : decode cJ8_balanceInsertion 143 = .ok (.invokestatic 133, 3) := by decide +kernel
theorem dJ8_balanceInsertion_146 : decode cJ8_balanceInsertion 146 = .ok (.astore_n 0, 1) := by decide +kernel
theorem dJ8_balanceInsertion_147 : decode cJ8_balanceInsertion 147 = .ok (.goto (-142), 3) := by decide +kernel
theorem dJ8_balanceInsertion_150 : decode cJ8_balanceInsertion 150 = .ok (.aload 4, 2) := by decide +kernel
theorem dJ8_balanceInsertion_152 : decode cJ8_balanceInsertion 152 = .ok (.ifnull 32, 3) := by decide +kernel
theorem dJ8_balanceInsertion_155 : decode cJ8_balanceInsertion 155 = .ok (.aload 4, 2) := by decide +kernel
theorem dJ8_balanceInsertion_157 : decode cJ8_balanceInsertion 157 = .ok (.getfield 93, 3) := by decide +kernel
theorem dJ8_balanceInsertion_160 : decode cJ8_balanceInsertion 160 = .ok (.ifCond .eq 24, 3) := by decide +kernel
theorem dJ8_balanceInsertion_163 : decode cJ8_balanceInsertion 163 = .ok (.aload 4, 2) := by decide +kernel
theorem dJ8_balanceInsertion_165 : decode cJ8_balanceInsertion 165 = .ok (.iconst 0, 1) := by decide +kernel
theorem dJ8_balanceInsertion_166 : decode cJ8_balanceInsertion 166 = .ok (.putfield 93, 3) := by decide +kernel
theorem dJ8_balanceInsertion_169 : decode cJ8_balanceInsertion 169 = .ok (.aload_n 2, 1) := by decide +kernel
theorem dJ8_balanceInsertion_170 : decode cJ8_balanceInsertion 170 = .ok (.iconst 0, 1) := by decide +kernel
theorem dJ8_balanceInsertion_171 : decode cJ8_balanceInsertion 171 = .ok (.putfield 93, 3) := by decide +kernel
theorem dJ8_balanceInsertion_174 : decode cJ8_balanceInsertion 174 = .ok (.aload_n 3, 1) := by decide +kernel
theorem dJ8_balanceInsertion_175 : decode cJ8_balanceInsertion 175 = .ok (.iconst 1, 1) := by decide +kernel
theorem dJ8_balanceInsertion_176 : decode cJ8_balanceInsertion 176 = .ok (.putfield 93, 3) := by decide +kernel
theorem dJ8_balanceInsertion_179 : decode cJ8_balanceInsertion 179 = .ok (.aload_n 3, 1) := by decide +kernel
theorem dJ8_balanceInsertion_180 : decode cJ8_balanceInsertion 180 = .ok (.astore_n 1, 1) := by decide +kernel
theorem dJ8_balanceInsertion_181 : decode cJ8_balanceInsertion 181 = .ok (.goto (-176), 3) := by decide +kernel
theorem dJ8_balanceInsertion_184 : decode cJ8_balanceInsertion 184 = .ok (.aload_n 1, 1) := by decide +kernel
theorem dJ8_balanceInsertion_185 : decode cJ8_balanceInsertion 185 = .ok (.aload_n 2, 1) := by decide +kernel
theorem dJ8_balanceInsertion_186 : decode cJ8_balanceInsertion 186 = .ok (.getfield 39, 3) := by decide +kernel
theorem dJ8_balanceInsertion_189 : decode cJ8_balanceInsertion 189 = .ok (.if_acmp .ne 29, 3) := by decide +kernel
theorem dJ8_balanceInsertion_192 : decode cJ8_balanceInsertion 192 = .ok (.aload_n 0, 1) := by decide +kernel
theorem dJ8_balanceInsertion_193 : decode cJ8_balanceInsertion 193 = .ok (.aload_n 2, 1) := by decide +kernel
theorem dJ8_balanceInsertion_194 : decode cJ8_balanceInsertion 194 = .ok (.dup, 1) := by decide +kernel
theorem dJ8_balanceInsertion_195 : decode cJ8_balanceInsertion 195 = .ok (.astore_n 1, 1) := by decide +kernel
theorem dJ8_balanceInsertion_196 : decode cJ8_balanceInsertion 196 = .ok (.invokestatic 133, 3) := by decide +kernel
theorem dJ8_balanceInsertion_199 : decode cJ8_balanceInsertion 199 = .ok (.astore_n 0, 1) := by decide +kernel
theorem dJ8_balanceInsertion_200 : decode cJ8_balanceInsertion 200 = .ok (.aload_n 1, 1) := by decide +kernel
theorem dJ8_balanceInsertion_201 : decode cJ8_balanceInsertion 201 = .ok (.getfield 9, 3) := by decide +kernel
theorem dJ8_balanceInsertion_204 : decode cJ8_balanceInsertion 204 = .ok (.dup, 1) := by decide +kernel
theorem dJ8_balanceInsertion_205 : decode cJ8_balanceInsertion 205 = .ok (.astore_n 2, 1) := by decide +kernel
theorem dJ8_balanceInsertion_206 : decode cJ8_balanceInsertion 206 = .ok (.ifnonnull 7, 3) := by decide +kernel
theorem dJ8_balanceInsertion_209 : decode cJ8_balanceInsertion 209 = .ok (.aconst_null, 1) := by decide +kernel
theorem dJ8_balanceInsertion_210 : decode cJ8_balanceInsertion 210 = .ok (.goto 7, 3) := by decide +kernel
theorem dJ8_balanceInsertion_213 : decode cJ8_balanceInsertion 213 = .ok (.aload_n 2, 1) := by decide +kernel
theorem dJ8_balanceInsertion_214 : decode cJ8_balanceInsertion 214 = .ok (.getfield 9, 3) := by decide +kernel
theorem dJ8_balanceInsertion_217 : decode cJ8_balanceInsertion 217 = .ok (.astore_n 3, 1) := by decide +kernel
theorem dJ8_balanceInsertion_218 : decode cJ8_balanceInsertion 218 = .ok (.aload_n 2, 1) := by decide +kernel
theorem dJ8_balanceInsertion_219 : decode cJ8_balanceInsertion 219 = .ok (.ifnull (-214), 3) := by decide +kernel
theorem dJ8_balanceInsertion_222 : decode cJ8_balanceInsertion 222 = .ok (.aload_n 2, 1) := by decide +kernel
theorem dJ8_balanceInsertion_223 : decode cJ8_balanceInsertion 223 = .ok (.iconst 0, 1) := by decide +kernel
theorem dJ8_balanceInsertion_224 : decode cJ8_balanceInsertion 224 = .ok (.putfield 93, 3) := by decide +kernel
theorem dJ8_balanceInsertion_227 : decode cJ8_balanceInsertion 227 = .ok (.aload_n 3, 1) := by decide +kernel
theorem dJ8_balanceInsertion_228 : decode cJ8_balanceInsertion 228 = .ok (.ifnull (-223), 3) := by decide +kernel
theorem dJ8_balanceInsertion_231 : decode cJ8_balanceInsertion 231 = .ok (.aload_n 3, 1) := by decide +kernel
theorem dJ8_balanceInsertion_232 : decode cJ8_balanceInsertion 232 = .ok (.iconst 1, 1) := by decide +kernel
theorem dJ8_balanceInsertion_233 : decode cJ8_balanceInsertion 233 = .ok (.putfield 93, 3) := by decide +kernel
theorem dJ8_balanceInsertion_236 : decode cJ8_balanceInsertion 236 = .ok (.aload_n 0, 1) := by decide +kernel
theorem dJ8_balanceInsertion_237 : decode cJ8_balanceInsertion 237 = .ok (.aload_n 3, 1) := by decide +kernel
theorem dJ8_balanceInsertion_238 : decode cJ8_balanceInsertion 238 = .ok (.invokestatic 130, 3) := by decide +kernel
theorem dJ8_balanceInsertion_241 : decode cJ8_balanceInsertion 241 = .ok (.astore_n 0, 1) := by decide +kernel
theorem dJ8_balanceInsertion_242 : decode cJ8_balanceInsertion 242 = .ok (.goto (-237), 3) := by decide +kernel
abbrev cJ8_rotateLeft : ByteArray := prog_33_method_12_code
def yJ8_rotateLeft : MethodName := ⟨RJ8, "rotateLeft", "(Ljava/util/HashMap$TreeNode;Ljava/util/HashMap$TreeNode;)Ljava/util/HashMap$TreeNode;"⟩
theorem dJ8_rotateLeft_0 : decode cJ8_rotateLeft 0 = .ok (.aload_n 1, 1) := by decide +kernel
theorem dJ8_rotateLeft_1 : decode cJ8_rotateLeft 1 = .ok (.ifnull 88, 3) := by decide +kernel
theorem dJ8_rotateLeft_4 : decode cJ8_rotateLeft 4 = .ok (.aload_n 1, 1) := by decide +kernel
theorem dJ8_rotateLeft_5 : decode cJ8_rotateLeft 5 = .ok (.getfield 42, 3) := by decide +kernel
theorem dJ8_rotateLeft_8 : decode cJ8_rotateLeft 8 = .ok (.dup, 1) := by decide +kernel
theorem dJ8_rotateLeft_9 : decode cJ8_rotateLeft 9 = .ok (.astore_n 2, 1) := by decide +kernel
theorem dJ8_rotateLeft_10 : decode cJ8_rotateLeft 10 = .ok (.ifnull 79, 3) := by decide +kernel
theorem dJ8_rotateLeft_13 : decode cJ8_rotateLeft 13 = .ok (.aload_n 1, 1) := by decide +kernel
theorem dJ8_rotateLeft_14 : decode cJ8_rotateLeft 14 = .ok (.aload_n 2, 1) := by decide +kernel
theorem dJ8_rotateLeft_15 : decode cJ8_rotateLeft 15 = .ok (.getfield 39, 3) := by decide +kernel
theorem dJ8_rotateLeft_18 : decode cJ8_rotateLeft 18 = .ok (.dup_x1, 1) := by decide +kernel
theorem dJ8_rotateLeft_19 : decode cJ8_rotateLeft 19 = .ok (.putfield 42, 3) := by decide +kernel
theorem dJ8_rotateLeft_22 : decode cJ8_rotateLeft 22 = .ok (.dup, 1) := by decide +kernel
theorem dJ8_rotateLeft_23 : decode cJ8_rotateLeft 23 = .ok (.astore 4, 2) := by decide +kernel
theorem dJ8_rotateLeft_25 : decode cJ8_rotateLeft 25 = .ok (.ifnull 9, 3) := by decide +kernel
theorem dJ8_rotateLeft_28 : decode cJ8_rotateLeft 28 = .ok (.aload 4, 2) := by decide +kernel
theorem dJ8_rotateLeft_30 : decode cJ8_rotateLeft 30 = .ok (.aload_n 1, 1) := by decide +kernel
theorem dJ8_rotateLeft_31 : decode cJ8_rotateLeft 31 = .ok (.putfield 9, 3) := by decide +kernel
theorem dJ8_rotateLeft_34 : decode cJ8_rotateLeft 34 = .ok (.aload_n 2, 1) := by decide +kernel
theorem dJ8_rotateLeft_35 : decode cJ8_rotateLeft 35 = .ok (.aload_n 1, 1) := by decide +kernel
theorem dJ8_rotateLeft_36 : decode cJ8_rotateLeft 36 = .ok (.getfield 9, 3) := by decide +kernel
theorem dJ8_rotateLeft_39 : decode cJ8_rotateLeft 39 = .ok (.dup_x1, 1) := by decide +kernel
theorem dJ8_rotateLeft_40 : decode cJ8_rotateLeft 40 = .ok (.putfield 9, 3) := by decide +kernel
theorem dJ8_rotateLeft_43 : decode cJ8_rotateLeft 43 = .ok (.dup, 1) := by decide +kernel
theorem dJ8_rotateLeft_44 : decode cJ8_rotateLeft 44 = .ok (.astore_n 3, 1) := by decide +kernel
theorem dJ8_rotateLeft_45 : decode cJ8_rotateLeft 45 = .ok (.ifnonnull 13, 3) := by decide +kernel
theorem dJ8_rotateLeft_48 : decode cJ8_rotateLeft 48 = .ok (.aload_n 2, 1) := by decide +kernel
theorem dJ8_rotateLeft_49 : decode cJ8_rotateLeft 49 = .ok (.dup, 1) := by decide +kernel
theorem dJ8_rotateLeft_50 : decode cJ8_rotateLeft 50 = .ok (.astore_n 0, 1) := by decide +kernel
theorem dJ8_rotateLeft_51 : decode cJ8_rotateLeft 51 = .ok (.iconst 0, 1) := by decide +kernel
theorem dJ8_rotateLeft_52 : decode cJ8_rotateLeft 52 = .ok (.putfield 93, 3) := by decide +kernel
theorem dJ8_rotateLeft_55 : decode cJ8_rotateLeft 55 = .ok (.goto 24, 3) := by decide +kernel
theorem dJ8_rotateLeft_58 : decode cJ8_rotateLeft 58 = .ok (.aload_n 3, 1) := by decide +kernel
theorem dJ8_rotateLeft_59 : decode cJ8_rotateLeft 59 = .ok (.getfield 39, 3) := by decide +kernel
theorem dJ8_rotateLeft_62 : decode cJ8_rotateLeft 62 = .ok (.aload_n 1, 1) := by decide +kernel
theorem dJ8_rotateLeft_63 : decode cJ8_rotateLeft 63 = .ok (.if_acmp .ne 11, 3) := by decide +kernel
theorem dJ8_rotateLeft_66 : decode cJ8_rotateLeft 66 = .ok (.aload_n 3, 1) := by decide +kernel
theorem dJ8_rotateLeft_67 : decode cJ8_rotateLeft 67 = .ok (.aload_n 2, 1) := by decide +kernel
theorem dJ8_rotateLeft_68 : decode cJ8_rotateLeft 68 = .ok (.putfield 39, 3) := by decide +kernel
theorem dJ8_rotateLeft_71 : decode cJ8_rotateLeft 71 = .ok (.goto 8, 3) := by decide +kernel
theorem dJ8_rotateLeft_74 : decode cJ8_rotateLeft 74 = .ok (.aload_n 3, 1) := by decide +kernel
theorem dJ8_rotateLeft_75 : decode cJ8_rotateLeft 75 = .ok (.aload_n 2, 1) := by decide +kernel
theorem dJ8_rotateLeft_76 : decode cJ8_rotateLeft 76 = .ok (.putfield 42, 3) := by decide +kernel
theorem dJ8_rotateLeft_79 : decode cJ8_rotateLeft 79 = .ok (.aload_n 2, 1) := by decide +kernel
theorem dJ8_rotateLeft_80 : decode cJ8_rotateLeft 80 = .ok (.aload_n 1, 1) := by decide +kernel
theorem dJ8_rotateLeft_81 : decode cJ8_rotateLeft 81 = .ok (.putfield 39, 3) := by decide +kernel
theorem dJ8_rotateLeft_84 : decode cJ8_rotateLeft 84 = .ok (.aload_n 1, 1) := by decide +kernel
theorem dJ8_rotateLeft_85 : decode cJ8_rotateLeft 85 = .ok (.aload_n 2, 1) := by decide +kernel
theorem dJ8_rotateLeft_86 : decode cJ8_rotateLeft 86 = .ok (.putfield 9, 3) := by decide +kernel
theorem dJ8_rotateLeft_89 : decode cJ8_rotateLeft 89 = .ok (.aload_n 0, 1) := by decide +kernel
theorem dJ8_rotateLeft_90 : decode cJ8_rotateLeft 90 = .ok (.areturn, 1) := by decide +kernel
abbrev cJ8_rotateRight : ByteArray := prog_33_method_13_code
def yJ8_rotateRight : MethodName := ⟨RJ8, "rotateRight", "(Ljava/util/HashMap$TreeNode;Ljava/util/HashMap$TreeNode;)Ljava/util/HashMap$TreeNode;"⟩
theorem dJ8_rotateRight_0 : decode cJ8_rotateRight 0 = .ok (.aload_n 1, 1) := by decide +kernel
theorem dJ8_rotateRight_1 : decode cJ8_rotateRight 1 = .ok (.ifnull 88, 3) := by decide +kernel
theorem dJ8_rotateRight_4 : decode cJ8_rotateRight 4 = .ok (.aload_n 1, 1) := by decide +kernel
theorem dJ8_rotateRight_5 : decode cJ8_rotateRight 5 = .ok (.getfield 39, 3) := by decide +kernel
theorem dJ8_rotateRight_8 : decode cJ8_rotateRight 8 = .ok (.dup, 1) := by decide +kernel
theorem dJ8_rotateRight_9 : decode cJ8_rotateRight 9 = .ok (.astore_n 2, 1) := by decide +kernel
theorem dJ8_rotateRight_10 : decode cJ8_rotateRight 10 = .ok (.ifnull 79, 3) := by decide +kernel
theorem dJ8_rotateRight_13 : decode cJ8_rotateRight 13 = .ok (.aload_n 1, 1) := by decide +kernel
theorem dJ8_rotateRight_14 : decode cJ8_rotateRight 14 = .ok (.aload_n 2, 1) := by decide +kernel
theorem dJ8_rotateRight_15 : decode cJ8_rotateRight 15 = .ok (.getfield 42, 3) := by decide +kernel
theorem dJ8_rotateRight_18 : decode cJ8_rotateRight 18 = .ok (.dup_x1, 1) := by decide +kernel
theorem dJ8_rotateRight_19 : decode cJ8_rotateRight 19 = .ok (.putfield 39, 3) := by decide +kernel
theorem dJ8_rotateRight_22 : decode cJ8_rotateRight 22 = .ok (.dup, 1) := by decide +kernel
theorem dJ8_rotateRight_23 : decode cJ8_rotateRight 23 = .ok (.astore 4, 2) := by decide +kernel
theorem dJ8_rotateRight_25 : decode cJ8_rotateRight 25 = .ok (.ifnull 9, 3) := by decide +kernel
theorem dJ8_rotateRight_28 : decode cJ8_rotateRight 28 = .ok (.aload 4, 2) := by decide +kernel
theorem dJ8_rotateRight_30 : decode cJ8_rotateRight 30 = .ok (.aload_n 1, 1) := by decide +kernel
theorem dJ8_rotateRight_31 : decode cJ8_rotateRight 31 = .ok (.putfield 9, 3) := by decide +kernel
theorem dJ8_rotateRight_34 : decode cJ8_rotateRight 34 = .ok (.aload_n 2, 1) := by decide +kernel
theorem dJ8_rotateRight_35 : decode cJ8_rotateRight 35 = .ok (.aload_n 1, 1) := by decide +kernel
theorem dJ8_rotateRight_36 : decode cJ8_rotateRight 36 = .ok (.getfield 9, 3) := by decide +kernel
theorem dJ8_rotateRight_39 : decode cJ8_rotateRight 39 = .ok (.dup_x1, 1) := by decide +kernel
theorem dJ8_rotateRight_40 : decode cJ8_rotateRight 40 = .ok (.putfield 9, 3) := by decide +kernel
theorem dJ8_rotateRight_43 : decode cJ8_rotateRight 43 = .ok (.dup, 1) := by decide +kernel
theorem dJ8_rotateRight_44 : decode cJ8_rotateRight 44 = .ok (.astore_n 3, 1) := by decide +kernel
theorem dJ8_rotateRight_45 : decode cJ8_rotateRight 45 = .ok (.ifnonnull 13, 3) := by decide +kernel
theorem dJ8_rotateRight_48 : decode cJ8_rotateRight 48 = .ok (.aload_n 2, 1) := by decide +kernel
theorem dJ8_rotateRight_49 : decode cJ8_rotateRight 49 = .ok (.dup, 1) := by decide +kernel
theorem dJ8_rotateRight_50 : decode cJ8_rotateRight 50 = .ok (.astore_n 0, 1) := by decide +kernel
theorem dJ8_rotateRight_51 : decode cJ8_rotateRight 51 = .ok (.iconst 0, 1) := by decide +kernel
theorem dJ8_rotateRight_52 : decode cJ8_rotateRight 52 = .ok (.putfield 93, 3) := by decide +kernel
theorem dJ8_rotateRight_55 : decode cJ8_rotateRight 55 = .ok (.goto 24, 3) := by decide +kernel
theorem dJ8_rotateRight_58 : decode cJ8_rotateRight 58 = .ok (.aload_n 3, 1) := by decide +kernel
theorem dJ8_rotateRight_59 : decode cJ8_rotateRight 59 = .ok (.getfield 42, 3) := by decide +kernel
theorem dJ8_rotateRight_62 : decode cJ8_rotateRight 62 = .ok (.aload_n 1, 1) := by decide +kernel
theorem dJ8_rotateRight_63 : decode cJ8_rotateRight 63 = .ok (.if_acmp .ne 11, 3) := by decide +kernel
theorem dJ8_rotateRight_66 : decode cJ8_rotateRight 66 = .ok (.aload_n 3, 1) := by decide +kernel
theorem dJ8_rotateRight_67 : decode cJ8_rotateRight 67 = .ok (.aload_n 2, 1) := by decide +kernel
theorem dJ8_rotateRight_68 : decode cJ8_rotateRight 68 = .ok (.putfield 42, 3) := by decide +kernel
theorem dJ8_rotateRight_71 : decode cJ8_rotateRight 71 = .ok (.goto 8, 3) := by decide +kernel
theorem dJ8_rotateRight_74 : decode cJ8_rotateRight 74 = .ok (.aload_n 3, 1) := by decide +kernel
theorem dJ8_rotateRight_75 : decode cJ8_rotateRight 75 = .ok (.aload_n 2, 1) := by decide +kernel
theorem dJ8_rotateRight_76 : decode cJ8_rotateRight 76 = .ok (.putfield 39, 3) := by decide +kernel
theorem dJ8_rotateRight_79 : decode cJ8_rotateRight 79 = .ok (.aload_n 2, 1) := by decide +kernel
theorem dJ8_rotateRight_80 : decode cJ8_rotateRight 80 = .ok (.aload_n 1, 1) := by decide +kernel
theorem dJ8_rotateRight_81 : decode cJ8_rotateRight 81 = .ok (.putfield 42, 3) := by decide +kernel
theorem dJ8_rotateRight_84 : decode cJ8_rotateRight 84 = .ok (.aload_n 1, 1) := by decide +kernel
theorem dJ8_rotateRight_85 : decode cJ8_rotateRight 85 = .ok (.aload_n 2, 1) := by decide +kernel
theorem dJ8_rotateRight_86 : decode cJ8_rotateRight 86 = .ok (.putfield 9, 3) := by decide +kernel
theorem dJ8_rotateRight_89 : decode cJ8_rotateRight 89 = .ok (.aload_n 0, 1) := by decide +kernel
theorem dJ8_rotateRight_90 : decode cJ8_rotateRight 90 = .ok (.areturn, 1) := by decide +kernel
abbrev cJ8_moveRootToFront : ByteArray := prog_33_method_3_code
def yJ8_moveRootToFront : MethodName := ⟨RJ8, "moveRootToFront", "([Ljava/util/HashMap$Node;Ljava/util/HashMap$TreeNode;)V"⟩
theorem dJ8_moveRootToFront_0 : decode cJ8_moveRootToFront 0 = .ok (.aload_n 1, 1) := by decide +kernel
theorem dJ8_moveRootToFront_1 : decode cJ8_moveRootToFront 1 = .ok (.ifnull 122, 3) := by decide +kernel
theorem dJ8_moveRootToFront_4 : decode cJ8_moveRootToFront 4 = .ok (.aload_n 0, 1) := by decide +kernel
theorem dJ8_moveRootToFront_5 : decode cJ8_moveRootToFront 5 = .ok (.ifnull 118, 3) := by decide +kernel
theorem dJ8_moveRootToFront_8 : decode cJ8_moveRootToFront 8 = .ok (.aload_n 0, 1) := by decide +kernel
theorem dJ8_moveRootToFront_9 : decode cJ8_moveRootToFront 9 = .ok (.arraylength, 1) := by decide +kernel
theorem dJ8_moveRootToFront_10 : decode cJ8_moveRootToFront 10 = .ok (.dup, 1) := by decide +kernel
theorem dJ8_moveRootToFront_11 : decode cJ8_moveRootToFront 11 = .ok (.istore_n 2, 1) := by decide +kernel
theorem dJ8_moveRootToFront_12 : decode cJ8_moveRootToFront 12 = .ok (.ifCond .le 111, 3) := by decide +kernel
theorem dJ8_moveRootToFront_15 : decode cJ8_moveRootToFront 15 = .ok (.iload_n 2, 1) := by decide +kernel
theorem dJ8_moveRootToFront_16 : decode cJ8_moveRootToFront 16 = .ok (.iconst 1, 1) := by decide +kernel
theorem dJ8_moveRootToFront_17 : decode cJ8_moveRootToFront 17 = .ok (.isub, 1) := by decide +kernel
theorem dJ8_moveRootToFront_18 : decode cJ8_moveRootToFront 18 = .ok (.aload_n 1, 1) := by decide +kernel
theorem dJ8_moveRootToFront_19 : decode cJ8_moveRootToFront 19 = .ok (.getfield 15, 3) := by decide +kernel
theorem dJ8_moveRootToFront_22 : decode cJ8_moveRootToFront 22 = .ok (.iand, 1) := by decide +kernel
theorem dJ8_moveRootToFront_23 : decode cJ8_moveRootToFront 23 = .ok (.istore_n 3, 1) := by decide +kernel
theorem dJ8_moveRootToFront_24 : decode cJ8_moveRootToFront 24 = .ok (.aload_n 0, 1) := by decide +kernel
theorem dJ8_moveRootToFront_25 : decode cJ8_moveRootToFront 25 = .ok (.iload_n 3, 1) := by decide +kernel
theorem dJ8_moveRootToFront_26 : decode cJ8_moveRootToFront 26 = .ok (.aaload, 1) := by decide +kernel
theorem dJ8_moveRootToFront_27 : decode cJ8_moveRootToFront 27 = .ok (.checkcast 10, 3) := by decide +kernel
theorem dJ8_moveRootToFront_30 : decode cJ8_moveRootToFront 30 = .ok (.astore 4, 2) := by decide +kernel
theorem dJ8_moveRootToFront_32 : decode cJ8_moveRootToFront 32 = .ok (.aload_n 1, 1) := by decide +kernel
theorem dJ8_moveRootToFront_33 : decode cJ8_moveRootToFront 33 = .ok (.aload 4, 2) := by decide +kernel
theorem dJ8_moveRootToFront_35 : decode cJ8_moveRootToFront 35 = .ok (.if_acmp .eq 67, 3) := by decide +kernel
theorem dJ8_moveRootToFront_38 : decode cJ8_moveRootToFront 38 = .ok (.aload_n 0, 1) := by decide +kernel
theorem dJ8_moveRootToFront_39 : decode cJ8_moveRootToFront 39 = .ok (.iload_n 3, 1) := by decide +kernel
theorem dJ8_moveRootToFront_40 : decode cJ8_moveRootToFront 40 = .ok (.aload_n 1, 1) := by decide +kernel
theorem dJ8_moveRootToFront_41 : decode cJ8_moveRootToFront 41 = .ok (.aastore, 1) := by decide +kernel
theorem dJ8_moveRootToFront_42 : decode cJ8_moveRootToFront 42 = .ok (.aload_n 1, 1) := by decide +kernel
theorem dJ8_moveRootToFront_43 : decode cJ8_moveRootToFront 43 = .ok (.getfield 19, 3) := by decide +kernel
theorem dJ8_moveRootToFront_46 : decode cJ8_moveRootToFront 46 = .ok (.astore 6, 2) := by decide +kernel
theorem dJ8_moveRootToFront_48 : decode cJ8_moveRootToFront 48 = .ok (.aload_n 1, 1) := by decide +kernel
theorem dJ8_moveRootToFront_49 : decode cJ8_moveRootToFront 49 = .ok (.getfield 22, 3) := by decide +kernel
theorem dJ8_moveRootToFront_52 : decode cJ8_moveRootToFront 52 = .ok (.dup, 1) := by decide +kernel
theorem dJ8_moveRootToFront_53 : decode cJ8_moveRootToFront 53 = .ok (.astore 5, 2) := by decide +kernel
theorem dJ8_moveRootToFront_55 : decode cJ8_moveRootToFront 55 = .ok (.ifnull 13, 3) := by decide +kernel
theorem dJ8_moveRootToFront_58 : decode cJ8_moveRootToFront 58 = .ok (.aload 5, 2) := by decide +kernel
theorem dJ8_moveRootToFront_60 : decode cJ8_moveRootToFront 60 = .ok (.checkcast 10, 3) := by decide +kernel
theorem dJ8_moveRootToFront_63 : decode cJ8_moveRootToFront 63 = .ok (.aload 6, 2) := by decide +kernel
theorem dJ8_moveRootToFront_65 : decode cJ8_moveRootToFront 65 = .ok (.putfield 19, 3) := by decide +kernel
theorem dJ8_moveRootToFront_68 : decode cJ8_moveRootToFront 68 = .ok (.aload 6, 2) := by decide +kernel
theorem dJ8_moveRootToFront_70 : decode cJ8_moveRootToFront 70 = .ok (.ifnull 10, 3) := by decide +kernel
theorem dJ8_moveRootToFront_73 : decode cJ8_moveRootToFront 73 = .ok (.aload 6, 2) := by decide +kernel
theorem dJ8_moveRootToFront_75 : decode cJ8_moveRootToFront 75 = .ok (.aload 5, 2) := by decide +kernel
theorem dJ8_moveRootToFront_77 : decode cJ8_moveRootToFront 77 = .ok (.putfield 22, 3) := by decide +kernel
theorem dJ8_moveRootToFront_80 : decode cJ8_moveRootToFront 80 = .ok (.aload 4, 2) := by decide +kernel
theorem dJ8_moveRootToFront_82 : decode cJ8_moveRootToFront 82 = .ok (.ifnull 9, 3) := by decide +kernel
theorem dJ8_moveRootToFront_85 : decode cJ8_moveRootToFront 85 = .ok (.aload 4, 2) := by decide +kernel
theorem dJ8_moveRootToFront_87 : decode cJ8_moveRootToFront 87 = .ok (.aload_n 1, 1) := by decide +kernel
theorem dJ8_moveRootToFront_88 : decode cJ8_moveRootToFront 88 = .ok (.putfield 19, 3) := by decide +kernel
theorem dJ8_moveRootToFront_91 : decode cJ8_moveRootToFront 91 = .ok (.aload_n 1, 1) := by decide +kernel
theorem dJ8_moveRootToFront_92 : decode cJ8_moveRootToFront 92 = .ok (.aload 4, 2) := by decide +kernel
theorem dJ8_moveRootToFront_94 : decode cJ8_moveRootToFront 94 = .ok (.putfield 22, 3) := by decide +kernel
theorem dJ8_moveRootToFront_97 : decode cJ8_moveRootToFront 97 = .ok (.aload_n 1, 1) := by decide +kernel
theorem dJ8_moveRootToFront_98 : decode cJ8_moveRootToFront 98 = .ok (.aconst_null, 1) := by decide +kernel
theorem dJ8_moveRootToFront_99 : decode cJ8_moveRootToFront 99 = .ok (.putfield 19, 3) := by decide +kernel
theorem dJ8_moveRootToFront_102 : decode cJ8_moveRootToFront 102 = .ok (.getstatic 26, 3) := by decide +kernel
theorem dJ8_moveRootToFront_105 : decode cJ8_moveRootToFront 105 = .ok (.ifCond .ne 18, 3) := by decide +kernel
theorem dJ8_moveRootToFront_108 : decode cJ8_moveRootToFront 108 = .ok (.aload_n 1, 1) := by decide +kernel
theorem dJ8_moveRootToFront_109 : decode cJ8_moveRootToFront 109 = .ok (.invokestatic 30, 3) := by decide +kernel
theorem dJ8_moveRootToFront_112 : decode cJ8_moveRootToFront 112 = .ok (.ifCond .ne 11, 3) := by decide +kernel
theorem dJ8_moveRootToFront_115 : decode cJ8_moveRootToFront 115 = .ok (.new 34, 3) := by decide +kernel
theorem dJ8_moveRootToFront_118 : decode cJ8_moveRootToFront 118 = .ok (.dup, 1) := by decide +kernel
theorem dJ8_moveRootToFront_119 : decode cJ8_moveRootToFront 119 = .ok (.invokespecial 36, 3) := by decide +kernel
theorem dJ8_moveRootToFront_122 : decode cJ8_moveRootToFront 122 = .ok (.athrow, 1) := by decide +kernel
theorem dJ8_moveRootToFront_123 : decode cJ8_moveRootToFront 123 = .ok (.return_, 1) := by decide +kernel
abbrev cJ8_putTreeVal : ByteArray := prog_33_method_9_code
def yJ8_putTreeVal : MethodName := ⟨RJ8, "putTreeVal", "(Ljava/util/HashMap;[Ljava/util/HashMap$Node;ILjava/lang/Object;Ljava/lang/Object;)Ljava/util/HashMap$TreeNode;"⟩
theorem dJ8_putTreeVal_0 : decode cJ8_putTreeVal 0 = .ok (.aconst_null, 1) := by decide +kernel
theorem dJ8_putTreeVal_1 : decode cJ8_putTreeVal 1 = .ok (.astore 6, 2) := by decide +kernel
theorem dJ8_putTreeVal_3 : decode cJ8_putTreeVal 3 = .ok (.iconst 0, 1) := by decide +kernel
theorem dJ8_putTreeVal_4 : decode cJ8_putTreeVal 4 = .ok (.istore 7, 2) := by decide +kernel
theorem dJ8_putTreeVal_6 : decode cJ8_putTreeVal 6 = .ok (.aload_n 0, 1) := by decide +kernel
theorem dJ8_putTreeVal_7 : decode cJ8_putTreeVal 7 = .ok (.getfield 9, 3) := by decide +kernel
theorem dJ8_putTreeVal_10 : decode cJ8_putTreeVal 10 = .ok (.ifnull 10, 3) := by decide +kernel
theorem dJ8_putTreeVal_13 : decode cJ8_putTreeVal 13 = .ok (.aload_n 0, 1) := by decide +kernel
theorem dJ8_putTreeVal_14 : decode cJ8_putTreeVal 14 = .ok (.invokevirtual 67, 3) := by decide +kernel
theorem dJ8_putTreeVal_17 : decode cJ8_putTreeVal 17 = .ok (.goto 4, 3) := by decide +kernel
theorem dJ8_putTreeVal_20 : decode cJ8_putTreeVal 20 = .ok (.aload_n 0, 1) := by decide +kernel
theorem dJ8_putTreeVal_21 : decode cJ8_putTreeVal 21 = .ok (.astore 8, 2) := by decide +kernel
theorem dJ8_putTreeVal_23 : decode cJ8_putTreeVal 23 = .ok (.aload 8, 2) := by decide +kernel
theorem dJ8_putTreeVal_25 : decode cJ8_putTreeVal 25 = .ok (.astore 9, 2) := by decide +kernel
theorem dJ8_putTreeVal_27 : decode cJ8_putTreeVal 27 = .ok (.aload 9, 2) := by decide +kernel
theorem dJ8_putTreeVal_29 : decode cJ8_putTreeVal 29 = .ok (.getfield 15, 3) := by decide +kernel
theorem dJ8_putTreeVal_32 : decode cJ8_putTreeVal 32 = .ok (.dup, 1) := by decide +kernel
theorem dJ8_putTreeVal_33 : decode cJ8_putTreeVal 33 = .ok (.istore 11, 2) := by decide +kernel
theorem dJ8_putTreeVal_35 : decode cJ8_putTreeVal 35 = .ok (.iload_n 3, 1) := by decide +kernel
theorem dJ8_putTreeVal_36 : decode cJ8_putTreeVal 36 = .ok (.if_icmp .le 9, 3) := by decide +kernel
theorem dJ8_putTreeVal_39 : decode cJ8_putTreeVal 39 = .ok (.iconst (-1), 1) := by decide +kernel
theorem dJ8_putTreeVal_40 : decode cJ8_putTreeVal 40 = .ok (.istore 10, 2) := by decide +kernel
theorem dJ8_putTreeVal_42 : decode cJ8_putTreeVal 42 = .ok (.goto 151, 3) := by decide +kernel
theorem dJ8_putTreeVal_45 : decode cJ8_putTreeVal 45 = .ok (.iload 11, 2) := by decide +kernel
theorem dJ8_putTreeVal_47 : decode cJ8_putTreeVal 47 = .ok (.iload_n 3, 1) := by decide +kernel
theorem dJ8_putTreeVal_48 : decode cJ8_putTreeVal 48 = .ok (.if_icmp .ge 9, 3) := by decide +kernel
theorem dJ8_putTreeVal_51 : decode cJ8_putTreeVal 51 = .ok (.iconst 1, 1) := by decide +kernel
theorem dJ8_putTreeVal_52 : decode cJ8_putTreeVal 52 = .ok (.istore 10, 2) := by decide +kernel
theorem dJ8_putTreeVal_54 : decode cJ8_putTreeVal 54 = .ok (.goto 139, 3) := by decide +kernel
theorem dJ8_putTreeVal_57 : decode cJ8_putTreeVal 57 = .ok (.aload 9, 2) := by decide +kernel
theorem dJ8_putTreeVal_59 : decode cJ8_putTreeVal 59 = .ok (.getfield 45, 3) := by decide +kernel
theorem dJ8_putTreeVal_62 : decode cJ8_putTreeVal 62 = .ok (.dup, 1) := by decide +kernel
theorem dJ8_putTreeVal_63 : decode cJ8_putTreeVal 63 = .ok (.astore 12, 2) := by decide +kernel
theorem dJ8_putTreeVal_65 : decode cJ8_putTreeVal 65 = .ok (.aload 4, 2) := by decide +kernel
theorem dJ8_putTreeVal_67 : decode cJ8_putTreeVal 67 = .ok (.if_acmp .eq 18, 3) := by decide +kernel
theorem dJ8_putTreeVal_70 : decode cJ8_putTreeVal 70 = .ok (.aload 4, 2) := by decide +kernel
theorem dJ8_putTreeVal_72 : decode cJ8_putTreeVal 72 = .ok (.ifnull 16, 3) := by decide +kernel
theorem dJ8_putTreeVal_75 : decode cJ8_putTreeVal 75 = .ok (.aload 4, 2) := by decide +kernel
theorem dJ8_putTreeVal_77 : decode cJ8_putTreeVal 77 = .ok (.aload 12, 2) := by decide +kernel
theorem dJ8_putTreeVal_79 : decode cJ8_putTreeVal 79 = .ok (.invokevirtual 49, 3) := by decide +kernel
theorem dJ8_putTreeVal_82 : decode cJ8_putTreeVal 82 = .ok (.ifCond .eq 6, 3) := by decide +kernel
theorem dJ8_putTreeVal_85 : decode cJ8_putTreeVal 85 = .ok (.aload 9, 2) := by decide +kernel
theorem dJ8_putTreeVal_87 : decode cJ8_putTreeVal 87 = .ok (.areturn, 1) := by decide +kernel
theorem dJ8_putTreeVal_88 : decode cJ8_putTreeVal 88 = .ok (.aload 6, 2) := by decide +kernel
theorem dJ8_putTreeVal_90 : decode cJ8_putTreeVal 90 = .ok (.ifnonnull 14, 3) := by decide +kernel
theorem dJ8_putTreeVal_93 : decode cJ8_putTreeVal 93 = .ok (.aload 4, 2) := by decide +kernel
theorem dJ8_putTreeVal_95 : decode cJ8_putTreeVal 95 = .ok (.invokestatic 55, 3) := by decide +kernel
theorem dJ8_putTreeVal_98 : decode cJ8_putTreeVal 98 = .ok (.dup, 1) := by decide +kernel
theorem dJ8_putTreeVal_99 : decode cJ8_putTreeVal 99 = .ok (.astore 6, 2) := by decide +kernel
theorem dJ8_putTreeVal_101 : decode cJ8_putTreeVal 101 = .ok (.ifnull 18, 3) := by decide +kernel
theorem dJ8_putTreeVal_104 : decode cJ8_putTreeVal 104 = .ok (.aload 6, 2) := by decide +kernel
theorem dJ8_putTreeVal_106 : decode cJ8_putTreeVal 106 = .ok (.aload 4, 2) := by decide +kernel
theorem dJ8_putTreeVal_108 : decode cJ8_putTreeVal 108 = .ok (.aload 12, 2) := by decide +kernel
theorem dJ8_putTreeVal_110 : decode cJ8_putTreeVal 110 = .ok (.invokestatic 59, 3) := by decide +kernel
theorem dJ8_putTreeVal_113 : decode cJ8_putTreeVal 113 = .ok (.dup, 1) := by decide +kernel
theorem dJ8_putTreeVal_114 : decode cJ8_putTreeVal 114 = .ok (.istore 10, 2) := by decide +kernel
theorem dJ8_putTreeVal_116 : decode cJ8_putTreeVal 116 = .ok (.ifCond .ne 77, 3) := by decide +kernel
theorem dJ8_putTreeVal_119 : decode cJ8_putTreeVal 119 = .ok (.iload 7, 2) := by decide +kernel
theorem dJ8_putTreeVal_121 : decode cJ8_putTreeVal 121 = .ok (.ifCond .ne 63, 3) := by decide +kernel
theorem dJ8_putTreeVal_124 : decode cJ8_putTreeVal 124 = .ok (.iconst 1, 1) := by decide +kernel
theorem dJ8_putTreeVal_125 : decode cJ8_putTreeVal 125 = .ok (.istore 7, 2) := by decide +kernel
theorem dJ8_putTreeVal_127 : decode cJ8_putTreeVal 127 = .ok (.aload 9, 2) := by decide +kernel
theorem dJ8_putTreeVal_129 : decode cJ8_putTreeVal 129 = .ok (.getfield 39, 3) := by decide +kernel
theorem dJ8_putTreeVal_132 : decode cJ8_putTreeVal 132 = .ok (.dup, 1) := by decide +kernel
theorem dJ8_putTreeVal_133 : decode cJ8_putTreeVal 133 = .ok (.astore 14, 2) := by decide +kernel
theorem dJ8_putTreeVal_135 : decode cJ8_putTreeVal 135 = .ok (.ifnull 19, 3) := by decide +kernel
theorem dJ8_putTreeVal_138 : decode cJ8_putTreeVal 138 = .ok (.aload 14, 2) := by decide +kernel
theorem dJ8_putTreeVal_140 : decode cJ8_putTreeVal 140 = .ok (.iload_n 3, 1) := by decide +kernel
theorem dJ8_putTreeVal_141 : decode cJ8_putTreeVal 141 = .ok (.aload 4, 2) := by decide +kernel
theorem dJ8_putTreeVal_143 : decode cJ8_putTreeVal 143 = .ok (.aload 6, 2) := by decide +kernel
theorem dJ8_putTreeVal_145 : decode cJ8_putTreeVal 145 = .ok (.invokevirtual 63, 3) := by decide +kernel
theorem dJ8_putTreeVal_148 : decode cJ8_putTreeVal 148 = .ok (.dup, 1) := by decide +kernel
theorem dJ8_putTreeVal_149 : decode cJ8_putTreeVal 149 = .ok (.astore 13, 2) := by decide +kernel
theorem dJ8_putTreeVal_151 : decode cJ8_putTreeVal 151 = .ok (.ifnonnull 30, 3) := by decide +kernel
theorem dJ8_putTreeVal_154 : decode cJ8_putTreeVal 154 = .ok (.aload 9, 2) := by decide +kernel
theorem dJ8_putTreeVal_156 : decode cJ8_putTreeVal 156 = .ok (.getfield 42, 3) := by decide +kernel
theorem dJ8_putTreeVal_159 : decode cJ8_putTreeVal 159 = .ok (.dup, 1) := by decide +kernel
theorem dJ8_putTreeVal_160 : decode cJ8_putTreeVal 160 = .ok (.astore 14, 2) := by decide +kernel
theorem dJ8_putTreeVal_162 : decode cJ8_putTreeVal 162 = .ok (.ifnull 22, 3) := by decide +kernel
theorem dJ8_putTreeVal_165 : decode cJ8_putTreeVal 165 = .ok (.aload 14, 2) := by decide +kernel
theorem dJ8_putTreeVal_167 : decode cJ8_putTreeVal 167 = .ok (.iload_n 3, 1) := by decide +kernel
theorem dJ8_putTreeVal_168 : decode cJ8_putTreeVal 168 = .ok (.aload 4, 2) := by decide +kernel
theorem dJ8_putTreeVal_170 : decode cJ8_putTreeVal 170 = .ok (.aload 6, 2) := by decide +kernel
theorem dJ8_putTreeVal_172 : decode cJ8_putTreeVal 172 = .ok (.invokevirtual 63, 3) := by decide +kernel
theorem dJ8_putTreeVal_175 : decode cJ8_putTreeVal 175 = .ok (.dup, 1) := by decide +kernel
theorem dJ8_putTreeVal_176 : decode cJ8_putTreeVal 176 = .ok (.astore 13, 2) := by decide +kernel
theorem dJ8_putTreeVal_178 : decode cJ8_putTreeVal 178 = .ok (.ifnull 6, 3) := by decide +kernel
theorem dJ8_putTreeVal_181 : decode cJ8_putTreeVal 181 = .ok (.aload 13, 2) := by decide +kernel
theorem dJ8_putTreeVal_183 : decode cJ8_putTreeVal 183 = .ok (.areturn, 1) := by decide +kernel
theorem dJ8_putTreeVal_184 : decode cJ8_putTreeVal 184 = .ok (.aload 4, 2) := by decide +kernel
theorem dJ8_putTreeVal_186 : decode cJ8_putTreeVal 186 = .ok (.aload 12, 2) := by decide +kernel
theorem dJ8_putTreeVal_188 : decode cJ8_putTreeVal 188 = .ok (.invokestatic 96, 3) := by decide +kernel
theorem dJ8_putTreeVal_191 : decode cJ8_putTreeVal 191 = .ok (.istore 10, 2) := by decide +kernel
theorem dJ8_putTreeVal_193 : decode cJ8_putTreeVal 193 = .ok (.aload 9, 2) := by decide +kernel
theorem dJ8_putTreeVal_195 : decode cJ8_putTreeVal 195 = .ok (.astore 13, 2) := by decide +kernel
theorem dJ8_putTreeVal_197 : decode cJ8_putTreeVal 197 = .ok (.iload 10, 2) := by decide +kernel
theorem dJ8_putTreeVal_199 : decode cJ8_putTreeVal 199 = .ok (.ifCond .gt 11, 3) := by decide +kernel
theorem dJ8_putTreeVal_202 : decode cJ8_putTreeVal 202 = .ok (.aload 9, 2) := by decide +kernel
theorem dJ8_putTreeVal_204 : decode cJ8_putTreeVal 204 = .ok (.getfield 39, 3) := by decide +kernel
theorem dJ8_putTreeVal_207 : decode cJ8_putTreeVal 207 = .ok (.goto 8, 3) := by decide +kernel
theorem dJ8_putTreeVal_210 : decode cJ8_putTreeVal 210 = .ok (.aload 9, 2) := by decide +kernel
theorem dJ8_putTreeVal_212 : decode cJ8_putTreeVal 212 = .ok (.getfield 42, 3) := by decide +kernel
theorem dJ8_putTreeVal_215 : decode cJ8_putTreeVal 215 = .ok (.dup, 1) := by decide +kernel
theorem dJ8_putTreeVal_216 : decode cJ8_putTreeVal 216 = .ok (.astore 9, 2) := by decide +kernel
theorem dJ8_putTreeVal_218 : decode cJ8_putTreeVal 218 = .ok (.ifnonnull 93, 3) := by decide +kernel
theorem dJ8_putTreeVal_221 : decode cJ8_putTreeVal 221 = .ok (.aload 13, 2) := by decide +kernel
theorem dJ8_putTreeVal_223 : decode cJ8_putTreeVal 223 = .ok (.getfield 22, 3) := by decide +kernel
theorem dJ8_putTreeVal_226 : decode cJ8_putTreeVal 226 = .ok (.astore 14, 2) := by decide +kernel
theorem dJ8_putTreeVal_228 : decode cJ8_putTreeVal 228 = .ok (.aload_n 1, 1) := by decide +kernel
theorem dJ8_putTreeVal_229 : decode cJ8_putTreeVal 229 = .ok (.iload_n 3, 1) := by decide +kernel
theorem dJ8_putTreeVal_230 : decode cJ8_putTreeVal 230 = .ok (.aload 4, 2) := by decide +kernel
theorem dJ8_putTreeVal_232 : decode cJ8_putTreeVal 232 = .ok (.aload 5, 2) := by decide +kernel
theorem dJ8_putTreeVal_234 : decode cJ8_putTreeVal 234 = .ok (.aload 14, 2) := by decide +kernel
theorem dJ8_putTreeVal_236 : decode cJ8_putTreeVal 236 = .ok (.invokevirtual 115, 3) := by decide +kernel
theorem dJ8_putTreeVal_239 : decode cJ8_putTreeVal 239 = .ok (.astore 15, 2) := by decide +kernel
theorem dJ8_putTreeVal_241 : decode cJ8_putTreeVal 241 = .ok (.iload 10, 2) := by decide +kernel
theorem dJ8_putTreeVal_243 : decode cJ8_putTreeVal 243 = .ok (.ifCond .gt 13, 3) := by decide +kernel
theorem dJ8_putTreeVal_246 : decode cJ8_putTreeVal 246 = .ok (.aload 13, 2) := by decide +kernel
theorem dJ8_putTreeVal_248 : decode cJ8_putTreeVal 248 = .ok (.aload 15, 2) := by decide +kernel
theorem dJ8_putTreeVal_250 : decode cJ8_putTreeVal 250 = .ok (.putfield 39, 3) := by decide +kernel
theorem dJ8_putTreeVal_253 : decode cJ8_putTreeVal 253 = .ok (.goto 10, 3) := by decide +kernel
theorem dJ8_putTreeVal_256 : decode cJ8_putTreeVal 256 = .ok (.aload 13, 2) := by decide +kernel
theorem dJ8_putTreeVal_258 : decode cJ8_putTreeVal 258 = .ok (.aload 15, 2) := by decide +kernel
theorem dJ8_putTreeVal_260 : decode cJ8_putTreeVal 260 = .ok (.putfield 42, 3) := by decide +kernel
theorem dJ8_putTreeVal_263 : decode cJ8_putTreeVal 263 = .ok (.aload 13, 2) := by decide +kernel
theorem dJ8_putTreeVal_265 : decode cJ8_putTreeVal 265 = .ok (.aload 15, 2) := by decide +kernel
theorem dJ8_putTreeVal_267 : decode cJ8_putTreeVal 267 = .ok (.putfield 22, 3) := by decide +kernel
theorem dJ8_putTreeVal_270 : decode cJ8_putTreeVal 270 = .ok (.aload 15, 2) := by decide +kernel
theorem dJ8_putTreeVal_272 : decode cJ8_putTreeVal 272 = .ok (.aload 15, 2) := by decide +kernel
theorem dJ8_putTreeVal_274 : decode cJ8_putTreeVal 274 = .ok (.aload 13, 2) := by decide +kernel
theorem dJ8_putTreeVal_276 : decode cJ8_putTreeVal 276 = .ok (.dup_x1, 1) := by decide +kernel
theorem dJ8_putTreeVal_277 : decode cJ8_putTreeVal 277 = .ok (.putfield 19, 3) := by decide +kernel
theorem dJ8_putTreeVal_280 : decode cJ8_putTreeVal 280 = .ok (.putfield 9, 3) := by decide +kernel
theorem dJ8_putTreeVal_283 : decode cJ8_putTreeVal 283 = .ok (.aload 14, 2) := by decide +kernel
theorem dJ8_putTreeVal_285 : decode cJ8_putTreeVal 285 = .ok (.ifnull 13, 3) := by decide +kernel
theorem dJ8_putTreeVal_288 : decode cJ8_putTreeVal 288 = .ok (.aload 14, 2) := by decide +kernel
theorem dJ8_putTreeVal_290 : decode cJ8_putTreeVal 290 = .ok (.checkcast 10, 3) := by decide +kernel
theorem dJ8_putTreeVal_293 : decode cJ8_putTreeVal 293 = .ok (.aload 15, 2) := by decide +kernel
theorem dJ8_putTreeVal_295 : decode cJ8_putTreeVal 295 = .ok (.putfield 19, 3) := by decide +kernel
theorem dJ8_putTreeVal_298 : decode cJ8_putTreeVal 298 = .ok (.aload_n 2, 1) := by decide +kernel
theorem dJ8_putTreeVal_299 : decode cJ8_putTreeVal 299 = .ok (.aload 8, 2) := by decide +kernel
theorem dJ8_putTreeVal_301 : decode cJ8_putTreeVal 301 = .ok (.aload 15, 2) := by decide +kernel
theorem dJ8_putTreeVal_303 : decode cJ8_putTreeVal 303 = .ok (.invokestatic 100, 3) := by decide +kernel
theorem dJ8_putTreeVal_306 : decode cJ8_putTreeVal 306 = .ok (.invokestatic 104, 3) := by decide +kernel
theorem dJ8_putTreeVal_309 : decode cJ8_putTreeVal 309 = .ok (.aconst_null, 1) := by decide +kernel
theorem dJ8_putTreeVal_310 : decode cJ8_putTreeVal 310 = .ok (.areturn, 1) := by decide +kernel
theorem dJ8_putTreeVal_311 : decode cJ8_putTreeVal 311 = .ok (.goto (-284), 3) := by decide +kernel
abbrev cJ8_root : ByteArray := prog_33_method_2_code
def yJ8_root : MethodName := ⟨RJ8, "root", "()Ljava/util/HashMap$TreeNode;"⟩
theorem dJ8_root_0 : decode cJ8_root 0 = .ok (.aload_n 0, 1) := by decide +kernel
theorem dJ8_root_1 : decode cJ8_root 1 = .ok (.astore_n 1, 1) := by decide +kernel
theorem dJ8_root_2 : decode cJ8_root 2 = .ok (.aload_n 1, 1) := by decide +kernel
theorem dJ8_root_3 : decode cJ8_root 3 = .ok (.getfield 9, 3) := by decide +kernel
theorem dJ8_root_6 : decode cJ8_root 6 = .ok (.dup, 1) := by decide +kernel
theorem dJ8_root_7 : decode cJ8_root 7 = .ok (.astore_n 2, 1) := by decide +kernel
theorem dJ8_root_8 : decode cJ8_root 8 = .ok (.ifnonnull 5, 3) := by decide +kernel
theorem dJ8_root_11 : decode cJ8_root 11 = .ok (.aload_n 1, 1) := by decide +kernel
theorem dJ8_root_12 : decode cJ8_root 12 = .ok (.areturn, 1) := by decide +kernel
theorem dJ8_root_13 : decode cJ8_root 13 = .ok (.aload_n 2, 1) := by decide +kernel
theorem dJ8_root_14 : decode cJ8_root 14 = .ok (.astore_n 1, 1) := by decide +kernel
theorem dJ8_root_15 : decode cJ8_root 15 = .ok (.goto (-13), 3) := by decide +kernel
abbrev cJ8_find : ByteArray := prog_33_method_4_code
def yJ8_find : MethodName := ⟨RJ8, "find", "(ILjava/lang/Object;Ljava/lang/Class;)Ljava/util/HashMap$TreeNode;"⟩
theorem dJ8_find_0 : decode cJ8_find 0 = .ok (.aload_n 0, 1) := by decide +kernel
theorem dJ8_find_1 : decode cJ8_find 1 = .ok (.astore 4, 2) := by decide +kernel
theorem dJ8_find_3 : decode cJ8_find 3 = .ok (.aload 4, 2) := by decide +kernel
theorem dJ8_find_5 : decode cJ8_find 5 = .ok (.getfield 39, 3) := by decide +kernel
theorem dJ8_find_8 : decode cJ8_find 8 = .ok (.astore 8, 2) := by decide +kernel
theorem dJ8_find_10 : decode cJ8_find 10 = .ok (.aload 4, 2) := by decide +kernel
theorem dJ8_find_12 : decode cJ8_find 12 = .ok (.getfield 42, 3) := by decide +kernel
theorem dJ8_find_15 : decode cJ8_find 15 = .ok (.astore 9, 2) := by decide +kernel
theorem dJ8_find_17 : decode cJ8_find 17 = .ok (.aload 4, 2) := by decide +kernel
theorem dJ8_find_19 : decode cJ8_find 19 = .ok (.getfield 15, 3) := by decide +kernel
theorem dJ8_find_22 : decode cJ8_find 22 = .ok (.dup, 1) := by decide +kernel
theorem dJ8_find_23 : decode cJ8_find 23 = .ok (.istore 5, 2) := by decide +kernel
theorem dJ8_find_25 : decode cJ8_find 25 = .ok (.iload_n 1, 1) := by decide +kernel
theorem dJ8_find_26 : decode cJ8_find 26 = .ok (.if_icmp .le 10, 3) := by decide +kernel
theorem dJ8_find_29 : decode cJ8_find 29 = .ok (.aload 8, 2) := by decide +kernel
theorem dJ8_find_31 : decode cJ8_find 31 = .ok (.astore 4, 2) := by decide +kernel
theorem dJ8_find_33 : decode cJ8_find 33 = .ok (.goto 132, 3) := by decide +kernel
theorem dJ8_find_36 : decode cJ8_find 36 = .ok (.iload 5, 2) := by decide +kernel
theorem dJ8_find_38 : decode cJ8_find 38 = .ok (.iload_n 1, 1) := by decide +kernel
theorem dJ8_find_39 : decode cJ8_find 39 = .ok (.if_icmp .ge 10, 3) := by decide +kernel
theorem dJ8_find_42 : decode cJ8_find 42 = .ok (.aload 9, 2) := by decide +kernel
theorem dJ8_find_44 : decode cJ8_find 44 = .ok (.astore 4, 2) := by decide +kernel
theorem dJ8_find_46 : decode cJ8_find 46 = .ok (.goto 119, 3) := by decide +kernel
theorem dJ8_find_49 : decode cJ8_find 49 = .ok (.aload 4, 2) := by decide +kernel
theorem dJ8_find_51 : decode cJ8_find 51 = .ok (.getfield 45, 3) := by decide +kernel
theorem dJ8_find_54 : decode cJ8_find 54 = .ok (.dup, 1) := by decide +kernel
theorem dJ8_find_55 : decode cJ8_find 55 = .ok (.astore 7, 2) := by decide +kernel
theorem dJ8_find_57 : decode cJ8_find 57 = .ok (.aload_n 2, 1) := by decide +kernel
theorem dJ8_find_58 : decode cJ8_find 58 = .ok (.if_acmp .eq 16, 3) := by decide +kernel
theorem dJ8_find_61 : decode cJ8_find 61 = .ok (.aload_n 2, 1) := by decide +kernel
theorem dJ8_find_62 : decode cJ8_find 62 = .ok (.ifnull 15, 3) := by decide +kernel
theorem dJ8_find_65 : decode cJ8_find 65 = .ok (.aload_n 2, 1) := by decide +kernel
theorem dJ8_find_66 : decode cJ8_find 66 = .ok (.aload 7, 2) := by decide +kernel
theorem dJ8_find_68 : decode cJ8_find 68 = .ok (.invokevirtual 49, 3) := by decide +kernel
theorem dJ8_find_71 : decode cJ8_find 71 = .ok (.ifCond .eq 6, 3) := by decide +kernel
theorem dJ8_find_74 : decode cJ8_find 74 = .ok (.aload 4, 2) := by decide +kernel
theorem dJ8_find_76 : decode cJ8_find 76 = .ok (.areturn, 1) := by decide +kernel
theorem dJ8_find_77 : decode cJ8_find 77 = .ok (.aload 8, 2) := by decide +kernel
theorem dJ8_find_79 : decode cJ8_find 79 = .ok (.ifnonnull 10, 3) := by decide +kernel
theorem dJ8_find_82 : decode cJ8_find 82 = .ok (.aload 9, 2) := by decide +kernel
theorem dJ8_find_84 : decode cJ8_find 84 = .ok (.astore 4, 2) := by decide +kernel
theorem dJ8_find_86 : decode cJ8_find 86 = .ok (.goto 79, 3) := by decide +kernel
theorem dJ8_find_89 : decode cJ8_find 89 = .ok (.aload 9, 2) := by decide +kernel
theorem dJ8_find_91 : decode cJ8_find 91 = .ok (.ifnonnull 10, 3) := by decide +kernel
theorem dJ8_find_94 : decode cJ8_find 94 = .ok (.aload 8, 2) := by decide +kernel
theorem dJ8_find_96 : decode cJ8_find 96 = .ok (.astore 4, 2) := by decide +kernel
theorem dJ8_find_98 : decode cJ8_find 98 = .ok (.goto 67, 3) := by decide +kernel
theorem dJ8_find_101 : decode cJ8_find 101 = .ok (.aload_n 3, 1) := by decide +kernel
theorem dJ8_find_102 : decode cJ8_find 102 = .ok (.ifnonnull 12, 3) := by decide +kernel
theorem dJ8_find_105 : decode cJ8_find 105 = .ok (.aload_n 2, 1) := by decide +kernel
theorem dJ8_find_106 : decode cJ8_find 106 = .ok (.invokestatic 55, 3) := by decide +kernel
theorem dJ8_find_109 : decode cJ8_find 109 = .ok (.dup, 1) := by decide +kernel
theorem dJ8_find_110 : decode cJ8_find 110 = .ok (.astore_n 3, 1) := by decide +kernel
theorem dJ8_find_111 : decode cJ8_find 111 = .ok (.ifnull 33, 3) := by decide +kernel
theorem dJ8_find_114 : decode cJ8_find 114 = .ok (.aload_n 3, 1) := by decide +kernel
theorem dJ8_find_115 : decode cJ8_find 115 = .ok (.aload_n 2, 1) := by decide +kernel
theorem dJ8_find_116 : decode cJ8_find 116 = .ok (.aload 7, 2) := by decide +kernel
theorem dJ8_find_118 : decode cJ8_find 118 = .ok (.invokestatic 59, 3) := by decide +kernel
theorem dJ8_find_121 : decode cJ8_find 121 = .ok (.dup, 1) := by decide +kernel
theorem dJ8_find_122 : decode cJ8_find 122 = .ok (.istore 6, 2) := by decide +kernel
theorem dJ8_find_124 : decode cJ8_find 124 = .ok (.ifCond .eq 20, 3) := by decide +kernel
theorem dJ8_find_127 : decode cJ8_find 127 = .ok (.iload 6, 2) := by decide +kernel
theorem dJ8_find_129 : decode cJ8_find 129 = .ok (.ifCond .ge 8, 3) := by decide +kernel
theorem dJ8_find_132 : decode cJ8_find 132 = .ok (.aload 8, 2) := by decide +kernel
theorem dJ8_find_134 : decode cJ8_find 134 = .ok (.goto 5, 3) := by decide +kernel
theorem dJ8_find_137 : decode cJ8_find 137 = .ok (.aload 9, 2) := by decide +kernel
theorem dJ8_find_139 : decode cJ8_find 139 = .ok (.astore 4, 2) := by decide +kernel
theorem dJ8_find_141 : decode cJ8_find 141 = .ok (.goto 24, 3) := by decide +kernel
theorem dJ8_find_144 : decode cJ8_find 144 = .ok (.aload 9, 2) := by decide +kernel
theorem dJ8_find_146 : decode cJ8_find 146 = .ok (.iload_n 1, 1) := by decide +kernel
theorem dJ8_find_147 : decode cJ8_find 147 = .ok (.aload_n 2, 1) := by decide +kernel
theorem dJ8_find_148 : decode cJ8_find 148 = .ok (.aload_n 3, 1) := by decide +kernel
theorem dJ8_find_149 : decode cJ8_find 149 = .ok (.invokevirtual 63, 3) := by decide +kernel
theorem dJ8_find_152 : decode cJ8_find 152 = .ok (.dup, 1) := by decide +kernel
theorem dJ8_find_153 : decode cJ8_find 153 = .ok (.astore 10, 2) := by decide +kernel
theorem dJ8_find_155 : decode cJ8_find 155 = .ok (.ifnull 6, 3) := by decide +kernel
theorem dJ8_find_158 : decode cJ8_find 158 = .ok (.aload 10, 2) := by decide +kernel
theorem dJ8_find_160 : decode cJ8_find 160 = .ok (.areturn, 1) := by decide +kernel
theorem dJ8_find_161 : decode cJ8_find 161 = .ok (.aload 8, 2) := by decide +kernel
theorem dJ8_find_163 : decode cJ8_find 163 = .ok (.astore 4, 2) := by decide +kernel
theorem dJ8_find_165 : decode cJ8_find 165 = .ok (.aload 4, 2) := by decide +kernel
theorem dJ8_find_167 : decode cJ8_find 167 = .ok (.ifnonnull (-164), 3) := by decide +kernel
theorem dJ8_find_170 : decode cJ8_find 170 = .ok (.aconst_null, 1) := by decide +kernel
theorem dJ8_find_171 : decode cJ8_find 171 = .ok (.areturn, 1) := by decide +kernel
abbrev cJ8_init : ByteArray := prog_33_method_1_code
def yJ8_init : MethodName := ⟨RJ8, "<init>", "(ILjava/lang/Object;Ljava/lang/Object;Ljava/util/HashMap$Node;)V"⟩
theorem dJ8_init_0 : decode cJ8_init 0 = .ok (.aload_n 0, 1) := by decide +kernel
theorem dJ8_init_1 : decode cJ8_init 1 = .ok (.iload_n 1, 1) := by decide +kernel
theorem dJ8_init_2 : decode cJ8_init 2 = .ok (.aload_n 2, 1) := by decide +kernel
theorem dJ8_init_3 : decode cJ8_init 3 = .ok (.aload_n 3, 1) := by decide +kernel
theorem dJ8_init_4 : decode cJ8_init 4 = .ok (.aload 4, 2) := by decide +kernel
theorem dJ8_init_6 : decode cJ8_init 6 = .ok (.invokespecial 3, 3) := by decide +kernel
theorem dJ8_init_9 : decode cJ8_init 9 = .ok (.return_, 1) := by decide +kernel
abbrev cJ8_getTreeNode : ByteArray := prog_33_method_5_code
def yJ8_getTreeNode : MethodName := ⟨RJ8, "getTreeNode", "(ILjava/lang/Object;)Ljava/util/HashMap$TreeNode;"⟩
theorem dJ8_getTreeNode_0 : decode cJ8_getTreeNode 0 = .ok (.aload_n 0, 1) := by decide +kernel
theorem dJ8_getTreeNode_1 : decode cJ8_getTreeNode 1 = .ok (.getfield 9, 3) := by decide +kernel
theorem dJ8_getTreeNode_4 : decode cJ8_getTreeNode 4 = .ok (.ifnull 10, 3) := by decide +kernel
theorem dJ8_getTreeNode_7 : decode cJ8_getTreeNode 7 = .ok (.aload_n 0, 1) := by decide +kernel
theorem dJ8_getTreeNode_8 : decode cJ8_getTreeNode 8 = .ok (.invokevirtual 67, 3) := by decide +kernel
theorem dJ8_getTreeNode_11 : decode cJ8_getTreeNode 11 = .ok (.goto 4, 3) := by decide +kernel
theorem dJ8_getTreeNode_14 : decode cJ8_getTreeNode 14 = .ok (.aload_n 0, 1) := by decide +kernel
theorem dJ8_getTreeNode_15 : decode cJ8_getTreeNode 15 = .ok (.iload_n 1, 1) := by decide +kernel
theorem dJ8_getTreeNode_16 : decode cJ8_getTreeNode 16 = .ok (.aload_n 2, 1) := by decide +kernel
theorem dJ8_getTreeNode_17 : decode cJ8_getTreeNode 17 = .ok (.aconst_null, 1) := by decide +kernel
theorem dJ8_getTreeNode_18 : decode cJ8_getTreeNode 18 = .ok (.invokevirtual 63, 3) := by decide +kernel
theorem dJ8_getTreeNode_21 : decode cJ8_getTreeNode 21 = .ok (.areturn, 1) := by decide +kernel
abbrev cJ8_removeTreeNode : ByteArray := prog_33_method_10_code
def yJ8_removeTreeNode : MethodName := ⟨RJ8, "removeTreeNode", "(Ljava/util/HashMap;[Ljava/util/HashMap$Node;Z)V"⟩
theorem dJ8_removeTreeNode_0 : decode cJ8_removeTreeNode 0 = .ok (.aload_n 2, 1) := by decide +kernel
theorem dJ8_removeTreeNode_1 : decode cJ8_removeTreeNode 1 = .ok (.ifnull 11, 3) := by decide +kernel
theorem dJ8_removeTreeNode_4 : decode cJ8_removeTreeNode 4 = .ok (.aload_n 2, 1) := by decide +kernel
theorem dJ8_removeTreeNode_5 : decode cJ8_removeTreeNode 5 = .ok (.arraylength, 1) := by decide +kernel
theorem dJ8_removeTreeNode_6 : decode cJ8_removeTreeNode 6 = .ok (.dup, 1) := by decide +kernel
theorem dJ8_removeTreeNode_7 : decode cJ8_removeTreeNode 7 = .ok (.istore 4, 2) := by decide +kernel
theorem dJ8_removeTreeNode_9 : decode cJ8_removeTreeNode 9 = .ok (.ifCond .ne 4, 3) := by decide +kernel
theorem dJ8_removeTreeNode_12 : decode cJ8_removeTreeNode 12 = .ok (.return_, 1) := by decide +kernel
theorem dJ8_removeTreeNode_13 : decode cJ8_removeTreeNode 13 = .ok (.iload 4, 2) := by decide +kernel
theorem dJ8_removeTreeNode_15 : decode cJ8_removeTreeNode 15 = .ok (.iconst 1, 1) := by decide +kernel
theorem dJ8_removeTreeNode_16 : decode cJ8_removeTreeNode 16 = .ok (.isub, 1) := by decide +kernel
theorem dJ8_removeTreeNode_17 : decode cJ8_removeTreeNode 17 = .ok (.aload_n 0, 1) := by decide +kernel
theorem dJ8_removeTreeNode_18 : decode cJ8_removeTreeNode 18 = .ok (.getfield 15, 3) := by decide +kernel
theorem dJ8_removeTreeNode_21 : decode cJ8_removeTreeNode 21 = .ok (.iand, 1) := by decide +kernel
theorem dJ8_removeTreeNode_22 : decode cJ8_removeTreeNode 22 = .ok (.istore 5, 2) := by decide +kernel
theorem dJ8_removeTreeNode_24 : decode cJ8_removeTreeNode 24 = .ok (.aload_n 2, 1) := by decide +kernel
theorem dJ8_removeTreeNode_25 : decode cJ8_removeTreeNode 25 = .ok (.iload 5, 2) := by decide +kernel
theorem dJ8_removeTreeNode_27 : decode cJ8_removeTreeNode 27 = .ok (.aaload, 1) := by decide +kernel
theorem dJ8_removeTreeNode_28 : decode cJ8_removeTreeNode 28 = .ok (.checkcast 10, 3) := by decide +kernel
theorem dJ8_removeTreeNode_31 : decode cJ8_removeTreeNode 31 = .ok (.astore 6, 2) := by decide +kernel
theorem dJ8_removeTreeNode_33 : decode cJ8_removeTreeNode 33 = .ok (.aload 6, 2) := by decide +kernel
theorem dJ8_removeTreeNode_35 : decode cJ8_removeTreeNode 35 = .ok (.astore 7, 2) := by decide +kernel
theorem dJ8_removeTreeNode_37 : decode cJ8_removeTreeNode 37 = .ok (.aload_n 0, 1) := by decide +kernel
theorem dJ8_removeTreeNode_38 : decode cJ8_removeTreeNode 38 = .ok (.getfield 22, 3) := by decide +kernel
theorem dJ8_removeTreeNode_41 : decode cJ8_removeTreeNode 41 = .ok (.checkcast 10, 3) := by decide +kernel
theorem dJ8_removeTreeNode_44 : decode cJ8_removeTreeNode 44 = .ok (.astore 9, 2) := by decide +kernel
theorem dJ8_removeTreeNode_46 : decode cJ8_removeTreeNode 46 = .ok (.aload_n 0, 1) := by decide +kernel
theorem dJ8_removeTreeNode_47 : decode cJ8_removeTreeNode 47 = .ok (.getfield 19, 3) := by decide +kernel
theorem dJ8_removeTreeNode_50 : decode cJ8_removeTreeNode 50 = .ok (.astore 10, 2) := by decide +kernel
theorem dJ8_removeTreeNode_52 : decode cJ8_removeTreeNode 52 = .ok (.aload 10, 2) := by decide +kernel
theorem dJ8_removeTreeNode_54 : decode cJ8_removeTreeNode 54 = .ok (.ifnonnull 15, 3) := by decide +kernel
theorem dJ8_removeTreeNode_57 : decode cJ8_removeTreeNode 57 = .ok (.aload_n 2, 1) := by decide +kernel
theorem dJ8_removeTreeNode_58 : decode cJ8_removeTreeNode 58 = .ok (.iload 5, 2) := by decide +kernel
theorem dJ8_removeTreeNode_60 : decode cJ8_removeTreeNode 60 = .ok (.aload 9, 2) := by decide +kernel
theorem dJ8_removeTreeNode_62 : decode cJ8_removeTreeNode 62 = .ok (.dup, 1) := by decide +kernel
theorem dJ8_removeTreeNode_63 : decode cJ8_removeTreeNode 63 = .ok (.astore 6, 2) := by decide +kernel
theorem dJ8_removeTreeNode_65 : decode cJ8_removeTreeNode 65 = .ok (.aastore, 1) := by decide +kernel
theorem dJ8_removeTreeNode_66 : decode cJ8_removeTreeNode 66 = .ok (.goto 10, 3) := by decide +kernel
theorem dJ8_removeTreeNode_69 : decode cJ8_removeTreeNode 69 = .ok (.aload 10, 2) := by decide +kernel
theorem dJ8_removeTreeNode_71 : decode cJ8_removeTreeNode 71 = .ok (.aload 9, 2) := by decide +kernel
theorem dJ8_removeTreeNode_73 : decode cJ8_removeTreeNode 73 = .ok (.putfield 22, 3) := by decide +kernel
theorem dJ8_removeTreeNode_76 : decode cJ8_removeTreeNode 76 = .ok (.aload 9, 2) := by decide +kernel
theorem dJ8_removeTreeNode_78 : decode cJ8_removeTreeNode 78 = .ok (.ifnull 10, 3) := by decide +kernel
theorem dJ8_removeTreeNode_81 : decode cJ8_removeTreeNode 81 = .ok (.aload 9, 2) := by decide +kernel
theorem dJ8_removeTreeNode_83 : decode cJ8_removeTreeNode 83 = .ok (.aload 10, 2) := by decide +kernel
theorem dJ8_removeTreeNode_85 : decode cJ8_removeTreeNode 85 = .ok (.putfield 19, 3) := by decide +kernel
theorem dJ8_removeTreeNode_88 : decode cJ8_removeTreeNode 88 = .ok (.aload 6, 2) := by decide +kernel
theorem dJ8_removeTreeNode_90 : decode cJ8_removeTreeNode 90 = .ok (.ifnonnull 4, 3) := by decide +kernel
theorem dJ8_removeTreeNode_93 : decode cJ8_removeTreeNode 93 = .ok (.return_, 1) := by decide +kernel
theorem dJ8_removeTreeNode_94 : decode cJ8_removeTreeNode 94 = .ok (.aload 7, 2) := by decide +kernel
theorem dJ8_removeTreeNode_96 : decode cJ8_removeTreeNode 96 = .ok (.getfield 9, 3) := by decide +kernel
theorem dJ8_removeTreeNode_99 : decode cJ8_removeTreeNode 99 = .ok (.ifnull 10, 3) := by decide +kernel
theorem dJ8_removeTreeNode_102 : decode cJ8_removeTreeNode 102 = .ok (.aload 7, 2) := by decide +kernel
theorem dJ8_removeTreeNode_104 : decode cJ8_removeTreeNode 104 = .ok (.invokevirtual 67, 3) := by decide +kernel
theorem dJ8_removeTreeNode_107 : decode cJ8_removeTreeNode 107 = .ok (.astore 7, 2) := by decide +kernel
theorem dJ8_removeTreeNode_109 : decode cJ8_removeTreeNode 109 = .ok (.aload 7, 2) := by decide +kernel
theorem dJ8_removeTreeNode_111 : decode cJ8_removeTreeNode 111 = .ok (.ifnull 34, 3) := by decide +kernel
theorem dJ8_removeTreeNode_114 : decode cJ8_removeTreeNode 114 = .ok (.iload_n 3, 1) := by decide +kernel
theorem dJ8_removeTreeNode_115 : decode cJ8_removeTreeNode 115 = .ok (.ifCond .eq 41, 3) := by decide +kernel
theorem dJ8_removeTreeNode_118 : decode cJ8_removeTreeNode 118 = .ok (.aload 7, 2) := by decide +kernel
theorem dJ8_removeTreeNode_120 : decode cJ8_removeTreeNode 120 = .ok (.getfield 42, 3) := by decide +kernel
theorem dJ8_removeTreeNode_123 : decode cJ8_removeTreeNode 123 = .ok (.ifnull 22, 3) := by decide +kernel
theorem dJ8_removeTreeNode_126 : decode cJ8_removeTreeNode 126 = .ok (.aload 7, 2) := by decide +kernel
theorem dJ8_removeTreeNode_128 : decode cJ8_removeTreeNode 128 = .ok (.getfield 39, 3) := by decide +kernel
theorem dJ8_removeTreeNode_131 : decode cJ8_removeTreeNode 131 = .ok (.dup, 1) := by decide +kernel
theorem dJ8_removeTreeNode_132 : decode cJ8_removeTreeNode 132 = .ok (.astore 8, 2) := by decide +kernel
theorem dJ8_removeTreeNode_134 : decode cJ8_removeTreeNode 134 = .ok (.ifnull 11, 3) := by decide +kernel
theorem dJ8_removeTreeNode_137 : decode cJ8_removeTreeNode 137 = .ok (.aload 8, 2) := by decide +kernel
theorem dJ8_removeTreeNode_139 : decode cJ8_removeTreeNode 139 = .ok (.getfield 39, 3) := by decide +kernel
theorem dJ8_removeTreeNode_142 : decode cJ8_removeTreeNode 142 = .ok (.ifnonnull 14, 3) := by decide +kernel
theorem dJ8_removeTreeNode_145 : decode cJ8_removeTreeNode 145 = .ok (.aload_n 2, 1) := by decide +kernel
theorem dJ8_removeTreeNode_146 : decode cJ8_removeTreeNode 146 = .ok (.iload 5, 2) := by decide +kernel
theorem dJ8_removeTreeNode_148 : decode cJ8_removeTreeNode 148 = .ok (.aload 6, 2) := by decide +kernel
theorem dJ8_removeTreeNode_150 : decode cJ8_removeTreeNode 150 = .ok (.aload_n 1, 1) := by decide +kernel
theorem dJ8_removeTreeNode_151 : decode cJ8_removeTreeNode 151 = .ok (.invokevirtual 119, 3) := by decide +kernel
theorem dJ8_removeTreeNode_154 : decode cJ8_removeTreeNode 154 = .ok (.aastore, 1) := by decide +kernel
theorem dJ8_removeTreeNode_155 : decode cJ8_removeTreeNode 155 = .ok (.return_, 1) := by decide +kernel
theorem dJ8_removeTreeNode_156 : decode cJ8_removeTreeNode 156 = .ok (.aload_n 0, 1) := by decide +kernel
theorem dJ8_removeTreeNode_157 : decode cJ8_removeTreeNode 157 = .ok (.astore 11, 2) := by decide +kernel
theorem dJ8_removeTreeNode_159 : decode cJ8_removeTreeNode 159 = .ok (.aload_n 0, 1) := by decide +kernel
theorem dJ8_removeTreeNode_160 : decode cJ8_removeTreeNode 160 = .ok (.getfield 39, 3) := by decide +kernel
theorem dJ8_removeTreeNode_163 : decode cJ8_removeTreeNode 163 = .ok (.astore 12, 2) := by decide +kernel
theorem dJ8_removeTreeNode_165 : decode cJ8_removeTreeNode 165 = .ok (.aload_n 0, 1) := by decide +kernel
theorem dJ8_removeTreeNode_166 : decode cJ8_removeTreeNode 166 = .ok (.getfield 42, 3) := by decide +kernel
theorem dJ8_removeTreeNode_169 : decode cJ8_removeTreeNode 169 = .ok (.astore 13, 2) := by decide +kernel
theorem dJ8_removeTreeNode_171 : decode cJ8_removeTreeNode 171 = .ok (.aload 12, 2) := by decide +kernel
theorem dJ8_removeTreeNode_173 : decode cJ8_removeTreeNode 173 = .ok (.ifnull 261, 3) := by decide +kernel
theorem dJ8_removeTreeNode_176 : decode cJ8_removeTreeNode 176 = .ok (.aload 13, 2) := by decide +kernel
theorem dJ8_removeTreeNode_178 : decode cJ8_removeTreeNode 178 = .ok (.ifnull 256, 3) := by decide +kernel
theorem dJ8_removeTreeNode_181 : decode cJ8_removeTreeNode 181 = .ok (.aload 13, 2) := by decide +kernel
theorem dJ8_removeTreeNode_183 : decode cJ8_removeTreeNode 183 = .ok (.astore 15, 2) := by decide +kernel
theorem dJ8_removeTreeNode_185 : decode cJ8_removeTreeNode 185 = .ok (.aload 15, 2) := by decide +kernel
theorem dJ8_removeTreeNode_187 : decode cJ8_removeTreeNode 187 = .ok (.getfield 39, 3) := by decide +kernel
theorem dJ8_removeTreeNode_190 : decode cJ8_removeTreeNode 190 = .ok (.dup, 1) := by decide +kernel
theorem dJ8_removeTreeNode_191 : decode cJ8_removeTreeNode 191 = .ok (.astore 16, 2) := by decide +kernel
theorem dJ8_removeTreeNode_193 : decode cJ8_removeTreeNode 193 = .ok (.ifnull 10, 3) := by decide +kernel
theorem dJ8_removeTreeNode_196 : decode cJ8_removeTreeNode 196 = .ok (.aload 16, 2) := by decide +kernel
theorem dJ8_removeTreeNode_198 : decode cJ8_removeTreeNode 198 = .ok (.astore 15, 2) := by decide +kernel
theorem dJ8_removeTreeNode_200 : decode cJ8_removeTreeNode 200 = .ok (.goto (-15), 3) := by decide +kernel
theorem dJ8_removeTreeNode_203 : decode cJ8_removeTreeNode 203 = .ok (.aload 15, 2) := by decide +kernel
theorem dJ8_removeTreeNode_205 : decode cJ8_removeTreeNode 205 = .ok (.getfield 93, 3) := by decide +kernel
theorem dJ8_removeTreeNode_208 : decode cJ8_removeTreeNode 208 = .ok (.istore 17, 2) := by decide +kernel
theorem dJ8_removeTreeNode_210 : decode cJ8_removeTreeNode 210 = .ok (.aload 15, 2) := by decide +kernel
theorem dJ8_removeTreeNode_212 : decode cJ8_removeTreeNode 212 = .ok (.aload 11, 2) := by decide +kernel
theorem dJ8_removeTreeNode_214 : decode cJ8_removeTreeNode 214 = .ok (.getfield 93, 3) := by decide +kernel
theorem dJ8_removeTreeNode_217 : decode cJ8_removeTreeNode 217 = .ok (.putfield 93, 3) := by decide +kernel
theorem dJ8_removeTreeNode_220 : decode cJ8_removeTreeNode 220 = .ok (.aload 11, 2) := by decide +kernel
theorem dJ8_removeTreeNode_222 : decode cJ8_removeTreeNode 222 = .ok (.iload 17, 2) := by decide +kernel
theorem dJ8_removeTreeNode_224 : decode cJ8_removeTreeNode 224 = .ok (.putfield 93, 3) := by decide +kernel
theorem dJ8_removeTreeNode_227 : decode cJ8_removeTreeNode 227 = .ok (.aload 15, 2) := by decide +kernel
theorem dJ8_removeTreeNode_229 : decode cJ8_removeTreeNode 229 = .ok (.getfield 42, 3) := by decide +kernel
theorem dJ8_removeTreeNode_232 : decode cJ8_removeTreeNode 232 = .ok (.astore 18, 2) := by decide +kernel
theorem dJ8_removeTreeNode_234 : decode cJ8_removeTreeNode 234 = .ok (.aload 11, 2) := by decide +kernel
theorem dJ8_removeTreeNode_236 : decode cJ8_removeTreeNode 236 = .ok (.getfield 9, 3) := by decide +kernel
theorem dJ8_removeTreeNode_239 : decode cJ8_removeTreeNode 239 = .ok (.astore 19, 2) := by decide +kernel
theorem dJ8_removeTreeNode_241 : decode cJ8_removeTreeNode 241 = .ok (.aload 15, 2) := by decide +kernel
theorem dJ8_removeTreeNode_243 : decode cJ8_removeTreeNode 243 = .ok (.aload 13, 2) := by decide +kernel
theorem dJ8_removeTreeNode_245 : decode cJ8_removeTreeNode 245 = .ok (.if_acmp .ne 20, 3) := by decide +kernel
theorem dJ8_removeTreeNode_248 : decode cJ8_removeTreeNode 248 = .ok (.aload 11, 2) := by decide +kernel
theorem dJ8_removeTreeNode_250 : decode cJ8_removeTreeNode 250 = .ok (.aload 15, 2) := by decide +kernel
theorem dJ8_removeTreeNode_252 : decode cJ8_removeTreeNode 252 = .ok (.putfield 9, 3) := by decide +kernel
theorem dJ8_removeTreeNode_255 : decode cJ8_removeTreeNode 255 = .ok (.aload 15, 2) := by decide +kernel
theorem dJ8_removeTreeNode_257 : decode cJ8_removeTreeNode 257 = .ok (.aload 11, 2) := by decide +kernel
theorem dJ8_removeTreeNode_259 : decode cJ8_removeTreeNode 259 = .ok (.putfield 42, 3) := by decide +kernel
theorem dJ8_removeTreeNode_262 : decode cJ8_removeTreeNode 262 = .ok (.goto 66, 3) := by decide +kernel
theorem dJ8_removeTreeNode_265 : decode cJ8_removeTreeNode 265 = .ok (.aload 15, 2) := by decide +kernel
theorem dJ8_removeTreeNode_267 : decode cJ8_removeTreeNode 267 = .ok (.getfield 9, 3) := by decide +kernel
theorem dJ8_removeTreeNode_270 : decode cJ8_removeTreeNode 270 = .ok (.astore 20, 2) := by decide +kernel
theorem dJ8_removeTreeNode_272 : decode cJ8_removeTreeNode 272 = .ok (.aload 11, 2) := by decide +kernel
theorem dJ8_removeTreeNode_274 : decode cJ8_removeTreeNode 274 = .ok (.aload 20, 2) := by decide +kernel
theorem dJ8_removeTreeNode_276 : decode cJ8_removeTreeNode 276 = .ok (.dup_x1, 1) := by decide +kernel
theorem dJ8_removeTreeNode_277 : decode cJ8_removeTreeNode 277 = .ok (.putfield 9, 3) := by decide +kernel
theorem dJ8_removeTreeNode_280 : decode cJ8_removeTreeNode 280 = .ok (.ifnull 30, 3) := by decide +kernel
theorem dJ8_removeTreeNode_283 : decode cJ8_removeTreeNode 283 = .ok (.aload 15, 2) := by decide +kernel
theorem dJ8_removeTreeNode_285 : decode cJ8_removeTreeNode 285 = .ok (.aload 20, 2) := by decide +kernel
theorem dJ8_removeTreeNode_287 : decode cJ8_removeTreeNode 287 = .ok (.getfield 39, 3) := by decide +kernel
theorem dJ8_removeTreeNode_290 : decode cJ8_removeTreeNode 290 = .ok (.if_acmp .ne 13, 3) := by decide +kernel
theorem dJ8_removeTreeNode_293 : decode cJ8_removeTreeNode 293 = .ok (.aload 20, 2) := by decide +kernel
theorem dJ8_removeTreeNode_295 : decode cJ8_removeTreeNode 295 = .ok (.aload 11, 2) := by decide +kernel
theorem dJ8_removeTreeNode_297 : decode cJ8_removeTreeNode 297 = .ok (.putfield 39, 3) := by decide +kernel
theorem dJ8_removeTreeNode_300 : decode cJ8_removeTreeNode 300 = .ok (.goto 10, 3) := by decide +kernel
theorem dJ8_removeTreeNode_303 : decode cJ8_removeTreeNode 303 = .ok (.aload 20, 2) := by decide +kernel
theorem dJ8_removeTreeNode_305 : decode cJ8_removeTreeNode 305 = .ok (.aload 11, 2) := by decide +kernel
theorem dJ8_removeTreeNode_307 : decode cJ8_removeTreeNode 307 = .ok (.putfield 42, 3) := by decide +kernel
theorem dJ8_removeTreeNode_310 : decode cJ8_removeTreeNode 310 = .ok (.aload 15, 2) := by decide +kernel
theorem dJ8_removeTreeNode_312 : decode cJ8_removeTreeNode 312 = .ok (.aload 13, 2) := by decide +kernel
theorem dJ8_removeTreeNode_314 : decode cJ8_removeTreeNode 314 = .ok (.dup_x1, 1) := by decide +kernel
theorem dJ8_removeTreeNode_315 : decode cJ8_removeTreeNode 315 = .ok (.putfield 42, 3) := by decide +kernel
theorem dJ8_removeTreeNode_318 : decode cJ8_removeTreeNode 318 = .ok (.ifnull 10, 3) := by decide +kernel
theorem dJ8_removeTreeNode_321 : decode cJ8_removeTreeNode 321 = .ok (.aload 13, 2) := by decide +kernel
theorem dJ8_removeTreeNode_323 : decode cJ8_removeTreeNode 323 = .ok (.aload 15, 2) := by decide +kernel
theorem dJ8_removeTreeNode_325 : decode cJ8_removeTreeNode 325 = .ok (.putfield 9, 3) := by decide +kernel
theorem dJ8_removeTreeNode_328 : decode cJ8_removeTreeNode 328 = .ok (.aload 11, 2) := by decide +kernel
theorem dJ8_removeTreeNode_330 : decode cJ8_removeTreeNode 330 = .ok (.aconst_null, 1) := by decide +kernel
theorem dJ8_removeTreeNode_331 : decode cJ8_removeTreeNode 331 = .ok (.putfield 39, 3) := by decide +kernel
theorem dJ8_removeTreeNode_334 : decode cJ8_removeTreeNode 334 = .ok (.aload 11, 2) := by decide +kernel
theorem dJ8_removeTreeNode_336 : decode cJ8_removeTreeNode 336 = .ok (.aload 18, 2) := by decide +kernel
theorem dJ8_removeTreeNode_338 : decode cJ8_removeTreeNode 338 = .ok (.dup_x1, 1) := by decide +kernel
theorem dJ8_removeTreeNode_339 : decode cJ8_removeTreeNode 339 = .ok (.putfield 42, 3) := by decide +kernel
theorem dJ8_removeTreeNode_342 : decode cJ8_removeTreeNode 342 = .ok (.ifnull 10, 3) := by decide +kernel
theorem dJ8_removeTreeNode_345 : decode cJ8_removeTreeNode 345 = .ok (.aload 18, 2) := by decide +kernel
theorem dJ8_removeTreeNode_347 : decode cJ8_removeTreeNode 347 = .ok (.aload 11, 2) := by decide +kernel
theorem dJ8_removeTreeNode_349 : decode cJ8_removeTreeNode 349 = .ok (.putfield 9, 3) := by decide +kernel
theorem dJ8_removeTreeNode_352 : decode cJ8_removeTreeNode 352 = .ok (.aload 15, 2) := by decide +kernel
theorem dJ8_removeTreeNode_354 : decode cJ8_removeTreeNode 354 = .ok (.aload 12, 2) := by decide +kernel
theorem dJ8_removeTreeNode_356 : decode cJ8_removeTreeNode 356 = .ok (.dup_x1, 1) := by decide +kernel
theorem dJ8_removeTreeNode_357 : decode cJ8_removeTreeNode 357 = .ok (.putfield 39, 3) := by decide +kernel
theorem dJ8_removeTreeNode_360 : decode cJ8_removeTreeNode 360 = .ok (.ifnull 10, 3) := by decide +kernel
theorem dJ8_removeTreeNode_363 : decode cJ8_removeTreeNode 363 = .ok (.aload 12, 2) := by decide +kernel
theorem dJ8_removeTreeNode_365 : decode cJ8_removeTreeNode 365 = .ok (.aload 15, 2) := by decide +kernel
theorem dJ8_removeTreeNode_367 : decode cJ8_removeTreeNode 367 = .ok (.putfield 9, 3) := by decide +kernel
theorem dJ8_removeTreeNode_370 : decode cJ8_removeTreeNode 370 = .ok (.aload 15, 2) := by decide +kernel
theorem dJ8_removeTreeNode_372 : decode cJ8_removeTreeNode 372 = .ok (.aload 19, 2) := by decide +kernel
theorem dJ8_removeTreeNode_374 : decode cJ8_removeTreeNode 374 = .ok (.dup_x1, 1) := by decide +kernel
theorem dJ8_removeTreeNode_375 : decode cJ8_removeTreeNode 375 = .ok (.putfield 9, 3) := by decide +kernel
theorem dJ8_removeTreeNode_378 : decode cJ8_removeTreeNode 378 = .ok (.ifnonnull 10, 3) := by decide +kernel
theorem dJ8_removeTreeNode_381 : decode cJ8_removeTreeNode 381 = .ok (.aload 15, 2) := by decide +kernel
theorem dJ8_removeTreeNode_383 : decode cJ8_removeTreeNode 383 = .ok (.astore 7, 2) := by decide +kernel
theorem dJ8_removeTreeNode_385 : decode cJ8_removeTreeNode 385 = .ok (.goto 30, 3) := by decide +kernel
theorem dJ8_removeTreeNode_388 : decode cJ8_removeTreeNode 388 = .ok (.aload 11, 2) := by decide +kernel
theorem dJ8_removeTreeNode_390 : decode cJ8_removeTreeNode 390 = .ok (.aload 19, 2) := by decide +kernel
theorem dJ8_removeTreeNode_392 : decode cJ8_removeTreeNode 392 = .ok (.getfield 39, 3) := by decide +kernel
theorem dJ8_removeTreeNode_395 : decode cJ8_removeTreeNode 395 = .ok (.if_acmp .ne 13, 3) := by decide +kernel
theorem dJ8_removeTreeNode_398 : decode cJ8_removeTreeNode 398 = .ok (.aload 19, 2) := by decide +kernel
theorem dJ8_removeTreeNode_400 : decode cJ8_removeTreeNode 400 = .ok (.aload 15, 2) := by decide +kernel
theorem dJ8_removeTreeNode_402 : decode cJ8_removeTreeNode 402 = .ok (.putfield 39, 3) := by decide +kernel
theorem dJ8_removeTreeNode_405 : decode cJ8_removeTreeNode 405 = .ok (.goto 10, 3) := by decide +kernel
theorem dJ8_removeTreeNode_408 : decode cJ8_removeTreeNode 408 = .ok (.aload 19, 2) := by decide +kernel
theorem dJ8_removeTreeNode_410 : decode cJ8_removeTreeNode 410 = .ok (.aload 15, 2) := by decide +kernel
theorem dJ8_removeTreeNode_412 : decode cJ8_removeTreeNode 412 = .ok (.putfield 42, 3) := by decide +kernel
theorem dJ8_removeTreeNode_415 : decode cJ8_removeTreeNode 415 = .ok (.aload 18, 2) := by decide +kernel
theorem dJ8_removeTreeNode_417 : decode cJ8_removeTreeNode 417 = .ok (.ifnull 10, 3) := by decide +kernel
theorem dJ8_removeTreeNode_420 : decode cJ8_removeTreeNode 420 = .ok (.aload 18, 2) := by decide +kernel
theorem dJ8_removeTreeNode_422 : decode cJ8_removeTreeNode 422 = .ok (.astore 14, 2) := by decide +kernel
theorem dJ8_removeTreeNode_424 : decode cJ8_removeTreeNode 424 = .ok (.goto 7, 3) := by decide +kernel
theorem dJ8_removeTreeNode_427 : decode cJ8_removeTreeNode 427 = .ok (.aload 11, 2) := by decide +kernel
theorem dJ8_removeTreeNode_429 : decode cJ8_removeTreeNode 429 = .ok (.astore 14, 2) := by decide +kernel
theorem dJ8_removeTreeNode_431 : decode cJ8_removeTreeNode 431 = .ok (.goto 31, 3) := by decide +kernel
theorem dJ8_removeTreeNode_434 : decode cJ8_removeTreeNode 434 = .ok (.aload 12, 2) := by decide +kernel
theorem dJ8_removeTreeNode_436 : decode cJ8_removeTreeNode 436 = .ok (.ifnull 10, 3) := by decide +kernel
theorem dJ8_removeTreeNode_439 : decode cJ8_removeTreeNode 439 = .ok (.aload 12, 2) := by decide +kernel
theorem dJ8_removeTreeNode_441 : decode cJ8_removeTreeNode 441 = .ok (.astore 14, 2) := by decide +kernel
theorem dJ8_removeTreeNode_443 : decode cJ8_removeTreeNode 443 = .ok (.goto 19, 3) := by decide +kernel
theorem dJ8_removeTreeNode_446 : decode cJ8_removeTreeNode 446 = .ok (.aload 13, 2) := by decide +kernel
theorem dJ8_removeTreeNode_448 : decode cJ8_removeTreeNode 448 = .ok (.ifnull 10, 3) := by decide +kernel
theorem dJ8_removeTreeNode_451 : decode cJ8_removeTreeNode 451 = .ok (.aload 13, 2) := by decide +kernel
theorem dJ8_removeTreeNode_453 : decode cJ8_removeTreeNode 453 = .ok (.astore 14, 2) := by decide +kernel
theorem dJ8_removeTreeNode_455 : decode cJ8_removeTreeNode 455 = .ok (.goto 7, 3) := by decide +kernel
theorem dJ8_removeTreeNode_458 : decode cJ8_removeTreeNode 458 = .ok (.aload 11, 2) := by decide +kernel
theorem dJ8_removeTreeNode_460 : decode cJ8_removeTreeNode 460 = .ok (.astore 14, 2) := by decide +kernel
theorem dJ8_removeTreeNode_462 : decode cJ8_removeTreeNode 462 = .ok (.aload 14, 2) := by decide +kernel
theorem dJ8_removeTreeNode_464 : decode cJ8_removeTreeNode 464 = .ok (.aload 11, 2) := by decide +kernel
theorem dJ8_removeTreeNode_466 : decode cJ8_removeTreeNode 466 = .ok (.if_acmp .eq 78, 3) := by decide +kernel
theorem dJ8_removeTreeNode_469 : decode cJ8_removeTreeNode 469 = .ok (.aload 14, 2) := by decide +kernel
theorem dJ8_removeTreeNode_471 : decode cJ8_removeTreeNode 471 = .ok (.aload 11, 2) := by decide +kernel
theorem dJ8_removeTreeNode_473 : decode cJ8_removeTreeNode 473 = .ok (.getfield 9, 3) := by decide +kernel
theorem dJ8_removeTreeNode_476 : decode cJ8_removeTreeNode 476 = .ok (.dup_x1, 1) := by decide +kernel
theorem dJ8_removeTreeNode_477 : decode cJ8_removeTreeNode 477 = .ok (.putfield 9, 3) := by decide +kernel
theorem dJ8_removeTreeNode_480 : decode cJ8_removeTreeNode 480 = .ok (.astore 15, 2) := by decide +kernel
theorem dJ8_removeTreeNode_482 : decode cJ8_removeTreeNode 482 = .ok (.aload 15, 2) := by decide +kernel
theorem dJ8_removeTreeNode_484 : decode cJ8_removeTreeNode 484 = .ok (.ifnonnull 15, 3) := by decide +kernel
theorem dJ8_removeTreeNode_487 : decode cJ8_removeTreeNode 487 = .ok (.aload 14, 2) := by decide +kernel
theorem dJ8_removeTreeNode_489 : decode cJ8_removeTreeNode 489 = .ok (.dup, 1) := by decide +kernel
theorem dJ8_removeTreeNode_490 : decode cJ8_removeTreeNode 490 = .ok (.astore 7, 2) := by decide +kernel
theorem dJ8_removeTreeNode_492 : decode cJ8_removeTreeNode 492 = .ok (.iconst 0, 1) := by decide +kernel
theorem dJ8_removeTreeNode_493 : decode cJ8_removeTreeNode 493 = .ok (.putfield 93, 3) := by decide +kernel
theorem dJ8_removeTreeNode_496 : decode cJ8_removeTreeNode 496 = .ok (.goto 30, 3) := by decide +kernel
theorem dJ8_removeTreeNode_499 : decode cJ8_removeTreeNode 499 = .ok (.aload 11, 2) := by decide +kernel
theorem dJ8_removeTreeNode_501 : decode cJ8_removeTreeNode 501 = .ok (.aload 15, 2) := by decide +kernel
theorem dJ8_removeTreeNode_503 : decode cJ8_removeTreeNode 503 = .ok (.getfield 39, 3) := by decide +kernel
theorem dJ8_removeTreeNode_506 : decode cJ8_removeTreeNode 506 = .ok (.if_acmp .ne 13, 3) := by decide +kernel
theorem dJ8_removeTreeNode_509 : decode cJ8_removeTreeNode 509 = .ok (.aload 15, 2) := by decide +kernel
theorem dJ8_removeTreeNode_511 : decode cJ8_removeTreeNode 511 = .ok (.aload 14, 2) := by decide +kernel
theorem dJ8_removeTreeNode_513 : decode cJ8_removeTreeNode 513 = .ok (.putfield 39, 3) := by decide +kernel
theorem dJ8_removeTreeNode_516 : decode cJ8_removeTreeNode 516 = .ok (.goto 10, 3) := by decide +kernel
theorem dJ8_removeTreeNode_519 : decode cJ8_removeTreeNode 519 = .ok (.aload 15, 2) := by decide +kernel
theorem dJ8_removeTreeNode_521 : decode cJ8_removeTreeNode 521 = .ok (.aload 14, 2) := by decide +kernel
theorem dJ8_removeTreeNode_523 : decode cJ8_removeTreeNode 523 = .ok (.putfield 42, 3) := by decide +kernel
theorem dJ8_removeTreeNode_526 : decode cJ8_removeTreeNode 526 = .ok (.aload 11, 2) := by decide +kernel
theorem dJ8_removeTreeNode_528 : decode cJ8_removeTreeNode 528 = .ok (.aload 11, 2) := by decide +kernel
theorem dJ8_removeTreeNode_530 : decode cJ8_removeTreeNode 530 = .ok (.aload 11, 2) := by decide +kernel
theorem dJ8_removeTreeNode_532 : decode cJ8_removeTreeNode 532 = .ok (.aconst_null, 1) := by decide +kernel
theorem dJ8_removeTreeNode_533 : decode cJ8_removeTreeNode 533 = .ok (.dup_x1, 1) := by decide +kernel
theorem dJ8_removeTreeNode_534 : decode cJ8_removeTreeNode 534 = .ok (.putfield 9, 3) := by decide +kernel
theorem dJ8_removeTreeNode_537 : decode cJ8_removeTreeNode 537 = .ok (.dup_x1, 1) := by decide +kernel
theorem dJ8_removeTreeNode_538 : decode cJ8_removeTreeNode 538 = .ok (.putfield 42, 3) := by decide +kernel
theorem dJ8_removeTreeNode_541 : decode cJ8_removeTreeNode 541 = .ok (.putfield 39, 3) := by decide +kernel
theorem dJ8_removeTreeNode_544 : decode cJ8_removeTreeNode 544 = .ok (.aload 11, 2) := by decide +kernel
theorem dJ8_removeTreeNode_546 : decode cJ8_removeTreeNode 546 = .ok (.getfield 93, 3) := by decide +kernel
theorem dJ8_removeTreeNode_549 : decode cJ8_removeTreeNode 549 = .ok (.ifCond .eq 8, 3) := by decide +kernel
theorem dJ8_removeTreeNode_552 : decode cJ8_removeTreeNode 552 = .ok (.aload 7, 2) := by decide +kernel
theorem dJ8_removeTreeNode_554 : decode cJ8_removeTreeNode 554 = .ok (.goto 10, 3) := by decide +kernel
theorem dJ8_removeTreeNode_557 : decode cJ8_removeTreeNode 557 = .ok (.aload 7, 2) := by decide +kernel
theorem dJ8_removeTreeNode_559 : decode cJ8_removeTreeNode 559 = .ok (.aload 14, 2) := by decide +kernel
theorem dJ8_removeTreeNode_561 : decode cJ8_removeTreeNode 561 = .ok (.invokestatic 123, 3) := by decide +kernel
theorem dJ8_removeTreeNode_564 : decode cJ8_removeTreeNode 564 = .ok (.astore 15, 2) := by decide +kernel
theorem dJ8_removeTreeNode_566 : decode cJ8_removeTreeNode 566 = .ok (.aload 14, 2) := by decide +kernel
theorem dJ8_removeTreeNode_568 : decode cJ8_removeTreeNode 568 = .ok (.aload 11, 2) := by decide +kernel
theorem dJ8_removeTreeNode_570 : decode cJ8_removeTreeNode 570 = .ok (.if_acmp .ne 56, 3) := by decide +kernel
theorem dJ8_removeTreeNode_573 : decode cJ8_removeTreeNode 573 = .ok (.aload 11, 2) := by decide +kernel
theorem dJ8_removeTreeNode_575 : decode cJ8_removeTreeNode 575 = .ok (.getfield 9, 3) := by decide +kernel
theorem dJ8_removeTreeNode_578 : decode cJ8_removeTreeNode 578 = .ok (.astore 16, 2) := by decide +kernel
theorem dJ8_removeTreeNode_580 : decode cJ8_removeTreeNode 580 = .ok (.aload 11, 2) := by decide +kernel
theorem dJ8_removeTreeNode_582 : decode cJ8_removeTreeNode 582 = .ok (.aconst_null, 1) := by decide +kernel
theorem dJ8_removeTreeNode_583 : decode cJ8_removeTreeNode 583 = .ok (.putfield 9, 3) := by decide +kernel
theorem dJ8_removeTreeNode_586 : decode cJ8_removeTreeNode 586 = .ok (.aload 16, 2) := by decide +kernel
theorem dJ8_removeTreeNode_588 : decode cJ8_removeTreeNode 588 = .ok (.ifnull 38, 3) := by decide +kernel
theorem dJ8_removeTreeNode_591 : decode cJ8_removeTreeNode 591 = .ok (.aload 11, 2) := by decide +kernel
theorem dJ8_removeTreeNode_593 : decode cJ8_removeTreeNode 593 = .ok (.aload 16, 2) := by decide +kernel
theorem dJ8_removeTreeNode_595 : decode cJ8_removeTreeNode 595 = .ok (.getfield 39, 3) := by decide +kernel
theorem dJ8_removeTreeNode_598 : decode cJ8_removeTreeNode 598 = .ok (.if_acmp .ne 12, 3) := by decide +kernel
theorem dJ8_removeTreeNode_601 : decode cJ8_removeTreeNode 601 = .ok (.aload 16, 2) := by decide +kernel
theorem dJ8_removeTreeNode_603 : decode cJ8_removeTreeNode 603 = .ok (.aconst_null, 1) := by decide +kernel
theorem dJ8_removeTreeNode_604 : decode cJ8_removeTreeNode 604 = .ok (.putfield 39, 3) := by decide +kernel
theorem dJ8_removeTreeNode_607 : decode cJ8_removeTreeNode 607 = .ok (.goto 19, 3) := by decide +kernel
theorem dJ8_removeTreeNode_610 : decode cJ8_removeTreeNode 610 = .ok (.aload 11, 2) := by decide +kernel
theorem dJ8_removeTreeNode_612 : decode cJ8_removeTreeNode 612 = .ok (.aload 16, 2) := by decide +kernel
theorem dJ8_removeTreeNode_614 : decode cJ8_removeTreeNode 614 = .ok (.getfield 42, 3) := by decide +kernel
theorem dJ8_removeTreeNode_617 : decode cJ8_removeTreeNode 617 = .ok (.if_acmp .ne 9, 3) := by decide +kernel
theorem dJ8_removeTreeNode_620 : decode cJ8_removeTreeNode 620 = .ok (.aload 16, 2) := by decide +kernel
theorem dJ8_removeTreeNode_622 : decode cJ8_removeTreeNode 622 = .ok (.aconst_null, 1) := by decide +kernel
theorem dJ8_removeTreeNode_623 : decode cJ8_removeTreeNode 623 = .ok (.putfield 42, 3) := by decide +kernel
theorem dJ8_removeTreeNode_626 : decode cJ8_removeTreeNode 626 = .ok (.iload_n 3, 1) := by decide +kernel
theorem dJ8_removeTreeNode_627 : decode cJ8_removeTreeNode 627 = .ok (.ifCond .eq 9, 3) := by decide +kernel
theorem dJ8_removeTreeNode_630 : decode cJ8_removeTreeNode 630 = .ok (.aload_n 2, 1) := by decide +kernel
theorem dJ8_removeTreeNode_631 : decode cJ8_removeTreeNode 631 = .ok (.aload 15, 2) := by decide +kernel
theorem dJ8_removeTreeNode_633 : decode cJ8_removeTreeNode 633 = .ok (.invokestatic 104, 3) := by decide +kernel
theorem dJ8_removeTreeNode_636 : decode cJ8_removeTreeNode 636 = .ok (.return_, 1) := by decide +kernel
abbrev cJ8_balanceDeletion : ByteArray := prog_33_method_15_code
def yJ8_balanceDeletion : MethodName := ⟨RJ8, "balanceDeletion", "(Ljava/util/HashMap$TreeNode;Ljava/util/HashMap$TreeNode;)Ljava/util/HashMap$TreeNode;"⟩
theorem dJ8_balanceDeletion_0 : decode cJ8_balanceDeletion 0 = .ok (.aload_n 1, 1) := by decide +kernel
theorem dJ8_balanceDeletion_1 : decode cJ8_balanceDeletion 1 = .ok (.ifnull 8, 3) := by decide +kernel
theorem dJ8_balanceDeletion_4 : decode cJ8_balanceDeletion 4 = .ok (.aload_n 1, 1) := by decide +kernel
theorem dJ8_balanceDeletion_5 : decode cJ8_balanceDeletion 5 = .ok (.aload_n 0, 1) := by decide +kernel
theorem dJ8_balanceDeletion_6 : decode cJ8_balanceDeletion 6 = .ok (.if_acmp .ne 5, 3) := by decide +kernel
theorem dJ8_balanceDeletion_9 : decode cJ8_balanceDeletion 9 = .ok (.aload_n 0, 1) := by decide +kernel
theorem dJ8_balanceDeletion_10 : decode cJ8_balanceDeletion 10 = .ok (.areturn, 1) := by decide +kernel
theorem dJ8_balanceDeletion_11 : decode cJ8_balanceDeletion 11 = .ok (.aload_n 1, 1) := by decide +kernel
theorem dJ8_balanceDeletion_12 : decode cJ8_balanceDeletion 12 = .ok (.getfield 9, 3) := by decide +kernel
theorem dJ8_balanceDeletion_15 : decode cJ8_balanceDeletion 15 = .ok (.dup, 1) := by decide +kernel
theorem dJ8_balanceDeletion_16 : decode cJ8_balanceDeletion 16 = .ok (.astore_n 2, 1) := by decide +kernel
theorem dJ8_balanceDeletion_17 : decode cJ8_balanceDeletion 17 = .ok (.ifnonnull 10, 3) := by decide +kernel
theorem dJ8_balanceDeletion_20 : decode cJ8_balanceDeletion 20 = .ok (.aload_n 1, 1) := by decide +kernel
theorem dJ8_balanceDeletion_21 : decode cJ8_balanceDeletion 21 = .ok (.iconst 0, 1) := by decide +kernel
theorem dJ8_balanceDeletion_22 : decode cJ8_balanceDeletion 22 = .ok (.putfield 93, 3) := by decide +kernel
theorem dJ8_balanceDeletion_25 : decode cJ8_balanceDeletion 25 = .ok (.aload_n 1, 1) := by decide +kernel
theorem dJ8_balanceDeletion_26 : decode cJ8_balanceDeletion 26 = .ok (.areturn, 1) := by decide +kernel
theorem dJ8_balanceDeletion_27 : decode cJ8_balanceDeletion 27 = .ok (.aload_n 1, 1) := by decide +kernel
theorem dJ8_balanceDeletion_28 : decode cJ8_balanceDeletion 28 = .ok (.getfield 93, 3) := by decide +kernel
theorem dJ8_balanceDeletion_31 : decode cJ8_balanceDeletion 31 = .ok (.ifCond .eq 10, 3) := by decide +kernel
theorem dJ8_balanceDeletion_34 : decode cJ8_balanceDeletion 34 = .ok (.aload_n 1, 1) := by decide +kernel
theorem dJ8_balanceDeletion_35 : decode cJ8_balanceDeletion 35 = .ok (.iconst 0, 1) := by decide +kernel
theorem dJ8_balanceDeletion_36 : decode cJ8_balanceDeletion 36 = .ok (.putfield 93, 3) := by decide +kernel
theorem dJ8_balanceDeletion_39 : decode cJ8_balanceDeletion 39 = .ok (.aload_n 0, 1) := by decide +kernel
theorem dJ8_balanceDeletion_40 : decode cJ8_balanceDeletion 40 = .ok (.areturn, 1) := by decide +kernel
theorem dJ8_balanceDeletion_41 : decode cJ8_balanceDeletion 41 = .ok (.aload_n 2, 1) := by decide +kernel
theorem dJ8_balanceDeletion_42 : decode cJ8_balanceDeletion 42 = .ok (.getfield 39, 3) := by decide +kernel
theorem dJ8_balanceDeletion_45 : decode cJ8_balanceDeletion 45 = .ok (.dup, 1) := by decide +kernel
theorem dJ8_balanceDeletion_46 : decode cJ8_balanceDeletion 46 = .ok (.astore_n 3, 1) := by decide +kernel
theorem dJ8_balanceDeletion_47 : decode cJ8_balanceDeletion 47 = .ok (.aload_n 1, 1) := by decide +kernel
theorem dJ8_balanceDeletion_48 : decode cJ8_balanceDeletion 48 = .ok (.if_acmp .ne 233, 3) := by decide +kernel
theorem dJ8_balanceDeletion_51 : decode cJ8_balanceDeletion 51 = .ok (.aload_n 2, 1) := by decide +kernel
theorem dJ8_balanceDeletion_52 : decode cJ8_balanceDeletion 52 = .ok (.getfield 42, 3) := by decide +kernel
theorem dJ8_balanceDeletion_55 : decode cJ8_balanceDeletion 55 = .ok (.dup, 1) := by decide +kernel
theorem dJ8_balanceDeletion_56 : decode cJ8_balanceDeletion 56 = .ok (.astore 4, 2) := by decide +kernel
theorem dJ8_balanceDeletion_58 : decode cJ8_balanceDeletion 58 = .ok (.ifnull 47, 3) := by decide +kernel
theorem dJ8_balanceDeletion_61 : decode cJ8_balanceDeletion 61 = .ok (.aload 4, 2) := by decide +kernel
theorem dJ8_balanceDeletion_63 : decode cJ8_balanceDeletion 63 = .ok (.getfield 93, 3) := by decide +kernel
theorem dJ8_balanceDeletion_66 : decode cJ8_balanceDeletion 66 = .ok (.ifCond .eq 39, 3) := by decide +kernel
theorem dJ8_balanceDeletion_69 : decode cJ8_balanceDeletion 69 = .ok (.aload 4, 2) := by decide +kernel
theorem dJ8_balanceDeletion_71 : decode cJ8_balanceDeletion 71 = .ok (.iconst 0, 1) := by decide +kernel
theorem dJ8_balanceDeletion_72 : decode cJ8_balanceDeletion 72 = .ok (.putfield 93, 3) := by decide +kernel
theorem dJ8_balanceDeletion_75 : decode cJ8_balanceDeletion 75 = .ok (.aload_n 2, 1) := by decide +kernel
theorem dJ8_balanceDeletion_76 : decode cJ8_balanceDeletion 76 = .ok (.iconst 1, 1) := by decide +kernel
theorem dJ8_balanceDeletion_77 : decode cJ8_balanceDeletion 77 = .ok (.putfield 93, 3) := by decide +kernel
theorem dJ8_balanceDeletion_80 : decode cJ8_balanceDeletion 80 = .ok (.aload_n 0, 1) := by decide +kernel
theorem dJ8_balanceDeletion_81 : decode cJ8_balanceDeletion 81 = .ok (.aload_n 2, 1) := by decide +kernel
theorem dJ8_balanceDeletion_82 : decode cJ8_balanceDeletion 82 = .ok (.invokestatic 130, 3) := by decide +kernel
theorem dJ8_balanceDeletion_85 : decode cJ8_balanceDeletion 85 = .ok (.astore_n 0, 1) := by decide +kernel
theorem dJ8_balanceDeletion_86 : decode cJ8_balanceDeletion 86 = .ok (.aload_n 1, 1) := by decide +kernel
theorem dJ8_balanceDeletion_87 : decode cJ8_balanceDeletion 87 = .ok (.getfield 9, 3) := by decide +kernel
theorem dJ8_balanceDeletion_90 : decode cJ8_balanceDeletion 90 = .ok (.dup, 1) := by decide +kernel
theorem dJ8_balanceDeletion_91 : decode cJ8_balanceDeletion 91 = .ok (.astore_n 2, 1) := by decide +kernel
theorem dJ8_balanceDeletion_92 : decode cJ8_balanceDeletion 92 = .ok (.ifnonnull 7, 3) := by decide +kernel
theorem dJ8_balanceDeletion_95 : decode cJ8_balanceDeletion 95 = .ok (.aconst_null, 1) := by decide +kernel
theorem dJ8_balanceDeletion_96 : decode cJ8_balanceDeletion 96 = .ok (.goto 7, 3) := by decide +kernel
theorem dJ8_balanceDeletion_99 : decode cJ8_balanceDeletion 99 = .ok (.aload_n 2, 1) := by decide +kernel
theorem dJ8_balanceDeletion_100 : decode cJ8_balanceDeletion 100 = .ok (.getfield 42, 3) := by decide +kernel
theorem dJ8_balanceDeletion_103 : decode cJ8_balanceDeletion 103 = .ok (.astore 4, 2) := by decide +kernel
theorem dJ8_balanceDeletion_105 : decode cJ8_balanceDeletion 105 = .ok (.aload 4, 2) := by decide +kernel
theorem dJ8_balanceDeletion_107 : decode cJ8_balanceDeletion 107 = .ok (.ifnonnull 8, 3) := by decide +kernel
theorem dJ8_balanceDeletion_110 : decode cJ8_balanceDeletion 110 = .ok (.aload_n 2, 1) := by decide +kernel
theorem dJ8_balanceDeletion_111 : decode cJ8_balanceDeletion 111 = .ok (.astore_n 1, 1) := by decide +kernel
theorem dJ8_balanceDeletion_112 : decode cJ8_balanceDeletion 112 = .ok (.goto (-112), 3) := by decide +kernel
theorem dJ8_balanceDeletion_115 : decode cJ8_balanceDeletion 115 = .ok (.aload 4, 2) := by decide +kernel
theorem dJ8_balanceDeletion_117 : decode cJ8_balanceDeletion 117 = .ok (.getfield 39, 3) := by decide +kernel
theorem dJ8_balanceDeletion_120 : decode cJ8_balanceDeletion 120 = .ok (.astore 5, 2) := by decide +kernel
theorem dJ8_balanceDeletion_122 : decode cJ8_balanceDeletion 122 = .ok (.aload 4, 2) := by decide +kernel
theorem dJ8_balanceDeletion_124 : decode cJ8_balanceDeletion 124 = .ok (.getfield 42, 3) := by decide +kernel
theorem dJ8_balanceDeletion_127 : decode cJ8_balanceDeletion 127 = .ok (.astore 6, 2) := by decide +kernel
theorem dJ8_balanceDeletion_129 : decode cJ8_balanceDeletion 129 = .ok (.aload 6, 2) := by decide +kernel
theorem dJ8_balanceDeletion_131 : decode cJ8_balanceDeletion 131 = .ok (.ifnull 11, 3) := by decide +kernel
theorem dJ8_balanceDeletion_134 : decode cJ8_balanceDeletion 134 = .ok (.aload 6, 2) := by decide +kernel
theorem dJ8_balanceDeletion_136 : decode cJ8_balanceDeletion 136 = .ok (.getfield 93, 3) := by decide +kernel
theorem dJ8_balanceDeletion_139 : decode cJ8_balanceDeletion 139 = .ok (.ifCond .ne 27, 3) := by decide +kernel
theorem dJ8_balanceDeletion_142 : decode cJ8_balanceDeletion 142 = .ok (.aload 5, 2) := by decide +kernel
theorem dJ8_balanceDeletion_144 : decode cJ8_balanceDeletion 144 = .ok (.ifnull 11, 3) := by decide +kernel
theorem dJ8_balanceDeletion_147 : decode cJ8_balanceDeletion 147 = .ok (.aload 5, 2) := by decide +kernel
theorem dJ8_balanceDeletion_149 : decode cJ8_balanceDeletion 149 = .ok (.getfield 93, 3) := by decide +kernel
theorem dJ8_balanceDeletion_152 : decode cJ8_balanceDeletion 152 = .ok (.ifCond .ne 14, 3) := by decide +kernel
theorem dJ8_balanceDeletion_155 : decode cJ8_balanceDeletion 155 = .ok (.aload 4, 2) := by decide +kernel
theorem dJ8_balanceDeletion_157 : decode cJ8_balanceDeletion 157 = .ok (.iconst 1, 1) := by decide +kernel
theorem dJ8_balanceDeletion_158 : decode cJ8_balanceDeletion 158 = .ok (.putfield 93, 3) := by decide +kernel
theorem dJ8_balanceDeletion_161 : decode cJ8_balanceDeletion 161 = .ok (.aload_n 2, 1) := by decide +kernel
theorem dJ8_balanceDeletion_162 : decode cJ8_balanceDeletion 162 = .ok (.astore_n 1, 1) := by decide +kernel
theorem dJ8_balanceDeletion_163 : decode cJ8_balanceDeletion 163 = .ok (.goto 115, 3) := by decide +kernel
theorem dJ8_balanceDeletion_166 : decode cJ8_balanceDeletion 166 = .ok (.aload 6, 2) := by decide +kernel
theorem dJ8_balanceDeletion_168 : decode cJ8_balanceDeletion 168 = .ok (.ifnull 11, 3) := by decide +kernel
theorem dJ8_balanceDeletion_171 : decode cJ8_balanceDeletion 171 = .ok (.aload 6, 2) := by decide +kernel
theorem dJ8_balanceDeletion_173 : decode cJ8_balanceDeletion 173 = .ok (.getfield 93, 3) := by decide +kernel
theorem dJ8_balanceDeletion_176 : decode cJ8_balanceDeletion 176 = .ok (.ifCond .ne 46, 3) := by decide +kernel
theorem dJ8_balanceDeletion_179 : decode cJ8_balanceDeletion 179 = .ok (.aload 5, 2) := by decide +kernel
theorem dJ8_balanceDeletion_181 : decode cJ8_balanceDeletion 181 = .ok (.ifnull 9, 3) := by decide +kernel
theorem dJ8_balanceDeletion_184 : decode cJ8_balanceDeletion 184 = .ok (.aload 5, 2) := by decide +kernel
theorem dJ8_balanceDeletion_186 : decode cJ8_balanceDeletion 186 = .ok (.iconst 0, 1) := by decide +kernel
theorem dJ8_balanceDeletion_187 : decode cJ8_balanceDeletion 187 = .ok (.putfield 93, 3) := by decide +kernel
theorem dJ8_balanceDeletion_190 : decode cJ8_balanceDeletion 190 = .ok (.aload 4, 2) := by decide +kernel
theorem dJ8_balanceDeletion_192 : decode cJ8_balanceDeletion 192 = .ok (.iconst 1, 1) := by decide +kernel
theorem dJ8_balanceDeletion_193 : decode cJ8_balanceDeletion 193 = .ok (.putfield 93, 3) := by decide +kernel
theorem dJ8_balanceDeletion_196 : decode cJ8_balanceDeletion 196 = .ok (.aload_n 0, 1) := by decide +kernel
theorem dJ8_balanceDeletion_197 : decode cJ8_balanceDeletion 197 = .ok (.aload 4, 2) := by decide +kernel
theorem dJ8_balanceDeletion_199 : decode cJ8_balanceDeletion 199 = .ok (.invokestatic 133, 3) := by decide +kernel
theorem dJ8_balanceDeletion_202 : decode cJ8_balanceDeletion 202 = .ok (.astore_n 0, 1) := by decide +kernel
theorem dJ8_balanceDeletion_203 : decode cJ8_balanceDeletion 203 = .ok (.aload_n 1, 1) := by decide +kernel
theorem dJ8_balanceDeletion_204 : decode cJ8_balanceDeletion 204 = .ok (.getfield 9, 3) := by decide +kernel
theorem dJ8_balanceDeletion_207 : decode cJ8_balanceDeletion 207 = .ok (.dup, 1) := by decide +kernel
theorem dJ8_balanceDeletion_208 : decode cJ8_balanceDeletion 208 = .ok (.astore_n 2, 1) := by decide +kernel
theorem dJ8_balanceDeletion_209 : decode cJ8_balanceDeletion 209 = .ok (.ifnonnull 7, 3) := by decide +kernel
theorem dJ8_balanceDeletion_212 : decode cJ8_balanceDeletion 212 = .ok (.aconst_null, 1) := by decide +kernel
theorem dJ8_balanceDeletion_213 : decode cJ8_balanceDeletion 213 = .ok (.goto 7, 3) := by decide +kernel
theorem dJ8_balanceDeletion_216 : decode cJ8_balanceDeletion 216 = .ok (.aload_n 2, 1) := by decide +kernel
theorem dJ8_balanceDeletion_217 : decode cJ8_balanceDeletion 217 = .ok (.getfield 42, 3) := by decide +kernel
theorem dJ8_balanceDeletion_220 : decode cJ8_balanceDeletion 220 = .ok (.astore 4, 2) := by decide +kernel
theorem dJ8_balanceDeletion_222 : decode cJ8_balanceDeletion 222 = .ok (.aload 4, 2) := by decide +kernel
theorem dJ8_balanceDeletion_224 : decode cJ8_balanceDeletion 224 = .ok (.ifnull 37, 3) := by decide +kernel
theorem dJ8_balanceDeletion_227 : decode cJ8_balanceDeletion 227 = .ok (.aload 4, 2) := by decide +kernel
theorem dJ8_balanceDeletion_229 : decode cJ8_balanceDeletion 229 = .ok (.aload_n 2, 1) := by decide +kernel
theorem dJ8_balanceDeletion_230 : decode cJ8_balanceDeletion 230 = .ok (.ifnonnull 7, 3) := by decide +kernel
theorem dJ8_balanceDeletion_233 : decode cJ8_balanceDeletion 233 = .ok (.iconst 0, 1) := by decide +kernel
theorem dJ8_balanceDeletion_234 : decode cJ8_balanceDeletion 234 = .ok (.goto 7, 3) := by decide +kernel
theorem dJ8_balanceDeletion_237 : decode cJ8_balanceDeletion 237 = .ok (.aload_n 2, 1) := by decide +kernel
theorem dJ8_balanceDeletion_238 : decode cJ8_balanceDeletion 238 = .ok (.getfield 93, 3) := by decide +kernel
theorem dJ8_balanceDeletion_241 : decode cJ8_balanceDeletion 241 = .ok (.putfield 93, 3) := by decide +kernel
theorem dJ8_balanceDeletion_244 : decode cJ8_balanceDeletion 244 = .ok (.aload 4, 2) := by decide +kernel
theorem dJ8_balanceDeletion_246 : decode cJ8_balanceDeletion 246 = .ok (.getfield 42, 3) := by decide +kernel
theorem dJ8_balanceDeletion_249 : decode cJ8_balanceDeletion 249 = .ok (.dup, 1) := by decide +kernel
theorem dJ8_balanceDeletion_250 : decode cJ8_balanceDeletion 250 = .ok (.astore 6, 2) := by decide +kernel
theorem dJ8_balanceDeletion_252 : decode cJ8_balanceDeletion 252 = .ok (.ifnull 9, 3) := by decide +kernel
theorem dJ8_balanceDeletion_255 : decode cJ8_balanceDeletion 255 = .ok (.aload 6, 2) := by decide +kernel
theorem dJ8_balanceDeletion_257 : decode cJ8_balanceDeletion 257 = .ok (.iconst 0, 1) := by decide +kernel
theorem dJ8_balanceDeletion_258 : decode cJ8_balanceDeletion 258 = .ok (.putfield 93, 3) := by decide +kernel
theorem dJ8_balanceDeletion_261 : decode cJ8_balanceDeletion 261 = .ok (.aload_n 2, 1) := by decide +kernel
theorem dJ8_balanceDeletion_262 : decode cJ8_balanceDeletion 262 = .ok (.ifnull 14, 3) := by decide +kernel
theorem dJ8_balanceDeletion_265 : decode cJ8_balanceDeletion 265 = .ok (.aload_n 2, 1) := by decide +kernel
theorem dJ8_balanceDeletion_266 : decode cJ8_balanceDeletion 266 = .ok (.iconst 0, 1) := by decide +kernel
theorem dJ8_balanceDeletion_267 : decode cJ8_balanceDeletion 267 = .ok (.putfield 93, 3) := by decide +kernel
theorem dJ8_balanceDeletion_270 : decode cJ8_balanceDeletion 270 = .ok (.aload_n 0, 1) := by decide +kernel
theorem dJ8_balanceDeletion_271 : decode cJ8_balanceDeletion 271 = .ok (.aload_n 2, 1) := by decide +kernel
theorem dJ8_balanceDeletion_272 : decode cJ8_balanceDeletion 272 = .ok (.invokestatic 130, 3) := by decide +kernel
theorem dJ8_balanceDeletion_275 : decode cJ8_balanceDeletion 275 = .ok (.astore_n 0, 1) := by decide +kernel
theorem dJ8_balanceDeletion_276 : decode cJ8_balanceDeletion 276 = .ok (.aload_n 0, 1) := by decide +kernel
theorem dJ8_balanceDeletion_277 : decode cJ8_balanceDeletion 277 = .ok (.astore_n 1, 1) := by decide +kernel
theorem dJ8_balanceDeletion_278 : decode cJ8_balanceDeletion 278 = .ok (.goto (-278), 3) := by decide +kernel
theorem dJ8_balanceDeletion_281 : decode cJ8_balanceDeletion 281 = .ok (.aload_n 3, 1) := by decide +kernel
theorem dJ8_balanceDeletion_282 : decode cJ8_balanceDeletion 282 = .ok (.ifnull 44, 3) := by decide +kernel
theorem dJ8_balanceDeletion_285 : decode cJ8_balanceDeletion 285 = .ok (.aload_n 3, 1) := by decide +kernel
theorem dJ8_balanceDeletion_286 : decode cJ8_balanceDeletion 286 = .ok (.getfield 93, 3) := by decide +kernel
theorem dJ8_balanceDeletion_289 : decode cJ8_balanceDeletion 289 = .ok (.ifCond .eq 37, 3) := by decide +kernel
theorem dJ8_balanceDeletion_292 : decode cJ8_balanceDeletion 292 = .ok (.aload_n 3, 1) := by decide +kernel
theorem dJ8_balanceDeletion_293 : decode cJ8_balanceDeletion 293 = .ok (.iconst 0, 1) := by decide +kernel
theorem dJ8_balanceDeletion_294 : decode cJ8_balanceDeletion 294 = .ok (.putfield 93, 3) := by decide +kernel
theorem dJ8_balanceDeletion_297 : decode cJ8_balanceDeletion 297 = .ok (.aload_n 2, 1) := by decide +kernel
theorem dJ8_balanceDeletion_298 : decode cJ8_balanceDeletion 298 = .ok (.iconst 1, 1) := by decide +kernel
theorem dJ8_balanceDeletion_299 : decode cJ8_balanceDeletion 299 = .ok (.putfield 93, 3) := by decide +kernel
theorem dJ8_balanceDeletion_302 : decode cJ8_balanceDeletion 302 = .ok (.aload_n 0, 1) := by decide +kernel
theorem dJ8_balanceDeletion_303 : decode cJ8_balanceDeletion 303 = .ok (.aload_n 2, 1) := by decide +kernel
theorem dJ8_balanceDeletion_304 : decode cJ8_balanceDeletion 304 = .ok (.invokestatic 133, 3) := by decide +kernel
theorem dJ8_balanceDeletion_307 : decode cJ8_balanceDeletion 307 = .ok (.astore_n 0, 1) := by decide +kernel
theorem dJ8_balanceDeletion_308 : decode cJ8_balanceDeletion 308 = .ok (.aload_n 1, 1) := by decide +kernel
theorem dJ8_balanceDeletion_309 : decode cJ8_balanceDeletion 309 = .ok (.getfield 9, 3) := by decide +kernel
theorem dJ8_balanceDeletion_312 : decode cJ8_balanceDeletion 312 = .ok (.dup, 1) := by decide +kernel
theorem dJ8_balanceDeletion_313 : decode cJ8_balanceDeletion 313 = .ok (.astore_n 2, 1) := by decide +kernel
theorem dJ8_balanceDeletion_314 : decode cJ8_balanceDeletion 314 = .ok (.ifnonnull 7, 3) := by decide +kernel
theorem dJ8_balanceDeletion_317 : decode cJ8_balanceDeletion 317 = .ok (.aconst_null, 1) := by decide +kernel
theorem dJ8_balanceDeletion_318 : decode cJ8_balanceDeletion 318 = .ok (.goto 7, 3) := by decide +kernel
theorem dJ8_balanceDeletion_321 : decode cJ8_balanceDeletion 321 = .ok (.aload_n 2, 1) := by decide +kernel
theorem dJ8_balanceDeletion_322 : decode cJ8_balanceDeletion 322 = .ok (.getfield 39, 3) := by decide +kernel
theorem dJ8_balanceDeletion_325 : decode cJ8_balanceDeletion 325 = .ok (.astore_n 3, 1) := by decide +kernel
theorem dJ8_balanceDeletion_326 : decode cJ8_balanceDeletion 326 = .ok (.aload_n 3, 1) := by decide +kernel
theorem dJ8_balanceDeletion_327 : decode cJ8_balanceDeletion 327 = .ok (.ifnonnull 8, 3) := by decide +kernel
theorem dJ8_balanceDeletion_330 : decode cJ8_balanceDeletion 330 = .ok (.aload_n 2, 1) := by decide +kernel
theorem dJ8_balanceDeletion_331 : decode cJ8_balanceDeletion 331 = .ok (.astore_n 1, 1) := by decide +kernel
theorem dJ8_balanceDeletion_332 : decode cJ8_balanceDeletion 332 = .ok (.goto (-332), 3) := by decide +kernel
theorem dJ8_balanceDeletion_335 : decode cJ8_balanceDeletion 335 = .ok (.aload_n 3, 1) := by decide +kernel
theorem dJ8_balanceDeletion_336 : decode cJ8_balanceDeletion 336 = .ok (.getfield 39, 3) := by decide +kernel
theorem dJ8_balanceDeletion_339 : decode cJ8_balanceDeletion 339 = .ok (.astore 5, 2) := by decide +kernel
theorem dJ8_balanceDeletion_341 : decode cJ8_balanceDeletion 341 = .ok (.aload_n 3, 1) := by decide +kernel
theorem dJ8_balanceDeletion_342 : decode cJ8_balanceDeletion 342 = .ok (.getfield 42, 3) := by decide +kernel
theorem dJ8_balanceDeletion_345 : decode cJ8_balanceDeletion 345 = .ok (.astore 6, 2) := by decide +kernel
theorem dJ8_balanceDeletion_347 : decode cJ8_balanceDeletion 347 = .ok (.aload 5, 2) := by decide +kernel
theorem dJ8_balanceDeletion_349 : decode cJ8_balanceDeletion 349 = .ok (.ifnull 11, 3) := by decide +kernel
theorem dJ8_balanceDeletion_352 : decode cJ8_balanceDeletion 352 = .ok (.aload 5, 2) := by decide +kernel
theorem dJ8_balanceDeletion_354 : decode cJ8_balanceDeletion 354 = .ok (.getfield 93, 3) := by decide +kernel
theorem dJ8_balanceDeletion_357 : decode cJ8_balanceDeletion 357 = .ok (.ifCond .ne 26, 3) := by decide +kernel
theorem dJ8_balanceDeletion_360 : decode cJ8_balanceDeletion 360 = .ok (.aload 6, 2) := by decide +kernel
theorem dJ8_balanceDeletion_362 : decode cJ8_balanceDeletion 362 = .ok (.ifnull 11, 3) := by decide +kernel
theorem dJ8_balanceDeletion_365 : decode cJ8_balanceDeletion 365 = .ok (.aload 6, 2) := by decide +kernel
theorem dJ8_balanceDeletion_367 : decode cJ8_balanceDeletion 367 = .ok (.getfield 93, 3) := by decide +kernel
theorem dJ8_balanceDeletion_370 : decode cJ8_balanceDeletion 370 = .ok (.ifCond .ne 13, 3) := by decide +kernel
theorem dJ8_balanceDeletion_373 : decode cJ8_balanceDeletion 373 = .ok (.aload_n 3, 1) := by decide +kernel
theorem dJ8_balanceDeletion_374 : decode cJ8_balanceDeletion 374 = .ok (.iconst 1, 1) := by decide +kernel
theorem dJ8_balanceDeletion_375 : decode cJ8_balanceDeletion 375 = .ok (.putfield 93, 3) := by decide +kernel
theorem dJ8_balanceDeletion_378 : decode cJ8_balanceDeletion 378 = .ok (.aload_n 2, 1) := by decide +kernel
theorem dJ8_balanceDeletion_379 : decode cJ8_balanceDeletion 379 = .ok (.astore_n 1, 1) := by decide +kernel
theorem dJ8_balanceDeletion_380 : decode cJ8_balanceDeletion 380 = .ok (.goto 109, 3) := by decide +kernel
theorem dJ8_balanceDeletion_383 : decode cJ8_balanceDeletion 383 = .ok (.aload 5, 2) := by decide +kernel
theorem dJ8_balanceDeletion_385 : decode cJ8_balanceDeletion 385 = .ok (.ifnull 11, 3) := by decide +kernel
theorem dJ8_balanceDeletion_388 : decode cJ8_balanceDeletion 388 = .ok (.aload 5, 2) := by decide +kernel
theorem dJ8_balanceDeletion_390 : decode cJ8_balanceDeletion 390 = .ok (.getfield 93, 3) := by decide +kernel
theorem dJ8_balanceDeletion_393 : decode cJ8_balanceDeletion 393 = .ok (.ifCond .ne 43, 3) := by decide +kernel
theorem dJ8_balanceDeletion_396 : decode cJ8_balanceDeletion 396 = .ok (.aload 6, 2) := by decide +kernel
theorem dJ8_balanceDeletion_398 : decode cJ8_balanceDeletion 398 = .ok (.ifnull 9, 3) := by decide +kernel
theorem dJ8_balanceDeletion_401 : decode cJ8_balanceDeletion 401 = .ok (.aload 6, 2) := by decide +kernel
theorem dJ8_balanceDeletion_403 : decode cJ8_balanceDeletion 403 = .ok (.iconst 0, 1) := by decide +kernel
theorem dJ8_balanceDeletion_404 : decode cJ8_balanceDeletion 404 = .ok (.putfield 93, 3) := by decide +kernel
theorem dJ8_balanceDeletion_407 : decode cJ8_balanceDeletion 407 = .ok (.aload_n 3, 1) := by decide +kernel
theorem dJ8_balanceDeletion_408 : decode cJ8_balanceDeletion 408 = .ok (.iconst 1, 1) := by decide +kernel
theorem dJ8_balanceDeletion_409 : decode cJ8_balanceDeletion 409 = .ok (.putfield 93, 3) := by decide +kernel
theorem dJ8_balanceDeletion_412 : decode cJ8_balanceDeletion 412 = .ok (.aload_n 0, 1) := by decide +kernel
theorem dJ8_balanceDeletion_413 : decode cJ8_balanceDeletion 413 = .ok (.aload_n 3, 1) := by decide +kernel
theorem dJ8_balanceDeletion_414 : decode cJ8_balanceDeletion 414 = .ok (.invokestatic 130, 3) := by decide +kernel
theorem dJ8_balanceDeletion_417 : decode cJ8_balanceDeletion 417 = .ok (.astore_n 0, 1) := by decide +kernel
theorem dJ8_balanceDeletion_418 : decode cJ8_balanceDeletion 418 = .ok (.aload_n 1, 1) := by decide +kernel
theorem dJ8_balanceDeletion_419 : decode cJ8_balanceDeletion 419 = .ok (.getfield 9, 3) := by decide +kernel
theorem dJ8_balanceDeletion_422 : decode cJ8_balanceDeletion 422 = .ok (.dup, 1) := by decide +kernel
theorem dJ8_balanceDeletion_423 : decode cJ8_balanceDeletion 423 = .ok (.astore_n 2, 1) := by decide +kernel
theorem dJ8_balanceDeletion_424 : decode cJ8_balanceDeletion 424 = .ok (.ifnonnull 7, 3) := by decide +kernel
theorem dJ8_balanceDeletion_427 : decode cJ8_balanceDeletion 427 = .ok (.aconst_null, 1) := by decide +kernel
theorem dJ8_balanceDeletion_428 : decode cJ8_balanceDeletion 428 = .ok (.goto 7, 3) := by decide +kernel
theorem dJ8_balanceDeletion_431 : decode cJ8_balanceDeletion 431 = .ok (.aload_n 2, 1) := by decide +kernel
theorem dJ8_balanceDeletion_432 : decode cJ8_balanceDeletion 432 = .ok (.getfield 39, 3) := by decide +kernel
theorem dJ8_balanceDeletion_435 : decode cJ8_balanceDeletion 435 = .ok (.astore_n 3, 1) := by decide +kernel
theorem dJ8_balanceDeletion_436 : decode cJ8_balanceDeletion 436 = .ok (.aload_n 3, 1) := by decide +kernel
theorem dJ8_balanceDeletion_437 : decode cJ8_balanceDeletion 437 = .ok (.ifnull 35, 3) := by decide +kernel
theorem dJ8_balanceDeletion_440 : decode cJ8_balanceDeletion 440 = .ok (.aload_n 3, 1) := by decide +kernel
theorem dJ8_balanceDeletion_441 : decode cJ8_balanceDeletion 441 = .ok (.aload_n 2, 1) := by decide +kernel
theorem dJ8_balanceDeletion_442 : decode cJ8_balanceDeletion 442 = .ok (.ifnonnull 7, 3) := by decide +kernel
theorem dJ8_balanceDeletion_445 : decode cJ8_balanceDeletion 445 = .ok (.iconst 0, 1) := by decide +kernel
theorem dJ8_balanceDeletion_446 : decode cJ8_balanceDeletion 446 = .ok (.goto 7, 3) := by decide +kernel
theorem dJ8_balanceDeletion_449 : decode cJ8_balanceDeletion 449 = .ok (.aload_n 2, 1) := by decide +kernel
theorem dJ8_balanceDeletion_450 : decode cJ8_balanceDeletion 450 = .ok (.getfield 93, 3) := by decide +kernel
theorem dJ8_balanceDeletion_453 : decode cJ8_balanceDeletion 453 = .ok (.putfield 93, 3) := by decide +kernel
theorem dJ8_balanceDeletion_456 : decode cJ8_balanceDeletion 456 = .ok (.aload_n 3, 1) := by decide +kernel
theorem dJ8_balanceDeletion_457 : decode cJ8_balanceDeletion 457 = .ok (.getfield 39, 3) := by decide +kernel
theorem dJ8_balanceDeletion_460 : decode cJ8_balanceDeletion 460 = .ok (.dup, 1) := by decide +kernel
theorem dJ8_balanceDeletion_461 : decode cJ8_balanceDeletion 461 = .ok (.astore 5, 2) := by decide +kernel
theorem dJ8_balanceDeletion_463 : decode cJ8_balanceDeletion 463 = .ok (.ifnull 9, 3) := by decide +kernel
theorem dJ8_balanceDeletion_466 : decode cJ8_balanceDeletion 466 = .ok (.aload 5, 2) := by decide +kernel
theorem dJ8_balanceDeletion_468 : decode cJ8_balanceDeletion 468 = .ok (.iconst 0, 1) := by decide +kernel
theorem dJ8_balanceDeletion_469 : decode cJ8_balanceDeletion 469 = .ok (.putfield 93, 3) := by decide +kernel
theorem dJ8_balanceDeletion_472 : decode cJ8_balanceDeletion 472 = .ok (.aload_n 2, 1) := by decide +kernel
theorem dJ8_balanceDeletion_473 : decode cJ8_balanceDeletion 473 = .ok (.ifnull 14, 3) := by decide +kernel
theorem dJ8_balanceDeletion_476 : decode cJ8_balanceDeletion 476 = .ok (.aload_n 2, 1) := by decide +kernel
theorem dJ8_balanceDeletion_477 : decode cJ8_balanceDeletion 477 = .ok (.iconst 0, 1) := by decide +kernel
theorem dJ8_balanceDeletion_478 : decode cJ8_balanceDeletion 478 = .ok (.putfield 93, 3) := by decide +kernel
theorem dJ8_balanceDeletion_481 : decode cJ8_balanceDeletion 481 = .ok (.aload_n 0, 1) := by decide +kernel
theorem dJ8_balanceDeletion_482 : decode cJ8_balanceDeletion 482 = .ok (.aload_n 2, 1) := by decide +kernel
theorem dJ8_balanceDeletion_483 : decode cJ8_balanceDeletion 483 = .ok (.invokestatic 133, 3) := by decide +kernel
theorem dJ8_balanceDeletion_486 : decode cJ8_balanceDeletion 486 = .ok (.astore_n 0, 1) := by decide +kernel
theorem dJ8_balanceDeletion_487 : decode cJ8_balanceDeletion 487 = .ok (.aload_n 0, 1) := by decide +kernel
theorem dJ8_balanceDeletion_488 : decode cJ8_balanceDeletion 488 = .ok (.astore_n 1, 1) := by decide +kernel
theorem dJ8_balanceDeletion_489 : decode cJ8_balanceDeletion 489 = .ok (.goto (-489), 3) := by decide +kernel
theorem q21 : (Jvm.Cond.initialized "java/util/HashMap$TreeNode") ∈ lw_all := lw_g (lw_at lw_m1 13 rfl) rfl
theorem q224 : (Jvm.Cond.instanceMethod ({ cls := "java/util/HashMap$TreeNode", name := "split", desc := "(Ljava/util/HashMap;[Ljava/util/HashMap$Node;II)V" } : Jvm.MethodName)) ∈ lw_all := lw_g (lw_at lw_m1 216 rfl) rfl
theorem q225 : (Jvm.Cond.selects "java/util/HashMap$TreeNode" ({ cls := "java/util/HashMap$TreeNode", name := "split", desc := "(Ljava/util/HashMap;[Ljava/util/HashMap$Node;II)V" } : Jvm.MethodName) ({ cls := "java/util/HashMap$TreeNode", name := "split", desc := "(Ljava/util/HashMap;[Ljava/util/HashMap$Node;II)V" } : Jvm.MethodName)) ∈ lw_all := lw_g (lw_at lw_m1 217 rfl) rfl
theorem q226 : (Jvm.Cond.code ({ cls := "java/util/HashMap$TreeNode", name := "split", desc := "(Ljava/util/HashMap;[Ljava/util/HashMap$Node;II)V" } : Jvm.MethodName) prog_33_method_11_code (14 : Nat) (Option.none : Option Jvm.ClassFile.FieldType)) ∈ lw_all := lw_g (lw_at lw_m1 218 rfl) rfl
theorem q227 : (Jvm.Cond.classLink "java/util/HashMap$TreeNode" (10 : Nat) "java/util/HashMap$TreeNode") ∈ lw_all := lw_g (lw_at lw_m1 219 rfl) rfl
theorem q228 : (Jvm.Cond.methodLink "java/util/HashMap$TreeNode" (119 : Nat) ({ cls := "java/util/HashMap$TreeNode", name := "untreeify", desc := "(Ljava/util/HashMap;)Ljava/util/HashMap$Node;" } : Jvm.MethodName)) ∈ lw_all := lw_g (lw_at lw_m1 220 rfl) rfl
theorem q229 : (Jvm.Cond.instanceMethod ({ cls := "java/util/HashMap$TreeNode", name := "untreeify", desc := "(Ljava/util/HashMap;)Ljava/util/HashMap$Node;" } : Jvm.MethodName)) ∈ lw_all := lw_g (lw_at lw_m1 221 rfl) rfl
theorem q230 : (Jvm.Cond.selects "java/util/HashMap$TreeNode" ({ cls := "java/util/HashMap$TreeNode", name := "untreeify", desc := "(Ljava/util/HashMap;)Ljava/util/HashMap$Node;" } : Jvm.MethodName) ({ cls := "java/util/HashMap$TreeNode", name := "untreeify", desc := "(Ljava/util/HashMap;)Ljava/util/HashMap$Node;" } : Jvm.MethodName)) ∈ lw_all := lw_g (lw_at lw_m1 222 rfl) rfl
theorem q231 : (Jvm.Cond.code ({ cls := "java/util/HashMap$TreeNode", name := "untreeify", desc := "(Ljava/util/HashMap;)Ljava/util/HashMap$Node;" } : Jvm.MethodName) prog_33_method_8_code (6 : Nat) (Option.some (Jvm.ClassFile.FieldType.object "java/util/HashMap$Node"))) ∈ lw_all := lw_g (lw_at lw_m1 223 rfl) rfl
theorem q232 : (Jvm.Cond.methodLink "java/util/HashMap$TreeNode" (108 : Nat) ({ cls := "java/util/HashMap", name := "replacementNode", desc := "(Ljava/util/HashMap$Node;Ljava/util/HashMap$Node;)Ljava/util/HashMap$Node;" } : Jvm.MethodName)) ∈ lw_all := lw_g (lw_at lw_m1 224 rfl) rfl
theorem q253 : (Jvm.Cond.fieldLink "java/util/HashMap$TreeNode" (15 : Nat) "java/util/HashMap$TreeNode" "hash" "I") ∈ lw_all := lw_g (lw_at lw_m2 5 rfl) rfl
theorem q254 : (Jvm.Cond.sameField "java/util/HashMap$TreeNode" "java/util/HashMap$Node" "hash" "I") ∈ lw_all := lw_g (lw_at lw_m2 6 rfl) rfl
theorem q262 : (Jvm.Cond.fieldLink "java/util/HashMap$TreeNode" (45 : Nat) "java/util/HashMap$TreeNode" "key" "Ljava/lang/Object;") ∈ lw_all := lw_g (lw_at lw_m2 14 rfl) rfl
theorem q263 : (Jvm.Cond.sameField "java/util/HashMap$TreeNode" "java/util/HashMap$Node" "key" "Ljava/lang/Object;") ∈ lw_all := lw_g (lw_at lw_m2 15 rfl) rfl
theorem q276 : (Jvm.Cond.fieldLink "java/util/HashMap$TreeNode" (22 : Nat) "java/util/HashMap$TreeNode" "next" "Ljava/util/HashMap$Node;") ∈ lw_all := lw_g (lw_at lw_m2 28 rfl) rfl
theorem q277 : (Jvm.Cond.sameField "java/util/HashMap$TreeNode" "java/util/HashMap$Node" "next" "Ljava/util/HashMap$Node;") ∈ lw_all := lw_g (lw_at lw_m2 29 rfl) rfl
theorem q278 : (Jvm.Cond.fieldLink "java/util/HashMap$TreeNode" (112 : Nat) "java/util/HashMap$Node" "next" "Ljava/util/HashMap$Node;") ∈ lw_all := lw_g (lw_at lw_m2 30 rfl) rfl
theorem q306 : (Jvm.Cond.methodLink "java/util/HashMap$TreeNode" (126 : Nat) ({ cls := "java/util/HashMap$TreeNode", name := "treeify", desc := "([Ljava/util/HashMap$Node;)V" } : Jvm.MethodName)) ∈ lw_all := lw_g (lw_at lw_m2 58 rfl) rfl
theorem q307 : (Jvm.Cond.instanceMethod ({ cls := "java/util/HashMap$TreeNode", name := "treeify", desc := "([Ljava/util/HashMap$Node;)V" } : Jvm.MethodName)) ∈ lw_all := lw_g (lw_at lw_m2 59 rfl) rfl
theorem q308 : (Jvm.Cond.selects "java/util/HashMap$TreeNode" ({ cls := "java/util/HashMap$TreeNode", name := "treeify", desc := "([Ljava/util/HashMap$Node;)V" } : Jvm.MethodName) ({ cls := "java/util/HashMap$TreeNode", name := "treeify", desc := "([Ljava/util/HashMap$Node;)V" } : Jvm.MethodName)) ∈ lw_all := lw_g (lw_at lw_m2 60 rfl) rfl
theorem q309 : (Jvm.Cond.code ({ cls := "java/util/HashMap$TreeNode", name := "treeify", desc := "([Ljava/util/HashMap$Node;)V" } : Jvm.MethodName) prog_33_method_7_code (13 : Nat) (Option.none : Option Jvm.ClassFile.FieldType)) ∈ lw_all := lw_g (lw_at lw_m2 61 rfl) rfl
theorem q310 : (Jvm.Cond.methodLink "java/util/HashMap$TreeNode" (55 : Nat) ({ cls := "java/util/HashMap", name := "comparableClassFor", desc := "(Ljava/lang/Object;)Ljava/lang/Class;" } : Jvm.MethodName)) ∈ lw_all := lw_g (lw_at lw_m2 62 rfl) rfl
theorem q327 : (Jvm.Cond.selects "java/util/HashMap$TreeNode" ({ cls := "java/lang/Object", name := "getClass", desc := "()Ljava/lang/Class;" } : Jvm.MethodName) ({ cls := "java/lang/Object", name := "getClass", desc := "()Ljava/lang/Class;" } : Jvm.MethodName)) ∈ lw_all := lw_g (lw_at lw_m2 79 rfl) rfl
theorem q335 : (Jvm.Cond.methodLink "java/util/HashMap$TreeNode" (59 : Nat) ({ cls := "java/util/HashMap", name := "compareComparables", desc := "(Ljava/lang/Class;Ljava/lang/Object;Ljava/lang/Object;)I" } : Jvm.MethodName)) ∈ lw_all := lw_g (lw_at lw_m2 87 rfl) rfl
theorem q355 : (Jvm.Cond.methodLink "java/util/HashMap$TreeNode" (100 : Nat) ({ cls := "java/util/HashMap$TreeNode", name := "balanceInsertion", desc := "(Ljava/util/HashMap$TreeNode;Ljava/util/HashMap$TreeNode;)Ljava/util/HashMap$TreeNode;" } : Jvm.MethodName)) ∈ lw_all := lw_g (lw_at lw_m2 107 rfl) rfl
theorem q356 : (Jvm.Cond.static ({ cls := "java/util/HashMap$TreeNode", name := "balanceInsertion", desc := "(Ljava/util/HashMap$TreeNode;Ljava/util/HashMap$TreeNode;)Ljava/util/HashMap$TreeNode;" } : Jvm.MethodName)) ∈ lw_all := lw_g (lw_at lw_m2 108 rfl) rfl
theorem q357 : (Jvm.Cond.code ({ cls := "java/util/HashMap$TreeNode", name := "balanceInsertion", desc := "(Ljava/util/HashMap$TreeNode;Ljava/util/HashMap$TreeNode;)Ljava/util/HashMap$TreeNode;" } : Jvm.MethodName) prog_33_method_14_code (6 : Nat) (Option.some (Jvm.ClassFile.FieldType.object "java/util/HashMap$TreeNode"))) ∈ lw_all := lw_g (lw_at lw_m2 109 rfl) rfl
theorem q358 : (Jvm.Cond.methodLink "java/util/HashMap$TreeNode" (130 : Nat) ({ cls := "java/util/HashMap$TreeNode", name := "rotateLeft", desc := "(Ljava/util/HashMap$TreeNode;Ljava/util/HashMap$TreeNode;)Ljava/util/HashMap$TreeNode;" } : Jvm.MethodName)) ∈ lw_all := lw_g (lw_at lw_m2 110 rfl) rfl
theorem q359 : (Jvm.Cond.static ({ cls := "java/util/HashMap$TreeNode", name := "rotateLeft", desc := "(Ljava/util/HashMap$TreeNode;Ljava/util/HashMap$TreeNode;)Ljava/util/HashMap$TreeNode;" } : Jvm.MethodName)) ∈ lw_all := lw_g (lw_at lw_m2 111 rfl) rfl
theorem q360 : (Jvm.Cond.code ({ cls := "java/util/HashMap$TreeNode", name := "rotateLeft", desc := "(Ljava/util/HashMap$TreeNode;Ljava/util/HashMap$TreeNode;)Ljava/util/HashMap$TreeNode;" } : Jvm.MethodName) prog_33_method_12_code (5 : Nat) (Option.some (Jvm.ClassFile.FieldType.object "java/util/HashMap$TreeNode"))) ∈ lw_all := lw_g (lw_at lw_m2 112 rfl) rfl
theorem q361 : (Jvm.Cond.methodLink "java/util/HashMap$TreeNode" (133 : Nat) ({ cls := "java/util/HashMap$TreeNode", name := "rotateRight", desc := "(Ljava/util/HashMap$TreeNode;Ljava/util/HashMap$TreeNode;)Ljava/util/HashMap$TreeNode;" } : Jvm.MethodName)) ∈ lw_all := lw_g (lw_at lw_m2 113 rfl) rfl
theorem q362 : (Jvm.Cond.static ({ cls := "java/util/HashMap$TreeNode", name := "rotateRight", desc := "(Ljava/util/HashMap$TreeNode;Ljava/util/HashMap$TreeNode;)Ljava/util/HashMap$TreeNode;" } : Jvm.MethodName)) ∈ lw_all := lw_g (lw_at lw_m2 114 rfl) rfl
theorem q363 : (Jvm.Cond.code ({ cls := "java/util/HashMap$TreeNode", name := "rotateRight", desc := "(Ljava/util/HashMap$TreeNode;Ljava/util/HashMap$TreeNode;)Ljava/util/HashMap$TreeNode;" } : Jvm.MethodName) prog_33_method_13_code (5 : Nat) (Option.some (Jvm.ClassFile.FieldType.object "java/util/HashMap$TreeNode"))) ∈ lw_all := lw_g (lw_at lw_m2 115 rfl) rfl
theorem q364 : (Jvm.Cond.methodLink "java/util/HashMap$TreeNode" (104 : Nat) ({ cls := "java/util/HashMap$TreeNode", name := "moveRootToFront", desc := "([Ljava/util/HashMap$Node;Ljava/util/HashMap$TreeNode;)V" } : Jvm.MethodName)) ∈ lw_all := lw_g (lw_at lw_m2 116 rfl) rfl
theorem q365 : (Jvm.Cond.static ({ cls := "java/util/HashMap$TreeNode", name := "moveRootToFront", desc := "([Ljava/util/HashMap$Node;Ljava/util/HashMap$TreeNode;)V" } : Jvm.MethodName)) ∈ lw_all := lw_g (lw_at lw_m2 117 rfl) rfl
theorem q366 : (Jvm.Cond.code ({ cls := "java/util/HashMap$TreeNode", name := "moveRootToFront", desc := "([Ljava/util/HashMap$Node;Ljava/util/HashMap$TreeNode;)V" } : Jvm.MethodName) prog_33_method_3_code (7 : Nat) (Option.none : Option Jvm.ClassFile.FieldType)) ∈ lw_all := lw_g (lw_at lw_m2 118 rfl) rfl
theorem q367 : (Jvm.Cond.fieldLink "java/util/HashMap$TreeNode" (26 : Nat) "java/util/HashMap$TreeNode" "$assertionsDisabled" "Z") ∈ lw_all := lw_g (lw_at lw_m2 119 rfl) rfl
theorem q368 : (Jvm.Cond.laysStatic "java/util/HashMap$TreeNode" "$assertionsDisabled" "Z") ∈ lw_tbl := lw_at lw_m2 120 rfl
theorem q397 : (Jvm.Cond.instanceMethod ({ cls := "java/util/HashMap$TreeNode", name := "putTreeVal", desc := "(Ljava/util/HashMap;[Ljava/util/HashMap$Node;ILjava/lang/Object;Ljava/lang/Object;)Ljava/util/HashMap$TreeNode;" } : Jvm.MethodName)) ∈ lw_all := lw_g (lw_at lw_m2 149 rfl) rfl
theorem q398 : (Jvm.Cond.selects "java/util/HashMap$TreeNode" ({ cls := "java/util/HashMap$TreeNode", name := "putTreeVal", desc := "(Ljava/util/HashMap;[Ljava/util/HashMap$Node;ILjava/lang/Object;Ljava/lang/Object;)Ljava/util/HashMap$TreeNode;" } : Jvm.MethodName) ({ cls := "java/util/HashMap$TreeNode", name := "putTreeVal", desc := "(Ljava/util/HashMap;[Ljava/util/HashMap$Node;ILjava/lang/Object;Ljava/lang/Object;)Ljava/util/HashMap$TreeNode;" } : Jvm.MethodName)) ∈ lw_all := lw_g (lw_at lw_m2 150 rfl) rfl
theorem q399 : (Jvm.Cond.code ({ cls := "java/util/HashMap$TreeNode", name := "putTreeVal", desc := "(Ljava/util/HashMap;[Ljava/util/HashMap$Node;ILjava/lang/Object;Ljava/lang/Object;)Ljava/util/HashMap$TreeNode;" } : Jvm.MethodName) prog_33_method_9_code (16 : Nat) (Option.some (Jvm.ClassFile.FieldType.object "java/util/HashMap$TreeNode"))) ∈ lw_all := lw_g (lw_at lw_m2 151 rfl) rfl
theorem q400 : (Jvm.Cond.methodLink "java/util/HashMap$TreeNode" (67 : Nat) ({ cls := "java/util/HashMap$TreeNode", name := "root", desc := "()Ljava/util/HashMap$TreeNode;" } : Jvm.MethodName)) ∈ lw_all := lw_g (lw_at lw_m2 152 rfl) rfl
theorem q401 : (Jvm.Cond.instanceMethod ({ cls := "java/util/HashMap$TreeNode", name := "root", desc := "()Ljava/util/HashMap$TreeNode;" } : Jvm.MethodName)) ∈ lw_all := lw_g (lw_at lw_m2 153 rfl) rfl
theorem q402 : (Jvm.Cond.selects "java/util/HashMap$TreeNode" ({ cls := "java/util/HashMap$TreeNode", name := "root", desc := "()Ljava/util/HashMap$TreeNode;" } : Jvm.MethodName) ({ cls := "java/util/HashMap$TreeNode", name := "root", desc := "()Ljava/util/HashMap$TreeNode;" } : Jvm.MethodName)) ∈ lw_all := lw_g (lw_at lw_m2 154 rfl) rfl
theorem q403 : (Jvm.Cond.code ({ cls := "java/util/HashMap$TreeNode", name := "root", desc := "()Ljava/util/HashMap$TreeNode;" } : Jvm.MethodName) prog_33_method_2_code (3 : Nat) (Option.some (Jvm.ClassFile.FieldType.object "java/util/HashMap$TreeNode"))) ∈ lw_all := lw_g (lw_at lw_m2 155 rfl) rfl
theorem q404 : (Jvm.Cond.methodLink "java/util/HashMap$TreeNode" (49 : Nat) ({ cls := "java/lang/Object", name := "equals", desc := "(Ljava/lang/Object;)Z" } : Jvm.MethodName)) ∈ lw_all := lw_g (lw_at lw_m2 156 rfl) rfl
theorem q405 : (Jvm.Cond.methodLink "java/util/HashMap$TreeNode" (63 : Nat) ({ cls := "java/util/HashMap$TreeNode", name := "find", desc := "(ILjava/lang/Object;Ljava/lang/Class;)Ljava/util/HashMap$TreeNode;" } : Jvm.MethodName)) ∈ lw_all := lw_g (lw_at lw_m2 157 rfl) rfl
theorem q406 : (Jvm.Cond.instanceMethod ({ cls := "java/util/HashMap$TreeNode", name := "find", desc := "(ILjava/lang/Object;Ljava/lang/Class;)Ljava/util/HashMap$TreeNode;" } : Jvm.MethodName)) ∈ lw_all := lw_g (lw_at lw_m2 158 rfl) rfl
theorem q407 : (Jvm.Cond.selects "java/util/HashMap$TreeNode" ({ cls := "java/util/HashMap$TreeNode", name := "find", desc := "(ILjava/lang/Object;Ljava/lang/Class;)Ljava/util/HashMap$TreeNode;" } : Jvm.MethodName) ({ cls := "java/util/HashMap$TreeNode", name := "find", desc := "(ILjava/lang/Object;Ljava/lang/Class;)Ljava/util/HashMap$TreeNode;" } : Jvm.MethodName)) ∈ lw_all := lw_g (lw_at lw_m2 159 rfl) rfl
theorem q408 : (Jvm.Cond.code ({ cls := "java/util/HashMap$TreeNode", name := "find", desc := "(ILjava/lang/Object;Ljava/lang/Class;)Ljava/util/HashMap$TreeNode;" } : Jvm.MethodName) prog_33_method_4_code (11 : Nat) (Option.some (Jvm.ClassFile.FieldType.object "java/util/HashMap$TreeNode"))) ∈ lw_all := lw_g (lw_at lw_m2 160 rfl) rfl
theorem q409 : (Jvm.Cond.methodLink "java/util/HashMap$TreeNode" (115 : Nat) ({ cls := "java/util/HashMap", name := "newTreeNode", desc := "(ILjava/lang/Object;Ljava/lang/Object;Ljava/util/HashMap$Node;)Ljava/util/HashMap$TreeNode;" } : Jvm.MethodName)) ∈ lw_all := lw_g (lw_at lw_m2 161 rfl) rfl
theorem q417 : (Jvm.Cond.instantiable "java/util/HashMap$TreeNode" (11 : Nat)) ∈ lw_all := lw_g (lw_at lw_m2 169 rfl) rfl
theorem q419 : (Jvm.Cond.instanceMethod ({ cls := "java/util/HashMap$TreeNode", name := "<init>", desc := "(ILjava/lang/Object;Ljava/lang/Object;Ljava/util/HashMap$Node;)V" } : Jvm.MethodName)) ∈ lw_all := lw_g (lw_at lw_m2 171 rfl) rfl
theorem q420 : (Jvm.Cond.code ({ cls := "java/util/HashMap$TreeNode", name := "<init>", desc := "(ILjava/lang/Object;Ljava/lang/Object;Ljava/util/HashMap$Node;)V" } : Jvm.MethodName) prog_33_method_1_code (5 : Nat) (Option.none : Option Jvm.ClassFile.FieldType)) ∈ lw_all := lw_g (lw_at lw_m2 172 rfl) rfl
theorem q421 : (Jvm.Cond.methodLink "java/util/HashMap$TreeNode" (3 : Nat) ({ cls := "java/util/LinkedHashMap$Entry", name := "<init>", desc := "(ILjava/lang/Object;Ljava/lang/Object;Ljava/util/HashMap$Node;)V" } : Jvm.MethodName)) ∈ lw_all := lw_g (lw_at lw_m2 173 rfl) rfl
theorem q422 : (Jvm.Cond.fieldLink "java/util/HashMap$TreeNode" (9 : Nat) "java/util/HashMap$TreeNode" "parent" "Ljava/util/HashMap$TreeNode;") ∈ lw_all := lw_g (lw_at lw_m2 174 rfl) rfl
theorem q423 : (Jvm.Cond.fieldLink "java/util/HashMap$TreeNode" (39 : Nat) "java/util/HashMap$TreeNode" "left" "Ljava/util/HashMap$TreeNode;") ∈ lw_all := lw_g (lw_at lw_m2 175 rfl) rfl
theorem q424 : (Jvm.Cond.fieldLink "java/util/HashMap$TreeNode" (42 : Nat) "java/util/HashMap$TreeNode" "right" "Ljava/util/HashMap$TreeNode;") ∈ lw_all := lw_g (lw_at lw_m2 176 rfl) rfl
theorem q425 : (Jvm.Cond.fieldLink "java/util/HashMap$TreeNode" (19 : Nat) "java/util/HashMap$TreeNode" "prev" "Ljava/util/HashMap$TreeNode;") ∈ lw_all := lw_g (lw_at lw_m2 177 rfl) rfl
theorem q427 : (Jvm.Cond.fieldLink "java/util/HashMap$TreeNode" (93 : Nat) "java/util/HashMap$TreeNode" "red" "Z") ∈ lw_all := lw_g (lw_at lw_m2 179 rfl) rfl
theorem q428 : (Jvm.Cond.lays "java/util/HashMap$TreeNode" "java/util/HashMap$TreeNode" "parent" "Ljava/util/HashMap$TreeNode;") ∈ lw_all := lw_g (lw_at lw_m2 180 rfl) rfl
theorem q429 : (Jvm.Cond.soleField "java/util/HashMap$TreeNode" "parent") ∈ lw_all := lw_g (lw_at lw_m2 181 rfl) rfl
theorem q430 : (Jvm.Cond.lays "java/util/HashMap$TreeNode" "java/util/HashMap$TreeNode" "left" "Ljava/util/HashMap$TreeNode;") ∈ lw_all := lw_g (lw_at lw_m2 182 rfl) rfl
theorem q431 : (Jvm.Cond.soleField "java/util/HashMap$TreeNode" "left") ∈ lw_all := lw_g (lw_at lw_m2 183 rfl) rfl
theorem q432 : (Jvm.Cond.lays "java/util/HashMap$TreeNode" "java/util/HashMap$TreeNode" "right" "Ljava/util/HashMap$TreeNode;") ∈ lw_all := lw_g (lw_at lw_m2 184 rfl) rfl
theorem q433 : (Jvm.Cond.soleField "java/util/HashMap$TreeNode" "right") ∈ lw_all := lw_g (lw_at lw_m2 185 rfl) rfl
theorem q434 : (Jvm.Cond.lays "java/util/HashMap$TreeNode" "java/util/HashMap$TreeNode" "prev" "Ljava/util/HashMap$TreeNode;") ∈ lw_all := lw_g (lw_at lw_m2 186 rfl) rfl
theorem q435 : (Jvm.Cond.soleField "java/util/HashMap$TreeNode" "prev") ∈ lw_all := lw_g (lw_at lw_m2 187 rfl) rfl
theorem q436 : (Jvm.Cond.lays "java/util/HashMap$TreeNode" "java/util/HashMap$TreeNode" "red" "Z") ∈ lw_all := lw_g (lw_at lw_m2 188 rfl) rfl
theorem q437 : (Jvm.Cond.soleField "java/util/HashMap$TreeNode" "red") ∈ lw_all := lw_g (lw_at lw_m2 189 rfl) rfl
theorem q438 : (Jvm.Cond.lays "java/util/HashMap$TreeNode" "java/util/LinkedHashMap$Entry" "before" "Ljava/util/LinkedHashMap$Entry;") ∈ lw_all := lw_g (lw_at lw_m2 190 rfl) rfl
theorem q439 : (Jvm.Cond.lays "java/util/HashMap$TreeNode" "java/util/LinkedHashMap$Entry" "after" "Ljava/util/LinkedHashMap$Entry;") ∈ lw_all := lw_g (lw_at lw_m2 191 rfl) rfl
theorem q440 : (Jvm.Cond.laysFinal "java/util/HashMap$TreeNode" "java/util/HashMap$Node" "hash" "I") ∈ lw_all := lw_g (lw_at lw_m2 192 rfl) rfl
theorem q441 : (Jvm.Cond.laysFinal "java/util/HashMap$TreeNode" "java/util/HashMap$Node" "key" "Ljava/lang/Object;") ∈ lw_all := lw_g (lw_at lw_m2 193 rfl) rfl
theorem q442 : (Jvm.Cond.lays "java/util/HashMap$TreeNode" "java/util/HashMap$Node" "value" "Ljava/lang/Object;") ∈ lw_all := lw_g (lw_at lw_m2 194 rfl) rfl
theorem q443 : (Jvm.Cond.lays "java/util/HashMap$TreeNode" "java/util/HashMap$Node" "next" "Ljava/util/HashMap$Node;") ∈ lw_all := lw_g (lw_at lw_m2 195 rfl) rfl
theorem q444 : (Jvm.Cond.superclass "java/util/HashMap$TreeNode" "java/util/LinkedHashMap$Entry") ∈ lw_all := lw_g (lw_at lw_m2 196 rfl) rfl
theorem q516 : (Jvm.Cond.instanceMethod ({ cls := "java/util/HashMap$TreeNode", name := "getTreeNode", desc := "(ILjava/lang/Object;)Ljava/util/HashMap$TreeNode;" } : Jvm.MethodName)) ∈ lw_all := lw_g (lw_at lw_m3 28 rfl) rfl
theorem q517 : (Jvm.Cond.selects "java/util/HashMap$TreeNode" ({ cls := "java/util/HashMap$TreeNode", name := "getTreeNode", desc := "(ILjava/lang/Object;)Ljava/util/HashMap$TreeNode;" } : Jvm.MethodName) ({ cls := "java/util/HashMap$TreeNode", name := "getTreeNode", desc := "(ILjava/lang/Object;)Ljava/util/HashMap$TreeNode;" } : Jvm.MethodName)) ∈ lw_all := lw_g (lw_at lw_m3 29 rfl) rfl
theorem q518 : (Jvm.Cond.code ({ cls := "java/util/HashMap$TreeNode", name := "getTreeNode", desc := "(ILjava/lang/Object;)Ljava/util/HashMap$TreeNode;" } : Jvm.MethodName) prog_33_method_5_code (3 : Nat) (Option.some (Jvm.ClassFile.FieldType.object "java/util/HashMap$TreeNode"))) ∈ lw_all := lw_g (lw_at lw_m3 30 rfl) rfl
theorem q551 : (Jvm.Cond.instanceMethod ({ cls := "java/util/HashMap$TreeNode", name := "removeTreeNode", desc := "(Ljava/util/HashMap;[Ljava/util/HashMap$Node;Z)V" } : Jvm.MethodName)) ∈ lw_all := lw_g (lw_at lw_m3 63 rfl) rfl
theorem q552 : (Jvm.Cond.selects "java/util/HashMap$TreeNode" ({ cls := "java/util/HashMap$TreeNode", name := "removeTreeNode", desc := "(Ljava/util/HashMap;[Ljava/util/HashMap$Node;Z)V" } : Jvm.MethodName) ({ cls := "java/util/HashMap$TreeNode", name := "removeTreeNode", desc := "(Ljava/util/HashMap;[Ljava/util/HashMap$Node;Z)V" } : Jvm.MethodName)) ∈ lw_all := lw_g (lw_at lw_m3 64 rfl) rfl
theorem q553 : (Jvm.Cond.code ({ cls := "java/util/HashMap$TreeNode", name := "removeTreeNode", desc := "(Ljava/util/HashMap;[Ljava/util/HashMap$Node;Z)V" } : Jvm.MethodName) prog_33_method_10_code (21 : Nat) (Option.none : Option Jvm.ClassFile.FieldType)) ∈ lw_all := lw_g (lw_at lw_m3 65 rfl) rfl
theorem q554 : (Jvm.Cond.methodLink "java/util/HashMap$TreeNode" (123 : Nat) ({ cls := "java/util/HashMap$TreeNode", name := "balanceDeletion", desc := "(Ljava/util/HashMap$TreeNode;Ljava/util/HashMap$TreeNode;)Ljava/util/HashMap$TreeNode;" } : Jvm.MethodName)) ∈ lw_all := lw_g (lw_at lw_m3 66 rfl) rfl
theorem q555 : (Jvm.Cond.static ({ cls := "java/util/HashMap$TreeNode", name := "balanceDeletion", desc := "(Ljava/util/HashMap$TreeNode;Ljava/util/HashMap$TreeNode;)Ljava/util/HashMap$TreeNode;" } : Jvm.MethodName)) ∈ lw_all := lw_g (lw_at lw_m3 67 rfl) rfl
theorem q556 : (Jvm.Cond.code ({ cls := "java/util/HashMap$TreeNode", name := "balanceDeletion", desc := "(Ljava/util/HashMap$TreeNode;Ljava/util/HashMap$TreeNode;)Ljava/util/HashMap$TreeNode;" } : Jvm.MethodName) prog_33_method_15_code (7 : Nat) (Option.some (Jvm.ClassFile.FieldType.object "java/util/HashMap$TreeNode"))) ∈ lw_all := lw_g (lw_at lw_m3 68 rfl) rfl
theorem q843 : (Jvm.Cond.selects "java/util/HashMap$TreeNode" ({ cls := "java/util/LinkedHashMap$Entry", name := "getKey", desc := "()Ljava/lang/Object;" } : Jvm.MethodName) ({ cls := "java/util/HashMap$Node", name := "getKey", desc := "()Ljava/lang/Object;" } : Jvm.MethodName)) ∈ lw_all := lw_g (lw_at lw_m4 115 rfl) rfl
theorem q953 : (Jvm.Cond.castable "java/util/HashMap$TreeNode" "java/util/Map$Entry") ∈ lw_tbl := lw_at lw_m4 225 rfl
theorem q954 : (Jvm.Cond.selects "java/util/HashMap$TreeNode" ({ cls := "java/util/Map$Entry", name := "getKey", desc := "()Ljava/lang/Object;" } : Jvm.MethodName) ({ cls := "java/util/HashMap$Node", name := "getKey", desc := "()Ljava/lang/Object;" } : Jvm.MethodName)) ∈ lw_all := lw_g (lw_at lw_m4 226 rfl) rfl
theorem q955 : (Jvm.Cond.unhidden "java/util/HashMap$TreeNode" "getKey" "()Ljava/lang/Object;") ∈ lw_tbl := lw_at lw_m4 227 rfl
theorem q968 : (Jvm.Cond.selects "java/util/HashMap$TreeNode" ({ cls := "java/util/Map$Entry", name := "getValue", desc := "()Ljava/lang/Object;" } : Jvm.MethodName) ({ cls := "java/util/HashMap$Node", name := "getValue", desc := "()Ljava/lang/Object;" } : Jvm.MethodName)) ∈ lw_all := lw_g (lw_at lw_m5 0 rfl) rfl
theorem q969 : (Jvm.Cond.unhidden "java/util/HashMap$TreeNode" "getValue" "()Ljava/lang/Object;") ∈ lw_tbl := lw_at lw_m5 1 rfl
theorem q1034 : (Jvm.Cond.selects "java/util/HashMap$TreeNode" ({ cls := "java/util/Map$Entry", name := "setValue", desc := "(Ljava/lang/Object;)Ljava/lang/Object;" } : Jvm.MethodName) ({ cls := "java/util/HashMap$Node", name := "setValue", desc := "(Ljava/lang/Object;)Ljava/lang/Object;" } : Jvm.MethodName)) ∈ lw_all := lw_g (lw_at lw_m5 66 rfl) rfl
theorem q1035 : (Jvm.Cond.unhidden "java/util/HashMap$TreeNode" "setValue" "(Ljava/lang/Object;)Ljava/lang/Object;") ∈ lw_tbl := lw_at lw_m5 67 rfl
theorem q1292 : (Jvm.Cond.castable "java/util/HashMap$TreeNode" "java/util/LinkedHashMap$Entry") ∈ lw_tbl := lw_at lw_m6 84 rfl
theorem q1294 : (Jvm.Cond.castable "java/util/HashMap$TreeNode" "java/util/HashMap$Node") ∈ lw_tbl := lw_at lw_m6 86 rfl
theorem q1303 : (Jvm.Cond.castable "java/util/HashMap$TreeNode" "java/lang/Object") ∈ lw_tbl := lw_at lw_m6 95 rfl
theorem in_J8 : ∀ w ∈ wsJ80, w ∈ lw_all := lw_in wsJ80 [440, 441, 442, 443, 438, 439, 428, 430, 432, 434, 436] (by decide +kernel) (by decide +kernel)
